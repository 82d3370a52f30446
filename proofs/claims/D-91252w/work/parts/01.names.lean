set_option maxRecDepth 100000
/-! java/util/AbstractCollection -/
def RJ0 : String := "java/util/AbstractCollection"
abbrev cJ0_init : ByteArray := prog_45_method_1_code
def yJ0_init : MethodName := ⟨RJ0, "<init>", "()V"⟩
theorem q65 : (Jvm.Cond.initialized "java/util/AbstractCollection") ∈ lw_all := lw_g (lw_at lw_m1 2 rfl) rfl
theorem q113 : (Jvm.Cond.instanceMethod ({ cls := "java/util/AbstractCollection", name := "<init>", desc := "()V" } : Jvm.MethodName)) ∈ lw_all := lw_g (lw_at lw_m1 50 rfl) rfl
theorem q114 : (Jvm.Cond.code ({ cls := "java/util/AbstractCollection", name := "<init>", desc := "()V" } : Jvm.MethodName) prog_45_method_1_code (1 : Nat) (Option.none : Option Jvm.ClassFile.FieldType)) ∈ lw_all := lw_g (lw_at lw_m1 51 rfl) rfl
theorem q115 : (Jvm.Cond.methodLink "java/util/AbstractCollection" (1 : Nat) ({ cls := "java/lang/Object", name := "<init>", desc := "()V" } : Jvm.MethodName)) ∈ lw_all := lw_g (lw_at lw_m1 52 rfl) rfl
/-! java/util/AbstractList -/
def RJ1 : String := "java/util/AbstractList"
abbrev cJ1_init : ByteArray := prog_46_method_1_code
def yJ1_init : MethodName := ⟨RJ1, "<init>", "()V"⟩
theorem q66 : (Jvm.Cond.initialized "java/util/AbstractList") ∈ lw_all := lw_g (lw_at lw_m1 3 rfl) rfl
theorem q110 : (Jvm.Cond.instanceMethod ({ cls := "java/util/AbstractList", name := "<init>", desc := "()V" } : Jvm.MethodName)) ∈ lw_all := lw_g (lw_at lw_m1 47 rfl) rfl
theorem q111 : (Jvm.Cond.code ({ cls := "java/util/AbstractList", name := "<init>", desc := "()V" } : Jvm.MethodName) prog_46_method_1_code (1 : Nat) (Option.none : Option Jvm.ClassFile.FieldType)) ∈ lw_all := lw_g (lw_at lw_m1 48 rfl) rfl
theorem q112 : (Jvm.Cond.methodLink "java/util/AbstractList" (1 : Nat) ({ cls := "java/util/AbstractCollection", name := "<init>", desc := "()V" } : Jvm.MethodName)) ∈ lw_all := lw_g (lw_at lw_m1 49 rfl) rfl
theorem q122 : (Jvm.Cond.fieldLink "java/util/AbstractList" (7 : Nat) "java/util/AbstractList" "modCount" "I") ∈ lw_all := lw_g (lw_at lw_m1 59 rfl) rfl
theorem q130 : (Jvm.Cond.soleField "java/util/AbstractList" "modCount") ∈ lw_all := lw_g (lw_at lw_m1 67 rfl) rfl
/-! java/lang/StringLatin1 -/
def RJ10 : String := "java/lang/StringLatin1"
abbrev cJ10_canEncode : ByteArray := prog_38_method_3_code
def yJ10_canEncode : MethodName := ⟨RJ10, "canEncode", "(C)Z"⟩
abbrev cJ10_inflate : ByteArray := prog_38_method_50_code
def yJ10_inflate : MethodName := ⟨RJ10, "inflate", "([BI[BII)V"⟩
abbrev cJ10_indexOf : ByteArray := prog_38_method_22_code
def yJ10_indexOf : MethodName := ⟨RJ10, "indexOf", "([BIII)I"⟩
abbrev cJ10_canEncode_2 : ByteArray := prog_38_method_4_code
def yJ10_canEncode_2 : MethodName := ⟨RJ10, "canEncode", "(I)Z"⟩
abbrev cJ10_indexOfChar : ByteArray := prog_38_method_23_code
def yJ10_indexOfChar : MethodName := ⟨RJ10, "indexOfChar", "([BIII)I"⟩
abbrev cJ10_equals : ByteArray := prog_38_method_13_code
def yJ10_equals : MethodName := ⟨RJ10, "equals", "([B[B)Z"⟩
abbrev cJ10_hashCode : ByteArray := prog_38_method_21_code
def yJ10_hashCode : MethodName := ⟨RJ10, "hashCode", "([B)I"⟩
theorem q82 : (Jvm.Cond.initialized "java/lang/StringLatin1") ∈ lw_all := lw_g (lw_at lw_m1 19 rfl) rfl
theorem q548 : (Jvm.Cond.static ({ cls := "java/lang/StringLatin1", name := "canEncode", desc := "(C)Z" } : Jvm.MethodName)) ∈ lw_all := lw_g (lw_at lw_m3 5 rfl) rfl
theorem q549 : (Jvm.Cond.code ({ cls := "java/lang/StringLatin1", name := "canEncode", desc := "(C)Z" } : Jvm.MethodName) prog_38_method_3_code (1 : Nat) (Option.some Jvm.ClassFile.FieldType.boolean)) ∈ lw_all := lw_g (lw_at lw_m3 6 rfl) rfl
theorem q555 : (Jvm.Cond.static ({ cls := "java/lang/StringLatin1", name := "inflate", desc := "([BI[BII)V" } : Jvm.MethodName)) ∈ lw_all := lw_g (lw_at lw_m3 12 rfl) rfl
theorem q556 : (Jvm.Cond.code ({ cls := "java/lang/StringLatin1", name := "inflate", desc := "([BI[BII)V" } : Jvm.MethodName) prog_38_method_50_code (5 : Nat) (Option.none : Option Jvm.ClassFile.FieldType)) ∈ lw_all := lw_g (lw_at lw_m3 13 rfl) rfl
theorem q557 : (Jvm.Cond.methodLink "java/lang/StringLatin1" (240 : Nat) ({ cls := "java/lang/StringUTF16", name := "inflate", desc := "([BI[BII)V" } : Jvm.MethodName)) ∈ lw_all := lw_g (lw_at lw_m3 14 rfl) rfl
theorem q684 : (Jvm.Cond.static ({ cls := "java/lang/StringLatin1", name := "indexOf", desc := "([BIII)I" } : Jvm.MethodName)) ∈ lw_all := lw_g (lw_at lw_m3 141 rfl) rfl
theorem q685 : (Jvm.Cond.code ({ cls := "java/lang/StringLatin1", name := "indexOf", desc := "([BIII)I" } : Jvm.MethodName) prog_38_method_22_code (4 : Nat) (Option.some Jvm.ClassFile.FieldType.int)) ∈ lw_all := lw_g (lw_at lw_m3 142 rfl) rfl
theorem q686 : (Jvm.Cond.methodLink "java/lang/StringLatin1" (88 : Nat) ({ cls := "java/lang/StringLatin1", name := "canEncode", desc := "(I)Z" } : Jvm.MethodName)) ∈ lw_all := lw_g (lw_at lw_m3 143 rfl) rfl
theorem q687 : (Jvm.Cond.static ({ cls := "java/lang/StringLatin1", name := "canEncode", desc := "(I)Z" } : Jvm.MethodName)) ∈ lw_all := lw_g (lw_at lw_m3 144 rfl) rfl
theorem q688 : (Jvm.Cond.code ({ cls := "java/lang/StringLatin1", name := "canEncode", desc := "(I)Z" } : Jvm.MethodName) prog_38_method_4_code (1 : Nat) (Option.some Jvm.ClassFile.FieldType.boolean)) ∈ lw_all := lw_g (lw_at lw_m3 145 rfl) rfl
theorem q689 : (Jvm.Cond.methodLink "java/lang/StringLatin1" (92 : Nat) ({ cls := "java/lang/Math", name := "max", desc := "(II)I" } : Jvm.MethodName)) ∈ lw_all := lw_g (lw_at lw_m3 146 rfl) rfl
theorem q690 : (Jvm.Cond.methodLink "java/lang/StringLatin1" (38 : Nat) ({ cls := "java/lang/Math", name := "min", desc := "(II)I" } : Jvm.MethodName)) ∈ lw_all := lw_g (lw_at lw_m3 147 rfl) rfl
theorem q691 : (Jvm.Cond.methodLink "java/lang/StringLatin1" (95 : Nat) ({ cls := "java/lang/StringLatin1", name := "indexOfChar", desc := "([BIII)I" } : Jvm.MethodName)) ∈ lw_all := lw_g (lw_at lw_m3 148 rfl) rfl
theorem q692 : (Jvm.Cond.static ({ cls := "java/lang/StringLatin1", name := "indexOfChar", desc := "([BIII)I" } : Jvm.MethodName)) ∈ lw_all := lw_g (lw_at lw_m3 149 rfl) rfl
theorem q693 : (Jvm.Cond.code ({ cls := "java/lang/StringLatin1", name := "indexOfChar", desc := "([BIII)I" } : Jvm.MethodName) prog_38_method_23_code (6 : Nat) (Option.some Jvm.ClassFile.FieldType.int)) ∈ lw_all := lw_g (lw_at lw_m3 150 rfl) rfl
theorem q740 : (Jvm.Cond.static ({ cls := "java/lang/StringLatin1", name := "equals", desc := "([B[B)Z" } : Jvm.MethodName)) ∈ lw_all := lw_g (lw_at lw_m3 197 rfl) rfl
theorem q741 : (Jvm.Cond.code ({ cls := "java/lang/StringLatin1", name := "equals", desc := "([B[B)Z" } : Jvm.MethodName) prog_38_method_13_code (3 : Nat) (Option.some Jvm.ClassFile.FieldType.boolean)) ∈ lw_all := lw_g (lw_at lw_m3 198 rfl) rfl
theorem q837 : (Jvm.Cond.static ({ cls := "java/lang/StringLatin1", name := "hashCode", desc := "([B)I" } : Jvm.MethodName)) ∈ lw_all := lw_g (lw_at lw_m4 54 rfl) rfl
theorem q838 : (Jvm.Cond.code ({ cls := "java/lang/StringLatin1", name := "hashCode", desc := "([B)I" } : Jvm.MethodName) prog_38_method_21_code (1 : Nat) (Option.some Jvm.ClassFile.FieldType.int)) ∈ lw_all := lw_g (lw_at lw_m4 55 rfl) rfl
theorem q839 : (Jvm.Cond.methodLink "java/lang/StringLatin1" (84 : Nat) ({ cls := "jdk/internal/util/ArraysSupport", name := "vectorizedHashCode", desc := "(Ljava/lang/Object;IIII)I" } : Jvm.MethodName)) ∈ lw_all := lw_g (lw_at lw_m4 56 rfl) rfl
/-! jdk/internal/util/Preconditions -/
def RJ11 : String := "jdk/internal/util/Preconditions"
abbrev cJ11_checkFromIndexSize : ByteArray := prog_56_method_13_code
def yJ11_checkFromIndexSize : MethodName := ⟨RJ11, "checkFromIndexSize", "(IIILjava/util/function/BiFunction;)I"⟩
abbrev cJ11_checkIndex : ByteArray := prog_56_method_11_code
def yJ11_checkIndex : MethodName := ⟨RJ11, "checkIndex", "(IILjava/util/function/BiFunction;)I"⟩
abbrev cJ11_checkFromToIndex : ByteArray := prog_56_method_12_code
def yJ11_checkFromToIndex : MethodName := ⟨RJ11, "checkFromToIndex", "(IIILjava/util/function/BiFunction;)I"⟩
theorem q83 : (Jvm.Cond.initialized "jdk/internal/util/Preconditions") ∈ lw_all := lw_g (lw_at lw_m1 20 rfl) rfl
theorem q570 : (Jvm.Cond.laysStatic "jdk/internal/util/Preconditions" "SIOOBE_FORMATTER" "Ljava/util/function/BiFunction;") ∈ lw_tbl := lw_at lw_m3 27 rfl
theorem q572 : (Jvm.Cond.static ({ cls := "jdk/internal/util/Preconditions", name := "checkFromIndexSize", desc := "(IIILjava/util/function/BiFunction;)I" } : Jvm.MethodName)) ∈ lw_all := lw_g (lw_at lw_m3 29 rfl) rfl
theorem q573 : (Jvm.Cond.code ({ cls := "jdk/internal/util/Preconditions", name := "checkFromIndexSize", desc := "(IIILjava/util/function/BiFunction;)I" } : Jvm.MethodName) prog_56_method_13_code (4 : Nat) (Option.some Jvm.ClassFile.FieldType.int)) ∈ lw_all := lw_g (lw_at lw_m3 30 rfl) rfl
theorem q593 : (Jvm.Cond.static ({ cls := "jdk/internal/util/Preconditions", name := "checkIndex", desc := "(IILjava/util/function/BiFunction;)I" } : Jvm.MethodName)) ∈ lw_all := lw_g (lw_at lw_m3 50 rfl) rfl
theorem q594 : (Jvm.Cond.code ({ cls := "jdk/internal/util/Preconditions", name := "checkIndex", desc := "(IILjava/util/function/BiFunction;)I" } : Jvm.MethodName) prog_56_method_11_code (3 : Nat) (Option.some Jvm.ClassFile.FieldType.int)) ∈ lw_all := lw_g (lw_at lw_m3 51 rfl) rfl
theorem q710 : (Jvm.Cond.static ({ cls := "jdk/internal/util/Preconditions", name := "checkFromToIndex", desc := "(IIILjava/util/function/BiFunction;)I" } : Jvm.MethodName)) ∈ lw_all := lw_g (lw_at lw_m3 167 rfl) rfl
theorem q711 : (Jvm.Cond.code ({ cls := "jdk/internal/util/Preconditions", name := "checkFromToIndex", desc := "(IIILjava/util/function/BiFunction;)I" } : Jvm.MethodName) prog_56_method_12_code (4 : Nat) (Option.some Jvm.ClassFile.FieldType.int)) ∈ lw_all := lw_g (lw_at lw_m3 168 rfl) rfl
/-! java/lang/Character -/
def RJ12 : String := "java/lang/Character"
abbrev cJ12_isValidCodePoint : ByteArray := prog_29_method_11_code
def yJ12_isValidCodePoint : MethodName := ⟨RJ12, "isValidCodePoint", "(I)Z"⟩
abbrev cJ12_highSurrogate : ByteArray := prog_29_method_28_code
def yJ12_highSurrogate : MethodName := ⟨RJ12, "highSurrogate", "(I)C"⟩
abbrev cJ12_lowSurrogate : ByteArray := prog_29_method_29_code
def yJ12_lowSurrogate : MethodName := ⟨RJ12, "lowSurrogate", "(I)C"⟩
theorem q84 : (Jvm.Cond.initialized "java/lang/Character") ∈ lw_all := lw_g (lw_at lw_m1 21 rfl) rfl
theorem q719 : (Jvm.Cond.static ({ cls := "java/lang/Character", name := "isValidCodePoint", desc := "(I)Z" } : Jvm.MethodName)) ∈ lw_all := lw_g (lw_at lw_m3 176 rfl) rfl
theorem q720 : (Jvm.Cond.code ({ cls := "java/lang/Character", name := "isValidCodePoint", desc := "(I)Z" } : Jvm.MethodName) prog_29_method_11_code (2 : Nat) (Option.some Jvm.ClassFile.FieldType.boolean)) ∈ lw_all := lw_g (lw_at lw_m3 177 rfl) rfl
theorem q722 : (Jvm.Cond.static ({ cls := "java/lang/Character", name := "highSurrogate", desc := "(I)C" } : Jvm.MethodName)) ∈ lw_all := lw_g (lw_at lw_m3 179 rfl) rfl
theorem q723 : (Jvm.Cond.code ({ cls := "java/lang/Character", name := "highSurrogate", desc := "(I)C" } : Jvm.MethodName) prog_29_method_28_code (1 : Nat) (Option.some Jvm.ClassFile.FieldType.char)) ∈ lw_all := lw_g (lw_at lw_m3 180 rfl) rfl
theorem q724 : (Jvm.Cond.constant "java/lang/Character" (110 : Nat) (55232 : Int32)) ∈ lw_all := lw_g (lw_at lw_m3 181 rfl) rfl
theorem q726 : (Jvm.Cond.static ({ cls := "java/lang/Character", name := "lowSurrogate", desc := "(I)C" } : Jvm.MethodName)) ∈ lw_all := lw_g (lw_at lw_m3 183 rfl) rfl
theorem q727 : (Jvm.Cond.code ({ cls := "java/lang/Character", name := "lowSurrogate", desc := "(I)C" } : Jvm.MethodName) prog_29_method_29_code (1 : Nat) (Option.some Jvm.ClassFile.FieldType.char)) ∈ lw_all := lw_g (lw_at lw_m3 184 rfl) rfl
theorem q728 : (Jvm.Cond.constant "java/lang/Character" (76 : Nat) (56320 : Int32)) ∈ lw_all := lw_g (lw_at lw_m3 185 rfl) rfl
/-! java/lang/Throwable -/
def RJ13 : String := "java/lang/Throwable"
def TJ13 : u_T := fun k => match k with
  | 0 => ("java/lang/Throwable", "cause", "Ljava/lang/Throwable;", false)
  | 1 => ("java/lang/Throwable", "stackTrace", "[Ljava/lang/StackTraceElement;", false)
  | 2 => ("java/lang/Throwable", "suppressedExceptions", "Ljava/util/List;", false)
  | 3 => ("java/lang/Throwable", "detailMessage", "Ljava/lang/String;", false)
  | _ => ("java/lang/Throwable", "backtrace", "Ljava/lang/Object;", false)
def tyJ13 : Nat → FieldType := fun k => match k with
  | 0 => .object "java/lang/Throwable"
  | 1 => .array (.object "java/lang/StackTraceElement")
  | 2 => .object "java/util/List"
  | 3 => .object "java/lang/String"
  | _ => .object "java/lang/Object"
abbrev wsJ130 : List Cond := u_ws RJ13 TJ13 5
theorem nmJ13 : ∀ a, a < 5 → ∀ b, b < 5 → a ≠ b → (TJ13 a).2.1 ≠ (TJ13 b).2.1 := by decide +kernel
theorem tyJ13_ok : ∀ k, k < 5 → parseFieldDescriptor (TJ13 k).2.2.1 = some (tyJ13 k) := by decide +kernel
abbrev cJ13_init : ByteArray := prog_42_method_1_code
def yJ13_init : MethodName := ⟨RJ13, "<init>", "()V"⟩
abbrev cJ13_init_2 : ByteArray := prog_42_method_5_code
def yJ13_init_2 : MethodName := ⟨RJ13, "<init>", "(Ljava/lang/String;Ljava/lang/Throwable;ZZ)V"⟩
theorem q85 : (Jvm.Cond.initialized "java/lang/Throwable") ∈ lw_all := lw_g (lw_at lw_m1 22 rfl) rfl
theorem q755 : (Jvm.Cond.declares ({ cls := "java/lang/Throwable", name := "<init>", desc := "()V" } : Jvm.MethodName)) ∈ lw_tbl := lw_at lw_m3 212 rfl
theorem q756 : (Jvm.Cond.declares ({ cls := "java/lang/Throwable", name := "<init>", desc := "(Ljava/lang/String;)V" } : Jvm.MethodName)) ∈ lw_tbl := lw_at lw_m3 213 rfl
theorem q760 : (Jvm.Cond.lays "java/lang/Throwable" "java/lang/Throwable" "cause" "Ljava/lang/Throwable;") ∈ lw_all := lw_g (lw_at lw_m3 217 rfl) rfl
theorem q762 : (Jvm.Cond.lays "java/lang/Throwable" "java/lang/Throwable" "stackTrace" "[Ljava/lang/StackTraceElement;") ∈ lw_all := lw_g (lw_at lw_m3 219 rfl) rfl
theorem q764 : (Jvm.Cond.lays "java/lang/Throwable" "java/lang/Throwable" "suppressedExceptions" "Ljava/util/List;") ∈ lw_all := lw_g (lw_at lw_m3 221 rfl) rfl
theorem q766 : (Jvm.Cond.lays "java/lang/Throwable" "java/lang/Throwable" "detailMessage" "Ljava/lang/String;") ∈ lw_all := lw_g (lw_at lw_m3 223 rfl) rfl
theorem q768 : (Jvm.Cond.lays "java/lang/Throwable" "java/lang/Throwable" "backtrace" "Ljava/lang/Object;") ∈ lw_all := lw_g (lw_at lw_m3 225 rfl) rfl
theorem q769 : (Jvm.Cond.fieldLink "java/lang/Throwable" (198 : Nat) "java/lang/Throwable" "backtrace" "Ljava/lang/Object;") ∈ lw_all := lw_g (lw_at lw_m3 226 rfl) rfl
theorem q770 : (Jvm.Cond.superclass "java/lang/Throwable" "java/lang/Object") ∈ lw_all := lw_g (lw_at lw_m3 227 rfl) rfl
theorem q771 : (Jvm.Cond.instanceMethod ({ cls := "java/lang/Throwable", name := "<init>", desc := "()V" } : Jvm.MethodName)) ∈ lw_all := lw_g (lw_at lw_m3 228 rfl) rfl
theorem q772 : (Jvm.Cond.code ({ cls := "java/lang/Throwable", name := "<init>", desc := "()V" } : Jvm.MethodName) prog_42_method_1_code (1 : Nat) (Option.none : Option Jvm.ClassFile.FieldType)) ∈ lw_all := lw_g (lw_at lw_m3 229 rfl) rfl
theorem q773 : (Jvm.Cond.methodLink "java/lang/Throwable" (1 : Nat) ({ cls := "java/lang/Object", name := "<init>", desc := "()V" } : Jvm.MethodName)) ∈ lw_all := lw_g (lw_at lw_m3 230 rfl) rfl
theorem q774 : (Jvm.Cond.fieldLink "java/lang/Throwable" (13 : Nat) "java/lang/Throwable" "UNASSIGNED_STACK" "[Ljava/lang/StackTraceElement;") ∈ lw_all := lw_g (lw_at lw_m3 231 rfl) rfl
theorem q775 : (Jvm.Cond.laysStatic "java/lang/Throwable" "UNASSIGNED_STACK" "[Ljava/lang/StackTraceElement;") ∈ lw_tbl := lw_at lw_m3 232 rfl
theorem q776 : (Jvm.Cond.fieldLink "java/lang/Throwable" (20 : Nat) "java/lang/Throwable" "SUPPRESSED_SENTINEL" "Ljava/util/List;") ∈ lw_all := lw_g (lw_at lw_m3 233 rfl) rfl
theorem q777 : (Jvm.Cond.laysStatic "java/lang/Throwable" "SUPPRESSED_SENTINEL" "Ljava/util/List;") ∈ lw_tbl := lw_at lw_m3 234 rfl
theorem q778 : (Jvm.Cond.methodLink "java/lang/Throwable" (27 : Nat) ({ cls := "java/lang/Throwable", name := "fillInStackTrace", desc := "()Ljava/lang/Throwable;" } : Jvm.MethodName)) ∈ lw_all := lw_g (lw_at lw_m3 235 rfl) rfl
theorem q779 : (Jvm.Cond.instanceMethod ({ cls := "java/lang/Throwable", name := "fillInStackTrace", desc := "()Ljava/lang/Throwable;" } : Jvm.MethodName)) ∈ lw_all := lw_g (lw_at lw_m3 236 rfl) rfl
theorem q780 : (Jvm.Cond.sameMethod "java/lang/Throwable" "java/lang/Throwable" "fillInStackTrace" "()Ljava/lang/Throwable;") ∈ lw_all := lw_g (lw_at lw_m3 237 rfl) rfl
theorem q781 : (Jvm.Cond.codeSync ({ cls := "java/lang/Throwable", name := "fillInStackTrace", desc := "()Ljava/lang/Throwable;" } : Jvm.MethodName) prog_42_method_18_code (1 : Nat) (Option.some (Jvm.ClassFile.FieldType.object "java/lang/Throwable"))) ∈ lw_all := lw_g (lw_at lw_m3 238 rfl) rfl
theorem q782 : (Jvm.Cond.methodLink "java/lang/Throwable" (202 : Nat) ({ cls := "java/lang/Throwable", name := "fillInStackTrace", desc := "(I)Ljava/lang/Throwable;" } : Jvm.MethodName)) ∈ lw_all := lw_g (lw_at lw_m3 239 rfl) rfl
theorem q783 : (Jvm.Cond.privateMethod ({ cls := "java/lang/Throwable", name := "fillInStackTrace", desc := "(I)Ljava/lang/Throwable;" } : Jvm.MethodName)) ∈ lw_tbl := lw_at lw_m4 0 rfl
theorem q784 : (Jvm.Cond.instanceMethod ({ cls := "java/lang/Throwable", name := "fillInStackTrace", desc := "(I)Ljava/lang/Throwable;" } : Jvm.MethodName)) ∈ lw_all := lw_g (lw_at lw_m4 1 rfl) rfl
theorem q785 : (Jvm.Cond.instantiable "java/lang/Throwable" (6 : Nat)) ∈ lw_all := lw_g (lw_at lw_m4 2 rfl) rfl
theorem q786 : (Jvm.Cond.native ({ cls := "java/lang/Throwable", name := "fillInStackTrace", desc := "(I)Ljava/lang/Throwable;" } : Jvm.MethodName)) ∈ lw_all := lw_g (lw_at lw_m4 3 rfl) rfl
theorem q794 : (Jvm.Cond.instanceMethod ({ cls := "java/lang/Throwable", name := "<init>", desc := "(Ljava/lang/String;Ljava/lang/Throwable;ZZ)V" } : Jvm.MethodName)) ∈ lw_all := lw_g (lw_at lw_m4 11 rfl) rfl
theorem q795 : (Jvm.Cond.code ({ cls := "java/lang/Throwable", name := "<init>", desc := "(Ljava/lang/String;Ljava/lang/Throwable;ZZ)V" } : Jvm.MethodName) prog_42_method_5_code (5 : Nat) (Option.none : Option Jvm.ClassFile.FieldType)) ∈ lw_all := lw_g (lw_at lw_m4 12 rfl) rfl
theorem q800 : (Jvm.Cond.fieldLink "java/lang/Throwable" (198 : Nat) "java/lang/Throwable" "backtrace" "Ljava/lang/Object;") ∈ lw_all := lw_g (lw_at lw_m4 17 rfl) rfl
theorem q801 : (Jvm.Cond.fieldLink "java/lang/Throwable" (31 : Nat) "java/lang/Throwable" "detailMessage" "Ljava/lang/String;") ∈ lw_all := lw_g (lw_at lw_m4 18 rfl) rfl
theorem q802 : (Jvm.Cond.fieldLink "java/lang/Throwable" (7 : Nat) "java/lang/Throwable" "cause" "Ljava/lang/Throwable;") ∈ lw_all := lw_g (lw_at lw_m4 19 rfl) rfl
theorem q803 : (Jvm.Cond.fieldLink "java/lang/Throwable" (17 : Nat) "java/lang/Throwable" "stackTrace" "[Ljava/lang/StackTraceElement;") ∈ lw_all := lw_g (lw_at lw_m4 20 rfl) rfl
theorem q804 : (Jvm.Cond.fieldLink "java/lang/Throwable" (24 : Nat) "java/lang/Throwable" "suppressedExceptions" "Ljava/util/List;") ∈ lw_all := lw_g (lw_at lw_m4 21 rfl) rfl
theorem q809 : (Jvm.Cond.soleField "java/lang/Throwable" "backtrace") ∈ lw_all := lw_g (lw_at lw_m4 26 rfl) rfl
theorem q810 : (Jvm.Cond.soleField "java/lang/Throwable" "detailMessage") ∈ lw_all := lw_g (lw_at lw_m4 27 rfl) rfl
theorem q811 : (Jvm.Cond.soleField "java/lang/Throwable" "cause") ∈ lw_all := lw_g (lw_at lw_m4 28 rfl) rfl
theorem q812 : (Jvm.Cond.soleField "java/lang/Throwable" "stackTrace") ∈ lw_all := lw_g (lw_at lw_m4 29 rfl) rfl
theorem q814 : (Jvm.Cond.soleField "java/lang/Throwable" "depth") ∈ lw_all := lw_g (lw_at lw_m4 31 rfl) rfl
theorem q815 : (Jvm.Cond.soleField "java/lang/Throwable" "suppressedExceptions") ∈ lw_all := lw_g (lw_at lw_m4 32 rfl) rfl
theorem q1705 : (Jvm.Cond.sameMethod "java/lang/Throwable" "java/lang/Throwable" "fillInStackTrace" "(I)Ljava/lang/Throwable;") ∈ lw_all := lw_g (lw_at lw_m7 202 rfl) rfl
theorem q1737 : (Jvm.Cond.castable "java/lang/Throwable" "java/lang/Object") ∈ lw_tbl := lw_at lw_m7 234 rfl
theorem in_J13 : ∀ w ∈ wsJ130, w ∈ lw_all := lw_in wsJ130 [760, 762, 764, 766, 768] (by decide +kernel) (by decide +kernel)
/-! java/lang/Exception -/
def RJ14 : String := "java/lang/Exception"
abbrev cJ14_init : ByteArray := prog_33_method_5_code
def yJ14_init : MethodName := ⟨RJ14, "<init>", "(Ljava/lang/String;Ljava/lang/Throwable;ZZ)V"⟩
theorem q86 : (Jvm.Cond.initialized "java/lang/Exception") ∈ lw_all := lw_g (lw_at lw_m1 23 rfl) rfl
theorem q753 : (Jvm.Cond.declares ({ cls := "java/lang/Exception", name := "<init>", desc := "()V" } : Jvm.MethodName)) ∈ lw_tbl := lw_at lw_m3 210 rfl
theorem q754 : (Jvm.Cond.declares ({ cls := "java/lang/Exception", name := "<init>", desc := "(Ljava/lang/String;)V" } : Jvm.MethodName)) ∈ lw_tbl := lw_at lw_m3 211 rfl
theorem q791 : (Jvm.Cond.instanceMethod ({ cls := "java/lang/Exception", name := "<init>", desc := "(Ljava/lang/String;Ljava/lang/Throwable;ZZ)V" } : Jvm.MethodName)) ∈ lw_all := lw_g (lw_at lw_m4 8 rfl) rfl
theorem q792 : (Jvm.Cond.code ({ cls := "java/lang/Exception", name := "<init>", desc := "(Ljava/lang/String;Ljava/lang/Throwable;ZZ)V" } : Jvm.MethodName) prog_33_method_5_code (5 : Nat) (Option.none : Option Jvm.ClassFile.FieldType)) ∈ lw_all := lw_g (lw_at lw_m4 9 rfl) rfl
theorem q793 : (Jvm.Cond.methodLink "java/lang/Exception" (16 : Nat) ({ cls := "java/lang/Throwable", name := "<init>", desc := "(Ljava/lang/String;Ljava/lang/Throwable;ZZ)V" } : Jvm.MethodName)) ∈ lw_all := lw_g (lw_at lw_m4 10 rfl) rfl
/-! java/util/Objects -/
def RJ15 : String := "java/util/Objects"
abbrev cJ15_checkIndex : ByteArray := prog_51_method_17_code
def yJ15_checkIndex : MethodName := ⟨RJ15, "checkIndex", "(II)I"⟩
theorem q93 : (Jvm.Cond.initialized "java/util/Objects") ∈ lw_all := lw_g (lw_at lw_m1 30 rfl) rfl
theorem q1056 : (Jvm.Cond.static ({ cls := "java/util/Objects", name := "checkIndex", desc := "(II)I" } : Jvm.MethodName)) ∈ lw_all := lw_g (lw_at lw_m5 33 rfl) rfl
theorem q1057 : (Jvm.Cond.code ({ cls := "java/util/Objects", name := "checkIndex", desc := "(II)I" } : Jvm.MethodName) prog_51_method_17_code (2 : Nat) (Option.some Jvm.ClassFile.FieldType.int)) ∈ lw_all := lw_g (lw_at lw_m5 34 rfl) rfl
theorem q1058 : (Jvm.Cond.methodLink "java/util/Objects" (105 : Nat) ({ cls := "jdk/internal/util/Preconditions", name := "checkIndex", desc := "(IILjava/util/function/BiFunction;)I" } : Jvm.MethodName)) ∈ lw_all := lw_g (lw_at lw_m5 35 rfl) rfl
/-! java/lang/Object -/
def RJ16 : String := "java/lang/Object"
abbrev cJ16_init : ByteArray := object_method_1_code
def yJ16_init : MethodName := ⟨RJ16, "<init>", "()V"⟩
theorem q102 : (Jvm.Cond.instanceMethod ({ cls := "java/lang/Object", name := "<init>", desc := "()V" } : Jvm.MethodName)) ∈ lw_all := lw_g (lw_at lw_m1 39 rfl) rfl
theorem q103 : (Jvm.Cond.code ({ cls := "java/lang/Object", name := "<init>", desc := "()V" } : Jvm.MethodName) object_method_1_code (1 : Nat) (Option.none : Option Jvm.ClassFile.FieldType)) ∈ lw_all := lw_g (lw_at lw_m1 40 rfl) rfl
theorem q178 : (Jvm.Cond.native ({ cls := "java/lang/Object", name := "clone", desc := "()Ljava/lang/Object;" } : Jvm.MethodName)) ∈ lw_all := lw_g (lw_at lw_m1 115 rfl) rfl
theorem q179 : (Jvm.Cond.instanceMethod ({ cls := "java/lang/Object", name := "clone", desc := "()Ljava/lang/Object;" } : Jvm.MethodName)) ∈ lw_all := lw_g (lw_at lw_m1 116 rfl) rfl
theorem q1016 : (Jvm.Cond.instanceMethod ({ cls := "java/lang/Object", name := "getClass", desc := "()Ljava/lang/Class;" } : Jvm.MethodName)) ∈ lw_all := lw_g (lw_at lw_m4 233 rfl) rfl
theorem q1017 : (Jvm.Cond.sameMethod "java/lang/Object" "java/lang/Object" "getClass" "()Ljava/lang/Class;") ∈ lw_all := lw_g (lw_at lw_m4 234 rfl) rfl
theorem q1043 : (Jvm.Cond.native ({ cls := "java/lang/Object", name := "getClass", desc := "()Ljava/lang/Class;" } : Jvm.MethodName)) ∈ lw_all := lw_g (lw_at lw_m5 20 rfl) rfl
theorem q1749 : (Jvm.Cond.declares ({ cls := "java/lang/Object", name := "getClass", desc := "()Ljava/lang/Class;" } : Jvm.MethodName)) ∈ lw_tbl := lw_at lw_m8 6 rfl
/-! java/lang/System$2 -/
def RJ17 : String := "java/lang/System$2"
abbrev cJ17_getUTF16Char : ByteArray := prog_41_method_45_code
def yJ17_getUTF16Char : MethodName := ⟨RJ17, "getUTF16Char", "([BI)C"⟩
theorem q855 : (Jvm.Cond.castable "java/lang/System$2" "jdk/internal/access/JavaLangAccess") ∈ lw_tbl := lw_at lw_m4 72 rfl
theorem q856 : (Jvm.Cond.selects "java/lang/System$2" ({ cls := "jdk/internal/access/JavaLangAccess", name := "getUTF16Char", desc := "([BI)C" } : Jvm.MethodName) ({ cls := "java/lang/System$2", name := "getUTF16Char", desc := "([BI)C" } : Jvm.MethodName)) ∈ lw_all := lw_g (lw_at lw_m4 73 rfl) rfl
theorem q857 : (Jvm.Cond.unhidden "java/lang/System$2" "getUTF16Char" "([BI)C") ∈ lw_tbl := lw_at lw_m4 74 rfl
theorem q858 : (Jvm.Cond.instanceMethod ({ cls := "java/lang/System$2", name := "getUTF16Char", desc := "([BI)C" } : Jvm.MethodName)) ∈ lw_all := lw_g (lw_at lw_m4 75 rfl) rfl
theorem q859 : (Jvm.Cond.publicMethod ({ cls := "java/lang/System$2", name := "getUTF16Char", desc := "([BI)C" } : Jvm.MethodName)) ∈ lw_tbl := lw_at lw_m4 76 rfl
theorem q860 : (Jvm.Cond.code ({ cls := "java/lang/System$2", name := "getUTF16Char", desc := "([BI)C" } : Jvm.MethodName) prog_41_method_45_code (3 : Nat) (Option.some Jvm.ClassFile.FieldType.char)) ∈ lw_all := lw_g (lw_at lw_m4 77 rfl) rfl
theorem q861 : (Jvm.Cond.methodLink "java/lang/System$2" (185 : Nat) ({ cls := "java/lang/StringUTF16", name := "getChar", desc := "([BI)C" } : Jvm.MethodName)) ∈ lw_all := lw_g (lw_at lw_m4 78 rfl) rfl
theorem q1041 : (Jvm.Cond.selects "java/lang/System$2" ({ cls := "java/lang/Object", name := "getClass", desc := "()Ljava/lang/Class;" } : Jvm.MethodName) ({ cls := "java/lang/Object", name := "getClass", desc := "()Ljava/lang/Class;" } : Jvm.MethodName)) ∈ lw_all := lw_g (lw_at lw_m5 18 rfl) rfl
theorem q1730 : (Jvm.Cond.castable "java/lang/System$2" "java/lang/Object") ∈ lw_tbl := lw_at lw_m7 227 rfl
/-! java/util/ArrayList -/
def RJ2 : String := "java/util/ArrayList"
def TJ2 : u_T := fun k => match k with
  | 0 => ("java/util/AbstractList", "modCount", "I", false)
  | 1 => ("java/util/ArrayList", "elementData", "[Ljava/lang/Object;", false)
  | _ => ("java/util/ArrayList", "size", "I", false)
def tyJ2 : Nat → FieldType := fun k => match k with
  | 0 => .int
  | 1 => .array (.object "java/lang/Object")
  | _ => .int
abbrev wsJ20 : List Cond := u_ws RJ2 TJ2 3
theorem nmJ2 : ∀ a, a < 3 → ∀ b, b < 3 → a ≠ b → (TJ2 a).2.1 ≠ (TJ2 b).2.1 := by decide +kernel
theorem tyJ2_ok : ∀ k, k < 3 → parseFieldDescriptor (TJ2 k).2.2.1 = some (tyJ2 k) := by decide +kernel
abbrev cJ2_init : ByteArray := prog_47_method_1_code
def yJ2_init : MethodName := ⟨RJ2, "<init>", "(I)V"⟩
abbrev cJ2_size : ByteArray := prog_47_method_8_code
def yJ2_size : MethodName := ⟨RJ2, "size", "()I"⟩
abbrev cJ2_add : ByteArray := prog_47_method_25_code
def yJ2_add : MethodName := ⟨RJ2, "add", "(Ljava/lang/Object;)Z"⟩
abbrev cJ2_add_2 : ByteArray := prog_47_method_24_code
def yJ2_add_2 : MethodName := ⟨RJ2, "add", "(Ljava/lang/Object;[Ljava/lang/Object;I)V"⟩
abbrev cJ2_grow : ByteArray := prog_47_method_7_code
def yJ2_grow : MethodName := ⟨RJ2, "grow", "()[Ljava/lang/Object;"⟩
abbrev cJ2_grow_2 : ByteArray := prog_47_method_6_code
def yJ2_grow_2 : MethodName := ⟨RJ2, "grow", "(I)[Ljava/lang/Object;"⟩
abbrev cJ2_get : ByteArray := prog_47_method_20_code
def yJ2_get : MethodName := ⟨RJ2, "get", "(I)Ljava/lang/Object;"⟩
abbrev cJ2_elementData : ByteArray := prog_47_method_18_code
def yJ2_elementData : MethodName := ⟨RJ2, "elementData", "(I)Ljava/lang/Object;"⟩
theorem q67 : (Jvm.Cond.initialized "java/util/ArrayList") ∈ lw_all := lw_g (lw_at lw_m1 4 rfl) rfl
theorem q105 : (Jvm.Cond.instantiable "java/util/ArrayList" (3 : Nat)) ∈ lw_all := lw_g (lw_at lw_m1 42 rfl) rfl
theorem q107 : (Jvm.Cond.instanceMethod ({ cls := "java/util/ArrayList", name := "<init>", desc := "(I)V" } : Jvm.MethodName)) ∈ lw_all := lw_g (lw_at lw_m1 44 rfl) rfl
theorem q108 : (Jvm.Cond.code ({ cls := "java/util/ArrayList", name := "<init>", desc := "(I)V" } : Jvm.MethodName) prog_47_method_1_code (2 : Nat) (Option.none : Option Jvm.ClassFile.FieldType)) ∈ lw_all := lw_g (lw_at lw_m1 45 rfl) rfl
theorem q109 : (Jvm.Cond.methodLink "java/util/ArrayList" (1 : Nat) ({ cls := "java/util/AbstractList", name := "<init>", desc := "()V" } : Jvm.MethodName)) ∈ lw_all := lw_g (lw_at lw_m1 46 rfl) rfl
theorem q116 : (Jvm.Cond.classLink "java/util/ArrayList" (7 : Nat) "java/lang/Object") ∈ lw_all := lw_g (lw_at lw_m1 53 rfl) rfl
theorem q118 : (Jvm.Cond.fieldLink "java/util/ArrayList" (15 : Nat) "java/util/ArrayList" "EMPTY_ELEMENTDATA" "[Ljava/lang/Object;") ∈ lw_all := lw_g (lw_at lw_m1 55 rfl) rfl
theorem q119 : (Jvm.Cond.laysStatic "java/util/ArrayList" "EMPTY_ELEMENTDATA" "[Ljava/lang/Object;") ∈ lw_tbl := lw_at lw_m1 56 rfl
theorem q120 : (Jvm.Cond.fieldLink "java/util/ArrayList" (9 : Nat) "java/util/ArrayList" "elementData" "[Ljava/lang/Object;") ∈ lw_all := lw_g (lw_at lw_m1 57 rfl) rfl
theorem q121 : (Jvm.Cond.fieldLink "java/util/ArrayList" (48 : Nat) "java/util/ArrayList" "size" "I") ∈ lw_all := lw_g (lw_at lw_m1 58 rfl) rfl
theorem q123 : (Jvm.Cond.fieldLink "java/util/ArrayList" (63 : Nat) "java/util/ArrayList" "modCount" "I") ∈ lw_all := lw_g (lw_at lw_m1 60 rfl) rfl
theorem q124 : (Jvm.Cond.sameField "java/util/ArrayList" "java/util/AbstractList" "modCount" "I") ∈ lw_all := lw_g (lw_at lw_m1 61 rfl) rfl
theorem q125 : (Jvm.Cond.lays "java/util/ArrayList" "java/util/ArrayList" "elementData" "[Ljava/lang/Object;") ∈ lw_all := lw_g (lw_at lw_m1 62 rfl) rfl
theorem q126 : (Jvm.Cond.soleField "java/util/ArrayList" "elementData") ∈ lw_all := lw_g (lw_at lw_m1 63 rfl) rfl
theorem q127 : (Jvm.Cond.lays "java/util/ArrayList" "java/util/ArrayList" "size" "I") ∈ lw_all := lw_g (lw_at lw_m1 64 rfl) rfl
theorem q128 : (Jvm.Cond.soleField "java/util/ArrayList" "size") ∈ lw_all := lw_g (lw_at lw_m1 65 rfl) rfl
theorem q129 : (Jvm.Cond.lays "java/util/ArrayList" "java/util/AbstractList" "modCount" "I") ∈ lw_all := lw_g (lw_at lw_m1 66 rfl) rfl
theorem q131 : (Jvm.Cond.superclass "java/util/ArrayList" "java/util/AbstractList") ∈ lw_all := lw_g (lw_at lw_m1 68 rfl) rfl
theorem q743 : (Jvm.Cond.instanceMethod ({ cls := "java/util/ArrayList", name := "size", desc := "()I" } : Jvm.MethodName)) ∈ lw_all := lw_g (lw_at lw_m3 200 rfl) rfl
theorem q744 : (Jvm.Cond.selects "java/util/ArrayList" ({ cls := "java/util/ArrayList", name := "size", desc := "()I" } : Jvm.MethodName) ({ cls := "java/util/ArrayList", name := "size", desc := "()I" } : Jvm.MethodName)) ∈ lw_all := lw_g (lw_at lw_m3 201 rfl) rfl
theorem q745 : (Jvm.Cond.code ({ cls := "java/util/ArrayList", name := "size", desc := "()I" } : Jvm.MethodName) prog_47_method_8_code (1 : Nat) (Option.some Jvm.ClassFile.FieldType.int)) ∈ lw_all := lw_g (lw_at lw_m3 202 rfl) rfl
theorem q994 : (Jvm.Cond.instanceMethod ({ cls := "java/util/ArrayList", name := "add", desc := "(Ljava/lang/Object;)Z" } : Jvm.MethodName)) ∈ lw_all := lw_g (lw_at lw_m4 211 rfl) rfl
theorem q995 : (Jvm.Cond.selects "java/util/ArrayList" ({ cls := "java/util/ArrayList", name := "add", desc := "(Ljava/lang/Object;)Z" } : Jvm.MethodName) ({ cls := "java/util/ArrayList", name := "add", desc := "(Ljava/lang/Object;)Z" } : Jvm.MethodName)) ∈ lw_all := lw_g (lw_at lw_m4 212 rfl) rfl
theorem q996 : (Jvm.Cond.code ({ cls := "java/util/ArrayList", name := "add", desc := "(Ljava/lang/Object;)Z" } : Jvm.MethodName) prog_47_method_25_code (2 : Nat) (Option.some Jvm.ClassFile.FieldType.boolean)) ∈ lw_all := lw_g (lw_at lw_m4 213 rfl) rfl
theorem q997 : (Jvm.Cond.methodLink "java/util/ArrayList" (131 : Nat) ({ cls := "java/util/ArrayList", name := "add", desc := "(Ljava/lang/Object;[Ljava/lang/Object;I)V" } : Jvm.MethodName)) ∈ lw_all := lw_g (lw_at lw_m4 214 rfl) rfl
theorem q998 : (Jvm.Cond.privateMethod ({ cls := "java/util/ArrayList", name := "add", desc := "(Ljava/lang/Object;[Ljava/lang/Object;I)V" } : Jvm.MethodName)) ∈ lw_tbl := lw_at lw_m4 215 rfl
theorem q999 : (Jvm.Cond.instanceMethod ({ cls := "java/util/ArrayList", name := "add", desc := "(Ljava/lang/Object;[Ljava/lang/Object;I)V" } : Jvm.MethodName)) ∈ lw_all := lw_g (lw_at lw_m4 216 rfl) rfl
theorem q1000 : (Jvm.Cond.code ({ cls := "java/util/ArrayList", name := "add", desc := "(Ljava/lang/Object;[Ljava/lang/Object;I)V" } : Jvm.MethodName) prog_47_method_24_code (4 : Nat) (Option.none : Option Jvm.ClassFile.FieldType)) ∈ lw_all := lw_g (lw_at lw_m4 217 rfl) rfl
theorem q1001 : (Jvm.Cond.methodLink "java/util/ArrayList" (129 : Nat) ({ cls := "java/util/ArrayList", name := "grow", desc := "()[Ljava/lang/Object;" } : Jvm.MethodName)) ∈ lw_all := lw_g (lw_at lw_m4 218 rfl) rfl
theorem q1002 : (Jvm.Cond.privateMethod ({ cls := "java/util/ArrayList", name := "grow", desc := "()[Ljava/lang/Object;" } : Jvm.MethodName)) ∈ lw_tbl := lw_at lw_m4 219 rfl
theorem q1003 : (Jvm.Cond.instanceMethod ({ cls := "java/util/ArrayList", name := "grow", desc := "()[Ljava/lang/Object;" } : Jvm.MethodName)) ∈ lw_all := lw_g (lw_at lw_m4 220 rfl) rfl
theorem q1004 : (Jvm.Cond.code ({ cls := "java/util/ArrayList", name := "grow", desc := "()[Ljava/lang/Object;" } : Jvm.MethodName) prog_47_method_7_code (1 : Nat) (Option.some (Jvm.ClassFile.FieldType.array (Jvm.ClassFile.FieldType.object "java/lang/Object")))) ∈ lw_all := lw_g (lw_at lw_m4 221 rfl) rfl
theorem q1005 : (Jvm.Cond.methodLink "java/util/ArrayList" (69 : Nat) ({ cls := "java/util/ArrayList", name := "grow", desc := "(I)[Ljava/lang/Object;" } : Jvm.MethodName)) ∈ lw_all := lw_g (lw_at lw_m4 222 rfl) rfl
theorem q1006 : (Jvm.Cond.privateMethod ({ cls := "java/util/ArrayList", name := "grow", desc := "(I)[Ljava/lang/Object;" } : Jvm.MethodName)) ∈ lw_tbl := lw_at lw_m4 223 rfl
theorem q1007 : (Jvm.Cond.instanceMethod ({ cls := "java/util/ArrayList", name := "grow", desc := "(I)[Ljava/lang/Object;" } : Jvm.MethodName)) ∈ lw_all := lw_g (lw_at lw_m4 224 rfl) rfl
theorem q1008 : (Jvm.Cond.code ({ cls := "java/util/ArrayList", name := "grow", desc := "(I)[Ljava/lang/Object;" } : Jvm.MethodName) prog_47_method_6_code (4 : Nat) (Option.some (Jvm.ClassFile.FieldType.array (Jvm.ClassFile.FieldType.object "java/lang/Object")))) ∈ lw_all := lw_g (lw_at lw_m4 225 rfl) rfl
theorem q1009 : (Jvm.Cond.fieldLink "java/util/ArrayList" (39 : Nat) "java/util/ArrayList" "DEFAULTCAPACITY_EMPTY_ELEMENTDATA" "[Ljava/lang/Object;") ∈ lw_all := lw_g (lw_at lw_m4 226 rfl) rfl
theorem q1010 : (Jvm.Cond.laysStatic "java/util/ArrayList" "DEFAULTCAPACITY_EMPTY_ELEMENTDATA" "[Ljava/lang/Object;") ∈ lw_tbl := lw_at lw_m4 227 rfl
theorem q1011 : (Jvm.Cond.methodLink "java/util/ArrayList" (73 : Nat) ({ cls := "jdk/internal/util/ArraysSupport", name := "newLength", desc := "(III)I" } : Jvm.MethodName)) ∈ lw_all := lw_g (lw_at lw_m4 228 rfl) rfl
theorem q1012 : (Jvm.Cond.methodLink "java/util/ArrayList" (66 : Nat) ({ cls := "java/util/Arrays", name := "copyOf", desc := "([Ljava/lang/Object;I)[Ljava/lang/Object;" } : Jvm.MethodName)) ∈ lw_all := lw_g (lw_at lw_m4 229 rfl) rfl
theorem q1042 : (Jvm.Cond.selects "java/util/ArrayList" ({ cls := "java/lang/Object", name := "getClass", desc := "()Ljava/lang/Class;" } : Jvm.MethodName) ({ cls := "java/lang/Object", name := "getClass", desc := "()Ljava/lang/Class;" } : Jvm.MethodName)) ∈ lw_all := lw_g (lw_at lw_m5 19 rfl) rfl
theorem q1049 : (Jvm.Cond.methodLink "java/util/ArrayList" (79 : Nat) ({ cls := "java/lang/Math", name := "max", desc := "(II)I" } : Jvm.MethodName)) ∈ lw_all := lw_g (lw_at lw_m5 26 rfl) rfl
theorem q1052 : (Jvm.Cond.instanceMethod ({ cls := "java/util/ArrayList", name := "get", desc := "(I)Ljava/lang/Object;" } : Jvm.MethodName)) ∈ lw_all := lw_g (lw_at lw_m5 29 rfl) rfl
theorem q1053 : (Jvm.Cond.selects "java/util/ArrayList" ({ cls := "java/util/ArrayList", name := "get", desc := "(I)Ljava/lang/Object;" } : Jvm.MethodName) ({ cls := "java/util/ArrayList", name := "get", desc := "(I)Ljava/lang/Object;" } : Jvm.MethodName)) ∈ lw_all := lw_g (lw_at lw_m5 30 rfl) rfl
theorem q1054 : (Jvm.Cond.code ({ cls := "java/util/ArrayList", name := "get", desc := "(I)Ljava/lang/Object;" } : Jvm.MethodName) prog_47_method_20_code (2 : Nat) (Option.some (Jvm.ClassFile.FieldType.object "java/lang/Object"))) ∈ lw_all := lw_g (lw_at lw_m5 31 rfl) rfl
theorem q1055 : (Jvm.Cond.methodLink "java/util/ArrayList" (118 : Nat) ({ cls := "java/util/Objects", name := "checkIndex", desc := "(II)I" } : Jvm.MethodName)) ∈ lw_all := lw_g (lw_at lw_m5 32 rfl) rfl
theorem q1059 : (Jvm.Cond.methodLink "java/util/ArrayList" (123 : Nat) ({ cls := "java/util/ArrayList", name := "elementData", desc := "(I)Ljava/lang/Object;" } : Jvm.MethodName)) ∈ lw_all := lw_g (lw_at lw_m5 36 rfl) rfl
theorem q1060 : (Jvm.Cond.instanceMethod ({ cls := "java/util/ArrayList", name := "elementData", desc := "(I)Ljava/lang/Object;" } : Jvm.MethodName)) ∈ lw_all := lw_g (lw_at lw_m5 37 rfl) rfl
theorem q1061 : (Jvm.Cond.selects "java/util/ArrayList" ({ cls := "java/util/ArrayList", name := "elementData", desc := "(I)Ljava/lang/Object;" } : Jvm.MethodName) ({ cls := "java/util/ArrayList", name := "elementData", desc := "(I)Ljava/lang/Object;" } : Jvm.MethodName)) ∈ lw_all := lw_g (lw_at lw_m5 38 rfl) rfl
theorem q1062 : (Jvm.Cond.code ({ cls := "java/util/ArrayList", name := "elementData", desc := "(I)Ljava/lang/Object;" } : Jvm.MethodName) prog_47_method_18_code (2 : Nat) (Option.some (Jvm.ClassFile.FieldType.object "java/lang/Object"))) ∈ lw_all := lw_g (lw_at lw_m5 39 rfl) rfl
theorem q1714 : (Jvm.Cond.castable "java/util/ArrayList" "java/lang/Object") ∈ lw_tbl := lw_at lw_m7 211 rfl
theorem in_J2 : ∀ w ∈ wsJ20, w ∈ lw_all := lw_in wsJ20 [129, 125, 127] (by decide +kernel) (by decide +kernel)
/-! java/lang/AbstractStringBuilder -/
def RJ3 : String := "java/lang/AbstractStringBuilder"
abbrev cJ3_init : ByteArray := prog_26_method_2_code
def yJ3_init : MethodName := ⟨RJ3, "<init>", "(I)V"⟩
abbrev cJ3_append : ByteArray := prog_26_method_31_code
def yJ3_append : MethodName := ⟨RJ3, "append", "(C)Ljava/lang/AbstractStringBuilder;"⟩
abbrev cJ3_ensureCapacityInternal : ByteArray := prog_26_method_9_code
def yJ3_ensureCapacityInternal : MethodName := ⟨RJ3, "ensureCapacityInternal", "(I)V"⟩
abbrev cJ3_newCapacity : ByteArray := prog_26_method_10_code
def yJ3_newCapacity : MethodName := ⟨RJ3, "newCapacity", "(I)I"⟩
abbrev cJ3_isLatin1 : ByteArray := prog_26_method_68_code
def yJ3_isLatin1 : MethodName := ⟨RJ3, "isLatin1", "()Z"⟩
abbrev cJ3_inflate : ByteArray := prog_26_method_11_code
def yJ3_inflate : MethodName := ⟨RJ3, "inflate", "()V"⟩
abbrev cJ3_getValue : ByteArray := prog_26_method_64_code
def yJ3_getValue : MethodName := ⟨RJ3, "getValue", "()[B"⟩
abbrev cJ3_length : ByteArray := prog_26_method_6_code
def yJ3_length : MethodName := ⟨RJ3, "length", "()I"⟩
theorem q74 : (Jvm.Cond.initialized "java/lang/AbstractStringBuilder") ∈ lw_all := lw_g (lw_at lw_m1 11 rfl) rfl
theorem q477 : (Jvm.Cond.instanceMethod ({ cls := "java/lang/AbstractStringBuilder", name := "<init>", desc := "(I)V" } : Jvm.MethodName)) ∈ lw_all := lw_g (lw_at lw_m2 174 rfl) rfl
theorem q478 : (Jvm.Cond.code ({ cls := "java/lang/AbstractStringBuilder", name := "<init>", desc := "(I)V" } : Jvm.MethodName) prog_26_method_2_code (2 : Nat) (Option.none : Option Jvm.ClassFile.FieldType)) ∈ lw_all := lw_g (lw_at lw_m2 175 rfl) rfl
theorem q479 : (Jvm.Cond.methodLink "java/lang/AbstractStringBuilder" (3 : Nat) ({ cls := "java/lang/Object", name := "<init>", desc := "()V" } : Jvm.MethodName)) ∈ lw_all := lw_g (lw_at lw_m2 176 rfl) rfl
theorem q480 : (Jvm.Cond.fieldLink "java/lang/AbstractStringBuilder" (18 : Nat) "java/lang/String" "COMPACT_STRINGS" "Z") ∈ lw_all := lw_g (lw_at lw_m2 177 rfl) rfl
theorem q482 : (Jvm.Cond.methodLink "java/lang/AbstractStringBuilder" (26 : Nat) ({ cls := "java/lang/StringUTF16", name := "newBytesFor", desc := "(I)[B" } : Jvm.MethodName)) ∈ lw_all := lw_g (lw_at lw_m2 179 rfl) rfl
theorem q489 : (Jvm.Cond.fieldLink "java/lang/AbstractStringBuilder" (15 : Nat) "java/lang/AbstractStringBuilder" "value" "[B") ∈ lw_all := lw_g (lw_at lw_m2 186 rfl) rfl
theorem q490 : (Jvm.Cond.fieldLink "java/lang/AbstractStringBuilder" (22 : Nat) "java/lang/AbstractStringBuilder" "coder" "B") ∈ lw_all := lw_g (lw_at lw_m2 187 rfl) rfl
theorem q492 : (Jvm.Cond.fieldLink "java/lang/AbstractStringBuilder" (79 : Nat) "java/lang/AbstractStringBuilder" "count" "I") ∈ lw_all := lw_g (lw_at lw_m2 189 rfl) rfl
theorem q494 : (Jvm.Cond.soleField "java/lang/AbstractStringBuilder" "value") ∈ lw_all := lw_g (lw_at lw_m2 191 rfl) rfl
theorem q496 : (Jvm.Cond.soleField "java/lang/AbstractStringBuilder" "coder") ∈ lw_all := lw_g (lw_at lw_m2 193 rfl) rfl
theorem q498 : (Jvm.Cond.soleField "java/lang/AbstractStringBuilder" "maybeLatin1") ∈ lw_all := lw_g (lw_at lw_m2 195 rfl) rfl
theorem q500 : (Jvm.Cond.soleField "java/lang/AbstractStringBuilder" "count") ∈ lw_all := lw_g (lw_at lw_m2 197 rfl) rfl
theorem q507 : (Jvm.Cond.instanceMethod ({ cls := "java/lang/AbstractStringBuilder", name := "append", desc := "(C)Ljava/lang/AbstractStringBuilder;" } : Jvm.MethodName)) ∈ lw_all := lw_g (lw_at lw_m2 204 rfl) rfl
theorem q508 : (Jvm.Cond.code ({ cls := "java/lang/AbstractStringBuilder", name := "append", desc := "(C)Ljava/lang/AbstractStringBuilder;" } : Jvm.MethodName) prog_26_method_31_code (2 : Nat) (Option.some (Jvm.ClassFile.FieldType.object "java/lang/AbstractStringBuilder"))) ∈ lw_all := lw_g (lw_at lw_m2 205 rfl) rfl
theorem q509 : (Jvm.Cond.methodLink "java/lang/AbstractStringBuilder" (100 : Nat) ({ cls := "java/lang/AbstractStringBuilder", name := "ensureCapacityInternal", desc := "(I)V" } : Jvm.MethodName)) ∈ lw_all := lw_g (lw_at lw_m2 206 rfl) rfl
theorem q510 : (Jvm.Cond.privateMethod ({ cls := "java/lang/AbstractStringBuilder", name := "ensureCapacityInternal", desc := "(I)V" } : Jvm.MethodName)) ∈ lw_tbl := lw_at lw_m2 207 rfl
theorem q511 : (Jvm.Cond.instanceMethod ({ cls := "java/lang/AbstractStringBuilder", name := "ensureCapacityInternal", desc := "(I)V" } : Jvm.MethodName)) ∈ lw_all := lw_g (lw_at lw_m2 208 rfl) rfl
theorem q512 : (Jvm.Cond.code ({ cls := "java/lang/AbstractStringBuilder", name := "ensureCapacityInternal", desc := "(I)V" } : Jvm.MethodName) prog_26_method_9_code (3 : Nat) (Option.none : Option Jvm.ClassFile.FieldType)) ∈ lw_all := lw_g (lw_at lw_m2 209 rfl) rfl
theorem q513 : (Jvm.Cond.methodLink "java/lang/AbstractStringBuilder" (104 : Nat) ({ cls := "java/lang/AbstractStringBuilder", name := "newCapacity", desc := "(I)I" } : Jvm.MethodName)) ∈ lw_all := lw_g (lw_at lw_m2 210 rfl) rfl
theorem q514 : (Jvm.Cond.privateMethod ({ cls := "java/lang/AbstractStringBuilder", name := "newCapacity", desc := "(I)I" } : Jvm.MethodName)) ∈ lw_tbl := lw_at lw_m2 211 rfl
theorem q515 : (Jvm.Cond.instanceMethod ({ cls := "java/lang/AbstractStringBuilder", name := "newCapacity", desc := "(I)I" } : Jvm.MethodName)) ∈ lw_all := lw_g (lw_at lw_m2 212 rfl) rfl
theorem q516 : (Jvm.Cond.code ({ cls := "java/lang/AbstractStringBuilder", name := "newCapacity", desc := "(I)I" } : Jvm.MethodName) prog_26_method_10_code (6 : Nat) (Option.some Jvm.ClassFile.FieldType.int)) ∈ lw_all := lw_g (lw_at lw_m2 213 rfl) rfl
theorem q517 : (Jvm.Cond.methodLink "java/lang/AbstractStringBuilder" (114 : Nat) ({ cls := "jdk/internal/util/ArraysSupport", name := "newLength", desc := "(III)I" } : Jvm.MethodName)) ∈ lw_all := lw_g (lw_at lw_m2 214 rfl) rfl
theorem q527 : (Jvm.Cond.constant "java/lang/AbstractStringBuilder" (39 : Nat) (2147483647 : Int32)) ∈ lw_all := lw_g (lw_at lw_m2 224 rfl) rfl
theorem q528 : (Jvm.Cond.methodLink "java/lang/AbstractStringBuilder" (108 : Nat) ({ cls := "java/util/Arrays", name := "copyOf", desc := "([BI)[B" } : Jvm.MethodName)) ∈ lw_all := lw_g (lw_at lw_m2 225 rfl) rfl
theorem q542 : (Jvm.Cond.methodLink "java/lang/AbstractStringBuilder" (83 : Nat) ({ cls := "java/lang/AbstractStringBuilder", name := "isLatin1", desc := "()Z" } : Jvm.MethodName)) ∈ lw_all := lw_g (lw_at lw_m2 239 rfl) rfl
theorem q543 : (Jvm.Cond.instanceMethod ({ cls := "java/lang/AbstractStringBuilder", name := "isLatin1", desc := "()Z" } : Jvm.MethodName)) ∈ lw_all := lw_g (lw_at lw_m3 0 rfl) rfl
theorem q544 : (Jvm.Cond.sameMethod "java/lang/AbstractStringBuilder" "java/lang/AbstractStringBuilder" "isLatin1" "()Z") ∈ lw_all := lw_g (lw_at lw_m3 1 rfl) rfl
theorem q546 : (Jvm.Cond.code ({ cls := "java/lang/AbstractStringBuilder", name := "isLatin1", desc := "()Z" } : Jvm.MethodName) prog_26_method_68_code (1 : Nat) (Option.some Jvm.ClassFile.FieldType.boolean)) ∈ lw_all := lw_g (lw_at lw_m3 3 rfl) rfl
theorem q547 : (Jvm.Cond.methodLink "java/lang/AbstractStringBuilder" (191 : Nat) ({ cls := "java/lang/StringLatin1", name := "canEncode", desc := "(C)Z" } : Jvm.MethodName)) ∈ lw_all := lw_g (lw_at lw_m3 4 rfl) rfl
theorem q550 : (Jvm.Cond.methodLink "java/lang/AbstractStringBuilder" (195 : Nat) ({ cls := "java/lang/AbstractStringBuilder", name := "inflate", desc := "()V" } : Jvm.MethodName)) ∈ lw_all := lw_g (lw_at lw_m3 7 rfl) rfl
theorem q551 : (Jvm.Cond.privateMethod ({ cls := "java/lang/AbstractStringBuilder", name := "inflate", desc := "()V" } : Jvm.MethodName)) ∈ lw_tbl := lw_at lw_m3 8 rfl
theorem q552 : (Jvm.Cond.instanceMethod ({ cls := "java/lang/AbstractStringBuilder", name := "inflate", desc := "()V" } : Jvm.MethodName)) ∈ lw_all := lw_g (lw_at lw_m3 9 rfl) rfl
theorem q553 : (Jvm.Cond.code ({ cls := "java/lang/AbstractStringBuilder", name := "inflate", desc := "()V" } : Jvm.MethodName) prog_26_method_11_code (2 : Nat) (Option.none : Option Jvm.ClassFile.FieldType)) ∈ lw_all := lw_g (lw_at lw_m3 10 rfl) rfl
theorem q554 : (Jvm.Cond.methodLink "java/lang/AbstractStringBuilder" (125 : Nat) ({ cls := "java/lang/StringLatin1", name := "inflate", desc := "([BI[BII)V" } : Jvm.MethodName)) ∈ lw_all := lw_g (lw_at lw_m3 11 rfl) rfl
theorem q583 : (Jvm.Cond.methodLink "java/lang/AbstractStringBuilder" (197 : Nat) ({ cls := "java/lang/StringUTF16", name := "putCharSB", desc := "([BII)V" } : Jvm.MethodName)) ∈ lw_all := lw_g (lw_at lw_m3 40 rfl) rfl
theorem q609 : (Jvm.Cond.instanceMethod ({ cls := "java/lang/AbstractStringBuilder", name := "getValue", desc := "()[B" } : Jvm.MethodName)) ∈ lw_all := lw_g (lw_at lw_m3 66 rfl) rfl
theorem q610 : (Jvm.Cond.sameMethod "java/lang/AbstractStringBuilder" "java/lang/AbstractStringBuilder" "getValue" "()[B") ∈ lw_all := lw_g (lw_at lw_m3 67 rfl) rfl
theorem q612 : (Jvm.Cond.code ({ cls := "java/lang/AbstractStringBuilder", name := "getValue", desc := "()[B" } : Jvm.MethodName) prog_26_method_64_code (1 : Nat) (Option.some (Jvm.ClassFile.FieldType.array Jvm.ClassFile.FieldType.byte))) ∈ lw_all := lw_g (lw_at lw_m3 69 rfl) rfl
theorem q614 : (Jvm.Cond.instanceMethod ({ cls := "java/lang/AbstractStringBuilder", name := "length", desc := "()I" } : Jvm.MethodName)) ∈ lw_all := lw_g (lw_at lw_m3 71 rfl) rfl
theorem q615 : (Jvm.Cond.sameMethod "java/lang/AbstractStringBuilder" "java/lang/AbstractStringBuilder" "length" "()I") ∈ lw_all := lw_g (lw_at lw_m3 72 rfl) rfl
theorem q620 : (Jvm.Cond.code ({ cls := "java/lang/AbstractStringBuilder", name := "length", desc := "()I" } : Jvm.MethodName) prog_26_method_6_code (1 : Nat) (Option.some Jvm.ClassFile.FieldType.int)) ∈ lw_all := lw_g (lw_at lw_m3 77 rfl) rfl
theorem q1701 : (Jvm.Cond.sameMethod "java/lang/AbstractStringBuilder" "java/lang/AbstractStringBuilder" "append" "(C)Ljava/lang/AbstractStringBuilder;") ∈ lw_all := lw_g (lw_at lw_m7 198 rfl) rfl
theorem q1702 : (Jvm.Cond.sameMethod "java/lang/AbstractStringBuilder" "java/lang/AbstractStringBuilder" "ensureCapacityInternal" "(I)V") ∈ lw_all := lw_g (lw_at lw_m7 199 rfl) rfl
theorem q1703 : (Jvm.Cond.sameMethod "java/lang/AbstractStringBuilder" "java/lang/AbstractStringBuilder" "newCapacity" "(I)I") ∈ lw_all := lw_g (lw_at lw_m7 200 rfl) rfl
theorem q1704 : (Jvm.Cond.sameMethod "java/lang/AbstractStringBuilder" "java/lang/AbstractStringBuilder" "inflate" "()V") ∈ lw_all := lw_g (lw_at lw_m7 201 rfl) rfl
/-! java/lang/StringBuilder -/
def RJ4 : String := "java/lang/StringBuilder"
def TJ4 : u_T := fun k => match k with
  | 0 => ("java/lang/AbstractStringBuilder", "value", "[B", false)
  | 1 => ("java/lang/AbstractStringBuilder", "coder", "B", false)
  | 2 => ("java/lang/AbstractStringBuilder", "maybeLatin1", "Z", false)
  | _ => ("java/lang/AbstractStringBuilder", "count", "I", false)
def tyJ4 : Nat → FieldType := fun k => match k with
  | 0 => .array .byte
  | 1 => .byte
  | 2 => .boolean
  | _ => .int
abbrev wsJ40 : List Cond := u_ws RJ4 TJ4 4
theorem nmJ4 : ∀ a, a < 4 → ∀ b, b < 4 → a ≠ b → (TJ4 a).2.1 ≠ (TJ4 b).2.1 := by decide +kernel
theorem tyJ4_ok : ∀ k, k < 4 → parseFieldDescriptor (TJ4 k).2.2.1 = some (tyJ4 k) := by decide +kernel
abbrev cJ4_init : ByteArray := prog_37_method_2_code
def yJ4_init : MethodName := ⟨RJ4, "<init>", "(I)V"⟩
abbrev cJ4_append : ByteArray := prog_37_method_14_code
def yJ4_append : MethodName := ⟨RJ4, "append", "(C)Ljava/lang/StringBuilder;"⟩
abbrev cJ4_toString : ByteArray := prog_37_method_42_code
def yJ4_toString : MethodName := ⟨RJ4, "toString", "()Ljava/lang/String;"⟩
abbrev cJ4_length : ByteArray := prog_37_method_93_code
def yJ4_length : MethodName := ⟨RJ4, "length", "()I"⟩
theorem q75 : (Jvm.Cond.initialized "java/lang/StringBuilder") ∈ lw_all := lw_g (lw_at lw_m1 12 rfl) rfl
theorem q472 : (Jvm.Cond.instantiable "java/lang/StringBuilder" (4 : Nat)) ∈ lw_all := lw_g (lw_at lw_m2 169 rfl) rfl
theorem q474 : (Jvm.Cond.instanceMethod ({ cls := "java/lang/StringBuilder", name := "<init>", desc := "(I)V" } : Jvm.MethodName)) ∈ lw_all := lw_g (lw_at lw_m2 171 rfl) rfl
theorem q475 : (Jvm.Cond.code ({ cls := "java/lang/StringBuilder", name := "<init>", desc := "(I)V" } : Jvm.MethodName) prog_37_method_2_code (2 : Nat) (Option.none : Option Jvm.ClassFile.FieldType)) ∈ lw_all := lw_g (lw_at lw_m2 172 rfl) rfl
theorem q476 : (Jvm.Cond.methodLink "java/lang/StringBuilder" (1 : Nat) ({ cls := "java/lang/AbstractStringBuilder", name := "<init>", desc := "(I)V" } : Jvm.MethodName)) ∈ lw_all := lw_g (lw_at lw_m2 173 rfl) rfl
theorem q493 : (Jvm.Cond.lays "java/lang/StringBuilder" "java/lang/AbstractStringBuilder" "value" "[B") ∈ lw_all := lw_g (lw_at lw_m2 190 rfl) rfl
theorem q495 : (Jvm.Cond.lays "java/lang/StringBuilder" "java/lang/AbstractStringBuilder" "coder" "B") ∈ lw_all := lw_g (lw_at lw_m2 192 rfl) rfl
theorem q497 : (Jvm.Cond.lays "java/lang/StringBuilder" "java/lang/AbstractStringBuilder" "maybeLatin1" "Z") ∈ lw_all := lw_g (lw_at lw_m2 194 rfl) rfl
theorem q499 : (Jvm.Cond.lays "java/lang/StringBuilder" "java/lang/AbstractStringBuilder" "count" "I") ∈ lw_all := lw_g (lw_at lw_m2 196 rfl) rfl
theorem q501 : (Jvm.Cond.superclass "java/lang/StringBuilder" "java/lang/AbstractStringBuilder") ∈ lw_all := lw_g (lw_at lw_m2 198 rfl) rfl
theorem q503 : (Jvm.Cond.instanceMethod ({ cls := "java/lang/StringBuilder", name := "append", desc := "(C)Ljava/lang/StringBuilder;" } : Jvm.MethodName)) ∈ lw_all := lw_g (lw_at lw_m2 200 rfl) rfl
theorem q504 : (Jvm.Cond.selects "java/lang/StringBuilder" ({ cls := "java/lang/StringBuilder", name := "append", desc := "(C)Ljava/lang/StringBuilder;" } : Jvm.MethodName) ({ cls := "java/lang/StringBuilder", name := "append", desc := "(C)Ljava/lang/StringBuilder;" } : Jvm.MethodName)) ∈ lw_all := lw_g (lw_at lw_m2 201 rfl) rfl
theorem q505 : (Jvm.Cond.code ({ cls := "java/lang/StringBuilder", name := "append", desc := "(C)Ljava/lang/StringBuilder;" } : Jvm.MethodName) prog_37_method_14_code (2 : Nat) (Option.some (Jvm.ClassFile.FieldType.object "java/lang/StringBuilder"))) ∈ lw_all := lw_g (lw_at lw_m2 202 rfl) rfl
theorem q506 : (Jvm.Cond.methodLink "java/lang/StringBuilder" (50 : Nat) ({ cls := "java/lang/AbstractStringBuilder", name := "append", desc := "(C)Ljava/lang/AbstractStringBuilder;" } : Jvm.MethodName)) ∈ lw_all := lw_g (lw_at lw_m2 203 rfl) rfl
theorem q545 : (Jvm.Cond.selects "java/lang/StringBuilder" ({ cls := "java/lang/AbstractStringBuilder", name := "isLatin1", desc := "()Z" } : Jvm.MethodName) ({ cls := "java/lang/AbstractStringBuilder", name := "isLatin1", desc := "()Z" } : Jvm.MethodName)) ∈ lw_all := lw_g (lw_at lw_m3 2 rfl) rfl
theorem q596 : (Jvm.Cond.instanceMethod ({ cls := "java/lang/StringBuilder", name := "toString", desc := "()Ljava/lang/String;" } : Jvm.MethodName)) ∈ lw_all := lw_g (lw_at lw_m3 53 rfl) rfl
theorem q597 : (Jvm.Cond.selects "java/lang/StringBuilder" ({ cls := "java/lang/StringBuilder", name := "toString", desc := "()Ljava/lang/String;" } : Jvm.MethodName) ({ cls := "java/lang/StringBuilder", name := "toString", desc := "()Ljava/lang/String;" } : Jvm.MethodName)) ∈ lw_all := lw_g (lw_at lw_m3 54 rfl) rfl
theorem q598 : (Jvm.Cond.code ({ cls := "java/lang/StringBuilder", name := "toString", desc := "()Ljava/lang/String;" } : Jvm.MethodName) prog_37_method_42_code (1 : Nat) (Option.some (Jvm.ClassFile.FieldType.object "java/lang/String"))) ∈ lw_all := lw_g (lw_at lw_m3 55 rfl) rfl
theorem q599 : (Jvm.Cond.classLink "java/lang/StringBuilder" (18 : Nat) "java/lang/String") ∈ lw_all := lw_g (lw_at lw_m3 56 rfl) rfl
theorem q601 : (Jvm.Cond.methodLink "java/lang/StringBuilder" (137 : Nat) ({ cls := "java/lang/String", name := "<init>", desc := "(Ljava/lang/StringBuilder;)V" } : Jvm.MethodName)) ∈ lw_all := lw_g (lw_at lw_m3 58 rfl) rfl
theorem q611 : (Jvm.Cond.selects "java/lang/StringBuilder" ({ cls := "java/lang/AbstractStringBuilder", name := "getValue", desc := "()[B" } : Jvm.MethodName) ({ cls := "java/lang/AbstractStringBuilder", name := "getValue", desc := "()[B" } : Jvm.MethodName)) ∈ lw_all := lw_g (lw_at lw_m3 68 rfl) rfl
theorem q616 : (Jvm.Cond.selects "java/lang/StringBuilder" ({ cls := "java/lang/AbstractStringBuilder", name := "length", desc := "()I" } : Jvm.MethodName) ({ cls := "java/lang/StringBuilder", name := "length", desc := "()I" } : Jvm.MethodName)) ∈ lw_all := lw_g (lw_at lw_m3 73 rfl) rfl
theorem q617 : (Jvm.Cond.instanceMethod ({ cls := "java/lang/StringBuilder", name := "length", desc := "()I" } : Jvm.MethodName)) ∈ lw_all := lw_g (lw_at lw_m3 74 rfl) rfl
theorem q618 : (Jvm.Cond.code ({ cls := "java/lang/StringBuilder", name := "length", desc := "()I" } : Jvm.MethodName) prog_37_method_93_code (1 : Nat) (Option.some Jvm.ClassFile.FieldType.int)) ∈ lw_all := lw_g (lw_at lw_m3 75 rfl) rfl
theorem q619 : (Jvm.Cond.methodLink "java/lang/StringBuilder" (343 : Nat) ({ cls := "java/lang/AbstractStringBuilder", name := "length", desc := "()I" } : Jvm.MethodName)) ∈ lw_all := lw_g (lw_at lw_m3 76 rfl) rfl
theorem q1040 : (Jvm.Cond.selects "java/lang/StringBuilder" ({ cls := "java/lang/Object", name := "getClass", desc := "()Ljava/lang/Class;" } : Jvm.MethodName) ({ cls := "java/lang/Object", name := "getClass", desc := "()Ljava/lang/Class;" } : Jvm.MethodName)) ∈ lw_all := lw_g (lw_at lw_m5 17 rfl) rfl
theorem q1727 : (Jvm.Cond.castable "java/lang/StringBuilder" "java/lang/Object") ∈ lw_tbl := lw_at lw_m7 224 rfl
theorem in_J4 : ∀ w ∈ wsJ40, w ∈ lw_all := lw_in wsJ40 [493, 495, 497, 499] (by decide +kernel) (by decide +kernel)
/-! java/lang/String -/
def RJ5 : String := "java/lang/String"
def TJ5 : u_T := fun k => match k with
  | 0 => ("java/lang/String", "value", "[B", true)
  | 1 => ("java/lang/String", "coder", "B", true)
  | 2 => ("java/lang/String", "hash", "I", false)
  | _ => ("java/lang/String", "hashIsZero", "Z", false)
def tyJ5 : Nat → FieldType := fun k => match k with
  | 0 => .array .byte
  | 1 => .byte
  | 2 => .int
  | _ => .boolean
abbrev wsJ50 : List Cond := u_ws RJ5 TJ5 4
theorem nmJ5 : ∀ a, a < 4 → ∀ b, b < 4 → a ≠ b → (TJ5 a).2.1 ≠ (TJ5 b).2.1 := by decide +kernel
theorem tyJ5_ok : ∀ k, k < 4 → parseFieldDescriptor (TJ5 k).2.2.1 = some (tyJ5 k) := by decide +kernel
abbrev cJ5_checkBoundsOffCount : ByteArray := prog_36_method_157_code
def yJ5_checkBoundsOffCount : MethodName := ⟨RJ5, "checkBoundsOffCount", "(III)I"⟩
abbrev cJ5_checkIndex : ByteArray := prog_36_method_155_code
def yJ5_checkIndex : MethodName := ⟨RJ5, "checkIndex", "(II)V"⟩
abbrev cJ5_init : ByteArray := prog_36_method_53_code
def yJ5_init : MethodName := ⟨RJ5, "<init>", "(Ljava/lang/StringBuilder;)V"⟩
abbrev cJ5_init_2 : ByteArray := prog_36_method_150_code
def yJ5_init_2 : MethodName := ⟨RJ5, "<init>", "(Ljava/lang/AbstractStringBuilder;Ljava/lang/Void;)V"⟩
abbrev cJ5_indexOf : ByteArray := prog_36_method_79_code
def yJ5_indexOf : MethodName := ⟨RJ5, "indexOf", "(I)I"⟩
abbrev cJ5_indexOf_2 : ByteArray := prog_36_method_80_code
def yJ5_indexOf_2 : MethodName := ⟨RJ5, "indexOf", "(II)I"⟩
abbrev cJ5_isLatin1 : ByteArray := prog_36_method_154_code
def yJ5_isLatin1 : MethodName := ⟨RJ5, "isLatin1", "()Z"⟩
abbrev cJ5_length : ByteArray := prog_36_method_54_code
def yJ5_length : MethodName := ⟨RJ5, "length", "()I"⟩
abbrev cJ5_coder : ByteArray := prog_36_method_152_code
def yJ5_coder : MethodName := ⟨RJ5, "coder", "()B"⟩
abbrev cJ5_checkBoundsBeginEnd : ByteArray := prog_36_method_158_code
def yJ5_checkBoundsBeginEnd : MethodName := ⟨RJ5, "checkBoundsBeginEnd", "(III)V"⟩
abbrev cJ5_equals : ByteArray := prog_36_method_66_code
def yJ5_equals : MethodName := ⟨RJ5, "equals", "(Ljava/lang/Object;)Z"⟩
abbrev cJ5_hashCode : ByteArray := prog_36_method_78_code
def yJ5_hashCode : MethodName := ⟨RJ5, "hashCode", "()I"⟩
theorem q76 : (Jvm.Cond.initialized "java/lang/String") ∈ lw_all := lw_g (lw_at lw_m1 13 rfl) rfl
theorem q481 : (Jvm.Cond.laysStatic "java/lang/String" "COMPACT_STRINGS" "Z") ∈ lw_tbl := lw_at lw_m2 178 rfl
theorem q491 : (Jvm.Cond.fieldLink "java/lang/String" (1048 : Nat) "java/lang/AbstractStringBuilder" "maybeLatin1" "Z") ∈ lw_all := lw_g (lw_at lw_m2 188 rfl) rfl
theorem q567 : (Jvm.Cond.static ({ cls := "java/lang/String", name := "checkBoundsOffCount", desc := "(III)I" } : Jvm.MethodName)) ∈ lw_all := lw_g (lw_at lw_m3 24 rfl) rfl
theorem q568 : (Jvm.Cond.code ({ cls := "java/lang/String", name := "checkBoundsOffCount", desc := "(III)I" } : Jvm.MethodName) prog_36_method_157_code (3 : Nat) (Option.some Jvm.ClassFile.FieldType.int)) ∈ lw_all := lw_g (lw_at lw_m3 25 rfl) rfl
theorem q569 : (Jvm.Cond.fieldLink "java/lang/String" (1053 : Nat) "jdk/internal/util/Preconditions" "SIOOBE_FORMATTER" "Ljava/util/function/BiFunction;") ∈ lw_all := lw_g (lw_at lw_m3 26 rfl) rfl
theorem q571 : (Jvm.Cond.methodLink "java/lang/String" (1065 : Nat) ({ cls := "jdk/internal/util/Preconditions", name := "checkFromIndexSize", desc := "(IIILjava/util/function/BiFunction;)I" } : Jvm.MethodName)) ∈ lw_all := lw_g (lw_at lw_m3 28 rfl) rfl
theorem q590 : (Jvm.Cond.static ({ cls := "java/lang/String", name := "checkIndex", desc := "(II)V" } : Jvm.MethodName)) ∈ lw_all := lw_g (lw_at lw_m3 47 rfl) rfl
theorem q591 : (Jvm.Cond.code ({ cls := "java/lang/String", name := "checkIndex", desc := "(II)V" } : Jvm.MethodName) prog_36_method_155_code (2 : Nat) (Option.none : Option Jvm.ClassFile.FieldType)) ∈ lw_all := lw_g (lw_at lw_m3 48 rfl) rfl
theorem q592 : (Jvm.Cond.methodLink "java/lang/String" (1059 : Nat) ({ cls := "jdk/internal/util/Preconditions", name := "checkIndex", desc := "(IILjava/util/function/BiFunction;)I" } : Jvm.MethodName)) ∈ lw_all := lw_g (lw_at lw_m3 49 rfl) rfl
theorem q600 : (Jvm.Cond.instantiable "java/lang/String" (4 : Nat)) ∈ lw_all := lw_g (lw_at lw_m3 57 rfl) rfl
theorem q602 : (Jvm.Cond.instanceMethod ({ cls := "java/lang/String", name := "<init>", desc := "(Ljava/lang/StringBuilder;)V" } : Jvm.MethodName)) ∈ lw_all := lw_g (lw_at lw_m3 59 rfl) rfl
theorem q603 : (Jvm.Cond.code ({ cls := "java/lang/String", name := "<init>", desc := "(Ljava/lang/StringBuilder;)V" } : Jvm.MethodName) prog_36_method_53_code (2 : Nat) (Option.none : Option Jvm.ClassFile.FieldType)) ∈ lw_all := lw_g (lw_at lw_m3 60 rfl) rfl
theorem q604 : (Jvm.Cond.methodLink "java/lang/String" (489 : Nat) ({ cls := "java/lang/String", name := "<init>", desc := "(Ljava/lang/AbstractStringBuilder;Ljava/lang/Void;)V" } : Jvm.MethodName)) ∈ lw_all := lw_g (lw_at lw_m3 61 rfl) rfl
theorem q605 : (Jvm.Cond.instanceMethod ({ cls := "java/lang/String", name := "<init>", desc := "(Ljava/lang/AbstractStringBuilder;Ljava/lang/Void;)V" } : Jvm.MethodName)) ∈ lw_all := lw_g (lw_at lw_m3 62 rfl) rfl
theorem q606 : (Jvm.Cond.code ({ cls := "java/lang/String", name := "<init>", desc := "(Ljava/lang/AbstractStringBuilder;Ljava/lang/Void;)V" } : Jvm.MethodName) prog_36_method_150_code (5 : Nat) (Option.none : Option Jvm.ClassFile.FieldType)) ∈ lw_all := lw_g (lw_at lw_m3 63 rfl) rfl
theorem q607 : (Jvm.Cond.methodLink "java/lang/String" (1 : Nat) ({ cls := "java/lang/Object", name := "<init>", desc := "()V" } : Jvm.MethodName)) ∈ lw_all := lw_g (lw_at lw_m3 64 rfl) rfl
theorem q608 : (Jvm.Cond.methodLink "java/lang/String" (552 : Nat) ({ cls := "java/lang/AbstractStringBuilder", name := "getValue", desc := "()[B" } : Jvm.MethodName)) ∈ lw_all := lw_g (lw_at lw_m3 65 rfl) rfl
theorem q613 : (Jvm.Cond.methodLink "java/lang/String" (549 : Nat) ({ cls := "java/lang/AbstractStringBuilder", name := "length", desc := "()I" } : Jvm.MethodName)) ∈ lw_all := lw_g (lw_at lw_m3 70 rfl) rfl
theorem q621 : (Jvm.Cond.methodLink "java/lang/String" (1047 : Nat) ({ cls := "java/lang/AbstractStringBuilder", name := "isLatin1", desc := "()Z" } : Jvm.MethodName)) ∈ lw_all := lw_g (lw_at lw_m3 78 rfl) rfl
theorem q622 : (Jvm.Cond.methodLink "java/lang/String" (54 : Nat) ({ cls := "java/util/Arrays", name := "copyOfRange", desc := "([BII)[B" } : Jvm.MethodName)) ∈ lw_all := lw_g (lw_at lw_m3 79 rfl) rfl
theorem q631 : (Jvm.Cond.fieldLink "java/lang/String" (38 : Nat) "java/lang/String" "COMPACT_STRINGS" "Z") ∈ lw_all := lw_g (lw_at lw_m3 88 rfl) rfl
theorem q632 : (Jvm.Cond.methodLink "java/lang/String" (1051 : Nat) ({ cls := "java/lang/StringUTF16", name := "compress", desc := "([BII)[B" } : Jvm.MethodName)) ∈ lw_all := lw_g (lw_at lw_m3 89 rfl) rfl
theorem q642 : (Jvm.Cond.methodLink "java/lang/String" (47 : Nat) ({ cls := "java/lang/StringUTF16", name := "coderFromArrayLen", desc := "([BI)B" } : Jvm.MethodName)) ∈ lw_all := lw_g (lw_at lw_m3 99 rfl) rfl
theorem q645 : (Jvm.Cond.fieldLink "java/lang/String" (9 : Nat) "java/lang/String" "value" "[B") ∈ lw_all := lw_g (lw_at lw_m3 102 rfl) rfl
theorem q646 : (Jvm.Cond.fieldLink "java/lang/String" (15 : Nat) "java/lang/String" "coder" "B") ∈ lw_all := lw_g (lw_at lw_m3 103 rfl) rfl
theorem q647 : (Jvm.Cond.fieldLink "java/lang/String" (19 : Nat) "java/lang/String" "hash" "I") ∈ lw_all := lw_g (lw_at lw_m3 104 rfl) rfl
theorem q648 : (Jvm.Cond.fieldLink "java/lang/String" (23 : Nat) "java/lang/String" "hashIsZero" "Z") ∈ lw_all := lw_g (lw_at lw_m3 105 rfl) rfl
theorem q649 : (Jvm.Cond.laysFinal "java/lang/String" "java/lang/String" "value" "[B") ∈ lw_all := lw_g (lw_at lw_m3 106 rfl) rfl
theorem q650 : (Jvm.Cond.soleField "java/lang/String" "value") ∈ lw_all := lw_g (lw_at lw_m3 107 rfl) rfl
theorem q651 : (Jvm.Cond.laysFinal "java/lang/String" "java/lang/String" "coder" "B") ∈ lw_all := lw_g (lw_at lw_m3 108 rfl) rfl
theorem q652 : (Jvm.Cond.soleField "java/lang/String" "coder") ∈ lw_all := lw_g (lw_at lw_m3 109 rfl) rfl
theorem q653 : (Jvm.Cond.lays "java/lang/String" "java/lang/String" "hash" "I") ∈ lw_all := lw_g (lw_at lw_m3 110 rfl) rfl
theorem q654 : (Jvm.Cond.soleField "java/lang/String" "hash") ∈ lw_all := lw_g (lw_at lw_m3 111 rfl) rfl
theorem q655 : (Jvm.Cond.lays "java/lang/String" "java/lang/String" "hashIsZero" "Z") ∈ lw_all := lw_g (lw_at lw_m3 112 rfl) rfl
theorem q656 : (Jvm.Cond.soleField "java/lang/String" "hashIsZero") ∈ lw_all := lw_g (lw_at lw_m3 113 rfl) rfl
theorem q657 : (Jvm.Cond.superclass "java/lang/String" "java/lang/Object") ∈ lw_all := lw_g (lw_at lw_m3 114 rfl) rfl
theorem q664 : (Jvm.Cond.instanceMethod ({ cls := "java/lang/String", name := "indexOf", desc := "(I)I" } : Jvm.MethodName)) ∈ lw_all := lw_g (lw_at lw_m3 121 rfl) rfl
theorem q665 : (Jvm.Cond.selects "java/lang/String" ({ cls := "java/lang/String", name := "indexOf", desc := "(I)I" } : Jvm.MethodName) ({ cls := "java/lang/String", name := "indexOf", desc := "(I)I" } : Jvm.MethodName)) ∈ lw_all := lw_g (lw_at lw_m3 122 rfl) rfl
theorem q666 : (Jvm.Cond.code ({ cls := "java/lang/String", name := "indexOf", desc := "(I)I" } : Jvm.MethodName) prog_36_method_79_code (2 : Nat) (Option.some Jvm.ClassFile.FieldType.int)) ∈ lw_all := lw_g (lw_at lw_m3 123 rfl) rfl
theorem q667 : (Jvm.Cond.methodLink "java/lang/String" (633 : Nat) ({ cls := "java/lang/String", name := "indexOf", desc := "(II)I" } : Jvm.MethodName)) ∈ lw_all := lw_g (lw_at lw_m3 124 rfl) rfl
theorem q668 : (Jvm.Cond.instanceMethod ({ cls := "java/lang/String", name := "indexOf", desc := "(II)I" } : Jvm.MethodName)) ∈ lw_all := lw_g (lw_at lw_m3 125 rfl) rfl
theorem q669 : (Jvm.Cond.selects "java/lang/String" ({ cls := "java/lang/String", name := "indexOf", desc := "(II)I" } : Jvm.MethodName) ({ cls := "java/lang/String", name := "indexOf", desc := "(II)I" } : Jvm.MethodName)) ∈ lw_all := lw_g (lw_at lw_m3 126 rfl) rfl
theorem q670 : (Jvm.Cond.code ({ cls := "java/lang/String", name := "indexOf", desc := "(II)I" } : Jvm.MethodName) prog_36_method_80_code (3 : Nat) (Option.some Jvm.ClassFile.FieldType.int)) ∈ lw_all := lw_g (lw_at lw_m3 127 rfl) rfl
theorem q671 : (Jvm.Cond.methodLink "java/lang/String" (492 : Nat) ({ cls := "java/lang/String", name := "isLatin1", desc := "()Z" } : Jvm.MethodName)) ∈ lw_all := lw_g (lw_at lw_m3 128 rfl) rfl
theorem q672 : (Jvm.Cond.instanceMethod ({ cls := "java/lang/String", name := "isLatin1", desc := "()Z" } : Jvm.MethodName)) ∈ lw_all := lw_g (lw_at lw_m3 129 rfl) rfl
theorem q673 : (Jvm.Cond.selects "java/lang/String" ({ cls := "java/lang/String", name := "isLatin1", desc := "()Z" } : Jvm.MethodName) ({ cls := "java/lang/String", name := "isLatin1", desc := "()Z" } : Jvm.MethodName)) ∈ lw_all := lw_g (lw_at lw_m3 130 rfl) rfl
theorem q674 : (Jvm.Cond.code ({ cls := "java/lang/String", name := "isLatin1", desc := "()Z" } : Jvm.MethodName) prog_36_method_154_code (1 : Nat) (Option.some Jvm.ClassFile.FieldType.boolean)) ∈ lw_all := lw_g (lw_at lw_m3 131 rfl) rfl
theorem q675 : (Jvm.Cond.methodLink "java/lang/String" (505 : Nat) ({ cls := "java/lang/String", name := "length", desc := "()I" } : Jvm.MethodName)) ∈ lw_all := lw_g (lw_at lw_m3 132 rfl) rfl
theorem q676 : (Jvm.Cond.instanceMethod ({ cls := "java/lang/String", name := "length", desc := "()I" } : Jvm.MethodName)) ∈ lw_all := lw_g (lw_at lw_m3 133 rfl) rfl
theorem q677 : (Jvm.Cond.selects "java/lang/String" ({ cls := "java/lang/String", name := "length", desc := "()I" } : Jvm.MethodName) ({ cls := "java/lang/String", name := "length", desc := "()I" } : Jvm.MethodName)) ∈ lw_all := lw_g (lw_at lw_m3 134 rfl) rfl
theorem q678 : (Jvm.Cond.code ({ cls := "java/lang/String", name := "length", desc := "()I" } : Jvm.MethodName) prog_36_method_54_code (1 : Nat) (Option.some Jvm.ClassFile.FieldType.int)) ∈ lw_all := lw_g (lw_at lw_m3 135 rfl) rfl
theorem q679 : (Jvm.Cond.methodLink "java/lang/String" (335 : Nat) ({ cls := "java/lang/String", name := "coder", desc := "()B" } : Jvm.MethodName)) ∈ lw_all := lw_g (lw_at lw_m3 136 rfl) rfl
theorem q680 : (Jvm.Cond.instanceMethod ({ cls := "java/lang/String", name := "coder", desc := "()B" } : Jvm.MethodName)) ∈ lw_all := lw_g (lw_at lw_m3 137 rfl) rfl
theorem q681 : (Jvm.Cond.selects "java/lang/String" ({ cls := "java/lang/String", name := "coder", desc := "()B" } : Jvm.MethodName) ({ cls := "java/lang/String", name := "coder", desc := "()B" } : Jvm.MethodName)) ∈ lw_all := lw_g (lw_at lw_m3 138 rfl) rfl
theorem q682 : (Jvm.Cond.code ({ cls := "java/lang/String", name := "coder", desc := "()B" } : Jvm.MethodName) prog_36_method_152_code (1 : Nat) (Option.some Jvm.ClassFile.FieldType.byte)) ∈ lw_all := lw_g (lw_at lw_m3 139 rfl) rfl
theorem q683 : (Jvm.Cond.methodLink "java/lang/String" (637 : Nat) ({ cls := "java/lang/StringLatin1", name := "indexOf", desc := "([BIII)I" } : Jvm.MethodName)) ∈ lw_all := lw_g (lw_at lw_m3 140 rfl) rfl
theorem q694 : (Jvm.Cond.methodLink "java/lang/String" (640 : Nat) ({ cls := "java/lang/StringUTF16", name := "indexOf", desc := "([BIII)I" } : Jvm.MethodName)) ∈ lw_all := lw_g (lw_at lw_m3 151 rfl) rfl
theorem q707 : (Jvm.Cond.static ({ cls := "java/lang/String", name := "checkBoundsBeginEnd", desc := "(III)V" } : Jvm.MethodName)) ∈ lw_all := lw_g (lw_at lw_m3 164 rfl) rfl
theorem q708 : (Jvm.Cond.code ({ cls := "java/lang/String", name := "checkBoundsBeginEnd", desc := "(III)V" } : Jvm.MethodName) prog_36_method_158_code (3 : Nat) (Option.none : Option Jvm.ClassFile.FieldType)) ∈ lw_all := lw_g (lw_at lw_m3 165 rfl) rfl
theorem q709 : (Jvm.Cond.methodLink "java/lang/String" (1062 : Nat) ({ cls := "jdk/internal/util/Preconditions", name := "checkFromToIndex", desc := "(IIILjava/util/function/BiFunction;)I" } : Jvm.MethodName)) ∈ lw_all := lw_g (lw_at lw_m3 166 rfl) rfl
theorem q735 : (Jvm.Cond.instanceMethod ({ cls := "java/lang/String", name := "equals", desc := "(Ljava/lang/Object;)Z" } : Jvm.MethodName)) ∈ lw_all := lw_g (lw_at lw_m3 192 rfl) rfl
theorem q736 : (Jvm.Cond.selects "java/lang/String" ({ cls := "java/lang/String", name := "equals", desc := "(Ljava/lang/Object;)Z" } : Jvm.MethodName) ({ cls := "java/lang/String", name := "equals", desc := "(Ljava/lang/Object;)Z" } : Jvm.MethodName)) ∈ lw_all := lw_g (lw_at lw_m3 193 rfl) rfl
theorem q737 : (Jvm.Cond.code ({ cls := "java/lang/String", name := "equals", desc := "(Ljava/lang/Object;)Z" } : Jvm.MethodName) prog_36_method_66_code (3 : Nat) (Option.some Jvm.ClassFile.FieldType.boolean)) ∈ lw_all := lw_g (lw_at lw_m3 194 rfl) rfl
theorem q738 : (Jvm.Cond.classLink "java/lang/String" (10 : Nat) "java/lang/String") ∈ lw_all := lw_g (lw_at lw_m3 195 rfl) rfl
theorem q739 : (Jvm.Cond.methodLink "java/lang/String" (541 : Nat) ({ cls := "java/lang/StringLatin1", name := "equals", desc := "([B[B)Z" } : Jvm.MethodName)) ∈ lw_all := lw_g (lw_at lw_m3 196 rfl) rfl
theorem q833 : (Jvm.Cond.instanceMethod ({ cls := "java/lang/String", name := "hashCode", desc := "()I" } : Jvm.MethodName)) ∈ lw_all := lw_g (lw_at lw_m4 50 rfl) rfl
theorem q834 : (Jvm.Cond.selects "java/lang/String" ({ cls := "java/lang/String", name := "hashCode", desc := "()I" } : Jvm.MethodName) ({ cls := "java/lang/String", name := "hashCode", desc := "()I" } : Jvm.MethodName)) ∈ lw_all := lw_g (lw_at lw_m4 51 rfl) rfl
theorem q835 : (Jvm.Cond.code ({ cls := "java/lang/String", name := "hashCode", desc := "()I" } : Jvm.MethodName) prog_36_method_78_code (2 : Nat) (Option.some Jvm.ClassFile.FieldType.int)) ∈ lw_all := lw_g (lw_at lw_m4 52 rfl) rfl
theorem q836 : (Jvm.Cond.methodLink "java/lang/String" (628 : Nat) ({ cls := "java/lang/StringLatin1", name := "hashCode", desc := "([B)I" } : Jvm.MethodName)) ∈ lw_all := lw_g (lw_at lw_m4 53 rfl) rfl
theorem q877 : (Jvm.Cond.methodLink "java/lang/String" (632 : Nat) ({ cls := "java/lang/StringUTF16", name := "hashCode", desc := "([B)I" } : Jvm.MethodName)) ∈ lw_all := lw_g (lw_at lw_m4 94 rfl) rfl
theorem q1039 : (Jvm.Cond.selects "java/lang/String" ({ cls := "java/lang/Object", name := "getClass", desc := "()Ljava/lang/Class;" } : Jvm.MethodName) ({ cls := "java/lang/Object", name := "getClass", desc := "()Ljava/lang/Class;" } : Jvm.MethodName)) ∈ lw_all := lw_g (lw_at lw_m5 16 rfl) rfl
theorem q1728 : (Jvm.Cond.castable "java/lang/String" "java/lang/Object") ∈ lw_tbl := lw_at lw_m7 225 rfl
theorem in_J5 : ∀ w ∈ wsJ50, w ∈ lw_all := lw_in wsJ50 [649, 651, 653, 655] (by decide +kernel) (by decide +kernel)
/-! java/lang/StringUTF16 -/
def RJ6 : String := "java/lang/StringUTF16"
abbrev cJ6_newBytesFor : ByteArray := prog_39_method_2_code
def yJ6_newBytesFor : MethodName := ⟨RJ6, "newBytesFor", "(I)[B"⟩
abbrev cJ6_newBytesLength : ByteArray := prog_39_method_3_code
def yJ6_newBytesLength : MethodName := ⟨RJ6, "newBytesLength", "(I)I"⟩
abbrev cJ6_inflate : ByteArray := prog_39_method_86_code
def yJ6_inflate : MethodName := ⟨RJ6, "inflate", "([BI[BII)V"⟩
abbrev cJ6_checkBoundsOffCount : ByteArray := prog_39_method_94_code
def yJ6_checkBoundsOffCount : MethodName := ⟨RJ6, "checkBoundsOffCount", "(II[B)V"⟩
abbrev cJ6_length : ByteArray := prog_39_method_6_code
def yJ6_length : MethodName := ⟨RJ6, "length", "([B)I"⟩
abbrev cJ6_putChar : ByteArray := prog_39_method_4_code
def yJ6_putChar : MethodName := ⟨RJ6, "putChar", "([BII)V"⟩
abbrev cJ6_putCharSB : ByteArray := prog_39_method_71_code
def yJ6_putCharSB : MethodName := ⟨RJ6, "putCharSB", "([BII)V"⟩
abbrev cJ6_checkIndex : ByteArray := prog_39_method_91_code
def yJ6_checkIndex : MethodName := ⟨RJ6, "checkIndex", "(I[B)V"⟩
abbrev cJ6_compress : ByteArray := prog_39_method_17_code
def yJ6_compress : MethodName := ⟨RJ6, "compress", "([BII)[B"⟩
abbrev cJ6_compress_2 : ByteArray := prog_39_method_22_code
def yJ6_compress_2 : MethodName := ⟨RJ6, "compress", "([BI[BII)I"⟩
abbrev cJ6_getChar : ByteArray := prog_39_method_5_code
def yJ6_getChar : MethodName := ⟨RJ6, "getChar", "([BI)C"⟩
abbrev cJ6_coderFromArrayLen : ByteArray := prog_39_method_15_code
def yJ6_coderFromArrayLen : MethodName := ⟨RJ6, "coderFromArrayLen", "([BI)B"⟩
abbrev cJ6_indexOf : ByteArray := prog_39_method_40_code
def yJ6_indexOf : MethodName := ⟨RJ6, "indexOf", "([BIII)I"⟩
abbrev cJ6_indexOfChar : ByteArray := prog_39_method_47_code
def yJ6_indexOfChar : MethodName := ⟨RJ6, "indexOfChar", "([BIII)I"⟩
abbrev cJ6_checkBoundsBeginEnd : ByteArray := prog_39_method_93_code
def yJ6_checkBoundsBeginEnd : MethodName := ⟨RJ6, "checkBoundsBeginEnd", "(II[B)V"⟩
abbrev cJ6_indexOfCharUnsafe : ByteArray := prog_39_method_48_code
def yJ6_indexOfCharUnsafe : MethodName := ⟨RJ6, "indexOfCharUnsafe", "([BIII)I"⟩
abbrev cJ6_indexOfSupplementary : ByteArray := prog_39_method_49_code
def yJ6_indexOfSupplementary : MethodName := ⟨RJ6, "indexOfSupplementary", "([BIII)I"⟩
abbrev cJ6_hashCode : ByteArray := prog_39_method_39_code
def yJ6_hashCode : MethodName := ⟨RJ6, "hashCode", "([B)I"⟩
theorem q77 : (Jvm.Cond.initialized "java/lang/StringUTF16") ∈ lw_all := lw_g (lw_at lw_m1 14 rfl) rfl
theorem q483 : (Jvm.Cond.static ({ cls := "java/lang/StringUTF16", name := "newBytesFor", desc := "(I)[B" } : Jvm.MethodName)) ∈ lw_all := lw_g (lw_at lw_m2 180 rfl) rfl
theorem q484 : (Jvm.Cond.code ({ cls := "java/lang/StringUTF16", name := "newBytesFor", desc := "(I)[B" } : Jvm.MethodName) prog_39_method_2_code (1 : Nat) (Option.some (Jvm.ClassFile.FieldType.array Jvm.ClassFile.FieldType.byte))) ∈ lw_all := lw_g (lw_at lw_m2 181 rfl) rfl
theorem q485 : (Jvm.Cond.methodLink "java/lang/StringUTF16" (11 : Nat) ({ cls := "java/lang/StringUTF16", name := "newBytesLength", desc := "(I)I" } : Jvm.MethodName)) ∈ lw_all := lw_g (lw_at lw_m2 182 rfl) rfl
theorem q486 : (Jvm.Cond.static ({ cls := "java/lang/StringUTF16", name := "newBytesLength", desc := "(I)I" } : Jvm.MethodName)) ∈ lw_all := lw_g (lw_at lw_m2 183 rfl) rfl
theorem q487 : (Jvm.Cond.code ({ cls := "java/lang/StringUTF16", name := "newBytesLength", desc := "(I)I" } : Jvm.MethodName) prog_39_method_3_code (1 : Nat) (Option.some Jvm.ClassFile.FieldType.int)) ∈ lw_all := lw_g (lw_at lw_m2 184 rfl) rfl
theorem q488 : (Jvm.Cond.constant "java/lang/StringUTF16" (20 : Nat) (1073741823 : Int32)) ∈ lw_all := lw_g (lw_at lw_m2 185 rfl) rfl
theorem q558 : (Jvm.Cond.static ({ cls := "java/lang/StringUTF16", name := "inflate", desc := "([BI[BII)V" } : Jvm.MethodName)) ∈ lw_all := lw_g (lw_at lw_m3 15 rfl) rfl
theorem q559 : (Jvm.Cond.code ({ cls := "java/lang/StringUTF16", name := "inflate", desc := "([BI[BII)V" } : Jvm.MethodName) prog_39_method_86_code (6 : Nat) (Option.none : Option Jvm.ClassFile.FieldType)) ∈ lw_all := lw_g (lw_at lw_m3 16 rfl) rfl
theorem q560 : (Jvm.Cond.methodLink "java/lang/StringUTF16" (173 : Nat) ({ cls := "java/lang/StringUTF16", name := "checkBoundsOffCount", desc := "(II[B)V" } : Jvm.MethodName)) ∈ lw_all := lw_g (lw_at lw_m3 17 rfl) rfl
theorem q561 : (Jvm.Cond.static ({ cls := "java/lang/StringUTF16", name := "checkBoundsOffCount", desc := "(II[B)V" } : Jvm.MethodName)) ∈ lw_all := lw_g (lw_at lw_m3 18 rfl) rfl
theorem q562 : (Jvm.Cond.code ({ cls := "java/lang/StringUTF16", name := "checkBoundsOffCount", desc := "(II[B)V" } : Jvm.MethodName) prog_39_method_94_code (3 : Nat) (Option.none : Option Jvm.ClassFile.FieldType)) ∈ lw_all := lw_g (lw_at lw_m3 19 rfl) rfl
theorem q563 : (Jvm.Cond.methodLink "java/lang/StringUTF16" (48 : Nat) ({ cls := "java/lang/StringUTF16", name := "length", desc := "([B)I" } : Jvm.MethodName)) ∈ lw_all := lw_g (lw_at lw_m3 20 rfl) rfl
theorem q564 : (Jvm.Cond.static ({ cls := "java/lang/StringUTF16", name := "length", desc := "([B)I" } : Jvm.MethodName)) ∈ lw_all := lw_g (lw_at lw_m3 21 rfl) rfl
theorem q565 : (Jvm.Cond.code ({ cls := "java/lang/StringUTF16", name := "length", desc := "([B)I" } : Jvm.MethodName) prog_39_method_6_code (1 : Nat) (Option.some Jvm.ClassFile.FieldType.int)) ∈ lw_all := lw_g (lw_at lw_m3 22 rfl) rfl
theorem q566 : (Jvm.Cond.methodLink "java/lang/StringUTF16" (419 : Nat) ({ cls := "java/lang/String", name := "checkBoundsOffCount", desc := "(III)I" } : Jvm.MethodName)) ∈ lw_all := lw_g (lw_at lw_m3 23 rfl) rfl
theorem q574 : (Jvm.Cond.methodLink "java/lang/StringUTF16" (111 : Nat) ({ cls := "java/lang/StringUTF16", name := "putChar", desc := "([BII)V" } : Jvm.MethodName)) ∈ lw_all := lw_g (lw_at lw_m3 31 rfl) rfl
theorem q575 : (Jvm.Cond.static ({ cls := "java/lang/StringUTF16", name := "putChar", desc := "([BII)V" } : Jvm.MethodName)) ∈ lw_all := lw_g (lw_at lw_m3 32 rfl) rfl
theorem q576 : (Jvm.Cond.code ({ cls := "java/lang/StringUTF16", name := "putChar", desc := "([BII)V" } : Jvm.MethodName) prog_39_method_4_code (3 : Nat) (Option.none : Option Jvm.ClassFile.FieldType)) ∈ lw_all := lw_g (lw_at lw_m3 33 rfl) rfl
theorem q577 : (Jvm.Cond.fieldLink "java/lang/StringUTF16" (44 : Nat) "java/lang/StringUTF16" "$assertionsDisabled" "Z") ∈ lw_all := lw_g (lw_at lw_m3 34 rfl) rfl
theorem q578 : (Jvm.Cond.laysStatic "java/lang/StringUTF16" "$assertionsDisabled" "Z") ∈ lw_tbl := lw_at lw_m3 35 rfl
theorem q579 : (Jvm.Cond.fieldLink "java/lang/StringUTF16" (59 : Nat) "java/lang/StringUTF16" "HI_BYTE_SHIFT" "I") ∈ lw_all := lw_g (lw_at lw_m3 36 rfl) rfl
theorem q580 : (Jvm.Cond.laysStatic "java/lang/StringUTF16" "HI_BYTE_SHIFT" "I") ∈ lw_tbl := lw_at lw_m3 37 rfl
theorem q581 : (Jvm.Cond.fieldLink "java/lang/StringUTF16" (63 : Nat) "java/lang/StringUTF16" "LO_BYTE_SHIFT" "I") ∈ lw_all := lw_g (lw_at lw_m3 38 rfl) rfl
theorem q582 : (Jvm.Cond.laysStatic "java/lang/StringUTF16" "LO_BYTE_SHIFT" "I") ∈ lw_tbl := lw_at lw_m3 39 rfl
theorem q584 : (Jvm.Cond.static ({ cls := "java/lang/StringUTF16", name := "putCharSB", desc := "([BII)V" } : Jvm.MethodName)) ∈ lw_all := lw_g (lw_at lw_m3 41 rfl) rfl
theorem q585 : (Jvm.Cond.code ({ cls := "java/lang/StringUTF16", name := "putCharSB", desc := "([BII)V" } : Jvm.MethodName) prog_39_method_71_code (3 : Nat) (Option.none : Option Jvm.ClassFile.FieldType)) ∈ lw_all := lw_g (lw_at lw_m3 42 rfl) rfl
theorem q586 : (Jvm.Cond.methodLink "java/lang/StringUTF16" (67 : Nat) ({ cls := "java/lang/StringUTF16", name := "checkIndex", desc := "(I[B)V" } : Jvm.MethodName)) ∈ lw_all := lw_g (lw_at lw_m3 43 rfl) rfl
theorem q587 : (Jvm.Cond.static ({ cls := "java/lang/StringUTF16", name := "checkIndex", desc := "(I[B)V" } : Jvm.MethodName)) ∈ lw_all := lw_g (lw_at lw_m3 44 rfl) rfl
theorem q588 : (Jvm.Cond.code ({ cls := "java/lang/StringUTF16", name := "checkIndex", desc := "(I[B)V" } : Jvm.MethodName) prog_39_method_91_code (2 : Nat) (Option.none : Option Jvm.ClassFile.FieldType)) ∈ lw_all := lw_g (lw_at lw_m3 45 rfl) rfl
theorem q589 : (Jvm.Cond.methodLink "java/lang/StringUTF16" (414 : Nat) ({ cls := "java/lang/String", name := "checkIndex", desc := "(II)V" } : Jvm.MethodName)) ∈ lw_all := lw_g (lw_at lw_m3 46 rfl) rfl
theorem q633 : (Jvm.Cond.static ({ cls := "java/lang/StringUTF16", name := "compress", desc := "([BII)[B" } : Jvm.MethodName)) ∈ lw_all := lw_g (lw_at lw_m3 90 rfl) rfl
theorem q634 : (Jvm.Cond.code ({ cls := "java/lang/StringUTF16", name := "compress", desc := "([BII)[B" } : Jvm.MethodName) prog_39_method_17_code (6 : Nat) (Option.some (Jvm.ClassFile.FieldType.array Jvm.ClassFile.FieldType.byte))) ∈ lw_all := lw_g (lw_at lw_m3 91 rfl) rfl
theorem q635 : (Jvm.Cond.methodLink "java/lang/StringUTF16" (123 : Nat) ({ cls := "java/lang/StringUTF16", name := "compress", desc := "([BI[BII)I" } : Jvm.MethodName)) ∈ lw_all := lw_g (lw_at lw_m3 92 rfl) rfl
theorem q636 : (Jvm.Cond.static ({ cls := "java/lang/StringUTF16", name := "compress", desc := "([BI[BII)I" } : Jvm.MethodName)) ∈ lw_all := lw_g (lw_at lw_m3 93 rfl) rfl
theorem q637 : (Jvm.Cond.code ({ cls := "java/lang/StringUTF16", name := "compress", desc := "([BI[BII)I" } : Jvm.MethodName) prog_39_method_22_code (7 : Nat) (Option.some Jvm.ClassFile.FieldType.int)) ∈ lw_all := lw_g (lw_at lw_m3 94 rfl) rfl
theorem q638 : (Jvm.Cond.methodLink "java/lang/StringUTF16" (71 : Nat) ({ cls := "java/lang/StringUTF16", name := "getChar", desc := "([BI)C" } : Jvm.MethodName)) ∈ lw_all := lw_g (lw_at lw_m3 95 rfl) rfl
theorem q639 : (Jvm.Cond.static ({ cls := "java/lang/StringUTF16", name := "getChar", desc := "([BI)C" } : Jvm.MethodName)) ∈ lw_all := lw_g (lw_at lw_m3 96 rfl) rfl
theorem q640 : (Jvm.Cond.code ({ cls := "java/lang/StringUTF16", name := "getChar", desc := "([BI)C" } : Jvm.MethodName) prog_39_method_5_code (2 : Nat) (Option.some Jvm.ClassFile.FieldType.char)) ∈ lw_all := lw_g (lw_at lw_m3 97 rfl) rfl
theorem q641 : (Jvm.Cond.methodLink "java/lang/StringUTF16" (126 : Nat) ({ cls := "java/util/Arrays", name := "copyOfRange", desc := "([BII)[B" } : Jvm.MethodName)) ∈ lw_all := lw_g (lw_at lw_m3 98 rfl) rfl
theorem q643 : (Jvm.Cond.static ({ cls := "java/lang/StringUTF16", name := "coderFromArrayLen", desc := "([BI)B" } : Jvm.MethodName)) ∈ lw_all := lw_g (lw_at lw_m3 100 rfl) rfl
theorem q644 : (Jvm.Cond.code ({ cls := "java/lang/StringUTF16", name := "coderFromArrayLen", desc := "([BI)B" } : Jvm.MethodName) prog_39_method_15_code (2 : Nat) (Option.some Jvm.ClassFile.FieldType.byte)) ∈ lw_all := lw_g (lw_at lw_m3 101 rfl) rfl
theorem q695 : (Jvm.Cond.static ({ cls := "java/lang/StringUTF16", name := "indexOf", desc := "([BIII)I" } : Jvm.MethodName)) ∈ lw_all := lw_g (lw_at lw_m3 152 rfl) rfl
theorem q696 : (Jvm.Cond.code ({ cls := "java/lang/StringUTF16", name := "indexOf", desc := "([BIII)I" } : Jvm.MethodName) prog_39_method_40_code (4 : Nat) (Option.some Jvm.ClassFile.FieldType.int)) ∈ lw_all := lw_g (lw_at lw_m3 153 rfl) rfl
theorem q697 : (Jvm.Cond.methodLink "java/lang/StringUTF16" (224 : Nat) ({ cls := "java/lang/Math", name := "max", desc := "(II)I" } : Jvm.MethodName)) ∈ lw_all := lw_g (lw_at lw_m3 154 rfl) rfl
theorem q698 : (Jvm.Cond.methodLink "java/lang/StringUTF16" (183 : Nat) ({ cls := "java/lang/Math", name := "min", desc := "(II)I" } : Jvm.MethodName)) ∈ lw_all := lw_g (lw_at lw_m3 155 rfl) rfl
theorem q699 : (Jvm.Cond.constant "java/lang/StringUTF16" (227 : Nat) (65536 : Int32)) ∈ lw_all := lw_g (lw_at lw_m3 156 rfl) rfl
theorem q700 : (Jvm.Cond.methodLink "java/lang/StringUTF16" (228 : Nat) ({ cls := "java/lang/StringUTF16", name := "indexOfChar", desc := "([BIII)I" } : Jvm.MethodName)) ∈ lw_all := lw_g (lw_at lw_m3 157 rfl) rfl
theorem q701 : (Jvm.Cond.static ({ cls := "java/lang/StringUTF16", name := "indexOfChar", desc := "([BIII)I" } : Jvm.MethodName)) ∈ lw_all := lw_g (lw_at lw_m3 158 rfl) rfl
theorem q702 : (Jvm.Cond.code ({ cls := "java/lang/StringUTF16", name := "indexOfChar", desc := "([BIII)I" } : Jvm.MethodName) prog_39_method_47_code (4 : Nat) (Option.some Jvm.ClassFile.FieldType.int)) ∈ lw_all := lw_g (lw_at lw_m3 159 rfl) rfl
theorem q703 : (Jvm.Cond.methodLink "java/lang/StringUTF16" (96 : Nat) ({ cls := "java/lang/StringUTF16", name := "checkBoundsBeginEnd", desc := "(II[B)V" } : Jvm.MethodName)) ∈ lw_all := lw_g (lw_at lw_m3 160 rfl) rfl
theorem q704 : (Jvm.Cond.static ({ cls := "java/lang/StringUTF16", name := "checkBoundsBeginEnd", desc := "(II[B)V" } : Jvm.MethodName)) ∈ lw_all := lw_g (lw_at lw_m3 161 rfl) rfl
theorem q705 : (Jvm.Cond.code ({ cls := "java/lang/StringUTF16", name := "checkBoundsBeginEnd", desc := "(II[B)V" } : Jvm.MethodName) prog_39_method_93_code (3 : Nat) (Option.none : Option Jvm.ClassFile.FieldType)) ∈ lw_all := lw_g (lw_at lw_m3 162 rfl) rfl
theorem q706 : (Jvm.Cond.methodLink "java/lang/StringUTF16" (241 : Nat) ({ cls := "java/lang/String", name := "checkBoundsBeginEnd", desc := "(III)V" } : Jvm.MethodName)) ∈ lw_all := lw_g (lw_at lw_m3 163 rfl) rfl
theorem q712 : (Jvm.Cond.methodLink "java/lang/StringUTF16" (244 : Nat) ({ cls := "java/lang/StringUTF16", name := "indexOfCharUnsafe", desc := "([BIII)I" } : Jvm.MethodName)) ∈ lw_all := lw_g (lw_at lw_m3 169 rfl) rfl
theorem q713 : (Jvm.Cond.static ({ cls := "java/lang/StringUTF16", name := "indexOfCharUnsafe", desc := "([BIII)I" } : Jvm.MethodName)) ∈ lw_all := lw_g (lw_at lw_m3 170 rfl) rfl
theorem q714 : (Jvm.Cond.code ({ cls := "java/lang/StringUTF16", name := "indexOfCharUnsafe", desc := "([BIII)I" } : Jvm.MethodName) prog_39_method_48_code (5 : Nat) (Option.some Jvm.ClassFile.FieldType.int)) ∈ lw_all := lw_g (lw_at lw_m3 171 rfl) rfl
theorem q715 : (Jvm.Cond.methodLink "java/lang/StringUTF16" (232 : Nat) ({ cls := "java/lang/StringUTF16", name := "indexOfSupplementary", desc := "([BIII)I" } : Jvm.MethodName)) ∈ lw_all := lw_g (lw_at lw_m3 172 rfl) rfl
theorem q716 : (Jvm.Cond.static ({ cls := "java/lang/StringUTF16", name := "indexOfSupplementary", desc := "([BIII)I" } : Jvm.MethodName)) ∈ lw_all := lw_g (lw_at lw_m3 173 rfl) rfl
theorem q717 : (Jvm.Cond.code ({ cls := "java/lang/StringUTF16", name := "indexOfSupplementary", desc := "([BIII)I" } : Jvm.MethodName) prog_39_method_49_code (7 : Nat) (Option.some Jvm.ClassFile.FieldType.int)) ∈ lw_all := lw_g (lw_at lw_m3 174 rfl) rfl
theorem q718 : (Jvm.Cond.methodLink "java/lang/StringUTF16" (164 : Nat) ({ cls := "java/lang/Character", name := "isValidCodePoint", desc := "(I)Z" } : Jvm.MethodName)) ∈ lw_all := lw_g (lw_at lw_m3 175 rfl) rfl
theorem q721 : (Jvm.Cond.methodLink "java/lang/StringUTF16" (157 : Nat) ({ cls := "java/lang/Character", name := "highSurrogate", desc := "(I)C" } : Jvm.MethodName)) ∈ lw_all := lw_g (lw_at lw_m3 178 rfl) rfl
theorem q725 : (Jvm.Cond.methodLink "java/lang/StringUTF16" (161 : Nat) ({ cls := "java/lang/Character", name := "lowSurrogate", desc := "(I)C" } : Jvm.MethodName)) ∈ lw_all := lw_g (lw_at lw_m3 182 rfl) rfl
theorem q878 : (Jvm.Cond.static ({ cls := "java/lang/StringUTF16", name := "hashCode", desc := "([B)I" } : Jvm.MethodName)) ∈ lw_all := lw_g (lw_at lw_m4 95 rfl) rfl
theorem q879 : (Jvm.Cond.code ({ cls := "java/lang/StringUTF16", name := "hashCode", desc := "([B)I" } : Jvm.MethodName) prog_39_method_39_code (1 : Nat) (Option.some Jvm.ClassFile.FieldType.int)) ∈ lw_all := lw_g (lw_at lw_m4 96 rfl) rfl
theorem q880 : (Jvm.Cond.methodLink "java/lang/StringUTF16" (220 : Nat) ({ cls := "jdk/internal/util/ArraysSupport", name := "vectorizedHashCode", desc := "(Ljava/lang/Object;IIII)I" } : Jvm.MethodName)) ∈ lw_all := lw_g (lw_at lw_m4 97 rfl) rfl
/-! jdk/internal/util/ArraysSupport -/
def RJ7 : String := "jdk/internal/util/ArraysSupport"
abbrev cJ7_newLength : ByteArray := prog_55_method_27_code
def yJ7_newLength : MethodName := ⟨RJ7, "newLength", "(III)I"⟩
abbrev cJ7_hugeLength : ByteArray := prog_55_method_28_code
def yJ7_hugeLength : MethodName := ⟨RJ7, "hugeLength", "(II)I"⟩
abbrev cJ7_vectorizedHashCode : ByteArray := prog_55_method_4_code
def yJ7_vectorizedHashCode : MethodName := ⟨RJ7, "vectorizedHashCode", "(Ljava/lang/Object;IIII)I"⟩
abbrev cJ7_signedHashCode : ByteArray := prog_55_method_5_code
def yJ7_signedHashCode : MethodName := ⟨RJ7, "signedHashCode", "(I[BII)I"⟩
abbrev cJ7_utf16hashCode : ByteArray := prog_55_method_10_code
def yJ7_utf16hashCode : MethodName := ⟨RJ7, "utf16hashCode", "(I[BII)I"⟩
abbrev cJ7_hashCode : ByteArray := prog_55_method_7_code
def yJ7_hashCode : MethodName := ⟨RJ7, "hashCode", "(I[CII)I"⟩
abbrev cJ7_hashCode_2 : ByteArray := prog_55_method_6_code
def yJ7_hashCode_2 : MethodName := ⟨RJ7, "hashCode", "(I[BII)I"⟩
abbrev cJ7_hashCode_3 : ByteArray := prog_55_method_8_code
def yJ7_hashCode_3 : MethodName := ⟨RJ7, "hashCode", "(I[SII)I"⟩
abbrev cJ7_hashCode_4 : ByteArray := prog_55_method_9_code
def yJ7_hashCode_4 : MethodName := ⟨RJ7, "hashCode", "(I[III)I"⟩
theorem q78 : (Jvm.Cond.initialized "jdk/internal/util/ArraysSupport") ∈ lw_all := lw_g (lw_at lw_m1 15 rfl) rfl
theorem q518 : (Jvm.Cond.static ({ cls := "jdk/internal/util/ArraysSupport", name := "newLength", desc := "(III)I" } : Jvm.MethodName)) ∈ lw_all := lw_g (lw_at lw_m2 215 rfl) rfl
theorem q519 : (Jvm.Cond.code ({ cls := "jdk/internal/util/ArraysSupport", name := "newLength", desc := "(III)I" } : Jvm.MethodName) prog_55_method_27_code (4 : Nat) (Option.some Jvm.ClassFile.FieldType.int)) ∈ lw_all := lw_g (lw_at lw_m2 216 rfl) rfl
theorem q520 : (Jvm.Cond.methodLink "jdk/internal/util/ArraysSupport" (194 : Nat) ({ cls := "java/lang/Math", name := "max", desc := "(II)I" } : Jvm.MethodName)) ∈ lw_all := lw_g (lw_at lw_m2 217 rfl) rfl
theorem q523 : (Jvm.Cond.constant "jdk/internal/util/ArraysSupport" (200 : Nat) (2147483639 : Int32)) ∈ lw_all := lw_g (lw_at lw_m2 220 rfl) rfl
theorem q524 : (Jvm.Cond.methodLink "jdk/internal/util/ArraysSupport" (201 : Nat) ({ cls := "jdk/internal/util/ArraysSupport", name := "hugeLength", desc := "(II)I" } : Jvm.MethodName)) ∈ lw_all := lw_g (lw_at lw_m2 221 rfl) rfl
theorem q525 : (Jvm.Cond.static ({ cls := "jdk/internal/util/ArraysSupport", name := "hugeLength", desc := "(II)I" } : Jvm.MethodName)) ∈ lw_all := lw_g (lw_at lw_m2 222 rfl) rfl
theorem q526 : (Jvm.Cond.code ({ cls := "jdk/internal/util/ArraysSupport", name := "hugeLength", desc := "(II)I" } : Jvm.MethodName) prog_55_method_28_code (3 : Nat) (Option.some Jvm.ClassFile.FieldType.int)) ∈ lw_all := lw_g (lw_at lw_m2 223 rfl) rfl
theorem q840 : (Jvm.Cond.static ({ cls := "jdk/internal/util/ArraysSupport", name := "vectorizedHashCode", desc := "(Ljava/lang/Object;IIII)I" } : Jvm.MethodName)) ∈ lw_all := lw_g (lw_at lw_m4 57 rfl) rfl
theorem q841 : (Jvm.Cond.code ({ cls := "jdk/internal/util/ArraysSupport", name := "vectorizedHashCode", desc := "(Ljava/lang/Object;IIII)I" } : Jvm.MethodName) prog_55_method_4_code (5 : Nat) (Option.some Jvm.ClassFile.FieldType.int)) ∈ lw_all := lw_g (lw_at lw_m4 58 rfl) rfl
theorem q842 : (Jvm.Cond.classLink "jdk/internal/util/ArraysSupport" (60 : Nat) "[B") ∈ lw_all := lw_g (lw_at lw_m4 59 rfl) rfl
theorem q843 : (Jvm.Cond.methodLink "jdk/internal/util/ArraysSupport" (62 : Nat) ({ cls := "jdk/internal/util/ArraysSupport", name := "signedHashCode", desc := "(I[BII)I" } : Jvm.MethodName)) ∈ lw_all := lw_g (lw_at lw_m4 60 rfl) rfl
theorem q844 : (Jvm.Cond.static ({ cls := "jdk/internal/util/ArraysSupport", name := "signedHashCode", desc := "(I[BII)I" } : Jvm.MethodName)) ∈ lw_all := lw_g (lw_at lw_m4 61 rfl) rfl
theorem q845 : (Jvm.Cond.code ({ cls := "jdk/internal/util/ArraysSupport", name := "signedHashCode", desc := "(I[BII)I" } : Jvm.MethodName) prog_55_method_5_code (6 : Nat) (Option.some Jvm.ClassFile.FieldType.int)) ∈ lw_all := lw_g (lw_at lw_m4 62 rfl) rfl
theorem q846 : (Jvm.Cond.methodLink "jdk/internal/util/ArraysSupport" (66 : Nat) ({ cls := "jdk/internal/util/ArraysSupport", name := "utf16hashCode", desc := "(I[BII)I" } : Jvm.MethodName)) ∈ lw_all := lw_g (lw_at lw_m4 63 rfl) rfl
theorem q847 : (Jvm.Cond.static ({ cls := "jdk/internal/util/ArraysSupport", name := "utf16hashCode", desc := "(I[BII)I" } : Jvm.MethodName)) ∈ lw_all := lw_g (lw_at lw_m4 64 rfl) rfl
theorem q848 : (Jvm.Cond.code ({ cls := "jdk/internal/util/ArraysSupport", name := "utf16hashCode", desc := "(I[BII)I" } : Jvm.MethodName) prog_55_method_10_code (6 : Nat) (Option.some Jvm.ClassFile.FieldType.int)) ∈ lw_all := lw_g (lw_at lw_m4 65 rfl) rfl
theorem q849 : (Jvm.Cond.fieldLink "jdk/internal/util/ArraysSupport" (106 : Nat) "jdk/internal/util/ArraysSupport" "JLA" "Ljdk/internal/access/JavaLangAccess;") ∈ lw_all := lw_g (lw_at lw_m4 66 rfl) rfl
theorem q850 : (Jvm.Cond.laysStatic "jdk/internal/util/ArraysSupport" "JLA" "Ljdk/internal/access/JavaLangAccess;") ∈ lw_tbl := lw_at lw_m4 67 rfl
theorem q851 : (Jvm.Cond.interfaceEntry "jdk/internal/util/ArraysSupport" (110 : Nat)) ∈ lw_tbl := lw_at lw_m4 68 rfl
theorem q852 : (Jvm.Cond.methodLink "jdk/internal/util/ArraysSupport" (110 : Nat) ({ cls := "jdk/internal/access/JavaLangAccess", name := "getUTF16Char", desc := "([BI)C" } : Jvm.MethodName)) ∈ lw_all := lw_g (lw_at lw_m4 69 rfl) rfl
theorem q862 : (Jvm.Cond.classLink "jdk/internal/util/ArraysSupport" (69 : Nat) "[C") ∈ lw_all := lw_g (lw_at lw_m4 79 rfl) rfl
theorem q863 : (Jvm.Cond.methodLink "jdk/internal/util/ArraysSupport" (71 : Nat) ({ cls := "jdk/internal/util/ArraysSupport", name := "hashCode", desc := "(I[CII)I" } : Jvm.MethodName)) ∈ lw_all := lw_g (lw_at lw_m4 80 rfl) rfl
theorem q864 : (Jvm.Cond.static ({ cls := "jdk/internal/util/ArraysSupport", name := "hashCode", desc := "(I[CII)I" } : Jvm.MethodName)) ∈ lw_all := lw_g (lw_at lw_m4 81 rfl) rfl
theorem q865 : (Jvm.Cond.code ({ cls := "jdk/internal/util/ArraysSupport", name := "hashCode", desc := "(I[CII)I" } : Jvm.MethodName) prog_55_method_7_code (6 : Nat) (Option.some Jvm.ClassFile.FieldType.int)) ∈ lw_all := lw_g (lw_at lw_m4 82 rfl) rfl
theorem q866 : (Jvm.Cond.methodLink "jdk/internal/util/ArraysSupport" (75 : Nat) ({ cls := "jdk/internal/util/ArraysSupport", name := "hashCode", desc := "(I[BII)I" } : Jvm.MethodName)) ∈ lw_all := lw_g (lw_at lw_m4 83 rfl) rfl
theorem q867 : (Jvm.Cond.static ({ cls := "jdk/internal/util/ArraysSupport", name := "hashCode", desc := "(I[BII)I" } : Jvm.MethodName)) ∈ lw_all := lw_g (lw_at lw_m4 84 rfl) rfl
theorem q868 : (Jvm.Cond.code ({ cls := "jdk/internal/util/ArraysSupport", name := "hashCode", desc := "(I[BII)I" } : Jvm.MethodName) prog_55_method_6_code (6 : Nat) (Option.some Jvm.ClassFile.FieldType.int)) ∈ lw_all := lw_g (lw_at lw_m4 85 rfl) rfl
theorem q869 : (Jvm.Cond.classLink "jdk/internal/util/ArraysSupport" (77 : Nat) "[S") ∈ lw_all := lw_g (lw_at lw_m4 86 rfl) rfl
theorem q870 : (Jvm.Cond.methodLink "jdk/internal/util/ArraysSupport" (79 : Nat) ({ cls := "jdk/internal/util/ArraysSupport", name := "hashCode", desc := "(I[SII)I" } : Jvm.MethodName)) ∈ lw_all := lw_g (lw_at lw_m4 87 rfl) rfl
theorem q871 : (Jvm.Cond.static ({ cls := "jdk/internal/util/ArraysSupport", name := "hashCode", desc := "(I[SII)I" } : Jvm.MethodName)) ∈ lw_all := lw_g (lw_at lw_m4 88 rfl) rfl
theorem q872 : (Jvm.Cond.code ({ cls := "jdk/internal/util/ArraysSupport", name := "hashCode", desc := "(I[SII)I" } : Jvm.MethodName) prog_55_method_8_code (6 : Nat) (Option.some Jvm.ClassFile.FieldType.int)) ∈ lw_all := lw_g (lw_at lw_m4 89 rfl) rfl
theorem q873 : (Jvm.Cond.classLink "jdk/internal/util/ArraysSupport" (82 : Nat) "[I") ∈ lw_all := lw_g (lw_at lw_m4 90 rfl) rfl
theorem q874 : (Jvm.Cond.methodLink "jdk/internal/util/ArraysSupport" (84 : Nat) ({ cls := "jdk/internal/util/ArraysSupport", name := "hashCode", desc := "(I[III)I" } : Jvm.MethodName)) ∈ lw_all := lw_g (lw_at lw_m4 91 rfl) rfl
theorem q875 : (Jvm.Cond.static ({ cls := "jdk/internal/util/ArraysSupport", name := "hashCode", desc := "(I[III)I" } : Jvm.MethodName)) ∈ lw_all := lw_g (lw_at lw_m4 92 rfl) rfl
theorem q876 : (Jvm.Cond.code ({ cls := "jdk/internal/util/ArraysSupport", name := "hashCode", desc := "(I[III)I" } : Jvm.MethodName) prog_55_method_9_code (6 : Nat) (Option.some Jvm.ClassFile.FieldType.int)) ∈ lw_all := lw_g (lw_at lw_m4 93 rfl) rfl
/-! java/lang/Math -/
def RJ8 : String := "java/lang/Math"
abbrev cJ8_max : ByteArray := prog_35_method_65_code
def yJ8_max : MethodName := ⟨RJ8, "max", "(II)I"⟩
abbrev cJ8_min : ByteArray := prog_35_method_69_code
def yJ8_min : MethodName := ⟨RJ8, "min", "(II)I"⟩
abbrev cJ8_min_2 : ByteArray := prog_35_method_70_code
def yJ8_min_2 : MethodName := ⟨RJ8, "min", "(JJ)J"⟩
theorem q79 : (Jvm.Cond.initialized "java/lang/Math") ∈ lw_all := lw_g (lw_at lw_m1 16 rfl) rfl
theorem q521 : (Jvm.Cond.static ({ cls := "java/lang/Math", name := "max", desc := "(II)I" } : Jvm.MethodName)) ∈ lw_all := lw_g (lw_at lw_m2 218 rfl) rfl
theorem q522 : (Jvm.Cond.code ({ cls := "java/lang/Math", name := "max", desc := "(II)I" } : Jvm.MethodName) prog_35_method_65_code (2 : Nat) (Option.some Jvm.ClassFile.FieldType.int)) ∈ lw_all := lw_g (lw_at lw_m2 219 rfl) rfl
theorem q537 : (Jvm.Cond.static ({ cls := "java/lang/Math", name := "min", desc := "(II)I" } : Jvm.MethodName)) ∈ lw_all := lw_g (lw_at lw_m2 234 rfl) rfl
theorem q538 : (Jvm.Cond.code ({ cls := "java/lang/Math", name := "min", desc := "(II)I" } : Jvm.MethodName) prog_35_method_69_code (2 : Nat) (Option.some Jvm.ClassFile.FieldType.int)) ∈ lw_all := lw_g (lw_at lw_m2 235 rfl) rfl
theorem q1199 : (Jvm.Cond.static ({ cls := "java/lang/Math", name := "min", desc := "(JJ)J" } : Jvm.MethodName)) ∈ lw_all := lw_g (lw_at lw_m5 176 rfl) rfl
theorem q1200 : (Jvm.Cond.code ({ cls := "java/lang/Math", name := "min", desc := "(JJ)J" } : Jvm.MethodName) prog_35_method_70_code (4 : Nat) (Option.some Jvm.ClassFile.FieldType.long)) ∈ lw_all := lw_g (lw_at lw_m5 177 rfl) rfl
/-! java/util/Arrays -/
def RJ9 : String := "java/util/Arrays"
abbrev cJ9_copyOf : ByteArray := prog_48_method_121_code
def yJ9_copyOf : MethodName := ⟨RJ9, "copyOf", "([BI)[B"⟩
abbrev cJ9_copyOfRange : ByteArray := prog_48_method_132_code
def yJ9_copyOfRange : MethodName := ⟨RJ9, "copyOfRange", "([BII)[B"⟩
abbrev cJ9_copyOfRangeByte : ByteArray := prog_48_method_133_code
def yJ9_copyOfRangeByte : MethodName := ⟨RJ9, "copyOfRangeByte", "([BII)[B"⟩
abbrev cJ9_checkLength : ByteArray := prog_48_method_131_code
def yJ9_checkLength : MethodName := ⟨RJ9, "checkLength", "(II)V"⟩
abbrev cJ9_copyOf_2 : ByteArray := prog_48_method_119_code
def yJ9_copyOf_2 : MethodName := ⟨RJ9, "copyOf", "([Ljava/lang/Object;I)[Ljava/lang/Object;"⟩
abbrev cJ9_copyOf_3 : ByteArray := prog_48_method_120_code
def yJ9_copyOf_3 : MethodName := ⟨RJ9, "copyOf", "([Ljava/lang/Object;ILjava/lang/Class;)[Ljava/lang/Object;"⟩
theorem q80 : (Jvm.Cond.initialized "java/util/Arrays") ∈ lw_all := lw_g (lw_at lw_m1 17 rfl) rfl
theorem q529 : (Jvm.Cond.static ({ cls := "java/util/Arrays", name := "copyOf", desc := "([BI)[B" } : Jvm.MethodName)) ∈ lw_all := lw_g (lw_at lw_m2 226 rfl) rfl
theorem q530 : (Jvm.Cond.code ({ cls := "java/util/Arrays", name := "copyOf", desc := "([BI)[B" } : Jvm.MethodName) prog_48_method_121_code (3 : Nat) (Option.some (Jvm.ClassFile.FieldType.array Jvm.ClassFile.FieldType.byte))) ∈ lw_all := lw_g (lw_at lw_m2 227 rfl) rfl
theorem q531 : (Jvm.Cond.methodLink "java/util/Arrays" (310 : Nat) ({ cls := "[B", name := "clone", desc := "()Ljava/lang/Object;" } : Jvm.MethodName)) ∈ lw_all := lw_g (lw_at lw_m2 228 rfl) rfl
theorem q535 : (Jvm.Cond.classLink "java/util/Arrays" (311 : Nat) "[B") ∈ lw_all := lw_g (lw_at lw_m2 232 rfl) rfl
theorem q536 : (Jvm.Cond.methodLink "java/util/Arrays" (304 : Nat) ({ cls := "java/lang/Math", name := "min", desc := "(II)I" } : Jvm.MethodName)) ∈ lw_all := lw_g (lw_at lw_m2 233 rfl) rfl
theorem q539 : (Jvm.Cond.methodLink "java/util/Arrays" (150 : Nat) ({ cls := "java/lang/System", name := "arraycopy", desc := "(Ljava/lang/Object;ILjava/lang/Object;II)V" } : Jvm.MethodName)) ∈ lw_all := lw_g (lw_at lw_m2 236 rfl) rfl
theorem q623 : (Jvm.Cond.static ({ cls := "java/util/Arrays", name := "copyOfRange", desc := "([BII)[B" } : Jvm.MethodName)) ∈ lw_all := lw_g (lw_at lw_m3 80 rfl) rfl
theorem q624 : (Jvm.Cond.code ({ cls := "java/util/Arrays", name := "copyOfRange", desc := "([BII)[B" } : Jvm.MethodName) prog_48_method_132_code (3 : Nat) (Option.some (Jvm.ClassFile.FieldType.array Jvm.ClassFile.FieldType.byte))) ∈ lw_all := lw_g (lw_at lw_m3 81 rfl) rfl
theorem q625 : (Jvm.Cond.methodLink "java/util/Arrays" (339 : Nat) ({ cls := "java/util/Arrays", name := "copyOfRangeByte", desc := "([BII)[B" } : Jvm.MethodName)) ∈ lw_all := lw_g (lw_at lw_m3 82 rfl) rfl
theorem q626 : (Jvm.Cond.static ({ cls := "java/util/Arrays", name := "copyOfRangeByte", desc := "([BII)[B" } : Jvm.MethodName)) ∈ lw_all := lw_g (lw_at lw_m3 83 rfl) rfl
theorem q627 : (Jvm.Cond.code ({ cls := "java/util/Arrays", name := "copyOfRangeByte", desc := "([BII)[B" } : Jvm.MethodName) prog_48_method_133_code (5 : Nat) (Option.some (Jvm.ClassFile.FieldType.array Jvm.ClassFile.FieldType.byte))) ∈ lw_all := lw_g (lw_at lw_m3 84 rfl) rfl
theorem q628 : (Jvm.Cond.methodLink "java/util/Arrays" (343 : Nat) ({ cls := "java/util/Arrays", name := "checkLength", desc := "(II)V" } : Jvm.MethodName)) ∈ lw_all := lw_g (lw_at lw_m3 85 rfl) rfl
theorem q629 : (Jvm.Cond.static ({ cls := "java/util/Arrays", name := "checkLength", desc := "(II)V" } : Jvm.MethodName)) ∈ lw_all := lw_g (lw_at lw_m3 86 rfl) rfl
theorem q630 : (Jvm.Cond.code ({ cls := "java/util/Arrays", name := "checkLength", desc := "(II)V" } : Jvm.MethodName) prog_48_method_131_code (2 : Nat) (Option.none : Option Jvm.ClassFile.FieldType)) ∈ lw_all := lw_g (lw_at lw_m3 87 rfl) rfl
theorem q1013 : (Jvm.Cond.static ({ cls := "java/util/Arrays", name := "copyOf", desc := "([Ljava/lang/Object;I)[Ljava/lang/Object;" } : Jvm.MethodName)) ∈ lw_all := lw_g (lw_at lw_m4 230 rfl) rfl
theorem q1014 : (Jvm.Cond.code ({ cls := "java/util/Arrays", name := "copyOf", desc := "([Ljava/lang/Object;I)[Ljava/lang/Object;" } : Jvm.MethodName) prog_48_method_119_code (2 : Nat) (Option.some (Jvm.ClassFile.FieldType.array (Jvm.ClassFile.FieldType.object "java/lang/Object")))) ∈ lw_all := lw_g (lw_at lw_m4 231 rfl) rfl
theorem q1015 : (Jvm.Cond.methodLink "java/util/Arrays" (86 : Nat) ({ cls := "java/lang/Object", name := "getClass", desc := "()Ljava/lang/Class;" } : Jvm.MethodName)) ∈ lw_all := lw_g (lw_at lw_m4 232 rfl) rfl
theorem q1044 : (Jvm.Cond.methodLink "java/util/Arrays" (300 : Nat) ({ cls := "java/util/Arrays", name := "copyOf", desc := "([Ljava/lang/Object;ILjava/lang/Class;)[Ljava/lang/Object;" } : Jvm.MethodName)) ∈ lw_all := lw_g (lw_at lw_m5 21 rfl) rfl
theorem q1045 : (Jvm.Cond.static ({ cls := "java/util/Arrays", name := "copyOf", desc := "([Ljava/lang/Object;ILjava/lang/Class;)[Ljava/lang/Object;" } : Jvm.MethodName)) ∈ lw_all := lw_g (lw_at lw_m5 22 rfl) rfl
theorem q1046 : (Jvm.Cond.code ({ cls := "java/util/Arrays", name := "copyOf", desc := "([Ljava/lang/Object;ILjava/lang/Class;)[Ljava/lang/Object;" } : Jvm.MethodName) prog_48_method_120_code (4 : Nat) (Option.some (Jvm.ClassFile.FieldType.array (Jvm.ClassFile.FieldType.object "java/lang/Object")))) ∈ lw_all := lw_g (lw_at lw_m5 23 rfl) rfl
theorem q1047 : (Jvm.Cond.classLink "java/util/Arrays" (110 : Nat) "[Ljava/lang/Object;") ∈ lw_all := lw_g (lw_at lw_m5 24 rfl) rfl
theorem q1048 : (Jvm.Cond.classLink "java/util/Arrays" (2 : Nat) "java/lang/Object") ∈ lw_all := lw_g (lw_at lw_m5 25 rfl) rfl
/-! the law's own entry -/
abbrev cL_law : ByteArray := code
/-! HomeRoll -/
def RX0 : String := "HomeRoll"
def TX0 : u_T := fun k => match k with
  | 0 => ("HomeRoll", "tape", "[B", true)
  | 1 => ("HomeRoll", "taped", "I", false)
  | 2 => ("HomeRoll", "faultKind", "I", false)
  | 3 => ("HomeRoll", "faultPlace", "I", false)
  | 4 => ("HomeRoll", "law", "Ljava/util/ArrayList;", false)
  | 5 => ("HomeRoll", "mother", "[I", true)
  | 6 => ("HomeRoll", "father", "[I", true)
  | 7 => ("HomeRoll", "deadOn", "[I", true)
  | 8 => ("HomeRoll", "holder", "[I", true)
  | 9 => ("HomeRoll", "worth", "[I", true)
  | 10 => ("HomeRoll", "level", "[I", true)
  | 11 => ("HomeRoll", "papers", "[LHomeRoll$Paper;", true)
  | 12 => ("HomeRoll", "claims", "[I", true)
  | 13 => ("HomeRoll", "people", "I", false)
  | 14 => ("HomeRoll", "houses", "I", false)
  | 15 => ("HomeRoll", "paperMany", "I", false)
  | 16 => ("HomeRoll", "today", "I", false)
  | 17 => ("HomeRoll", "claimMany", "I", false)
  | 18 => ("HomeRoll", "held", "I", false)
  | 19 => ("HomeRoll", "since", "I", false)
  | 20 => ("HomeRoll", "isLoose", "Z", false)
  | 21 => ("HomeRoll", "sinceThen", "I", false)
  | 22 => ("HomeRoll", "behind", "I", false)
  | 23 => ("HomeRoll", "view", "LHomeRoll$View;", true)
  | 24 => ("HomeRoll", "all", "[LHomeRoll$Known;", true)
  | 25 => ("HomeRoll", "part", "[J", true)
  | 26 => ("HomeRoll", "whole", "[J", true)
  | 27 => ("HomeRoll", "counts", "[Z", true)
  | 28 => ("HomeRoll", "joys", "[[I", true)
  | 29 => ("HomeRoll", "most", "[[I", true)
  | _ => ("HomeRoll", "wants", "I", false)
def tyX0 : Nat → FieldType := fun k => match k with
  | 0 => .array .byte
  | 1 => .int
  | 2 => .int
  | 3 => .int
  | 4 => .object "java/util/ArrayList"
  | 5 => .array .int
  | 6 => .array .int
  | 7 => .array .int
  | 8 => .array .int
  | 9 => .array .int
  | 10 => .array .int
  | 11 => .array (.object "HomeRoll$Paper")
  | 12 => .array .int
  | 13 => .int
  | 14 => .int
  | 15 => .int
  | 16 => .int
  | 17 => .int
  | 18 => .int
  | 19 => .int
  | 20 => .boolean
  | 21 => .int
  | 22 => .int
  | 23 => .object "HomeRoll$View"
  | 24 => .array (.object "HomeRoll$Known")
  | 25 => .array .long
  | 26 => .array .long
  | 27 => .array .boolean
  | 28 => .array (.array .int)
  | 29 => .array (.array .int)
  | _ => .int
abbrev wsX00 : List Cond := u_ws RX0 TX0 31
set_option maxRecDepth 100000 in
theorem nmX0 : ∀ a, a < 31 → ∀ b, b < 31 → a ≠ b → (TX0 a).2.1 ≠ (TX0 b).2.1 := by decide +kernel
set_option maxRecDepth 100000 in
theorem tyX0_ok : ∀ k, k < 31 → parseFieldDescriptor (TX0 k).2.2.1 = some (tyX0 k) := by decide +kernel
abbrev cX0_init : ByteArray := prog_1_method_1_code
def yX0_init : MethodName := ⟨RX0, "<init>", "()V"⟩
abbrev cX0_person : ByteArray := prog_1_method_6_code
def yX0_person : MethodName := ⟨RX0, "person", "(II)I"⟩
abbrev cX0_isPerson : ByteArray := prog_1_method_2_code
def yX0_isPerson : MethodName := ⟨RX0, "isPerson", "(I)Z"⟩
abbrev cX0_dead : ByteArray := prog_1_method_7_code
def yX0_dead : MethodName := ⟨RX0, "dead", "(II)Z"⟩
abbrev cX0_isDay : ByteArray := prog_1_method_4_code
def yX0_isDay : MethodName := ⟨RX0, "isDay", "(I)Z"⟩
abbrev cX0_house : ByteArray := prog_1_method_9_code
def yX0_house : MethodName := ⟨RX0, "house", "(II)I"⟩
abbrev cX0_level : ByteArray := prog_1_method_10_code
def yX0_level : MethodName := ⟨RX0, "level", "(II)Z"⟩
abbrev cX0_isYear : ByteArray := prog_1_method_5_code
def yX0_isYear : MethodName := ⟨RX0, "isYear", "(I)Z"⟩
abbrev cX0_money : ByteArray := prog_1_method_12_code
def yX0_money : MethodName := ⟨RX0, "money", "(III)J"⟩
abbrev cX0_inMoney : ByteArray := prog_1_method_11_code
def yX0_inMoney : MethodName := ⟨RX0, "inMoney", "(III)J"⟩
abbrev cX0_paper : ByteArray := prog_1_method_13_code
def yX0_paper : MethodName := ⟨RX0, "paper", "(IIIIII)I"⟩
abbrev cX0_isHouse : ByteArray := prog_1_method_3_code
def yX0_isHouse : MethodName := ⟨RX0, "isHouse", "(I)Z"⟩
abbrev cX0_isFalse : ByteArray := prog_1_method_15_code
def yX0_isFalse : MethodName := ⟨RX0, "isFalse", "(I)Z"⟩
abbrev cX0_paperAt : ByteArray := prog_1_method_14_code
def yX0_paperAt : MethodName := ⟨RX0, "paperAt", "(I)LHomeRoll$Paper;"⟩
abbrev cX0_later : ByteArray := prog_1_method_16_code
def yX0_later : MethodName := ⟨RX0, "later", "(I)I"⟩
abbrev cX0_holder : ByteArray := prog_1_method_19_code
def yX0_holder : MethodName := ⟨RX0, "holder", "(III)I"⟩
abbrev cX0_follow : ByteArray := prog_1_method_17_code
def yX0_follow : MethodName := ⟨RX0, "follow", "(IIILHomeRoll$Paper;)V"⟩
abbrev cX0_following : ByteArray := prog_1_method_18_code
def yX0_following : MethodName := ⟨RX0, "following", "(IIIII)LHomeRoll$Paper;"⟩
abbrev cX0_loose : ByteArray := prog_1_method_20_code
def yX0_loose : MethodName := ⟨RX0, "loose", "(II)I"⟩
abbrev cX0_feed : ByteArray := prog_1_method_21_code
def yX0_feed : MethodName := ⟨RX0, "feed", "(IIIII)I"⟩
abbrev cX0_end : ByteArray := prog_1_method_22_code
def yX0_end : MethodName := ⟨RX0, "end", "(I)I"⟩
abbrev cX0_law : ByteArray := prog_1_method_23_code
def yX0_law : MethodName := ⟨RX0, "law", "()I"⟩
abbrev cX0_fault : ByteArray := prog_1_method_24_code
def yX0_fault : MethodName := ⟨RX0, "fault", "(I)I"⟩
abbrev cX0_claim : ByteArray := prog_1_method_25_code
def yX0_claim : MethodName := ⟨RX0, "claim", "(I)I"⟩
abbrev cX0_ruling : ByteArray := prog_1_method_28_code
def yX0_ruling : MethodName := ⟨RX0, "ruling", "(II)I"⟩
abbrev cX0_looks : ByteArray := prog_1_method_26_code
def yX0_looks : MethodName := ⟨RX0, "looks", "(II)Z"⟩
abbrev cX0_line : ByteArray := prog_1_method_27_code
def yX0_line : MethodName := ⟨RX0, "line", "()LHomeRoll$Line;"⟩
abbrev cX0_isDead : ByteArray := prog_1_method_8_code
def yX0_isDead : MethodName := ⟨RX0, "isDead", "(II)Z"⟩
abbrev cX0_sum : ByteArray := prog_1_method_29_code
def yX0_sum : MethodName := ⟨RX0, "sum", "(II)I"⟩
abbrev cX0_term : ByteArray := prog_1_method_30_code
def yX0_term : MethodName := ⟨RX0, "term", "(III)I"⟩
abbrev cX0_share : ByteArray := prog_1_method_35_code
def yX0_share : MethodName := ⟨RX0, "share", "(IIII)J"⟩
abbrev cX0_hand : ByteArray := prog_1_method_33_code
def yX0_hand : MethodName := ⟨RX0, "hand", "(II)V"⟩
abbrev cX0_isChild : ByteArray := prog_1_method_32_code
def yX0_isChild : MethodName := ⟨RX0, "isChild", "(II)Z"⟩
abbrev cX0_add : ByteArray := prog_1_method_34_code
def yX0_add : MethodName := ⟨RX0, "add", "(IJJ)V"⟩
abbrev cX0_common : ByteArray := prog_1_method_31_code
def yX0_common : MethodName := ⟨RX0, "common", "(JJ)J"⟩
abbrev cX0_want : ByteArray := prog_1_method_36_code
def yX0_want : MethodName := ⟨RX0, "want", "(III)I"⟩
abbrev cX0_joy : ByteArray := prog_1_method_39_code
def yX0_joy : MethodName := ⟨RX0, "joy", "()I"⟩
abbrev cX0_swap : ByteArray := prog_1_method_38_code
def yX0_swap : MethodName := ⟨RX0, "swap", "()V"⟩
abbrev cX0_canHave : ByteArray := prog_1_method_37_code
def yX0_canHave : MethodName := ⟨RX0, "canHave", "(II)Z"⟩
abbrev cX0_swap_2 : ByteArray := prog_1_method_40_code
def yX0_swap_2 : MethodName := ⟨RX0, "swap", "(I)I"⟩
abbrev cX0_about : ByteArray := prog_1_method_41_code
def yX0_about : MethodName := ⟨RX0, "about", "(I)I"⟩
theorem q64 : (Jvm.Cond.initialized "HomeRoll") ∈ lw_all := lw_g (lw_at lw_m1 1 rfl) rfl
theorem q97 : (Jvm.Cond.instantiable "HomeRoll" (31 : Nat)) ∈ lw_all := lw_g (lw_at lw_m1 34 rfl) rfl
theorem q99 : (Jvm.Cond.instanceMethod ({ cls := "HomeRoll", name := "<init>", desc := "()V" } : Jvm.MethodName)) ∈ lw_all := lw_g (lw_at lw_m1 36 rfl) rfl
theorem q100 : (Jvm.Cond.code ({ cls := "HomeRoll", name := "<init>", desc := "()V" } : Jvm.MethodName) prog_1_method_1_code (2 : Nat) (Option.none : Option Jvm.ClassFile.FieldType)) ∈ lw_all := lw_g (lw_at lw_m1 37 rfl) rfl
theorem q101 : (Jvm.Cond.methodLink "HomeRoll" (1 : Nat) ({ cls := "java/lang/Object", name := "<init>", desc := "()V" } : Jvm.MethodName)) ∈ lw_all := lw_g (lw_at lw_m1 38 rfl) rfl
theorem q104 : (Jvm.Cond.classLink "HomeRoll" (17 : Nat) "java/util/ArrayList") ∈ lw_all := lw_g (lw_at lw_m1 41 rfl) rfl
theorem q106 : (Jvm.Cond.methodLink "HomeRoll" (19 : Nat) ({ cls := "java/util/ArrayList", name := "<init>", desc := "(I)V" } : Jvm.MethodName)) ∈ lw_all := lw_g (lw_at lw_m1 43 rfl) rfl
theorem q133 : (Jvm.Cond.classLink "HomeRoll" (45 : Nat) "HomeRoll$Paper") ∈ lw_all := lw_g (lw_at lw_m1 70 rfl) rfl
theorem q135 : (Jvm.Cond.classLink "HomeRoll" (54 : Nat) "HomeRoll$View") ∈ lw_all := lw_g (lw_at lw_m1 72 rfl) rfl
theorem q137 : (Jvm.Cond.methodLinkNest "HomeRoll" (56 : Nat) ({ cls := "HomeRoll$View", name := "<init>", desc := "(LHomeRoll;)V" } : Jvm.MethodName) "HomeRoll") ∈ lw_tbl := lw_at lw_m1 74 rfl
theorem q147 : (Jvm.Cond.fieldLink "HomeRoll" (204 : Nat) "HomeRoll$View" "paper" "LHomeRoll$Paper;") ∈ lw_all := lw_g (lw_at lw_m1 84 rfl) rfl
theorem q149 : (Jvm.Cond.fieldLink "HomeRoll" (211 : Nat) "HomeRoll$View" "held" "I") ∈ lw_all := lw_g (lw_at lw_m1 86 rfl) rfl
theorem q151 : (Jvm.Cond.fieldLink "HomeRoll" (212 : Nat) "HomeRoll$View" "hands" "I") ∈ lw_all := lw_g (lw_at lw_m1 88 rfl) rfl
theorem q153 : (Jvm.Cond.fieldLink "HomeRoll" (208 : Nat) "HomeRoll$View" "k" "I") ∈ lw_all := lw_g (lw_at lw_m1 90 rfl) rfl
theorem q155 : (Jvm.Cond.fieldLink "HomeRoll" (215 : Nat) "HomeRoll$View" "lives" "Z") ∈ lw_all := lw_g (lw_at lw_m1 92 rfl) rfl
theorem q171 : (Jvm.Cond.methodLink "HomeRoll" (63 : Nat) ({ cls := "HomeRoll$Known", name := "values", desc := "()[LHomeRoll$Known;" } : Jvm.MethodName)) ∈ lw_all := lw_g (lw_at lw_m1 108 rfl) rfl
theorem q184 : (Jvm.Cond.classLink "HomeRoll" (84 : Nat) "[[I") ∈ lw_all := lw_g (lw_at lw_m1 121 rfl) rfl
theorem q186 : (Jvm.Cond.fieldLink "HomeRoll" (9 : Nat) "HomeRoll" "tape" "[B") ∈ lw_all := lw_g (lw_at lw_m1 123 rfl) rfl
theorem q189 : (Jvm.Cond.fieldLink "HomeRoll" (176 : Nat) "HomeRoll" "taped" "I") ∈ lw_all := lw_g (lw_at lw_m1 126 rfl) rfl
theorem q190 : (Jvm.Cond.fieldLink "HomeRoll" (179 : Nat) "HomeRoll" "faultKind" "I") ∈ lw_all := lw_g (lw_at lw_m1 127 rfl) rfl
theorem q191 : (Jvm.Cond.fieldLink "HomeRoll" (13 : Nat) "HomeRoll" "faultPlace" "I") ∈ lw_all := lw_g (lw_at lw_m1 128 rfl) rfl
theorem q192 : (Jvm.Cond.fieldLink "HomeRoll" (22 : Nat) "HomeRoll" "law" "Ljava/util/ArrayList;") ∈ lw_all := lw_g (lw_at lw_m1 129 rfl) rfl
theorem q193 : (Jvm.Cond.fieldLink "HomeRoll" (26 : Nat) "HomeRoll" "mother" "[I") ∈ lw_all := lw_g (lw_at lw_m1 130 rfl) rfl
theorem q194 : (Jvm.Cond.fieldLink "HomeRoll" (30 : Nat) "HomeRoll" "father" "[I") ∈ lw_all := lw_g (lw_at lw_m1 131 rfl) rfl
theorem q195 : (Jvm.Cond.fieldLink "HomeRoll" (33 : Nat) "HomeRoll" "deadOn" "[I") ∈ lw_all := lw_g (lw_at lw_m1 132 rfl) rfl
theorem q196 : (Jvm.Cond.fieldLink "HomeRoll" (36 : Nat) "HomeRoll" "holder" "[I") ∈ lw_all := lw_g (lw_at lw_m1 133 rfl) rfl
theorem q197 : (Jvm.Cond.fieldLink "HomeRoll" (39 : Nat) "HomeRoll" "worth" "[I") ∈ lw_all := lw_g (lw_at lw_m1 134 rfl) rfl
theorem q199 : (Jvm.Cond.fieldLink "HomeRoll" (42 : Nat) "HomeRoll" "level" "[I") ∈ lw_all := lw_g (lw_at lw_m1 136 rfl) rfl
theorem q200 : (Jvm.Cond.fieldLink "HomeRoll" (47 : Nat) "HomeRoll" "papers" "[LHomeRoll$Paper;") ∈ lw_all := lw_g (lw_at lw_m1 137 rfl) rfl
theorem q201 : (Jvm.Cond.fieldLink "HomeRoll" (51 : Nat) "HomeRoll" "claims" "[I") ∈ lw_all := lw_g (lw_at lw_m1 138 rfl) rfl
theorem q202 : (Jvm.Cond.fieldLink "HomeRoll" (92 : Nat) "HomeRoll" "people" "I") ∈ lw_all := lw_g (lw_at lw_m1 139 rfl) rfl
theorem q203 : (Jvm.Cond.fieldLink "HomeRoll" (95 : Nat) "HomeRoll" "houses" "I") ∈ lw_all := lw_g (lw_at lw_m1 140 rfl) rfl
theorem q204 : (Jvm.Cond.fieldLink "HomeRoll" (116 : Nat) "HomeRoll" "paperMany" "I") ∈ lw_all := lw_g (lw_at lw_m1 141 rfl) rfl
theorem q205 : (Jvm.Cond.fieldLink "HomeRoll" (122 : Nat) "HomeRoll" "today" "I") ∈ lw_all := lw_g (lw_at lw_m1 142 rfl) rfl
theorem q206 : (Jvm.Cond.fieldLink "HomeRoll" (201 : Nat) "HomeRoll" "claimMany" "I") ∈ lw_all := lw_g (lw_at lw_m1 143 rfl) rfl
theorem q207 : (Jvm.Cond.fieldLink "HomeRoll" (135 : Nat) "HomeRoll" "held" "I") ∈ lw_all := lw_g (lw_at lw_m1 144 rfl) rfl
theorem q208 : (Jvm.Cond.fieldLink "HomeRoll" (138 : Nat) "HomeRoll" "since" "I") ∈ lw_all := lw_g (lw_at lw_m1 145 rfl) rfl
theorem q209 : (Jvm.Cond.fieldLink "HomeRoll" (141 : Nat) "HomeRoll" "isLoose" "Z") ∈ lw_all := lw_g (lw_at lw_m1 146 rfl) rfl
theorem q210 : (Jvm.Cond.fieldLink "HomeRoll" (145 : Nat) "HomeRoll" "sinceThen" "I") ∈ lw_all := lw_g (lw_at lw_m1 147 rfl) rfl
theorem q211 : (Jvm.Cond.fieldLink "HomeRoll" (148 : Nat) "HomeRoll" "behind" "I") ∈ lw_all := lw_g (lw_at lw_m1 148 rfl) rfl
theorem q212 : (Jvm.Cond.fieldLink "HomeRoll" (59 : Nat) "HomeRoll" "view" "LHomeRoll$View;") ∈ lw_all := lw_g (lw_at lw_m1 149 rfl) rfl
theorem q213 : (Jvm.Cond.fieldLink "HomeRoll" (69 : Nat) "HomeRoll" "all" "[LHomeRoll$Known;") ∈ lw_all := lw_g (lw_at lw_m1 150 rfl) rfl
theorem q214 : (Jvm.Cond.fieldLink "HomeRoll" (73 : Nat) "HomeRoll" "part" "[J") ∈ lw_all := lw_g (lw_at lw_m1 151 rfl) rfl
theorem q215 : (Jvm.Cond.fieldLink "HomeRoll" (77 : Nat) "HomeRoll" "whole" "[J") ∈ lw_all := lw_g (lw_at lw_m1 152 rfl) rfl
theorem q216 : (Jvm.Cond.fieldLink "HomeRoll" (80 : Nat) "HomeRoll" "counts" "[Z") ∈ lw_all := lw_g (lw_at lw_m1 153 rfl) rfl
theorem q217 : (Jvm.Cond.fieldLink "HomeRoll" (86 : Nat) "HomeRoll" "joys" "[[I") ∈ lw_all := lw_g (lw_at lw_m1 154 rfl) rfl
theorem q218 : (Jvm.Cond.fieldLink "HomeRoll" (89 : Nat) "HomeRoll" "most" "[[I") ∈ lw_all := lw_g (lw_at lw_m1 155 rfl) rfl
theorem q219 : (Jvm.Cond.fieldLink "HomeRoll" (271 : Nat) "HomeRoll" "wants" "I") ∈ lw_all := lw_g (lw_at lw_m1 156 rfl) rfl
theorem q220 : (Jvm.Cond.laysFinal "HomeRoll" "HomeRoll" "tape" "[B") ∈ lw_all := lw_g (lw_at lw_m1 157 rfl) rfl
theorem q221 : (Jvm.Cond.soleField "HomeRoll" "tape") ∈ lw_all := lw_g (lw_at lw_m1 158 rfl) rfl
theorem q222 : (Jvm.Cond.lays "HomeRoll" "HomeRoll" "taped" "I") ∈ lw_all := lw_g (lw_at lw_m1 159 rfl) rfl
theorem q223 : (Jvm.Cond.soleField "HomeRoll" "taped") ∈ lw_all := lw_g (lw_at lw_m1 160 rfl) rfl
theorem q224 : (Jvm.Cond.lays "HomeRoll" "HomeRoll" "faultKind" "I") ∈ lw_all := lw_g (lw_at lw_m1 161 rfl) rfl
theorem q225 : (Jvm.Cond.soleField "HomeRoll" "faultKind") ∈ lw_all := lw_g (lw_at lw_m1 162 rfl) rfl
theorem q226 : (Jvm.Cond.lays "HomeRoll" "HomeRoll" "faultPlace" "I") ∈ lw_all := lw_g (lw_at lw_m1 163 rfl) rfl
theorem q227 : (Jvm.Cond.soleField "HomeRoll" "faultPlace") ∈ lw_all := lw_g (lw_at lw_m1 164 rfl) rfl
theorem q228 : (Jvm.Cond.lays "HomeRoll" "HomeRoll" "law" "Ljava/util/ArrayList;") ∈ lw_all := lw_g (lw_at lw_m1 165 rfl) rfl
theorem q229 : (Jvm.Cond.soleField "HomeRoll" "law") ∈ lw_all := lw_g (lw_at lw_m1 166 rfl) rfl
theorem q230 : (Jvm.Cond.laysFinal "HomeRoll" "HomeRoll" "mother" "[I") ∈ lw_all := lw_g (lw_at lw_m1 167 rfl) rfl
theorem q231 : (Jvm.Cond.soleField "HomeRoll" "mother") ∈ lw_all := lw_g (lw_at lw_m1 168 rfl) rfl
theorem q232 : (Jvm.Cond.laysFinal "HomeRoll" "HomeRoll" "father" "[I") ∈ lw_all := lw_g (lw_at lw_m1 169 rfl) rfl
theorem q233 : (Jvm.Cond.soleField "HomeRoll" "father") ∈ lw_all := lw_g (lw_at lw_m1 170 rfl) rfl
theorem q234 : (Jvm.Cond.laysFinal "HomeRoll" "HomeRoll" "deadOn" "[I") ∈ lw_all := lw_g (lw_at lw_m1 171 rfl) rfl
theorem q235 : (Jvm.Cond.soleField "HomeRoll" "deadOn") ∈ lw_all := lw_g (lw_at lw_m1 172 rfl) rfl
theorem q236 : (Jvm.Cond.laysFinal "HomeRoll" "HomeRoll" "holder" "[I") ∈ lw_all := lw_g (lw_at lw_m1 173 rfl) rfl
theorem q237 : (Jvm.Cond.soleField "HomeRoll" "holder") ∈ lw_all := lw_g (lw_at lw_m1 174 rfl) rfl
theorem q238 : (Jvm.Cond.laysFinal "HomeRoll" "HomeRoll" "worth" "[I") ∈ lw_all := lw_g (lw_at lw_m1 175 rfl) rfl
theorem q239 : (Jvm.Cond.soleField "HomeRoll" "worth") ∈ lw_all := lw_g (lw_at lw_m1 176 rfl) rfl
theorem q240 : (Jvm.Cond.laysFinal "HomeRoll" "HomeRoll" "level" "[I") ∈ lw_all := lw_g (lw_at lw_m1 177 rfl) rfl
theorem q241 : (Jvm.Cond.soleField "HomeRoll" "level") ∈ lw_all := lw_g (lw_at lw_m1 178 rfl) rfl
theorem q242 : (Jvm.Cond.laysFinal "HomeRoll" "HomeRoll" "papers" "[LHomeRoll$Paper;") ∈ lw_all := lw_g (lw_at lw_m1 179 rfl) rfl
theorem q243 : (Jvm.Cond.soleField "HomeRoll" "papers") ∈ lw_all := lw_g (lw_at lw_m1 180 rfl) rfl
theorem q244 : (Jvm.Cond.laysFinal "HomeRoll" "HomeRoll" "claims" "[I") ∈ lw_all := lw_g (lw_at lw_m1 181 rfl) rfl
theorem q245 : (Jvm.Cond.soleField "HomeRoll" "claims") ∈ lw_all := lw_g (lw_at lw_m1 182 rfl) rfl
theorem q246 : (Jvm.Cond.lays "HomeRoll" "HomeRoll" "people" "I") ∈ lw_all := lw_g (lw_at lw_m1 183 rfl) rfl
theorem q247 : (Jvm.Cond.soleField "HomeRoll" "people") ∈ lw_all := lw_g (lw_at lw_m1 184 rfl) rfl
theorem q248 : (Jvm.Cond.lays "HomeRoll" "HomeRoll" "houses" "I") ∈ lw_all := lw_g (lw_at lw_m1 185 rfl) rfl
theorem q249 : (Jvm.Cond.soleField "HomeRoll" "houses") ∈ lw_all := lw_g (lw_at lw_m1 186 rfl) rfl
theorem q250 : (Jvm.Cond.lays "HomeRoll" "HomeRoll" "paperMany" "I") ∈ lw_all := lw_g (lw_at lw_m1 187 rfl) rfl
theorem q251 : (Jvm.Cond.soleField "HomeRoll" "paperMany") ∈ lw_all := lw_g (lw_at lw_m1 188 rfl) rfl
theorem q252 : (Jvm.Cond.lays "HomeRoll" "HomeRoll" "today" "I") ∈ lw_all := lw_g (lw_at lw_m1 189 rfl) rfl
theorem q253 : (Jvm.Cond.soleField "HomeRoll" "today") ∈ lw_all := lw_g (lw_at lw_m1 190 rfl) rfl
theorem q254 : (Jvm.Cond.lays "HomeRoll" "HomeRoll" "claimMany" "I") ∈ lw_all := lw_g (lw_at lw_m1 191 rfl) rfl
theorem q255 : (Jvm.Cond.soleField "HomeRoll" "claimMany") ∈ lw_all := lw_g (lw_at lw_m1 192 rfl) rfl
theorem q256 : (Jvm.Cond.lays "HomeRoll" "HomeRoll" "held" "I") ∈ lw_all := lw_g (lw_at lw_m1 193 rfl) rfl
theorem q257 : (Jvm.Cond.soleField "HomeRoll" "held") ∈ lw_all := lw_g (lw_at lw_m1 194 rfl) rfl
theorem q258 : (Jvm.Cond.lays "HomeRoll" "HomeRoll" "since" "I") ∈ lw_all := lw_g (lw_at lw_m1 195 rfl) rfl
theorem q259 : (Jvm.Cond.soleField "HomeRoll" "since") ∈ lw_all := lw_g (lw_at lw_m1 196 rfl) rfl
theorem q260 : (Jvm.Cond.lays "HomeRoll" "HomeRoll" "isLoose" "Z") ∈ lw_all := lw_g (lw_at lw_m1 197 rfl) rfl
theorem q261 : (Jvm.Cond.soleField "HomeRoll" "isLoose") ∈ lw_all := lw_g (lw_at lw_m1 198 rfl) rfl
theorem q262 : (Jvm.Cond.lays "HomeRoll" "HomeRoll" "sinceThen" "I") ∈ lw_all := lw_g (lw_at lw_m1 199 rfl) rfl
theorem q263 : (Jvm.Cond.soleField "HomeRoll" "sinceThen") ∈ lw_all := lw_g (lw_at lw_m1 200 rfl) rfl
theorem q264 : (Jvm.Cond.lays "HomeRoll" "HomeRoll" "behind" "I") ∈ lw_all := lw_g (lw_at lw_m1 201 rfl) rfl
theorem q265 : (Jvm.Cond.soleField "HomeRoll" "behind") ∈ lw_all := lw_g (lw_at lw_m1 202 rfl) rfl
theorem q266 : (Jvm.Cond.laysFinal "HomeRoll" "HomeRoll" "view" "LHomeRoll$View;") ∈ lw_all := lw_g (lw_at lw_m1 203 rfl) rfl
theorem q267 : (Jvm.Cond.soleField "HomeRoll" "view") ∈ lw_all := lw_g (lw_at lw_m1 204 rfl) rfl
theorem q268 : (Jvm.Cond.laysFinal "HomeRoll" "HomeRoll" "all" "[LHomeRoll$Known;") ∈ lw_all := lw_g (lw_at lw_m1 205 rfl) rfl
theorem q269 : (Jvm.Cond.soleField "HomeRoll" "all") ∈ lw_all := lw_g (lw_at lw_m1 206 rfl) rfl
theorem q270 : (Jvm.Cond.laysFinal "HomeRoll" "HomeRoll" "part" "[J") ∈ lw_all := lw_g (lw_at lw_m1 207 rfl) rfl
theorem q271 : (Jvm.Cond.soleField "HomeRoll" "part") ∈ lw_all := lw_g (lw_at lw_m1 208 rfl) rfl
theorem q272 : (Jvm.Cond.laysFinal "HomeRoll" "HomeRoll" "whole" "[J") ∈ lw_all := lw_g (lw_at lw_m1 209 rfl) rfl
theorem q273 : (Jvm.Cond.soleField "HomeRoll" "whole") ∈ lw_all := lw_g (lw_at lw_m1 210 rfl) rfl
theorem q274 : (Jvm.Cond.laysFinal "HomeRoll" "HomeRoll" "counts" "[Z") ∈ lw_all := lw_g (lw_at lw_m1 211 rfl) rfl
theorem q275 : (Jvm.Cond.soleField "HomeRoll" "counts") ∈ lw_all := lw_g (lw_at lw_m1 212 rfl) rfl
theorem q276 : (Jvm.Cond.laysFinal "HomeRoll" "HomeRoll" "joys" "[[I") ∈ lw_all := lw_g (lw_at lw_m1 213 rfl) rfl
theorem q277 : (Jvm.Cond.soleField "HomeRoll" "joys") ∈ lw_all := lw_g (lw_at lw_m1 214 rfl) rfl
theorem q278 : (Jvm.Cond.laysFinal "HomeRoll" "HomeRoll" "most" "[[I") ∈ lw_all := lw_g (lw_at lw_m1 215 rfl) rfl
theorem q279 : (Jvm.Cond.soleField "HomeRoll" "most") ∈ lw_all := lw_g (lw_at lw_m1 216 rfl) rfl
theorem q280 : (Jvm.Cond.lays "HomeRoll" "HomeRoll" "wants" "I") ∈ lw_all := lw_g (lw_at lw_m1 217 rfl) rfl
theorem q281 : (Jvm.Cond.soleField "HomeRoll" "wants") ∈ lw_all := lw_g (lw_at lw_m1 218 rfl) rfl
theorem q282 : (Jvm.Cond.superclass "HomeRoll" "java/lang/Object") ∈ lw_all := lw_g (lw_at lw_m1 219 rfl) rfl
theorem q286 : (Jvm.Cond.instanceMethod ({ cls := "HomeRoll", name := "person", desc := "(II)I" } : Jvm.MethodName)) ∈ lw_all := lw_g (lw_at lw_m1 223 rfl) rfl
theorem q287 : (Jvm.Cond.selects "HomeRoll" ({ cls := "HomeRoll", name := "person", desc := "(II)I" } : Jvm.MethodName) ({ cls := "HomeRoll", name := "person", desc := "(II)I" } : Jvm.MethodName)) ∈ lw_all := lw_g (lw_at lw_m1 224 rfl) rfl
theorem q288 : (Jvm.Cond.code ({ cls := "HomeRoll", name := "person", desc := "(II)I" } : Jvm.MethodName) prog_1_method_6_code (3 : Nat) (Option.some Jvm.ClassFile.FieldType.int)) ∈ lw_all := lw_g (lw_at lw_m1 225 rfl) rfl
theorem q289 : (Jvm.Cond.methodLink "HomeRoll" (99 : Nat) ({ cls := "HomeRoll", name := "isPerson", desc := "(I)Z" } : Jvm.MethodName)) ∈ lw_all := lw_g (lw_at lw_m1 226 rfl) rfl
theorem q290 : (Jvm.Cond.privateMethod ({ cls := "HomeRoll", name := "isPerson", desc := "(I)Z" } : Jvm.MethodName)) ∈ lw_tbl := lw_at lw_m1 227 rfl
theorem q291 : (Jvm.Cond.instanceMethod ({ cls := "HomeRoll", name := "isPerson", desc := "(I)Z" } : Jvm.MethodName)) ∈ lw_all := lw_g (lw_at lw_m1 228 rfl) rfl
theorem q292 : (Jvm.Cond.code ({ cls := "HomeRoll", name := "isPerson", desc := "(I)Z" } : Jvm.MethodName) prog_1_method_2_code (2 : Nat) (Option.some Jvm.ClassFile.FieldType.boolean)) ∈ lw_all := lw_g (lw_at lw_m1 229 rfl) rfl
theorem q294 : (Jvm.Cond.instanceMethod ({ cls := "HomeRoll", name := "dead", desc := "(II)Z" } : Jvm.MethodName)) ∈ lw_all := lw_g (lw_at lw_m1 231 rfl) rfl
theorem q295 : (Jvm.Cond.selects "HomeRoll" ({ cls := "HomeRoll", name := "dead", desc := "(II)Z" } : Jvm.MethodName) ({ cls := "HomeRoll", name := "dead", desc := "(II)Z" } : Jvm.MethodName)) ∈ lw_all := lw_g (lw_at lw_m1 232 rfl) rfl
theorem q296 : (Jvm.Cond.code ({ cls := "HomeRoll", name := "dead", desc := "(II)Z" } : Jvm.MethodName) prog_1_method_7_code (3 : Nat) (Option.some Jvm.ClassFile.FieldType.boolean)) ∈ lw_all := lw_g (lw_at lw_m1 233 rfl) rfl
theorem q297 : (Jvm.Cond.methodLink "HomeRoll" (103 : Nat) ({ cls := "HomeRoll", name := "isDay", desc := "(I)Z" } : Jvm.MethodName)) ∈ lw_all := lw_g (lw_at lw_m1 234 rfl) rfl
theorem q298 : (Jvm.Cond.static ({ cls := "HomeRoll", name := "isDay", desc := "(I)Z" } : Jvm.MethodName)) ∈ lw_all := lw_g (lw_at lw_m1 235 rfl) rfl
theorem q299 : (Jvm.Cond.code ({ cls := "HomeRoll", name := "isDay", desc := "(I)Z" } : Jvm.MethodName) prog_1_method_4_code (1 : Nat) (Option.some Jvm.ClassFile.FieldType.boolean)) ∈ lw_all := lw_g (lw_at lw_m1 236 rfl) rfl
theorem q300 : (Jvm.Cond.constant "HomeRoll" (98 : Nat) (36499 : Int32)) ∈ lw_all := lw_g (lw_at lw_m1 237 rfl) rfl
theorem q302 : (Jvm.Cond.instanceMethod ({ cls := "HomeRoll", name := "house", desc := "(II)I" } : Jvm.MethodName)) ∈ lw_all := lw_g (lw_at lw_m1 239 rfl) rfl
theorem q303 : (Jvm.Cond.selects "HomeRoll" ({ cls := "HomeRoll", name := "house", desc := "(II)I" } : Jvm.MethodName) ({ cls := "HomeRoll", name := "house", desc := "(II)I" } : Jvm.MethodName)) ∈ lw_all := lw_g (lw_at lw_m2 0 rfl) rfl
theorem q304 : (Jvm.Cond.code ({ cls := "HomeRoll", name := "house", desc := "(II)I" } : Jvm.MethodName) prog_1_method_9_code (3 : Nat) (Option.some Jvm.ClassFile.FieldType.int)) ∈ lw_all := lw_g (lw_at lw_m2 1 rfl) rfl
theorem q305 : (Jvm.Cond.constant "HomeRoll" (106 : Nat) (1000000 : Int32)) ∈ lw_all := lw_g (lw_at lw_m2 2 rfl) rfl
theorem q307 : (Jvm.Cond.instanceMethod ({ cls := "HomeRoll", name := "level", desc := "(II)Z" } : Jvm.MethodName)) ∈ lw_all := lw_g (lw_at lw_m2 4 rfl) rfl
theorem q308 : (Jvm.Cond.selects "HomeRoll" ({ cls := "HomeRoll", name := "level", desc := "(II)Z" } : Jvm.MethodName) ({ cls := "HomeRoll", name := "level", desc := "(II)Z" } : Jvm.MethodName)) ∈ lw_all := lw_g (lw_at lw_m2 5 rfl) rfl
theorem q309 : (Jvm.Cond.code ({ cls := "HomeRoll", name := "level", desc := "(II)Z" } : Jvm.MethodName) prog_1_method_10_code (3 : Nat) (Option.some Jvm.ClassFile.FieldType.boolean)) ∈ lw_all := lw_g (lw_at lw_m2 6 rfl) rfl
theorem q310 : (Jvm.Cond.methodLink "HomeRoll" (107 : Nat) ({ cls := "HomeRoll", name := "isYear", desc := "(I)Z" } : Jvm.MethodName)) ∈ lw_all := lw_g (lw_at lw_m2 7 rfl) rfl
theorem q311 : (Jvm.Cond.static ({ cls := "HomeRoll", name := "isYear", desc := "(I)Z" } : Jvm.MethodName)) ∈ lw_all := lw_g (lw_at lw_m2 8 rfl) rfl
theorem q312 : (Jvm.Cond.code ({ cls := "HomeRoll", name := "isYear", desc := "(I)Z" } : Jvm.MethodName) prog_1_method_5_code (1 : Nat) (Option.some Jvm.ClassFile.FieldType.boolean)) ∈ lw_all := lw_g (lw_at lw_m2 9 rfl) rfl
theorem q314 : (Jvm.Cond.instanceMethod ({ cls := "HomeRoll", name := "money", desc := "(III)J" } : Jvm.MethodName)) ∈ lw_all := lw_g (lw_at lw_m2 11 rfl) rfl
theorem q315 : (Jvm.Cond.selects "HomeRoll" ({ cls := "HomeRoll", name := "money", desc := "(III)J" } : Jvm.MethodName) ({ cls := "HomeRoll", name := "money", desc := "(III)J" } : Jvm.MethodName)) ∈ lw_all := lw_g (lw_at lw_m2 12 rfl) rfl
theorem q316 : (Jvm.Cond.code ({ cls := "HomeRoll", name := "money", desc := "(III)J" } : Jvm.MethodName) prog_1_method_12_code (4 : Nat) (Option.some Jvm.ClassFile.FieldType.long)) ∈ lw_all := lw_g (lw_at lw_m2 13 rfl) rfl
theorem q317 : (Jvm.Cond.constantLong "HomeRoll" (110 : Nat) (-1 : Int64)) ∈ lw_all := lw_g (lw_at lw_m2 14 rfl) rfl
theorem q318 : (Jvm.Cond.methodLink "HomeRoll" (112 : Nat) ({ cls := "HomeRoll", name := "inMoney", desc := "(III)J" } : Jvm.MethodName)) ∈ lw_all := lw_g (lw_at lw_m2 15 rfl) rfl
theorem q319 : (Jvm.Cond.privateMethod ({ cls := "HomeRoll", name := "inMoney", desc := "(III)J" } : Jvm.MethodName)) ∈ lw_tbl := lw_at lw_m2 16 rfl
theorem q320 : (Jvm.Cond.instanceMethod ({ cls := "HomeRoll", name := "inMoney", desc := "(III)J" } : Jvm.MethodName)) ∈ lw_all := lw_g (lw_at lw_m2 17 rfl) rfl
theorem q321 : (Jvm.Cond.code ({ cls := "HomeRoll", name := "inMoney", desc := "(III)J" } : Jvm.MethodName) prog_1_method_11_code (4 : Nat) (Option.some Jvm.ClassFile.FieldType.long)) ∈ lw_all := lw_g (lw_at lw_m2 18 rfl) rfl
theorem q323 : (Jvm.Cond.instanceMethod ({ cls := "HomeRoll", name := "paper", desc := "(IIIIII)I" } : Jvm.MethodName)) ∈ lw_all := lw_g (lw_at lw_m2 20 rfl) rfl
theorem q324 : (Jvm.Cond.selects "HomeRoll" ({ cls := "HomeRoll", name := "paper", desc := "(IIIIII)I" } : Jvm.MethodName) ({ cls := "HomeRoll", name := "paper", desc := "(IIIIII)I" } : Jvm.MethodName)) ∈ lw_all := lw_g (lw_at lw_m2 21 rfl) rfl
theorem q325 : (Jvm.Cond.code ({ cls := "HomeRoll", name := "paper", desc := "(IIIIII)I" } : Jvm.MethodName) prog_1_method_13_code (7 : Nat) (Option.some Jvm.ClassFile.FieldType.int)) ∈ lw_all := lw_g (lw_at lw_m2 22 rfl) rfl
theorem q326 : (Jvm.Cond.methodLink "HomeRoll" (119 : Nat) ({ cls := "HomeRoll", name := "isHouse", desc := "(I)Z" } : Jvm.MethodName)) ∈ lw_all := lw_g (lw_at lw_m2 23 rfl) rfl
theorem q327 : (Jvm.Cond.privateMethod ({ cls := "HomeRoll", name := "isHouse", desc := "(I)Z" } : Jvm.MethodName)) ∈ lw_tbl := lw_at lw_m2 24 rfl
theorem q328 : (Jvm.Cond.instanceMethod ({ cls := "HomeRoll", name := "isHouse", desc := "(I)Z" } : Jvm.MethodName)) ∈ lw_all := lw_g (lw_at lw_m2 25 rfl) rfl
theorem q329 : (Jvm.Cond.code ({ cls := "HomeRoll", name := "isHouse", desc := "(I)Z" } : Jvm.MethodName) prog_1_method_3_code (2 : Nat) (Option.some Jvm.ClassFile.FieldType.boolean)) ∈ lw_all := lw_g (lw_at lw_m2 26 rfl) rfl
theorem q331 : (Jvm.Cond.methodLink "HomeRoll" (125 : Nat) ({ cls := "HomeRoll$Paper", name := "<init>", desc := "(IIIIIIII)V" } : Jvm.MethodName)) ∈ lw_all := lw_g (lw_at lw_m2 28 rfl) rfl
theorem q336 : (Jvm.Cond.fieldLink "HomeRoll" (158 : Nat) "HomeRoll$Paper" "number" "I") ∈ lw_all := lw_g (lw_at lw_m2 33 rfl) rfl
theorem q339 : (Jvm.Cond.fieldLink "HomeRoll" (167 : Nat) "HomeRoll$Paper" "house" "I") ∈ lw_all := lw_g (lw_at lw_m2 36 rfl) rfl
theorem q342 : (Jvm.Cond.fieldLink "HomeRoll" (161 : Nat) "HomeRoll$Paper" "from" "I") ∈ lw_all := lw_g (lw_at lw_m2 39 rfl) rfl
theorem q344 : (Jvm.Cond.fieldLink "HomeRoll" (164 : Nat) "HomeRoll$Paper" "to" "I") ∈ lw_all := lw_g (lw_at lw_m2 41 rfl) rfl
theorem q348 : (Jvm.Cond.fieldLink "HomeRoll" (155 : Nat) "HomeRoll$Paper" "day" "I") ∈ lw_all := lw_g (lw_at lw_m2 45 rfl) rfl
theorem q356 : (Jvm.Cond.fieldLink "HomeRoll" (132 : Nat) "HomeRoll$Paper" "falseFrom" "I") ∈ lw_all := lw_g (lw_at lw_m2 53 rfl) rfl
theorem q377 : (Jvm.Cond.instanceMethod ({ cls := "HomeRoll", name := "isFalse", desc := "(I)Z" } : Jvm.MethodName)) ∈ lw_all := lw_g (lw_at lw_m2 74 rfl) rfl
theorem q378 : (Jvm.Cond.selects "HomeRoll" ({ cls := "HomeRoll", name := "isFalse", desc := "(I)Z" } : Jvm.MethodName) ({ cls := "HomeRoll", name := "isFalse", desc := "(I)Z" } : Jvm.MethodName)) ∈ lw_all := lw_g (lw_at lw_m2 75 rfl) rfl
theorem q379 : (Jvm.Cond.code ({ cls := "HomeRoll", name := "isFalse", desc := "(I)Z" } : Jvm.MethodName) prog_1_method_15_code (3 : Nat) (Option.some Jvm.ClassFile.FieldType.boolean)) ∈ lw_all := lw_g (lw_at lw_m2 76 rfl) rfl
theorem q380 : (Jvm.Cond.methodLink "HomeRoll" (128 : Nat) ({ cls := "HomeRoll", name := "paperAt", desc := "(I)LHomeRoll$Paper;" } : Jvm.MethodName)) ∈ lw_all := lw_g (lw_at lw_m2 77 rfl) rfl
theorem q381 : (Jvm.Cond.privateMethod ({ cls := "HomeRoll", name := "paperAt", desc := "(I)LHomeRoll$Paper;" } : Jvm.MethodName)) ∈ lw_tbl := lw_at lw_m2 78 rfl
theorem q382 : (Jvm.Cond.instanceMethod ({ cls := "HomeRoll", name := "paperAt", desc := "(I)LHomeRoll$Paper;" } : Jvm.MethodName)) ∈ lw_all := lw_g (lw_at lw_m2 79 rfl) rfl
theorem q383 : (Jvm.Cond.code ({ cls := "HomeRoll", name := "paperAt", desc := "(I)LHomeRoll$Paper;" } : Jvm.MethodName) prog_1_method_14_code (2 : Nat) (Option.some (Jvm.ClassFile.FieldType.object "HomeRoll$Paper"))) ∈ lw_all := lw_g (lw_at lw_m2 80 rfl) rfl
theorem q385 : (Jvm.Cond.instanceMethod ({ cls := "HomeRoll", name := "later", desc := "(I)I" } : Jvm.MethodName)) ∈ lw_all := lw_g (lw_at lw_m2 82 rfl) rfl
theorem q386 : (Jvm.Cond.selects "HomeRoll" ({ cls := "HomeRoll", name := "later", desc := "(I)I" } : Jvm.MethodName) ({ cls := "HomeRoll", name := "later", desc := "(I)I" } : Jvm.MethodName)) ∈ lw_all := lw_g (lw_at lw_m2 83 rfl) rfl
theorem q387 : (Jvm.Cond.code ({ cls := "HomeRoll", name := "later", desc := "(I)I" } : Jvm.MethodName) prog_1_method_16_code (2 : Nat) (Option.some Jvm.ClassFile.FieldType.int)) ∈ lw_all := lw_g (lw_at lw_m2 84 rfl) rfl
theorem q389 : (Jvm.Cond.instanceMethod ({ cls := "HomeRoll", name := "holder", desc := "(III)I" } : Jvm.MethodName)) ∈ lw_all := lw_g (lw_at lw_m2 86 rfl) rfl
theorem q390 : (Jvm.Cond.selects "HomeRoll" ({ cls := "HomeRoll", name := "holder", desc := "(III)I" } : Jvm.MethodName) ({ cls := "HomeRoll", name := "holder", desc := "(III)I" } : Jvm.MethodName)) ∈ lw_all := lw_g (lw_at lw_m2 87 rfl) rfl
theorem q391 : (Jvm.Cond.code ({ cls := "HomeRoll", name := "holder", desc := "(III)I" } : Jvm.MethodName) prog_1_method_19_code (4 : Nat) (Option.some Jvm.ClassFile.FieldType.int)) ∈ lw_all := lw_g (lw_at lw_m2 88 rfl) rfl
theorem q392 : (Jvm.Cond.methodLink "HomeRoll" (172 : Nat) ({ cls := "HomeRoll", name := "follow", desc := "(IIILHomeRoll$Paper;)V" } : Jvm.MethodName)) ∈ lw_all := lw_g (lw_at lw_m2 89 rfl) rfl
theorem q393 : (Jvm.Cond.privateMethod ({ cls := "HomeRoll", name := "follow", desc := "(IIILHomeRoll$Paper;)V" } : Jvm.MethodName)) ∈ lw_tbl := lw_at lw_m2 90 rfl
theorem q394 : (Jvm.Cond.instanceMethod ({ cls := "HomeRoll", name := "follow", desc := "(IIILHomeRoll$Paper;)V" } : Jvm.MethodName)) ∈ lw_all := lw_g (lw_at lw_m2 91 rfl) rfl
theorem q395 : (Jvm.Cond.code ({ cls := "HomeRoll", name := "follow", desc := "(IIILHomeRoll$Paper;)V" } : Jvm.MethodName) prog_1_method_17_code (9 : Nat) (Option.none : Option Jvm.ClassFile.FieldType)) ∈ lw_all := lw_g (lw_at lw_m2 92 rfl) rfl
theorem q396 : (Jvm.Cond.methodLink "HomeRoll" (151 : Nat) ({ cls := "HomeRoll", name := "following", desc := "(IIIII)LHomeRoll$Paper;" } : Jvm.MethodName)) ∈ lw_all := lw_g (lw_at lw_m2 93 rfl) rfl
theorem q397 : (Jvm.Cond.privateMethod ({ cls := "HomeRoll", name := "following", desc := "(IIIII)LHomeRoll$Paper;" } : Jvm.MethodName)) ∈ lw_tbl := lw_at lw_m2 94 rfl
theorem q398 : (Jvm.Cond.instanceMethod ({ cls := "HomeRoll", name := "following", desc := "(IIIII)LHomeRoll$Paper;" } : Jvm.MethodName)) ∈ lw_all := lw_g (lw_at lw_m2 95 rfl) rfl
theorem q399 : (Jvm.Cond.code ({ cls := "HomeRoll", name := "following", desc := "(IIIII)LHomeRoll$Paper;" } : Jvm.MethodName) prog_1_method_18_code (9 : Nat) (Option.some (Jvm.ClassFile.FieldType.object "HomeRoll$Paper"))) ∈ lw_all := lw_g (lw_at lw_m2 96 rfl) rfl
theorem q400 : (Jvm.Cond.methodLink "HomeRoll" (170 : Nat) ({ cls := "HomeRoll$Paper", name := "counts", desc := "(I)Z" } : Jvm.MethodName)) ∈ lw_all := lw_g (lw_at lw_m2 97 rfl) rfl
theorem q405 : (Jvm.Cond.instanceMethod ({ cls := "HomeRoll", name := "loose", desc := "(II)I" } : Jvm.MethodName)) ∈ lw_all := lw_g (lw_at lw_m2 102 rfl) rfl
theorem q406 : (Jvm.Cond.selects "HomeRoll" ({ cls := "HomeRoll", name := "loose", desc := "(II)I" } : Jvm.MethodName) ({ cls := "HomeRoll", name := "loose", desc := "(II)I" } : Jvm.MethodName)) ∈ lw_all := lw_g (lw_at lw_m2 103 rfl) rfl
theorem q407 : (Jvm.Cond.code ({ cls := "HomeRoll", name := "loose", desc := "(II)I" } : Jvm.MethodName) prog_1_method_20_code (4 : Nat) (Option.some Jvm.ClassFile.FieldType.int)) ∈ lw_all := lw_g (lw_at lw_m2 104 rfl) rfl
theorem q409 : (Jvm.Cond.instanceMethod ({ cls := "HomeRoll", name := "feed", desc := "(IIIII)I" } : Jvm.MethodName)) ∈ lw_all := lw_g (lw_at lw_m2 106 rfl) rfl
theorem q410 : (Jvm.Cond.selects "HomeRoll" ({ cls := "HomeRoll", name := "feed", desc := "(IIIII)I" } : Jvm.MethodName) ({ cls := "HomeRoll", name := "feed", desc := "(IIIII)I" } : Jvm.MethodName)) ∈ lw_all := lw_g (lw_at lw_m2 107 rfl) rfl
theorem q411 : (Jvm.Cond.code ({ cls := "HomeRoll", name := "feed", desc := "(IIIII)I" } : Jvm.MethodName) prog_1_method_21_code (12 : Nat) (Option.some Jvm.ClassFile.FieldType.int)) ∈ lw_all := lw_g (lw_at lw_m2 108 rfl) rfl
theorem q413 : (Jvm.Cond.instanceMethod ({ cls := "HomeRoll", name := "end", desc := "(I)I" } : Jvm.MethodName)) ∈ lw_all := lw_g (lw_at lw_m2 110 rfl) rfl
theorem q414 : (Jvm.Cond.selects "HomeRoll" ({ cls := "HomeRoll", name := "end", desc := "(I)I" } : Jvm.MethodName) ({ cls := "HomeRoll", name := "end", desc := "(I)I" } : Jvm.MethodName)) ∈ lw_all := lw_g (lw_at lw_m2 111 rfl) rfl
theorem q415 : (Jvm.Cond.code ({ cls := "HomeRoll", name := "end", desc := "(I)I" } : Jvm.MethodName) prog_1_method_22_code (2 : Nat) (Option.some Jvm.ClassFile.FieldType.int)) ∈ lw_all := lw_g (lw_at lw_m2 112 rfl) rfl
theorem q417 : (Jvm.Cond.instanceMethod ({ cls := "HomeRoll", name := "law", desc := "()I" } : Jvm.MethodName)) ∈ lw_all := lw_g (lw_at lw_m2 114 rfl) rfl
theorem q418 : (Jvm.Cond.selects "HomeRoll" ({ cls := "HomeRoll", name := "law", desc := "()I" } : Jvm.MethodName) ({ cls := "HomeRoll", name := "law", desc := "()I" } : Jvm.MethodName)) ∈ lw_all := lw_g (lw_at lw_m2 115 rfl) rfl
theorem q419 : (Jvm.Cond.codeWith ({ cls := "HomeRoll", name := "law", desc := "()I" } : Jvm.MethodName) prog_1_method_23_code (4 : Nat) (Option.some Jvm.ClassFile.FieldType.int) [((10 : Nat), (33 : Nat), (40 : Nat), (193 : Nat)), ((10 : Nat), (33 : Nat), (66 : Nat), (0 : Nat)), ((40 : Nat), (59 : Nat), (66 : Nat), (0 : Nat))]) ∈ lw_all := lw_g (lw_at lw_m2 116 rfl) rfl
theorem q420 : (Jvm.Cond.classLink "HomeRoll" (193 : Nat) "HomeRoll$Wrong") ∈ lw_all := lw_g (lw_at lw_m2 117 rfl) rfl
theorem q421 : (Jvm.Cond.classLink "HomeRoll" (182 : Nat) "HomeRoll$Reader") ∈ lw_all := lw_g (lw_at lw_m2 118 rfl) rfl
theorem q423 : (Jvm.Cond.methodLinkNest "HomeRoll" (184 : Nat) ({ cls := "HomeRoll$Reader", name := "<init>", desc := "(LHomeRoll;)V" } : Jvm.MethodName) "HomeRoll") ∈ lw_tbl := lw_at lw_m2 120 rfl
theorem q455 : (Jvm.Cond.methodLink "HomeRoll" (185 : Nat) ({ cls := "HomeRoll$Reader", name := "text", desc := "()Ljava/util/ArrayList;" } : Jvm.MethodName)) ∈ lw_all := lw_g (lw_at lw_m2 152 rfl) rfl
theorem q797 : (Jvm.Cond.fieldLink "HomeRoll" (195 : Nat) "HomeRoll$Wrong" "kind" "I") ∈ lw_all := lw_g (lw_at lw_m4 14 rfl) rfl
theorem q799 : (Jvm.Cond.fieldLink "HomeRoll" (198 : Nat) "HomeRoll$Wrong" "place" "I") ∈ lw_all := lw_g (lw_at lw_m4 16 rfl) rfl
theorem q1018 : (Jvm.Cond.selects "HomeRoll" ({ cls := "java/lang/Object", name := "getClass", desc := "()Ljava/lang/Class;" } : Jvm.MethodName) ({ cls := "java/lang/Object", name := "getClass", desc := "()Ljava/lang/Class;" } : Jvm.MethodName)) ∈ lw_all := lw_g (lw_at lw_m4 235 rfl) rfl
theorem q1094 : (Jvm.Cond.fieldLink "HomeRoll" (224 : Nat) "HomeRoll$Line" "when" "LHomeRoll$Ex;") ∈ lw_all := lw_g (lw_at lw_m5 71 rfl) rfl
theorem q1096 : (Jvm.Cond.fieldLink "HomeRoll" (242 : Nat) "HomeRoll$Line" "does" "I") ∈ lw_all := lw_g (lw_at lw_m5 73 rfl) rfl
theorem q1098 : (Jvm.Cond.fieldLink "HomeRoll" (245 : Nat) "HomeRoll$Line" "part" "I") ∈ lw_all := lw_g (lw_at lw_m5 75 rfl) rfl
theorem q1106 : (Jvm.Cond.methodLink "HomeRoll" (189 : Nat) ({ cls := "java/util/ArrayList", name := "size", desc := "()I" } : Jvm.MethodName)) ∈ lw_all := lw_g (lw_at lw_m5 83 rfl) rfl
theorem q1108 : (Jvm.Cond.instanceMethod ({ cls := "HomeRoll", name := "fault", desc := "(I)I" } : Jvm.MethodName)) ∈ lw_all := lw_g (lw_at lw_m5 85 rfl) rfl
theorem q1109 : (Jvm.Cond.selects "HomeRoll" ({ cls := "HomeRoll", name := "fault", desc := "(I)I" } : Jvm.MethodName) ({ cls := "HomeRoll", name := "fault", desc := "(I)I" } : Jvm.MethodName)) ∈ lw_all := lw_g (lw_at lw_m5 86 rfl) rfl
theorem q1110 : (Jvm.Cond.code ({ cls := "HomeRoll", name := "fault", desc := "(I)I" } : Jvm.MethodName) prog_1_method_24_code (2 : Nat) (Option.some Jvm.ClassFile.FieldType.int)) ∈ lw_all := lw_g (lw_at lw_m5 87 rfl) rfl
theorem q1112 : (Jvm.Cond.instanceMethod ({ cls := "HomeRoll", name := "claim", desc := "(I)I" } : Jvm.MethodName)) ∈ lw_all := lw_g (lw_at lw_m5 89 rfl) rfl
theorem q1113 : (Jvm.Cond.selects "HomeRoll" ({ cls := "HomeRoll", name := "claim", desc := "(I)I" } : Jvm.MethodName) ({ cls := "HomeRoll", name := "claim", desc := "(I)I" } : Jvm.MethodName)) ∈ lw_all := lw_g (lw_at lw_m5 90 rfl) rfl
theorem q1114 : (Jvm.Cond.code ({ cls := "HomeRoll", name := "claim", desc := "(I)I" } : Jvm.MethodName) prog_1_method_25_code (3 : Nat) (Option.some Jvm.ClassFile.FieldType.int)) ∈ lw_all := lw_g (lw_at lw_m5 91 rfl) rfl
theorem q1116 : (Jvm.Cond.instanceMethod ({ cls := "HomeRoll", name := "ruling", desc := "(II)I" } : Jvm.MethodName)) ∈ lw_all := lw_g (lw_at lw_m5 93 rfl) rfl
theorem q1117 : (Jvm.Cond.selects "HomeRoll" ({ cls := "HomeRoll", name := "ruling", desc := "(II)I" } : Jvm.MethodName) ({ cls := "HomeRoll", name := "ruling", desc := "(II)I" } : Jvm.MethodName)) ∈ lw_all := lw_g (lw_at lw_m5 94 rfl) rfl
theorem q1118 : (Jvm.Cond.code ({ cls := "HomeRoll", name := "ruling", desc := "(II)I" } : Jvm.MethodName) prog_1_method_28_code (4 : Nat) (Option.some Jvm.ClassFile.FieldType.int)) ∈ lw_all := lw_g (lw_at lw_m5 95 rfl) rfl
theorem q1119 : (Jvm.Cond.methodLink "HomeRoll" (234 : Nat) ({ cls := "HomeRoll", name := "looks", desc := "(II)Z" } : Jvm.MethodName)) ∈ lw_all := lw_g (lw_at lw_m5 96 rfl) rfl
theorem q1120 : (Jvm.Cond.privateMethod ({ cls := "HomeRoll", name := "looks", desc := "(II)Z" } : Jvm.MethodName)) ∈ lw_tbl := lw_at lw_m5 97 rfl
theorem q1121 : (Jvm.Cond.instanceMethod ({ cls := "HomeRoll", name := "looks", desc := "(II)Z" } : Jvm.MethodName)) ∈ lw_all := lw_g (lw_at lw_m5 98 rfl) rfl
theorem q1122 : (Jvm.Cond.code ({ cls := "HomeRoll", name := "looks", desc := "(II)Z" } : Jvm.MethodName) prog_1_method_26_code (4 : Nat) (Option.some Jvm.ClassFile.FieldType.boolean)) ∈ lw_all := lw_g (lw_at lw_m5 99 rfl) rfl
theorem q1123 : (Jvm.Cond.methodLink "HomeRoll" (238 : Nat) ({ cls := "HomeRoll", name := "line", desc := "()LHomeRoll$Line;" } : Jvm.MethodName)) ∈ lw_all := lw_g (lw_at lw_m5 100 rfl) rfl
theorem q1124 : (Jvm.Cond.privateMethod ({ cls := "HomeRoll", name := "line", desc := "()LHomeRoll$Line;" } : Jvm.MethodName)) ∈ lw_tbl := lw_at lw_m5 101 rfl
theorem q1125 : (Jvm.Cond.instanceMethod ({ cls := "HomeRoll", name := "line", desc := "()LHomeRoll$Line;" } : Jvm.MethodName)) ∈ lw_all := lw_g (lw_at lw_m5 102 rfl) rfl
theorem q1126 : (Jvm.Cond.code ({ cls := "HomeRoll", name := "line", desc := "()LHomeRoll$Line;" } : Jvm.MethodName) prog_1_method_27_code (2 : Nat) (Option.some (Jvm.ClassFile.FieldType.object "HomeRoll$Line"))) ∈ lw_all := lw_g (lw_at lw_m5 103 rfl) rfl
theorem q1127 : (Jvm.Cond.methodLink "HomeRoll" (218 : Nat) ({ cls := "java/util/ArrayList", name := "get", desc := "(I)Ljava/lang/Object;" } : Jvm.MethodName)) ∈ lw_all := lw_g (lw_at lw_m5 104 rfl) rfl
theorem q1128 : (Jvm.Cond.classLink "HomeRoll" (222 : Nat) "HomeRoll$Line") ∈ lw_all := lw_g (lw_at lw_m5 105 rfl) rfl
theorem q1129 : (Jvm.Cond.methodLink "HomeRoll" (228 : Nat) ({ cls := "HomeRoll$Ex", name := "of", desc := "(LHomeRoll$View;)I" } : Jvm.MethodName)) ∈ lw_all := lw_g (lw_at lw_m5 106 rfl) rfl
theorem q1195 : (Jvm.Cond.privateMethod ({ cls := "HomeRoll", name := "isDead", desc := "(II)Z" } : Jvm.MethodName)) ∈ lw_tbl := lw_at lw_m5 172 rfl
theorem q1196 : (Jvm.Cond.instanceMethod ({ cls := "HomeRoll", name := "isDead", desc := "(II)Z" } : Jvm.MethodName)) ∈ lw_all := lw_g (lw_at lw_m5 173 rfl) rfl
theorem q1197 : (Jvm.Cond.code ({ cls := "HomeRoll", name := "isDead", desc := "(II)Z" } : Jvm.MethodName) prog_1_method_8_code (3 : Nat) (Option.some Jvm.ClassFile.FieldType.boolean)) ∈ lw_all := lw_g (lw_at lw_m5 174 rfl) rfl
theorem q1206 : (Jvm.Cond.instanceMethod ({ cls := "HomeRoll", name := "sum", desc := "(II)I" } : Jvm.MethodName)) ∈ lw_all := lw_g (lw_at lw_m5 183 rfl) rfl
theorem q1207 : (Jvm.Cond.selects "HomeRoll" ({ cls := "HomeRoll", name := "sum", desc := "(II)I" } : Jvm.MethodName) ({ cls := "HomeRoll", name := "sum", desc := "(II)I" } : Jvm.MethodName)) ∈ lw_all := lw_g (lw_at lw_m5 184 rfl) rfl
theorem q1208 : (Jvm.Cond.code ({ cls := "HomeRoll", name := "sum", desc := "(II)I" } : Jvm.MethodName) prog_1_method_29_code (4 : Nat) (Option.some Jvm.ClassFile.FieldType.int)) ∈ lw_all := lw_g (lw_at lw_m5 185 rfl) rfl
theorem q1209 : (Jvm.Cond.constantLong "HomeRoll" (247 : Nat) (100 : Int64)) ∈ lw_all := lw_g (lw_at lw_m5 186 rfl) rfl
theorem q1211 : (Jvm.Cond.instanceMethod ({ cls := "HomeRoll", name := "term", desc := "(III)I" } : Jvm.MethodName)) ∈ lw_all := lw_g (lw_at lw_m5 188 rfl) rfl
theorem q1212 : (Jvm.Cond.selects "HomeRoll" ({ cls := "HomeRoll", name := "term", desc := "(III)I" } : Jvm.MethodName) ({ cls := "HomeRoll", name := "term", desc := "(III)I" } : Jvm.MethodName)) ∈ lw_all := lw_g (lw_at lw_m5 189 rfl) rfl
theorem q1213 : (Jvm.Cond.code ({ cls := "HomeRoll", name := "term", desc := "(III)I" } : Jvm.MethodName) prog_1_method_30_code (4 : Nat) (Option.some Jvm.ClassFile.FieldType.int)) ∈ lw_all := lw_g (lw_at lw_m5 190 rfl) rfl
theorem q1214 : (Jvm.Cond.methodLink "HomeRoll" (249 : Nat) ({ cls := "HomeRoll$Known", name := "told", desc := "(LHomeRoll;LHomeRoll$View;)I" } : Jvm.MethodName)) ∈ lw_all := lw_g (lw_at lw_m5 191 rfl) rfl
theorem q1216 : (Jvm.Cond.instanceMethod ({ cls := "HomeRoll", name := "share", desc := "(IIII)J" } : Jvm.MethodName)) ∈ lw_all := lw_g (lw_at lw_m5 193 rfl) rfl
theorem q1217 : (Jvm.Cond.selects "HomeRoll" ({ cls := "HomeRoll", name := "share", desc := "(IIII)J" } : Jvm.MethodName) ({ cls := "HomeRoll", name := "share", desc := "(IIII)J" } : Jvm.MethodName)) ∈ lw_all := lw_g (lw_at lw_m5 194 rfl) rfl
theorem q1218 : (Jvm.Cond.code ({ cls := "HomeRoll", name := "share", desc := "(IIII)J" } : Jvm.MethodName) prog_1_method_35_code (5 : Nat) (Option.some Jvm.ClassFile.FieldType.long)) ∈ lw_all := lw_g (lw_at lw_m5 195 rfl) rfl
theorem q1219 : (Jvm.Cond.methodLink "HomeRoll" (267 : Nat) ({ cls := "HomeRoll", name := "hand", desc := "(II)V" } : Jvm.MethodName)) ∈ lw_all := lw_g (lw_at lw_m5 196 rfl) rfl
theorem q1220 : (Jvm.Cond.privateMethod ({ cls := "HomeRoll", name := "hand", desc := "(II)V" } : Jvm.MethodName)) ∈ lw_tbl := lw_at lw_m5 197 rfl
theorem q1221 : (Jvm.Cond.instanceMethod ({ cls := "HomeRoll", name := "hand", desc := "(II)V" } : Jvm.MethodName)) ∈ lw_all := lw_g (lw_at lw_m5 198 rfl) rfl
theorem q1222 : (Jvm.Cond.code ({ cls := "HomeRoll", name := "hand", desc := "(II)V" } : Jvm.MethodName) prog_1_method_33_code (6 : Nat) (Option.none : Option Jvm.ClassFile.FieldType)) ∈ lw_all := lw_g (lw_at lw_m5 199 rfl) rfl
theorem q1223 : (Jvm.Cond.methodLink "HomeRoll" (257 : Nat) ({ cls := "HomeRoll", name := "isDead", desc := "(II)Z" } : Jvm.MethodName)) ∈ lw_all := lw_g (lw_at lw_m5 200 rfl) rfl
theorem q1224 : (Jvm.Cond.methodLink "HomeRoll" (260 : Nat) ({ cls := "HomeRoll", name := "isChild", desc := "(II)Z" } : Jvm.MethodName)) ∈ lw_all := lw_g (lw_at lw_m5 201 rfl) rfl
theorem q1225 : (Jvm.Cond.privateMethod ({ cls := "HomeRoll", name := "isChild", desc := "(II)Z" } : Jvm.MethodName)) ∈ lw_tbl := lw_at lw_m5 202 rfl
theorem q1226 : (Jvm.Cond.instanceMethod ({ cls := "HomeRoll", name := "isChild", desc := "(II)Z" } : Jvm.MethodName)) ∈ lw_all := lw_g (lw_at lw_m5 203 rfl) rfl
theorem q1227 : (Jvm.Cond.code ({ cls := "HomeRoll", name := "isChild", desc := "(II)Z" } : Jvm.MethodName) prog_1_method_32_code (3 : Nat) (Option.some Jvm.ClassFile.FieldType.boolean)) ∈ lw_all := lw_g (lw_at lw_m5 204 rfl) rfl
theorem q1228 : (Jvm.Cond.methodLink "HomeRoll" (263 : Nat) ({ cls := "HomeRoll", name := "add", desc := "(IJJ)V" } : Jvm.MethodName)) ∈ lw_all := lw_g (lw_at lw_m5 205 rfl) rfl
theorem q1229 : (Jvm.Cond.privateMethod ({ cls := "HomeRoll", name := "add", desc := "(IJJ)V" } : Jvm.MethodName)) ∈ lw_tbl := lw_at lw_m5 206 rfl
theorem q1230 : (Jvm.Cond.instanceMethod ({ cls := "HomeRoll", name := "add", desc := "(IJJ)V" } : Jvm.MethodName)) ∈ lw_all := lw_g (lw_at lw_m5 207 rfl) rfl
theorem q1231 : (Jvm.Cond.code ({ cls := "HomeRoll", name := "add", desc := "(IJJ)V" } : Jvm.MethodName) prog_1_method_34_code (14 : Nat) (Option.none : Option Jvm.ClassFile.FieldType)) ∈ lw_all := lw_g (lw_at lw_m5 208 rfl) rfl
theorem q1232 : (Jvm.Cond.methodLink "HomeRoll" (253 : Nat) ({ cls := "HomeRoll", name := "common", desc := "(JJ)J" } : Jvm.MethodName)) ∈ lw_all := lw_g (lw_at lw_m5 209 rfl) rfl
theorem q1233 : (Jvm.Cond.static ({ cls := "HomeRoll", name := "common", desc := "(JJ)J" } : Jvm.MethodName)) ∈ lw_all := lw_g (lw_at lw_m5 210 rfl) rfl
theorem q1234 : (Jvm.Cond.code ({ cls := "HomeRoll", name := "common", desc := "(JJ)J" } : Jvm.MethodName) prog_1_method_31_code (4 : Nat) (Option.some Jvm.ClassFile.FieldType.long)) ∈ lw_all := lw_g (lw_at lw_m5 211 rfl) rfl
theorem q1236 : (Jvm.Cond.instanceMethod ({ cls := "HomeRoll", name := "want", desc := "(III)I" } : Jvm.MethodName)) ∈ lw_all := lw_g (lw_at lw_m5 213 rfl) rfl
theorem q1237 : (Jvm.Cond.selects "HomeRoll" ({ cls := "HomeRoll", name := "want", desc := "(III)I" } : Jvm.MethodName) ({ cls := "HomeRoll", name := "want", desc := "(III)I" } : Jvm.MethodName)) ∈ lw_all := lw_g (lw_at lw_m5 214 rfl) rfl
theorem q1238 : (Jvm.Cond.code ({ cls := "HomeRoll", name := "want", desc := "(III)I" } : Jvm.MethodName) prog_1_method_36_code (4 : Nat) (Option.some Jvm.ClassFile.FieldType.int)) ∈ lw_all := lw_g (lw_at lw_m5 215 rfl) rfl
theorem q1240 : (Jvm.Cond.instanceMethod ({ cls := "HomeRoll", name := "joy", desc := "()I" } : Jvm.MethodName)) ∈ lw_all := lw_g (lw_at lw_m5 217 rfl) rfl
theorem q1241 : (Jvm.Cond.selects "HomeRoll" ({ cls := "HomeRoll", name := "joy", desc := "()I" } : Jvm.MethodName) ({ cls := "HomeRoll", name := "joy", desc := "()I" } : Jvm.MethodName)) ∈ lw_all := lw_g (lw_at lw_m5 218 rfl) rfl
theorem q1242 : (Jvm.Cond.code ({ cls := "HomeRoll", name := "joy", desc := "()I" } : Jvm.MethodName) prog_1_method_39_code (1 : Nat) (Option.some Jvm.ClassFile.FieldType.int)) ∈ lw_all := lw_g (lw_at lw_m5 219 rfl) rfl
theorem q1243 : (Jvm.Cond.methodLink "HomeRoll" (283 : Nat) ({ cls := "HomeRoll", name := "swap", desc := "()V" } : Jvm.MethodName)) ∈ lw_all := lw_g (lw_at lw_m5 220 rfl) rfl
theorem q1244 : (Jvm.Cond.privateMethod ({ cls := "HomeRoll", name := "swap", desc := "()V" } : Jvm.MethodName)) ∈ lw_tbl := lw_at lw_m5 221 rfl
theorem q1245 : (Jvm.Cond.instanceMethod ({ cls := "HomeRoll", name := "swap", desc := "()V" } : Jvm.MethodName)) ∈ lw_all := lw_g (lw_at lw_m5 222 rfl) rfl
theorem q1246 : (Jvm.Cond.code ({ cls := "HomeRoll", name := "swap", desc := "()V" } : Jvm.MethodName) prog_1_method_38_code (5 : Nat) (Option.none : Option Jvm.ClassFile.FieldType)) ∈ lw_all := lw_g (lw_at lw_m5 223 rfl) rfl
theorem q1247 : (Jvm.Cond.methodLink "HomeRoll" (274 : Nat) ({ cls := "HomeRoll", name := "canHave", desc := "(II)Z" } : Jvm.MethodName)) ∈ lw_all := lw_g (lw_at lw_m5 224 rfl) rfl
theorem q1248 : (Jvm.Cond.privateMethod ({ cls := "HomeRoll", name := "canHave", desc := "(II)Z" } : Jvm.MethodName)) ∈ lw_tbl := lw_at lw_m5 225 rfl
theorem q1249 : (Jvm.Cond.instanceMethod ({ cls := "HomeRoll", name := "canHave", desc := "(II)Z" } : Jvm.MethodName)) ∈ lw_all := lw_g (lw_at lw_m5 226 rfl) rfl
theorem q1250 : (Jvm.Cond.code ({ cls := "HomeRoll", name := "canHave", desc := "(II)Z" } : Jvm.MethodName) prog_1_method_37_code (3 : Nat) (Option.some Jvm.ClassFile.FieldType.boolean)) ∈ lw_all := lw_g (lw_at lw_m5 227 rfl) rfl
theorem q1251 : (Jvm.Cond.methodLink "HomeRoll" (277 : Nat) ({ cls := "java/lang/Math", name := "max", desc := "(II)I" } : Jvm.MethodName)) ∈ lw_all := lw_g (lw_at lw_m5 228 rfl) rfl
theorem q1253 : (Jvm.Cond.instanceMethod ({ cls := "HomeRoll", name := "swap", desc := "(I)I" } : Jvm.MethodName)) ∈ lw_all := lw_g (lw_at lw_m5 230 rfl) rfl
theorem q1254 : (Jvm.Cond.selects "HomeRoll" ({ cls := "HomeRoll", name := "swap", desc := "(I)I" } : Jvm.MethodName) ({ cls := "HomeRoll", name := "swap", desc := "(I)I" } : Jvm.MethodName)) ∈ lw_all := lw_g (lw_at lw_m5 231 rfl) rfl
theorem q1255 : (Jvm.Cond.code ({ cls := "HomeRoll", name := "swap", desc := "(I)I" } : Jvm.MethodName) prog_1_method_40_code (5 : Nat) (Option.some Jvm.ClassFile.FieldType.int)) ∈ lw_all := lw_g (lw_at lw_m5 232 rfl) rfl
theorem q1257 : (Jvm.Cond.instanceMethod ({ cls := "HomeRoll", name := "about", desc := "(I)I" } : Jvm.MethodName)) ∈ lw_all := lw_g (lw_at lw_m5 234 rfl) rfl
theorem q1258 : (Jvm.Cond.selects "HomeRoll" ({ cls := "HomeRoll", name := "about", desc := "(I)I" } : Jvm.MethodName) ({ cls := "HomeRoll", name := "about", desc := "(I)I" } : Jvm.MethodName)) ∈ lw_all := lw_g (lw_at lw_m5 235 rfl) rfl
theorem q1259 : (Jvm.Cond.code ({ cls := "HomeRoll", name := "about", desc := "(I)I" } : Jvm.MethodName) prog_1_method_41_code (2 : Nat) (Option.some Jvm.ClassFile.FieldType.int)) ∈ lw_all := lw_g (lw_at lw_m5 236 rfl) rfl
theorem q1713 : (Jvm.Cond.castable "HomeRoll" "java/lang/Object") ∈ lw_tbl := lw_at lw_m7 210 rfl
theorem in_X0 : ∀ w ∈ wsX00, w ∈ lw_all := lw_in wsX00 [220, 222, 224, 226, 228, 230, 232, 234, 236, 238, 240, 242, 244, 246, 248, 250, 252, 254, 256, 258, 260, 262, 264, 266, 268, 270, 272, 274, 276, 278, 280] (by decide +kernel) (by decide +kernel)
/-! HomeRoll$View -/
def RX1 : String := "HomeRoll$View"
def TX1 : u_T := fun k => match k with
  | 0 => ("HomeRoll$View", "paper", "LHomeRoll$Paper;", false)
  | 1 => ("HomeRoll$View", "held", "I", false)
  | 2 => ("HomeRoll$View", "hands", "I", false)
  | 3 => ("HomeRoll$View", "k", "I", false)
  | 4 => ("HomeRoll$View", "lives", "Z", false)
  | _ => ("HomeRoll$View", "this$0", "LHomeRoll;", true)
def tyX1 : Nat → FieldType := fun k => match k with
  | 0 => .object "HomeRoll$Paper"
  | 1 => .int
  | 2 => .int
  | 3 => .int
  | 4 => .boolean
  | _ => .object "HomeRoll"
abbrev wsX10 : List Cond := u_ws RX1 TX1 6
theorem nmX1 : ∀ a, a < 6 → ∀ b, b < 6 → a ≠ b → (TX1 a).2.1 ≠ (TX1 b).2.1 := by decide +kernel
theorem tyX1_ok : ∀ k, k < 6 → parseFieldDescriptor (TX1 k).2.2.1 = some (tyX1 k) := by decide +kernel
abbrev cX1_init : ByteArray := prog_21_method_1_code
def yX1_init : MethodName := ⟨RX1, "<init>", "(LHomeRoll;)V"⟩
theorem q68 : (Jvm.Cond.initialized "HomeRoll$View") ∈ lw_all := lw_g (lw_at lw_m1 5 rfl) rfl
theorem q136 : (Jvm.Cond.instantiable "HomeRoll$View" (6 : Nat)) ∈ lw_all := lw_g (lw_at lw_m1 73 rfl) rfl
theorem q138 : (Jvm.Cond.instanceMethod ({ cls := "HomeRoll$View", name := "<init>", desc := "(LHomeRoll;)V" } : Jvm.MethodName)) ∈ lw_all := lw_g (lw_at lw_m1 75 rfl) rfl
theorem q139 : (Jvm.Cond.code ({ cls := "HomeRoll$View", name := "<init>", desc := "(LHomeRoll;)V" } : Jvm.MethodName) prog_21_method_1_code (2 : Nat) (Option.none : Option Jvm.ClassFile.FieldType)) ∈ lw_all := lw_g (lw_at lw_m1 76 rfl) rfl
theorem q140 : (Jvm.Cond.methodLink "HomeRoll$View" (7 : Nat) ({ cls := "java/lang/Object", name := "<init>", desc := "()V" } : Jvm.MethodName)) ∈ lw_all := lw_g (lw_at lw_m1 77 rfl) rfl
theorem q156 : (Jvm.Cond.fieldLink "HomeRoll$View" (1 : Nat) "HomeRoll$View" "this$0" "LHomeRoll;") ∈ lw_all := lw_g (lw_at lw_m1 93 rfl) rfl
theorem q157 : (Jvm.Cond.lays "HomeRoll$View" "HomeRoll$View" "paper" "LHomeRoll$Paper;") ∈ lw_all := lw_g (lw_at lw_m1 94 rfl) rfl
theorem q158 : (Jvm.Cond.soleField "HomeRoll$View" "paper") ∈ lw_all := lw_g (lw_at lw_m1 95 rfl) rfl
theorem q159 : (Jvm.Cond.lays "HomeRoll$View" "HomeRoll$View" "held" "I") ∈ lw_all := lw_g (lw_at lw_m1 96 rfl) rfl
theorem q160 : (Jvm.Cond.soleField "HomeRoll$View" "held") ∈ lw_all := lw_g (lw_at lw_m1 97 rfl) rfl
theorem q161 : (Jvm.Cond.lays "HomeRoll$View" "HomeRoll$View" "hands" "I") ∈ lw_all := lw_g (lw_at lw_m1 98 rfl) rfl
theorem q162 : (Jvm.Cond.soleField "HomeRoll$View" "hands") ∈ lw_all := lw_g (lw_at lw_m1 99 rfl) rfl
theorem q163 : (Jvm.Cond.lays "HomeRoll$View" "HomeRoll$View" "k" "I") ∈ lw_all := lw_g (lw_at lw_m1 100 rfl) rfl
theorem q164 : (Jvm.Cond.soleField "HomeRoll$View" "k") ∈ lw_all := lw_g (lw_at lw_m1 101 rfl) rfl
theorem q165 : (Jvm.Cond.lays "HomeRoll$View" "HomeRoll$View" "lives" "Z") ∈ lw_all := lw_g (lw_at lw_m1 102 rfl) rfl
theorem q166 : (Jvm.Cond.soleField "HomeRoll$View" "lives") ∈ lw_all := lw_g (lw_at lw_m1 103 rfl) rfl
theorem q167 : (Jvm.Cond.laysFinal "HomeRoll$View" "HomeRoll$View" "this$0" "LHomeRoll;") ∈ lw_all := lw_g (lw_at lw_m1 104 rfl) rfl
theorem q168 : (Jvm.Cond.soleField "HomeRoll$View" "this$0") ∈ lw_all := lw_g (lw_at lw_m1 105 rfl) rfl
theorem q169 : (Jvm.Cond.superclass "HomeRoll$View" "java/lang/Object") ∈ lw_all := lw_g (lw_at lw_m1 106 rfl) rfl
theorem q1036 : (Jvm.Cond.selects "HomeRoll$View" ({ cls := "java/lang/Object", name := "getClass", desc := "()Ljava/lang/Class;" } : Jvm.MethodName) ({ cls := "java/lang/Object", name := "getClass", desc := "()Ljava/lang/Class;" } : Jvm.MethodName)) ∈ lw_all := lw_g (lw_at lw_m5 13 rfl) rfl
theorem q1715 : (Jvm.Cond.castable "HomeRoll$View" "java/lang/Object") ∈ lw_tbl := lw_at lw_m7 212 rfl
theorem in_X1 : ∀ w ∈ wsX10, w ∈ lw_all := lw_in wsX10 [157, 159, 161, 163, 165, 167] (by decide +kernel) (by decide +kernel)
/-! HomeRoll$Term -/
def RX10 : String := "HomeRoll$Term"
def TX10 : u_T := fun k => match k with
  | 0 => ("HomeRoll$Ex", "this$0", "LHomeRoll;", true)
  | 1 => ("HomeRoll$Term", "what", "LHomeRoll$Known;", true)
  | _ => ("HomeRoll$Term", "this$0", "LHomeRoll;", true)
def tyX10 : Nat → FieldType := fun k => match k with
  | 0 => .object "HomeRoll"
  | 1 => .object "HomeRoll$Known"
  | _ => .object "HomeRoll"
abbrev wsX100 : List Cond := u_ws RX10 TX10 3
-- two fields of one name: no nmX10
theorem tyX10_ok : ∀ k, k < 3 → parseFieldDescriptor (TX10 k).2.2.1 = some (tyX10 k) := by decide +kernel
abbrev cX10_init : ByteArray := prog_20_method_1_code
def yX10_init : MethodName := ⟨RX10, "<init>", "(LHomeRoll;LHomeRoll$Known;)V"⟩
abbrev cX10_of : ByteArray := prog_20_method_2_code
def yX10_of : MethodName := ⟨RX10, "of", "(LHomeRoll$View;)I"⟩
theorem q91 : (Jvm.Cond.initialized "HomeRoll$Term") ∈ lw_all := lw_g (lw_at lw_m1 28 rfl) rfl
theorem q960 : (Jvm.Cond.instantiable "HomeRoll$Term" (3 : Nat)) ∈ lw_all := lw_g (lw_at lw_m4 177 rfl) rfl
theorem q962 : (Jvm.Cond.instanceMethod ({ cls := "HomeRoll$Term", name := "<init>", desc := "(LHomeRoll;LHomeRoll$Known;)V" } : Jvm.MethodName)) ∈ lw_all := lw_g (lw_at lw_m4 179 rfl) rfl
theorem q963 : (Jvm.Cond.code ({ cls := "HomeRoll$Term", name := "<init>", desc := "(LHomeRoll;LHomeRoll$Known;)V" } : Jvm.MethodName) prog_20_method_1_code (3 : Nat) (Option.none : Option Jvm.ClassFile.FieldType)) ∈ lw_all := lw_g (lw_at lw_m4 180 rfl) rfl
theorem q964 : (Jvm.Cond.methodLinkNest "HomeRoll$Term" (7 : Nat) ({ cls := "HomeRoll$Ex", name := "<init>", desc := "(LHomeRoll;)V" } : Jvm.MethodName) "HomeRoll") ∈ lw_tbl := lw_at lw_m4 181 rfl
theorem q965 : (Jvm.Cond.fieldLink "HomeRoll$Term" (13 : Nat) "HomeRoll$Term" "what" "LHomeRoll$Known;") ∈ lw_all := lw_g (lw_at lw_m4 182 rfl) rfl
theorem q966 : (Jvm.Cond.fieldLink "HomeRoll$Term" (1 : Nat) "HomeRoll$Term" "this$0" "LHomeRoll;") ∈ lw_all := lw_g (lw_at lw_m4 183 rfl) rfl
theorem q967 : (Jvm.Cond.laysFinal "HomeRoll$Term" "HomeRoll$Term" "what" "LHomeRoll$Known;") ∈ lw_all := lw_g (lw_at lw_m4 184 rfl) rfl
theorem q968 : (Jvm.Cond.soleField "HomeRoll$Term" "what") ∈ lw_all := lw_g (lw_at lw_m4 185 rfl) rfl
theorem q969 : (Jvm.Cond.laysFinal "HomeRoll$Term" "HomeRoll$Term" "this$0" "LHomeRoll;") ∈ lw_all := lw_g (lw_at lw_m4 186 rfl) rfl
theorem q970 : (Jvm.Cond.soleField "HomeRoll$Term" "this$0") ∈ lw_all := lw_g (lw_at lw_m4 187 rfl) rfl
theorem q971 : (Jvm.Cond.laysFinal "HomeRoll$Term" "HomeRoll$Ex" "this$0" "LHomeRoll;") ∈ lw_all := lw_g (lw_at lw_m4 188 rfl) rfl
theorem q972 : (Jvm.Cond.superclass "HomeRoll$Term" "HomeRoll$Ex") ∈ lw_all := lw_g (lw_at lw_m4 189 rfl) rfl
theorem q1035 : (Jvm.Cond.selects "HomeRoll$Term" ({ cls := "java/lang/Object", name := "getClass", desc := "()Ljava/lang/Class;" } : Jvm.MethodName) ({ cls := "java/lang/Object", name := "getClass", desc := "()Ljava/lang/Class;" } : Jvm.MethodName)) ∈ lw_all := lw_g (lw_at lw_m5 12 rfl) rfl
theorem q1147 : (Jvm.Cond.instanceMethod ({ cls := "HomeRoll$Term", name := "of", desc := "(LHomeRoll$View;)I" } : Jvm.MethodName)) ∈ lw_all := lw_g (lw_at lw_m5 124 rfl) rfl
theorem q1148 : (Jvm.Cond.code ({ cls := "HomeRoll$Term", name := "of", desc := "(LHomeRoll$View;)I" } : Jvm.MethodName) prog_20_method_2_code (2 : Nat) (Option.some Jvm.ClassFile.FieldType.int)) ∈ lw_all := lw_g (lw_at lw_m5 125 rfl) rfl
theorem q1149 : (Jvm.Cond.methodLink "HomeRoll$Term" (17 : Nat) ({ cls := "HomeRoll$Known", name := "told", desc := "(LHomeRoll;LHomeRoll$View;)I" } : Jvm.MethodName)) ∈ lw_all := lw_g (lw_at lw_m5 126 rfl) rfl
theorem q1204 : (Jvm.Cond.selects "HomeRoll$Term" ({ cls := "HomeRoll$Ex", name := "of", desc := "(LHomeRoll$View;)I" } : Jvm.MethodName) ({ cls := "HomeRoll$Term", name := "of", desc := "(LHomeRoll$View;)I" } : Jvm.MethodName)) ∈ lw_all := lw_g (lw_at lw_m5 181 rfl) rfl
theorem q1710 : (Jvm.Cond.castable "HomeRoll$Term" "HomeRoll$Ex") ∈ lw_tbl := lw_at lw_m7 207 rfl
theorem q1733 : (Jvm.Cond.castable "HomeRoll$Term" "java/lang/Object") ∈ lw_tbl := lw_at lw_m7 230 rfl
theorem in_X10 : ∀ w ∈ wsX100, w ∈ lw_all := lw_in wsX100 [971, 967, 969] (by decide +kernel) (by decide +kernel)
/-! HomeRoll$Both -/
def RX11 : String := "HomeRoll$Both"
def TX11 : u_T := fun k => match k with
  | 0 => ("HomeRoll$Ex", "this$0", "LHomeRoll;", true)
  | 1 => ("HomeRoll$Both", "a", "LHomeRoll$Ex;", true)
  | 2 => ("HomeRoll$Both", "b", "LHomeRoll$Ex;", true)
  | 3 => ("HomeRoll$Both", "sign", "I", true)
  | _ => ("HomeRoll$Both", "this$0", "LHomeRoll;", true)
def tyX11 : Nat → FieldType := fun k => match k with
  | 0 => .object "HomeRoll"
  | 1 => .object "HomeRoll$Ex"
  | 2 => .object "HomeRoll$Ex"
  | 3 => .int
  | _ => .object "HomeRoll"
abbrev wsX110 : List Cond := u_ws RX11 TX11 5
-- two fields of one name: no nmX11
theorem tyX11_ok : ∀ k, k < 5 → parseFieldDescriptor (TX11 k).2.2.1 = some (tyX11 k) := by decide +kernel
abbrev cX11_init : ByteArray := prog_2_method_1_code
def yX11_init : MethodName := ⟨RX11, "<init>", "(LHomeRoll;LHomeRoll$Ex;ILHomeRoll$Ex;)V"⟩
abbrev cX11_of : ByteArray := prog_2_method_2_code
def yX11_of : MethodName := ⟨RX11, "of", "(LHomeRoll$View;)I"⟩
theorem q92 : (Jvm.Cond.initialized "HomeRoll$Both") ∈ lw_all := lw_g (lw_at lw_m1 29 rfl) rfl
theorem q974 : (Jvm.Cond.instantiable "HomeRoll$Both" (5 : Nat)) ∈ lw_all := lw_g (lw_at lw_m4 191 rfl) rfl
theorem q976 : (Jvm.Cond.instanceMethod ({ cls := "HomeRoll$Both", name := "<init>", desc := "(LHomeRoll;LHomeRoll$Ex;ILHomeRoll$Ex;)V" } : Jvm.MethodName)) ∈ lw_all := lw_g (lw_at lw_m4 193 rfl) rfl
theorem q977 : (Jvm.Cond.code ({ cls := "HomeRoll$Both", name := "<init>", desc := "(LHomeRoll;LHomeRoll$Ex;ILHomeRoll$Ex;)V" } : Jvm.MethodName) prog_2_method_1_code (5 : Nat) (Option.none : Option Jvm.ClassFile.FieldType)) ∈ lw_all := lw_g (lw_at lw_m4 194 rfl) rfl
theorem q978 : (Jvm.Cond.methodLinkNest "HomeRoll$Both" (7 : Nat) ({ cls := "HomeRoll$Ex", name := "<init>", desc := "(LHomeRoll;)V" } : Jvm.MethodName) "HomeRoll") ∈ lw_tbl := lw_at lw_m4 195 rfl
theorem q979 : (Jvm.Cond.fieldLink "HomeRoll$Both" (13 : Nat) "HomeRoll$Both" "a" "LHomeRoll$Ex;") ∈ lw_all := lw_g (lw_at lw_m4 196 rfl) rfl
theorem q980 : (Jvm.Cond.fieldLink "HomeRoll$Both" (21 : Nat) "HomeRoll$Both" "b" "LHomeRoll$Ex;") ∈ lw_all := lw_g (lw_at lw_m4 197 rfl) rfl
theorem q981 : (Jvm.Cond.fieldLink "HomeRoll$Both" (17 : Nat) "HomeRoll$Both" "sign" "I") ∈ lw_all := lw_g (lw_at lw_m4 198 rfl) rfl
theorem q982 : (Jvm.Cond.fieldLink "HomeRoll$Both" (1 : Nat) "HomeRoll$Both" "this$0" "LHomeRoll;") ∈ lw_all := lw_g (lw_at lw_m4 199 rfl) rfl
theorem q983 : (Jvm.Cond.laysFinal "HomeRoll$Both" "HomeRoll$Both" "a" "LHomeRoll$Ex;") ∈ lw_all := lw_g (lw_at lw_m4 200 rfl) rfl
theorem q984 : (Jvm.Cond.soleField "HomeRoll$Both" "a") ∈ lw_all := lw_g (lw_at lw_m4 201 rfl) rfl
theorem q985 : (Jvm.Cond.laysFinal "HomeRoll$Both" "HomeRoll$Both" "b" "LHomeRoll$Ex;") ∈ lw_all := lw_g (lw_at lw_m4 202 rfl) rfl
theorem q986 : (Jvm.Cond.soleField "HomeRoll$Both" "b") ∈ lw_all := lw_g (lw_at lw_m4 203 rfl) rfl
theorem q987 : (Jvm.Cond.laysFinal "HomeRoll$Both" "HomeRoll$Both" "sign" "I") ∈ lw_all := lw_g (lw_at lw_m4 204 rfl) rfl
theorem q988 : (Jvm.Cond.soleField "HomeRoll$Both" "sign") ∈ lw_all := lw_g (lw_at lw_m4 205 rfl) rfl
theorem q989 : (Jvm.Cond.laysFinal "HomeRoll$Both" "HomeRoll$Both" "this$0" "LHomeRoll;") ∈ lw_all := lw_g (lw_at lw_m4 206 rfl) rfl
theorem q990 : (Jvm.Cond.soleField "HomeRoll$Both" "this$0") ∈ lw_all := lw_g (lw_at lw_m4 207 rfl) rfl
theorem q991 : (Jvm.Cond.laysFinal "HomeRoll$Both" "HomeRoll$Ex" "this$0" "LHomeRoll;") ∈ lw_all := lw_g (lw_at lw_m4 208 rfl) rfl
theorem q992 : (Jvm.Cond.superclass "HomeRoll$Both" "HomeRoll$Ex") ∈ lw_all := lw_g (lw_at lw_m4 209 rfl) rfl
theorem q1019 : (Jvm.Cond.selects "HomeRoll$Both" ({ cls := "java/lang/Object", name := "getClass", desc := "()Ljava/lang/Class;" } : Jvm.MethodName) ({ cls := "java/lang/Object", name := "getClass", desc := "()Ljava/lang/Class;" } : Jvm.MethodName)) ∈ lw_all := lw_g (lw_at lw_m4 236 rfl) rfl
theorem q1132 : (Jvm.Cond.selects "HomeRoll$Both" ({ cls := "HomeRoll$Ex", name := "of", desc := "(LHomeRoll$View;)I" } : Jvm.MethodName) ({ cls := "HomeRoll$Both", name := "of", desc := "(LHomeRoll$View;)I" } : Jvm.MethodName)) ∈ lw_all := lw_g (lw_at lw_m5 109 rfl) rfl
theorem q1133 : (Jvm.Cond.instanceMethod ({ cls := "HomeRoll$Both", name := "of", desc := "(LHomeRoll$View;)I" } : Jvm.MethodName)) ∈ lw_all := lw_g (lw_at lw_m5 110 rfl) rfl
theorem q1134 : (Jvm.Cond.code ({ cls := "HomeRoll$Both", name := "of", desc := "(LHomeRoll$View;)I" } : Jvm.MethodName) prog_2_method_2_code (4 : Nat) (Option.some Jvm.ClassFile.FieldType.int)) ∈ lw_all := lw_g (lw_at lw_m5 111 rfl) rfl
theorem q1135 : (Jvm.Cond.methodLink "HomeRoll$Both" (24 : Nat) ({ cls := "HomeRoll$Ex", name := "of", desc := "(LHomeRoll$View;)I" } : Jvm.MethodName)) ∈ lw_all := lw_g (lw_at lw_m5 112 rfl) rfl
theorem q1706 : (Jvm.Cond.castable "HomeRoll$Both" "HomeRoll$Ex") ∈ lw_tbl := lw_at lw_m7 203 rfl
theorem q1734 : (Jvm.Cond.castable "HomeRoll$Both" "java/lang/Object") ∈ lw_tbl := lw_at lw_m7 231 rfl
theorem in_X11 : ∀ w ∈ wsX110, w ∈ lw_all := lw_in wsX110 [991, 983, 985, 987, 989] (by decide +kernel) (by decide +kernel)
/-! HomeRoll$Join -/
def RX12 : String := "HomeRoll$Join"
def TX12 : u_T := fun k => match k with
  | 0 => ("HomeRoll$Ex", "this$0", "LHomeRoll;", true)
  | 1 => ("HomeRoll$Join", "of", "Ljava/util/ArrayList;", true)
  | 2 => ("HomeRoll$Join", "all", "Z", true)
  | _ => ("HomeRoll$Join", "this$0", "LHomeRoll;", true)
def tyX12 : Nat → FieldType := fun k => match k with
  | 0 => .object "HomeRoll"
  | 1 => .object "java/util/ArrayList"
  | 2 => .boolean
  | _ => .object "HomeRoll"
abbrev wsX120 : List Cond := u_ws RX12 TX12 4
-- two fields of one name: no nmX12
theorem tyX12_ok : ∀ k, k < 4 → parseFieldDescriptor (TX12 k).2.2.1 = some (tyX12 k) := by decide +kernel
abbrev cX12_init : ByteArray := prog_4_method_1_code
def yX12_init : MethodName := ⟨RX12, "<init>", "(LHomeRoll;Ljava/util/ArrayList;Z)V"⟩
abbrev cX12_of : ByteArray := prog_4_method_2_code
def yX12_of : MethodName := ⟨RX12, "of", "(LHomeRoll$View;)I"⟩
theorem q94 : (Jvm.Cond.initialized "HomeRoll$Join") ∈ lw_all := lw_g (lw_at lw_m1 31 rfl) rfl
theorem q1020 : (Jvm.Cond.selects "HomeRoll$Join" ({ cls := "java/lang/Object", name := "getClass", desc := "()Ljava/lang/Class;" } : Jvm.MethodName) ({ cls := "java/lang/Object", name := "getClass", desc := "()Ljava/lang/Class;" } : Jvm.MethodName)) ∈ lw_all := lw_g (lw_at lw_m4 237 rfl) rfl
theorem q1065 : (Jvm.Cond.instantiable "HomeRoll$Join" (4 : Nat)) ∈ lw_all := lw_g (lw_at lw_m5 42 rfl) rfl
theorem q1067 : (Jvm.Cond.instanceMethod ({ cls := "HomeRoll$Join", name := "<init>", desc := "(LHomeRoll;Ljava/util/ArrayList;Z)V" } : Jvm.MethodName)) ∈ lw_all := lw_g (lw_at lw_m5 44 rfl) rfl
theorem q1068 : (Jvm.Cond.code ({ cls := "HomeRoll$Join", name := "<init>", desc := "(LHomeRoll;Ljava/util/ArrayList;Z)V" } : Jvm.MethodName) prog_4_method_1_code (4 : Nat) (Option.none : Option Jvm.ClassFile.FieldType)) ∈ lw_all := lw_g (lw_at lw_m5 45 rfl) rfl
theorem q1069 : (Jvm.Cond.methodLinkNest "HomeRoll$Join" (7 : Nat) ({ cls := "HomeRoll$Ex", name := "<init>", desc := "(LHomeRoll;)V" } : Jvm.MethodName) "HomeRoll") ∈ lw_tbl := lw_at lw_m5 46 rfl
theorem q1070 : (Jvm.Cond.fieldLink "HomeRoll$Join" (13 : Nat) "HomeRoll$Join" "of" "Ljava/util/ArrayList;") ∈ lw_all := lw_g (lw_at lw_m5 47 rfl) rfl
theorem q1071 : (Jvm.Cond.fieldLink "HomeRoll$Join" (17 : Nat) "HomeRoll$Join" "all" "Z") ∈ lw_all := lw_g (lw_at lw_m5 48 rfl) rfl
theorem q1072 : (Jvm.Cond.fieldLink "HomeRoll$Join" (1 : Nat) "HomeRoll$Join" "this$0" "LHomeRoll;") ∈ lw_all := lw_g (lw_at lw_m5 49 rfl) rfl
theorem q1073 : (Jvm.Cond.laysFinal "HomeRoll$Join" "HomeRoll$Join" "of" "Ljava/util/ArrayList;") ∈ lw_all := lw_g (lw_at lw_m5 50 rfl) rfl
theorem q1074 : (Jvm.Cond.soleField "HomeRoll$Join" "of") ∈ lw_all := lw_g (lw_at lw_m5 51 rfl) rfl
theorem q1075 : (Jvm.Cond.laysFinal "HomeRoll$Join" "HomeRoll$Join" "all" "Z") ∈ lw_all := lw_g (lw_at lw_m5 52 rfl) rfl
theorem q1076 : (Jvm.Cond.soleField "HomeRoll$Join" "all") ∈ lw_all := lw_g (lw_at lw_m5 53 rfl) rfl
theorem q1077 : (Jvm.Cond.laysFinal "HomeRoll$Join" "HomeRoll$Join" "this$0" "LHomeRoll;") ∈ lw_all := lw_g (lw_at lw_m5 54 rfl) rfl
theorem q1078 : (Jvm.Cond.soleField "HomeRoll$Join" "this$0") ∈ lw_all := lw_g (lw_at lw_m5 55 rfl) rfl
theorem q1079 : (Jvm.Cond.laysFinal "HomeRoll$Join" "HomeRoll$Ex" "this$0" "LHomeRoll;") ∈ lw_all := lw_g (lw_at lw_m5 56 rfl) rfl
theorem q1080 : (Jvm.Cond.superclass "HomeRoll$Join" "HomeRoll$Ex") ∈ lw_all := lw_g (lw_at lw_m5 57 rfl) rfl
theorem q1136 : (Jvm.Cond.instanceMethod ({ cls := "HomeRoll$Join", name := "of", desc := "(LHomeRoll$View;)I" } : Jvm.MethodName)) ∈ lw_all := lw_g (lw_at lw_m5 113 rfl) rfl
theorem q1137 : (Jvm.Cond.code ({ cls := "HomeRoll$Join", name := "of", desc := "(LHomeRoll$View;)I" } : Jvm.MethodName) prog_4_method_2_code (4 : Nat) (Option.some Jvm.ClassFile.FieldType.int)) ∈ lw_all := lw_g (lw_at lw_m5 114 rfl) rfl
theorem q1138 : (Jvm.Cond.methodLink "HomeRoll$Join" (21 : Nat) ({ cls := "java/util/ArrayList", name := "size", desc := "()I" } : Jvm.MethodName)) ∈ lw_all := lw_g (lw_at lw_m5 115 rfl) rfl
theorem q1139 : (Jvm.Cond.methodLink "HomeRoll$Join" (27 : Nat) ({ cls := "java/util/ArrayList", name := "get", desc := "(I)Ljava/lang/Object;" } : Jvm.MethodName)) ∈ lw_all := lw_g (lw_at lw_m5 116 rfl) rfl
theorem q1140 : (Jvm.Cond.classLink "HomeRoll$Join" (8 : Nat) "HomeRoll$Ex") ∈ lw_all := lw_g (lw_at lw_m5 117 rfl) rfl
theorem q1141 : (Jvm.Cond.methodLink "HomeRoll$Join" (31 : Nat) ({ cls := "HomeRoll$Ex", name := "of", desc := "(LHomeRoll$View;)I" } : Jvm.MethodName)) ∈ lw_all := lw_g (lw_at lw_m5 118 rfl) rfl
theorem q1201 : (Jvm.Cond.selects "HomeRoll$Join" ({ cls := "HomeRoll$Ex", name := "of", desc := "(LHomeRoll$View;)I" } : Jvm.MethodName) ({ cls := "HomeRoll$Join", name := "of", desc := "(LHomeRoll$View;)I" } : Jvm.MethodName)) ∈ lw_all := lw_g (lw_at lw_m5 178 rfl) rfl
theorem q1707 : (Jvm.Cond.castable "HomeRoll$Join" "HomeRoll$Ex") ∈ lw_tbl := lw_at lw_m7 204 rfl
theorem q1735 : (Jvm.Cond.castable "HomeRoll$Join" "java/lang/Object") ∈ lw_tbl := lw_at lw_m7 232 rfl
theorem in_X12 : ∀ w ∈ wsX120, w ∈ lw_all := lw_in wsX120 [1079, 1073, 1075, 1077] (by decide +kernel) (by decide +kernel)
/-! HomeRoll$Line -/
def RX13 : String := "HomeRoll$Line"
def TX13 : u_T := fun k => match k with
  | 0 => ("HomeRoll$Line", "when", "LHomeRoll$Ex;", true)
  | 1 => ("HomeRoll$Line", "does", "I", true)
  | _ => ("HomeRoll$Line", "part", "I", true)
def tyX13 : Nat → FieldType := fun k => match k with
  | 0 => .object "HomeRoll$Ex"
  | 1 => .int
  | _ => .int
abbrev wsX130 : List Cond := u_ws RX13 TX13 3
theorem nmX13 : ∀ a, a < 3 → ∀ b, b < 3 → a ≠ b → (TX13 a).2.1 ≠ (TX13 b).2.1 := by decide +kernel
theorem tyX13_ok : ∀ k, k < 3 → parseFieldDescriptor (TX13 k).2.2.1 = some (tyX13 k) := by decide +kernel
abbrev cX13_init : ByteArray := prog_15_method_1_code
def yX13_init : MethodName := ⟨RX13, "<init>", "(LHomeRoll$Ex;II)V"⟩
theorem q95 : (Jvm.Cond.initialized "HomeRoll$Line") ∈ lw_all := lw_g (lw_at lw_m1 32 rfl) rfl
theorem q1030 : (Jvm.Cond.selects "HomeRoll$Line" ({ cls := "java/lang/Object", name := "getClass", desc := "()Ljava/lang/Class;" } : Jvm.MethodName) ({ cls := "java/lang/Object", name := "getClass", desc := "()Ljava/lang/Class;" } : Jvm.MethodName)) ∈ lw_all := lw_g (lw_at lw_m5 7 rfl) rfl
theorem q1088 : (Jvm.Cond.instantiable "HomeRoll$Line" (3 : Nat)) ∈ lw_all := lw_g (lw_at lw_m5 65 rfl) rfl
theorem q1090 : (Jvm.Cond.instanceMethod ({ cls := "HomeRoll$Line", name := "<init>", desc := "(LHomeRoll$Ex;II)V" } : Jvm.MethodName)) ∈ lw_all := lw_g (lw_at lw_m5 67 rfl) rfl
theorem q1091 : (Jvm.Cond.code ({ cls := "HomeRoll$Line", name := "<init>", desc := "(LHomeRoll$Ex;II)V" } : Jvm.MethodName) prog_15_method_1_code (4 : Nat) (Option.none : Option Jvm.ClassFile.FieldType)) ∈ lw_all := lw_g (lw_at lw_m5 68 rfl) rfl
theorem q1092 : (Jvm.Cond.methodLink "HomeRoll$Line" (1 : Nat) ({ cls := "java/lang/Object", name := "<init>", desc := "()V" } : Jvm.MethodName)) ∈ lw_all := lw_g (lw_at lw_m5 69 rfl) rfl
theorem q1093 : (Jvm.Cond.fieldLink "HomeRoll$Line" (7 : Nat) "HomeRoll$Line" "when" "LHomeRoll$Ex;") ∈ lw_all := lw_g (lw_at lw_m5 70 rfl) rfl
theorem q1095 : (Jvm.Cond.fieldLink "HomeRoll$Line" (13 : Nat) "HomeRoll$Line" "does" "I") ∈ lw_all := lw_g (lw_at lw_m5 72 rfl) rfl
theorem q1097 : (Jvm.Cond.fieldLink "HomeRoll$Line" (17 : Nat) "HomeRoll$Line" "part" "I") ∈ lw_all := lw_g (lw_at lw_m5 74 rfl) rfl
theorem q1099 : (Jvm.Cond.laysFinal "HomeRoll$Line" "HomeRoll$Line" "when" "LHomeRoll$Ex;") ∈ lw_all := lw_g (lw_at lw_m5 76 rfl) rfl
theorem q1100 : (Jvm.Cond.soleField "HomeRoll$Line" "when") ∈ lw_all := lw_g (lw_at lw_m5 77 rfl) rfl
theorem q1101 : (Jvm.Cond.laysFinal "HomeRoll$Line" "HomeRoll$Line" "does" "I") ∈ lw_all := lw_g (lw_at lw_m5 78 rfl) rfl
theorem q1102 : (Jvm.Cond.soleField "HomeRoll$Line" "does") ∈ lw_all := lw_g (lw_at lw_m5 79 rfl) rfl
theorem q1103 : (Jvm.Cond.laysFinal "HomeRoll$Line" "HomeRoll$Line" "part" "I") ∈ lw_all := lw_g (lw_at lw_m5 80 rfl) rfl
theorem q1104 : (Jvm.Cond.soleField "HomeRoll$Line" "part") ∈ lw_all := lw_g (lw_at lw_m5 81 rfl) rfl
theorem q1105 : (Jvm.Cond.superclass "HomeRoll$Line" "java/lang/Object") ∈ lw_all := lw_g (lw_at lw_m5 82 rfl) rfl
theorem q1736 : (Jvm.Cond.castable "HomeRoll$Line" "java/lang/Object") ∈ lw_tbl := lw_at lw_m7 233 rfl
theorem in_X13 : ∀ w ∈ wsX130, w ∈ lw_all := lw_in wsX130 [1099, 1101, 1103] (by decide +kernel) (by decide +kernel)
/-! HomeRoll$Known$1 -/
def RX14 : String := "HomeRoll$Known$1"
abbrev cX14_of : ByteArray := prog_6_method_2_code
def yX14_of : MethodName := ⟨RX14, "of", "(LHomeRoll;LHomeRoll$View;)J"⟩
theorem q141 : (Jvm.Cond.fieldLink "HomeRoll$Known$1" (7 : Nat) "HomeRoll$View" "paper" "LHomeRoll$Paper;") ∈ lw_all := lw_g (lw_at lw_m1 78 rfl) rfl
theorem q350 : (Jvm.Cond.fieldLink "HomeRoll$Known$1" (13 : Nat) "HomeRoll$Paper" "sort" "I") ∈ lw_all := lw_g (lw_at lw_m2 47 rfl) rfl
theorem q1021 : (Jvm.Cond.selects "HomeRoll$Known$1" ({ cls := "java/lang/Object", name := "getClass", desc := "()Ljava/lang/Class;" } : Jvm.MethodName) ({ cls := "java/lang/Object", name := "getClass", desc := "()Ljava/lang/Class;" } : Jvm.MethodName)) ∈ lw_all := lw_g (lw_at lw_m4 238 rfl) rfl
theorem q1152 : (Jvm.Cond.selects "HomeRoll$Known$1" ({ cls := "HomeRoll$Known", name := "told", desc := "(LHomeRoll;LHomeRoll$View;)I" } : Jvm.MethodName) ({ cls := "HomeRoll$Known", name := "told", desc := "(LHomeRoll;LHomeRoll$View;)I" } : Jvm.MethodName)) ∈ lw_all := lw_g (lw_at lw_m5 129 rfl) rfl
theorem q1166 : (Jvm.Cond.selects "HomeRoll$Known$1" ({ cls := "HomeRoll$Known", name := "of", desc := "(LHomeRoll;LHomeRoll$View;)J" } : Jvm.MethodName) ({ cls := "HomeRoll$Known$1", name := "of", desc := "(LHomeRoll;LHomeRoll$View;)J" } : Jvm.MethodName)) ∈ lw_all := lw_g (lw_at lw_m5 143 rfl) rfl
theorem q1167 : (Jvm.Cond.instanceMethod ({ cls := "HomeRoll$Known$1", name := "of", desc := "(LHomeRoll;LHomeRoll$View;)J" } : Jvm.MethodName)) ∈ lw_all := lw_g (lw_at lw_m5 144 rfl) rfl
theorem q1168 : (Jvm.Cond.code ({ cls := "HomeRoll$Known$1", name := "of", desc := "(LHomeRoll;LHomeRoll$View;)J" } : Jvm.MethodName) prog_6_method_2_code (3 : Nat) (Option.some Jvm.ClassFile.FieldType.long)) ∈ lw_all := lw_g (lw_at lw_m5 145 rfl) rfl
theorem q1716 : (Jvm.Cond.castable "HomeRoll$Known$1" "java/lang/Object") ∈ lw_tbl := lw_at lw_m7 213 rfl
theorem q1738 : (Jvm.Cond.castable "HomeRoll$Known$1" "HomeRoll$Known") ∈ lw_tbl := lw_at lw_m7 235 rfl
/-! HomeRoll$Known$2 -/
def RX15 : String := "HomeRoll$Known$2"
abbrev cX15_of : ByteArray := prog_7_method_2_code
def yX15_of : MethodName := ⟨RX15, "of", "(LHomeRoll;LHomeRoll$View;)J"⟩
theorem q142 : (Jvm.Cond.fieldLink "HomeRoll$Known$2" (7 : Nat) "HomeRoll$View" "paper" "LHomeRoll$Paper;") ∈ lw_all := lw_g (lw_at lw_m1 79 rfl) rfl
theorem q351 : (Jvm.Cond.fieldLink "HomeRoll$Known$2" (13 : Nat) "HomeRoll$Paper" "sort" "I") ∈ lw_all := lw_g (lw_at lw_m2 48 rfl) rfl
theorem q1022 : (Jvm.Cond.selects "HomeRoll$Known$2" ({ cls := "java/lang/Object", name := "getClass", desc := "()Ljava/lang/Class;" } : Jvm.MethodName) ({ cls := "java/lang/Object", name := "getClass", desc := "()Ljava/lang/Class;" } : Jvm.MethodName)) ∈ lw_all := lw_g (lw_at lw_m4 239 rfl) rfl
theorem q1153 : (Jvm.Cond.selects "HomeRoll$Known$2" ({ cls := "HomeRoll$Known", name := "told", desc := "(LHomeRoll;LHomeRoll$View;)I" } : Jvm.MethodName) ({ cls := "HomeRoll$Known", name := "told", desc := "(LHomeRoll;LHomeRoll$View;)I" } : Jvm.MethodName)) ∈ lw_all := lw_g (lw_at lw_m5 130 rfl) rfl
theorem q1169 : (Jvm.Cond.selects "HomeRoll$Known$2" ({ cls := "HomeRoll$Known", name := "of", desc := "(LHomeRoll;LHomeRoll$View;)J" } : Jvm.MethodName) ({ cls := "HomeRoll$Known$2", name := "of", desc := "(LHomeRoll;LHomeRoll$View;)J" } : Jvm.MethodName)) ∈ lw_all := lw_g (lw_at lw_m5 146 rfl) rfl
theorem q1170 : (Jvm.Cond.instanceMethod ({ cls := "HomeRoll$Known$2", name := "of", desc := "(LHomeRoll;LHomeRoll$View;)J" } : Jvm.MethodName)) ∈ lw_all := lw_g (lw_at lw_m5 147 rfl) rfl
theorem q1171 : (Jvm.Cond.code ({ cls := "HomeRoll$Known$2", name := "of", desc := "(LHomeRoll;LHomeRoll$View;)J" } : Jvm.MethodName) prog_7_method_2_code (3 : Nat) (Option.some Jvm.ClassFile.FieldType.long)) ∈ lw_all := lw_g (lw_at lw_m5 148 rfl) rfl
theorem q1717 : (Jvm.Cond.castable "HomeRoll$Known$2" "java/lang/Object") ∈ lw_tbl := lw_at lw_m7 214 rfl
theorem q1739 : (Jvm.Cond.castable "HomeRoll$Known$2" "HomeRoll$Known") ∈ lw_tbl := lw_at lw_m7 236 rfl
/-! HomeRoll$Known$5 -/
def RX16 : String := "HomeRoll$Known$5"
abbrev cX16_of : ByteArray := prog_10_method_2_code
def yX16_of : MethodName := ⟨RX16, "of", "(LHomeRoll;LHomeRoll$View;)J"⟩
theorem q143 : (Jvm.Cond.fieldLink "HomeRoll$Known$5" (9 : Nat) "HomeRoll$View" "paper" "LHomeRoll$Paper;") ∈ lw_all := lw_g (lw_at lw_m1 80 rfl) rfl
theorem q346 : (Jvm.Cond.fieldLink "HomeRoll$Known$5" (15 : Nat) "HomeRoll$Paper" "day" "I") ∈ lw_all := lw_g (lw_at lw_m2 43 rfl) rfl
theorem q1025 : (Jvm.Cond.selects "HomeRoll$Known$5" ({ cls := "java/lang/Object", name := "getClass", desc := "()Ljava/lang/Class;" } : Jvm.MethodName) ({ cls := "java/lang/Object", name := "getClass", desc := "()Ljava/lang/Class;" } : Jvm.MethodName)) ∈ lw_all := lw_g (lw_at lw_m5 2 rfl) rfl
theorem q1156 : (Jvm.Cond.selects "HomeRoll$Known$5" ({ cls := "HomeRoll$Known", name := "told", desc := "(LHomeRoll;LHomeRoll$View;)I" } : Jvm.MethodName) ({ cls := "HomeRoll$Known", name := "told", desc := "(LHomeRoll;LHomeRoll$View;)I" } : Jvm.MethodName)) ∈ lw_all := lw_g (lw_at lw_m5 133 rfl) rfl
theorem q1179 : (Jvm.Cond.selects "HomeRoll$Known$5" ({ cls := "HomeRoll$Known", name := "of", desc := "(LHomeRoll;LHomeRoll$View;)J" } : Jvm.MethodName) ({ cls := "HomeRoll$Known$5", name := "of", desc := "(LHomeRoll;LHomeRoll$View;)J" } : Jvm.MethodName)) ∈ lw_all := lw_g (lw_at lw_m5 156 rfl) rfl
theorem q1180 : (Jvm.Cond.instanceMethod ({ cls := "HomeRoll$Known$5", name := "of", desc := "(LHomeRoll;LHomeRoll$View;)J" } : Jvm.MethodName)) ∈ lw_all := lw_g (lw_at lw_m5 157 rfl) rfl
theorem q1181 : (Jvm.Cond.code ({ cls := "HomeRoll$Known$5", name := "of", desc := "(LHomeRoll;LHomeRoll$View;)J" } : Jvm.MethodName) prog_10_method_2_code (3 : Nat) (Option.some Jvm.ClassFile.FieldType.long)) ∈ lw_all := lw_g (lw_at lw_m5 158 rfl) rfl
theorem q1720 : (Jvm.Cond.castable "HomeRoll$Known$5" "java/lang/Object") ∈ lw_tbl := lw_at lw_m7 217 rfl
theorem q1742 : (Jvm.Cond.castable "HomeRoll$Known$5" "HomeRoll$Known") ∈ lw_tbl := lw_at lw_m7 239 rfl
/-! HomeRoll$Known$3 -/
def RX17 : String := "HomeRoll$Known$3"
abbrev cX17_of : ByteArray := prog_8_method_2_code
def yX17_of : MethodName := ⟨RX17, "of", "(LHomeRoll;LHomeRoll$View;)J"⟩
theorem q144 : (Jvm.Cond.fieldLink "HomeRoll$Known$3" (9 : Nat) "HomeRoll$View" "paper" "LHomeRoll$Paper;") ∈ lw_all := lw_g (lw_at lw_m1 81 rfl) rfl
theorem q347 : (Jvm.Cond.fieldLink "HomeRoll$Known$3" (21 : Nat) "HomeRoll$Paper" "day" "I") ∈ lw_all := lw_g (lw_at lw_m2 44 rfl) rfl
theorem q353 : (Jvm.Cond.fieldLink "HomeRoll$Known$3" (15 : Nat) "HomeRoll$Paper" "price" "I") ∈ lw_all := lw_g (lw_at lw_m2 50 rfl) rfl
theorem q1023 : (Jvm.Cond.selects "HomeRoll$Known$3" ({ cls := "java/lang/Object", name := "getClass", desc := "()Ljava/lang/Class;" } : Jvm.MethodName) ({ cls := "java/lang/Object", name := "getClass", desc := "()Ljava/lang/Class;" } : Jvm.MethodName)) ∈ lw_all := lw_g (lw_at lw_m5 0 rfl) rfl
theorem q1154 : (Jvm.Cond.selects "HomeRoll$Known$3" ({ cls := "HomeRoll$Known", name := "told", desc := "(LHomeRoll;LHomeRoll$View;)I" } : Jvm.MethodName) ({ cls := "HomeRoll$Known", name := "told", desc := "(LHomeRoll;LHomeRoll$View;)I" } : Jvm.MethodName)) ∈ lw_all := lw_g (lw_at lw_m5 131 rfl) rfl
theorem q1172 : (Jvm.Cond.selects "HomeRoll$Known$3" ({ cls := "HomeRoll$Known", name := "of", desc := "(LHomeRoll;LHomeRoll$View;)J" } : Jvm.MethodName) ({ cls := "HomeRoll$Known$3", name := "of", desc := "(LHomeRoll;LHomeRoll$View;)J" } : Jvm.MethodName)) ∈ lw_all := lw_g (lw_at lw_m5 149 rfl) rfl
theorem q1173 : (Jvm.Cond.instanceMethod ({ cls := "HomeRoll$Known$3", name := "of", desc := "(LHomeRoll;LHomeRoll$View;)J" } : Jvm.MethodName)) ∈ lw_all := lw_g (lw_at lw_m5 150 rfl) rfl
theorem q1174 : (Jvm.Cond.code ({ cls := "HomeRoll$Known$3", name := "of", desc := "(LHomeRoll;LHomeRoll$View;)J" } : Jvm.MethodName) prog_8_method_2_code (3 : Nat) (Option.some Jvm.ClassFile.FieldType.long)) ∈ lw_all := lw_g (lw_at lw_m5 151 rfl) rfl
theorem q1175 : (Jvm.Cond.methodLinkNest "HomeRoll$Known$3" (24 : Nat) ({ cls := "HomeRoll", name := "inMoney", desc := "(III)J" } : Jvm.MethodName) "HomeRoll") ∈ lw_tbl := lw_at lw_m5 152 rfl
theorem q1718 : (Jvm.Cond.castable "HomeRoll$Known$3" "java/lang/Object") ∈ lw_tbl := lw_at lw_m7 215 rfl
theorem q1740 : (Jvm.Cond.castable "HomeRoll$Known$3" "HomeRoll$Known") ∈ lw_tbl := lw_at lw_m7 237 rfl
/-! HomeRoll$Known$9 -/
def RX18 : String := "HomeRoll$Known$9"
abbrev cX18_of : ByteArray := prog_14_method_2_code
def yX18_of : MethodName := ⟨RX18, "of", "(LHomeRoll;LHomeRoll$View;)J"⟩
theorem q145 : (Jvm.Cond.fieldLink "HomeRoll$Known$9" (7 : Nat) "HomeRoll$View" "paper" "LHomeRoll$Paper;") ∈ lw_all := lw_g (lw_at lw_m1 82 rfl) rfl
theorem q152 : (Jvm.Cond.fieldLink "HomeRoll$Known$9" (19 : Nat) "HomeRoll$View" "k" "I") ∈ lw_all := lw_g (lw_at lw_m1 89 rfl) rfl
theorem q341 : (Jvm.Cond.fieldLink "HomeRoll$Known$9" (13 : Nat) "HomeRoll$Paper" "from" "I") ∈ lw_all := lw_g (lw_at lw_m2 38 rfl) rfl
theorem q1029 : (Jvm.Cond.selects "HomeRoll$Known$9" ({ cls := "java/lang/Object", name := "getClass", desc := "()Ljava/lang/Class;" } : Jvm.MethodName) ({ cls := "java/lang/Object", name := "getClass", desc := "()Ljava/lang/Class;" } : Jvm.MethodName)) ∈ lw_all := lw_g (lw_at lw_m5 6 rfl) rfl
theorem q1160 : (Jvm.Cond.selects "HomeRoll$Known$9" ({ cls := "HomeRoll$Known", name := "told", desc := "(LHomeRoll;LHomeRoll$View;)I" } : Jvm.MethodName) ({ cls := "HomeRoll$Known", name := "told", desc := "(LHomeRoll;LHomeRoll$View;)I" } : Jvm.MethodName)) ∈ lw_all := lw_g (lw_at lw_m5 137 rfl) rfl
theorem q1191 : (Jvm.Cond.selects "HomeRoll$Known$9" ({ cls := "HomeRoll$Known", name := "of", desc := "(LHomeRoll;LHomeRoll$View;)J" } : Jvm.MethodName) ({ cls := "HomeRoll$Known$9", name := "of", desc := "(LHomeRoll;LHomeRoll$View;)J" } : Jvm.MethodName)) ∈ lw_all := lw_g (lw_at lw_m5 168 rfl) rfl
theorem q1192 : (Jvm.Cond.instanceMethod ({ cls := "HomeRoll$Known$9", name := "of", desc := "(LHomeRoll;LHomeRoll$View;)J" } : Jvm.MethodName)) ∈ lw_all := lw_g (lw_at lw_m5 169 rfl) rfl
theorem q1193 : (Jvm.Cond.code ({ cls := "HomeRoll$Known$9", name := "of", desc := "(LHomeRoll;LHomeRoll$View;)J" } : Jvm.MethodName) prog_14_method_2_code (3 : Nat) (Option.some Jvm.ClassFile.FieldType.long)) ∈ lw_all := lw_g (lw_at lw_m5 170 rfl) rfl
theorem q1194 : (Jvm.Cond.methodLinkNest "HomeRoll$Known$9" (22 : Nat) ({ cls := "HomeRoll", name := "isDead", desc := "(II)Z" } : Jvm.MethodName) "HomeRoll") ∈ lw_tbl := lw_at lw_m5 171 rfl
theorem q1724 : (Jvm.Cond.castable "HomeRoll$Known$9" "java/lang/Object") ∈ lw_tbl := lw_at lw_m7 221 rfl
theorem q1746 : (Jvm.Cond.castable "HomeRoll$Known$9" "HomeRoll$Known") ∈ lw_tbl := lw_at lw_m8 3 rfl
/-! HomeRoll$Known$4 -/
def RX19 : String := "HomeRoll$Known$4"
abbrev cX19_of : ByteArray := prog_9_method_2_code
def yX19_of : MethodName := ⟨RX19, "of", "(LHomeRoll;LHomeRoll$View;)J"⟩
theorem q146 : (Jvm.Cond.fieldLink "HomeRoll$Known$4" (13 : Nat) "HomeRoll$View" "paper" "LHomeRoll$Paper;") ∈ lw_all := lw_g (lw_at lw_m1 83 rfl) rfl
theorem q198 : (Jvm.Cond.fieldLinkNest "HomeRoll$Known$4" (7 : Nat) "HomeRoll" "worth" "[I" "HomeRoll") ∈ lw_tbl := lw_at lw_m1 135 rfl
theorem q338 : (Jvm.Cond.fieldLink "HomeRoll$Known$4" (19 : Nat) "HomeRoll$Paper" "house" "I") ∈ lw_all := lw_g (lw_at lw_m2 35 rfl) rfl
theorem q1024 : (Jvm.Cond.selects "HomeRoll$Known$4" ({ cls := "java/lang/Object", name := "getClass", desc := "()Ljava/lang/Class;" } : Jvm.MethodName) ({ cls := "java/lang/Object", name := "getClass", desc := "()Ljava/lang/Class;" } : Jvm.MethodName)) ∈ lw_all := lw_g (lw_at lw_m5 1 rfl) rfl
theorem q1155 : (Jvm.Cond.selects "HomeRoll$Known$4" ({ cls := "HomeRoll$Known", name := "told", desc := "(LHomeRoll;LHomeRoll$View;)I" } : Jvm.MethodName) ({ cls := "HomeRoll$Known", name := "told", desc := "(LHomeRoll;LHomeRoll$View;)I" } : Jvm.MethodName)) ∈ lw_all := lw_g (lw_at lw_m5 132 rfl) rfl
theorem q1176 : (Jvm.Cond.selects "HomeRoll$Known$4" ({ cls := "HomeRoll$Known", name := "of", desc := "(LHomeRoll;LHomeRoll$View;)J" } : Jvm.MethodName) ({ cls := "HomeRoll$Known$4", name := "of", desc := "(LHomeRoll;LHomeRoll$View;)J" } : Jvm.MethodName)) ∈ lw_all := lw_g (lw_at lw_m5 153 rfl) rfl
theorem q1177 : (Jvm.Cond.instanceMethod ({ cls := "HomeRoll$Known$4", name := "of", desc := "(LHomeRoll;LHomeRoll$View;)J" } : Jvm.MethodName)) ∈ lw_all := lw_g (lw_at lw_m5 154 rfl) rfl
theorem q1178 : (Jvm.Cond.code ({ cls := "HomeRoll$Known$4", name := "of", desc := "(LHomeRoll;LHomeRoll$View;)J" } : Jvm.MethodName) prog_9_method_2_code (3 : Nat) (Option.some Jvm.ClassFile.FieldType.long)) ∈ lw_all := lw_g (lw_at lw_m5 155 rfl) rfl
theorem q1719 : (Jvm.Cond.castable "HomeRoll$Known$4" "java/lang/Object") ∈ lw_tbl := lw_at lw_m7 216 rfl
theorem q1741 : (Jvm.Cond.castable "HomeRoll$Known$4" "HomeRoll$Known") ∈ lw_tbl := lw_at lw_m7 238 rfl
/-! HomeRoll$Known -/
def RX2 : String := "HomeRoll$Known"
abbrev cX2_values : ByteArray := prog_5_method_1_code
def yX2_values : MethodName := ⟨RX2, "values", "()[LHomeRoll$Known;"⟩
abbrev cX2_find : ByteArray := prog_5_method_6_code
def yX2_find : MethodName := ⟨RX2, "find", "(Ljava/lang/String;)LHomeRoll$Known;"⟩
abbrev cX2_told : ByteArray := prog_5_method_5_code
def yX2_told : MethodName := ⟨RX2, "told", "(LHomeRoll;LHomeRoll$View;)I"⟩
theorem q70 : (Jvm.Cond.initialized "HomeRoll$Known") ∈ lw_all := lw_g (lw_at lw_m1 7 rfl) rfl
theorem q172 : (Jvm.Cond.static ({ cls := "HomeRoll$Known", name := "values", desc := "()[LHomeRoll$Known;" } : Jvm.MethodName)) ∈ lw_all := lw_g (lw_at lw_m1 109 rfl) rfl
theorem q173 : (Jvm.Cond.code ({ cls := "HomeRoll$Known", name := "values", desc := "()[LHomeRoll$Known;" } : Jvm.MethodName) prog_5_method_1_code (0 : Nat) (Option.some (Jvm.ClassFile.FieldType.array (Jvm.ClassFile.FieldType.object "HomeRoll$Known")))) ∈ lw_all := lw_g (lw_at lw_m1 110 rfl) rfl
theorem q174 : (Jvm.Cond.fieldLink "HomeRoll$Known" (31 : Nat) "HomeRoll$Known" "$VALUES" "[LHomeRoll$Known;") ∈ lw_all := lw_g (lw_at lw_m1 111 rfl) rfl
theorem q175 : (Jvm.Cond.laysStatic "HomeRoll$Known" "$VALUES" "[LHomeRoll$Known;") ∈ lw_tbl := lw_at lw_m1 112 rfl
theorem q176 : (Jvm.Cond.methodLink "HomeRoll$Known" (35 : Nat) ({ cls := "[LHomeRoll$Known;", name := "clone", desc := "()Ljava/lang/Object;" } : Jvm.MethodName)) ∈ lw_all := lw_g (lw_at lw_m1 113 rfl) rfl
theorem q183 : (Jvm.Cond.classLink "HomeRoll$Known" (36 : Nat) "[LHomeRoll$Known;") ∈ lw_all := lw_g (lw_at lw_m1 120 rfl) rfl
theorem q830 : (Jvm.Cond.static ({ cls := "HomeRoll$Known", name := "find", desc := "(Ljava/lang/String;)LHomeRoll$Known;" } : Jvm.MethodName)) ∈ lw_all := lw_g (lw_at lw_m4 47 rfl) rfl
theorem q831 : (Jvm.Cond.code ({ cls := "HomeRoll$Known", name := "find", desc := "(Ljava/lang/String;)LHomeRoll$Known;" } : Jvm.MethodName) prog_5_method_6_code (3 : Nat) (Option.some (Jvm.ClassFile.FieldType.object "HomeRoll$Known"))) ∈ lw_all := lw_g (lw_at lw_m4 48 rfl) rfl
theorem q832 : (Jvm.Cond.methodLink "HomeRoll$Known" (64 : Nat) ({ cls := "java/lang/String", name := "hashCode", desc := "()I" } : Jvm.MethodName)) ∈ lw_all := lw_g (lw_at lw_m4 49 rfl) rfl
theorem q881 : (Jvm.Cond.stringRef "HomeRoll$Known" (70 : Nat) "forced") ∈ lw_tbl := lw_at lw_m4 98 rfl
theorem q882 : (Jvm.Cond.methodLink "HomeRoll$Known" (72 : Nat) ({ cls := "java/lang/String", name := "equals", desc := "(Ljava/lang/Object;)Z" } : Jvm.MethodName)) ∈ lw_all := lw_g (lw_at lw_m4 99 rfl) rfl
theorem q883 : (Jvm.Cond.stringRef "HomeRoll$Known" (76 : Nat) "given") ∈ lw_tbl := lw_at lw_m4 100 rfl
theorem q884 : (Jvm.Cond.stringRef "HomeRoll$Known" (78 : Nat) "price") ∈ lw_tbl := lw_at lw_m4 101 rfl
theorem q885 : (Jvm.Cond.stringRef "HomeRoll$Known" (80 : Nat) "worth") ∈ lw_tbl := lw_at lw_m4 102 rfl
theorem q886 : (Jvm.Cond.stringRef "HomeRoll$Known" (82 : Nat) "year") ∈ lw_tbl := lw_at lw_m4 103 rfl
theorem q887 : (Jvm.Cond.stringRef "HomeRoll$Known" (84 : Nat) "held") ∈ lw_tbl := lw_at lw_m4 104 rfl
theorem q888 : (Jvm.Cond.stringRef "HomeRoll$Known" (86 : Nat) "hands") ∈ lw_tbl := lw_at lw_m4 105 rfl
theorem q889 : (Jvm.Cond.stringRef "HomeRoll$Known" (88 : Nat) "lives") ∈ lw_tbl := lw_at lw_m4 106 rfl
theorem q890 : (Jvm.Cond.stringRef "HomeRoll$Known" (90 : Nat) "dead") ∈ lw_tbl := lw_at lw_m4 107 rfl
theorem q891 : (Jvm.Cond.fieldLink "HomeRoll$Known" (3 : Nat) "HomeRoll$Known" "FORCED" "LHomeRoll$Known;") ∈ lw_all := lw_g (lw_at lw_m4 108 rfl) rfl
theorem q892 : (Jvm.Cond.laysStatic "HomeRoll$Known" "FORCED" "LHomeRoll$Known;") ∈ lw_tbl := lw_at lw_m4 109 rfl
theorem q893 : (Jvm.Cond.fieldLink "HomeRoll$Known" (7 : Nat) "HomeRoll$Known" "GIVEN" "LHomeRoll$Known;") ∈ lw_all := lw_g (lw_at lw_m4 110 rfl) rfl
theorem q894 : (Jvm.Cond.laysStatic "HomeRoll$Known" "GIVEN" "LHomeRoll$Known;") ∈ lw_tbl := lw_at lw_m4 111 rfl
theorem q895 : (Jvm.Cond.fieldLink "HomeRoll$Known" (10 : Nat) "HomeRoll$Known" "PRICE" "LHomeRoll$Known;") ∈ lw_all := lw_g (lw_at lw_m4 112 rfl) rfl
theorem q896 : (Jvm.Cond.laysStatic "HomeRoll$Known" "PRICE" "LHomeRoll$Known;") ∈ lw_tbl := lw_at lw_m4 113 rfl
theorem q897 : (Jvm.Cond.fieldLink "HomeRoll$Known" (13 : Nat) "HomeRoll$Known" "WORTH" "LHomeRoll$Known;") ∈ lw_all := lw_g (lw_at lw_m4 114 rfl) rfl
theorem q898 : (Jvm.Cond.laysStatic "HomeRoll$Known" "WORTH" "LHomeRoll$Known;") ∈ lw_tbl := lw_at lw_m4 115 rfl
theorem q899 : (Jvm.Cond.fieldLink "HomeRoll$Known" (16 : Nat) "HomeRoll$Known" "YEAR_OF" "LHomeRoll$Known;") ∈ lw_all := lw_g (lw_at lw_m4 116 rfl) rfl
theorem q900 : (Jvm.Cond.laysStatic "HomeRoll$Known" "YEAR_OF" "LHomeRoll$Known;") ∈ lw_tbl := lw_at lw_m4 117 rfl
theorem q901 : (Jvm.Cond.fieldLink "HomeRoll$Known" (19 : Nat) "HomeRoll$Known" "HELD" "LHomeRoll$Known;") ∈ lw_all := lw_g (lw_at lw_m4 118 rfl) rfl
theorem q902 : (Jvm.Cond.laysStatic "HomeRoll$Known" "HELD" "LHomeRoll$Known;") ∈ lw_tbl := lw_at lw_m4 119 rfl
theorem q903 : (Jvm.Cond.fieldLink "HomeRoll$Known" (22 : Nat) "HomeRoll$Known" "HANDS" "LHomeRoll$Known;") ∈ lw_all := lw_g (lw_at lw_m4 120 rfl) rfl
theorem q904 : (Jvm.Cond.laysStatic "HomeRoll$Known" "HANDS" "LHomeRoll$Known;") ∈ lw_tbl := lw_at lw_m4 121 rfl
theorem q905 : (Jvm.Cond.fieldLink "HomeRoll$Known" (25 : Nat) "HomeRoll$Known" "LIVES" "LHomeRoll$Known;") ∈ lw_all := lw_g (lw_at lw_m4 122 rfl) rfl
theorem q906 : (Jvm.Cond.laysStatic "HomeRoll$Known" "LIVES" "LHomeRoll$Known;") ∈ lw_tbl := lw_at lw_m4 123 rfl
theorem q907 : (Jvm.Cond.fieldLink "HomeRoll$Known" (28 : Nat) "HomeRoll$Known" "DEAD" "LHomeRoll$Known;") ∈ lw_all := lw_g (lw_at lw_m4 124 rfl) rfl
theorem q908 : (Jvm.Cond.laysStatic "HomeRoll$Known" "DEAD" "LHomeRoll$Known;") ∈ lw_tbl := lw_at lw_m4 125 rfl
theorem q1150 : (Jvm.Cond.instanceMethod ({ cls := "HomeRoll$Known", name := "told", desc := "(LHomeRoll;LHomeRoll$View;)I" } : Jvm.MethodName)) ∈ lw_all := lw_g (lw_at lw_m5 127 rfl) rfl
theorem q1151 : (Jvm.Cond.sameMethod "HomeRoll$Known" "HomeRoll$Known" "told" "(LHomeRoll;LHomeRoll$View;)I") ∈ lw_all := lw_g (lw_at lw_m5 128 rfl) rfl
theorem q1161 : (Jvm.Cond.code ({ cls := "HomeRoll$Known", name := "told", desc := "(LHomeRoll;LHomeRoll$View;)I" } : Jvm.MethodName) prog_5_method_5_code (3 : Nat) (Option.some Jvm.ClassFile.FieldType.int)) ∈ lw_all := lw_g (lw_at lw_m5 138 rfl) rfl
theorem q1162 : (Jvm.Cond.constantLong "HomeRoll$Known" (52 : Nat) (2147483647 : Int64)) ∈ lw_all := lw_g (lw_at lw_m5 139 rfl) rfl
theorem q1163 : (Jvm.Cond.methodLink "HomeRoll$Known" (54 : Nat) ({ cls := "HomeRoll$Known", name := "of", desc := "(LHomeRoll;LHomeRoll$View;)J" } : Jvm.MethodName)) ∈ lw_all := lw_g (lw_at lw_m5 140 rfl) rfl
theorem q1164 : (Jvm.Cond.declares ({ cls := "HomeRoll$Known", name := "of", desc := "(LHomeRoll;LHomeRoll$View;)J" } : Jvm.MethodName)) ∈ lw_tbl := lw_at lw_m5 141 rfl
theorem q1165 : (Jvm.Cond.sameMethod "HomeRoll$Known" "HomeRoll$Known" "of" "(LHomeRoll;LHomeRoll$View;)J") ∈ lw_all := lw_g (lw_at lw_m5 142 rfl) rfl
theorem q1198 : (Jvm.Cond.methodLink "HomeRoll$Known" (58 : Nat) ({ cls := "java/lang/Math", name := "min", desc := "(JJ)J" } : Jvm.MethodName)) ∈ lw_all := lw_g (lw_at lw_m5 175 rfl) rfl
theorem q1712 : (Jvm.Cond.castable "HomeRoll$Known" "java/lang/Object") ∈ lw_tbl := lw_at lw_m7 209 rfl
/-! HomeRoll$Known$6 -/
def RX20 : String := "HomeRoll$Known$6"
abbrev cX20_of : ByteArray := prog_11_method_2_code
def yX20_of : MethodName := ⟨RX20, "of", "(LHomeRoll;LHomeRoll$View;)J"⟩
theorem q148 : (Jvm.Cond.fieldLink "HomeRoll$Known$6" (7 : Nat) "HomeRoll$View" "held" "I") ∈ lw_all := lw_g (lw_at lw_m1 85 rfl) rfl
theorem q1026 : (Jvm.Cond.selects "HomeRoll$Known$6" ({ cls := "java/lang/Object", name := "getClass", desc := "()Ljava/lang/Class;" } : Jvm.MethodName) ({ cls := "java/lang/Object", name := "getClass", desc := "()Ljava/lang/Class;" } : Jvm.MethodName)) ∈ lw_all := lw_g (lw_at lw_m5 3 rfl) rfl
theorem q1157 : (Jvm.Cond.selects "HomeRoll$Known$6" ({ cls := "HomeRoll$Known", name := "told", desc := "(LHomeRoll;LHomeRoll$View;)I" } : Jvm.MethodName) ({ cls := "HomeRoll$Known", name := "told", desc := "(LHomeRoll;LHomeRoll$View;)I" } : Jvm.MethodName)) ∈ lw_all := lw_g (lw_at lw_m5 134 rfl) rfl
theorem q1182 : (Jvm.Cond.selects "HomeRoll$Known$6" ({ cls := "HomeRoll$Known", name := "of", desc := "(LHomeRoll;LHomeRoll$View;)J" } : Jvm.MethodName) ({ cls := "HomeRoll$Known$6", name := "of", desc := "(LHomeRoll;LHomeRoll$View;)J" } : Jvm.MethodName)) ∈ lw_all := lw_g (lw_at lw_m5 159 rfl) rfl
theorem q1183 : (Jvm.Cond.instanceMethod ({ cls := "HomeRoll$Known$6", name := "of", desc := "(LHomeRoll;LHomeRoll$View;)J" } : Jvm.MethodName)) ∈ lw_all := lw_g (lw_at lw_m5 160 rfl) rfl
theorem q1184 : (Jvm.Cond.code ({ cls := "HomeRoll$Known$6", name := "of", desc := "(LHomeRoll;LHomeRoll$View;)J" } : Jvm.MethodName) prog_11_method_2_code (3 : Nat) (Option.some Jvm.ClassFile.FieldType.long)) ∈ lw_all := lw_g (lw_at lw_m5 161 rfl) rfl
theorem q1721 : (Jvm.Cond.castable "HomeRoll$Known$6" "java/lang/Object") ∈ lw_tbl := lw_at lw_m7 218 rfl
theorem q1743 : (Jvm.Cond.castable "HomeRoll$Known$6" "HomeRoll$Known") ∈ lw_tbl := lw_at lw_m8 0 rfl
/-! HomeRoll$Known$7 -/
def RX21 : String := "HomeRoll$Known$7"
abbrev cX21_of : ByteArray := prog_12_method_2_code
def yX21_of : MethodName := ⟨RX21, "of", "(LHomeRoll;LHomeRoll$View;)J"⟩
theorem q150 : (Jvm.Cond.fieldLink "HomeRoll$Known$7" (7 : Nat) "HomeRoll$View" "hands" "I") ∈ lw_all := lw_g (lw_at lw_m1 87 rfl) rfl
theorem q1027 : (Jvm.Cond.selects "HomeRoll$Known$7" ({ cls := "java/lang/Object", name := "getClass", desc := "()Ljava/lang/Class;" } : Jvm.MethodName) ({ cls := "java/lang/Object", name := "getClass", desc := "()Ljava/lang/Class;" } : Jvm.MethodName)) ∈ lw_all := lw_g (lw_at lw_m5 4 rfl) rfl
theorem q1158 : (Jvm.Cond.selects "HomeRoll$Known$7" ({ cls := "HomeRoll$Known", name := "told", desc := "(LHomeRoll;LHomeRoll$View;)I" } : Jvm.MethodName) ({ cls := "HomeRoll$Known", name := "told", desc := "(LHomeRoll;LHomeRoll$View;)I" } : Jvm.MethodName)) ∈ lw_all := lw_g (lw_at lw_m5 135 rfl) rfl
theorem q1185 : (Jvm.Cond.selects "HomeRoll$Known$7" ({ cls := "HomeRoll$Known", name := "of", desc := "(LHomeRoll;LHomeRoll$View;)J" } : Jvm.MethodName) ({ cls := "HomeRoll$Known$7", name := "of", desc := "(LHomeRoll;LHomeRoll$View;)J" } : Jvm.MethodName)) ∈ lw_all := lw_g (lw_at lw_m5 162 rfl) rfl
theorem q1186 : (Jvm.Cond.instanceMethod ({ cls := "HomeRoll$Known$7", name := "of", desc := "(LHomeRoll;LHomeRoll$View;)J" } : Jvm.MethodName)) ∈ lw_all := lw_g (lw_at lw_m5 163 rfl) rfl
theorem q1187 : (Jvm.Cond.code ({ cls := "HomeRoll$Known$7", name := "of", desc := "(LHomeRoll;LHomeRoll$View;)J" } : Jvm.MethodName) prog_12_method_2_code (3 : Nat) (Option.some Jvm.ClassFile.FieldType.long)) ∈ lw_all := lw_g (lw_at lw_m5 164 rfl) rfl
theorem q1722 : (Jvm.Cond.castable "HomeRoll$Known$7" "java/lang/Object") ∈ lw_tbl := lw_at lw_m7 219 rfl
theorem q1744 : (Jvm.Cond.castable "HomeRoll$Known$7" "HomeRoll$Known") ∈ lw_tbl := lw_at lw_m8 1 rfl
/-! HomeRoll$Known$8 -/
def RX22 : String := "HomeRoll$Known$8"
abbrev cX22_of : ByteArray := prog_13_method_2_code
def yX22_of : MethodName := ⟨RX22, "of", "(LHomeRoll;LHomeRoll$View;)J"⟩
theorem q154 : (Jvm.Cond.fieldLink "HomeRoll$Known$8" (7 : Nat) "HomeRoll$View" "lives" "Z") ∈ lw_all := lw_g (lw_at lw_m1 91 rfl) rfl
theorem q1028 : (Jvm.Cond.selects "HomeRoll$Known$8" ({ cls := "java/lang/Object", name := "getClass", desc := "()Ljava/lang/Class;" } : Jvm.MethodName) ({ cls := "java/lang/Object", name := "getClass", desc := "()Ljava/lang/Class;" } : Jvm.MethodName)) ∈ lw_all := lw_g (lw_at lw_m5 5 rfl) rfl
theorem q1159 : (Jvm.Cond.selects "HomeRoll$Known$8" ({ cls := "HomeRoll$Known", name := "told", desc := "(LHomeRoll;LHomeRoll$View;)I" } : Jvm.MethodName) ({ cls := "HomeRoll$Known", name := "told", desc := "(LHomeRoll;LHomeRoll$View;)I" } : Jvm.MethodName)) ∈ lw_all := lw_g (lw_at lw_m5 136 rfl) rfl
theorem q1188 : (Jvm.Cond.selects "HomeRoll$Known$8" ({ cls := "HomeRoll$Known", name := "of", desc := "(LHomeRoll;LHomeRoll$View;)J" } : Jvm.MethodName) ({ cls := "HomeRoll$Known$8", name := "of", desc := "(LHomeRoll;LHomeRoll$View;)J" } : Jvm.MethodName)) ∈ lw_all := lw_g (lw_at lw_m5 165 rfl) rfl
theorem q1189 : (Jvm.Cond.instanceMethod ({ cls := "HomeRoll$Known$8", name := "of", desc := "(LHomeRoll;LHomeRoll$View;)J" } : Jvm.MethodName)) ∈ lw_all := lw_g (lw_at lw_m5 166 rfl) rfl
theorem q1190 : (Jvm.Cond.code ({ cls := "HomeRoll$Known$8", name := "of", desc := "(LHomeRoll;LHomeRoll$View;)J" } : Jvm.MethodName) prog_13_method_2_code (3 : Nat) (Option.some Jvm.ClassFile.FieldType.long)) ∈ lw_all := lw_g (lw_at lw_m5 167 rfl) rfl
theorem q1723 : (Jvm.Cond.castable "HomeRoll$Known$8" "java/lang/Object") ∈ lw_tbl := lw_at lw_m7 220 rfl
theorem q1745 : (Jvm.Cond.castable "HomeRoll$Known$8" "HomeRoll$Known") ∈ lw_tbl := lw_at lw_m8 2 rfl
/-! HomeRollModel -/
def RX3 : String := "HomeRollModel"
def TX3 : u_T := fun k => match k with
  | 0 => ("HomeRollModel", "mother", "[I", true)
  | 1 => ("HomeRollModel", "father", "[I", true)
  | 2 => ("HomeRollModel", "deadFrom", "[I", true)
  | 3 => ("HomeRollModel", "first", "[I", true)
  | 4 => ("HomeRollModel", "worth", "[I", true)
  | 5 => ("HomeRollModel", "levels", "[I", true)
  | 6 => ("HomeRollModel", "people", "I", false)
  | 7 => ("HomeRollModel", "houses", "I", false)
  | 8 => ("HomeRollModel", "today", "I", false)
  | 9 => ("HomeRollModel", "pHouse", "[I", true)
  | 10 => ("HomeRollModel", "pFrom", "[I", true)
  | 11 => ("HomeRollModel", "pTo", "[I", true)
  | 12 => ("HomeRollModel", "pDay", "[I", true)
  | 13 => ("HomeRollModel", "pSort", "[I", true)
  | 14 => ("HomeRollModel", "pPrice", "[I", true)
  | 15 => ("HomeRollModel", "pFound", "[I", true)
  | 16 => ("HomeRollModel", "pFalse", "[I", true)
  | 17 => ("HomeRollModel", "line", "[I", true)
  | 18 => ("HomeRollModel", "isLoose", "[Z", true)
  | 19 => ("HomeRollModel", "papers", "I", false)
  | 20 => ("HomeRollModel", "inLine", "I", false)
  | 21 => ("HomeRollModel", "tape", "[B", true)
  | 22 => ("HomeRollModel", "text", "[B", true)
  | 23 => ("HomeRollModel", "taped", "I", false)
  | 24 => ("HomeRollModel", "size", "I", false)
  | 25 => ("HomeRollModel", "faultKind", "I", false)
  | 26 => ("HomeRollModel", "faultPlace", "I", false)
  | 27 => ("HomeRollModel", "at", "I", false)
  | 28 => ("HomeRollModel", "end", "I", false)
  | 29 => ("HomeRollModel", "token", "I", false)
  | 30 => ("HomeRollModel", "number", "I", false)
  | 31 => ("HomeRollModel", "name", "J", false)
  | 32 => ("HomeRollModel", "lineMany", "[I", true)
  | 33 => ("HomeRollModel", "lRuling", "[I", true)
  | 34 => ("HomeRollModel", "lPart", "[I", true)
  | 35 => ("HomeRollModel", "lFrom", "[I", true)
  | 36 => ("HomeRollModel", "lTo", "[I", true)
  | 37 => ("HomeRollModel", "code", "[I", true)
  | 38 => ("HomeRollModel", "codeNumber", "[I", true)
  | 39 => ("HomeRollModel", "bank", "I", false)
  | 40 => ("HomeRollModel", "rb", "I", false)
  | 41 => ("HomeRollModel", "codes", "I", false)
  | 42 => ("HomeRollModel", "terms", "I", false)
  | 43 => ("HomeRollModel", "eWhat", "[I", true)
  | 44 => ("HomeRollModel", "piled", "I", false)
  | 45 => ("HomeRollModel", "deep", "I", false)
  | 46 => ("HomeRollModel", "values", "[I", true)
  | 47 => ("HomeRollModel", "told", "[I", true)
  | 48 => ("HomeRollModel", "claimed", "[I", true)
  | 49 => ("HomeRollModel", "claims", "I", false)
  | 50 => ("HomeRollModel", "tops", "[J", true)
  | 51 => ("HomeRollModel", "unders", "[J", true)
  | 52 => ("HomeRollModel", "canHave", "[Z", true)
  | 53 => ("HomeRollModel", "joys", "[I", true)
  | 54 => ("HomeRollModel", "mostFrom", "[I", true)
  | _ => ("HomeRollModel", "wants", "I", false)
def tyX3 : Nat → FieldType := fun k => match k with
  | 0 => .array .int
  | 1 => .array .int
  | 2 => .array .int
  | 3 => .array .int
  | 4 => .array .int
  | 5 => .array .int
  | 6 => .int
  | 7 => .int
  | 8 => .int
  | 9 => .array .int
  | 10 => .array .int
  | 11 => .array .int
  | 12 => .array .int
  | 13 => .array .int
  | 14 => .array .int
  | 15 => .array .int
  | 16 => .array .int
  | 17 => .array .int
  | 18 => .array .boolean
  | 19 => .int
  | 20 => .int
  | 21 => .array .byte
  | 22 => .array .byte
  | 23 => .int
  | 24 => .int
  | 25 => .int
  | 26 => .int
  | 27 => .int
  | 28 => .int
  | 29 => .int
  | 30 => .int
  | 31 => .long
  | 32 => .array .int
  | 33 => .array .int
  | 34 => .array .int
  | 35 => .array .int
  | 36 => .array .int
  | 37 => .array .int
  | 38 => .array .int
  | 39 => .int
  | 40 => .int
  | 41 => .int
  | 42 => .int
  | 43 => .array .int
  | 44 => .int
  | 45 => .int
  | 46 => .array .int
  | 47 => .array .int
  | 48 => .array .int
  | 49 => .int
  | 50 => .array .long
  | 51 => .array .long
  | 52 => .array .boolean
  | 53 => .array .int
  | 54 => .array .int
  | _ => .int
abbrev wsX30 : List Cond := u_ws RX3 TX3 56
set_option maxRecDepth 100000 in
theorem nmX3 : ∀ a, a < 56 → ∀ b, b < 56 → a ≠ b → (TX3 a).2.1 ≠ (TX3 b).2.1 := by decide +kernel
set_option maxRecDepth 100000 in
theorem tyX3_ok : ∀ k, k < 56 → parseFieldDescriptor (TX3 k).2.2.1 = some (tyX3 k) := by decide +kernel
abbrev cX3_init : ByteArray := prog_24_method_1_code
def yX3_init : MethodName := ⟨RX3, "<init>", "()V"⟩
abbrev cX3_person : ByteArray := prog_24_method_6_code
def yX3_person : MethodName := ⟨RX3, "person", "(II)I"⟩
abbrev cX3_dead : ByteArray := prog_24_method_7_code
def yX3_dead : MethodName := ⟨RX3, "dead", "(II)Z"⟩
abbrev cX3_isPerson : ByteArray := prog_24_method_2_code
def yX3_isPerson : MethodName := ⟨RX3, "isPerson", "(I)Z"⟩
abbrev cX3_isDay : ByteArray := prog_24_method_4_code
def yX3_isDay : MethodName := ⟨RX3, "isDay", "(I)Z"⟩
abbrev cX3_house : ByteArray := prog_24_method_9_code
def yX3_house : MethodName := ⟨RX3, "house", "(II)I"⟩
abbrev cX3_isSum : ByteArray := prog_24_method_5_code
def yX3_isSum : MethodName := ⟨RX3, "isSum", "(I)Z"⟩
abbrev cX3_level : ByteArray := prog_24_method_11_code
def yX3_level : MethodName := ⟨RX3, "level", "(II)Z"⟩
abbrev cX3_isYear : ByteArray := prog_24_method_10_code
def yX3_isYear : MethodName := ⟨RX3, "isYear", "(I)Z"⟩
abbrev cX3_money : ByteArray := prog_24_method_13_code
def yX3_money : MethodName := ⟨RX3, "money", "(III)J"⟩
abbrev cX3_turned : ByteArray := prog_24_method_12_code
def yX3_turned : MethodName := ⟨RX3, "turned", "(III)J"⟩
abbrev cX3_paper : ByteArray := prog_24_method_14_code
def yX3_paper : MethodName := ⟨RX3, "paper", "(IIIIII)I"⟩
abbrev cX3_isHouse : ByteArray := prog_24_method_3_code
def yX3_isHouse : MethodName := ⟨RX3, "isHouse", "(I)Z"⟩
abbrev cX3_isFalse : ByteArray := prog_24_method_16_code
def yX3_isFalse : MethodName := ⟨RX3, "isFalse", "(I)Z"⟩
abbrev cX3_isPaper : ByteArray := prog_24_method_15_code
def yX3_isPaper : MethodName := ⟨RX3, "isPaper", "(I)Z"⟩
abbrev cX3_later : ByteArray := prog_24_method_17_code
def yX3_later : MethodName := ⟨RX3, "later", "(I)I"⟩
abbrev cX3_holder : ByteArray := prog_24_method_20_code
def yX3_holder : MethodName := ⟨RX3, "holder", "(III)I"⟩
abbrev cX3_follow : ByteArray := prog_24_method_19_code
def yX3_follow : MethodName := ⟨RX3, "follow", "(III)I"⟩
abbrev cX3_counts : ByteArray := prog_24_method_18_code
def yX3_counts : MethodName := ⟨RX3, "counts", "(II)Z"⟩
abbrev cX3_loose : ByteArray := prog_24_method_21_code
def yX3_loose : MethodName := ⟨RX3, "loose", "(II)I"⟩
abbrev cX3_law : ByteArray := prog_24_method_33_code
def yX3_law : MethodName := ⟨RX3, "law", "()I"⟩
abbrev cX3_next : ByteArray := prog_24_method_27_code
def yX3_next : MethodName := ⟨RX3, "next", "()V"⟩
abbrev cX3_sign : ByteArray := prog_24_method_22_code
def yX3_sign : MethodName := ⟨RX3, "sign", "(I)I"⟩
abbrev cX3_isLetter : ByteArray := prog_24_method_23_code
def yX3_isLetter : MethodName := ⟨RX3, "isLetter", "(I)Z"⟩
abbrev cX3_isDigit : ByteArray := prog_24_method_24_code
def yX3_isDigit : MethodName := ⟨RX3, "isDigit", "(I)Z"⟩
abbrev cX3_isGood : ByteArray := prog_24_method_26_code
def yX3_isGood : MethodName := ⟨RX3, "isGood", "()Z"⟩
abbrev cX3_readLine : ByteArray := prog_24_method_34_code
def yX3_readLine : MethodName := ⟨RX3, "readLine", "()V"⟩
abbrev cX3_isWord : ByteArray := prog_24_method_29_code
def yX3_isWord : MethodName := ⟨RX3, "isWord", "(J)Z"⟩
abbrev cX3_wrong : ByteArray := prog_24_method_30_code
def yX3_wrong : MethodName := ⟨RX3, "wrong", "()V"⟩
abbrev cX3_fails : ByteArray := prog_24_method_25_code
def yX3_fails : MethodName := ⟨RX3, "fails", "(II)V"⟩
abbrev cX3_e : ByteArray := prog_24_method_37_code
def yX3_e : MethodName := ⟨RX3, "e", "()V"⟩
abbrev cX3_pile : ByteArray := prog_24_method_36_code
def yX3_pile : MethodName := ⟨RX3, "pile", "(I)V"⟩
abbrev cX3_one : ByteArray := prog_24_method_38_code
def yX3_one : MethodName := ⟨RX3, "one", "()Z"⟩
abbrev cX3_is : ByteArray := prog_24_method_28_code
def yX3_is : MethodName := ⟨RX3, "is", "(I)Z"⟩
abbrev cX3_readSum : ByteArray := prog_24_method_39_code
def yX3_readSum : MethodName := ⟨RX3, "readSum", "()V"⟩
abbrev cX3_readTerm : ByteArray := prog_24_method_40_code
def yX3_readTerm : MethodName := ⟨RX3, "readTerm", "()V"⟩
abbrev cX3_termHere : ByteArray := prog_24_method_32_code
def yX3_termHere : MethodName := ⟨RX3, "termHere", "()I"⟩
abbrev cX3_step : ByteArray := prog_24_method_35_code
def yX3_step : MethodName := ⟨RX3, "step", "(II)V"⟩
abbrev cX3_behind : ByteArray := prog_24_method_41_code
def yX3_behind : MethodName := ⟨RX3, "behind", "()Z"⟩
abbrev cX3_must : ByteArray := prog_24_method_31_code
def yX3_must : MethodName := ⟨RX3, "must", "(Z)V"⟩
abbrev cX3_fault : ByteArray := prog_24_method_42_code
def yX3_fault : MethodName := ⟨RX3, "fault", "(I)I"⟩
abbrev cX3_claim : ByteArray := prog_24_method_45_code
def yX3_claim : MethodName := ⟨RX3, "claim", "(I)I"⟩
abbrev cX3_ruling : ByteArray := prog_24_method_48_code
def yX3_ruling : MethodName := ⟨RX3, "ruling", "(II)I"⟩
abbrev cX3_look : ByteArray := prog_24_method_46_code
def yX3_look : MethodName := ⟨RX3, "look", "(II)Z"⟩
abbrev cX3_isDead : ByteArray := prog_24_method_8_code
def yX3_isDead : MethodName := ⟨RX3, "isDead", "(II)Z"⟩
abbrev cX3_lineFor : ByteArray := prog_24_method_47_code
def yX3_lineFor : MethodName := ⟨RX3, "lineFor", "()I"⟩
abbrev cX3_holds : ByteArray := prog_24_method_44_code
def yX3_holds : MethodName := ⟨RX3, "holds", "(I)Z"⟩
abbrev cX3_two : ByteArray := prog_24_method_43_code
def yX3_two : MethodName := ⟨RX3, "two", "(III)I"⟩
abbrev cX3_sum : ByteArray := prog_24_method_49_code
def yX3_sum : MethodName := ⟨RX3, "sum", "(II)I"⟩
abbrev cX3_term : ByteArray := prog_24_method_50_code
def yX3_term : MethodName := ⟨RX3, "term", "(III)I"⟩
abbrev cX3_share : ByteArray := prog_24_method_55_code
def yX3_share : MethodName := ⟨RX3, "share", "(IIII)J"⟩
abbrev cX3_handDown : ByteArray := prog_24_method_54_code
def yX3_handDown : MethodName := ⟨RX3, "handDown", "(II)V"⟩
abbrev cX3_isChild : ByteArray := prog_24_method_52_code
def yX3_isChild : MethodName := ⟨RX3, "isChild", "(II)Z"⟩
abbrev cX3_gets : ByteArray := prog_24_method_53_code
def yX3_gets : MethodName := ⟨RX3, "gets", "(IJJ)V"⟩
abbrev cX3_divisor : ByteArray := prog_24_method_51_code
def yX3_divisor : MethodName := ⟨RX3, "divisor", "(JJ)J"⟩
abbrev cX3_want : ByteArray := prog_24_method_56_code
def yX3_want : MethodName := ⟨RX3, "want", "(III)I"⟩
abbrev cX3_joy : ByteArray := prog_24_method_59_code
def yX3_joy : MethodName := ⟨RX3, "joy", "()I"⟩
abbrev cX3_solve : ByteArray := prog_24_method_58_code
def yX3_solve : MethodName := ⟨RX3, "solve", "()I"⟩
abbrev cX3_mayGet : ByteArray := prog_24_method_57_code
def yX3_mayGet : MethodName := ⟨RX3, "mayGet", "(II)Z"⟩
abbrev cX3_swap : ByteArray := prog_24_method_60_code
def yX3_swap : MethodName := ⟨RX3, "swap", "(I)I"⟩
abbrev cX3_about : ByteArray := prog_24_method_61_code
def yX3_about : MethodName := ⟨RX3, "about", "(I)I"⟩
abbrev cX3_feed : ByteArray := prog_24_method_62_code
def yX3_feed : MethodName := ⟨RX3, "feed", "(IIIII)I"⟩
abbrev cX3_end : ByteArray := prog_24_method_63_code
def yX3_end : MethodName := ⟨RX3, "end", "(I)I"⟩
theorem q71 : (Jvm.Cond.initialized "HomeRollModel") ∈ lw_all := lw_g (lw_at lw_m1 8 rfl) rfl
theorem q1038 : (Jvm.Cond.selects "HomeRollModel" ({ cls := "java/lang/Object", name := "getClass", desc := "()Ljava/lang/Class;" } : Jvm.MethodName) ({ cls := "java/lang/Object", name := "getClass", desc := "()Ljava/lang/Class;" } : Jvm.MethodName)) ∈ lw_all := lw_g (lw_at lw_m5 15 rfl) rfl
theorem q1261 : (Jvm.Cond.instantiable "HomeRollModel" (56 : Nat)) ∈ lw_all := lw_g (lw_at lw_m5 238 rfl) rfl
theorem q1263 : (Jvm.Cond.instanceMethod ({ cls := "HomeRollModel", name := "<init>", desc := "()V" } : Jvm.MethodName)) ∈ lw_all := lw_g (lw_at lw_m6 0 rfl) rfl
theorem q1264 : (Jvm.Cond.code ({ cls := "HomeRollModel", name := "<init>", desc := "()V" } : Jvm.MethodName) prog_24_method_1_code (2 : Nat) (Option.none : Option Jvm.ClassFile.FieldType)) ∈ lw_all := lw_g (lw_at lw_m6 1 rfl) rfl
theorem q1265 : (Jvm.Cond.methodLink "HomeRollModel" (1 : Nat) ({ cls := "java/lang/Object", name := "<init>", desc := "()V" } : Jvm.MethodName)) ∈ lw_all := lw_g (lw_at lw_m6 2 rfl) rfl
theorem q1266 : (Jvm.Cond.fieldLink "HomeRollModel" (7 : Nat) "HomeRollModel" "mother" "[I") ∈ lw_all := lw_g (lw_at lw_m6 3 rfl) rfl
theorem q1267 : (Jvm.Cond.fieldLink "HomeRollModel" (13 : Nat) "HomeRollModel" "father" "[I") ∈ lw_all := lw_g (lw_at lw_m6 4 rfl) rfl
theorem q1268 : (Jvm.Cond.fieldLink "HomeRollModel" (16 : Nat) "HomeRollModel" "deadFrom" "[I") ∈ lw_all := lw_g (lw_at lw_m6 5 rfl) rfl
theorem q1269 : (Jvm.Cond.fieldLink "HomeRollModel" (19 : Nat) "HomeRollModel" "first" "[I") ∈ lw_all := lw_g (lw_at lw_m6 6 rfl) rfl
theorem q1270 : (Jvm.Cond.fieldLink "HomeRollModel" (22 : Nat) "HomeRollModel" "worth" "[I") ∈ lw_all := lw_g (lw_at lw_m6 7 rfl) rfl
theorem q1271 : (Jvm.Cond.fieldLink "HomeRollModel" (25 : Nat) "HomeRollModel" "levels" "[I") ∈ lw_all := lw_g (lw_at lw_m6 8 rfl) rfl
theorem q1272 : (Jvm.Cond.fieldLink "HomeRollModel" (119 : Nat) "HomeRollModel" "people" "I") ∈ lw_all := lw_g (lw_at lw_m6 9 rfl) rfl
theorem q1273 : (Jvm.Cond.fieldLink "HomeRollModel" (122 : Nat) "HomeRollModel" "houses" "I") ∈ lw_all := lw_g (lw_at lw_m6 10 rfl) rfl
theorem q1274 : (Jvm.Cond.fieldLink "HomeRollModel" (149 : Nat) "HomeRollModel" "today" "I") ∈ lw_all := lw_g (lw_at lw_m6 11 rfl) rfl
theorem q1275 : (Jvm.Cond.fieldLink "HomeRollModel" (28 : Nat) "HomeRollModel" "pHouse" "[I") ∈ lw_all := lw_g (lw_at lw_m6 12 rfl) rfl
theorem q1276 : (Jvm.Cond.fieldLink "HomeRollModel" (31 : Nat) "HomeRollModel" "pFrom" "[I") ∈ lw_all := lw_g (lw_at lw_m6 13 rfl) rfl
theorem q1277 : (Jvm.Cond.fieldLink "HomeRollModel" (34 : Nat) "HomeRollModel" "pTo" "[I") ∈ lw_all := lw_g (lw_at lw_m6 14 rfl) rfl
theorem q1278 : (Jvm.Cond.fieldLink "HomeRollModel" (37 : Nat) "HomeRollModel" "pDay" "[I") ∈ lw_all := lw_g (lw_at lw_m6 15 rfl) rfl
theorem q1279 : (Jvm.Cond.fieldLink "HomeRollModel" (40 : Nat) "HomeRollModel" "pSort" "[I") ∈ lw_all := lw_g (lw_at lw_m6 16 rfl) rfl
theorem q1280 : (Jvm.Cond.fieldLink "HomeRollModel" (43 : Nat) "HomeRollModel" "pPrice" "[I") ∈ lw_all := lw_g (lw_at lw_m6 17 rfl) rfl
theorem q1281 : (Jvm.Cond.fieldLink "HomeRollModel" (46 : Nat) "HomeRollModel" "pFound" "[I") ∈ lw_all := lw_g (lw_at lw_m6 18 rfl) rfl
theorem q1282 : (Jvm.Cond.fieldLink "HomeRollModel" (49 : Nat) "HomeRollModel" "pFalse" "[I") ∈ lw_all := lw_g (lw_at lw_m6 19 rfl) rfl
theorem q1283 : (Jvm.Cond.fieldLink "HomeRollModel" (52 : Nat) "HomeRollModel" "line" "[I") ∈ lw_all := lw_g (lw_at lw_m6 20 rfl) rfl
theorem q1284 : (Jvm.Cond.fieldLink "HomeRollModel" (55 : Nat) "HomeRollModel" "isLoose" "[Z") ∈ lw_all := lw_g (lw_at lw_m6 21 rfl) rfl
theorem q1285 : (Jvm.Cond.fieldLink "HomeRollModel" (152 : Nat) "HomeRollModel" "papers" "I") ∈ lw_all := lw_g (lw_at lw_m6 22 rfl) rfl
theorem q1286 : (Jvm.Cond.fieldLink "HomeRollModel" (158 : Nat) "HomeRollModel" "inLine" "I") ∈ lw_all := lw_g (lw_at lw_m6 23 rfl) rfl
theorem q1287 : (Jvm.Cond.fieldLink "HomeRollModel" (59 : Nat) "HomeRollModel" "tape" "[B") ∈ lw_all := lw_g (lw_at lw_m6 24 rfl) rfl
theorem q1288 : (Jvm.Cond.fieldLink "HomeRollModel" (63 : Nat) "HomeRollModel" "text" "[B") ∈ lw_all := lw_g (lw_at lw_m6 25 rfl) rfl
theorem q1289 : (Jvm.Cond.fieldLink "HomeRollModel" (233 : Nat) "HomeRollModel" "taped" "I") ∈ lw_all := lw_g (lw_at lw_m6 26 rfl) rfl
theorem q1290 : (Jvm.Cond.fieldLink "HomeRollModel" (169 : Nat) "HomeRollModel" "size" "I") ∈ lw_all := lw_g (lw_at lw_m6 27 rfl) rfl
theorem q1291 : (Jvm.Cond.fieldLink "HomeRollModel" (172 : Nat) "HomeRollModel" "faultKind" "I") ∈ lw_all := lw_g (lw_at lw_m6 28 rfl) rfl
theorem q1292 : (Jvm.Cond.fieldLink "HomeRollModel" (66 : Nat) "HomeRollModel" "faultPlace" "I") ∈ lw_all := lw_g (lw_at lw_m6 29 rfl) rfl
theorem q1293 : (Jvm.Cond.fieldLink "HomeRollModel" (178 : Nat) "HomeRollModel" "at" "I") ∈ lw_all := lw_g (lw_at lw_m6 30 rfl) rfl
theorem q1294 : (Jvm.Cond.fieldLink "HomeRollModel" (175 : Nat) "HomeRollModel" "end" "I") ∈ lw_all := lw_g (lw_at lw_m6 31 rfl) rfl
theorem q1295 : (Jvm.Cond.fieldLink "HomeRollModel" (185 : Nat) "HomeRollModel" "token" "I") ∈ lw_all := lw_g (lw_at lw_m6 32 rfl) rfl
theorem q1296 : (Jvm.Cond.fieldLink "HomeRollModel" (198 : Nat) "HomeRollModel" "number" "I") ∈ lw_all := lw_g (lw_at lw_m6 33 rfl) rfl
theorem q1297 : (Jvm.Cond.fieldLink "HomeRollModel" (191 : Nat) "HomeRollModel" "name" "J") ∈ lw_all := lw_g (lw_at lw_m6 34 rfl) rfl
theorem q1298 : (Jvm.Cond.fieldLink "HomeRollModel" (70 : Nat) "HomeRollModel" "lineMany" "[I") ∈ lw_all := lw_g (lw_at lw_m6 35 rfl) rfl
theorem q1299 : (Jvm.Cond.fieldLink "HomeRollModel" (73 : Nat) "HomeRollModel" "lRuling" "[I") ∈ lw_all := lw_g (lw_at lw_m6 36 rfl) rfl
theorem q1300 : (Jvm.Cond.fieldLink "HomeRollModel" (76 : Nat) "HomeRollModel" "lPart" "[I") ∈ lw_all := lw_g (lw_at lw_m6 37 rfl) rfl
theorem q1301 : (Jvm.Cond.fieldLink "HomeRollModel" (79 : Nat) "HomeRollModel" "lFrom" "[I") ∈ lw_all := lw_g (lw_at lw_m6 38 rfl) rfl
theorem q1302 : (Jvm.Cond.fieldLink "HomeRollModel" (82 : Nat) "HomeRollModel" "lTo" "[I") ∈ lw_all := lw_g (lw_at lw_m6 39 rfl) rfl
theorem q1303 : (Jvm.Cond.fieldLink "HomeRollModel" (85 : Nat) "HomeRollModel" "code" "[I") ∈ lw_all := lw_g (lw_at lw_m6 40 rfl) rfl
theorem q1304 : (Jvm.Cond.fieldLink "HomeRollModel" (88 : Nat) "HomeRollModel" "codeNumber" "[I") ∈ lw_all := lw_g (lw_at lw_m6 41 rfl) rfl
theorem q1305 : (Jvm.Cond.fieldLink "HomeRollModel" (236 : Nat) "HomeRollModel" "bank" "I") ∈ lw_all := lw_g (lw_at lw_m6 42 rfl) rfl
theorem q1306 : (Jvm.Cond.fieldLink "HomeRollModel" (239 : Nat) "HomeRollModel" "rb" "I") ∈ lw_all := lw_g (lw_at lw_m6 43 rfl) rfl
theorem q1307 : (Jvm.Cond.fieldLink "HomeRollModel" (242 : Nat) "HomeRollModel" "codes" "I") ∈ lw_all := lw_g (lw_at lw_m6 44 rfl) rfl
theorem q1308 : (Jvm.Cond.fieldLink "HomeRollModel" (245 : Nat) "HomeRollModel" "terms" "I") ∈ lw_all := lw_g (lw_at lw_m6 45 rfl) rfl
theorem q1309 : (Jvm.Cond.fieldLink "HomeRollModel" (91 : Nat) "HomeRollModel" "eWhat" "[I") ∈ lw_all := lw_g (lw_at lw_m6 46 rfl) rfl
theorem q1310 : (Jvm.Cond.fieldLink "HomeRollModel" (277 : Nat) "HomeRollModel" "piled" "I") ∈ lw_all := lw_g (lw_at lw_m6 47 rfl) rfl
theorem q1311 : (Jvm.Cond.fieldLink "HomeRollModel" (280 : Nat) "HomeRollModel" "deep" "I") ∈ lw_all := lw_g (lw_at lw_m6 48 rfl) rfl
theorem q1312 : (Jvm.Cond.fieldLink "HomeRollModel" (94 : Nat) "HomeRollModel" "values" "[I") ∈ lw_all := lw_g (lw_at lw_m6 49 rfl) rfl
theorem q1313 : (Jvm.Cond.fieldLink "HomeRollModel" (97 : Nat) "HomeRollModel" "told" "[I") ∈ lw_all := lw_g (lw_at lw_m6 50 rfl) rfl
theorem q1314 : (Jvm.Cond.fieldLink "HomeRollModel" (100 : Nat) "HomeRollModel" "claimed" "[I") ∈ lw_all := lw_g (lw_at lw_m6 51 rfl) rfl
theorem q1315 : (Jvm.Cond.fieldLink "HomeRollModel" (315 : Nat) "HomeRollModel" "claims" "I") ∈ lw_all := lw_g (lw_at lw_m6 52 rfl) rfl
theorem q1316 : (Jvm.Cond.fieldLink "HomeRollModel" (103 : Nat) "HomeRollModel" "tops" "[J") ∈ lw_all := lw_g (lw_at lw_m6 53 rfl) rfl
theorem q1317 : (Jvm.Cond.fieldLink "HomeRollModel" (107 : Nat) "HomeRollModel" "unders" "[J") ∈ lw_all := lw_g (lw_at lw_m6 54 rfl) rfl
theorem q1318 : (Jvm.Cond.fieldLink "HomeRollModel" (110 : Nat) "HomeRollModel" "canHave" "[Z") ∈ lw_all := lw_g (lw_at lw_m6 55 rfl) rfl
theorem q1319 : (Jvm.Cond.fieldLink "HomeRollModel" (113 : Nat) "HomeRollModel" "joys" "[I") ∈ lw_all := lw_g (lw_at lw_m6 56 rfl) rfl
theorem q1320 : (Jvm.Cond.fieldLink "HomeRollModel" (116 : Nat) "HomeRollModel" "mostFrom" "[I") ∈ lw_all := lw_g (lw_at lw_m6 57 rfl) rfl
theorem q1321 : (Jvm.Cond.fieldLink "HomeRollModel" (353 : Nat) "HomeRollModel" "wants" "I") ∈ lw_all := lw_g (lw_at lw_m6 58 rfl) rfl
theorem q1322 : (Jvm.Cond.laysFinal "HomeRollModel" "HomeRollModel" "mother" "[I") ∈ lw_all := lw_g (lw_at lw_m6 59 rfl) rfl
theorem q1323 : (Jvm.Cond.soleField "HomeRollModel" "mother") ∈ lw_all := lw_g (lw_at lw_m6 60 rfl) rfl
theorem q1324 : (Jvm.Cond.laysFinal "HomeRollModel" "HomeRollModel" "father" "[I") ∈ lw_all := lw_g (lw_at lw_m6 61 rfl) rfl
theorem q1325 : (Jvm.Cond.soleField "HomeRollModel" "father") ∈ lw_all := lw_g (lw_at lw_m6 62 rfl) rfl
theorem q1326 : (Jvm.Cond.laysFinal "HomeRollModel" "HomeRollModel" "deadFrom" "[I") ∈ lw_all := lw_g (lw_at lw_m6 63 rfl) rfl
theorem q1327 : (Jvm.Cond.soleField "HomeRollModel" "deadFrom") ∈ lw_all := lw_g (lw_at lw_m6 64 rfl) rfl
theorem q1328 : (Jvm.Cond.laysFinal "HomeRollModel" "HomeRollModel" "first" "[I") ∈ lw_all := lw_g (lw_at lw_m6 65 rfl) rfl
theorem q1329 : (Jvm.Cond.soleField "HomeRollModel" "first") ∈ lw_all := lw_g (lw_at lw_m6 66 rfl) rfl
theorem q1330 : (Jvm.Cond.laysFinal "HomeRollModel" "HomeRollModel" "worth" "[I") ∈ lw_all := lw_g (lw_at lw_m6 67 rfl) rfl
theorem q1331 : (Jvm.Cond.soleField "HomeRollModel" "worth") ∈ lw_all := lw_g (lw_at lw_m6 68 rfl) rfl
theorem q1332 : (Jvm.Cond.laysFinal "HomeRollModel" "HomeRollModel" "levels" "[I") ∈ lw_all := lw_g (lw_at lw_m6 69 rfl) rfl
theorem q1333 : (Jvm.Cond.soleField "HomeRollModel" "levels") ∈ lw_all := lw_g (lw_at lw_m6 70 rfl) rfl
theorem q1334 : (Jvm.Cond.lays "HomeRollModel" "HomeRollModel" "people" "I") ∈ lw_all := lw_g (lw_at lw_m6 71 rfl) rfl
theorem q1335 : (Jvm.Cond.soleField "HomeRollModel" "people") ∈ lw_all := lw_g (lw_at lw_m6 72 rfl) rfl
theorem q1336 : (Jvm.Cond.lays "HomeRollModel" "HomeRollModel" "houses" "I") ∈ lw_all := lw_g (lw_at lw_m6 73 rfl) rfl
theorem q1337 : (Jvm.Cond.soleField "HomeRollModel" "houses") ∈ lw_all := lw_g (lw_at lw_m6 74 rfl) rfl
theorem q1338 : (Jvm.Cond.lays "HomeRollModel" "HomeRollModel" "today" "I") ∈ lw_all := lw_g (lw_at lw_m6 75 rfl) rfl
theorem q1339 : (Jvm.Cond.soleField "HomeRollModel" "today") ∈ lw_all := lw_g (lw_at lw_m6 76 rfl) rfl
theorem q1340 : (Jvm.Cond.laysFinal "HomeRollModel" "HomeRollModel" "pHouse" "[I") ∈ lw_all := lw_g (lw_at lw_m6 77 rfl) rfl
theorem q1341 : (Jvm.Cond.soleField "HomeRollModel" "pHouse") ∈ lw_all := lw_g (lw_at lw_m6 78 rfl) rfl
theorem q1342 : (Jvm.Cond.laysFinal "HomeRollModel" "HomeRollModel" "pFrom" "[I") ∈ lw_all := lw_g (lw_at lw_m6 79 rfl) rfl
theorem q1343 : (Jvm.Cond.soleField "HomeRollModel" "pFrom") ∈ lw_all := lw_g (lw_at lw_m6 80 rfl) rfl
theorem q1344 : (Jvm.Cond.laysFinal "HomeRollModel" "HomeRollModel" "pTo" "[I") ∈ lw_all := lw_g (lw_at lw_m6 81 rfl) rfl
theorem q1345 : (Jvm.Cond.soleField "HomeRollModel" "pTo") ∈ lw_all := lw_g (lw_at lw_m6 82 rfl) rfl
theorem q1346 : (Jvm.Cond.laysFinal "HomeRollModel" "HomeRollModel" "pDay" "[I") ∈ lw_all := lw_g (lw_at lw_m6 83 rfl) rfl
theorem q1347 : (Jvm.Cond.soleField "HomeRollModel" "pDay") ∈ lw_all := lw_g (lw_at lw_m6 84 rfl) rfl
theorem q1348 : (Jvm.Cond.laysFinal "HomeRollModel" "HomeRollModel" "pSort" "[I") ∈ lw_all := lw_g (lw_at lw_m6 85 rfl) rfl
theorem q1349 : (Jvm.Cond.soleField "HomeRollModel" "pSort") ∈ lw_all := lw_g (lw_at lw_m6 86 rfl) rfl
theorem q1350 : (Jvm.Cond.laysFinal "HomeRollModel" "HomeRollModel" "pPrice" "[I") ∈ lw_all := lw_g (lw_at lw_m6 87 rfl) rfl
theorem q1351 : (Jvm.Cond.soleField "HomeRollModel" "pPrice") ∈ lw_all := lw_g (lw_at lw_m6 88 rfl) rfl
theorem q1352 : (Jvm.Cond.laysFinal "HomeRollModel" "HomeRollModel" "pFound" "[I") ∈ lw_all := lw_g (lw_at lw_m6 89 rfl) rfl
theorem q1353 : (Jvm.Cond.soleField "HomeRollModel" "pFound") ∈ lw_all := lw_g (lw_at lw_m6 90 rfl) rfl
theorem q1354 : (Jvm.Cond.laysFinal "HomeRollModel" "HomeRollModel" "pFalse" "[I") ∈ lw_all := lw_g (lw_at lw_m6 91 rfl) rfl
theorem q1355 : (Jvm.Cond.soleField "HomeRollModel" "pFalse") ∈ lw_all := lw_g (lw_at lw_m6 92 rfl) rfl
theorem q1356 : (Jvm.Cond.laysFinal "HomeRollModel" "HomeRollModel" "line" "[I") ∈ lw_all := lw_g (lw_at lw_m6 93 rfl) rfl
theorem q1357 : (Jvm.Cond.soleField "HomeRollModel" "line") ∈ lw_all := lw_g (lw_at lw_m6 94 rfl) rfl
theorem q1358 : (Jvm.Cond.laysFinal "HomeRollModel" "HomeRollModel" "isLoose" "[Z") ∈ lw_all := lw_g (lw_at lw_m6 95 rfl) rfl
theorem q1359 : (Jvm.Cond.soleField "HomeRollModel" "isLoose") ∈ lw_all := lw_g (lw_at lw_m6 96 rfl) rfl
theorem q1360 : (Jvm.Cond.lays "HomeRollModel" "HomeRollModel" "papers" "I") ∈ lw_all := lw_g (lw_at lw_m6 97 rfl) rfl
theorem q1361 : (Jvm.Cond.soleField "HomeRollModel" "papers") ∈ lw_all := lw_g (lw_at lw_m6 98 rfl) rfl
theorem q1362 : (Jvm.Cond.lays "HomeRollModel" "HomeRollModel" "inLine" "I") ∈ lw_all := lw_g (lw_at lw_m6 99 rfl) rfl
theorem q1363 : (Jvm.Cond.soleField "HomeRollModel" "inLine") ∈ lw_all := lw_g (lw_at lw_m6 100 rfl) rfl
theorem q1364 : (Jvm.Cond.laysFinal "HomeRollModel" "HomeRollModel" "tape" "[B") ∈ lw_all := lw_g (lw_at lw_m6 101 rfl) rfl
theorem q1365 : (Jvm.Cond.soleField "HomeRollModel" "tape") ∈ lw_all := lw_g (lw_at lw_m6 102 rfl) rfl
theorem q1366 : (Jvm.Cond.laysFinal "HomeRollModel" "HomeRollModel" "text" "[B") ∈ lw_all := lw_g (lw_at lw_m6 103 rfl) rfl
theorem q1367 : (Jvm.Cond.soleField "HomeRollModel" "text") ∈ lw_all := lw_g (lw_at lw_m6 104 rfl) rfl
theorem q1368 : (Jvm.Cond.lays "HomeRollModel" "HomeRollModel" "taped" "I") ∈ lw_all := lw_g (lw_at lw_m6 105 rfl) rfl
theorem q1369 : (Jvm.Cond.soleField "HomeRollModel" "taped") ∈ lw_all := lw_g (lw_at lw_m6 106 rfl) rfl
theorem q1370 : (Jvm.Cond.lays "HomeRollModel" "HomeRollModel" "size" "I") ∈ lw_all := lw_g (lw_at lw_m6 107 rfl) rfl
theorem q1371 : (Jvm.Cond.soleField "HomeRollModel" "size") ∈ lw_all := lw_g (lw_at lw_m6 108 rfl) rfl
theorem q1372 : (Jvm.Cond.lays "HomeRollModel" "HomeRollModel" "faultKind" "I") ∈ lw_all := lw_g (lw_at lw_m6 109 rfl) rfl
theorem q1373 : (Jvm.Cond.soleField "HomeRollModel" "faultKind") ∈ lw_all := lw_g (lw_at lw_m6 110 rfl) rfl
theorem q1374 : (Jvm.Cond.lays "HomeRollModel" "HomeRollModel" "faultPlace" "I") ∈ lw_all := lw_g (lw_at lw_m6 111 rfl) rfl
theorem q1375 : (Jvm.Cond.soleField "HomeRollModel" "faultPlace") ∈ lw_all := lw_g (lw_at lw_m6 112 rfl) rfl
theorem q1376 : (Jvm.Cond.lays "HomeRollModel" "HomeRollModel" "at" "I") ∈ lw_all := lw_g (lw_at lw_m6 113 rfl) rfl
theorem q1377 : (Jvm.Cond.soleField "HomeRollModel" "at") ∈ lw_all := lw_g (lw_at lw_m6 114 rfl) rfl
theorem q1378 : (Jvm.Cond.lays "HomeRollModel" "HomeRollModel" "end" "I") ∈ lw_all := lw_g (lw_at lw_m6 115 rfl) rfl
theorem q1379 : (Jvm.Cond.soleField "HomeRollModel" "end") ∈ lw_all := lw_g (lw_at lw_m6 116 rfl) rfl
theorem q1380 : (Jvm.Cond.lays "HomeRollModel" "HomeRollModel" "token" "I") ∈ lw_all := lw_g (lw_at lw_m6 117 rfl) rfl
theorem q1381 : (Jvm.Cond.soleField "HomeRollModel" "token") ∈ lw_all := lw_g (lw_at lw_m6 118 rfl) rfl
theorem q1382 : (Jvm.Cond.lays "HomeRollModel" "HomeRollModel" "number" "I") ∈ lw_all := lw_g (lw_at lw_m6 119 rfl) rfl
theorem q1383 : (Jvm.Cond.soleField "HomeRollModel" "number") ∈ lw_all := lw_g (lw_at lw_m6 120 rfl) rfl
theorem q1384 : (Jvm.Cond.lays "HomeRollModel" "HomeRollModel" "name" "J") ∈ lw_all := lw_g (lw_at lw_m6 121 rfl) rfl
theorem q1385 : (Jvm.Cond.soleField "HomeRollModel" "name") ∈ lw_all := lw_g (lw_at lw_m6 122 rfl) rfl
theorem q1386 : (Jvm.Cond.laysFinal "HomeRollModel" "HomeRollModel" "lineMany" "[I") ∈ lw_all := lw_g (lw_at lw_m6 123 rfl) rfl
theorem q1387 : (Jvm.Cond.soleField "HomeRollModel" "lineMany") ∈ lw_all := lw_g (lw_at lw_m6 124 rfl) rfl
theorem q1388 : (Jvm.Cond.laysFinal "HomeRollModel" "HomeRollModel" "lRuling" "[I") ∈ lw_all := lw_g (lw_at lw_m6 125 rfl) rfl
theorem q1389 : (Jvm.Cond.soleField "HomeRollModel" "lRuling") ∈ lw_all := lw_g (lw_at lw_m6 126 rfl) rfl
theorem q1390 : (Jvm.Cond.laysFinal "HomeRollModel" "HomeRollModel" "lPart" "[I") ∈ lw_all := lw_g (lw_at lw_m6 127 rfl) rfl
theorem q1391 : (Jvm.Cond.soleField "HomeRollModel" "lPart") ∈ lw_all := lw_g (lw_at lw_m6 128 rfl) rfl
theorem q1392 : (Jvm.Cond.laysFinal "HomeRollModel" "HomeRollModel" "lFrom" "[I") ∈ lw_all := lw_g (lw_at lw_m6 129 rfl) rfl
theorem q1393 : (Jvm.Cond.soleField "HomeRollModel" "lFrom") ∈ lw_all := lw_g (lw_at lw_m6 130 rfl) rfl
theorem q1394 : (Jvm.Cond.laysFinal "HomeRollModel" "HomeRollModel" "lTo" "[I") ∈ lw_all := lw_g (lw_at lw_m6 131 rfl) rfl
theorem q1395 : (Jvm.Cond.soleField "HomeRollModel" "lTo") ∈ lw_all := lw_g (lw_at lw_m6 132 rfl) rfl
theorem q1396 : (Jvm.Cond.laysFinal "HomeRollModel" "HomeRollModel" "code" "[I") ∈ lw_all := lw_g (lw_at lw_m6 133 rfl) rfl
theorem q1397 : (Jvm.Cond.soleField "HomeRollModel" "code") ∈ lw_all := lw_g (lw_at lw_m6 134 rfl) rfl
theorem q1398 : (Jvm.Cond.laysFinal "HomeRollModel" "HomeRollModel" "codeNumber" "[I") ∈ lw_all := lw_g (lw_at lw_m6 135 rfl) rfl
theorem q1399 : (Jvm.Cond.soleField "HomeRollModel" "codeNumber") ∈ lw_all := lw_g (lw_at lw_m6 136 rfl) rfl
theorem q1400 : (Jvm.Cond.lays "HomeRollModel" "HomeRollModel" "bank" "I") ∈ lw_all := lw_g (lw_at lw_m6 137 rfl) rfl
theorem q1401 : (Jvm.Cond.soleField "HomeRollModel" "bank") ∈ lw_all := lw_g (lw_at lw_m6 138 rfl) rfl
theorem q1402 : (Jvm.Cond.lays "HomeRollModel" "HomeRollModel" "rb" "I") ∈ lw_all := lw_g (lw_at lw_m6 139 rfl) rfl
theorem q1403 : (Jvm.Cond.soleField "HomeRollModel" "rb") ∈ lw_all := lw_g (lw_at lw_m6 140 rfl) rfl
theorem q1404 : (Jvm.Cond.lays "HomeRollModel" "HomeRollModel" "codes" "I") ∈ lw_all := lw_g (lw_at lw_m6 141 rfl) rfl
theorem q1405 : (Jvm.Cond.soleField "HomeRollModel" "codes") ∈ lw_all := lw_g (lw_at lw_m6 142 rfl) rfl
theorem q1406 : (Jvm.Cond.lays "HomeRollModel" "HomeRollModel" "terms" "I") ∈ lw_all := lw_g (lw_at lw_m6 143 rfl) rfl
theorem q1407 : (Jvm.Cond.soleField "HomeRollModel" "terms") ∈ lw_all := lw_g (lw_at lw_m6 144 rfl) rfl
theorem q1408 : (Jvm.Cond.laysFinal "HomeRollModel" "HomeRollModel" "eWhat" "[I") ∈ lw_all := lw_g (lw_at lw_m6 145 rfl) rfl
theorem q1409 : (Jvm.Cond.soleField "HomeRollModel" "eWhat") ∈ lw_all := lw_g (lw_at lw_m6 146 rfl) rfl
theorem q1410 : (Jvm.Cond.lays "HomeRollModel" "HomeRollModel" "piled" "I") ∈ lw_all := lw_g (lw_at lw_m6 147 rfl) rfl
theorem q1411 : (Jvm.Cond.soleField "HomeRollModel" "piled") ∈ lw_all := lw_g (lw_at lw_m6 148 rfl) rfl
theorem q1412 : (Jvm.Cond.lays "HomeRollModel" "HomeRollModel" "deep" "I") ∈ lw_all := lw_g (lw_at lw_m6 149 rfl) rfl
theorem q1413 : (Jvm.Cond.soleField "HomeRollModel" "deep") ∈ lw_all := lw_g (lw_at lw_m6 150 rfl) rfl
theorem q1414 : (Jvm.Cond.laysFinal "HomeRollModel" "HomeRollModel" "values" "[I") ∈ lw_all := lw_g (lw_at lw_m6 151 rfl) rfl
theorem q1415 : (Jvm.Cond.soleField "HomeRollModel" "values") ∈ lw_all := lw_g (lw_at lw_m6 152 rfl) rfl
theorem q1416 : (Jvm.Cond.laysFinal "HomeRollModel" "HomeRollModel" "told" "[I") ∈ lw_all := lw_g (lw_at lw_m6 153 rfl) rfl
theorem q1417 : (Jvm.Cond.soleField "HomeRollModel" "told") ∈ lw_all := lw_g (lw_at lw_m6 154 rfl) rfl
theorem q1418 : (Jvm.Cond.laysFinal "HomeRollModel" "HomeRollModel" "claimed" "[I") ∈ lw_all := lw_g (lw_at lw_m6 155 rfl) rfl
theorem q1419 : (Jvm.Cond.soleField "HomeRollModel" "claimed") ∈ lw_all := lw_g (lw_at lw_m6 156 rfl) rfl
theorem q1420 : (Jvm.Cond.lays "HomeRollModel" "HomeRollModel" "claims" "I") ∈ lw_all := lw_g (lw_at lw_m6 157 rfl) rfl
theorem q1421 : (Jvm.Cond.soleField "HomeRollModel" "claims") ∈ lw_all := lw_g (lw_at lw_m6 158 rfl) rfl
theorem q1422 : (Jvm.Cond.laysFinal "HomeRollModel" "HomeRollModel" "tops" "[J") ∈ lw_all := lw_g (lw_at lw_m6 159 rfl) rfl
theorem q1423 : (Jvm.Cond.soleField "HomeRollModel" "tops") ∈ lw_all := lw_g (lw_at lw_m6 160 rfl) rfl
theorem q1424 : (Jvm.Cond.laysFinal "HomeRollModel" "HomeRollModel" "unders" "[J") ∈ lw_all := lw_g (lw_at lw_m6 161 rfl) rfl
theorem q1425 : (Jvm.Cond.soleField "HomeRollModel" "unders") ∈ lw_all := lw_g (lw_at lw_m6 162 rfl) rfl
theorem q1426 : (Jvm.Cond.laysFinal "HomeRollModel" "HomeRollModel" "canHave" "[Z") ∈ lw_all := lw_g (lw_at lw_m6 163 rfl) rfl
theorem q1427 : (Jvm.Cond.soleField "HomeRollModel" "canHave") ∈ lw_all := lw_g (lw_at lw_m6 164 rfl) rfl
theorem q1428 : (Jvm.Cond.laysFinal "HomeRollModel" "HomeRollModel" "joys" "[I") ∈ lw_all := lw_g (lw_at lw_m6 165 rfl) rfl
theorem q1429 : (Jvm.Cond.soleField "HomeRollModel" "joys") ∈ lw_all := lw_g (lw_at lw_m6 166 rfl) rfl
theorem q1430 : (Jvm.Cond.laysFinal "HomeRollModel" "HomeRollModel" "mostFrom" "[I") ∈ lw_all := lw_g (lw_at lw_m6 167 rfl) rfl
theorem q1431 : (Jvm.Cond.soleField "HomeRollModel" "mostFrom") ∈ lw_all := lw_g (lw_at lw_m6 168 rfl) rfl
theorem q1432 : (Jvm.Cond.lays "HomeRollModel" "HomeRollModel" "wants" "I") ∈ lw_all := lw_g (lw_at lw_m6 169 rfl) rfl
theorem q1433 : (Jvm.Cond.soleField "HomeRollModel" "wants") ∈ lw_all := lw_g (lw_at lw_m6 170 rfl) rfl
theorem q1434 : (Jvm.Cond.superclass "HomeRollModel" "java/lang/Object") ∈ lw_all := lw_g (lw_at lw_m6 171 rfl) rfl
theorem q1436 : (Jvm.Cond.instanceMethod ({ cls := "HomeRollModel", name := "person", desc := "(II)I" } : Jvm.MethodName)) ∈ lw_all := lw_g (lw_at lw_m6 173 rfl) rfl
theorem q1437 : (Jvm.Cond.selects "HomeRollModel" ({ cls := "HomeRollModel", name := "person", desc := "(II)I" } : Jvm.MethodName) ({ cls := "HomeRollModel", name := "person", desc := "(II)I" } : Jvm.MethodName)) ∈ lw_all := lw_g (lw_at lw_m6 174 rfl) rfl
theorem q1438 : (Jvm.Cond.code ({ cls := "HomeRollModel", name := "person", desc := "(II)I" } : Jvm.MethodName) prog_24_method_6_code (3 : Nat) (Option.some Jvm.ClassFile.FieldType.int)) ∈ lw_all := lw_g (lw_at lw_m6 175 rfl) rfl
theorem q1440 : (Jvm.Cond.instanceMethod ({ cls := "HomeRollModel", name := "dead", desc := "(II)Z" } : Jvm.MethodName)) ∈ lw_all := lw_g (lw_at lw_m6 177 rfl) rfl
theorem q1441 : (Jvm.Cond.selects "HomeRollModel" ({ cls := "HomeRollModel", name := "dead", desc := "(II)Z" } : Jvm.MethodName) ({ cls := "HomeRollModel", name := "dead", desc := "(II)Z" } : Jvm.MethodName)) ∈ lw_all := lw_g (lw_at lw_m6 178 rfl) rfl
theorem q1442 : (Jvm.Cond.code ({ cls := "HomeRollModel", name := "dead", desc := "(II)Z" } : Jvm.MethodName) prog_24_method_7_code (3 : Nat) (Option.some Jvm.ClassFile.FieldType.boolean)) ∈ lw_all := lw_g (lw_at lw_m6 179 rfl) rfl
theorem q1443 : (Jvm.Cond.methodLink "HomeRollModel" (127 : Nat) ({ cls := "HomeRollModel", name := "isPerson", desc := "(I)Z" } : Jvm.MethodName)) ∈ lw_all := lw_g (lw_at lw_m6 180 rfl) rfl
theorem q1444 : (Jvm.Cond.privateMethod ({ cls := "HomeRollModel", name := "isPerson", desc := "(I)Z" } : Jvm.MethodName)) ∈ lw_tbl := lw_at lw_m6 181 rfl
theorem q1445 : (Jvm.Cond.instanceMethod ({ cls := "HomeRollModel", name := "isPerson", desc := "(I)Z" } : Jvm.MethodName)) ∈ lw_all := lw_g (lw_at lw_m6 182 rfl) rfl
theorem q1446 : (Jvm.Cond.code ({ cls := "HomeRollModel", name := "isPerson", desc := "(I)Z" } : Jvm.MethodName) prog_24_method_2_code (2 : Nat) (Option.some Jvm.ClassFile.FieldType.boolean)) ∈ lw_all := lw_g (lw_at lw_m6 183 rfl) rfl
theorem q1447 : (Jvm.Cond.methodLink "HomeRollModel" (131 : Nat) ({ cls := "HomeRollModel", name := "isDay", desc := "(I)Z" } : Jvm.MethodName)) ∈ lw_all := lw_g (lw_at lw_m6 184 rfl) rfl
theorem q1448 : (Jvm.Cond.static ({ cls := "HomeRollModel", name := "isDay", desc := "(I)Z" } : Jvm.MethodName)) ∈ lw_all := lw_g (lw_at lw_m6 185 rfl) rfl
theorem q1449 : (Jvm.Cond.code ({ cls := "HomeRollModel", name := "isDay", desc := "(I)Z" } : Jvm.MethodName) prog_24_method_4_code (1 : Nat) (Option.some Jvm.ClassFile.FieldType.boolean)) ∈ lw_all := lw_g (lw_at lw_m6 186 rfl) rfl
theorem q1450 : (Jvm.Cond.constant "HomeRollModel" (125 : Nat) (36499 : Int32)) ∈ lw_all := lw_g (lw_at lw_m6 187 rfl) rfl
theorem q1452 : (Jvm.Cond.instanceMethod ({ cls := "HomeRollModel", name := "house", desc := "(II)I" } : Jvm.MethodName)) ∈ lw_all := lw_g (lw_at lw_m6 189 rfl) rfl
theorem q1453 : (Jvm.Cond.selects "HomeRollModel" ({ cls := "HomeRollModel", name := "house", desc := "(II)I" } : Jvm.MethodName) ({ cls := "HomeRollModel", name := "house", desc := "(II)I" } : Jvm.MethodName)) ∈ lw_all := lw_g (lw_at lw_m6 190 rfl) rfl
theorem q1454 : (Jvm.Cond.code ({ cls := "HomeRollModel", name := "house", desc := "(II)I" } : Jvm.MethodName) prog_24_method_9_code (3 : Nat) (Option.some Jvm.ClassFile.FieldType.int)) ∈ lw_all := lw_g (lw_at lw_m6 191 rfl) rfl
theorem q1455 : (Jvm.Cond.methodLink "HomeRollModel" (134 : Nat) ({ cls := "HomeRollModel", name := "isSum", desc := "(I)Z" } : Jvm.MethodName)) ∈ lw_all := lw_g (lw_at lw_m6 192 rfl) rfl
theorem q1456 : (Jvm.Cond.static ({ cls := "HomeRollModel", name := "isSum", desc := "(I)Z" } : Jvm.MethodName)) ∈ lw_all := lw_g (lw_at lw_m6 193 rfl) rfl
theorem q1457 : (Jvm.Cond.code ({ cls := "HomeRollModel", name := "isSum", desc := "(I)Z" } : Jvm.MethodName) prog_24_method_5_code (1 : Nat) (Option.some Jvm.ClassFile.FieldType.boolean)) ∈ lw_all := lw_g (lw_at lw_m6 194 rfl) rfl
theorem q1458 : (Jvm.Cond.constant "HomeRollModel" (126 : Nat) (1000000 : Int32)) ∈ lw_all := lw_g (lw_at lw_m6 195 rfl) rfl
theorem q1460 : (Jvm.Cond.instanceMethod ({ cls := "HomeRollModel", name := "level", desc := "(II)Z" } : Jvm.MethodName)) ∈ lw_all := lw_g (lw_at lw_m6 197 rfl) rfl
theorem q1461 : (Jvm.Cond.selects "HomeRollModel" ({ cls := "HomeRollModel", name := "level", desc := "(II)Z" } : Jvm.MethodName) ({ cls := "HomeRollModel", name := "level", desc := "(II)Z" } : Jvm.MethodName)) ∈ lw_all := lw_g (lw_at lw_m6 198 rfl) rfl
theorem q1462 : (Jvm.Cond.code ({ cls := "HomeRollModel", name := "level", desc := "(II)Z" } : Jvm.MethodName) prog_24_method_11_code (3 : Nat) (Option.some Jvm.ClassFile.FieldType.boolean)) ∈ lw_all := lw_g (lw_at lw_m6 199 rfl) rfl
theorem q1463 : (Jvm.Cond.methodLink "HomeRollModel" (137 : Nat) ({ cls := "HomeRollModel", name := "isYear", desc := "(I)Z" } : Jvm.MethodName)) ∈ lw_all := lw_g (lw_at lw_m6 200 rfl) rfl
theorem q1464 : (Jvm.Cond.static ({ cls := "HomeRollModel", name := "isYear", desc := "(I)Z" } : Jvm.MethodName)) ∈ lw_all := lw_g (lw_at lw_m6 201 rfl) rfl
theorem q1465 : (Jvm.Cond.code ({ cls := "HomeRollModel", name := "isYear", desc := "(I)Z" } : Jvm.MethodName) prog_24_method_10_code (1 : Nat) (Option.some Jvm.ClassFile.FieldType.boolean)) ∈ lw_all := lw_g (lw_at lw_m6 202 rfl) rfl
theorem q1467 : (Jvm.Cond.instanceMethod ({ cls := "HomeRollModel", name := "money", desc := "(III)J" } : Jvm.MethodName)) ∈ lw_all := lw_g (lw_at lw_m6 204 rfl) rfl
theorem q1468 : (Jvm.Cond.selects "HomeRollModel" ({ cls := "HomeRollModel", name := "money", desc := "(III)J" } : Jvm.MethodName) ({ cls := "HomeRollModel", name := "money", desc := "(III)J" } : Jvm.MethodName)) ∈ lw_all := lw_g (lw_at lw_m6 205 rfl) rfl
theorem q1469 : (Jvm.Cond.code ({ cls := "HomeRollModel", name := "money", desc := "(III)J" } : Jvm.MethodName) prog_24_method_13_code (4 : Nat) (Option.some Jvm.ClassFile.FieldType.long)) ∈ lw_all := lw_g (lw_at lw_m6 206 rfl) rfl
theorem q1470 : (Jvm.Cond.methodLink "HomeRollModel" (140 : Nat) ({ cls := "HomeRollModel", name := "turned", desc := "(III)J" } : Jvm.MethodName)) ∈ lw_all := lw_g (lw_at lw_m6 207 rfl) rfl
theorem q1471 : (Jvm.Cond.privateMethod ({ cls := "HomeRollModel", name := "turned", desc := "(III)J" } : Jvm.MethodName)) ∈ lw_tbl := lw_at lw_m6 208 rfl
theorem q1472 : (Jvm.Cond.instanceMethod ({ cls := "HomeRollModel", name := "turned", desc := "(III)J" } : Jvm.MethodName)) ∈ lw_all := lw_g (lw_at lw_m6 209 rfl) rfl
theorem q1473 : (Jvm.Cond.code ({ cls := "HomeRollModel", name := "turned", desc := "(III)J" } : Jvm.MethodName) prog_24_method_12_code (4 : Nat) (Option.some Jvm.ClassFile.FieldType.long)) ∈ lw_all := lw_g (lw_at lw_m6 210 rfl) rfl
theorem q1474 : (Jvm.Cond.constantLong "HomeRollModel" (144 : Nat) (-1 : Int64)) ∈ lw_all := lw_g (lw_at lw_m6 211 rfl) rfl
theorem q1476 : (Jvm.Cond.instanceMethod ({ cls := "HomeRollModel", name := "paper", desc := "(IIIIII)I" } : Jvm.MethodName)) ∈ lw_all := lw_g (lw_at lw_m6 213 rfl) rfl
theorem q1477 : (Jvm.Cond.selects "HomeRollModel" ({ cls := "HomeRollModel", name := "paper", desc := "(IIIIII)I" } : Jvm.MethodName) ({ cls := "HomeRollModel", name := "paper", desc := "(IIIIII)I" } : Jvm.MethodName)) ∈ lw_all := lw_g (lw_at lw_m6 214 rfl) rfl
theorem q1478 : (Jvm.Cond.code ({ cls := "HomeRollModel", name := "paper", desc := "(IIIIII)I" } : Jvm.MethodName) prog_24_method_14_code (7 : Nat) (Option.some Jvm.ClassFile.FieldType.int)) ∈ lw_all := lw_g (lw_at lw_m6 215 rfl) rfl
theorem q1479 : (Jvm.Cond.methodLink "HomeRollModel" (146 : Nat) ({ cls := "HomeRollModel", name := "isHouse", desc := "(I)Z" } : Jvm.MethodName)) ∈ lw_all := lw_g (lw_at lw_m6 216 rfl) rfl
theorem q1480 : (Jvm.Cond.privateMethod ({ cls := "HomeRollModel", name := "isHouse", desc := "(I)Z" } : Jvm.MethodName)) ∈ lw_tbl := lw_at lw_m6 217 rfl
theorem q1481 : (Jvm.Cond.instanceMethod ({ cls := "HomeRollModel", name := "isHouse", desc := "(I)Z" } : Jvm.MethodName)) ∈ lw_all := lw_g (lw_at lw_m6 218 rfl) rfl
theorem q1482 : (Jvm.Cond.code ({ cls := "HomeRollModel", name := "isHouse", desc := "(I)Z" } : Jvm.MethodName) prog_24_method_3_code (2 : Nat) (Option.some Jvm.ClassFile.FieldType.boolean)) ∈ lw_all := lw_g (lw_at lw_m6 219 rfl) rfl
theorem q1484 : (Jvm.Cond.instanceMethod ({ cls := "HomeRollModel", name := "isFalse", desc := "(I)Z" } : Jvm.MethodName)) ∈ lw_all := lw_g (lw_at lw_m6 221 rfl) rfl
theorem q1485 : (Jvm.Cond.selects "HomeRollModel" ({ cls := "HomeRollModel", name := "isFalse", desc := "(I)Z" } : Jvm.MethodName) ({ cls := "HomeRollModel", name := "isFalse", desc := "(I)Z" } : Jvm.MethodName)) ∈ lw_all := lw_g (lw_at lw_m6 222 rfl) rfl
theorem q1486 : (Jvm.Cond.code ({ cls := "HomeRollModel", name := "isFalse", desc := "(I)Z" } : Jvm.MethodName) prog_24_method_16_code (2 : Nat) (Option.some Jvm.ClassFile.FieldType.boolean)) ∈ lw_all := lw_g (lw_at lw_m6 223 rfl) rfl
theorem q1487 : (Jvm.Cond.methodLink "HomeRollModel" (155 : Nat) ({ cls := "HomeRollModel", name := "isPaper", desc := "(I)Z" } : Jvm.MethodName)) ∈ lw_all := lw_g (lw_at lw_m6 224 rfl) rfl
theorem q1488 : (Jvm.Cond.privateMethod ({ cls := "HomeRollModel", name := "isPaper", desc := "(I)Z" } : Jvm.MethodName)) ∈ lw_tbl := lw_at lw_m6 225 rfl
theorem q1489 : (Jvm.Cond.instanceMethod ({ cls := "HomeRollModel", name := "isPaper", desc := "(I)Z" } : Jvm.MethodName)) ∈ lw_all := lw_g (lw_at lw_m6 226 rfl) rfl
theorem q1490 : (Jvm.Cond.code ({ cls := "HomeRollModel", name := "isPaper", desc := "(I)Z" } : Jvm.MethodName) prog_24_method_15_code (2 : Nat) (Option.some Jvm.ClassFile.FieldType.boolean)) ∈ lw_all := lw_g (lw_at lw_m6 227 rfl) rfl
theorem q1492 : (Jvm.Cond.instanceMethod ({ cls := "HomeRollModel", name := "later", desc := "(I)I" } : Jvm.MethodName)) ∈ lw_all := lw_g (lw_at lw_m6 229 rfl) rfl
theorem q1493 : (Jvm.Cond.selects "HomeRollModel" ({ cls := "HomeRollModel", name := "later", desc := "(I)I" } : Jvm.MethodName) ({ cls := "HomeRollModel", name := "later", desc := "(I)I" } : Jvm.MethodName)) ∈ lw_all := lw_g (lw_at lw_m6 230 rfl) rfl
theorem q1494 : (Jvm.Cond.code ({ cls := "HomeRollModel", name := "later", desc := "(I)I" } : Jvm.MethodName) prog_24_method_17_code (2 : Nat) (Option.some Jvm.ClassFile.FieldType.int)) ∈ lw_all := lw_g (lw_at lw_m6 231 rfl) rfl
theorem q1496 : (Jvm.Cond.instanceMethod ({ cls := "HomeRollModel", name := "holder", desc := "(III)I" } : Jvm.MethodName)) ∈ lw_all := lw_g (lw_at lw_m6 233 rfl) rfl
theorem q1497 : (Jvm.Cond.selects "HomeRollModel" ({ cls := "HomeRollModel", name := "holder", desc := "(III)I" } : Jvm.MethodName) ({ cls := "HomeRollModel", name := "holder", desc := "(III)I" } : Jvm.MethodName)) ∈ lw_all := lw_g (lw_at lw_m6 234 rfl) rfl
theorem q1498 : (Jvm.Cond.code ({ cls := "HomeRollModel", name := "holder", desc := "(III)I" } : Jvm.MethodName) prog_24_method_20_code (4 : Nat) (Option.some Jvm.ClassFile.FieldType.int)) ∈ lw_all := lw_g (lw_at lw_m6 235 rfl) rfl
theorem q1499 : (Jvm.Cond.methodLink "HomeRollModel" (165 : Nat) ({ cls := "HomeRollModel", name := "follow", desc := "(III)I" } : Jvm.MethodName)) ∈ lw_all := lw_g (lw_at lw_m6 236 rfl) rfl
theorem q1500 : (Jvm.Cond.privateMethod ({ cls := "HomeRollModel", name := "follow", desc := "(III)I" } : Jvm.MethodName)) ∈ lw_tbl := lw_at lw_m6 237 rfl
theorem q1501 : (Jvm.Cond.instanceMethod ({ cls := "HomeRollModel", name := "follow", desc := "(III)I" } : Jvm.MethodName)) ∈ lw_all := lw_g (lw_at lw_m6 238 rfl) rfl
theorem q1502 : (Jvm.Cond.code ({ cls := "HomeRollModel", name := "follow", desc := "(III)I" } : Jvm.MethodName) prog_24_method_19_code (8 : Nat) (Option.some Jvm.ClassFile.FieldType.int)) ∈ lw_all := lw_g (lw_at lw_m6 239 rfl) rfl
theorem q1503 : (Jvm.Cond.methodLink "HomeRollModel" (161 : Nat) ({ cls := "HomeRollModel", name := "counts", desc := "(II)Z" } : Jvm.MethodName)) ∈ lw_all := lw_g (lw_at lw_m7 0 rfl) rfl
theorem q1504 : (Jvm.Cond.privateMethod ({ cls := "HomeRollModel", name := "counts", desc := "(II)Z" } : Jvm.MethodName)) ∈ lw_tbl := lw_at lw_m7 1 rfl
theorem q1505 : (Jvm.Cond.instanceMethod ({ cls := "HomeRollModel", name := "counts", desc := "(II)Z" } : Jvm.MethodName)) ∈ lw_all := lw_g (lw_at lw_m7 2 rfl) rfl
theorem q1506 : (Jvm.Cond.code ({ cls := "HomeRollModel", name := "counts", desc := "(II)Z" } : Jvm.MethodName) prog_24_method_18_code (3 : Nat) (Option.some Jvm.ClassFile.FieldType.boolean)) ∈ lw_all := lw_g (lw_at lw_m7 3 rfl) rfl
theorem q1508 : (Jvm.Cond.instanceMethod ({ cls := "HomeRollModel", name := "loose", desc := "(II)I" } : Jvm.MethodName)) ∈ lw_all := lw_g (lw_at lw_m7 5 rfl) rfl
theorem q1509 : (Jvm.Cond.selects "HomeRollModel" ({ cls := "HomeRollModel", name := "loose", desc := "(II)I" } : Jvm.MethodName) ({ cls := "HomeRollModel", name := "loose", desc := "(II)I" } : Jvm.MethodName)) ∈ lw_all := lw_g (lw_at lw_m7 6 rfl) rfl
theorem q1510 : (Jvm.Cond.code ({ cls := "HomeRollModel", name := "loose", desc := "(II)I" } : Jvm.MethodName) prog_24_method_21_code (3 : Nat) (Option.some Jvm.ClassFile.FieldType.int)) ∈ lw_all := lw_g (lw_at lw_m7 7 rfl) rfl
theorem q1512 : (Jvm.Cond.instanceMethod ({ cls := "HomeRollModel", name := "law", desc := "()I" } : Jvm.MethodName)) ∈ lw_all := lw_g (lw_at lw_m7 9 rfl) rfl
theorem q1513 : (Jvm.Cond.selects "HomeRollModel" ({ cls := "HomeRollModel", name := "law", desc := "()I" } : Jvm.MethodName) ({ cls := "HomeRollModel", name := "law", desc := "()I" } : Jvm.MethodName)) ∈ lw_all := lw_g (lw_at lw_m7 10 rfl) rfl
theorem q1514 : (Jvm.Cond.code ({ cls := "HomeRollModel", name := "law", desc := "()I" } : Jvm.MethodName) prog_24_method_33_code (2 : Nat) (Option.some Jvm.ClassFile.FieldType.int)) ∈ lw_all := lw_g (lw_at lw_m7 11 rfl) rfl
theorem q1515 : (Jvm.Cond.methodLink "HomeRollModel" (209 : Nat) ({ cls := "HomeRollModel", name := "next", desc := "()V" } : Jvm.MethodName)) ∈ lw_all := lw_g (lw_at lw_m7 12 rfl) rfl
theorem q1516 : (Jvm.Cond.privateMethod ({ cls := "HomeRollModel", name := "next", desc := "()V" } : Jvm.MethodName)) ∈ lw_tbl := lw_at lw_m7 13 rfl
theorem q1517 : (Jvm.Cond.instanceMethod ({ cls := "HomeRollModel", name := "next", desc := "()V" } : Jvm.MethodName)) ∈ lw_all := lw_g (lw_at lw_m7 14 rfl) rfl
theorem q1518 : (Jvm.Cond.code ({ cls := "HomeRollModel", name := "next", desc := "()V" } : Jvm.MethodName) prog_24_method_27_code (3 : Nat) (Option.none : Option Jvm.ClassFile.FieldType)) ∈ lw_all := lw_g (lw_at lw_m7 15 rfl) rfl
theorem q1519 : (Jvm.Cond.methodLink "HomeRollModel" (181 : Nat) ({ cls := "HomeRollModel", name := "sign", desc := "(I)I" } : Jvm.MethodName)) ∈ lw_all := lw_g (lw_at lw_m7 16 rfl) rfl
theorem q1520 : (Jvm.Cond.privateMethod ({ cls := "HomeRollModel", name := "sign", desc := "(I)I" } : Jvm.MethodName)) ∈ lw_tbl := lw_at lw_m7 17 rfl
theorem q1521 : (Jvm.Cond.instanceMethod ({ cls := "HomeRollModel", name := "sign", desc := "(I)I" } : Jvm.MethodName)) ∈ lw_all := lw_g (lw_at lw_m7 18 rfl) rfl
theorem q1522 : (Jvm.Cond.code ({ cls := "HomeRollModel", name := "sign", desc := "(I)I" } : Jvm.MethodName) prog_24_method_22_code (2 : Nat) (Option.some Jvm.ClassFile.FieldType.int)) ∈ lw_all := lw_g (lw_at lw_m7 19 rfl) rfl
theorem q1523 : (Jvm.Cond.methodLink "HomeRollModel" (188 : Nat) ({ cls := "HomeRollModel", name := "isLetter", desc := "(I)Z" } : Jvm.MethodName)) ∈ lw_all := lw_g (lw_at lw_m7 20 rfl) rfl
theorem q1524 : (Jvm.Cond.static ({ cls := "HomeRollModel", name := "isLetter", desc := "(I)Z" } : Jvm.MethodName)) ∈ lw_all := lw_g (lw_at lw_m7 21 rfl) rfl
theorem q1525 : (Jvm.Cond.code ({ cls := "HomeRollModel", name := "isLetter", desc := "(I)Z" } : Jvm.MethodName) prog_24_method_23_code (1 : Nat) (Option.some Jvm.ClassFile.FieldType.boolean)) ∈ lw_all := lw_g (lw_at lw_m7 22 rfl) rfl
theorem q1526 : (Jvm.Cond.methodLink "HomeRollModel" (195 : Nat) ({ cls := "HomeRollModel", name := "isDigit", desc := "(I)Z" } : Jvm.MethodName)) ∈ lw_all := lw_g (lw_at lw_m7 23 rfl) rfl
theorem q1527 : (Jvm.Cond.static ({ cls := "HomeRollModel", name := "isDigit", desc := "(I)Z" } : Jvm.MethodName)) ∈ lw_all := lw_g (lw_at lw_m7 24 rfl) rfl
theorem q1528 : (Jvm.Cond.code ({ cls := "HomeRollModel", name := "isDigit", desc := "(I)Z" } : Jvm.MethodName) prog_24_method_24_code (1 : Nat) (Option.some Jvm.ClassFile.FieldType.boolean)) ∈ lw_all := lw_g (lw_at lw_m7 25 rfl) rfl
theorem q1529 : (Jvm.Cond.methodLink "HomeRollModel" (205 : Nat) ({ cls := "HomeRollModel", name := "isGood", desc := "()Z" } : Jvm.MethodName)) ∈ lw_all := lw_g (lw_at lw_m7 26 rfl) rfl
theorem q1530 : (Jvm.Cond.privateMethod ({ cls := "HomeRollModel", name := "isGood", desc := "()Z" } : Jvm.MethodName)) ∈ lw_tbl := lw_at lw_m7 27 rfl
theorem q1531 : (Jvm.Cond.instanceMethod ({ cls := "HomeRollModel", name := "isGood", desc := "()Z" } : Jvm.MethodName)) ∈ lw_all := lw_g (lw_at lw_m7 28 rfl) rfl
theorem q1532 : (Jvm.Cond.code ({ cls := "HomeRollModel", name := "isGood", desc := "()Z" } : Jvm.MethodName) prog_24_method_26_code (1 : Nat) (Option.some Jvm.ClassFile.FieldType.boolean)) ∈ lw_all := lw_g (lw_at lw_m7 29 rfl) rfl
theorem q1533 : (Jvm.Cond.methodLink "HomeRollModel" (248 : Nat) ({ cls := "HomeRollModel", name := "readLine", desc := "()V" } : Jvm.MethodName)) ∈ lw_all := lw_g (lw_at lw_m7 30 rfl) rfl
theorem q1534 : (Jvm.Cond.privateMethod ({ cls := "HomeRollModel", name := "readLine", desc := "()V" } : Jvm.MethodName)) ∈ lw_tbl := lw_at lw_m7 31 rfl
theorem q1535 : (Jvm.Cond.instanceMethod ({ cls := "HomeRollModel", name := "readLine", desc := "()V" } : Jvm.MethodName)) ∈ lw_all := lw_g (lw_at lw_m7 32 rfl) rfl
theorem q1536 : (Jvm.Cond.code ({ cls := "HomeRollModel", name := "readLine", desc := "()V" } : Jvm.MethodName) prog_24_method_34_code (2 : Nat) (Option.none : Option Jvm.ClassFile.FieldType)) ∈ lw_all := lw_g (lw_at lw_m7 33 rfl) rfl
theorem q1537 : (Jvm.Cond.constantLong "HomeRollModel" (251 : Nat) (2003330414 : Int64)) ∈ lw_all := lw_g (lw_at lw_m7 34 rfl) rfl
theorem q1538 : (Jvm.Cond.methodLink "HomeRollModel" (253 : Nat) ({ cls := "HomeRollModel", name := "isWord", desc := "(J)Z" } : Jvm.MethodName)) ∈ lw_all := lw_g (lw_at lw_m7 35 rfl) rfl
theorem q1539 : (Jvm.Cond.privateMethod ({ cls := "HomeRollModel", name := "isWord", desc := "(J)Z" } : Jvm.MethodName)) ∈ lw_tbl := lw_at lw_m7 36 rfl
theorem q1540 : (Jvm.Cond.instanceMethod ({ cls := "HomeRollModel", name := "isWord", desc := "(J)Z" } : Jvm.MethodName)) ∈ lw_all := lw_g (lw_at lw_m7 37 rfl) rfl
theorem q1541 : (Jvm.Cond.code ({ cls := "HomeRollModel", name := "isWord", desc := "(J)Z" } : Jvm.MethodName) prog_24_method_29_code (3 : Nat) (Option.some Jvm.ClassFile.FieldType.boolean)) ∈ lw_all := lw_g (lw_at lw_m7 38 rfl) rfl
theorem q1542 : (Jvm.Cond.methodLink "HomeRollModel" (212 : Nat) ({ cls := "HomeRollModel", name := "wrong", desc := "()V" } : Jvm.MethodName)) ∈ lw_all := lw_g (lw_at lw_m7 39 rfl) rfl
theorem q1543 : (Jvm.Cond.privateMethod ({ cls := "HomeRollModel", name := "wrong", desc := "()V" } : Jvm.MethodName)) ∈ lw_tbl := lw_at lw_m7 40 rfl
theorem q1544 : (Jvm.Cond.instanceMethod ({ cls := "HomeRollModel", name := "wrong", desc := "()V" } : Jvm.MethodName)) ∈ lw_all := lw_g (lw_at lw_m7 41 rfl) rfl
theorem q1545 : (Jvm.Cond.code ({ cls := "HomeRollModel", name := "wrong", desc := "()V" } : Jvm.MethodName) prog_24_method_30_code (1 : Nat) (Option.none : Option Jvm.ClassFile.FieldType)) ∈ lw_all := lw_g (lw_at lw_m7 42 rfl) rfl
theorem q1546 : (Jvm.Cond.methodLink "HomeRollModel" (201 : Nat) ({ cls := "HomeRollModel", name := "fails", desc := "(II)V" } : Jvm.MethodName)) ∈ lw_all := lw_g (lw_at lw_m7 43 rfl) rfl
theorem q1547 : (Jvm.Cond.privateMethod ({ cls := "HomeRollModel", name := "fails", desc := "(II)V" } : Jvm.MethodName)) ∈ lw_tbl := lw_at lw_m7 44 rfl
theorem q1548 : (Jvm.Cond.instanceMethod ({ cls := "HomeRollModel", name := "fails", desc := "(II)V" } : Jvm.MethodName)) ∈ lw_all := lw_g (lw_at lw_m7 45 rfl) rfl
theorem q1549 : (Jvm.Cond.code ({ cls := "HomeRollModel", name := "fails", desc := "(II)V" } : Jvm.MethodName) prog_24_method_25_code (3 : Nat) (Option.none : Option Jvm.ClassFile.FieldType)) ∈ lw_all := lw_g (lw_at lw_m7 46 rfl) rfl
theorem q1550 : (Jvm.Cond.methodLink "HomeRollModel" (257 : Nat) ({ cls := "HomeRollModel", name := "e", desc := "()V" } : Jvm.MethodName)) ∈ lw_all := lw_g (lw_at lw_m7 47 rfl) rfl
theorem q1551 : (Jvm.Cond.privateMethod ({ cls := "HomeRollModel", name := "e", desc := "()V" } : Jvm.MethodName)) ∈ lw_tbl := lw_at lw_m7 48 rfl
theorem q1552 : (Jvm.Cond.instanceMethod ({ cls := "HomeRollModel", name := "e", desc := "()V" } : Jvm.MethodName)) ∈ lw_all := lw_g (lw_at lw_m7 49 rfl) rfl
theorem q1553 : (Jvm.Cond.code ({ cls := "HomeRollModel", name := "e", desc := "()V" } : Jvm.MethodName) prog_24_method_37_code (2 : Nat) (Option.none : Option Jvm.ClassFile.FieldType)) ∈ lw_all := lw_g (lw_at lw_m7 50 rfl) rfl
theorem q1554 : (Jvm.Cond.methodLink "HomeRollModel" (283 : Nat) ({ cls := "HomeRollModel", name := "pile", desc := "(I)V" } : Jvm.MethodName)) ∈ lw_all := lw_g (lw_at lw_m7 51 rfl) rfl
theorem q1555 : (Jvm.Cond.privateMethod ({ cls := "HomeRollModel", name := "pile", desc := "(I)V" } : Jvm.MethodName)) ∈ lw_tbl := lw_at lw_m7 52 rfl
theorem q1556 : (Jvm.Cond.instanceMethod ({ cls := "HomeRollModel", name := "pile", desc := "(I)V" } : Jvm.MethodName)) ∈ lw_all := lw_g (lw_at lw_m7 53 rfl) rfl
theorem q1557 : (Jvm.Cond.code ({ cls := "HomeRollModel", name := "pile", desc := "(I)V" } : Jvm.MethodName) prog_24_method_36_code (2 : Nat) (Option.none : Option Jvm.ClassFile.FieldType)) ∈ lw_all := lw_g (lw_at lw_m7 54 rfl) rfl
theorem q1558 : (Jvm.Cond.methodLink "HomeRollModel" (287 : Nat) ({ cls := "HomeRollModel", name := "one", desc := "()Z" } : Jvm.MethodName)) ∈ lw_all := lw_g (lw_at lw_m7 55 rfl) rfl
theorem q1559 : (Jvm.Cond.privateMethod ({ cls := "HomeRollModel", name := "one", desc := "()Z" } : Jvm.MethodName)) ∈ lw_tbl := lw_at lw_m7 56 rfl
theorem q1560 : (Jvm.Cond.instanceMethod ({ cls := "HomeRollModel", name := "one", desc := "()Z" } : Jvm.MethodName)) ∈ lw_all := lw_g (lw_at lw_m7 57 rfl) rfl
theorem q1561 : (Jvm.Cond.code ({ cls := "HomeRollModel", name := "one", desc := "()Z" } : Jvm.MethodName) prog_24_method_38_code (2 : Nat) (Option.some Jvm.ClassFile.FieldType.boolean)) ∈ lw_all := lw_g (lw_at lw_m7 58 rfl) rfl
theorem q1562 : (Jvm.Cond.methodLink "HomeRollModel" (274 : Nat) ({ cls := "HomeRollModel", name := "is", desc := "(I)Z" } : Jvm.MethodName)) ∈ lw_all := lw_g (lw_at lw_m7 59 rfl) rfl
theorem q1563 : (Jvm.Cond.privateMethod ({ cls := "HomeRollModel", name := "is", desc := "(I)Z" } : Jvm.MethodName)) ∈ lw_tbl := lw_at lw_m7 60 rfl
theorem q1564 : (Jvm.Cond.instanceMethod ({ cls := "HomeRollModel", name := "is", desc := "(I)Z" } : Jvm.MethodName)) ∈ lw_all := lw_g (lw_at lw_m7 61 rfl) rfl
theorem q1565 : (Jvm.Cond.code ({ cls := "HomeRollModel", name := "is", desc := "(I)Z" } : Jvm.MethodName) prog_24_method_28_code (2 : Nat) (Option.some Jvm.ClassFile.FieldType.boolean)) ∈ lw_all := lw_g (lw_at lw_m7 62 rfl) rfl
theorem q1566 : (Jvm.Cond.constantLong "HomeRollModel" (293 : Nat) (7237492 : Int64)) ∈ lw_all := lw_g (lw_at lw_m7 63 rfl) rfl
theorem q1567 : (Jvm.Cond.methodLink "HomeRollModel" (295 : Nat) ({ cls := "HomeRollModel", name := "readSum", desc := "()V" } : Jvm.MethodName)) ∈ lw_all := lw_g (lw_at lw_m7 64 rfl) rfl
theorem q1568 : (Jvm.Cond.privateMethod ({ cls := "HomeRollModel", name := "readSum", desc := "()V" } : Jvm.MethodName)) ∈ lw_tbl := lw_at lw_m7 65 rfl
theorem q1569 : (Jvm.Cond.instanceMethod ({ cls := "HomeRollModel", name := "readSum", desc := "()V" } : Jvm.MethodName)) ∈ lw_all := lw_g (lw_at lw_m7 66 rfl) rfl
theorem q1570 : (Jvm.Cond.code ({ cls := "HomeRollModel", name := "readSum", desc := "()V" } : Jvm.MethodName) prog_24_method_39_code (2 : Nat) (Option.none : Option Jvm.ClassFile.FieldType)) ∈ lw_all := lw_g (lw_at lw_m7 67 rfl) rfl
theorem q1571 : (Jvm.Cond.methodLink "HomeRollModel" (301 : Nat) ({ cls := "HomeRollModel", name := "readTerm", desc := "()V" } : Jvm.MethodName)) ∈ lw_all := lw_g (lw_at lw_m7 68 rfl) rfl
theorem q1572 : (Jvm.Cond.privateMethod ({ cls := "HomeRollModel", name := "readTerm", desc := "()V" } : Jvm.MethodName)) ∈ lw_tbl := lw_at lw_m7 69 rfl
theorem q1573 : (Jvm.Cond.instanceMethod ({ cls := "HomeRollModel", name := "readTerm", desc := "()V" } : Jvm.MethodName)) ∈ lw_all := lw_g (lw_at lw_m7 70 rfl) rfl
theorem q1574 : (Jvm.Cond.code ({ cls := "HomeRollModel", name := "readTerm", desc := "()V" } : Jvm.MethodName) prog_24_method_40_code (2 : Nat) (Option.none : Option Jvm.ClassFile.FieldType)) ∈ lw_all := lw_g (lw_at lw_m7 71 rfl) rfl
theorem q1575 : (Jvm.Cond.methodLink "HomeRollModel" (304 : Nat) ({ cls := "HomeRollModel", name := "termHere", desc := "()I" } : Jvm.MethodName)) ∈ lw_all := lw_g (lw_at lw_m7 72 rfl) rfl
theorem q1576 : (Jvm.Cond.privateMethod ({ cls := "HomeRollModel", name := "termHere", desc := "()I" } : Jvm.MethodName)) ∈ lw_tbl := lw_at lw_m7 73 rfl
theorem q1577 : (Jvm.Cond.instanceMethod ({ cls := "HomeRollModel", name := "termHere", desc := "()I" } : Jvm.MethodName)) ∈ lw_all := lw_g (lw_at lw_m7 74 rfl) rfl
theorem q1578 : (Jvm.Cond.code ({ cls := "HomeRollModel", name := "termHere", desc := "()I" } : Jvm.MethodName) prog_24_method_32_code (2 : Nat) (Option.some Jvm.ClassFile.FieldType.int)) ∈ lw_all := lw_g (lw_at lw_m7 75 rfl) rfl
theorem q1579 : (Jvm.Cond.constantLong "HomeRollModel" (215 : Nat) (112628846519652 : Int64)) ∈ lw_all := lw_g (lw_at lw_m7 76 rfl) rfl
theorem q1580 : (Jvm.Cond.constantLong "HomeRollModel" (217 : Nat) (444150998382 : Int64)) ∈ lw_all := lw_g (lw_at lw_m7 77 rfl) rfl
theorem q1581 : (Jvm.Cond.constantLong "HomeRollModel" (219 : Nat) (482955846501 : Int64)) ∈ lw_all := lw_g (lw_at lw_m7 78 rfl) rfl
theorem q1582 : (Jvm.Cond.constantLong "HomeRollModel" (221 : Nat) (512970880104 : Int64)) ∈ lw_all := lw_g (lw_at lw_m7 79 rfl) rfl
theorem q1583 : (Jvm.Cond.constantLong "HomeRollModel" (223 : Nat) (2036687218 : Int64)) ∈ lw_all := lw_g (lw_at lw_m7 80 rfl) rfl
theorem q1584 : (Jvm.Cond.constantLong "HomeRollModel" (225 : Nat) (1751477348 : Int64)) ∈ lw_all := lw_g (lw_at lw_m7 81 rfl) rfl
theorem q1585 : (Jvm.Cond.constantLong "HomeRollModel" (227 : Nat) (448311223411 : Int64)) ∈ lw_all := lw_g (lw_at lw_m7 82 rfl) rfl
theorem q1586 : (Jvm.Cond.constantLong "HomeRollModel" (229 : Nat) (465625834867 : Int64)) ∈ lw_all := lw_g (lw_at lw_m7 83 rfl) rfl
theorem q1587 : (Jvm.Cond.constantLong "HomeRollModel" (231 : Nat) (1684365668 : Int64)) ∈ lw_all := lw_g (lw_at lw_m7 84 rfl) rfl
theorem q1588 : (Jvm.Cond.methodLink "HomeRollModel" (298 : Nat) ({ cls := "HomeRollModel", name := "step", desc := "(II)V" } : Jvm.MethodName)) ∈ lw_all := lw_g (lw_at lw_m7 85 rfl) rfl
theorem q1589 : (Jvm.Cond.privateMethod ({ cls := "HomeRollModel", name := "step", desc := "(II)V" } : Jvm.MethodName)) ∈ lw_tbl := lw_at lw_m7 86 rfl
theorem q1590 : (Jvm.Cond.instanceMethod ({ cls := "HomeRollModel", name := "step", desc := "(II)V" } : Jvm.MethodName)) ∈ lw_all := lw_g (lw_at lw_m7 87 rfl) rfl
theorem q1591 : (Jvm.Cond.code ({ cls := "HomeRollModel", name := "step", desc := "(II)V" } : Jvm.MethodName) prog_24_method_35_code (3 : Nat) (Option.none : Option Jvm.ClassFile.FieldType)) ∈ lw_all := lw_g (lw_at lw_m7 88 rfl) rfl
theorem q1592 : (Jvm.Cond.methodLink "HomeRollModel" (290 : Nat) ({ cls := "HomeRollModel", name := "behind", desc := "()Z" } : Jvm.MethodName)) ∈ lw_all := lw_g (lw_at lw_m7 89 rfl) rfl
theorem q1593 : (Jvm.Cond.privateMethod ({ cls := "HomeRollModel", name := "behind", desc := "()Z" } : Jvm.MethodName)) ∈ lw_tbl := lw_at lw_m7 90 rfl
theorem q1594 : (Jvm.Cond.instanceMethod ({ cls := "HomeRollModel", name := "behind", desc := "()Z" } : Jvm.MethodName)) ∈ lw_all := lw_g (lw_at lw_m7 91 rfl) rfl
theorem q1595 : (Jvm.Cond.code ({ cls := "HomeRollModel", name := "behind", desc := "()Z" } : Jvm.MethodName) prog_24_method_41_code (2 : Nat) (Option.some Jvm.ClassFile.FieldType.boolean)) ∈ lw_all := lw_g (lw_at lw_m7 92 rfl) rfl
theorem q1596 : (Jvm.Cond.constantLong "HomeRollModel" (308 : Nat) (6385252 : Int64)) ∈ lw_all := lw_g (lw_at lw_m7 93 rfl) rfl
theorem q1597 : (Jvm.Cond.constantLong "HomeRollModel" (310 : Nat) (28530 : Int64)) ∈ lw_all := lw_g (lw_at lw_m7 94 rfl) rfl
theorem q1598 : (Jvm.Cond.methodLink "HomeRollModel" (262 : Nat) ({ cls := "HomeRollModel", name := "must", desc := "(Z)V" } : Jvm.MethodName)) ∈ lw_all := lw_g (lw_at lw_m7 95 rfl) rfl
theorem q1599 : (Jvm.Cond.privateMethod ({ cls := "HomeRollModel", name := "must", desc := "(Z)V" } : Jvm.MethodName)) ∈ lw_tbl := lw_at lw_m7 96 rfl
theorem q1600 : (Jvm.Cond.instanceMethod ({ cls := "HomeRollModel", name := "must", desc := "(Z)V" } : Jvm.MethodName)) ∈ lw_all := lw_g (lw_at lw_m7 97 rfl) rfl
theorem q1601 : (Jvm.Cond.code ({ cls := "HomeRollModel", name := "must", desc := "(Z)V" } : Jvm.MethodName) prog_24_method_31_code (2 : Nat) (Option.none : Option Jvm.ClassFile.FieldType)) ∈ lw_all := lw_g (lw_at lw_m7 98 rfl) rfl
theorem q1602 : (Jvm.Cond.constantLong "HomeRollModel" (260 : Nat) (25711 : Int64)) ∈ lw_all := lw_g (lw_at lw_m7 99 rfl) rfl
theorem q1603 : (Jvm.Cond.constantLong "HomeRollModel" (266 : Nat) (1650549611 : Int64)) ∈ lw_all := lw_g (lw_at lw_m7 100 rfl) rfl
theorem q1604 : (Jvm.Cond.constantLong "HomeRollModel" (268 : Nat) (478694368626 : Int64)) ∈ lw_all := lw_g (lw_at lw_m7 101 rfl) rfl
theorem q1605 : (Jvm.Cond.constantLong "HomeRollModel" (270 : Nat) (470020941177 : Int64)) ∈ lw_all := lw_g (lw_at lw_m7 102 rfl) rfl
theorem q1606 : (Jvm.Cond.constantLong "HomeRollModel" (272 : Nat) (1852796517 : Int64)) ∈ lw_all := lw_g (lw_at lw_m7 103 rfl) rfl
theorem q1608 : (Jvm.Cond.instanceMethod ({ cls := "HomeRollModel", name := "fault", desc := "(I)I" } : Jvm.MethodName)) ∈ lw_all := lw_g (lw_at lw_m7 105 rfl) rfl
theorem q1609 : (Jvm.Cond.selects "HomeRollModel" ({ cls := "HomeRollModel", name := "fault", desc := "(I)I" } : Jvm.MethodName) ({ cls := "HomeRollModel", name := "fault", desc := "(I)I" } : Jvm.MethodName)) ∈ lw_all := lw_g (lw_at lw_m7 106 rfl) rfl
theorem q1610 : (Jvm.Cond.code ({ cls := "HomeRollModel", name := "fault", desc := "(I)I" } : Jvm.MethodName) prog_24_method_42_code (2 : Nat) (Option.some Jvm.ClassFile.FieldType.int)) ∈ lw_all := lw_g (lw_at lw_m7 107 rfl) rfl
theorem q1612 : (Jvm.Cond.instanceMethod ({ cls := "HomeRollModel", name := "claim", desc := "(I)I" } : Jvm.MethodName)) ∈ lw_all := lw_g (lw_at lw_m7 109 rfl) rfl
theorem q1613 : (Jvm.Cond.selects "HomeRollModel" ({ cls := "HomeRollModel", name := "claim", desc := "(I)I" } : Jvm.MethodName) ({ cls := "HomeRollModel", name := "claim", desc := "(I)I" } : Jvm.MethodName)) ∈ lw_all := lw_g (lw_at lw_m7 110 rfl) rfl
theorem q1614 : (Jvm.Cond.code ({ cls := "HomeRollModel", name := "claim", desc := "(I)I" } : Jvm.MethodName) prog_24_method_45_code (3 : Nat) (Option.some Jvm.ClassFile.FieldType.int)) ∈ lw_all := lw_g (lw_at lw_m7 111 rfl) rfl
theorem q1616 : (Jvm.Cond.instanceMethod ({ cls := "HomeRollModel", name := "ruling", desc := "(II)I" } : Jvm.MethodName)) ∈ lw_all := lw_g (lw_at lw_m7 113 rfl) rfl
theorem q1617 : (Jvm.Cond.selects "HomeRollModel" ({ cls := "HomeRollModel", name := "ruling", desc := "(II)I" } : Jvm.MethodName) ({ cls := "HomeRollModel", name := "ruling", desc := "(II)I" } : Jvm.MethodName)) ∈ lw_all := lw_g (lw_at lw_m7 114 rfl) rfl
theorem q1618 : (Jvm.Cond.code ({ cls := "HomeRollModel", name := "ruling", desc := "(II)I" } : Jvm.MethodName) prog_24_method_48_code (4 : Nat) (Option.some Jvm.ClassFile.FieldType.int)) ∈ lw_all := lw_g (lw_at lw_m7 115 rfl) rfl
theorem q1619 : (Jvm.Cond.methodLink "HomeRollModel" (331 : Nat) ({ cls := "HomeRollModel", name := "look", desc := "(II)Z" } : Jvm.MethodName)) ∈ lw_all := lw_g (lw_at lw_m7 116 rfl) rfl
theorem q1620 : (Jvm.Cond.privateMethod ({ cls := "HomeRollModel", name := "look", desc := "(II)Z" } : Jvm.MethodName)) ∈ lw_tbl := lw_at lw_m7 117 rfl
theorem q1621 : (Jvm.Cond.instanceMethod ({ cls := "HomeRollModel", name := "look", desc := "(II)Z" } : Jvm.MethodName)) ∈ lw_all := lw_g (lw_at lw_m7 118 rfl) rfl
theorem q1622 : (Jvm.Cond.code ({ cls := "HomeRollModel", name := "look", desc := "(II)Z" } : Jvm.MethodName) prog_24_method_46_code (11 : Nat) (Option.some Jvm.ClassFile.FieldType.boolean)) ∈ lw_all := lw_g (lw_at lw_m7 119 rfl) rfl
theorem q1623 : (Jvm.Cond.methodLink "HomeRollModel" (318 : Nat) ({ cls := "HomeRollModel", name := "loose", desc := "(II)I" } : Jvm.MethodName)) ∈ lw_all := lw_g (lw_at lw_m7 120 rfl) rfl
theorem q1624 : (Jvm.Cond.constantLong "HomeRollModel" (322 : Nat) (2147483647 : Int64)) ∈ lw_all := lw_g (lw_at lw_m7 121 rfl) rfl
theorem q1625 : (Jvm.Cond.constant "HomeRollModel" (324 : Nat) (2147483647 : Int32)) ∈ lw_all := lw_g (lw_at lw_m7 122 rfl) rfl
theorem q1626 : (Jvm.Cond.methodLink "HomeRollModel" (325 : Nat) ({ cls := "HomeRollModel", name := "isDead", desc := "(II)Z" } : Jvm.MethodName)) ∈ lw_all := lw_g (lw_at lw_m7 123 rfl) rfl
theorem q1627 : (Jvm.Cond.privateMethod ({ cls := "HomeRollModel", name := "isDead", desc := "(II)Z" } : Jvm.MethodName)) ∈ lw_tbl := lw_at lw_m7 124 rfl
theorem q1628 : (Jvm.Cond.instanceMethod ({ cls := "HomeRollModel", name := "isDead", desc := "(II)Z" } : Jvm.MethodName)) ∈ lw_all := lw_g (lw_at lw_m7 125 rfl) rfl
theorem q1629 : (Jvm.Cond.code ({ cls := "HomeRollModel", name := "isDead", desc := "(II)Z" } : Jvm.MethodName) prog_24_method_8_code (3 : Nat) (Option.some Jvm.ClassFile.FieldType.boolean)) ∈ lw_all := lw_g (lw_at lw_m7 126 rfl) rfl
theorem q1630 : (Jvm.Cond.methodLink "HomeRollModel" (334 : Nat) ({ cls := "HomeRollModel", name := "lineFor", desc := "()I" } : Jvm.MethodName)) ∈ lw_all := lw_g (lw_at lw_m7 127 rfl) rfl
theorem q1631 : (Jvm.Cond.privateMethod ({ cls := "HomeRollModel", name := "lineFor", desc := "()I" } : Jvm.MethodName)) ∈ lw_tbl := lw_at lw_m7 128 rfl
theorem q1632 : (Jvm.Cond.instanceMethod ({ cls := "HomeRollModel", name := "lineFor", desc := "()I" } : Jvm.MethodName)) ∈ lw_all := lw_g (lw_at lw_m7 129 rfl) rfl
theorem q1633 : (Jvm.Cond.code ({ cls := "HomeRollModel", name := "lineFor", desc := "()I" } : Jvm.MethodName) prog_24_method_47_code (2 : Nat) (Option.some Jvm.ClassFile.FieldType.int)) ∈ lw_all := lw_g (lw_at lw_m7 130 rfl) rfl
theorem q1634 : (Jvm.Cond.methodLink "HomeRollModel" (328 : Nat) ({ cls := "HomeRollModel", name := "holds", desc := "(I)Z" } : Jvm.MethodName)) ∈ lw_all := lw_g (lw_at lw_m7 131 rfl) rfl
theorem q1635 : (Jvm.Cond.privateMethod ({ cls := "HomeRollModel", name := "holds", desc := "(I)Z" } : Jvm.MethodName)) ∈ lw_tbl := lw_at lw_m7 132 rfl
theorem q1636 : (Jvm.Cond.instanceMethod ({ cls := "HomeRollModel", name := "holds", desc := "(I)Z" } : Jvm.MethodName)) ∈ lw_all := lw_g (lw_at lw_m7 133 rfl) rfl
theorem q1637 : (Jvm.Cond.code ({ cls := "HomeRollModel", name := "holds", desc := "(I)Z" } : Jvm.MethodName) prog_24_method_44_code (5 : Nat) (Option.some Jvm.ClassFile.FieldType.boolean)) ∈ lw_all := lw_g (lw_at lw_m7 134 rfl) rfl
theorem q1638 : (Jvm.Cond.methodLink "HomeRollModel" (312 : Nat) ({ cls := "HomeRollModel", name := "two", desc := "(III)I" } : Jvm.MethodName)) ∈ lw_all := lw_g (lw_at lw_m7 135 rfl) rfl
theorem q1639 : (Jvm.Cond.static ({ cls := "HomeRollModel", name := "two", desc := "(III)I" } : Jvm.MethodName)) ∈ lw_all := lw_g (lw_at lw_m7 136 rfl) rfl
theorem q1640 : (Jvm.Cond.code ({ cls := "HomeRollModel", name := "two", desc := "(III)I" } : Jvm.MethodName) prog_24_method_43_code (3 : Nat) (Option.some Jvm.ClassFile.FieldType.int)) ∈ lw_all := lw_g (lw_at lw_m7 137 rfl) rfl
theorem q1642 : (Jvm.Cond.instanceMethod ({ cls := "HomeRollModel", name := "sum", desc := "(II)I" } : Jvm.MethodName)) ∈ lw_all := lw_g (lw_at lw_m7 139 rfl) rfl
theorem q1643 : (Jvm.Cond.selects "HomeRollModel" ({ cls := "HomeRollModel", name := "sum", desc := "(II)I" } : Jvm.MethodName) ({ cls := "HomeRollModel", name := "sum", desc := "(II)I" } : Jvm.MethodName)) ∈ lw_all := lw_g (lw_at lw_m7 140 rfl) rfl
theorem q1644 : (Jvm.Cond.code ({ cls := "HomeRollModel", name := "sum", desc := "(II)I" } : Jvm.MethodName) prog_24_method_49_code (4 : Nat) (Option.some Jvm.ClassFile.FieldType.int)) ∈ lw_all := lw_g (lw_at lw_m7 141 rfl) rfl
theorem q1645 : (Jvm.Cond.constantLong "HomeRollModel" (337 : Nat) (100 : Int64)) ∈ lw_all := lw_g (lw_at lw_m7 142 rfl) rfl
theorem q1647 : (Jvm.Cond.instanceMethod ({ cls := "HomeRollModel", name := "term", desc := "(III)I" } : Jvm.MethodName)) ∈ lw_all := lw_g (lw_at lw_m7 144 rfl) rfl
theorem q1648 : (Jvm.Cond.selects "HomeRollModel" ({ cls := "HomeRollModel", name := "term", desc := "(III)I" } : Jvm.MethodName) ({ cls := "HomeRollModel", name := "term", desc := "(III)I" } : Jvm.MethodName)) ∈ lw_all := lw_g (lw_at lw_m7 145 rfl) rfl
theorem q1649 : (Jvm.Cond.code ({ cls := "HomeRollModel", name := "term", desc := "(III)I" } : Jvm.MethodName) prog_24_method_50_code (4 : Nat) (Option.some Jvm.ClassFile.FieldType.int)) ∈ lw_all := lw_g (lw_at lw_m7 146 rfl) rfl
theorem q1651 : (Jvm.Cond.instanceMethod ({ cls := "HomeRollModel", name := "share", desc := "(IIII)J" } : Jvm.MethodName)) ∈ lw_all := lw_g (lw_at lw_m7 148 rfl) rfl
theorem q1652 : (Jvm.Cond.selects "HomeRollModel" ({ cls := "HomeRollModel", name := "share", desc := "(IIII)J" } : Jvm.MethodName) ({ cls := "HomeRollModel", name := "share", desc := "(IIII)J" } : Jvm.MethodName)) ∈ lw_all := lw_g (lw_at lw_m7 149 rfl) rfl
theorem q1653 : (Jvm.Cond.code ({ cls := "HomeRollModel", name := "share", desc := "(IIII)J" } : Jvm.MethodName) prog_24_method_55_code (5 : Nat) (Option.some Jvm.ClassFile.FieldType.long)) ∈ lw_all := lw_g (lw_at lw_m7 150 rfl) rfl
theorem q1654 : (Jvm.Cond.methodLink "HomeRollModel" (350 : Nat) ({ cls := "HomeRollModel", name := "handDown", desc := "(II)V" } : Jvm.MethodName)) ∈ lw_all := lw_g (lw_at lw_m7 151 rfl) rfl
theorem q1655 : (Jvm.Cond.privateMethod ({ cls := "HomeRollModel", name := "handDown", desc := "(II)V" } : Jvm.MethodName)) ∈ lw_tbl := lw_at lw_m7 152 rfl
theorem q1656 : (Jvm.Cond.instanceMethod ({ cls := "HomeRollModel", name := "handDown", desc := "(II)V" } : Jvm.MethodName)) ∈ lw_all := lw_g (lw_at lw_m7 153 rfl) rfl
theorem q1657 : (Jvm.Cond.code ({ cls := "HomeRollModel", name := "handDown", desc := "(II)V" } : Jvm.MethodName) prog_24_method_54_code (6 : Nat) (Option.none : Option Jvm.ClassFile.FieldType)) ∈ lw_all := lw_g (lw_at lw_m7 154 rfl) rfl
theorem q1658 : (Jvm.Cond.methodLink "HomeRollModel" (343 : Nat) ({ cls := "HomeRollModel", name := "isChild", desc := "(II)Z" } : Jvm.MethodName)) ∈ lw_all := lw_g (lw_at lw_m7 155 rfl) rfl
theorem q1659 : (Jvm.Cond.privateMethod ({ cls := "HomeRollModel", name := "isChild", desc := "(II)Z" } : Jvm.MethodName)) ∈ lw_tbl := lw_at lw_m7 156 rfl
theorem q1660 : (Jvm.Cond.instanceMethod ({ cls := "HomeRollModel", name := "isChild", desc := "(II)Z" } : Jvm.MethodName)) ∈ lw_all := lw_g (lw_at lw_m7 157 rfl) rfl
theorem q1661 : (Jvm.Cond.code ({ cls := "HomeRollModel", name := "isChild", desc := "(II)Z" } : Jvm.MethodName) prog_24_method_52_code (3 : Nat) (Option.some Jvm.ClassFile.FieldType.boolean)) ∈ lw_all := lw_g (lw_at lw_m7 158 rfl) rfl
theorem q1662 : (Jvm.Cond.methodLink "HomeRollModel" (346 : Nat) ({ cls := "HomeRollModel", name := "gets", desc := "(IJJ)V" } : Jvm.MethodName)) ∈ lw_all := lw_g (lw_at lw_m7 159 rfl) rfl
theorem q1663 : (Jvm.Cond.privateMethod ({ cls := "HomeRollModel", name := "gets", desc := "(IJJ)V" } : Jvm.MethodName)) ∈ lw_tbl := lw_at lw_m7 160 rfl
theorem q1664 : (Jvm.Cond.instanceMethod ({ cls := "HomeRollModel", name := "gets", desc := "(IJJ)V" } : Jvm.MethodName)) ∈ lw_all := lw_g (lw_at lw_m7 161 rfl) rfl
theorem q1665 : (Jvm.Cond.code ({ cls := "HomeRollModel", name := "gets", desc := "(IJJ)V" } : Jvm.MethodName) prog_24_method_53_code (12 : Nat) (Option.none : Option Jvm.ClassFile.FieldType)) ∈ lw_all := lw_g (lw_at lw_m7 162 rfl) rfl
theorem q1666 : (Jvm.Cond.methodLink "HomeRollModel" (339 : Nat) ({ cls := "HomeRollModel", name := "divisor", desc := "(JJ)J" } : Jvm.MethodName)) ∈ lw_all := lw_g (lw_at lw_m7 163 rfl) rfl
theorem q1667 : (Jvm.Cond.static ({ cls := "HomeRollModel", name := "divisor", desc := "(JJ)J" } : Jvm.MethodName)) ∈ lw_all := lw_g (lw_at lw_m7 164 rfl) rfl
theorem q1668 : (Jvm.Cond.code ({ cls := "HomeRollModel", name := "divisor", desc := "(JJ)J" } : Jvm.MethodName) prog_24_method_51_code (10 : Nat) (Option.some Jvm.ClassFile.FieldType.long)) ∈ lw_all := lw_g (lw_at lw_m7 165 rfl) rfl
theorem q1670 : (Jvm.Cond.instanceMethod ({ cls := "HomeRollModel", name := "want", desc := "(III)I" } : Jvm.MethodName)) ∈ lw_all := lw_g (lw_at lw_m7 167 rfl) rfl
theorem q1671 : (Jvm.Cond.selects "HomeRollModel" ({ cls := "HomeRollModel", name := "want", desc := "(III)I" } : Jvm.MethodName) ({ cls := "HomeRollModel", name := "want", desc := "(III)I" } : Jvm.MethodName)) ∈ lw_all := lw_g (lw_at lw_m7 168 rfl) rfl
theorem q1672 : (Jvm.Cond.code ({ cls := "HomeRollModel", name := "want", desc := "(III)I" } : Jvm.MethodName) prog_24_method_56_code (4 : Nat) (Option.some Jvm.ClassFile.FieldType.int)) ∈ lw_all := lw_g (lw_at lw_m7 169 rfl) rfl
theorem q1674 : (Jvm.Cond.instanceMethod ({ cls := "HomeRollModel", name := "joy", desc := "()I" } : Jvm.MethodName)) ∈ lw_all := lw_g (lw_at lw_m7 171 rfl) rfl
theorem q1675 : (Jvm.Cond.selects "HomeRollModel" ({ cls := "HomeRollModel", name := "joy", desc := "()I" } : Jvm.MethodName) ({ cls := "HomeRollModel", name := "joy", desc := "()I" } : Jvm.MethodName)) ∈ lw_all := lw_g (lw_at lw_m7 172 rfl) rfl
theorem q1676 : (Jvm.Cond.code ({ cls := "HomeRollModel", name := "joy", desc := "()I" } : Jvm.MethodName) prog_24_method_59_code (1 : Nat) (Option.some Jvm.ClassFile.FieldType.int)) ∈ lw_all := lw_g (lw_at lw_m7 173 rfl) rfl
theorem q1677 : (Jvm.Cond.methodLink "HomeRollModel" (359 : Nat) ({ cls := "HomeRollModel", name := "solve", desc := "()I" } : Jvm.MethodName)) ∈ lw_all := lw_g (lw_at lw_m7 174 rfl) rfl
theorem q1678 : (Jvm.Cond.privateMethod ({ cls := "HomeRollModel", name := "solve", desc := "()I" } : Jvm.MethodName)) ∈ lw_tbl := lw_at lw_m7 175 rfl
theorem q1679 : (Jvm.Cond.instanceMethod ({ cls := "HomeRollModel", name := "solve", desc := "()I" } : Jvm.MethodName)) ∈ lw_all := lw_g (lw_at lw_m7 176 rfl) rfl
theorem q1680 : (Jvm.Cond.code ({ cls := "HomeRollModel", name := "solve", desc := "()I" } : Jvm.MethodName) prog_24_method_58_code (6 : Nat) (Option.some Jvm.ClassFile.FieldType.int)) ∈ lw_all := lw_g (lw_at lw_m7 177 rfl) rfl
theorem q1681 : (Jvm.Cond.methodLink "HomeRollModel" (356 : Nat) ({ cls := "HomeRollModel", name := "mayGet", desc := "(II)Z" } : Jvm.MethodName)) ∈ lw_all := lw_g (lw_at lw_m7 178 rfl) rfl
theorem q1682 : (Jvm.Cond.privateMethod ({ cls := "HomeRollModel", name := "mayGet", desc := "(II)Z" } : Jvm.MethodName)) ∈ lw_tbl := lw_at lw_m7 179 rfl
theorem q1683 : (Jvm.Cond.instanceMethod ({ cls := "HomeRollModel", name := "mayGet", desc := "(II)Z" } : Jvm.MethodName)) ∈ lw_all := lw_g (lw_at lw_m7 180 rfl) rfl
theorem q1684 : (Jvm.Cond.code ({ cls := "HomeRollModel", name := "mayGet", desc := "(II)Z" } : Jvm.MethodName) prog_24_method_57_code (3 : Nat) (Option.some Jvm.ClassFile.FieldType.boolean)) ∈ lw_all := lw_g (lw_at lw_m7 181 rfl) rfl
theorem q1686 : (Jvm.Cond.instanceMethod ({ cls := "HomeRollModel", name := "swap", desc := "(I)I" } : Jvm.MethodName)) ∈ lw_all := lw_g (lw_at lw_m7 183 rfl) rfl
theorem q1687 : (Jvm.Cond.selects "HomeRollModel" ({ cls := "HomeRollModel", name := "swap", desc := "(I)I" } : Jvm.MethodName) ({ cls := "HomeRollModel", name := "swap", desc := "(I)I" } : Jvm.MethodName)) ∈ lw_all := lw_g (lw_at lw_m7 184 rfl) rfl
theorem q1688 : (Jvm.Cond.code ({ cls := "HomeRollModel", name := "swap", desc := "(I)I" } : Jvm.MethodName) prog_24_method_60_code (6 : Nat) (Option.some Jvm.ClassFile.FieldType.int)) ∈ lw_all := lw_g (lw_at lw_m7 185 rfl) rfl
theorem q1690 : (Jvm.Cond.instanceMethod ({ cls := "HomeRollModel", name := "about", desc := "(I)I" } : Jvm.MethodName)) ∈ lw_all := lw_g (lw_at lw_m7 187 rfl) rfl
theorem q1691 : (Jvm.Cond.selects "HomeRollModel" ({ cls := "HomeRollModel", name := "about", desc := "(I)I" } : Jvm.MethodName) ({ cls := "HomeRollModel", name := "about", desc := "(I)I" } : Jvm.MethodName)) ∈ lw_all := lw_g (lw_at lw_m7 188 rfl) rfl
theorem q1692 : (Jvm.Cond.code ({ cls := "HomeRollModel", name := "about", desc := "(I)I" } : Jvm.MethodName) prog_24_method_61_code (2 : Nat) (Option.some Jvm.ClassFile.FieldType.int)) ∈ lw_all := lw_g (lw_at lw_m7 189 rfl) rfl
theorem q1694 : (Jvm.Cond.instanceMethod ({ cls := "HomeRollModel", name := "feed", desc := "(IIIII)I" } : Jvm.MethodName)) ∈ lw_all := lw_g (lw_at lw_m7 191 rfl) rfl
theorem q1695 : (Jvm.Cond.selects "HomeRollModel" ({ cls := "HomeRollModel", name := "feed", desc := "(IIIII)I" } : Jvm.MethodName) ({ cls := "HomeRollModel", name := "feed", desc := "(IIIII)I" } : Jvm.MethodName)) ∈ lw_all := lw_g (lw_at lw_m7 192 rfl) rfl
theorem q1696 : (Jvm.Cond.code ({ cls := "HomeRollModel", name := "feed", desc := "(IIIII)I" } : Jvm.MethodName) prog_24_method_62_code (8 : Nat) (Option.some Jvm.ClassFile.FieldType.int)) ∈ lw_all := lw_g (lw_at lw_m7 193 rfl) rfl
theorem q1698 : (Jvm.Cond.instanceMethod ({ cls := "HomeRollModel", name := "end", desc := "(I)I" } : Jvm.MethodName)) ∈ lw_all := lw_g (lw_at lw_m7 195 rfl) rfl
theorem q1699 : (Jvm.Cond.selects "HomeRollModel" ({ cls := "HomeRollModel", name := "end", desc := "(I)I" } : Jvm.MethodName) ({ cls := "HomeRollModel", name := "end", desc := "(I)I" } : Jvm.MethodName)) ∈ lw_all := lw_g (lw_at lw_m7 196 rfl) rfl
theorem q1700 : (Jvm.Cond.code ({ cls := "HomeRollModel", name := "end", desc := "(I)I" } : Jvm.MethodName) prog_24_method_63_code (2 : Nat) (Option.some Jvm.ClassFile.FieldType.int)) ∈ lw_all := lw_g (lw_at lw_m7 197 rfl) rfl
theorem q1725 : (Jvm.Cond.castable "HomeRollModel" "java/lang/Object") ∈ lw_tbl := lw_at lw_m7 222 rfl
theorem in_X3 : ∀ w ∈ wsX30, w ∈ lw_all := lw_in wsX30 [1322, 1324, 1326, 1328, 1330, 1332, 1334, 1336, 1338, 1340, 1342, 1344, 1346, 1348, 1350, 1352, 1354, 1356, 1358, 1360, 1362, 1364, 1366, 1368, 1370, 1372, 1374, 1376, 1378, 1380, 1382, 1384, 1386, 1388, 1390, 1392, 1394, 1396, 1398, 1400, 1402, 1404, 1406, 1408, 1410, 1412, 1414, 1416, 1418, 1420, 1422, 1424, 1426, 1428, 1430, 1432] (by decide +kernel) (by decide +kernel)
/-! HomeRoll$Paper -/
def RX4 : String := "HomeRoll$Paper"
def TX4 : u_T := fun k => match k with
  | 0 => ("HomeRoll$Paper", "number", "I", true)
  | 1 => ("HomeRoll$Paper", "house", "I", true)
  | 2 => ("HomeRoll$Paper", "from", "I", true)
  | 3 => ("HomeRoll$Paper", "to", "I", true)
  | 4 => ("HomeRoll$Paper", "day", "I", true)
  | 5 => ("HomeRoll$Paper", "sort", "I", true)
  | 6 => ("HomeRoll$Paper", "price", "I", true)
  | 7 => ("HomeRoll$Paper", "found", "I", true)
  | _ => ("HomeRoll$Paper", "falseFrom", "I", false)
def tyX4 : Nat → FieldType := fun k => match k with
  | 0 => .int
  | 1 => .int
  | 2 => .int
  | 3 => .int
  | 4 => .int
  | 5 => .int
  | 6 => .int
  | 7 => .int
  | _ => .int
abbrev wsX40 : List Cond := u_ws RX4 TX4 9
theorem nmX4 : ∀ a, a < 9 → ∀ b, b < 9 → a ≠ b → (TX4 a).2.1 ≠ (TX4 b).2.1 := by decide +kernel
theorem tyX4_ok : ∀ k, k < 9 → parseFieldDescriptor (TX4 k).2.2.1 = some (tyX4 k) := by decide +kernel
abbrev cX4_init : ByteArray := prog_17_method_1_code
def yX4_init : MethodName := ⟨RX4, "<init>", "(IIIIIIII)V"⟩
abbrev cX4_counts : ByteArray := prog_17_method_2_code
def yX4_counts : MethodName := ⟨RX4, "counts", "(I)Z"⟩
theorem q72 : (Jvm.Cond.initialized "HomeRoll$Paper") ∈ lw_all := lw_g (lw_at lw_m1 9 rfl) rfl
theorem q330 : (Jvm.Cond.instantiable "HomeRoll$Paper" (9 : Nat)) ∈ lw_all := lw_g (lw_at lw_m2 27 rfl) rfl
theorem q332 : (Jvm.Cond.instanceMethod ({ cls := "HomeRoll$Paper", name := "<init>", desc := "(IIIIIIII)V" } : Jvm.MethodName)) ∈ lw_all := lw_g (lw_at lw_m2 29 rfl) rfl
theorem q333 : (Jvm.Cond.code ({ cls := "HomeRoll$Paper", name := "<init>", desc := "(IIIIIIII)V" } : Jvm.MethodName) prog_17_method_1_code (9 : Nat) (Option.none : Option Jvm.ClassFile.FieldType)) ∈ lw_all := lw_g (lw_at lw_m2 30 rfl) rfl
theorem q334 : (Jvm.Cond.methodLink "HomeRoll$Paper" (3 : Nat) ({ cls := "java/lang/Object", name := "<init>", desc := "()V" } : Jvm.MethodName)) ∈ lw_all := lw_g (lw_at lw_m2 31 rfl) rfl
theorem q335 : (Jvm.Cond.fieldLink "HomeRoll$Paper" (15 : Nat) "HomeRoll$Paper" "number" "I") ∈ lw_all := lw_g (lw_at lw_m2 32 rfl) rfl
theorem q337 : (Jvm.Cond.fieldLink "HomeRoll$Paper" (18 : Nat) "HomeRoll$Paper" "house" "I") ∈ lw_all := lw_g (lw_at lw_m2 34 rfl) rfl
theorem q340 : (Jvm.Cond.fieldLink "HomeRoll$Paper" (21 : Nat) "HomeRoll$Paper" "from" "I") ∈ lw_all := lw_g (lw_at lw_m2 37 rfl) rfl
theorem q343 : (Jvm.Cond.fieldLink "HomeRoll$Paper" (24 : Nat) "HomeRoll$Paper" "to" "I") ∈ lw_all := lw_g (lw_at lw_m2 40 rfl) rfl
theorem q345 : (Jvm.Cond.fieldLink "HomeRoll$Paper" (27 : Nat) "HomeRoll$Paper" "day" "I") ∈ lw_all := lw_g (lw_at lw_m2 42 rfl) rfl
theorem q349 : (Jvm.Cond.fieldLink "HomeRoll$Paper" (30 : Nat) "HomeRoll$Paper" "sort" "I") ∈ lw_all := lw_g (lw_at lw_m2 46 rfl) rfl
theorem q352 : (Jvm.Cond.fieldLink "HomeRoll$Paper" (33 : Nat) "HomeRoll$Paper" "price" "I") ∈ lw_all := lw_g (lw_at lw_m2 49 rfl) rfl
theorem q354 : (Jvm.Cond.fieldLink "HomeRoll$Paper" (36 : Nat) "HomeRoll$Paper" "found" "I") ∈ lw_all := lw_g (lw_at lw_m2 51 rfl) rfl
theorem q355 : (Jvm.Cond.fieldLink "HomeRoll$Paper" (9 : Nat) "HomeRoll$Paper" "falseFrom" "I") ∈ lw_all := lw_g (lw_at lw_m2 52 rfl) rfl
theorem q357 : (Jvm.Cond.laysFinal "HomeRoll$Paper" "HomeRoll$Paper" "number" "I") ∈ lw_all := lw_g (lw_at lw_m2 54 rfl) rfl
theorem q358 : (Jvm.Cond.soleField "HomeRoll$Paper" "number") ∈ lw_all := lw_g (lw_at lw_m2 55 rfl) rfl
theorem q359 : (Jvm.Cond.laysFinal "HomeRoll$Paper" "HomeRoll$Paper" "house" "I") ∈ lw_all := lw_g (lw_at lw_m2 56 rfl) rfl
theorem q360 : (Jvm.Cond.soleField "HomeRoll$Paper" "house") ∈ lw_all := lw_g (lw_at lw_m2 57 rfl) rfl
theorem q361 : (Jvm.Cond.laysFinal "HomeRoll$Paper" "HomeRoll$Paper" "from" "I") ∈ lw_all := lw_g (lw_at lw_m2 58 rfl) rfl
theorem q362 : (Jvm.Cond.soleField "HomeRoll$Paper" "from") ∈ lw_all := lw_g (lw_at lw_m2 59 rfl) rfl
theorem q363 : (Jvm.Cond.laysFinal "HomeRoll$Paper" "HomeRoll$Paper" "to" "I") ∈ lw_all := lw_g (lw_at lw_m2 60 rfl) rfl
theorem q364 : (Jvm.Cond.soleField "HomeRoll$Paper" "to") ∈ lw_all := lw_g (lw_at lw_m2 61 rfl) rfl
theorem q365 : (Jvm.Cond.laysFinal "HomeRoll$Paper" "HomeRoll$Paper" "day" "I") ∈ lw_all := lw_g (lw_at lw_m2 62 rfl) rfl
theorem q366 : (Jvm.Cond.soleField "HomeRoll$Paper" "day") ∈ lw_all := lw_g (lw_at lw_m2 63 rfl) rfl
theorem q367 : (Jvm.Cond.laysFinal "HomeRoll$Paper" "HomeRoll$Paper" "sort" "I") ∈ lw_all := lw_g (lw_at lw_m2 64 rfl) rfl
theorem q368 : (Jvm.Cond.soleField "HomeRoll$Paper" "sort") ∈ lw_all := lw_g (lw_at lw_m2 65 rfl) rfl
theorem q369 : (Jvm.Cond.laysFinal "HomeRoll$Paper" "HomeRoll$Paper" "price" "I") ∈ lw_all := lw_g (lw_at lw_m2 66 rfl) rfl
theorem q370 : (Jvm.Cond.soleField "HomeRoll$Paper" "price") ∈ lw_all := lw_g (lw_at lw_m2 67 rfl) rfl
theorem q371 : (Jvm.Cond.laysFinal "HomeRoll$Paper" "HomeRoll$Paper" "found" "I") ∈ lw_all := lw_g (lw_at lw_m2 68 rfl) rfl
theorem q372 : (Jvm.Cond.soleField "HomeRoll$Paper" "found") ∈ lw_all := lw_g (lw_at lw_m2 69 rfl) rfl
theorem q373 : (Jvm.Cond.lays "HomeRoll$Paper" "HomeRoll$Paper" "falseFrom" "I") ∈ lw_all := lw_g (lw_at lw_m2 70 rfl) rfl
theorem q374 : (Jvm.Cond.soleField "HomeRoll$Paper" "falseFrom") ∈ lw_all := lw_g (lw_at lw_m2 71 rfl) rfl
theorem q375 : (Jvm.Cond.superclass "HomeRoll$Paper" "java/lang/Object") ∈ lw_all := lw_g (lw_at lw_m2 72 rfl) rfl
theorem q401 : (Jvm.Cond.instanceMethod ({ cls := "HomeRoll$Paper", name := "counts", desc := "(I)Z" } : Jvm.MethodName)) ∈ lw_all := lw_g (lw_at lw_m2 98 rfl) rfl
theorem q402 : (Jvm.Cond.selects "HomeRoll$Paper" ({ cls := "HomeRoll$Paper", name := "counts", desc := "(I)Z" } : Jvm.MethodName) ({ cls := "HomeRoll$Paper", name := "counts", desc := "(I)Z" } : Jvm.MethodName)) ∈ lw_all := lw_g (lw_at lw_m2 99 rfl) rfl
theorem q403 : (Jvm.Cond.code ({ cls := "HomeRoll$Paper", name := "counts", desc := "(I)Z" } : Jvm.MethodName) prog_17_method_2_code (2 : Nat) (Option.some Jvm.ClassFile.FieldType.boolean)) ∈ lw_all := lw_g (lw_at lw_m2 100 rfl) rfl
theorem q1032 : (Jvm.Cond.selects "HomeRoll$Paper" ({ cls := "java/lang/Object", name := "getClass", desc := "()Ljava/lang/Class;" } : Jvm.MethodName) ({ cls := "java/lang/Object", name := "getClass", desc := "()Ljava/lang/Class;" } : Jvm.MethodName)) ∈ lw_all := lw_g (lw_at lw_m5 9 rfl) rfl
theorem q1711 : (Jvm.Cond.castable "HomeRoll$Paper" "java/lang/Object") ∈ lw_tbl := lw_at lw_m7 208 rfl
theorem in_X4 : ∀ w ∈ wsX40, w ∈ lw_all := lw_in wsX40 [357, 359, 361, 363, 365, 367, 369, 371, 373] (by decide +kernel) (by decide +kernel)
/-! HomeRoll$Reader -/
def RX5 : String := "HomeRoll$Reader"
def TX5 : u_T := fun k => match k with
  | 0 => ("HomeRoll$Reader", "at", "I", false)
  | 1 => ("HomeRoll$Reader", "sort", "I", false)
  | 2 => ("HomeRoll$Reader", "place", "I", false)
  | 3 => ("HomeRoll$Reader", "number", "I", false)
  | 4 => ("HomeRoll$Reader", "terms", "I", false)
  | 5 => ("HomeRoll$Reader", "word", "Ljava/lang/String;", false)
  | 6 => ("HomeRoll$Reader", "all", "Ljava/util/ArrayList;", true)
  | _ => ("HomeRoll$Reader", "this$0", "LHomeRoll;", true)
def tyX5 : Nat → FieldType := fun k => match k with
  | 0 => .int
  | 1 => .int
  | 2 => .int
  | 3 => .int
  | 4 => .int
  | 5 => .object "java/lang/String"
  | 6 => .object "java/util/ArrayList"
  | _ => .object "HomeRoll"
abbrev wsX50 : List Cond := u_ws RX5 TX5 8
theorem nmX5 : ∀ a, a < 8 → ∀ b, b < 8 → a ≠ b → (TX5 a).2.1 ≠ (TX5 b).2.1 := by decide +kernel
theorem tyX5_ok : ∀ k, k < 8 → parseFieldDescriptor (TX5 k).2.2.1 = some (tyX5 k) := by decide +kernel
abbrev cX5_init : ByteArray := prog_19_method_1_code
def yX5_init : MethodName := ⟨RX5, "<init>", "(LHomeRoll;)V"⟩
abbrev cX5_text : ByteArray := prog_19_method_8_code
def yX5_text : MethodName := ⟨RX5, "text", "()Ljava/util/ArrayList;"⟩
abbrev cX5_next : ByteArray := prog_19_method_5_code
def yX5_next : MethodName := ⟨RX5, "next", "()V"⟩
abbrev cX5_here : ByteArray := prog_19_method_2_code
def yX5_here : MethodName := ⟨RX5, "here", "(I)I"⟩
abbrev cX5_isLetter : ByteArray := prog_19_method_3_code
def yX5_isLetter : MethodName := ⟨RX5, "isLetter", "(I)Z"⟩
abbrev cX5_isDigit : ByteArray := prog_19_method_4_code
def yX5_isDigit : MethodName := ⟨RX5, "isDigit", "(I)Z"⟩
abbrev cX5_is : ByteArray := prog_19_method_7_code
def yX5_is : MethodName := ⟨RX5, "is", "(Ljava/lang/String;)Z"⟩
abbrev cX5_wrong : ByteArray := prog_19_method_6_code
def yX5_wrong : MethodName := ⟨RX5, "wrong", "()LHomeRoll$Wrong;"⟩
abbrev cX5_either : ByteArray := prog_19_method_11_code
def yX5_either : MethodName := ⟨RX5, "either", "(I)LHomeRoll$Ex;"⟩
abbrev cX5_deep : ByteArray := prog_19_method_10_code
def yX5_deep : MethodName := ⟨RX5, "deep", "(I)V"⟩
abbrev cX5_isTerm : ByteArray := prog_19_method_9_code
def yX5_isTerm : MethodName := ⟨RX5, "isTerm", "()Z"⟩
abbrev cX5_both : ByteArray := prog_19_method_12_code
def yX5_both : MethodName := ⟨RX5, "both", "(I)LHomeRoll$Ex;"⟩
abbrev cX5_one : ByteArray := prog_19_method_13_code
def yX5_one : MethodName := ⟨RX5, "one", "(I)LHomeRoll$Ex;"⟩
abbrev cX5_sum : ByteArray := prog_19_method_14_code
def yX5_sum : MethodName := ⟨RX5, "sum", "()LHomeRoll$Ex;"⟩
abbrev cX5_term : ByteArray := prog_19_method_15_code
def yX5_term : MethodName := ⟨RX5, "term", "()LHomeRoll$Ex;"⟩
theorem q73 : (Jvm.Cond.initialized "HomeRoll$Reader") ∈ lw_all := lw_g (lw_at lw_m1 10 rfl) rfl
theorem q187 : (Jvm.Cond.fieldLinkNest "HomeRoll$Reader" (37 : Nat) "HomeRoll" "tape" "[B" "HomeRoll") ∈ lw_tbl := lw_at lw_m1 124 rfl
theorem q188 : (Jvm.Cond.fieldLinkNest "HomeRoll$Reader" (34 : Nat) "HomeRoll" "taped" "I" "HomeRoll") ∈ lw_tbl := lw_at lw_m1 125 rfl
theorem q422 : (Jvm.Cond.instantiable "HomeRoll$Reader" (8 : Nat)) ∈ lw_all := lw_g (lw_at lw_m2 119 rfl) rfl
theorem q424 : (Jvm.Cond.instanceMethod ({ cls := "HomeRoll$Reader", name := "<init>", desc := "(LHomeRoll;)V" } : Jvm.MethodName)) ∈ lw_all := lw_g (lw_at lw_m2 121 rfl) rfl
theorem q425 : (Jvm.Cond.code ({ cls := "HomeRoll$Reader", name := "<init>", desc := "(LHomeRoll;)V" } : Jvm.MethodName) prog_19_method_1_code (2 : Nat) (Option.none : Option Jvm.ClassFile.FieldType)) ∈ lw_all := lw_g (lw_at lw_m2 122 rfl) rfl
theorem q426 : (Jvm.Cond.methodLink "HomeRoll$Reader" (9 : Nat) ({ cls := "java/lang/Object", name := "<init>", desc := "()V" } : Jvm.MethodName)) ∈ lw_all := lw_g (lw_at lw_m2 123 rfl) rfl
theorem q427 : (Jvm.Cond.stringRef "HomeRoll$Reader" (15 : Nat) "") ∈ lw_tbl := lw_at lw_m2 124 rfl
theorem q428 : (Jvm.Cond.classLink "HomeRoll$Reader" (21 : Nat) "java/util/ArrayList") ∈ lw_all := lw_g (lw_at lw_m2 125 rfl) rfl
theorem q429 : (Jvm.Cond.methodLink "HomeRoll$Reader" (23 : Nat) ({ cls := "java/util/ArrayList", name := "<init>", desc := "(I)V" } : Jvm.MethodName)) ∈ lw_all := lw_g (lw_at lw_m2 126 rfl) rfl
theorem q430 : (Jvm.Cond.fieldLink "HomeRoll$Reader" (30 : Nat) "HomeRoll$Reader" "at" "I") ∈ lw_all := lw_g (lw_at lw_m2 127 rfl) rfl
theorem q431 : (Jvm.Cond.fieldLink "HomeRoll$Reader" (48 : Nat) "HomeRoll$Reader" "sort" "I") ∈ lw_all := lw_g (lw_at lw_m2 128 rfl) rfl
theorem q432 : (Jvm.Cond.fieldLink "HomeRoll$Reader" (45 : Nat) "HomeRoll$Reader" "place" "I") ∈ lw_all := lw_g (lw_at lw_m2 129 rfl) rfl
theorem q433 : (Jvm.Cond.fieldLink "HomeRoll$Reader" (69 : Nat) "HomeRoll$Reader" "number" "I") ∈ lw_all := lw_g (lw_at lw_m2 130 rfl) rfl
theorem q434 : (Jvm.Cond.fieldLink "HomeRoll$Reader" (180 : Nat) "HomeRoll$Reader" "terms" "I") ∈ lw_all := lw_g (lw_at lw_m2 131 rfl) rfl
theorem q435 : (Jvm.Cond.fieldLink "HomeRoll$Reader" (17 : Nat) "HomeRoll$Reader" "word" "Ljava/lang/String;") ∈ lw_all := lw_g (lw_at lw_m2 132 rfl) rfl
theorem q436 : (Jvm.Cond.fieldLink "HomeRoll$Reader" (26 : Nat) "HomeRoll$Reader" "all" "Ljava/util/ArrayList;") ∈ lw_all := lw_g (lw_at lw_m2 133 rfl) rfl
theorem q437 : (Jvm.Cond.fieldLink "HomeRoll$Reader" (3 : Nat) "HomeRoll$Reader" "this$0" "LHomeRoll;") ∈ lw_all := lw_g (lw_at lw_m2 134 rfl) rfl
theorem q438 : (Jvm.Cond.lays "HomeRoll$Reader" "HomeRoll$Reader" "at" "I") ∈ lw_all := lw_g (lw_at lw_m2 135 rfl) rfl
theorem q439 : (Jvm.Cond.soleField "HomeRoll$Reader" "at") ∈ lw_all := lw_g (lw_at lw_m2 136 rfl) rfl
theorem q440 : (Jvm.Cond.lays "HomeRoll$Reader" "HomeRoll$Reader" "sort" "I") ∈ lw_all := lw_g (lw_at lw_m2 137 rfl) rfl
theorem q441 : (Jvm.Cond.soleField "HomeRoll$Reader" "sort") ∈ lw_all := lw_g (lw_at lw_m2 138 rfl) rfl
theorem q442 : (Jvm.Cond.lays "HomeRoll$Reader" "HomeRoll$Reader" "place" "I") ∈ lw_all := lw_g (lw_at lw_m2 139 rfl) rfl
theorem q443 : (Jvm.Cond.soleField "HomeRoll$Reader" "place") ∈ lw_all := lw_g (lw_at lw_m2 140 rfl) rfl
theorem q444 : (Jvm.Cond.lays "HomeRoll$Reader" "HomeRoll$Reader" "number" "I") ∈ lw_all := lw_g (lw_at lw_m2 141 rfl) rfl
theorem q445 : (Jvm.Cond.soleField "HomeRoll$Reader" "number") ∈ lw_all := lw_g (lw_at lw_m2 142 rfl) rfl
theorem q446 : (Jvm.Cond.lays "HomeRoll$Reader" "HomeRoll$Reader" "terms" "I") ∈ lw_all := lw_g (lw_at lw_m2 143 rfl) rfl
theorem q447 : (Jvm.Cond.soleField "HomeRoll$Reader" "terms") ∈ lw_all := lw_g (lw_at lw_m2 144 rfl) rfl
theorem q448 : (Jvm.Cond.lays "HomeRoll$Reader" "HomeRoll$Reader" "word" "Ljava/lang/String;") ∈ lw_all := lw_g (lw_at lw_m2 145 rfl) rfl
theorem q449 : (Jvm.Cond.soleField "HomeRoll$Reader" "word") ∈ lw_all := lw_g (lw_at lw_m2 146 rfl) rfl
theorem q450 : (Jvm.Cond.laysFinal "HomeRoll$Reader" "HomeRoll$Reader" "all" "Ljava/util/ArrayList;") ∈ lw_all := lw_g (lw_at lw_m2 147 rfl) rfl
theorem q451 : (Jvm.Cond.soleField "HomeRoll$Reader" "all") ∈ lw_all := lw_g (lw_at lw_m2 148 rfl) rfl
theorem q452 : (Jvm.Cond.laysFinal "HomeRoll$Reader" "HomeRoll$Reader" "this$0" "LHomeRoll;") ∈ lw_all := lw_g (lw_at lw_m2 149 rfl) rfl
theorem q453 : (Jvm.Cond.soleField "HomeRoll$Reader" "this$0") ∈ lw_all := lw_g (lw_at lw_m2 150 rfl) rfl
theorem q454 : (Jvm.Cond.superclass "HomeRoll$Reader" "java/lang/Object") ∈ lw_all := lw_g (lw_at lw_m2 151 rfl) rfl
theorem q456 : (Jvm.Cond.instanceMethod ({ cls := "HomeRoll$Reader", name := "text", desc := "()Ljava/util/ArrayList;" } : Jvm.MethodName)) ∈ lw_all := lw_g (lw_at lw_m2 153 rfl) rfl
theorem q457 : (Jvm.Cond.selects "HomeRoll$Reader" ({ cls := "HomeRoll$Reader", name := "text", desc := "()Ljava/util/ArrayList;" } : Jvm.MethodName) ({ cls := "HomeRoll$Reader", name := "text", desc := "()Ljava/util/ArrayList;" } : Jvm.MethodName)) ∈ lw_all := lw_g (lw_at lw_m2 154 rfl) rfl
theorem q458 : (Jvm.Cond.code ({ cls := "HomeRoll$Reader", name := "text", desc := "()Ljava/util/ArrayList;" } : Jvm.MethodName) prog_19_method_8_code (4 : Nat) (Option.some (Jvm.ClassFile.FieldType.object "java/util/ArrayList"))) ∈ lw_all := lw_g (lw_at lw_m2 155 rfl) rfl
theorem q459 : (Jvm.Cond.methodLink "HomeRoll$Reader" (88 : Nat) ({ cls := "HomeRoll$Reader", name := "next", desc := "()V" } : Jvm.MethodName)) ∈ lw_all := lw_g (lw_at lw_m2 156 rfl) rfl
theorem q460 : (Jvm.Cond.privateMethod ({ cls := "HomeRoll$Reader", name := "next", desc := "()V" } : Jvm.MethodName)) ∈ lw_tbl := lw_at lw_m2 157 rfl
theorem q461 : (Jvm.Cond.instanceMethod ({ cls := "HomeRoll$Reader", name := "next", desc := "()V" } : Jvm.MethodName)) ∈ lw_all := lw_g (lw_at lw_m2 158 rfl) rfl
theorem q462 : (Jvm.Cond.code ({ cls := "HomeRoll$Reader", name := "next", desc := "()V" } : Jvm.MethodName) prog_19_method_5_code (4 : Nat) (Option.none : Option Jvm.ClassFile.FieldType)) ∈ lw_all := lw_g (lw_at lw_m2 159 rfl) rfl
theorem q463 : (Jvm.Cond.methodLink "HomeRoll$Reader" (41 : Nat) ({ cls := "HomeRoll$Reader", name := "here", desc := "(I)I" } : Jvm.MethodName)) ∈ lw_all := lw_g (lw_at lw_m2 160 rfl) rfl
theorem q464 : (Jvm.Cond.privateMethod ({ cls := "HomeRoll$Reader", name := "here", desc := "(I)I" } : Jvm.MethodName)) ∈ lw_tbl := lw_at lw_m2 161 rfl
theorem q465 : (Jvm.Cond.instanceMethod ({ cls := "HomeRoll$Reader", name := "here", desc := "(I)I" } : Jvm.MethodName)) ∈ lw_all := lw_g (lw_at lw_m2 162 rfl) rfl
theorem q466 : (Jvm.Cond.code ({ cls := "HomeRoll$Reader", name := "here", desc := "(I)I" } : Jvm.MethodName) prog_19_method_2_code (2 : Nat) (Option.some Jvm.ClassFile.FieldType.int)) ∈ lw_all := lw_g (lw_at lw_m2 163 rfl) rfl
theorem q467 : (Jvm.Cond.methodLink "HomeRoll$Reader" (51 : Nat) ({ cls := "HomeRoll$Reader", name := "isLetter", desc := "(I)Z" } : Jvm.MethodName)) ∈ lw_all := lw_g (lw_at lw_m2 164 rfl) rfl
theorem q468 : (Jvm.Cond.privateMethod ({ cls := "HomeRoll$Reader", name := "isLetter", desc := "(I)Z" } : Jvm.MethodName)) ∈ lw_tbl := lw_at lw_m2 165 rfl
theorem q469 : (Jvm.Cond.instanceMethod ({ cls := "HomeRoll$Reader", name := "isLetter", desc := "(I)Z" } : Jvm.MethodName)) ∈ lw_all := lw_g (lw_at lw_m2 166 rfl) rfl
theorem q470 : (Jvm.Cond.code ({ cls := "HomeRoll$Reader", name := "isLetter", desc := "(I)Z" } : Jvm.MethodName) prog_19_method_3_code (2 : Nat) (Option.some Jvm.ClassFile.FieldType.boolean)) ∈ lw_all := lw_g (lw_at lw_m2 167 rfl) rfl
theorem q471 : (Jvm.Cond.classLink "HomeRoll$Reader" (55 : Nat) "java/lang/StringBuilder") ∈ lw_all := lw_g (lw_at lw_m2 168 rfl) rfl
theorem q473 : (Jvm.Cond.methodLink "HomeRoll$Reader" (57 : Nat) ({ cls := "java/lang/StringBuilder", name := "<init>", desc := "(I)V" } : Jvm.MethodName)) ∈ lw_all := lw_g (lw_at lw_m2 170 rfl) rfl
theorem q502 : (Jvm.Cond.methodLink "HomeRoll$Reader" (58 : Nat) ({ cls := "java/lang/StringBuilder", name := "append", desc := "(C)Ljava/lang/StringBuilder;" } : Jvm.MethodName)) ∈ lw_all := lw_g (lw_at lw_m2 199 rfl) rfl
theorem q595 : (Jvm.Cond.methodLink "HomeRoll$Reader" (62 : Nat) ({ cls := "java/lang/StringBuilder", name := "toString", desc := "()Ljava/lang/String;" } : Jvm.MethodName)) ∈ lw_all := lw_g (lw_at lw_m3 52 rfl) rfl
theorem q658 : (Jvm.Cond.methodLink "HomeRoll$Reader" (66 : Nat) ({ cls := "HomeRoll$Reader", name := "isDigit", desc := "(I)Z" } : Jvm.MethodName)) ∈ lw_all := lw_g (lw_at lw_m3 115 rfl) rfl
theorem q659 : (Jvm.Cond.privateMethod ({ cls := "HomeRoll$Reader", name := "isDigit", desc := "(I)Z" } : Jvm.MethodName)) ∈ lw_tbl := lw_at lw_m3 116 rfl
theorem q660 : (Jvm.Cond.instanceMethod ({ cls := "HomeRoll$Reader", name := "isDigit", desc := "(I)Z" } : Jvm.MethodName)) ∈ lw_all := lw_g (lw_at lw_m3 117 rfl) rfl
theorem q661 : (Jvm.Cond.code ({ cls := "HomeRoll$Reader", name := "isDigit", desc := "(I)Z" } : Jvm.MethodName) prog_19_method_4_code (2 : Nat) (Option.some Jvm.ClassFile.FieldType.boolean)) ∈ lw_all := lw_g (lw_at lw_m3 118 rfl) rfl
theorem q662 : (Jvm.Cond.stringRef "HomeRoll$Reader" (72 : Nat) ";()<>=+-") ∈ lw_tbl := lw_at lw_m3 119 rfl
theorem q663 : (Jvm.Cond.methodLink "HomeRoll$Reader" (74 : Nat) ({ cls := "java/lang/String", name := "indexOf", desc := "(I)I" } : Jvm.MethodName)) ∈ lw_all := lw_g (lw_at lw_m3 120 rfl) rfl
theorem q729 : (Jvm.Cond.stringRef "HomeRoll$Reader" (91 : Nat) "when") ∈ lw_tbl := lw_at lw_m3 186 rfl
theorem q730 : (Jvm.Cond.methodLink "HomeRoll$Reader" (93 : Nat) ({ cls := "HomeRoll$Reader", name := "is", desc := "(Ljava/lang/String;)Z" } : Jvm.MethodName)) ∈ lw_all := lw_g (lw_at lw_m3 187 rfl) rfl
theorem q731 : (Jvm.Cond.privateMethod ({ cls := "HomeRoll$Reader", name := "is", desc := "(Ljava/lang/String;)Z" } : Jvm.MethodName)) ∈ lw_tbl := lw_at lw_m3 188 rfl
theorem q732 : (Jvm.Cond.instanceMethod ({ cls := "HomeRoll$Reader", name := "is", desc := "(Ljava/lang/String;)Z" } : Jvm.MethodName)) ∈ lw_all := lw_g (lw_at lw_m3 189 rfl) rfl
theorem q733 : (Jvm.Cond.code ({ cls := "HomeRoll$Reader", name := "is", desc := "(Ljava/lang/String;)Z" } : Jvm.MethodName) prog_19_method_7_code (2 : Nat) (Option.some Jvm.ClassFile.FieldType.boolean)) ∈ lw_all := lw_g (lw_at lw_m3 190 rfl) rfl
theorem q734 : (Jvm.Cond.methodLink "HomeRoll$Reader" (84 : Nat) ({ cls := "java/lang/String", name := "equals", desc := "(Ljava/lang/Object;)Z" } : Jvm.MethodName)) ∈ lw_all := lw_g (lw_at lw_m3 191 rfl) rfl
theorem q742 : (Jvm.Cond.methodLink "HomeRoll$Reader" (97 : Nat) ({ cls := "java/util/ArrayList", name := "size", desc := "()I" } : Jvm.MethodName)) ∈ lw_all := lw_g (lw_at lw_m3 199 rfl) rfl
theorem q746 : (Jvm.Cond.methodLink "HomeRoll$Reader" (101 : Nat) ({ cls := "HomeRoll$Reader", name := "wrong", desc := "()LHomeRoll$Wrong;" } : Jvm.MethodName)) ∈ lw_all := lw_g (lw_at lw_m3 203 rfl) rfl
theorem q747 : (Jvm.Cond.privateMethod ({ cls := "HomeRoll$Reader", name := "wrong", desc := "()LHomeRoll$Wrong;" } : Jvm.MethodName)) ∈ lw_tbl := lw_at lw_m3 204 rfl
theorem q748 : (Jvm.Cond.instanceMethod ({ cls := "HomeRoll$Reader", name := "wrong", desc := "()LHomeRoll$Wrong;" } : Jvm.MethodName)) ∈ lw_all := lw_g (lw_at lw_m3 205 rfl) rfl
theorem q749 : (Jvm.Cond.code ({ cls := "HomeRoll$Reader", name := "wrong", desc := "()LHomeRoll$Wrong;" } : Jvm.MethodName) prog_19_method_6_code (1 : Nat) (Option.some (Jvm.ClassFile.FieldType.object "HomeRoll$Wrong"))) ∈ lw_all := lw_g (lw_at lw_m3 206 rfl) rfl
theorem q750 : (Jvm.Cond.classLink "HomeRoll$Reader" (79 : Nat) "HomeRoll$Wrong") ∈ lw_all := lw_g (lw_at lw_m3 207 rfl) rfl
theorem q787 : (Jvm.Cond.methodLink "HomeRoll$Reader" (81 : Nat) ({ cls := "HomeRoll$Wrong", name := "<init>", desc := "(II)V" } : Jvm.MethodName)) ∈ lw_all := lw_g (lw_at lw_m4 4 rfl) rfl
theorem q817 : (Jvm.Cond.methodLink "HomeRoll$Reader" (105 : Nat) ({ cls := "HomeRoll$Reader", name := "either", desc := "(I)LHomeRoll$Ex;" } : Jvm.MethodName)) ∈ lw_all := lw_g (lw_at lw_m4 34 rfl) rfl
theorem q818 : (Jvm.Cond.privateMethod ({ cls := "HomeRoll$Reader", name := "either", desc := "(I)LHomeRoll$Ex;" } : Jvm.MethodName)) ∈ lw_tbl := lw_at lw_m4 35 rfl
theorem q819 : (Jvm.Cond.instanceMethod ({ cls := "HomeRoll$Reader", name := "either", desc := "(I)LHomeRoll$Ex;" } : Jvm.MethodName)) ∈ lw_all := lw_g (lw_at lw_m4 36 rfl) rfl
theorem q820 : (Jvm.Cond.code ({ cls := "HomeRoll$Reader", name := "either", desc := "(I)LHomeRoll$Ex;" } : Jvm.MethodName) prog_19_method_11_code (3 : Nat) (Option.some (Jvm.ClassFile.FieldType.object "HomeRoll$Ex"))) ∈ lw_all := lw_g (lw_at lw_m4 37 rfl) rfl
theorem q821 : (Jvm.Cond.methodLink "HomeRoll$Reader" (139 : Nat) ({ cls := "HomeRoll$Reader", name := "deep", desc := "(I)V" } : Jvm.MethodName)) ∈ lw_all := lw_g (lw_at lw_m4 38 rfl) rfl
theorem q822 : (Jvm.Cond.privateMethod ({ cls := "HomeRoll$Reader", name := "deep", desc := "(I)V" } : Jvm.MethodName)) ∈ lw_tbl := lw_at lw_m4 39 rfl
theorem q823 : (Jvm.Cond.instanceMethod ({ cls := "HomeRoll$Reader", name := "deep", desc := "(I)V" } : Jvm.MethodName)) ∈ lw_all := lw_g (lw_at lw_m4 40 rfl) rfl
theorem q824 : (Jvm.Cond.code ({ cls := "HomeRoll$Reader", name := "deep", desc := "(I)V" } : Jvm.MethodName) prog_19_method_10_code (2 : Nat) (Option.none : Option Jvm.ClassFile.FieldType)) ∈ lw_all := lw_g (lw_at lw_m4 41 rfl) rfl
theorem q825 : (Jvm.Cond.methodLink "HomeRoll$Reader" (133 : Nat) ({ cls := "HomeRoll$Reader", name := "isTerm", desc := "()Z" } : Jvm.MethodName)) ∈ lw_all := lw_g (lw_at lw_m4 42 rfl) rfl
theorem q826 : (Jvm.Cond.privateMethod ({ cls := "HomeRoll$Reader", name := "isTerm", desc := "()Z" } : Jvm.MethodName)) ∈ lw_tbl := lw_at lw_m4 43 rfl
theorem q827 : (Jvm.Cond.instanceMethod ({ cls := "HomeRoll$Reader", name := "isTerm", desc := "()Z" } : Jvm.MethodName)) ∈ lw_all := lw_g (lw_at lw_m4 44 rfl) rfl
theorem q828 : (Jvm.Cond.code ({ cls := "HomeRoll$Reader", name := "isTerm", desc := "()Z" } : Jvm.MethodName) prog_19_method_9_code (1 : Nat) (Option.some Jvm.ClassFile.FieldType.boolean)) ∈ lw_all := lw_g (lw_at lw_m4 45 rfl) rfl
theorem q829 : (Jvm.Cond.methodLink "HomeRoll$Reader" (127 : Nat) ({ cls := "HomeRoll$Known", name := "find", desc := "(Ljava/lang/String;)LHomeRoll$Known;" } : Jvm.MethodName)) ∈ lw_all := lw_g (lw_at lw_m4 46 rfl) rfl
theorem q909 : (Jvm.Cond.stringRef "HomeRoll$Reader" (137 : Nat) "not") ∈ lw_tbl := lw_at lw_m4 126 rfl
theorem q910 : (Jvm.Cond.methodLink "HomeRoll$Reader" (142 : Nat) ({ cls := "HomeRoll$Reader", name := "both", desc := "(I)LHomeRoll$Ex;" } : Jvm.MethodName)) ∈ lw_all := lw_g (lw_at lw_m4 127 rfl) rfl
theorem q911 : (Jvm.Cond.privateMethod ({ cls := "HomeRoll$Reader", name := "both", desc := "(I)LHomeRoll$Ex;" } : Jvm.MethodName)) ∈ lw_tbl := lw_at lw_m4 128 rfl
theorem q912 : (Jvm.Cond.instanceMethod ({ cls := "HomeRoll$Reader", name := "both", desc := "(I)LHomeRoll$Ex;" } : Jvm.MethodName)) ∈ lw_all := lw_g (lw_at lw_m4 129 rfl) rfl
theorem q913 : (Jvm.Cond.code ({ cls := "HomeRoll$Reader", name := "both", desc := "(I)LHomeRoll$Ex;" } : Jvm.MethodName) prog_19_method_12_code (3 : Nat) (Option.some (Jvm.ClassFile.FieldType.object "HomeRoll$Ex"))) ∈ lw_all := lw_g (lw_at lw_m4 130 rfl) rfl
theorem q914 : (Jvm.Cond.methodLink "HomeRoll$Reader" (158 : Nat) ({ cls := "HomeRoll$Reader", name := "one", desc := "(I)LHomeRoll$Ex;" } : Jvm.MethodName)) ∈ lw_all := lw_g (lw_at lw_m4 131 rfl) rfl
theorem q915 : (Jvm.Cond.privateMethod ({ cls := "HomeRoll$Reader", name := "one", desc := "(I)LHomeRoll$Ex;" } : Jvm.MethodName)) ∈ lw_tbl := lw_at lw_m4 132 rfl
theorem q916 : (Jvm.Cond.instanceMethod ({ cls := "HomeRoll$Reader", name := "one", desc := "(I)LHomeRoll$Ex;" } : Jvm.MethodName)) ∈ lw_all := lw_g (lw_at lw_m4 133 rfl) rfl
theorem q917 : (Jvm.Cond.code ({ cls := "HomeRoll$Reader", name := "one", desc := "(I)LHomeRoll$Ex;" } : Jvm.MethodName) prog_19_method_13_code (4 : Nat) (Option.some (Jvm.ClassFile.FieldType.object "HomeRoll$Ex"))) ∈ lw_all := lw_g (lw_at lw_m4 134 rfl) rfl
theorem q918 : (Jvm.Cond.classLink "HomeRoll$Reader" (163 : Nat) "HomeRoll$Not") ∈ lw_all := lw_g (lw_at lw_m4 135 rfl) rfl
theorem q920 : (Jvm.Cond.methodLink "HomeRoll$Reader" (165 : Nat) ({ cls := "HomeRoll$Not", name := "<init>", desc := "(LHomeRoll;LHomeRoll$Ex;)V" } : Jvm.MethodName)) ∈ lw_all := lw_g (lw_at lw_m4 137 rfl) rfl
theorem q937 : (Jvm.Cond.methodLink "HomeRoll$Reader" (168 : Nat) ({ cls := "HomeRoll$Reader", name := "sum", desc := "()LHomeRoll$Ex;" } : Jvm.MethodName)) ∈ lw_all := lw_g (lw_at lw_m4 154 rfl) rfl
theorem q938 : (Jvm.Cond.privateMethod ({ cls := "HomeRoll$Reader", name := "sum", desc := "()LHomeRoll$Ex;" } : Jvm.MethodName)) ∈ lw_tbl := lw_at lw_m4 155 rfl
theorem q939 : (Jvm.Cond.instanceMethod ({ cls := "HomeRoll$Reader", name := "sum", desc := "()LHomeRoll$Ex;" } : Jvm.MethodName)) ∈ lw_all := lw_g (lw_at lw_m4 156 rfl) rfl
theorem q940 : (Jvm.Cond.code ({ cls := "HomeRoll$Reader", name := "sum", desc := "()LHomeRoll$Ex;" } : Jvm.MethodName) prog_19_method_14_code (3 : Nat) (Option.some (Jvm.ClassFile.FieldType.object "HomeRoll$Ex"))) ∈ lw_all := lw_g (lw_at lw_m4 157 rfl) rfl
theorem q941 : (Jvm.Cond.methodLink "HomeRoll$Reader" (177 : Nat) ({ cls := "HomeRoll$Reader", name := "term", desc := "()LHomeRoll$Ex;" } : Jvm.MethodName)) ∈ lw_all := lw_g (lw_at lw_m4 158 rfl) rfl
theorem q942 : (Jvm.Cond.privateMethod ({ cls := "HomeRoll$Reader", name := "term", desc := "()LHomeRoll$Ex;" } : Jvm.MethodName)) ∈ lw_tbl := lw_at lw_m4 159 rfl
theorem q943 : (Jvm.Cond.instanceMethod ({ cls := "HomeRoll$Reader", name := "term", desc := "()LHomeRoll$Ex;" } : Jvm.MethodName)) ∈ lw_all := lw_g (lw_at lw_m4 160 rfl) rfl
theorem q944 : (Jvm.Cond.code ({ cls := "HomeRoll$Reader", name := "term", desc := "()LHomeRoll$Ex;" } : Jvm.MethodName) prog_19_method_15_code (2 : Nat) (Option.some (Jvm.ClassFile.FieldType.object "HomeRoll$Ex"))) ∈ lw_all := lw_g (lw_at lw_m4 161 rfl) rfl
theorem q945 : (Jvm.Cond.classLink "HomeRoll$Reader" (183 : Nat) "HomeRoll$Plain") ∈ lw_all := lw_g (lw_at lw_m4 162 rfl) rfl
theorem q947 : (Jvm.Cond.methodLink "HomeRoll$Reader" (185 : Nat) ({ cls := "HomeRoll$Plain", name := "<init>", desc := "(LHomeRoll;I)V" } : Jvm.MethodName)) ∈ lw_all := lw_g (lw_at lw_m4 164 rfl) rfl
theorem q959 : (Jvm.Cond.classLink "HomeRoll$Reader" (188 : Nat) "HomeRoll$Term") ∈ lw_all := lw_g (lw_at lw_m4 176 rfl) rfl
theorem q961 : (Jvm.Cond.methodLink "HomeRoll$Reader" (190 : Nat) ({ cls := "HomeRoll$Term", name := "<init>", desc := "(LHomeRoll;LHomeRoll$Known;)V" } : Jvm.MethodName)) ∈ lw_all := lw_g (lw_at lw_m4 178 rfl) rfl
theorem q973 : (Jvm.Cond.classLink "HomeRoll$Reader" (172 : Nat) "HomeRoll$Both") ∈ lw_all := lw_g (lw_at lw_m4 190 rfl) rfl
theorem q975 : (Jvm.Cond.methodLink "HomeRoll$Reader" (174 : Nat) ({ cls := "HomeRoll$Both", name := "<init>", desc := "(LHomeRoll;LHomeRoll$Ex;ILHomeRoll$Ex;)V" } : Jvm.MethodName)) ∈ lw_all := lw_g (lw_at lw_m4 192 rfl) rfl
theorem q993 : (Jvm.Cond.methodLink "HomeRoll$Reader" (124 : Nat) ({ cls := "java/util/ArrayList", name := "add", desc := "(Ljava/lang/Object;)Z" } : Jvm.MethodName)) ∈ lw_all := lw_g (lw_at lw_m4 210 rfl) rfl
theorem q1034 : (Jvm.Cond.selects "HomeRoll$Reader" ({ cls := "java/lang/Object", name := "getClass", desc := "()Ljava/lang/Class;" } : Jvm.MethodName) ({ cls := "java/lang/Object", name := "getClass", desc := "()Ljava/lang/Class;" } : Jvm.MethodName)) ∈ lw_all := lw_g (lw_at lw_m5 11 rfl) rfl
theorem q1050 : (Jvm.Cond.stringRef "HomeRoll$Reader" (161 : Nat) "and") ∈ lw_tbl := lw_at lw_m5 27 rfl
theorem q1051 : (Jvm.Cond.methodLink "HomeRoll$Reader" (147 : Nat) ({ cls := "java/util/ArrayList", name := "get", desc := "(I)Ljava/lang/Object;" } : Jvm.MethodName)) ∈ lw_all := lw_g (lw_at lw_m5 28 rfl) rfl
theorem q1063 : (Jvm.Cond.classLink "HomeRoll$Reader" (151 : Nat) "HomeRoll$Ex") ∈ lw_all := lw_g (lw_at lw_m5 40 rfl) rfl
theorem q1064 : (Jvm.Cond.classLink "HomeRoll$Reader" (153 : Nat) "HomeRoll$Join") ∈ lw_all := lw_g (lw_at lw_m5 41 rfl) rfl
theorem q1066 : (Jvm.Cond.methodLink "HomeRoll$Reader" (155 : Nat) ({ cls := "HomeRoll$Join", name := "<init>", desc := "(LHomeRoll;Ljava/util/ArrayList;Z)V" } : Jvm.MethodName)) ∈ lw_all := lw_g (lw_at lw_m5 43 rfl) rfl
theorem q1081 : (Jvm.Cond.stringRef "HomeRoll$Reader" (145 : Nat) "or") ∈ lw_tbl := lw_at lw_m5 58 rfl
theorem q1082 : (Jvm.Cond.stringRef "HomeRoll$Reader" (109 : Nat) "do") ∈ lw_tbl := lw_at lw_m5 59 rfl
theorem q1083 : (Jvm.Cond.stringRef "HomeRoll$Reader" (111 : Nat) "back") ∈ lw_tbl := lw_at lw_m5 60 rfl
theorem q1084 : (Jvm.Cond.stringRef "HomeRoll$Reader" (113 : Nat) "other") ∈ lw_tbl := lw_at lw_m5 61 rfl
theorem q1085 : (Jvm.Cond.stringRef "HomeRoll$Reader" (115 : Nat) "money") ∈ lw_tbl := lw_at lw_m5 62 rfl
theorem q1086 : (Jvm.Cond.stringRef "HomeRoll$Reader" (117 : Nat) "none") ∈ lw_tbl := lw_at lw_m5 63 rfl
theorem q1087 : (Jvm.Cond.classLink "HomeRoll$Reader" (119 : Nat) "HomeRoll$Line") ∈ lw_all := lw_g (lw_at lw_m5 64 rfl) rfl
theorem q1089 : (Jvm.Cond.methodLink "HomeRoll$Reader" (121 : Nat) ({ cls := "HomeRoll$Line", name := "<init>", desc := "(LHomeRoll$Ex;II)V" } : Jvm.MethodName)) ∈ lw_all := lw_g (lw_at lw_m5 66 rfl) rfl
theorem q1726 : (Jvm.Cond.castable "HomeRoll$Reader" "java/lang/Object") ∈ lw_tbl := lw_at lw_m7 223 rfl
theorem in_X5 : ∀ w ∈ wsX50, w ∈ lw_all := lw_in wsX50 [438, 440, 442, 444, 446, 448, 450, 452] (by decide +kernel) (by decide +kernel)
/-! HomeRoll$Wrong -/
def RX6 : String := "HomeRoll$Wrong"
def TX6 : u_T := fun k => match k with
  | 0 => ("java/lang/Throwable", "cause", "Ljava/lang/Throwable;", false)
  | 1 => ("java/lang/Throwable", "stackTrace", "[Ljava/lang/StackTraceElement;", false)
  | 2 => ("java/lang/Throwable", "suppressedExceptions", "Ljava/util/List;", false)
  | 3 => ("java/lang/Throwable", "detailMessage", "Ljava/lang/String;", false)
  | 4 => ("java/lang/Throwable", "backtrace", "Ljava/lang/Object;", false)
  | 5 => ("java/lang/Throwable", "depth", "I", false)
  | 6 => ("HomeRoll$Wrong", "kind", "I", true)
  | _ => ("HomeRoll$Wrong", "place", "I", true)
def tyX6 : Nat → FieldType := fun k => match k with
  | 0 => .object "java/lang/Throwable"
  | 1 => .array (.object "java/lang/StackTraceElement")
  | 2 => .object "java/util/List"
  | 3 => .object "java/lang/String"
  | 4 => .object "java/lang/Object"
  | 5 => .int
  | 6 => .int
  | _ => .int
abbrev wsX60 : List Cond := u_ws RX6 TX6 8
theorem nmX6 : ∀ a, a < 8 → ∀ b, b < 8 → a ≠ b → (TX6 a).2.1 ≠ (TX6 b).2.1 := by decide +kernel
theorem tyX6_ok : ∀ k, k < 8 → parseFieldDescriptor (TX6 k).2.2.1 = some (tyX6 k) := by decide +kernel
abbrev cX6_init : ByteArray := prog_22_method_1_code
def yX6_init : MethodName := ⟨RX6, "<init>", "(II)V"⟩
theorem q87 : (Jvm.Cond.initialized "HomeRoll$Wrong") ∈ lw_all := lw_g (lw_at lw_m1 24 rfl) rfl
theorem q751 : (Jvm.Cond.instantiable "HomeRoll$Wrong" (8 : Nat)) ∈ lw_all := lw_g (lw_at lw_m3 208 rfl) rfl
theorem q752 : (Jvm.Cond.castable "HomeRoll$Wrong" "HomeRoll$Wrong") ∈ lw_tbl := lw_at lw_m3 209 rfl
theorem q757 : (Jvm.Cond.selects "HomeRoll$Wrong" ({ cls := "java/lang/Throwable", name := "fillInStackTrace", desc := "(I)Ljava/lang/Throwable;" } : Jvm.MethodName) ({ cls := "java/lang/Throwable", name := "fillInStackTrace", desc := "(I)Ljava/lang/Throwable;" } : Jvm.MethodName)) ∈ lw_all := lw_g (lw_at lw_m3 214 rfl) rfl
theorem q758 : (Jvm.Cond.selects "HomeRoll$Wrong" ({ cls := "java/lang/Throwable", name := "fillInStackTrace", desc := "()Ljava/lang/Throwable;" } : Jvm.MethodName) ({ cls := "java/lang/Throwable", name := "fillInStackTrace", desc := "()Ljava/lang/Throwable;" } : Jvm.MethodName)) ∈ lw_all := lw_g (lw_at lw_m3 215 rfl) rfl
theorem q759 : (Jvm.Cond.lays "HomeRoll$Wrong" "java/lang/Throwable" "cause" "Ljava/lang/Throwable;") ∈ lw_all := lw_g (lw_at lw_m3 216 rfl) rfl
theorem q761 : (Jvm.Cond.lays "HomeRoll$Wrong" "java/lang/Throwable" "stackTrace" "[Ljava/lang/StackTraceElement;") ∈ lw_all := lw_g (lw_at lw_m3 218 rfl) rfl
theorem q763 : (Jvm.Cond.lays "HomeRoll$Wrong" "java/lang/Throwable" "suppressedExceptions" "Ljava/util/List;") ∈ lw_all := lw_g (lw_at lw_m3 220 rfl) rfl
theorem q765 : (Jvm.Cond.lays "HomeRoll$Wrong" "java/lang/Throwable" "detailMessage" "Ljava/lang/String;") ∈ lw_all := lw_g (lw_at lw_m3 222 rfl) rfl
theorem q767 : (Jvm.Cond.lays "HomeRoll$Wrong" "java/lang/Throwable" "backtrace" "Ljava/lang/Object;") ∈ lw_all := lw_g (lw_at lw_m3 224 rfl) rfl
theorem q788 : (Jvm.Cond.instanceMethod ({ cls := "HomeRoll$Wrong", name := "<init>", desc := "(II)V" } : Jvm.MethodName)) ∈ lw_all := lw_g (lw_at lw_m4 5 rfl) rfl
theorem q789 : (Jvm.Cond.code ({ cls := "HomeRoll$Wrong", name := "<init>", desc := "(II)V" } : Jvm.MethodName) prog_22_method_1_code (3 : Nat) (Option.none : Option Jvm.ClassFile.FieldType)) ∈ lw_all := lw_g (lw_at lw_m4 6 rfl) rfl
theorem q790 : (Jvm.Cond.methodLink "HomeRoll$Wrong" (1 : Nat) ({ cls := "java/lang/Exception", name := "<init>", desc := "(Ljava/lang/String;Ljava/lang/Throwable;ZZ)V" } : Jvm.MethodName)) ∈ lw_all := lw_g (lw_at lw_m4 7 rfl) rfl
theorem q796 : (Jvm.Cond.fieldLink "HomeRoll$Wrong" (7 : Nat) "HomeRoll$Wrong" "kind" "I") ∈ lw_all := lw_g (lw_at lw_m4 13 rfl) rfl
theorem q798 : (Jvm.Cond.fieldLink "HomeRoll$Wrong" (13 : Nat) "HomeRoll$Wrong" "place" "I") ∈ lw_all := lw_g (lw_at lw_m4 15 rfl) rfl
theorem q805 : (Jvm.Cond.laysFinal "HomeRoll$Wrong" "HomeRoll$Wrong" "kind" "I") ∈ lw_all := lw_g (lw_at lw_m4 22 rfl) rfl
theorem q806 : (Jvm.Cond.soleField "HomeRoll$Wrong" "kind") ∈ lw_all := lw_g (lw_at lw_m4 23 rfl) rfl
theorem q807 : (Jvm.Cond.laysFinal "HomeRoll$Wrong" "HomeRoll$Wrong" "place" "I") ∈ lw_all := lw_g (lw_at lw_m4 24 rfl) rfl
theorem q808 : (Jvm.Cond.soleField "HomeRoll$Wrong" "place") ∈ lw_all := lw_g (lw_at lw_m4 25 rfl) rfl
theorem q813 : (Jvm.Cond.lays "HomeRoll$Wrong" "java/lang/Throwable" "depth" "I") ∈ lw_all := lw_g (lw_at lw_m4 30 rfl) rfl
theorem q816 : (Jvm.Cond.superclass "HomeRoll$Wrong" "java/lang/Exception") ∈ lw_all := lw_g (lw_at lw_m4 33 rfl) rfl
theorem q1037 : (Jvm.Cond.selects "HomeRoll$Wrong" ({ cls := "java/lang/Object", name := "getClass", desc := "()Ljava/lang/Class;" } : Jvm.MethodName) ({ cls := "java/lang/Object", name := "getClass", desc := "()Ljava/lang/Class;" } : Jvm.MethodName)) ∈ lw_all := lw_g (lw_at lw_m5 14 rfl) rfl
theorem q1729 : (Jvm.Cond.castable "HomeRoll$Wrong" "java/lang/Object") ∈ lw_tbl := lw_at lw_m7 226 rfl
theorem in_X6 : ∀ w ∈ wsX60, w ∈ lw_all := lw_in wsX60 [759, 761, 763, 765, 767, 813, 805, 807] (by decide +kernel) (by decide +kernel)
/-! HomeRoll$Ex -/
def RX7 : String := "HomeRoll$Ex"
abbrev cX7_init : ByteArray := prog_3_method_1_code
def yX7_init : MethodName := ⟨RX7, "<init>", "(LHomeRoll;)V"⟩
theorem q88 : (Jvm.Cond.initialized "HomeRoll$Ex") ∈ lw_all := lw_g (lw_at lw_m1 25 rfl) rfl
theorem q924 : (Jvm.Cond.instanceMethod ({ cls := "HomeRoll$Ex", name := "<init>", desc := "(LHomeRoll;)V" } : Jvm.MethodName)) ∈ lw_all := lw_g (lw_at lw_m4 141 rfl) rfl
theorem q925 : (Jvm.Cond.code ({ cls := "HomeRoll$Ex", name := "<init>", desc := "(LHomeRoll;)V" } : Jvm.MethodName) prog_3_method_1_code (2 : Nat) (Option.none : Option Jvm.ClassFile.FieldType)) ∈ lw_all := lw_g (lw_at lw_m4 142 rfl) rfl
theorem q926 : (Jvm.Cond.methodLink "HomeRoll$Ex" (7 : Nat) ({ cls := "java/lang/Object", name := "<init>", desc := "()V" } : Jvm.MethodName)) ∈ lw_all := lw_g (lw_at lw_m4 143 rfl) rfl
theorem q929 : (Jvm.Cond.fieldLink "HomeRoll$Ex" (1 : Nat) "HomeRoll$Ex" "this$0" "LHomeRoll;") ∈ lw_all := lw_g (lw_at lw_m4 146 rfl) rfl
theorem q935 : (Jvm.Cond.soleField "HomeRoll$Ex" "this$0") ∈ lw_all := lw_g (lw_at lw_m4 152 rfl) rfl
theorem q1130 : (Jvm.Cond.declares ({ cls := "HomeRoll$Ex", name := "of", desc := "(LHomeRoll$View;)I" } : Jvm.MethodName)) ∈ lw_tbl := lw_at lw_m5 107 rfl
theorem q1131 : (Jvm.Cond.sameMethod "HomeRoll$Ex" "HomeRoll$Ex" "of" "(LHomeRoll$View;)I") ∈ lw_all := lw_g (lw_at lw_m5 108 rfl) rfl
/-! HomeRoll$Not -/
def RX8 : String := "HomeRoll$Not"
def TX8 : u_T := fun k => match k with
  | 0 => ("HomeRoll$Ex", "this$0", "LHomeRoll;", true)
  | 1 => ("HomeRoll$Not", "of", "LHomeRoll$Ex;", true)
  | _ => ("HomeRoll$Not", "this$0", "LHomeRoll;", true)
def tyX8 : Nat → FieldType := fun k => match k with
  | 0 => .object "HomeRoll"
  | 1 => .object "HomeRoll$Ex"
  | _ => .object "HomeRoll"
abbrev wsX80 : List Cond := u_ws RX8 TX8 3
-- two fields of one name: no nmX8
theorem tyX8_ok : ∀ k, k < 3 → parseFieldDescriptor (TX8 k).2.2.1 = some (tyX8 k) := by decide +kernel
abbrev cX8_init : ByteArray := prog_16_method_1_code
def yX8_init : MethodName := ⟨RX8, "<init>", "(LHomeRoll;LHomeRoll$Ex;)V"⟩
abbrev cX8_of : ByteArray := prog_16_method_2_code
def yX8_of : MethodName := ⟨RX8, "of", "(LHomeRoll$View;)I"⟩
theorem q89 : (Jvm.Cond.initialized "HomeRoll$Not") ∈ lw_all := lw_g (lw_at lw_m1 26 rfl) rfl
theorem q919 : (Jvm.Cond.instantiable "HomeRoll$Not" (3 : Nat)) ∈ lw_all := lw_g (lw_at lw_m4 136 rfl) rfl
theorem q921 : (Jvm.Cond.instanceMethod ({ cls := "HomeRoll$Not", name := "<init>", desc := "(LHomeRoll;LHomeRoll$Ex;)V" } : Jvm.MethodName)) ∈ lw_all := lw_g (lw_at lw_m4 138 rfl) rfl
theorem q922 : (Jvm.Cond.code ({ cls := "HomeRoll$Not", name := "<init>", desc := "(LHomeRoll;LHomeRoll$Ex;)V" } : Jvm.MethodName) prog_16_method_1_code (3 : Nat) (Option.none : Option Jvm.ClassFile.FieldType)) ∈ lw_all := lw_g (lw_at lw_m4 139 rfl) rfl
theorem q923 : (Jvm.Cond.methodLinkNest "HomeRoll$Not" (7 : Nat) ({ cls := "HomeRoll$Ex", name := "<init>", desc := "(LHomeRoll;)V" } : Jvm.MethodName) "HomeRoll") ∈ lw_tbl := lw_at lw_m4 140 rfl
theorem q927 : (Jvm.Cond.fieldLink "HomeRoll$Not" (13 : Nat) "HomeRoll$Not" "of" "LHomeRoll$Ex;") ∈ lw_all := lw_g (lw_at lw_m4 144 rfl) rfl
theorem q928 : (Jvm.Cond.fieldLink "HomeRoll$Not" (1 : Nat) "HomeRoll$Not" "this$0" "LHomeRoll;") ∈ lw_all := lw_g (lw_at lw_m4 145 rfl) rfl
theorem q930 : (Jvm.Cond.laysFinal "HomeRoll$Not" "HomeRoll$Not" "of" "LHomeRoll$Ex;") ∈ lw_all := lw_g (lw_at lw_m4 147 rfl) rfl
theorem q931 : (Jvm.Cond.soleField "HomeRoll$Not" "of") ∈ lw_all := lw_g (lw_at lw_m4 148 rfl) rfl
theorem q932 : (Jvm.Cond.laysFinal "HomeRoll$Not" "HomeRoll$Not" "this$0" "LHomeRoll;") ∈ lw_all := lw_g (lw_at lw_m4 149 rfl) rfl
theorem q933 : (Jvm.Cond.soleField "HomeRoll$Not" "this$0") ∈ lw_all := lw_g (lw_at lw_m4 150 rfl) rfl
theorem q934 : (Jvm.Cond.laysFinal "HomeRoll$Not" "HomeRoll$Ex" "this$0" "LHomeRoll;") ∈ lw_all := lw_g (lw_at lw_m4 151 rfl) rfl
theorem q936 : (Jvm.Cond.superclass "HomeRoll$Not" "HomeRoll$Ex") ∈ lw_all := lw_g (lw_at lw_m4 153 rfl) rfl
theorem q1031 : (Jvm.Cond.selects "HomeRoll$Not" ({ cls := "java/lang/Object", name := "getClass", desc := "()Ljava/lang/Class;" } : Jvm.MethodName) ({ cls := "java/lang/Object", name := "getClass", desc := "()Ljava/lang/Class;" } : Jvm.MethodName)) ∈ lw_all := lw_g (lw_at lw_m5 8 rfl) rfl
theorem q1142 : (Jvm.Cond.instanceMethod ({ cls := "HomeRoll$Not", name := "of", desc := "(LHomeRoll$View;)I" } : Jvm.MethodName)) ∈ lw_all := lw_g (lw_at lw_m5 119 rfl) rfl
theorem q1143 : (Jvm.Cond.code ({ cls := "HomeRoll$Not", name := "of", desc := "(LHomeRoll$View;)I" } : Jvm.MethodName) prog_16_method_2_code (2 : Nat) (Option.some Jvm.ClassFile.FieldType.int)) ∈ lw_all := lw_g (lw_at lw_m5 120 rfl) rfl
theorem q1144 : (Jvm.Cond.methodLink "HomeRoll$Not" (17 : Nat) ({ cls := "HomeRoll$Ex", name := "of", desc := "(LHomeRoll$View;)I" } : Jvm.MethodName)) ∈ lw_all := lw_g (lw_at lw_m5 121 rfl) rfl
theorem q1202 : (Jvm.Cond.selects "HomeRoll$Not" ({ cls := "HomeRoll$Ex", name := "of", desc := "(LHomeRoll$View;)I" } : Jvm.MethodName) ({ cls := "HomeRoll$Not", name := "of", desc := "(LHomeRoll$View;)I" } : Jvm.MethodName)) ∈ lw_all := lw_g (lw_at lw_m5 179 rfl) rfl
theorem q1708 : (Jvm.Cond.castable "HomeRoll$Not" "HomeRoll$Ex") ∈ lw_tbl := lw_at lw_m7 205 rfl
theorem q1731 : (Jvm.Cond.castable "HomeRoll$Not" "java/lang/Object") ∈ lw_tbl := lw_at lw_m7 228 rfl
theorem in_X8 : ∀ w ∈ wsX80, w ∈ lw_all := lw_in wsX80 [934, 930, 932] (by decide +kernel) (by decide +kernel)
/-! HomeRoll$Plain -/
def RX9 : String := "HomeRoll$Plain"
def TX9 : u_T := fun k => match k with
  | 0 => ("HomeRoll$Ex", "this$0", "LHomeRoll;", true)
  | 1 => ("HomeRoll$Plain", "n", "I", true)
  | _ => ("HomeRoll$Plain", "this$0", "LHomeRoll;", true)
def tyX9 : Nat → FieldType := fun k => match k with
  | 0 => .object "HomeRoll"
  | 1 => .int
  | _ => .object "HomeRoll"
abbrev wsX90 : List Cond := u_ws RX9 TX9 3
-- two fields of one name: no nmX9
theorem tyX9_ok : ∀ k, k < 3 → parseFieldDescriptor (TX9 k).2.2.1 = some (tyX9 k) := by decide +kernel
abbrev cX9_init : ByteArray := prog_18_method_1_code
def yX9_init : MethodName := ⟨RX9, "<init>", "(LHomeRoll;I)V"⟩
abbrev cX9_of : ByteArray := prog_18_method_2_code
def yX9_of : MethodName := ⟨RX9, "of", "(LHomeRoll$View;)I"⟩
theorem q90 : (Jvm.Cond.initialized "HomeRoll$Plain") ∈ lw_all := lw_g (lw_at lw_m1 27 rfl) rfl
theorem q946 : (Jvm.Cond.instantiable "HomeRoll$Plain" (3 : Nat)) ∈ lw_all := lw_g (lw_at lw_m4 163 rfl) rfl
theorem q948 : (Jvm.Cond.instanceMethod ({ cls := "HomeRoll$Plain", name := "<init>", desc := "(LHomeRoll;I)V" } : Jvm.MethodName)) ∈ lw_all := lw_g (lw_at lw_m4 165 rfl) rfl
theorem q949 : (Jvm.Cond.code ({ cls := "HomeRoll$Plain", name := "<init>", desc := "(LHomeRoll;I)V" } : Jvm.MethodName) prog_18_method_1_code (3 : Nat) (Option.none : Option Jvm.ClassFile.FieldType)) ∈ lw_all := lw_g (lw_at lw_m4 166 rfl) rfl
theorem q950 : (Jvm.Cond.methodLinkNest "HomeRoll$Plain" (7 : Nat) ({ cls := "HomeRoll$Ex", name := "<init>", desc := "(LHomeRoll;)V" } : Jvm.MethodName) "HomeRoll") ∈ lw_tbl := lw_at lw_m4 167 rfl
theorem q951 : (Jvm.Cond.fieldLink "HomeRoll$Plain" (13 : Nat) "HomeRoll$Plain" "n" "I") ∈ lw_all := lw_g (lw_at lw_m4 168 rfl) rfl
theorem q952 : (Jvm.Cond.fieldLink "HomeRoll$Plain" (1 : Nat) "HomeRoll$Plain" "this$0" "LHomeRoll;") ∈ lw_all := lw_g (lw_at lw_m4 169 rfl) rfl
theorem q953 : (Jvm.Cond.laysFinal "HomeRoll$Plain" "HomeRoll$Plain" "n" "I") ∈ lw_all := lw_g (lw_at lw_m4 170 rfl) rfl
theorem q954 : (Jvm.Cond.soleField "HomeRoll$Plain" "n") ∈ lw_all := lw_g (lw_at lw_m4 171 rfl) rfl
theorem q955 : (Jvm.Cond.laysFinal "HomeRoll$Plain" "HomeRoll$Plain" "this$0" "LHomeRoll;") ∈ lw_all := lw_g (lw_at lw_m4 172 rfl) rfl
theorem q956 : (Jvm.Cond.soleField "HomeRoll$Plain" "this$0") ∈ lw_all := lw_g (lw_at lw_m4 173 rfl) rfl
theorem q957 : (Jvm.Cond.laysFinal "HomeRoll$Plain" "HomeRoll$Ex" "this$0" "LHomeRoll;") ∈ lw_all := lw_g (lw_at lw_m4 174 rfl) rfl
theorem q958 : (Jvm.Cond.superclass "HomeRoll$Plain" "HomeRoll$Ex") ∈ lw_all := lw_g (lw_at lw_m4 175 rfl) rfl
theorem q1033 : (Jvm.Cond.selects "HomeRoll$Plain" ({ cls := "java/lang/Object", name := "getClass", desc := "()Ljava/lang/Class;" } : Jvm.MethodName) ({ cls := "java/lang/Object", name := "getClass", desc := "()Ljava/lang/Class;" } : Jvm.MethodName)) ∈ lw_all := lw_g (lw_at lw_m5 10 rfl) rfl
theorem q1145 : (Jvm.Cond.instanceMethod ({ cls := "HomeRoll$Plain", name := "of", desc := "(LHomeRoll$View;)I" } : Jvm.MethodName)) ∈ lw_all := lw_g (lw_at lw_m5 122 rfl) rfl
theorem q1146 : (Jvm.Cond.code ({ cls := "HomeRoll$Plain", name := "of", desc := "(LHomeRoll$View;)I" } : Jvm.MethodName) prog_18_method_2_code (2 : Nat) (Option.some Jvm.ClassFile.FieldType.int)) ∈ lw_all := lw_g (lw_at lw_m5 123 rfl) rfl
theorem q1203 : (Jvm.Cond.selects "HomeRoll$Plain" ({ cls := "HomeRoll$Ex", name := "of", desc := "(LHomeRoll$View;)I" } : Jvm.MethodName) ({ cls := "HomeRoll$Plain", name := "of", desc := "(LHomeRoll$View;)I" } : Jvm.MethodName)) ∈ lw_all := lw_g (lw_at lw_m5 180 rfl) rfl
theorem q1709 : (Jvm.Cond.castable "HomeRoll$Plain" "HomeRoll$Ex") ∈ lw_tbl := lw_at lw_m7 206 rfl
theorem q1732 : (Jvm.Cond.castable "HomeRoll$Plain" "java/lang/Object") ∈ lw_tbl := lw_at lw_m7 229 rfl
theorem in_X9 : ∀ w ∈ wsX90, w ∈ lw_all := lw_in wsX90 [957, 953, 955] (by decide +kernel) (by decide +kernel)
theorem q63 : (Jvm.Cond.initialized "HomeRollLaw") ∈ lw_all := lw_g (lw_at lw_m1 0 rfl) rfl
theorem q96 : (Jvm.Cond.classLink "HomeRollLaw" (7 : Nat) "HomeRoll") ∈ lw_all := lw_g (lw_at lw_m1 33 rfl) rfl
theorem q98 : (Jvm.Cond.methodLink "HomeRollLaw" (9 : Nat) ({ cls := "HomeRoll", name := "<init>", desc := "()V" } : Jvm.MethodName)) ∈ lw_all := lw_g (lw_at lw_m1 35 rfl) rfl
theorem q285 : (Jvm.Cond.methodLink "HomeRollLaw" (13 : Nat) ({ cls := "HomeRoll", name := "person", desc := "(II)I" } : Jvm.MethodName)) ∈ lw_all := lw_g (lw_at lw_m1 222 rfl) rfl
theorem q293 : (Jvm.Cond.methodLink "HomeRollLaw" (18 : Nat) ({ cls := "HomeRoll", name := "dead", desc := "(II)Z" } : Jvm.MethodName)) ∈ lw_all := lw_g (lw_at lw_m1 230 rfl) rfl
theorem q301 : (Jvm.Cond.methodLink "HomeRollLaw" (23 : Nat) ({ cls := "HomeRoll", name := "house", desc := "(II)I" } : Jvm.MethodName)) ∈ lw_all := lw_g (lw_at lw_m1 238 rfl) rfl
theorem q306 : (Jvm.Cond.methodLink "HomeRollLaw" (27 : Nat) ({ cls := "HomeRoll", name := "level", desc := "(II)Z" } : Jvm.MethodName)) ∈ lw_all := lw_g (lw_at lw_m2 3 rfl) rfl
theorem q313 : (Jvm.Cond.methodLink "HomeRollLaw" (31 : Nat) ({ cls := "HomeRoll", name := "money", desc := "(III)J" } : Jvm.MethodName)) ∈ lw_all := lw_g (lw_at lw_m2 10 rfl) rfl
theorem q322 : (Jvm.Cond.methodLink "HomeRollLaw" (36 : Nat) ({ cls := "HomeRoll", name := "paper", desc := "(IIIIII)I" } : Jvm.MethodName)) ∈ lw_all := lw_g (lw_at lw_m2 19 rfl) rfl
theorem q376 : (Jvm.Cond.methodLink "HomeRollLaw" (41 : Nat) ({ cls := "HomeRoll", name := "isFalse", desc := "(I)Z" } : Jvm.MethodName)) ∈ lw_all := lw_g (lw_at lw_m2 73 rfl) rfl
theorem q384 : (Jvm.Cond.methodLink "HomeRollLaw" (46 : Nat) ({ cls := "HomeRoll", name := "later", desc := "(I)I" } : Jvm.MethodName)) ∈ lw_all := lw_g (lw_at lw_m2 81 rfl) rfl
theorem q388 : (Jvm.Cond.methodLink "HomeRollLaw" (51 : Nat) ({ cls := "HomeRoll", name := "holder", desc := "(III)I" } : Jvm.MethodName)) ∈ lw_all := lw_g (lw_at lw_m2 85 rfl) rfl
theorem q404 : (Jvm.Cond.methodLink "HomeRollLaw" (56 : Nat) ({ cls := "HomeRoll", name := "loose", desc := "(II)I" } : Jvm.MethodName)) ∈ lw_all := lw_g (lw_at lw_m2 101 rfl) rfl
theorem q408 : (Jvm.Cond.methodLink "HomeRollLaw" (60 : Nat) ({ cls := "HomeRoll", name := "feed", desc := "(IIIII)I" } : Jvm.MethodName)) ∈ lw_all := lw_g (lw_at lw_m2 105 rfl) rfl
theorem q412 : (Jvm.Cond.methodLink "HomeRollLaw" (65 : Nat) ({ cls := "HomeRoll", name := "end", desc := "(I)I" } : Jvm.MethodName)) ∈ lw_all := lw_g (lw_at lw_m2 109 rfl) rfl
theorem q416 : (Jvm.Cond.methodLink "HomeRollLaw" (69 : Nat) ({ cls := "HomeRoll", name := "law", desc := "()I" } : Jvm.MethodName)) ∈ lw_all := lw_g (lw_at lw_m2 113 rfl) rfl
theorem q1107 : (Jvm.Cond.methodLink "HomeRollLaw" (74 : Nat) ({ cls := "HomeRoll", name := "fault", desc := "(I)I" } : Jvm.MethodName)) ∈ lw_all := lw_g (lw_at lw_m5 84 rfl) rfl
theorem q1111 : (Jvm.Cond.methodLink "HomeRollLaw" (78 : Nat) ({ cls := "HomeRoll", name := "claim", desc := "(I)I" } : Jvm.MethodName)) ∈ lw_all := lw_g (lw_at lw_m5 88 rfl) rfl
theorem q1115 : (Jvm.Cond.methodLink "HomeRollLaw" (82 : Nat) ({ cls := "HomeRoll", name := "ruling", desc := "(II)I" } : Jvm.MethodName)) ∈ lw_all := lw_g (lw_at lw_m5 92 rfl) rfl
theorem q1205 : (Jvm.Cond.methodLink "HomeRollLaw" (86 : Nat) ({ cls := "HomeRoll", name := "sum", desc := "(II)I" } : Jvm.MethodName)) ∈ lw_all := lw_g (lw_at lw_m5 182 rfl) rfl
theorem q1210 : (Jvm.Cond.methodLink "HomeRollLaw" (90 : Nat) ({ cls := "HomeRoll", name := "term", desc := "(III)I" } : Jvm.MethodName)) ∈ lw_all := lw_g (lw_at lw_m5 187 rfl) rfl
theorem q1215 : (Jvm.Cond.methodLink "HomeRollLaw" (94 : Nat) ({ cls := "HomeRoll", name := "share", desc := "(IIII)J" } : Jvm.MethodName)) ∈ lw_all := lw_g (lw_at lw_m5 192 rfl) rfl
theorem q1235 : (Jvm.Cond.methodLink "HomeRollLaw" (99 : Nat) ({ cls := "HomeRoll", name := "want", desc := "(III)I" } : Jvm.MethodName)) ∈ lw_all := lw_g (lw_at lw_m5 212 rfl) rfl
theorem q1239 : (Jvm.Cond.methodLink "HomeRollLaw" (103 : Nat) ({ cls := "HomeRoll", name := "joy", desc := "()I" } : Jvm.MethodName)) ∈ lw_all := lw_g (lw_at lw_m5 216 rfl) rfl
theorem q1252 : (Jvm.Cond.methodLink "HomeRollLaw" (107 : Nat) ({ cls := "HomeRoll", name := "swap", desc := "(I)I" } : Jvm.MethodName)) ∈ lw_all := lw_g (lw_at lw_m5 229 rfl) rfl
theorem q1256 : (Jvm.Cond.methodLink "HomeRollLaw" (111 : Nat) ({ cls := "HomeRoll", name := "about", desc := "(I)I" } : Jvm.MethodName)) ∈ lw_all := lw_g (lw_at lw_m5 233 rfl) rfl
theorem q1260 : (Jvm.Cond.classLink "HomeRollLaw" (10 : Nat) "HomeRollModel") ∈ lw_all := lw_g (lw_at lw_m5 237 rfl) rfl
theorem q1262 : (Jvm.Cond.methodLink "HomeRollLaw" (12 : Nat) ({ cls := "HomeRollModel", name := "<init>", desc := "()V" } : Jvm.MethodName)) ∈ lw_all := lw_g (lw_at lw_m5 239 rfl) rfl
theorem q1435 : (Jvm.Cond.methodLink "HomeRollLaw" (17 : Nat) ({ cls := "HomeRollModel", name := "person", desc := "(II)I" } : Jvm.MethodName)) ∈ lw_all := lw_g (lw_at lw_m6 172 rfl) rfl
theorem q1439 : (Jvm.Cond.methodLink "HomeRollLaw" (22 : Nat) ({ cls := "HomeRollModel", name := "dead", desc := "(II)Z" } : Jvm.MethodName)) ∈ lw_all := lw_g (lw_at lw_m6 176 rfl) rfl
theorem q1451 : (Jvm.Cond.methodLink "HomeRollLaw" (26 : Nat) ({ cls := "HomeRollModel", name := "house", desc := "(II)I" } : Jvm.MethodName)) ∈ lw_all := lw_g (lw_at lw_m6 188 rfl) rfl
theorem q1459 : (Jvm.Cond.methodLink "HomeRollLaw" (30 : Nat) ({ cls := "HomeRollModel", name := "level", desc := "(II)Z" } : Jvm.MethodName)) ∈ lw_all := lw_g (lw_at lw_m6 196 rfl) rfl
theorem q1466 : (Jvm.Cond.methodLink "HomeRollLaw" (35 : Nat) ({ cls := "HomeRollModel", name := "money", desc := "(III)J" } : Jvm.MethodName)) ∈ lw_all := lw_g (lw_at lw_m6 203 rfl) rfl
theorem q1475 : (Jvm.Cond.methodLink "HomeRollLaw" (40 : Nat) ({ cls := "HomeRollModel", name := "paper", desc := "(IIIIII)I" } : Jvm.MethodName)) ∈ lw_all := lw_g (lw_at lw_m6 212 rfl) rfl
theorem q1483 : (Jvm.Cond.methodLink "HomeRollLaw" (45 : Nat) ({ cls := "HomeRollModel", name := "isFalse", desc := "(I)Z" } : Jvm.MethodName)) ∈ lw_all := lw_g (lw_at lw_m6 220 rfl) rfl
theorem q1491 : (Jvm.Cond.methodLink "HomeRollLaw" (50 : Nat) ({ cls := "HomeRollModel", name := "later", desc := "(I)I" } : Jvm.MethodName)) ∈ lw_all := lw_g (lw_at lw_m6 228 rfl) rfl
theorem q1495 : (Jvm.Cond.methodLink "HomeRollLaw" (55 : Nat) ({ cls := "HomeRollModel", name := "holder", desc := "(III)I" } : Jvm.MethodName)) ∈ lw_all := lw_g (lw_at lw_m6 232 rfl) rfl
theorem q1507 : (Jvm.Cond.methodLink "HomeRollLaw" (59 : Nat) ({ cls := "HomeRollModel", name := "loose", desc := "(II)I" } : Jvm.MethodName)) ∈ lw_all := lw_g (lw_at lw_m7 4 rfl) rfl
theorem q1511 : (Jvm.Cond.methodLink "HomeRollLaw" (73 : Nat) ({ cls := "HomeRollModel", name := "law", desc := "()I" } : Jvm.MethodName)) ∈ lw_all := lw_g (lw_at lw_m7 8 rfl) rfl
theorem q1607 : (Jvm.Cond.methodLink "HomeRollLaw" (77 : Nat) ({ cls := "HomeRollModel", name := "fault", desc := "(I)I" } : Jvm.MethodName)) ∈ lw_all := lw_g (lw_at lw_m7 104 rfl) rfl
theorem q1611 : (Jvm.Cond.methodLink "HomeRollLaw" (81 : Nat) ({ cls := "HomeRollModel", name := "claim", desc := "(I)I" } : Jvm.MethodName)) ∈ lw_all := lw_g (lw_at lw_m7 108 rfl) rfl
theorem q1615 : (Jvm.Cond.methodLink "HomeRollLaw" (85 : Nat) ({ cls := "HomeRollModel", name := "ruling", desc := "(II)I" } : Jvm.MethodName)) ∈ lw_all := lw_g (lw_at lw_m7 112 rfl) rfl
theorem q1641 : (Jvm.Cond.methodLink "HomeRollLaw" (89 : Nat) ({ cls := "HomeRollModel", name := "sum", desc := "(II)I" } : Jvm.MethodName)) ∈ lw_all := lw_g (lw_at lw_m7 138 rfl) rfl
theorem q1646 : (Jvm.Cond.methodLink "HomeRollLaw" (93 : Nat) ({ cls := "HomeRollModel", name := "term", desc := "(III)I" } : Jvm.MethodName)) ∈ lw_all := lw_g (lw_at lw_m7 143 rfl) rfl
theorem q1650 : (Jvm.Cond.methodLink "HomeRollLaw" (98 : Nat) ({ cls := "HomeRollModel", name := "share", desc := "(IIII)J" } : Jvm.MethodName)) ∈ lw_all := lw_g (lw_at lw_m7 147 rfl) rfl
theorem q1669 : (Jvm.Cond.methodLink "HomeRollLaw" (102 : Nat) ({ cls := "HomeRollModel", name := "want", desc := "(III)I" } : Jvm.MethodName)) ∈ lw_all := lw_g (lw_at lw_m7 166 rfl) rfl
theorem q1673 : (Jvm.Cond.methodLink "HomeRollLaw" (106 : Nat) ({ cls := "HomeRollModel", name := "joy", desc := "()I" } : Jvm.MethodName)) ∈ lw_all := lw_g (lw_at lw_m7 170 rfl) rfl
theorem q1685 : (Jvm.Cond.methodLink "HomeRollLaw" (110 : Nat) ({ cls := "HomeRollModel", name := "swap", desc := "(I)I" } : Jvm.MethodName)) ∈ lw_all := lw_g (lw_at lw_m7 182 rfl) rfl
theorem q1689 : (Jvm.Cond.methodLink "HomeRollLaw" (114 : Nat) ({ cls := "HomeRollModel", name := "about", desc := "(I)I" } : Jvm.MethodName)) ∈ lw_all := lw_g (lw_at lw_m7 186 rfl) rfl
theorem q1693 : (Jvm.Cond.methodLink "HomeRollLaw" (64 : Nat) ({ cls := "HomeRollModel", name := "feed", desc := "(IIIII)I" } : Jvm.MethodName)) ∈ lw_all := lw_g (lw_at lw_m7 190 rfl) rfl
theorem q1697 : (Jvm.Cond.methodLink "HomeRollLaw" (68 : Nat) ({ cls := "HomeRollModel", name := "end", desc := "(I)I" } : Jvm.MethodName)) ∈ lw_all := lw_g (lw_at lw_m7 194 rfl) rfl
theorem q532 : (Jvm.Cond.sameMethod "[B" "java/lang/Object" "clone" "()Ljava/lang/Object;") ∈ lw_all := lw_g (lw_at lw_m2 229 rfl) rfl
theorem q533 : (Jvm.Cond.selects "[B" ({ cls := "[B", name := "clone", desc := "()Ljava/lang/Object;" } : Jvm.MethodName) ({ cls := "java/lang/Object", name := "clone", desc := "()Ljava/lang/Object;" } : Jvm.MethodName)) ∈ lw_all := lw_g (lw_at lw_m2 230 rfl) rfl
theorem q534 : (Jvm.Cond.castable "[B" "java/lang/Cloneable") ∈ lw_tbl := lw_at lw_m2 231 rfl
theorem q1751 : (Jvm.Cond.castable "[B" "java/lang/Object") ∈ lw_tbl := lw_at lw_m8 8 rfl
theorem q1753 : (Jvm.Cond.castable "[I" "java/lang/Object") ∈ lw_tbl := lw_at lw_m8 10 rfl
theorem q1756 : (Jvm.Cond.castable "[J" "java/lang/Object") ∈ lw_tbl := lw_at lw_m8 13 rfl
theorem q177 : (Jvm.Cond.sameMethod "[LHomeRoll$Known;" "java/lang/Object" "clone" "()Ljava/lang/Object;") ∈ lw_all := lw_g (lw_at lw_m1 114 rfl) rfl
theorem q180 : (Jvm.Cond.selects "[LHomeRoll$Known;" ({ cls := "[LHomeRoll$Known;", name := "clone", desc := "()Ljava/lang/Object;" } : Jvm.MethodName) ({ cls := "java/lang/Object", name := "clone", desc := "()Ljava/lang/Object;" } : Jvm.MethodName)) ∈ lw_all := lw_g (lw_at lw_m1 117 rfl) rfl
theorem q181 : (Jvm.Cond.castable "[LHomeRoll$Known;" "java/lang/Cloneable") ∈ lw_tbl := lw_at lw_m1 118 rfl
theorem q1754 : (Jvm.Cond.castable "[LHomeRoll$Known;" "java/lang/Object") ∈ lw_tbl := lw_at lw_m8 11 rfl
theorem q1752 : (Jvm.Cond.castable "[LHomeRoll$Paper;" "java/lang/Object") ∈ lw_tbl := lw_at lw_m8 9 rfl
theorem q1747 : (Jvm.Cond.sameMethod "[Ljava/lang/Object;" "java/lang/Object" "getClass" "()Ljava/lang/Class;") ∈ lw_all := lw_g (lw_at lw_m8 4 rfl) rfl
theorem q1748 : (Jvm.Cond.selects "[Ljava/lang/Object;" ({ cls := "java/lang/Object", name := "getClass", desc := "()Ljava/lang/Class;" } : Jvm.MethodName) ({ cls := "java/lang/Object", name := "getClass", desc := "()Ljava/lang/Class;" } : Jvm.MethodName)) ∈ lw_all := lw_g (lw_at lw_m8 5 rfl) rfl
theorem q1750 : (Jvm.Cond.castable "[Ljava/lang/Object;" "java/lang/Object") ∈ lw_tbl := lw_at lw_m8 7 rfl
theorem q1757 : (Jvm.Cond.castable "[Z" "java/lang/Object") ∈ lw_tbl := lw_at lw_m8 14 rfl
theorem q1755 : (Jvm.Cond.castable "[[I" "java/lang/Object") ∈ lw_tbl := lw_at lw_m8 12 rfl
theorem q69 : (Jvm.Cond.initialized "java/lang/Enum") ∈ lw_all := lw_g (lw_at lw_m1 6 rfl) rfl
theorem q81 : (Jvm.Cond.initialized "java/lang/System") ∈ lw_all := lw_g (lw_at lw_m1 18 rfl) rfl
theorem q540 : (Jvm.Cond.static ({ cls := "java/lang/System", name := "arraycopy", desc := "(Ljava/lang/Object;ILjava/lang/Object;II)V" } : Jvm.MethodName)) ∈ lw_all := lw_g (lw_at lw_m2 237 rfl) rfl
theorem q541 : (Jvm.Cond.native ({ cls := "java/lang/System", name := "arraycopy", desc := "(Ljava/lang/Object;ILjava/lang/Object;II)V" } : Jvm.MethodName)) ∈ lw_all := lw_g (lw_at lw_m2 238 rfl) rfl
theorem q853 : (Jvm.Cond.interfaceMethod "jdk/internal/access/JavaLangAccess" "jdk/internal/access/JavaLangAccess" "getUTF16Char" "([BI)C") ∈ lw_tbl := lw_at lw_m4 70 rfl
theorem q854 : (Jvm.Cond.declares ({ cls := "jdk/internal/access/JavaLangAccess", name := "getUTF16Char", desc := "([BI)C" } : Jvm.MethodName)) ∈ lw_tbl := lw_at lw_m4 71 rfl
theorem q117 : (Jvm.Cond.arrayOver (Jvm.ClassFile.FieldType.object "java/lang/Object")) ∈ lw_tbl := lw_at lw_m1 54 rfl
theorem q132 : (Jvm.Cond.arrayClass Jvm.ClassFile.FieldType.byte) ∈ lw_all := lw_g (lw_at lw_m1 69 rfl) rfl
theorem q134 : (Jvm.Cond.arrayOver (Jvm.ClassFile.FieldType.object "HomeRoll$Paper")) ∈ lw_tbl := lw_at lw_m1 71 rfl
theorem q170 : (Jvm.Cond.arrayClass Jvm.ClassFile.FieldType.int) ∈ lw_all := lw_g (lw_at lw_m1 107 rfl) rfl
theorem q182 : (Jvm.Cond.arrayOver (Jvm.ClassFile.FieldType.object "HomeRoll$Known")) ∈ lw_tbl := lw_at lw_m1 119 rfl
theorem q185 : (Jvm.Cond.arrayOver (Jvm.ClassFile.FieldType.array Jvm.ClassFile.FieldType.int)) ∈ lw_tbl := lw_at lw_m1 122 rfl
theorem q283 : (Jvm.Cond.arrayClass Jvm.ClassFile.FieldType.long) ∈ lw_all := lw_g (lw_at lw_m1 220 rfl) rfl
theorem q284 : (Jvm.Cond.arrayClass Jvm.ClassFile.FieldType.boolean) ∈ lw_all := lw_g (lw_at lw_m1 221 rfl) rfl
theorem q1758 : (Jvm.Cond.arrayClass Jvm.ClassFile.FieldType.char) ∈ lw_all := lw_g (lw_at lw_m8 15 rfl) rfl
theorem q1759 : (Jvm.Cond.arrayClass Jvm.ClassFile.FieldType.short) ∈ lw_all := lw_g (lw_at lw_m8 16 rfl) rfl
