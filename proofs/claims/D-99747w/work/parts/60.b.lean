set_option maxRecDepth 100000
def RJ0 : String := "java/util/AbstractCollection"
abbrev bcJ0_init : ByteArray := prog_46_method_1_code
def yJ0_init : MethodName := ⟨RJ0, "<init>", "()V"⟩
theorem q130 : (Jvm.Cond.initialized "java/util/AbstractCollection") ∈ lw_all := lw_g (lw_at lw_m1 4 rfl) rfl
theorem q226 : (Jvm.Cond.instanceMethod ({ cls := "java/util/AbstractCollection", name := "<init>", desc := "()V" } : Jvm.MethodName)) ∈ lw_all := lw_g (lw_at lw_m1 100 rfl) rfl
theorem q227 : (Jvm.Cond.code ({ cls := "java/util/AbstractCollection", name := "<init>", desc := "()V" } : Jvm.MethodName) prog_46_method_1_code (1 : Nat) (Option.none : Option Jvm.ClassFile.FieldType)) ∈ lw_all := lw_g (lw_at lw_m1 101 rfl) rfl
theorem q228 : (Jvm.Cond.methodLink "java/util/AbstractCollection" (1 : Nat) ({ cls := "java/lang/Object", name := "<init>", desc := "()V" } : Jvm.MethodName)) ∈ lw_all := lw_g (lw_at lw_m1 102 rfl) rfl

def RJ1 : String := "java/util/AbstractList"
abbrev bcJ1_init : ByteArray := prog_47_method_1_code
def yJ1_init : MethodName := ⟨RJ1, "<init>", "()V"⟩
theorem q131 : (Jvm.Cond.initialized "java/util/AbstractList") ∈ lw_all := lw_g (lw_at lw_m1 5 rfl) rfl
theorem q223 : (Jvm.Cond.instanceMethod ({ cls := "java/util/AbstractList", name := "<init>", desc := "()V" } : Jvm.MethodName)) ∈ lw_all := lw_g (lw_at lw_m1 97 rfl) rfl
theorem q224 : (Jvm.Cond.code ({ cls := "java/util/AbstractList", name := "<init>", desc := "()V" } : Jvm.MethodName) prog_47_method_1_code (1 : Nat) (Option.none : Option Jvm.ClassFile.FieldType)) ∈ lw_all := lw_g (lw_at lw_m1 98 rfl) rfl
theorem q225 : (Jvm.Cond.methodLink "java/util/AbstractList" (1 : Nat) ({ cls := "java/util/AbstractCollection", name := "<init>", desc := "()V" } : Jvm.MethodName)) ∈ lw_all := lw_g (lw_at lw_m1 99 rfl) rfl
theorem q235 : (Jvm.Cond.fieldLink "java/util/AbstractList" (7 : Nat) "java/util/AbstractList" "modCount" "I") ∈ lw_all := lw_g (lw_at lw_m1 109 rfl) rfl
theorem q243 : (Jvm.Cond.soleField "java/util/AbstractList" "modCount") ∈ lw_all := lw_g (lw_at lw_m1 117 rfl) rfl

def RJ10 : String := "java/lang/Throwable"
def TJ10 : u_T := fun k => match k with
  | 0 => ("java/lang/Throwable", "cause", "Ljava/lang/Throwable;", false)
  | 1 => ("java/lang/Throwable", "stackTrace", "[Ljava/lang/StackTraceElement;", false)
  | 2 => ("java/lang/Throwable", "suppressedExceptions", "Ljava/util/List;", false)
  | 3 => ("java/lang/Throwable", "detailMessage", "Ljava/lang/String;", false)
  | _ => ("java/lang/Throwable", "backtrace", "Ljava/lang/Object;", false)
def tyJ10 : Nat → FieldType := fun k => match k with
  | 0 => .object "java/lang/Throwable"
  | 1 => .array (.object "java/lang/StackTraceElement")
  | 2 => .object "java/util/List"
  | 3 => .object "java/lang/String"
  | _ => .object "java/lang/Object"
abbrev wsJ100 : List Cond := u_ws RJ10 TJ10 5
theorem nmJ10 : ∀ a, a < 5 → ∀ b, b < 5 → a ≠ b → (TJ10 a).2.1 ≠ (TJ10 b).2.1 := by decide +kernel
theorem tyJ10_ok : ∀ k, k < 5 → parseFieldDescriptor (TJ10 k).2.2.1 = some (tyJ10 k) := by decide +kernel
abbrev bcJ10_init : ByteArray := prog_43_method_1_code
def yJ10_init : MethodName := ⟨RJ10, "<init>", "()V"⟩
abbrev bcJ10_init_2 : ByteArray := prog_43_method_5_code
def yJ10_init_2 : MethodName := ⟨RJ10, "<init>", "(Ljava/lang/String;Ljava/lang/Throwable;ZZ)V"⟩
theorem q142 : (Jvm.Cond.initialized "java/lang/Throwable") ∈ lw_all := lw_g (lw_at lw_m1 16 rfl) rfl
theorem q574 : (Jvm.Cond.declares ({ cls := "java/lang/Throwable", name := "<init>", desc := "()V" } : Jvm.MethodName)) ∈ lw_tbl := lw_at lw_m2 208 rfl
theorem q575 : (Jvm.Cond.declares ({ cls := "java/lang/Throwable", name := "<init>", desc := "(Ljava/lang/String;)V" } : Jvm.MethodName)) ∈ lw_tbl := lw_at lw_m2 209 rfl
theorem q579 : (Jvm.Cond.lays "java/lang/Throwable" "java/lang/Throwable" "cause" "Ljava/lang/Throwable;") ∈ lw_all := lw_g (lw_at lw_m2 213 rfl) rfl
theorem q581 : (Jvm.Cond.lays "java/lang/Throwable" "java/lang/Throwable" "stackTrace" "[Ljava/lang/StackTraceElement;") ∈ lw_all := lw_g (lw_at lw_m2 215 rfl) rfl
theorem q583 : (Jvm.Cond.lays "java/lang/Throwable" "java/lang/Throwable" "suppressedExceptions" "Ljava/util/List;") ∈ lw_all := lw_g (lw_at lw_m2 217 rfl) rfl
theorem q585 : (Jvm.Cond.lays "java/lang/Throwable" "java/lang/Throwable" "detailMessage" "Ljava/lang/String;") ∈ lw_all := lw_g (lw_at lw_m2 219 rfl) rfl
theorem q587 : (Jvm.Cond.lays "java/lang/Throwable" "java/lang/Throwable" "backtrace" "Ljava/lang/Object;") ∈ lw_all := lw_g (lw_at lw_m2 221 rfl) rfl
theorem q588 : (Jvm.Cond.fieldLink "java/lang/Throwable" (198 : Nat) "java/lang/Throwable" "backtrace" "Ljava/lang/Object;") ∈ lw_all := lw_g (lw_at lw_m2 222 rfl) rfl
theorem q589 : (Jvm.Cond.superclass "java/lang/Throwable" "java/lang/Object") ∈ lw_all := lw_g (lw_at lw_m2 223 rfl) rfl
theorem q590 : (Jvm.Cond.instanceMethod ({ cls := "java/lang/Throwable", name := "<init>", desc := "()V" } : Jvm.MethodName)) ∈ lw_all := lw_g (lw_at lw_m2 224 rfl) rfl
theorem q591 : (Jvm.Cond.code ({ cls := "java/lang/Throwable", name := "<init>", desc := "()V" } : Jvm.MethodName) prog_43_method_1_code (1 : Nat) (Option.none : Option Jvm.ClassFile.FieldType)) ∈ lw_all := lw_g (lw_at lw_m2 225 rfl) rfl
theorem q592 : (Jvm.Cond.methodLink "java/lang/Throwable" (1 : Nat) ({ cls := "java/lang/Object", name := "<init>", desc := "()V" } : Jvm.MethodName)) ∈ lw_all := lw_g (lw_at lw_m2 226 rfl) rfl
theorem q593 : (Jvm.Cond.fieldLink "java/lang/Throwable" (13 : Nat) "java/lang/Throwable" "UNASSIGNED_STACK" "[Ljava/lang/StackTraceElement;") ∈ lw_all := lw_g (lw_at lw_m2 227 rfl) rfl
theorem q594 : (Jvm.Cond.laysStatic "java/lang/Throwable" "UNASSIGNED_STACK" "[Ljava/lang/StackTraceElement;") ∈ lw_tbl := lw_at lw_m2 228 rfl
theorem q595 : (Jvm.Cond.fieldLink "java/lang/Throwable" (20 : Nat) "java/lang/Throwable" "SUPPRESSED_SENTINEL" "Ljava/util/List;") ∈ lw_all := lw_g (lw_at lw_m2 229 rfl) rfl
theorem q596 : (Jvm.Cond.laysStatic "java/lang/Throwable" "SUPPRESSED_SENTINEL" "Ljava/util/List;") ∈ lw_tbl := lw_at lw_m2 230 rfl
theorem q597 : (Jvm.Cond.methodLink "java/lang/Throwable" (27 : Nat) ({ cls := "java/lang/Throwable", name := "fillInStackTrace", desc := "()Ljava/lang/Throwable;" } : Jvm.MethodName)) ∈ lw_all := lw_g (lw_at lw_m2 231 rfl) rfl
theorem q598 : (Jvm.Cond.instanceMethod ({ cls := "java/lang/Throwable", name := "fillInStackTrace", desc := "()Ljava/lang/Throwable;" } : Jvm.MethodName)) ∈ lw_all := lw_g (lw_at lw_m2 232 rfl) rfl
theorem q599 : (Jvm.Cond.sameMethod "java/lang/Throwable" "java/lang/Throwable" "fillInStackTrace" "()Ljava/lang/Throwable;") ∈ lw_all := lw_g (lw_at lw_m2 233 rfl) rfl
theorem q601 : (Jvm.Cond.codeSync ({ cls := "java/lang/Throwable", name := "fillInStackTrace", desc := "()Ljava/lang/Throwable;" } : Jvm.MethodName) prog_43_method_18_code (1 : Nat) (Option.some (Jvm.ClassFile.FieldType.object "java/lang/Throwable"))) ∈ lw_all := lw_g (lw_at lw_m2 235 rfl) rfl
theorem q602 : (Jvm.Cond.methodLink "java/lang/Throwable" (202 : Nat) ({ cls := "java/lang/Throwable", name := "fillInStackTrace", desc := "(I)Ljava/lang/Throwable;" } : Jvm.MethodName)) ∈ lw_all := lw_g (lw_at lw_m2 236 rfl) rfl
theorem q603 : (Jvm.Cond.privateMethod ({ cls := "java/lang/Throwable", name := "fillInStackTrace", desc := "(I)Ljava/lang/Throwable;" } : Jvm.MethodName)) ∈ lw_tbl := lw_at lw_m2 237 rfl
theorem q604 : (Jvm.Cond.instanceMethod ({ cls := "java/lang/Throwable", name := "fillInStackTrace", desc := "(I)Ljava/lang/Throwable;" } : Jvm.MethodName)) ∈ lw_all := lw_g (lw_at lw_m2 238 rfl) rfl
theorem q605 : (Jvm.Cond.instantiable "java/lang/Throwable" (6 : Nat)) ∈ lw_all := lw_g (lw_at lw_m2 239 rfl) rfl
theorem q606 : (Jvm.Cond.native ({ cls := "java/lang/Throwable", name := "fillInStackTrace", desc := "(I)Ljava/lang/Throwable;" } : Jvm.MethodName)) ∈ lw_all := lw_g (lw_at lw_m3 0 rfl) rfl
theorem q617 : (Jvm.Cond.instanceMethod ({ cls := "java/lang/Throwable", name := "<init>", desc := "(Ljava/lang/String;Ljava/lang/Throwable;ZZ)V" } : Jvm.MethodName)) ∈ lw_all := lw_g (lw_at lw_m3 11 rfl) rfl
theorem q618 : (Jvm.Cond.code ({ cls := "java/lang/Throwable", name := "<init>", desc := "(Ljava/lang/String;Ljava/lang/Throwable;ZZ)V" } : Jvm.MethodName) prog_43_method_5_code (5 : Nat) (Option.none : Option Jvm.ClassFile.FieldType)) ∈ lw_all := lw_g (lw_at lw_m3 12 rfl) rfl
theorem q621 : (Jvm.Cond.fieldLink "java/lang/Throwable" (198 : Nat) "java/lang/Throwable" "backtrace" "Ljava/lang/Object;") ∈ lw_all := lw_g (lw_at lw_m3 15 rfl) rfl
theorem q622 : (Jvm.Cond.fieldLink "java/lang/Throwable" (31 : Nat) "java/lang/Throwable" "detailMessage" "Ljava/lang/String;") ∈ lw_all := lw_g (lw_at lw_m3 16 rfl) rfl
theorem q623 : (Jvm.Cond.fieldLink "java/lang/Throwable" (7 : Nat) "java/lang/Throwable" "cause" "Ljava/lang/Throwable;") ∈ lw_all := lw_g (lw_at lw_m3 17 rfl) rfl
theorem q624 : (Jvm.Cond.fieldLink "java/lang/Throwable" (17 : Nat) "java/lang/Throwable" "stackTrace" "[Ljava/lang/StackTraceElement;") ∈ lw_all := lw_g (lw_at lw_m3 18 rfl) rfl
theorem q625 : (Jvm.Cond.fieldLink "java/lang/Throwable" (24 : Nat) "java/lang/Throwable" "suppressedExceptions" "Ljava/util/List;") ∈ lw_all := lw_g (lw_at lw_m3 19 rfl) rfl
theorem q628 : (Jvm.Cond.soleField "java/lang/Throwable" "backtrace") ∈ lw_all := lw_g (lw_at lw_m3 22 rfl) rfl
theorem q629 : (Jvm.Cond.soleField "java/lang/Throwable" "detailMessage") ∈ lw_all := lw_g (lw_at lw_m3 23 rfl) rfl
theorem q630 : (Jvm.Cond.soleField "java/lang/Throwable" "cause") ∈ lw_all := lw_g (lw_at lw_m3 24 rfl) rfl
theorem q631 : (Jvm.Cond.soleField "java/lang/Throwable" "stackTrace") ∈ lw_all := lw_g (lw_at lw_m3 25 rfl) rfl
theorem q633 : (Jvm.Cond.soleField "java/lang/Throwable" "depth") ∈ lw_all := lw_g (lw_at lw_m3 27 rfl) rfl
theorem q634 : (Jvm.Cond.soleField "java/lang/Throwable" "suppressedExceptions") ∈ lw_all := lw_g (lw_at lw_m3 28 rfl) rfl
theorem q2249 : (Jvm.Cond.sameMethod "java/lang/Throwable" "java/lang/Throwable" "fillInStackTrace" "(I)Ljava/lang/Throwable;") ∈ lw_all := lw_g (lw_at lw_m9 203 rfl) rfl
theorem q2285 : (Jvm.Cond.castable "java/lang/Throwable" "java/lang/Object") ∈ lw_tbl := lw_at lw_m9 239 rfl
theorem in_J10 : ∀ w ∈ wsJ100, w ∈ lw_all := lw_in wsJ100 [579, 581, 583, 585, 587] (by decide +kernel) (by decide +kernel)

def RJ11 : String := "java/lang/Exception"
abbrev bcJ11_init : ByteArray := prog_33_method_5_code
def yJ11_init : MethodName := ⟨RJ11, "<init>", "(Ljava/lang/String;Ljava/lang/Throwable;ZZ)V"⟩
abbrev bcJ11_init_2 : ByteArray := prog_33_method_1_code
def yJ11_init_2 : MethodName := ⟨RJ11, "<init>", "()V"⟩
theorem q143 : (Jvm.Cond.initialized "java/lang/Exception") ∈ lw_all := lw_g (lw_at lw_m1 17 rfl) rfl
theorem q572 : (Jvm.Cond.declares ({ cls := "java/lang/Exception", name := "<init>", desc := "()V" } : Jvm.MethodName)) ∈ lw_tbl := lw_at lw_m2 206 rfl
theorem q573 : (Jvm.Cond.declares ({ cls := "java/lang/Exception", name := "<init>", desc := "(Ljava/lang/String;)V" } : Jvm.MethodName)) ∈ lw_tbl := lw_at lw_m2 207 rfl
theorem q614 : (Jvm.Cond.instanceMethod ({ cls := "java/lang/Exception", name := "<init>", desc := "(Ljava/lang/String;Ljava/lang/Throwable;ZZ)V" } : Jvm.MethodName)) ∈ lw_all := lw_g (lw_at lw_m3 8 rfl) rfl
theorem q615 : (Jvm.Cond.code ({ cls := "java/lang/Exception", name := "<init>", desc := "(Ljava/lang/String;Ljava/lang/Throwable;ZZ)V" } : Jvm.MethodName) prog_33_method_5_code (5 : Nat) (Option.none : Option Jvm.ClassFile.FieldType)) ∈ lw_all := lw_g (lw_at lw_m3 9 rfl) rfl
theorem q616 : (Jvm.Cond.methodLink "java/lang/Exception" (16 : Nat) ({ cls := "java/lang/Throwable", name := "<init>", desc := "(Ljava/lang/String;Ljava/lang/Throwable;ZZ)V" } : Jvm.MethodName)) ∈ lw_all := lw_g (lw_at lw_m3 10 rfl) rfl
theorem q1625 : (Jvm.Cond.instanceMethod ({ cls := "java/lang/Exception", name := "<init>", desc := "()V" } : Jvm.MethodName)) ∈ lw_all := lw_g (lw_at lw_m7 59 rfl) rfl
theorem q1626 : (Jvm.Cond.code ({ cls := "java/lang/Exception", name := "<init>", desc := "()V" } : Jvm.MethodName) prog_33_method_1_code (1 : Nat) (Option.none : Option Jvm.ClassFile.FieldType)) ∈ lw_all := lw_g (lw_at lw_m7 60 rfl) rfl
theorem q1627 : (Jvm.Cond.methodLink "java/lang/Exception" (1 : Nat) ({ cls := "java/lang/Throwable", name := "<init>", desc := "()V" } : Jvm.MethodName)) ∈ lw_all := lw_g (lw_at lw_m7 61 rfl) rfl

def RJ12 : String := "java/lang/RuntimeException"
abbrev bcJ12_init : ByteArray := prog_37_method_5_code
def yJ12_init : MethodName := ⟨RJ12, "<init>", "(Ljava/lang/String;Ljava/lang/Throwable;ZZ)V"⟩
abbrev bcJ12_init_2 : ByteArray := prog_37_method_1_code
def yJ12_init_2 : MethodName := ⟨RJ12, "<init>", "()V"⟩
theorem q144 : (Jvm.Cond.initialized "java/lang/RuntimeException") ∈ lw_all := lw_g (lw_at lw_m1 18 rfl) rfl
theorem q570 : (Jvm.Cond.declares ({ cls := "java/lang/RuntimeException", name := "<init>", desc := "()V" } : Jvm.MethodName)) ∈ lw_tbl := lw_at lw_m2 204 rfl
theorem q571 : (Jvm.Cond.declares ({ cls := "java/lang/RuntimeException", name := "<init>", desc := "(Ljava/lang/String;)V" } : Jvm.MethodName)) ∈ lw_tbl := lw_at lw_m2 205 rfl
theorem q611 : (Jvm.Cond.instanceMethod ({ cls := "java/lang/RuntimeException", name := "<init>", desc := "(Ljava/lang/String;Ljava/lang/Throwable;ZZ)V" } : Jvm.MethodName)) ∈ lw_all := lw_g (lw_at lw_m3 5 rfl) rfl
theorem q612 : (Jvm.Cond.code ({ cls := "java/lang/RuntimeException", name := "<init>", desc := "(Ljava/lang/String;Ljava/lang/Throwable;ZZ)V" } : Jvm.MethodName) prog_37_method_5_code (5 : Nat) (Option.none : Option Jvm.ClassFile.FieldType)) ∈ lw_all := lw_g (lw_at lw_m3 6 rfl) rfl
theorem q613 : (Jvm.Cond.methodLink "java/lang/RuntimeException" (16 : Nat) ({ cls := "java/lang/Exception", name := "<init>", desc := "(Ljava/lang/String;Ljava/lang/Throwable;ZZ)V" } : Jvm.MethodName)) ∈ lw_all := lw_g (lw_at lw_m3 7 rfl) rfl
theorem q1622 : (Jvm.Cond.instanceMethod ({ cls := "java/lang/RuntimeException", name := "<init>", desc := "()V" } : Jvm.MethodName)) ∈ lw_all := lw_g (lw_at lw_m7 56 rfl) rfl
theorem q1623 : (Jvm.Cond.code ({ cls := "java/lang/RuntimeException", name := "<init>", desc := "()V" } : Jvm.MethodName) prog_37_method_1_code (1 : Nat) (Option.none : Option Jvm.ClassFile.FieldType)) ∈ lw_all := lw_g (lw_at lw_m7 57 rfl) rfl
theorem q1624 : (Jvm.Cond.methodLink "java/lang/RuntimeException" (1 : Nat) ({ cls := "java/lang/Exception", name := "<init>", desc := "()V" } : Jvm.MethodName)) ∈ lw_all := lw_g (lw_at lw_m7 58 rfl) rfl

def RJ13 : String := "java/lang/AbstractStringBuilder"
abbrev bcJ13_init : ByteArray := prog_27_method_2_code
def yJ13_init : MethodName := ⟨RJ13, "<init>", "(I)V"⟩
abbrev bcJ13_append : ByteArray := prog_27_method_31_code
def yJ13_append : MethodName := ⟨RJ13, "append", "(C)Ljava/lang/AbstractStringBuilder;"⟩
abbrev bcJ13_ensureCapacityInternal : ByteArray := prog_27_method_9_code
def yJ13_ensureCapacityInternal : MethodName := ⟨RJ13, "ensureCapacityInternal", "(I)V"⟩
abbrev bcJ13_newCapacity : ByteArray := prog_27_method_10_code
def yJ13_newCapacity : MethodName := ⟨RJ13, "newCapacity", "(I)I"⟩
abbrev bcJ13_isLatin1 : ByteArray := prog_27_method_68_code
def yJ13_isLatin1 : MethodName := ⟨RJ13, "isLatin1", "()Z"⟩
abbrev bcJ13_inflate : ByteArray := prog_27_method_11_code
def yJ13_inflate : MethodName := ⟨RJ13, "inflate", "()V"⟩
abbrev bcJ13_getValue : ByteArray := prog_27_method_64_code
def yJ13_getValue : MethodName := ⟨RJ13, "getValue", "()[B"⟩
abbrev bcJ13_length : ByteArray := prog_27_method_6_code
def yJ13_length : MethodName := ⟨RJ13, "length", "()I"⟩
theorem q146 : (Jvm.Cond.initialized "java/lang/AbstractStringBuilder") ∈ lw_all := lw_g (lw_at lw_m1 20 rfl) rfl
theorem q660 : (Jvm.Cond.instanceMethod ({ cls := "java/lang/AbstractStringBuilder", name := "<init>", desc := "(I)V" } : Jvm.MethodName)) ∈ lw_all := lw_g (lw_at lw_m3 54 rfl) rfl
theorem q661 : (Jvm.Cond.code ({ cls := "java/lang/AbstractStringBuilder", name := "<init>", desc := "(I)V" } : Jvm.MethodName) prog_27_method_2_code (2 : Nat) (Option.none : Option Jvm.ClassFile.FieldType)) ∈ lw_all := lw_g (lw_at lw_m3 55 rfl) rfl
theorem q662 : (Jvm.Cond.methodLink "java/lang/AbstractStringBuilder" (3 : Nat) ({ cls := "java/lang/Object", name := "<init>", desc := "()V" } : Jvm.MethodName)) ∈ lw_all := lw_g (lw_at lw_m3 56 rfl) rfl
theorem q663 : (Jvm.Cond.fieldLink "java/lang/AbstractStringBuilder" (18 : Nat) "java/lang/String" "COMPACT_STRINGS" "Z") ∈ lw_all := lw_g (lw_at lw_m3 57 rfl) rfl
theorem q664 : (Jvm.Cond.methodLink "java/lang/AbstractStringBuilder" (26 : Nat) ({ cls := "java/lang/StringUTF16", name := "newBytesFor", desc := "(I)[B" } : Jvm.MethodName)) ∈ lw_all := lw_g (lw_at lw_m3 58 rfl) rfl
theorem q671 : (Jvm.Cond.fieldLink "java/lang/AbstractStringBuilder" (15 : Nat) "java/lang/AbstractStringBuilder" "value" "[B") ∈ lw_all := lw_g (lw_at lw_m3 65 rfl) rfl
theorem q672 : (Jvm.Cond.fieldLink "java/lang/AbstractStringBuilder" (22 : Nat) "java/lang/AbstractStringBuilder" "coder" "B") ∈ lw_all := lw_g (lw_at lw_m3 66 rfl) rfl
theorem q674 : (Jvm.Cond.fieldLink "java/lang/AbstractStringBuilder" (79 : Nat) "java/lang/AbstractStringBuilder" "count" "I") ∈ lw_all := lw_g (lw_at lw_m3 68 rfl) rfl
theorem q676 : (Jvm.Cond.soleField "java/lang/AbstractStringBuilder" "value") ∈ lw_all := lw_g (lw_at lw_m3 70 rfl) rfl
theorem q678 : (Jvm.Cond.soleField "java/lang/AbstractStringBuilder" "coder") ∈ lw_all := lw_g (lw_at lw_m3 72 rfl) rfl
theorem q680 : (Jvm.Cond.soleField "java/lang/AbstractStringBuilder" "maybeLatin1") ∈ lw_all := lw_g (lw_at lw_m3 74 rfl) rfl
theorem q682 : (Jvm.Cond.soleField "java/lang/AbstractStringBuilder" "count") ∈ lw_all := lw_g (lw_at lw_m3 76 rfl) rfl
theorem q689 : (Jvm.Cond.instanceMethod ({ cls := "java/lang/AbstractStringBuilder", name := "append", desc := "(C)Ljava/lang/AbstractStringBuilder;" } : Jvm.MethodName)) ∈ lw_all := lw_g (lw_at lw_m3 83 rfl) rfl
theorem q690 : (Jvm.Cond.code ({ cls := "java/lang/AbstractStringBuilder", name := "append", desc := "(C)Ljava/lang/AbstractStringBuilder;" } : Jvm.MethodName) prog_27_method_31_code (2 : Nat) (Option.some (Jvm.ClassFile.FieldType.object "java/lang/AbstractStringBuilder"))) ∈ lw_all := lw_g (lw_at lw_m3 84 rfl) rfl
theorem q691 : (Jvm.Cond.methodLink "java/lang/AbstractStringBuilder" (100 : Nat) ({ cls := "java/lang/AbstractStringBuilder", name := "ensureCapacityInternal", desc := "(I)V" } : Jvm.MethodName)) ∈ lw_all := lw_g (lw_at lw_m3 85 rfl) rfl
theorem q692 : (Jvm.Cond.privateMethod ({ cls := "java/lang/AbstractStringBuilder", name := "ensureCapacityInternal", desc := "(I)V" } : Jvm.MethodName)) ∈ lw_tbl := lw_at lw_m3 86 rfl
theorem q693 : (Jvm.Cond.instanceMethod ({ cls := "java/lang/AbstractStringBuilder", name := "ensureCapacityInternal", desc := "(I)V" } : Jvm.MethodName)) ∈ lw_all := lw_g (lw_at lw_m3 87 rfl) rfl
theorem q694 : (Jvm.Cond.code ({ cls := "java/lang/AbstractStringBuilder", name := "ensureCapacityInternal", desc := "(I)V" } : Jvm.MethodName) prog_27_method_9_code (3 : Nat) (Option.none : Option Jvm.ClassFile.FieldType)) ∈ lw_all := lw_g (lw_at lw_m3 88 rfl) rfl
theorem q695 : (Jvm.Cond.methodLink "java/lang/AbstractStringBuilder" (104 : Nat) ({ cls := "java/lang/AbstractStringBuilder", name := "newCapacity", desc := "(I)I" } : Jvm.MethodName)) ∈ lw_all := lw_g (lw_at lw_m3 89 rfl) rfl
theorem q696 : (Jvm.Cond.privateMethod ({ cls := "java/lang/AbstractStringBuilder", name := "newCapacity", desc := "(I)I" } : Jvm.MethodName)) ∈ lw_tbl := lw_at lw_m3 90 rfl
theorem q697 : (Jvm.Cond.instanceMethod ({ cls := "java/lang/AbstractStringBuilder", name := "newCapacity", desc := "(I)I" } : Jvm.MethodName)) ∈ lw_all := lw_g (lw_at lw_m3 91 rfl) rfl
theorem q698 : (Jvm.Cond.code ({ cls := "java/lang/AbstractStringBuilder", name := "newCapacity", desc := "(I)I" } : Jvm.MethodName) prog_27_method_10_code (6 : Nat) (Option.some Jvm.ClassFile.FieldType.int)) ∈ lw_all := lw_g (lw_at lw_m3 92 rfl) rfl
theorem q699 : (Jvm.Cond.methodLink "java/lang/AbstractStringBuilder" (114 : Nat) ({ cls := "jdk/internal/util/ArraysSupport", name := "newLength", desc := "(III)I" } : Jvm.MethodName)) ∈ lw_all := lw_g (lw_at lw_m3 93 rfl) rfl
theorem q707 : (Jvm.Cond.constant "java/lang/AbstractStringBuilder" (39 : Nat) (2147483647 : Int32)) ∈ lw_all := lw_g (lw_at lw_m3 101 rfl) rfl
theorem q708 : (Jvm.Cond.methodLink "java/lang/AbstractStringBuilder" (108 : Nat) ({ cls := "java/util/Arrays", name := "copyOf", desc := "([BI)[B" } : Jvm.MethodName)) ∈ lw_all := lw_g (lw_at lw_m3 102 rfl) rfl
theorem q722 : (Jvm.Cond.methodLink "java/lang/AbstractStringBuilder" (83 : Nat) ({ cls := "java/lang/AbstractStringBuilder", name := "isLatin1", desc := "()Z" } : Jvm.MethodName)) ∈ lw_all := lw_g (lw_at lw_m3 116 rfl) rfl
theorem q723 : (Jvm.Cond.instanceMethod ({ cls := "java/lang/AbstractStringBuilder", name := "isLatin1", desc := "()Z" } : Jvm.MethodName)) ∈ lw_all := lw_g (lw_at lw_m3 117 rfl) rfl
theorem q724 : (Jvm.Cond.sameMethod "java/lang/AbstractStringBuilder" "java/lang/AbstractStringBuilder" "isLatin1" "()Z") ∈ lw_all := lw_g (lw_at lw_m3 118 rfl) rfl
theorem q726 : (Jvm.Cond.code ({ cls := "java/lang/AbstractStringBuilder", name := "isLatin1", desc := "()Z" } : Jvm.MethodName) prog_27_method_68_code (1 : Nat) (Option.some Jvm.ClassFile.FieldType.boolean)) ∈ lw_all := lw_g (lw_at lw_m3 120 rfl) rfl
theorem q727 : (Jvm.Cond.methodLink "java/lang/AbstractStringBuilder" (191 : Nat) ({ cls := "java/lang/StringLatin1", name := "canEncode", desc := "(C)Z" } : Jvm.MethodName)) ∈ lw_all := lw_g (lw_at lw_m3 121 rfl) rfl
theorem q730 : (Jvm.Cond.methodLink "java/lang/AbstractStringBuilder" (195 : Nat) ({ cls := "java/lang/AbstractStringBuilder", name := "inflate", desc := "()V" } : Jvm.MethodName)) ∈ lw_all := lw_g (lw_at lw_m3 124 rfl) rfl
theorem q731 : (Jvm.Cond.privateMethod ({ cls := "java/lang/AbstractStringBuilder", name := "inflate", desc := "()V" } : Jvm.MethodName)) ∈ lw_tbl := lw_at lw_m3 125 rfl
theorem q732 : (Jvm.Cond.instanceMethod ({ cls := "java/lang/AbstractStringBuilder", name := "inflate", desc := "()V" } : Jvm.MethodName)) ∈ lw_all := lw_g (lw_at lw_m3 126 rfl) rfl
theorem q733 : (Jvm.Cond.code ({ cls := "java/lang/AbstractStringBuilder", name := "inflate", desc := "()V" } : Jvm.MethodName) prog_27_method_11_code (2 : Nat) (Option.none : Option Jvm.ClassFile.FieldType)) ∈ lw_all := lw_g (lw_at lw_m3 127 rfl) rfl
theorem q734 : (Jvm.Cond.methodLink "java/lang/AbstractStringBuilder" (125 : Nat) ({ cls := "java/lang/StringLatin1", name := "inflate", desc := "([BI[BII)V" } : Jvm.MethodName)) ∈ lw_all := lw_g (lw_at lw_m3 128 rfl) rfl
theorem q752 : (Jvm.Cond.methodLink "java/lang/AbstractStringBuilder" (197 : Nat) ({ cls := "java/lang/StringUTF16", name := "putCharSB", desc := "([BII)V" } : Jvm.MethodName)) ∈ lw_all := lw_g (lw_at lw_m3 146 rfl) rfl
theorem q769 : (Jvm.Cond.instanceMethod ({ cls := "java/lang/AbstractStringBuilder", name := "getValue", desc := "()[B" } : Jvm.MethodName)) ∈ lw_all := lw_g (lw_at lw_m3 163 rfl) rfl
theorem q770 : (Jvm.Cond.sameMethod "java/lang/AbstractStringBuilder" "java/lang/AbstractStringBuilder" "getValue" "()[B") ∈ lw_all := lw_g (lw_at lw_m3 164 rfl) rfl
theorem q772 : (Jvm.Cond.code ({ cls := "java/lang/AbstractStringBuilder", name := "getValue", desc := "()[B" } : Jvm.MethodName) prog_27_method_64_code (1 : Nat) (Option.some (Jvm.ClassFile.FieldType.array Jvm.ClassFile.FieldType.byte))) ∈ lw_all := lw_g (lw_at lw_m3 166 rfl) rfl
theorem q774 : (Jvm.Cond.instanceMethod ({ cls := "java/lang/AbstractStringBuilder", name := "length", desc := "()I" } : Jvm.MethodName)) ∈ lw_all := lw_g (lw_at lw_m3 168 rfl) rfl
theorem q775 : (Jvm.Cond.sameMethod "java/lang/AbstractStringBuilder" "java/lang/AbstractStringBuilder" "length" "()I") ∈ lw_all := lw_g (lw_at lw_m3 169 rfl) rfl
theorem q780 : (Jvm.Cond.code ({ cls := "java/lang/AbstractStringBuilder", name := "length", desc := "()I" } : Jvm.MethodName) prog_27_method_6_code (1 : Nat) (Option.some Jvm.ClassFile.FieldType.int)) ∈ lw_all := lw_g (lw_at lw_m3 174 rfl) rfl
theorem q2250 : (Jvm.Cond.sameMethod "java/lang/AbstractStringBuilder" "java/lang/AbstractStringBuilder" "append" "(C)Ljava/lang/AbstractStringBuilder;") ∈ lw_all := lw_g (lw_at lw_m9 204 rfl) rfl
theorem q2251 : (Jvm.Cond.sameMethod "java/lang/AbstractStringBuilder" "java/lang/AbstractStringBuilder" "ensureCapacityInternal" "(I)V") ∈ lw_all := lw_g (lw_at lw_m9 205 rfl) rfl
theorem q2252 : (Jvm.Cond.sameMethod "java/lang/AbstractStringBuilder" "java/lang/AbstractStringBuilder" "newCapacity" "(I)I") ∈ lw_all := lw_g (lw_at lw_m9 206 rfl) rfl
theorem q2253 : (Jvm.Cond.sameMethod "java/lang/AbstractStringBuilder" "java/lang/AbstractStringBuilder" "inflate" "()V") ∈ lw_all := lw_g (lw_at lw_m9 207 rfl) rfl

def RJ14 : String := "java/lang/StringBuilder"
def TJ14 : u_T := fun k => match k with
  | 0 => ("java/lang/AbstractStringBuilder", "value", "[B", false)
  | 1 => ("java/lang/AbstractStringBuilder", "coder", "B", false)
  | 2 => ("java/lang/AbstractStringBuilder", "maybeLatin1", "Z", false)
  | _ => ("java/lang/AbstractStringBuilder", "count", "I", false)
def tyJ14 : Nat → FieldType := fun k => match k with
  | 0 => .array .byte
  | 1 => .byte
  | 2 => .boolean
  | _ => .int
abbrev wsJ140 : List Cond := u_ws RJ14 TJ14 4
theorem nmJ14 : ∀ a, a < 4 → ∀ b, b < 4 → a ≠ b → (TJ14 a).2.1 ≠ (TJ14 b).2.1 := by decide +kernel
theorem tyJ14_ok : ∀ k, k < 4 → parseFieldDescriptor (TJ14 k).2.2.1 = some (tyJ14 k) := by decide +kernel
abbrev bcJ14_init : ByteArray := prog_39_method_2_code
def yJ14_init : MethodName := ⟨RJ14, "<init>", "(I)V"⟩
abbrev bcJ14_append : ByteArray := prog_39_method_14_code
def yJ14_append : MethodName := ⟨RJ14, "append", "(C)Ljava/lang/StringBuilder;"⟩
abbrev bcJ14_toString : ByteArray := prog_39_method_42_code
def yJ14_toString : MethodName := ⟨RJ14, "toString", "()Ljava/lang/String;"⟩
abbrev bcJ14_length : ByteArray := prog_39_method_93_code
def yJ14_length : MethodName := ⟨RJ14, "length", "()I"⟩
theorem q147 : (Jvm.Cond.initialized "java/lang/StringBuilder") ∈ lw_all := lw_g (lw_at lw_m1 21 rfl) rfl
theorem q655 : (Jvm.Cond.instantiable "java/lang/StringBuilder" (4 : Nat)) ∈ lw_all := lw_g (lw_at lw_m3 49 rfl) rfl
theorem q657 : (Jvm.Cond.instanceMethod ({ cls := "java/lang/StringBuilder", name := "<init>", desc := "(I)V" } : Jvm.MethodName)) ∈ lw_all := lw_g (lw_at lw_m3 51 rfl) rfl
theorem q658 : (Jvm.Cond.code ({ cls := "java/lang/StringBuilder", name := "<init>", desc := "(I)V" } : Jvm.MethodName) prog_39_method_2_code (2 : Nat) (Option.none : Option Jvm.ClassFile.FieldType)) ∈ lw_all := lw_g (lw_at lw_m3 52 rfl) rfl
theorem q659 : (Jvm.Cond.methodLink "java/lang/StringBuilder" (1 : Nat) ({ cls := "java/lang/AbstractStringBuilder", name := "<init>", desc := "(I)V" } : Jvm.MethodName)) ∈ lw_all := lw_g (lw_at lw_m3 53 rfl) rfl
theorem q675 : (Jvm.Cond.lays "java/lang/StringBuilder" "java/lang/AbstractStringBuilder" "value" "[B") ∈ lw_all := lw_g (lw_at lw_m3 69 rfl) rfl
theorem q677 : (Jvm.Cond.lays "java/lang/StringBuilder" "java/lang/AbstractStringBuilder" "coder" "B") ∈ lw_all := lw_g (lw_at lw_m3 71 rfl) rfl
theorem q679 : (Jvm.Cond.lays "java/lang/StringBuilder" "java/lang/AbstractStringBuilder" "maybeLatin1" "Z") ∈ lw_all := lw_g (lw_at lw_m3 73 rfl) rfl
theorem q681 : (Jvm.Cond.lays "java/lang/StringBuilder" "java/lang/AbstractStringBuilder" "count" "I") ∈ lw_all := lw_g (lw_at lw_m3 75 rfl) rfl
theorem q683 : (Jvm.Cond.superclass "java/lang/StringBuilder" "java/lang/AbstractStringBuilder") ∈ lw_all := lw_g (lw_at lw_m3 77 rfl) rfl
theorem q685 : (Jvm.Cond.instanceMethod ({ cls := "java/lang/StringBuilder", name := "append", desc := "(C)Ljava/lang/StringBuilder;" } : Jvm.MethodName)) ∈ lw_all := lw_g (lw_at lw_m3 79 rfl) rfl
theorem q686 : (Jvm.Cond.selects "java/lang/StringBuilder" ({ cls := "java/lang/StringBuilder", name := "append", desc := "(C)Ljava/lang/StringBuilder;" } : Jvm.MethodName) ({ cls := "java/lang/StringBuilder", name := "append", desc := "(C)Ljava/lang/StringBuilder;" } : Jvm.MethodName)) ∈ lw_all := lw_g (lw_at lw_m3 80 rfl) rfl
theorem q687 : (Jvm.Cond.code ({ cls := "java/lang/StringBuilder", name := "append", desc := "(C)Ljava/lang/StringBuilder;" } : Jvm.MethodName) prog_39_method_14_code (2 : Nat) (Option.some (Jvm.ClassFile.FieldType.object "java/lang/StringBuilder"))) ∈ lw_all := lw_g (lw_at lw_m3 81 rfl) rfl
theorem q688 : (Jvm.Cond.methodLink "java/lang/StringBuilder" (50 : Nat) ({ cls := "java/lang/AbstractStringBuilder", name := "append", desc := "(C)Ljava/lang/AbstractStringBuilder;" } : Jvm.MethodName)) ∈ lw_all := lw_g (lw_at lw_m3 82 rfl) rfl
theorem q725 : (Jvm.Cond.selects "java/lang/StringBuilder" ({ cls := "java/lang/AbstractStringBuilder", name := "isLatin1", desc := "()Z" } : Jvm.MethodName) ({ cls := "java/lang/AbstractStringBuilder", name := "isLatin1", desc := "()Z" } : Jvm.MethodName)) ∈ lw_all := lw_g (lw_at lw_m3 119 rfl) rfl
theorem q756 : (Jvm.Cond.instanceMethod ({ cls := "java/lang/StringBuilder", name := "toString", desc := "()Ljava/lang/String;" } : Jvm.MethodName)) ∈ lw_all := lw_g (lw_at lw_m3 150 rfl) rfl
theorem q757 : (Jvm.Cond.selects "java/lang/StringBuilder" ({ cls := "java/lang/StringBuilder", name := "toString", desc := "()Ljava/lang/String;" } : Jvm.MethodName) ({ cls := "java/lang/StringBuilder", name := "toString", desc := "()Ljava/lang/String;" } : Jvm.MethodName)) ∈ lw_all := lw_g (lw_at lw_m3 151 rfl) rfl
theorem q758 : (Jvm.Cond.code ({ cls := "java/lang/StringBuilder", name := "toString", desc := "()Ljava/lang/String;" } : Jvm.MethodName) prog_39_method_42_code (1 : Nat) (Option.some (Jvm.ClassFile.FieldType.object "java/lang/String"))) ∈ lw_all := lw_g (lw_at lw_m3 152 rfl) rfl
theorem q759 : (Jvm.Cond.classLink "java/lang/StringBuilder" (18 : Nat) "java/lang/String") ∈ lw_all := lw_g (lw_at lw_m3 153 rfl) rfl
theorem q761 : (Jvm.Cond.methodLink "java/lang/StringBuilder" (137 : Nat) ({ cls := "java/lang/String", name := "<init>", desc := "(Ljava/lang/StringBuilder;)V" } : Jvm.MethodName)) ∈ lw_all := lw_g (lw_at lw_m3 155 rfl) rfl
theorem q771 : (Jvm.Cond.selects "java/lang/StringBuilder" ({ cls := "java/lang/AbstractStringBuilder", name := "getValue", desc := "()[B" } : Jvm.MethodName) ({ cls := "java/lang/AbstractStringBuilder", name := "getValue", desc := "()[B" } : Jvm.MethodName)) ∈ lw_all := lw_g (lw_at lw_m3 165 rfl) rfl
theorem q776 : (Jvm.Cond.selects "java/lang/StringBuilder" ({ cls := "java/lang/AbstractStringBuilder", name := "length", desc := "()I" } : Jvm.MethodName) ({ cls := "java/lang/StringBuilder", name := "length", desc := "()I" } : Jvm.MethodName)) ∈ lw_all := lw_g (lw_at lw_m3 170 rfl) rfl
theorem q777 : (Jvm.Cond.instanceMethod ({ cls := "java/lang/StringBuilder", name := "length", desc := "()I" } : Jvm.MethodName)) ∈ lw_all := lw_g (lw_at lw_m3 171 rfl) rfl
theorem q778 : (Jvm.Cond.code ({ cls := "java/lang/StringBuilder", name := "length", desc := "()I" } : Jvm.MethodName) prog_39_method_93_code (1 : Nat) (Option.some Jvm.ClassFile.FieldType.int)) ∈ lw_all := lw_g (lw_at lw_m3 172 rfl) rfl
theorem q779 : (Jvm.Cond.methodLink "java/lang/StringBuilder" (343 : Nat) ({ cls := "java/lang/AbstractStringBuilder", name := "length", desc := "()I" } : Jvm.MethodName)) ∈ lw_all := lw_g (lw_at lw_m3 173 rfl) rfl
theorem q873 : (Jvm.Cond.selects "java/lang/StringBuilder" ({ cls := "java/lang/Object", name := "getClass", desc := "()Ljava/lang/Class;" } : Jvm.MethodName) ({ cls := "java/lang/Object", name := "getClass", desc := "()Ljava/lang/Class;" } : Jvm.MethodName)) ∈ lw_all := lw_g (lw_at lw_m4 27 rfl) rfl
theorem q2268 : (Jvm.Cond.castable "java/lang/StringBuilder" "java/lang/Object") ∈ lw_tbl := lw_at lw_m9 222 rfl
theorem in_J14 : ∀ w ∈ wsJ140, w ∈ lw_all := lw_in wsJ140 [675, 677, 679, 681] (by decide +kernel) (by decide +kernel)

def RJ15 : String := "jdk/internal/util/ArraysSupport"
abbrev bcJ15_newLength : ByteArray := prog_56_method_27_code
def yJ15_newLength : MethodName := ⟨RJ15, "newLength", "(III)I"⟩
abbrev bcJ15_hugeLength : ByteArray := prog_56_method_28_code
def yJ15_hugeLength : MethodName := ⟨RJ15, "hugeLength", "(II)I"⟩
theorem q148 : (Jvm.Cond.initialized "jdk/internal/util/ArraysSupport") ∈ lw_all := lw_g (lw_at lw_m1 22 rfl) rfl
theorem q700 : (Jvm.Cond.static ({ cls := "jdk/internal/util/ArraysSupport", name := "newLength", desc := "(III)I" } : Jvm.MethodName)) ∈ lw_all := lw_g (lw_at lw_m3 94 rfl) rfl
theorem q701 : (Jvm.Cond.code ({ cls := "jdk/internal/util/ArraysSupport", name := "newLength", desc := "(III)I" } : Jvm.MethodName) prog_56_method_27_code (4 : Nat) (Option.some Jvm.ClassFile.FieldType.int)) ∈ lw_all := lw_g (lw_at lw_m3 95 rfl) rfl
theorem q702 : (Jvm.Cond.methodLink "jdk/internal/util/ArraysSupport" (194 : Nat) ({ cls := "java/lang/Math", name := "max", desc := "(II)I" } : Jvm.MethodName)) ∈ lw_all := lw_g (lw_at lw_m3 96 rfl) rfl
theorem q703 : (Jvm.Cond.constant "jdk/internal/util/ArraysSupport" (200 : Nat) (2147483639 : Int32)) ∈ lw_all := lw_g (lw_at lw_m3 97 rfl) rfl
theorem q704 : (Jvm.Cond.methodLink "jdk/internal/util/ArraysSupport" (201 : Nat) ({ cls := "jdk/internal/util/ArraysSupport", name := "hugeLength", desc := "(II)I" } : Jvm.MethodName)) ∈ lw_all := lw_g (lw_at lw_m3 98 rfl) rfl
theorem q705 : (Jvm.Cond.static ({ cls := "jdk/internal/util/ArraysSupport", name := "hugeLength", desc := "(II)I" } : Jvm.MethodName)) ∈ lw_all := lw_g (lw_at lw_m3 99 rfl) rfl
theorem q706 : (Jvm.Cond.code ({ cls := "jdk/internal/util/ArraysSupport", name := "hugeLength", desc := "(II)I" } : Jvm.MethodName) prog_56_method_28_code (3 : Nat) (Option.some Jvm.ClassFile.FieldType.int)) ∈ lw_all := lw_g (lw_at lw_m3 100 rfl) rfl

def RJ16 : String := "java/util/Arrays"
abbrev bcJ16_copyOf : ByteArray := prog_49_method_121_code
def yJ16_copyOf : MethodName := ⟨RJ16, "copyOf", "([BI)[B"⟩
abbrev bcJ16_copyOfRange : ByteArray := prog_49_method_132_code
def yJ16_copyOfRange : MethodName := ⟨RJ16, "copyOfRange", "([BII)[B"⟩
abbrev bcJ16_copyOfRangeByte : ByteArray := prog_49_method_133_code
def yJ16_copyOfRangeByte : MethodName := ⟨RJ16, "copyOfRangeByte", "([BII)[B"⟩
abbrev bcJ16_checkLength : ByteArray := prog_49_method_131_code
def yJ16_checkLength : MethodName := ⟨RJ16, "checkLength", "(II)V"⟩
abbrev bcJ16_copyOf_2 : ByteArray := prog_49_method_119_code
def yJ16_copyOf_2 : MethodName := ⟨RJ16, "copyOf", "([Ljava/lang/Object;I)[Ljava/lang/Object;"⟩
abbrev bcJ16_copyOf_3 : ByteArray := prog_49_method_120_code
def yJ16_copyOf_3 : MethodName := ⟨RJ16, "copyOf", "([Ljava/lang/Object;ILjava/lang/Class;)[Ljava/lang/Object;"⟩
theorem q149 : (Jvm.Cond.initialized "java/util/Arrays") ∈ lw_all := lw_g (lw_at lw_m1 23 rfl) rfl
theorem q709 : (Jvm.Cond.static ({ cls := "java/util/Arrays", name := "copyOf", desc := "([BI)[B" } : Jvm.MethodName)) ∈ lw_all := lw_g (lw_at lw_m3 103 rfl) rfl
theorem q710 : (Jvm.Cond.code ({ cls := "java/util/Arrays", name := "copyOf", desc := "([BI)[B" } : Jvm.MethodName) prog_49_method_121_code (3 : Nat) (Option.some (Jvm.ClassFile.FieldType.array Jvm.ClassFile.FieldType.byte))) ∈ lw_all := lw_g (lw_at lw_m3 104 rfl) rfl
theorem q711 : (Jvm.Cond.methodLink "java/util/Arrays" (310 : Nat) ({ cls := "[B", name := "clone", desc := "()Ljava/lang/Object;" } : Jvm.MethodName)) ∈ lw_all := lw_g (lw_at lw_m3 105 rfl) rfl
theorem q717 : (Jvm.Cond.classLink "java/util/Arrays" (311 : Nat) "[B") ∈ lw_all := lw_g (lw_at lw_m3 111 rfl) rfl
theorem q718 : (Jvm.Cond.methodLink "java/util/Arrays" (304 : Nat) ({ cls := "java/lang/Math", name := "min", desc := "(II)I" } : Jvm.MethodName)) ∈ lw_all := lw_g (lw_at lw_m3 112 rfl) rfl
theorem q719 : (Jvm.Cond.methodLink "java/util/Arrays" (150 : Nat) ({ cls := "java/lang/System", name := "arraycopy", desc := "(Ljava/lang/Object;ILjava/lang/Object;II)V" } : Jvm.MethodName)) ∈ lw_all := lw_g (lw_at lw_m3 113 rfl) rfl
theorem q783 : (Jvm.Cond.static ({ cls := "java/util/Arrays", name := "copyOfRange", desc := "([BII)[B" } : Jvm.MethodName)) ∈ lw_all := lw_g (lw_at lw_m3 177 rfl) rfl
theorem q784 : (Jvm.Cond.code ({ cls := "java/util/Arrays", name := "copyOfRange", desc := "([BII)[B" } : Jvm.MethodName) prog_49_method_132_code (3 : Nat) (Option.some (Jvm.ClassFile.FieldType.array Jvm.ClassFile.FieldType.byte))) ∈ lw_all := lw_g (lw_at lw_m3 178 rfl) rfl
theorem q785 : (Jvm.Cond.methodLink "java/util/Arrays" (339 : Nat) ({ cls := "java/util/Arrays", name := "copyOfRangeByte", desc := "([BII)[B" } : Jvm.MethodName)) ∈ lw_all := lw_g (lw_at lw_m3 179 rfl) rfl
theorem q786 : (Jvm.Cond.static ({ cls := "java/util/Arrays", name := "copyOfRangeByte", desc := "([BII)[B" } : Jvm.MethodName)) ∈ lw_all := lw_g (lw_at lw_m3 180 rfl) rfl
theorem q787 : (Jvm.Cond.code ({ cls := "java/util/Arrays", name := "copyOfRangeByte", desc := "([BII)[B" } : Jvm.MethodName) prog_49_method_133_code (5 : Nat) (Option.some (Jvm.ClassFile.FieldType.array Jvm.ClassFile.FieldType.byte))) ∈ lw_all := lw_g (lw_at lw_m3 181 rfl) rfl
theorem q788 : (Jvm.Cond.methodLink "java/util/Arrays" (343 : Nat) ({ cls := "java/util/Arrays", name := "checkLength", desc := "(II)V" } : Jvm.MethodName)) ∈ lw_all := lw_g (lw_at lw_m3 182 rfl) rfl
theorem q789 : (Jvm.Cond.static ({ cls := "java/util/Arrays", name := "checkLength", desc := "(II)V" } : Jvm.MethodName)) ∈ lw_all := lw_g (lw_at lw_m3 183 rfl) rfl
theorem q790 : (Jvm.Cond.code ({ cls := "java/util/Arrays", name := "checkLength", desc := "(II)V" } : Jvm.MethodName) prog_49_method_131_code (2 : Nat) (Option.none : Option Jvm.ClassFile.FieldType)) ∈ lw_all := lw_g (lw_at lw_m3 184 rfl) rfl
theorem q846 : (Jvm.Cond.static ({ cls := "java/util/Arrays", name := "copyOf", desc := "([Ljava/lang/Object;I)[Ljava/lang/Object;" } : Jvm.MethodName)) ∈ lw_all := lw_g (lw_at lw_m4 0 rfl) rfl
theorem q847 : (Jvm.Cond.code ({ cls := "java/util/Arrays", name := "copyOf", desc := "([Ljava/lang/Object;I)[Ljava/lang/Object;" } : Jvm.MethodName) prog_49_method_119_code (2 : Nat) (Option.some (Jvm.ClassFile.FieldType.array (Jvm.ClassFile.FieldType.object "java/lang/Object")))) ∈ lw_all := lw_g (lw_at lw_m4 1 rfl) rfl
theorem q848 : (Jvm.Cond.methodLink "java/util/Arrays" (86 : Nat) ({ cls := "java/lang/Object", name := "getClass", desc := "()Ljava/lang/Class;" } : Jvm.MethodName)) ∈ lw_all := lw_g (lw_at lw_m4 2 rfl) rfl
theorem q877 : (Jvm.Cond.methodLink "java/util/Arrays" (300 : Nat) ({ cls := "java/util/Arrays", name := "copyOf", desc := "([Ljava/lang/Object;ILjava/lang/Class;)[Ljava/lang/Object;" } : Jvm.MethodName)) ∈ lw_all := lw_g (lw_at lw_m4 31 rfl) rfl
theorem q878 : (Jvm.Cond.static ({ cls := "java/util/Arrays", name := "copyOf", desc := "([Ljava/lang/Object;ILjava/lang/Class;)[Ljava/lang/Object;" } : Jvm.MethodName)) ∈ lw_all := lw_g (lw_at lw_m4 32 rfl) rfl
theorem q879 : (Jvm.Cond.code ({ cls := "java/util/Arrays", name := "copyOf", desc := "([Ljava/lang/Object;ILjava/lang/Class;)[Ljava/lang/Object;" } : Jvm.MethodName) prog_49_method_120_code (4 : Nat) (Option.some (Jvm.ClassFile.FieldType.array (Jvm.ClassFile.FieldType.object "java/lang/Object")))) ∈ lw_all := lw_g (lw_at lw_m4 33 rfl) rfl
theorem q880 : (Jvm.Cond.classLink "java/util/Arrays" (110 : Nat) "[Ljava/lang/Object;") ∈ lw_all := lw_g (lw_at lw_m4 34 rfl) rfl
theorem q881 : (Jvm.Cond.classLink "java/util/Arrays" (2 : Nat) "java/lang/Object") ∈ lw_all := lw_g (lw_at lw_m4 35 rfl) rfl

def RJ17 : String := "java/lang/Integer"
abbrev bcJ17_bitCount : ByteArray := prog_34_method_49_code
def yJ17_bitCount : MethodName := ⟨RJ17, "bitCount", "(I)I"⟩
theorem q168 : (Jvm.Cond.initialized "java/lang/Integer") ∈ lw_all := lw_g (lw_at lw_m1 42 rfl) rfl
theorem q1364 : (Jvm.Cond.static ({ cls := "java/lang/Integer", name := "bitCount", desc := "(I)I" } : Jvm.MethodName)) ∈ lw_all := lw_g (lw_at lw_m6 38 rfl) rfl
theorem q1365 : (Jvm.Cond.code ({ cls := "java/lang/Integer", name := "bitCount", desc := "(I)I" } : Jvm.MethodName) prog_34_method_49_code (1 : Nat) (Option.some Jvm.ClassFile.FieldType.int)) ∈ lw_all := lw_g (lw_at lw_m6 39 rfl) rfl
theorem q1366 : (Jvm.Cond.constant "java/lang/Integer" (265 : Nat) (1431655765 : Int32)) ∈ lw_all := lw_g (lw_at lw_m6 40 rfl) rfl
theorem q1367 : (Jvm.Cond.constant "java/lang/Integer" (266 : Nat) (858993459 : Int32)) ∈ lw_all := lw_g (lw_at lw_m6 41 rfl) rfl
theorem q1368 : (Jvm.Cond.constant "java/lang/Integer" (267 : Nat) (252645135 : Int32)) ∈ lw_all := lw_g (lw_at lw_m6 42 rfl) rfl

def RJ18 : String := "java/util/NoSuchElementException"
def TJ18 : u_T := fun k => match k with
  | 0 => ("java/lang/Throwable", "cause", "Ljava/lang/Throwable;", false)
  | 1 => ("java/lang/Throwable", "stackTrace", "[Ljava/lang/StackTraceElement;", false)
  | 2 => ("java/lang/Throwable", "suppressedExceptions", "Ljava/util/List;", false)
  | 3 => ("java/lang/Throwable", "detailMessage", "Ljava/lang/String;", false)
  | 4 => ("java/lang/Throwable", "backtrace", "Ljava/lang/Object;", false)
  | _ => ("java/lang/Throwable", "depth", "I", false)
def tyJ18 : Nat → FieldType := fun k => match k with
  | 0 => .object "java/lang/Throwable"
  | 1 => .array (.object "java/lang/StackTraceElement")
  | 2 => .object "java/util/List"
  | 3 => .object "java/lang/String"
  | 4 => .object "java/lang/Object"
  | _ => .int
abbrev wsJ180 : List Cond := u_ws RJ18 TJ18 6
theorem nmJ18 : ∀ a, a < 6 → ∀ b, b < 6 → a ≠ b → (TJ18 a).2.1 ≠ (TJ18 b).2.1 := by decide +kernel
theorem tyJ18_ok : ∀ k, k < 6 → parseFieldDescriptor (TJ18 k).2.2.1 = some (tyJ18 k) := by decide +kernel
abbrev bcJ18_init : ByteArray := prog_52_method_1_code
def yJ18_init : MethodName := ⟨RJ18, "<init>", "()V"⟩
theorem q169 : (Jvm.Cond.initialized "java/util/NoSuchElementException") ∈ lw_all := lw_g (lw_at lw_m1 43 rfl) rfl
theorem q600 : (Jvm.Cond.selects "java/util/NoSuchElementException" ({ cls := "java/lang/Throwable", name := "fillInStackTrace", desc := "()Ljava/lang/Throwable;" } : Jvm.MethodName) ({ cls := "java/lang/Throwable", name := "fillInStackTrace", desc := "()Ljava/lang/Throwable;" } : Jvm.MethodName)) ∈ lw_all := lw_g (lw_at lw_m2 234 rfl) rfl
theorem q875 : (Jvm.Cond.selects "java/util/NoSuchElementException" ({ cls := "java/lang/Object", name := "getClass", desc := "()Ljava/lang/Class;" } : Jvm.MethodName) ({ cls := "java/lang/Object", name := "getClass", desc := "()Ljava/lang/Class;" } : Jvm.MethodName)) ∈ lw_all := lw_g (lw_at lw_m4 29 rfl) rfl
theorem q1610 : (Jvm.Cond.instantiable "java/util/NoSuchElementException" (6 : Nat)) ∈ lw_all := lw_g (lw_at lw_m7 44 rfl) rfl
theorem q1611 : (Jvm.Cond.castable "java/util/NoSuchElementException" "java/util/NoSuchElementException") ∈ lw_tbl := lw_at lw_m7 45 rfl
theorem q1612 : (Jvm.Cond.selects "java/util/NoSuchElementException" ({ cls := "java/lang/Throwable", name := "fillInStackTrace", desc := "(I)Ljava/lang/Throwable;" } : Jvm.MethodName) ({ cls := "java/lang/Throwable", name := "fillInStackTrace", desc := "(I)Ljava/lang/Throwable;" } : Jvm.MethodName)) ∈ lw_all := lw_g (lw_at lw_m7 46 rfl) rfl
theorem q1613 : (Jvm.Cond.lays "java/util/NoSuchElementException" "java/lang/Throwable" "cause" "Ljava/lang/Throwable;") ∈ lw_all := lw_g (lw_at lw_m7 47 rfl) rfl
theorem q1614 : (Jvm.Cond.lays "java/util/NoSuchElementException" "java/lang/Throwable" "stackTrace" "[Ljava/lang/StackTraceElement;") ∈ lw_all := lw_g (lw_at lw_m7 48 rfl) rfl
theorem q1615 : (Jvm.Cond.lays "java/util/NoSuchElementException" "java/lang/Throwable" "suppressedExceptions" "Ljava/util/List;") ∈ lw_all := lw_g (lw_at lw_m7 49 rfl) rfl
theorem q1616 : (Jvm.Cond.lays "java/util/NoSuchElementException" "java/lang/Throwable" "detailMessage" "Ljava/lang/String;") ∈ lw_all := lw_g (lw_at lw_m7 50 rfl) rfl
theorem q1617 : (Jvm.Cond.lays "java/util/NoSuchElementException" "java/lang/Throwable" "backtrace" "Ljava/lang/Object;") ∈ lw_all := lw_g (lw_at lw_m7 51 rfl) rfl
theorem q1619 : (Jvm.Cond.instanceMethod ({ cls := "java/util/NoSuchElementException", name := "<init>", desc := "()V" } : Jvm.MethodName)) ∈ lw_all := lw_g (lw_at lw_m7 53 rfl) rfl
theorem q1620 : (Jvm.Cond.code ({ cls := "java/util/NoSuchElementException", name := "<init>", desc := "()V" } : Jvm.MethodName) prog_52_method_1_code (1 : Nat) (Option.none : Option Jvm.ClassFile.FieldType)) ∈ lw_all := lw_g (lw_at lw_m7 54 rfl) rfl
theorem q1621 : (Jvm.Cond.methodLink "java/util/NoSuchElementException" (1 : Nat) ({ cls := "java/lang/RuntimeException", name := "<init>", desc := "()V" } : Jvm.MethodName)) ∈ lw_all := lw_g (lw_at lw_m7 55 rfl) rfl
theorem q1628 : (Jvm.Cond.lays "java/util/NoSuchElementException" "java/lang/Throwable" "depth" "I") ∈ lw_all := lw_g (lw_at lw_m7 62 rfl) rfl
theorem q1629 : (Jvm.Cond.superclass "java/util/NoSuchElementException" "java/lang/RuntimeException") ∈ lw_all := lw_g (lw_at lw_m7 63 rfl) rfl
theorem q2284 : (Jvm.Cond.castable "java/util/NoSuchElementException" "java/lang/Object") ∈ lw_tbl := lw_at lw_m9 238 rfl
theorem in_J18 : ∀ w ∈ wsJ180, w ∈ lw_all := lw_in wsJ180 [1613, 1614, 1615, 1616, 1617, 1628] (by decide +kernel) (by decide +kernel)

def RJ19 : String := "java/lang/Object"
abbrev bcJ19_init : ByteArray := object_method_1_code
def yJ19_init : MethodName := ⟨RJ19, "<init>", "()V"⟩
theorem q177 : (Jvm.Cond.instanceMethod ({ cls := "java/lang/Object", name := "<init>", desc := "()V" } : Jvm.MethodName)) ∈ lw_all := lw_g (lw_at lw_m1 51 rfl) rfl
theorem q178 : (Jvm.Cond.code ({ cls := "java/lang/Object", name := "<init>", desc := "()V" } : Jvm.MethodName) object_method_1_code (1 : Nat) (Option.none : Option Jvm.ClassFile.FieldType)) ∈ lw_all := lw_g (lw_at lw_m1 52 rfl) rfl
theorem q713 : (Jvm.Cond.native ({ cls := "java/lang/Object", name := "clone", desc := "()Ljava/lang/Object;" } : Jvm.MethodName)) ∈ lw_all := lw_g (lw_at lw_m3 107 rfl) rfl
theorem q714 : (Jvm.Cond.instanceMethod ({ cls := "java/lang/Object", name := "clone", desc := "()Ljava/lang/Object;" } : Jvm.MethodName)) ∈ lw_all := lw_g (lw_at lw_m3 108 rfl) rfl
theorem q849 : (Jvm.Cond.instanceMethod ({ cls := "java/lang/Object", name := "getClass", desc := "()Ljava/lang/Class;" } : Jvm.MethodName)) ∈ lw_all := lw_g (lw_at lw_m4 3 rfl) rfl
theorem q850 : (Jvm.Cond.sameMethod "java/lang/Object" "java/lang/Object" "getClass" "()Ljava/lang/Class;") ∈ lw_all := lw_g (lw_at lw_m4 4 rfl) rfl
theorem q876 : (Jvm.Cond.native ({ cls := "java/lang/Object", name := "getClass", desc := "()Ljava/lang/Class;" } : Jvm.MethodName)) ∈ lw_all := lw_g (lw_at lw_m4 30 rfl) rfl
theorem q2254 : (Jvm.Cond.initialized "java/lang/Object") ∈ lw_all := lw_g (lw_at lw_m9 208 rfl) rfl
theorem q2288 : (Jvm.Cond.declares ({ cls := "java/lang/Object", name := "getClass", desc := "()Ljava/lang/Class;" } : Jvm.MethodName)) ∈ lw_tbl := lw_at lw_m10 2 rfl

def RJ2 : String := "java/util/ArrayList"
def TJ2 : u_T := fun k => match k with
  | 0 => ("java/util/AbstractList", "modCount", "I", false)
  | 1 => ("java/util/ArrayList", "elementData", "[Ljava/lang/Object;", false)
  | _ => ("java/util/ArrayList", "size", "I", false)
def tyJ2 : Nat → FieldType := fun k => match k with
  | 0 => .int
  | 1 => .array (.object "java/lang/Object")
  | _ => .int
abbrev wsJ20 : List Cond := u_ws RJ2 TJ2 3
theorem nmJ2 : ∀ a, a < 3 → ∀ b, b < 3 → a ≠ b → (TJ2 a).2.1 ≠ (TJ2 b).2.1 := by decide +kernel
theorem tyJ2_ok : ∀ k, k < 3 → parseFieldDescriptor (TJ2 k).2.2.1 = some (tyJ2 k) := by decide +kernel
abbrev bcJ2_init : ByteArray := prog_48_method_1_code
def yJ2_init : MethodName := ⟨RJ2, "<init>", "(I)V"⟩
abbrev bcJ2_size : ByteArray := prog_48_method_8_code
def yJ2_size : MethodName := ⟨RJ2, "size", "()I"⟩
abbrev bcJ2_get : ByteArray := prog_48_method_20_code
def yJ2_get : MethodName := ⟨RJ2, "get", "(I)Ljava/lang/Object;"⟩
abbrev bcJ2_elementData : ByteArray := prog_48_method_18_code
def yJ2_elementData : MethodName := ⟨RJ2, "elementData", "(I)Ljava/lang/Object;"⟩
abbrev bcJ2_add : ByteArray := prog_48_method_25_code
def yJ2_add : MethodName := ⟨RJ2, "add", "(Ljava/lang/Object;)Z"⟩
abbrev bcJ2_add_2 : ByteArray := prog_48_method_24_code
def yJ2_add_2 : MethodName := ⟨RJ2, "add", "(Ljava/lang/Object;[Ljava/lang/Object;I)V"⟩
abbrev bcJ2_grow : ByteArray := prog_48_method_7_code
def yJ2_grow : MethodName := ⟨RJ2, "grow", "()[Ljava/lang/Object;"⟩
abbrev bcJ2_grow_2 : ByteArray := prog_48_method_6_code
def yJ2_grow_2 : MethodName := ⟨RJ2, "grow", "(I)[Ljava/lang/Object;"⟩
theorem q132 : (Jvm.Cond.initialized "java/util/ArrayList") ∈ lw_all := lw_g (lw_at lw_m1 6 rfl) rfl
theorem q218 : (Jvm.Cond.instantiable "java/util/ArrayList" (3 : Nat)) ∈ lw_all := lw_g (lw_at lw_m1 92 rfl) rfl
theorem q220 : (Jvm.Cond.instanceMethod ({ cls := "java/util/ArrayList", name := "<init>", desc := "(I)V" } : Jvm.MethodName)) ∈ lw_all := lw_g (lw_at lw_m1 94 rfl) rfl
theorem q221 : (Jvm.Cond.code ({ cls := "java/util/ArrayList", name := "<init>", desc := "(I)V" } : Jvm.MethodName) prog_48_method_1_code (2 : Nat) (Option.none : Option Jvm.ClassFile.FieldType)) ∈ lw_all := lw_g (lw_at lw_m1 95 rfl) rfl
theorem q222 : (Jvm.Cond.methodLink "java/util/ArrayList" (1 : Nat) ({ cls := "java/util/AbstractList", name := "<init>", desc := "()V" } : Jvm.MethodName)) ∈ lw_all := lw_g (lw_at lw_m1 96 rfl) rfl
theorem q229 : (Jvm.Cond.classLink "java/util/ArrayList" (7 : Nat) "java/lang/Object") ∈ lw_all := lw_g (lw_at lw_m1 103 rfl) rfl
theorem q231 : (Jvm.Cond.fieldLink "java/util/ArrayList" (15 : Nat) "java/util/ArrayList" "EMPTY_ELEMENTDATA" "[Ljava/lang/Object;") ∈ lw_all := lw_g (lw_at lw_m1 105 rfl) rfl
theorem q232 : (Jvm.Cond.laysStatic "java/util/ArrayList" "EMPTY_ELEMENTDATA" "[Ljava/lang/Object;") ∈ lw_tbl := lw_at lw_m1 106 rfl
theorem q233 : (Jvm.Cond.fieldLink "java/util/ArrayList" (9 : Nat) "java/util/ArrayList" "elementData" "[Ljava/lang/Object;") ∈ lw_all := lw_g (lw_at lw_m1 107 rfl) rfl
theorem q234 : (Jvm.Cond.fieldLink "java/util/ArrayList" (48 : Nat) "java/util/ArrayList" "size" "I") ∈ lw_all := lw_g (lw_at lw_m1 108 rfl) rfl
theorem q236 : (Jvm.Cond.fieldLink "java/util/ArrayList" (63 : Nat) "java/util/ArrayList" "modCount" "I") ∈ lw_all := lw_g (lw_at lw_m1 110 rfl) rfl
theorem q237 : (Jvm.Cond.sameField "java/util/ArrayList" "java/util/AbstractList" "modCount" "I") ∈ lw_all := lw_g (lw_at lw_m1 111 rfl) rfl
theorem q238 : (Jvm.Cond.lays "java/util/ArrayList" "java/util/ArrayList" "elementData" "[Ljava/lang/Object;") ∈ lw_all := lw_g (lw_at lw_m1 112 rfl) rfl
theorem q239 : (Jvm.Cond.soleField "java/util/ArrayList" "elementData") ∈ lw_all := lw_g (lw_at lw_m1 113 rfl) rfl
theorem q240 : (Jvm.Cond.lays "java/util/ArrayList" "java/util/ArrayList" "size" "I") ∈ lw_all := lw_g (lw_at lw_m1 114 rfl) rfl
theorem q241 : (Jvm.Cond.soleField "java/util/ArrayList" "size") ∈ lw_all := lw_g (lw_at lw_m1 115 rfl) rfl
theorem q242 : (Jvm.Cond.lays "java/util/ArrayList" "java/util/AbstractList" "modCount" "I") ∈ lw_all := lw_g (lw_at lw_m1 116 rfl) rfl
theorem q244 : (Jvm.Cond.superclass "java/util/ArrayList" "java/util/AbstractList") ∈ lw_all := lw_g (lw_at lw_m1 118 rfl) rfl
theorem q324 : (Jvm.Cond.instanceMethod ({ cls := "java/util/ArrayList", name := "size", desc := "()I" } : Jvm.MethodName)) ∈ lw_all := lw_g (lw_at lw_m1 198 rfl) rfl
theorem q325 : (Jvm.Cond.selects "java/util/ArrayList" ({ cls := "java/util/ArrayList", name := "size", desc := "()I" } : Jvm.MethodName) ({ cls := "java/util/ArrayList", name := "size", desc := "()I" } : Jvm.MethodName)) ∈ lw_all := lw_g (lw_at lw_m1 199 rfl) rfl
theorem q326 : (Jvm.Cond.code ({ cls := "java/util/ArrayList", name := "size", desc := "()I" } : Jvm.MethodName) prog_48_method_8_code (1 : Nat) (Option.some Jvm.ClassFile.FieldType.int)) ∈ lw_all := lw_g (lw_at lw_m1 200 rfl) rfl
theorem q328 : (Jvm.Cond.instanceMethod ({ cls := "java/util/ArrayList", name := "get", desc := "(I)Ljava/lang/Object;" } : Jvm.MethodName)) ∈ lw_all := lw_g (lw_at lw_m1 202 rfl) rfl
theorem q329 : (Jvm.Cond.selects "java/util/ArrayList" ({ cls := "java/util/ArrayList", name := "get", desc := "(I)Ljava/lang/Object;" } : Jvm.MethodName) ({ cls := "java/util/ArrayList", name := "get", desc := "(I)Ljava/lang/Object;" } : Jvm.MethodName)) ∈ lw_all := lw_g (lw_at lw_m1 203 rfl) rfl
theorem q330 : (Jvm.Cond.code ({ cls := "java/util/ArrayList", name := "get", desc := "(I)Ljava/lang/Object;" } : Jvm.MethodName) prog_48_method_20_code (2 : Nat) (Option.some (Jvm.ClassFile.FieldType.object "java/lang/Object"))) ∈ lw_all := lw_g (lw_at lw_m1 204 rfl) rfl
theorem q331 : (Jvm.Cond.methodLink "java/util/ArrayList" (118 : Nat) ({ cls := "java/util/Objects", name := "checkIndex", desc := "(II)I" } : Jvm.MethodName)) ∈ lw_all := lw_g (lw_at lw_m1 205 rfl) rfl
theorem q337 : (Jvm.Cond.methodLink "java/util/ArrayList" (123 : Nat) ({ cls := "java/util/ArrayList", name := "elementData", desc := "(I)Ljava/lang/Object;" } : Jvm.MethodName)) ∈ lw_all := lw_g (lw_at lw_m1 211 rfl) rfl
theorem q338 : (Jvm.Cond.instanceMethod ({ cls := "java/util/ArrayList", name := "elementData", desc := "(I)Ljava/lang/Object;" } : Jvm.MethodName)) ∈ lw_all := lw_g (lw_at lw_m1 212 rfl) rfl
theorem q339 : (Jvm.Cond.selects "java/util/ArrayList" ({ cls := "java/util/ArrayList", name := "elementData", desc := "(I)Ljava/lang/Object;" } : Jvm.MethodName) ({ cls := "java/util/ArrayList", name := "elementData", desc := "(I)Ljava/lang/Object;" } : Jvm.MethodName)) ∈ lw_all := lw_g (lw_at lw_m1 213 rfl) rfl
theorem q340 : (Jvm.Cond.code ({ cls := "java/util/ArrayList", name := "elementData", desc := "(I)Ljava/lang/Object;" } : Jvm.MethodName) prog_48_method_18_code (2 : Nat) (Option.some (Jvm.ClassFile.FieldType.object "java/lang/Object"))) ∈ lw_all := lw_g (lw_at lw_m1 214 rfl) rfl
theorem q827 : (Jvm.Cond.instanceMethod ({ cls := "java/util/ArrayList", name := "add", desc := "(Ljava/lang/Object;)Z" } : Jvm.MethodName)) ∈ lw_all := lw_g (lw_at lw_m3 221 rfl) rfl
theorem q828 : (Jvm.Cond.selects "java/util/ArrayList" ({ cls := "java/util/ArrayList", name := "add", desc := "(Ljava/lang/Object;)Z" } : Jvm.MethodName) ({ cls := "java/util/ArrayList", name := "add", desc := "(Ljava/lang/Object;)Z" } : Jvm.MethodName)) ∈ lw_all := lw_g (lw_at lw_m3 222 rfl) rfl
theorem q829 : (Jvm.Cond.code ({ cls := "java/util/ArrayList", name := "add", desc := "(Ljava/lang/Object;)Z" } : Jvm.MethodName) prog_48_method_25_code (2 : Nat) (Option.some Jvm.ClassFile.FieldType.boolean)) ∈ lw_all := lw_g (lw_at lw_m3 223 rfl) rfl
theorem q830 : (Jvm.Cond.methodLink "java/util/ArrayList" (131 : Nat) ({ cls := "java/util/ArrayList", name := "add", desc := "(Ljava/lang/Object;[Ljava/lang/Object;I)V" } : Jvm.MethodName)) ∈ lw_all := lw_g (lw_at lw_m3 224 rfl) rfl
theorem q831 : (Jvm.Cond.privateMethod ({ cls := "java/util/ArrayList", name := "add", desc := "(Ljava/lang/Object;[Ljava/lang/Object;I)V" } : Jvm.MethodName)) ∈ lw_tbl := lw_at lw_m3 225 rfl
theorem q832 : (Jvm.Cond.instanceMethod ({ cls := "java/util/ArrayList", name := "add", desc := "(Ljava/lang/Object;[Ljava/lang/Object;I)V" } : Jvm.MethodName)) ∈ lw_all := lw_g (lw_at lw_m3 226 rfl) rfl
theorem q833 : (Jvm.Cond.code ({ cls := "java/util/ArrayList", name := "add", desc := "(Ljava/lang/Object;[Ljava/lang/Object;I)V" } : Jvm.MethodName) prog_48_method_24_code (4 : Nat) (Option.none : Option Jvm.ClassFile.FieldType)) ∈ lw_all := lw_g (lw_at lw_m3 227 rfl) rfl
theorem q834 : (Jvm.Cond.methodLink "java/util/ArrayList" (129 : Nat) ({ cls := "java/util/ArrayList", name := "grow", desc := "()[Ljava/lang/Object;" } : Jvm.MethodName)) ∈ lw_all := lw_g (lw_at lw_m3 228 rfl) rfl
theorem q835 : (Jvm.Cond.privateMethod ({ cls := "java/util/ArrayList", name := "grow", desc := "()[Ljava/lang/Object;" } : Jvm.MethodName)) ∈ lw_tbl := lw_at lw_m3 229 rfl
theorem q836 : (Jvm.Cond.instanceMethod ({ cls := "java/util/ArrayList", name := "grow", desc := "()[Ljava/lang/Object;" } : Jvm.MethodName)) ∈ lw_all := lw_g (lw_at lw_m3 230 rfl) rfl
theorem q837 : (Jvm.Cond.code ({ cls := "java/util/ArrayList", name := "grow", desc := "()[Ljava/lang/Object;" } : Jvm.MethodName) prog_48_method_7_code (1 : Nat) (Option.some (Jvm.ClassFile.FieldType.array (Jvm.ClassFile.FieldType.object "java/lang/Object")))) ∈ lw_all := lw_g (lw_at lw_m3 231 rfl) rfl
theorem q838 : (Jvm.Cond.methodLink "java/util/ArrayList" (69 : Nat) ({ cls := "java/util/ArrayList", name := "grow", desc := "(I)[Ljava/lang/Object;" } : Jvm.MethodName)) ∈ lw_all := lw_g (lw_at lw_m3 232 rfl) rfl
theorem q839 : (Jvm.Cond.privateMethod ({ cls := "java/util/ArrayList", name := "grow", desc := "(I)[Ljava/lang/Object;" } : Jvm.MethodName)) ∈ lw_tbl := lw_at lw_m3 233 rfl
theorem q840 : (Jvm.Cond.instanceMethod ({ cls := "java/util/ArrayList", name := "grow", desc := "(I)[Ljava/lang/Object;" } : Jvm.MethodName)) ∈ lw_all := lw_g (lw_at lw_m3 234 rfl) rfl
theorem q841 : (Jvm.Cond.code ({ cls := "java/util/ArrayList", name := "grow", desc := "(I)[Ljava/lang/Object;" } : Jvm.MethodName) prog_48_method_6_code (4 : Nat) (Option.some (Jvm.ClassFile.FieldType.array (Jvm.ClassFile.FieldType.object "java/lang/Object")))) ∈ lw_all := lw_g (lw_at lw_m3 235 rfl) rfl
theorem q842 : (Jvm.Cond.fieldLink "java/util/ArrayList" (39 : Nat) "java/util/ArrayList" "DEFAULTCAPACITY_EMPTY_ELEMENTDATA" "[Ljava/lang/Object;") ∈ lw_all := lw_g (lw_at lw_m3 236 rfl) rfl
theorem q843 : (Jvm.Cond.laysStatic "java/util/ArrayList" "DEFAULTCAPACITY_EMPTY_ELEMENTDATA" "[Ljava/lang/Object;") ∈ lw_tbl := lw_at lw_m3 237 rfl
theorem q844 : (Jvm.Cond.methodLink "java/util/ArrayList" (73 : Nat) ({ cls := "jdk/internal/util/ArraysSupport", name := "newLength", desc := "(III)I" } : Jvm.MethodName)) ∈ lw_all := lw_g (lw_at lw_m3 238 rfl) rfl
theorem q845 : (Jvm.Cond.methodLink "java/util/ArrayList" (66 : Nat) ({ cls := "java/util/Arrays", name := "copyOf", desc := "([Ljava/lang/Object;I)[Ljava/lang/Object;" } : Jvm.MethodName)) ∈ lw_all := lw_g (lw_at lw_m3 239 rfl) rfl
theorem q874 : (Jvm.Cond.selects "java/util/ArrayList" ({ cls := "java/lang/Object", name := "getClass", desc := "()Ljava/lang/Class;" } : Jvm.MethodName) ({ cls := "java/lang/Object", name := "getClass", desc := "()Ljava/lang/Class;" } : Jvm.MethodName)) ∈ lw_all := lw_g (lw_at lw_m4 28 rfl) rfl
theorem q882 : (Jvm.Cond.methodLink "java/util/ArrayList" (79 : Nat) ({ cls := "java/lang/Math", name := "max", desc := "(II)I" } : Jvm.MethodName)) ∈ lw_all := lw_g (lw_at lw_m4 36 rfl) rfl
theorem q2265 : (Jvm.Cond.castable "java/util/ArrayList" "java/lang/Object") ∈ lw_tbl := lw_at lw_m9 219 rfl
theorem in_J2 : ∀ w ∈ wsJ20, w ∈ lw_all := lw_in wsJ20 [242, 238, 240] (by decide +kernel) (by decide +kernel)

def RJ3 : String := "java/util/Objects"
abbrev bcJ3_checkIndex : ByteArray := prog_53_method_17_code
def yJ3_checkIndex : MethodName := ⟨RJ3, "checkIndex", "(II)I"⟩
theorem q134 : (Jvm.Cond.initialized "java/util/Objects") ∈ lw_all := lw_g (lw_at lw_m1 8 rfl) rfl
theorem q332 : (Jvm.Cond.static ({ cls := "java/util/Objects", name := "checkIndex", desc := "(II)I" } : Jvm.MethodName)) ∈ lw_all := lw_g (lw_at lw_m1 206 rfl) rfl
theorem q333 : (Jvm.Cond.code ({ cls := "java/util/Objects", name := "checkIndex", desc := "(II)I" } : Jvm.MethodName) prog_53_method_17_code (2 : Nat) (Option.some Jvm.ClassFile.FieldType.int)) ∈ lw_all := lw_g (lw_at lw_m1 207 rfl) rfl
theorem q334 : (Jvm.Cond.methodLink "java/util/Objects" (105 : Nat) ({ cls := "jdk/internal/util/Preconditions", name := "checkIndex", desc := "(IILjava/util/function/BiFunction;)I" } : Jvm.MethodName)) ∈ lw_all := lw_g (lw_at lw_m1 208 rfl) rfl

def RJ4 : String := "jdk/internal/util/Preconditions"
abbrev bcJ4_checkIndex : ByteArray := prog_57_method_11_code
def yJ4_checkIndex : MethodName := ⟨RJ4, "checkIndex", "(IILjava/util/function/BiFunction;)I"⟩
abbrev bcJ4_checkFromToIndex : ByteArray := prog_57_method_12_code
def yJ4_checkFromToIndex : MethodName := ⟨RJ4, "checkFromToIndex", "(IIILjava/util/function/BiFunction;)I"⟩
abbrev bcJ4_checkFromIndexSize : ByteArray := prog_57_method_13_code
def yJ4_checkFromIndexSize : MethodName := ⟨RJ4, "checkFromIndexSize", "(IIILjava/util/function/BiFunction;)I"⟩
theorem q135 : (Jvm.Cond.initialized "jdk/internal/util/Preconditions") ∈ lw_all := lw_g (lw_at lw_m1 9 rfl) rfl
theorem q335 : (Jvm.Cond.static ({ cls := "jdk/internal/util/Preconditions", name := "checkIndex", desc := "(IILjava/util/function/BiFunction;)I" } : Jvm.MethodName)) ∈ lw_all := lw_g (lw_at lw_m1 209 rfl) rfl
theorem q336 : (Jvm.Cond.code ({ cls := "jdk/internal/util/Preconditions", name := "checkIndex", desc := "(IILjava/util/function/BiFunction;)I" } : Jvm.MethodName) prog_57_method_11_code (3 : Nat) (Option.some Jvm.ClassFile.FieldType.int)) ∈ lw_all := lw_g (lw_at lw_m1 210 rfl) rfl
theorem q502 : (Jvm.Cond.laysStatic "jdk/internal/util/Preconditions" "SIOOBE_FORMATTER" "Ljava/util/function/BiFunction;") ∈ lw_tbl := lw_at lw_m2 136 rfl
theorem q504 : (Jvm.Cond.static ({ cls := "jdk/internal/util/Preconditions", name := "checkFromToIndex", desc := "(IIILjava/util/function/BiFunction;)I" } : Jvm.MethodName)) ∈ lw_all := lw_g (lw_at lw_m2 138 rfl) rfl
theorem q505 : (Jvm.Cond.code ({ cls := "jdk/internal/util/Preconditions", name := "checkFromToIndex", desc := "(IIILjava/util/function/BiFunction;)I" } : Jvm.MethodName) prog_57_method_12_code (4 : Nat) (Option.some Jvm.ClassFile.FieldType.int)) ∈ lw_all := lw_g (lw_at lw_m2 139 rfl) rfl
theorem q747 : (Jvm.Cond.static ({ cls := "jdk/internal/util/Preconditions", name := "checkFromIndexSize", desc := "(IIILjava/util/function/BiFunction;)I" } : Jvm.MethodName)) ∈ lw_all := lw_g (lw_at lw_m3 141 rfl) rfl
theorem q748 : (Jvm.Cond.code ({ cls := "jdk/internal/util/Preconditions", name := "checkFromIndexSize", desc := "(IIILjava/util/function/BiFunction;)I" } : Jvm.MethodName) prog_57_method_13_code (4 : Nat) (Option.some Jvm.ClassFile.FieldType.int)) ∈ lw_all := lw_g (lw_at lw_m3 142 rfl) rfl

def RJ5 : String := "java/lang/String"
def TJ5 : u_T := fun k => match k with
  | 0 => ("java/lang/String", "value", "[B", true)
  | 1 => ("java/lang/String", "coder", "B", true)
  | 2 => ("java/lang/String", "hash", "I", false)
  | _ => ("java/lang/String", "hashIsZero", "Z", false)
def tyJ5 : Nat → FieldType := fun k => match k with
  | 0 => .array .byte
  | 1 => .byte
  | 2 => .int
  | _ => .boolean
abbrev wsJ50 : List Cond := u_ws RJ5 TJ5 4
theorem nmJ5 : ∀ a, a < 4 → ∀ b, b < 4 → a ≠ b → (TJ5 a).2.1 ≠ (TJ5 b).2.1 := by decide +kernel
theorem tyJ5_ok : ∀ k, k < 4 → parseFieldDescriptor (TJ5 k).2.2.1 = some (tyJ5 k) := by decide +kernel
abbrev bcJ5_indexOf : ByteArray := prog_38_method_79_code
def yJ5_indexOf : MethodName := ⟨RJ5, "indexOf", "(I)I"⟩
abbrev bcJ5_indexOf_2 : ByteArray := prog_38_method_80_code
def yJ5_indexOf_2 : MethodName := ⟨RJ5, "indexOf", "(II)I"⟩
abbrev bcJ5_isLatin1 : ByteArray := prog_38_method_154_code
def yJ5_isLatin1 : MethodName := ⟨RJ5, "isLatin1", "()Z"⟩
abbrev bcJ5_length : ByteArray := prog_38_method_54_code
def yJ5_length : MethodName := ⟨RJ5, "length", "()I"⟩
abbrev bcJ5_coder : ByteArray := prog_38_method_152_code
def yJ5_coder : MethodName := ⟨RJ5, "coder", "()B"⟩
abbrev bcJ5_checkBoundsBeginEnd : ByteArray := prog_38_method_158_code
def yJ5_checkBoundsBeginEnd : MethodName := ⟨RJ5, "checkBoundsBeginEnd", "(III)V"⟩
abbrev bcJ5_charAt : ByteArray := prog_38_method_56_code
def yJ5_charAt : MethodName := ⟨RJ5, "charAt", "(I)C"⟩
abbrev bcJ5_checkIndex : ByteArray := prog_38_method_155_code
def yJ5_checkIndex : MethodName := ⟨RJ5, "checkIndex", "(II)V"⟩
abbrev bcJ5_checkBoundsOffCount : ByteArray := prog_38_method_157_code
def yJ5_checkBoundsOffCount : MethodName := ⟨RJ5, "checkBoundsOffCount", "(III)I"⟩
abbrev bcJ5_init : ByteArray := prog_38_method_53_code
def yJ5_init : MethodName := ⟨RJ5, "<init>", "(Ljava/lang/StringBuilder;)V"⟩
abbrev bcJ5_init_2 : ByteArray := prog_38_method_150_code
def yJ5_init_2 : MethodName := ⟨RJ5, "<init>", "(Ljava/lang/AbstractStringBuilder;Ljava/lang/Void;)V"⟩
abbrev bcJ5_equals : ByteArray := prog_38_method_66_code
def yJ5_equals : MethodName := ⟨RJ5, "equals", "(Ljava/lang/Object;)Z"⟩
theorem q137 : (Jvm.Cond.initialized "java/lang/String") ∈ lw_all := lw_g (lw_at lw_m1 11 rfl) rfl
theorem q447 : (Jvm.Cond.instanceMethod ({ cls := "java/lang/String", name := "indexOf", desc := "(I)I" } : Jvm.MethodName)) ∈ lw_all := lw_g (lw_at lw_m2 81 rfl) rfl
theorem q448 : (Jvm.Cond.selects "java/lang/String" ({ cls := "java/lang/String", name := "indexOf", desc := "(I)I" } : Jvm.MethodName) ({ cls := "java/lang/String", name := "indexOf", desc := "(I)I" } : Jvm.MethodName)) ∈ lw_all := lw_g (lw_at lw_m2 82 rfl) rfl
theorem q449 : (Jvm.Cond.code ({ cls := "java/lang/String", name := "indexOf", desc := "(I)I" } : Jvm.MethodName) prog_38_method_79_code (2 : Nat) (Option.some Jvm.ClassFile.FieldType.int)) ∈ lw_all := lw_g (lw_at lw_m2 83 rfl) rfl
theorem q450 : (Jvm.Cond.methodLink "java/lang/String" (633 : Nat) ({ cls := "java/lang/String", name := "indexOf", desc := "(II)I" } : Jvm.MethodName)) ∈ lw_all := lw_g (lw_at lw_m2 84 rfl) rfl
theorem q451 : (Jvm.Cond.instanceMethod ({ cls := "java/lang/String", name := "indexOf", desc := "(II)I" } : Jvm.MethodName)) ∈ lw_all := lw_g (lw_at lw_m2 85 rfl) rfl
theorem q452 : (Jvm.Cond.selects "java/lang/String" ({ cls := "java/lang/String", name := "indexOf", desc := "(II)I" } : Jvm.MethodName) ({ cls := "java/lang/String", name := "indexOf", desc := "(II)I" } : Jvm.MethodName)) ∈ lw_all := lw_g (lw_at lw_m2 86 rfl) rfl
theorem q453 : (Jvm.Cond.code ({ cls := "java/lang/String", name := "indexOf", desc := "(II)I" } : Jvm.MethodName) prog_38_method_80_code (3 : Nat) (Option.some Jvm.ClassFile.FieldType.int)) ∈ lw_all := lw_g (lw_at lw_m2 87 rfl) rfl
theorem q454 : (Jvm.Cond.methodLink "java/lang/String" (492 : Nat) ({ cls := "java/lang/String", name := "isLatin1", desc := "()Z" } : Jvm.MethodName)) ∈ lw_all := lw_g (lw_at lw_m2 88 rfl) rfl
theorem q455 : (Jvm.Cond.instanceMethod ({ cls := "java/lang/String", name := "isLatin1", desc := "()Z" } : Jvm.MethodName)) ∈ lw_all := lw_g (lw_at lw_m2 89 rfl) rfl
theorem q456 : (Jvm.Cond.selects "java/lang/String" ({ cls := "java/lang/String", name := "isLatin1", desc := "()Z" } : Jvm.MethodName) ({ cls := "java/lang/String", name := "isLatin1", desc := "()Z" } : Jvm.MethodName)) ∈ lw_all := lw_g (lw_at lw_m2 90 rfl) rfl
theorem q457 : (Jvm.Cond.code ({ cls := "java/lang/String", name := "isLatin1", desc := "()Z" } : Jvm.MethodName) prog_38_method_154_code (1 : Nat) (Option.some Jvm.ClassFile.FieldType.boolean)) ∈ lw_all := lw_g (lw_at lw_m2 91 rfl) rfl
theorem q458 : (Jvm.Cond.fieldLink "java/lang/String" (38 : Nat) "java/lang/String" "COMPACT_STRINGS" "Z") ∈ lw_all := lw_g (lw_at lw_m2 92 rfl) rfl
theorem q459 : (Jvm.Cond.laysStatic "java/lang/String" "COMPACT_STRINGS" "Z") ∈ lw_tbl := lw_at lw_m2 93 rfl
theorem q460 : (Jvm.Cond.methodLink "java/lang/String" (505 : Nat) ({ cls := "java/lang/String", name := "length", desc := "()I" } : Jvm.MethodName)) ∈ lw_all := lw_g (lw_at lw_m2 94 rfl) rfl
theorem q461 : (Jvm.Cond.instanceMethod ({ cls := "java/lang/String", name := "length", desc := "()I" } : Jvm.MethodName)) ∈ lw_all := lw_g (lw_at lw_m2 95 rfl) rfl
theorem q462 : (Jvm.Cond.selects "java/lang/String" ({ cls := "java/lang/String", name := "length", desc := "()I" } : Jvm.MethodName) ({ cls := "java/lang/String", name := "length", desc := "()I" } : Jvm.MethodName)) ∈ lw_all := lw_g (lw_at lw_m2 96 rfl) rfl
theorem q463 : (Jvm.Cond.code ({ cls := "java/lang/String", name := "length", desc := "()I" } : Jvm.MethodName) prog_38_method_54_code (1 : Nat) (Option.some Jvm.ClassFile.FieldType.int)) ∈ lw_all := lw_g (lw_at lw_m2 97 rfl) rfl
theorem q464 : (Jvm.Cond.methodLink "java/lang/String" (335 : Nat) ({ cls := "java/lang/String", name := "coder", desc := "()B" } : Jvm.MethodName)) ∈ lw_all := lw_g (lw_at lw_m2 98 rfl) rfl
theorem q465 : (Jvm.Cond.instanceMethod ({ cls := "java/lang/String", name := "coder", desc := "()B" } : Jvm.MethodName)) ∈ lw_all := lw_g (lw_at lw_m2 99 rfl) rfl
theorem q466 : (Jvm.Cond.selects "java/lang/String" ({ cls := "java/lang/String", name := "coder", desc := "()B" } : Jvm.MethodName) ({ cls := "java/lang/String", name := "coder", desc := "()B" } : Jvm.MethodName)) ∈ lw_all := lw_g (lw_at lw_m2 100 rfl) rfl
theorem q467 : (Jvm.Cond.code ({ cls := "java/lang/String", name := "coder", desc := "()B" } : Jvm.MethodName) prog_38_method_152_code (1 : Nat) (Option.some Jvm.ClassFile.FieldType.byte)) ∈ lw_all := lw_g (lw_at lw_m2 101 rfl) rfl
theorem q468 : (Jvm.Cond.methodLink "java/lang/String" (637 : Nat) ({ cls := "java/lang/StringLatin1", name := "indexOf", desc := "([BIII)I" } : Jvm.MethodName)) ∈ lw_all := lw_g (lw_at lw_m2 102 rfl) rfl
theorem q483 : (Jvm.Cond.methodLink "java/lang/String" (640 : Nat) ({ cls := "java/lang/StringUTF16", name := "indexOf", desc := "([BIII)I" } : Jvm.MethodName)) ∈ lw_all := lw_g (lw_at lw_m2 117 rfl) rfl
theorem q499 : (Jvm.Cond.static ({ cls := "java/lang/String", name := "checkBoundsBeginEnd", desc := "(III)V" } : Jvm.MethodName)) ∈ lw_all := lw_g (lw_at lw_m2 133 rfl) rfl
theorem q500 : (Jvm.Cond.code ({ cls := "java/lang/String", name := "checkBoundsBeginEnd", desc := "(III)V" } : Jvm.MethodName) prog_38_method_158_code (3 : Nat) (Option.none : Option Jvm.ClassFile.FieldType)) ∈ lw_all := lw_g (lw_at lw_m2 134 rfl) rfl
theorem q501 : (Jvm.Cond.fieldLink "java/lang/String" (1053 : Nat) "jdk/internal/util/Preconditions" "SIOOBE_FORMATTER" "Ljava/util/function/BiFunction;") ∈ lw_all := lw_g (lw_at lw_m2 135 rfl) rfl
theorem q503 : (Jvm.Cond.methodLink "java/lang/String" (1062 : Nat) ({ cls := "jdk/internal/util/Preconditions", name := "checkFromToIndex", desc := "(IIILjava/util/function/BiFunction;)I" } : Jvm.MethodName)) ∈ lw_all := lw_g (lw_at lw_m2 137 rfl) rfl
theorem q546 : (Jvm.Cond.instanceMethod ({ cls := "java/lang/String", name := "charAt", desc := "(I)C" } : Jvm.MethodName)) ∈ lw_all := lw_g (lw_at lw_m2 180 rfl) rfl
theorem q547 : (Jvm.Cond.selects "java/lang/String" ({ cls := "java/lang/String", name := "charAt", desc := "(I)C" } : Jvm.MethodName) ({ cls := "java/lang/String", name := "charAt", desc := "(I)C" } : Jvm.MethodName)) ∈ lw_all := lw_g (lw_at lw_m2 181 rfl) rfl
theorem q548 : (Jvm.Cond.code ({ cls := "java/lang/String", name := "charAt", desc := "(I)C" } : Jvm.MethodName) prog_38_method_56_code (2 : Nat) (Option.some Jvm.ClassFile.FieldType.char)) ∈ lw_all := lw_g (lw_at lw_m2 182 rfl) rfl
theorem q549 : (Jvm.Cond.methodLink "java/lang/String" (495 : Nat) ({ cls := "java/lang/StringLatin1", name := "charAt", desc := "([BI)C" } : Jvm.MethodName)) ∈ lw_all := lw_g (lw_at lw_m2 183 rfl) rfl
theorem q553 : (Jvm.Cond.static ({ cls := "java/lang/String", name := "checkIndex", desc := "(II)V" } : Jvm.MethodName)) ∈ lw_all := lw_g (lw_at lw_m2 187 rfl) rfl
theorem q554 : (Jvm.Cond.code ({ cls := "java/lang/String", name := "checkIndex", desc := "(II)V" } : Jvm.MethodName) prog_38_method_155_code (2 : Nat) (Option.none : Option Jvm.ClassFile.FieldType)) ∈ lw_all := lw_g (lw_at lw_m2 188 rfl) rfl
theorem q555 : (Jvm.Cond.methodLink "java/lang/String" (1059 : Nat) ({ cls := "jdk/internal/util/Preconditions", name := "checkIndex", desc := "(IILjava/util/function/BiFunction;)I" } : Jvm.MethodName)) ∈ lw_all := lw_g (lw_at lw_m2 189 rfl) rfl
theorem q556 : (Jvm.Cond.methodLink "java/lang/String" (498 : Nat) ({ cls := "java/lang/StringUTF16", name := "charAt", desc := "([BI)C" } : Jvm.MethodName)) ∈ lw_all := lw_g (lw_at lw_m2 190 rfl) rfl
theorem q673 : (Jvm.Cond.fieldLink "java/lang/String" (1048 : Nat) "java/lang/AbstractStringBuilder" "maybeLatin1" "Z") ∈ lw_all := lw_g (lw_at lw_m3 67 rfl) rfl
theorem q744 : (Jvm.Cond.static ({ cls := "java/lang/String", name := "checkBoundsOffCount", desc := "(III)I" } : Jvm.MethodName)) ∈ lw_all := lw_g (lw_at lw_m3 138 rfl) rfl
theorem q745 : (Jvm.Cond.code ({ cls := "java/lang/String", name := "checkBoundsOffCount", desc := "(III)I" } : Jvm.MethodName) prog_38_method_157_code (3 : Nat) (Option.some Jvm.ClassFile.FieldType.int)) ∈ lw_all := lw_g (lw_at lw_m3 139 rfl) rfl
theorem q746 : (Jvm.Cond.methodLink "java/lang/String" (1065 : Nat) ({ cls := "jdk/internal/util/Preconditions", name := "checkFromIndexSize", desc := "(IIILjava/util/function/BiFunction;)I" } : Jvm.MethodName)) ∈ lw_all := lw_g (lw_at lw_m3 140 rfl) rfl
theorem q760 : (Jvm.Cond.instantiable "java/lang/String" (4 : Nat)) ∈ lw_all := lw_g (lw_at lw_m3 154 rfl) rfl
theorem q762 : (Jvm.Cond.instanceMethod ({ cls := "java/lang/String", name := "<init>", desc := "(Ljava/lang/StringBuilder;)V" } : Jvm.MethodName)) ∈ lw_all := lw_g (lw_at lw_m3 156 rfl) rfl
theorem q763 : (Jvm.Cond.code ({ cls := "java/lang/String", name := "<init>", desc := "(Ljava/lang/StringBuilder;)V" } : Jvm.MethodName) prog_38_method_53_code (2 : Nat) (Option.none : Option Jvm.ClassFile.FieldType)) ∈ lw_all := lw_g (lw_at lw_m3 157 rfl) rfl
theorem q764 : (Jvm.Cond.methodLink "java/lang/String" (489 : Nat) ({ cls := "java/lang/String", name := "<init>", desc := "(Ljava/lang/AbstractStringBuilder;Ljava/lang/Void;)V" } : Jvm.MethodName)) ∈ lw_all := lw_g (lw_at lw_m3 158 rfl) rfl
theorem q765 : (Jvm.Cond.instanceMethod ({ cls := "java/lang/String", name := "<init>", desc := "(Ljava/lang/AbstractStringBuilder;Ljava/lang/Void;)V" } : Jvm.MethodName)) ∈ lw_all := lw_g (lw_at lw_m3 159 rfl) rfl
theorem q766 : (Jvm.Cond.code ({ cls := "java/lang/String", name := "<init>", desc := "(Ljava/lang/AbstractStringBuilder;Ljava/lang/Void;)V" } : Jvm.MethodName) prog_38_method_150_code (5 : Nat) (Option.none : Option Jvm.ClassFile.FieldType)) ∈ lw_all := lw_g (lw_at lw_m3 160 rfl) rfl
theorem q767 : (Jvm.Cond.methodLink "java/lang/String" (1 : Nat) ({ cls := "java/lang/Object", name := "<init>", desc := "()V" } : Jvm.MethodName)) ∈ lw_all := lw_g (lw_at lw_m3 161 rfl) rfl
theorem q768 : (Jvm.Cond.methodLink "java/lang/String" (552 : Nat) ({ cls := "java/lang/AbstractStringBuilder", name := "getValue", desc := "()[B" } : Jvm.MethodName)) ∈ lw_all := lw_g (lw_at lw_m3 162 rfl) rfl
theorem q773 : (Jvm.Cond.methodLink "java/lang/String" (549 : Nat) ({ cls := "java/lang/AbstractStringBuilder", name := "length", desc := "()I" } : Jvm.MethodName)) ∈ lw_all := lw_g (lw_at lw_m3 167 rfl) rfl
theorem q781 : (Jvm.Cond.methodLink "java/lang/String" (1047 : Nat) ({ cls := "java/lang/AbstractStringBuilder", name := "isLatin1", desc := "()Z" } : Jvm.MethodName)) ∈ lw_all := lw_g (lw_at lw_m3 175 rfl) rfl
theorem q782 : (Jvm.Cond.methodLink "java/lang/String" (54 : Nat) ({ cls := "java/util/Arrays", name := "copyOfRange", desc := "([BII)[B" } : Jvm.MethodName)) ∈ lw_all := lw_g (lw_at lw_m3 176 rfl) rfl
theorem q791 : (Jvm.Cond.methodLink "java/lang/String" (1051 : Nat) ({ cls := "java/lang/StringUTF16", name := "compress", desc := "([BII)[B" } : Jvm.MethodName)) ∈ lw_all := lw_g (lw_at lw_m3 185 rfl) rfl
theorem q798 : (Jvm.Cond.methodLink "java/lang/String" (47 : Nat) ({ cls := "java/lang/StringUTF16", name := "coderFromArrayLen", desc := "([BI)B" } : Jvm.MethodName)) ∈ lw_all := lw_g (lw_at lw_m3 192 rfl) rfl
theorem q801 : (Jvm.Cond.fieldLink "java/lang/String" (9 : Nat) "java/lang/String" "value" "[B") ∈ lw_all := lw_g (lw_at lw_m3 195 rfl) rfl
theorem q802 : (Jvm.Cond.fieldLink "java/lang/String" (15 : Nat) "java/lang/String" "coder" "B") ∈ lw_all := lw_g (lw_at lw_m3 196 rfl) rfl
theorem q803 : (Jvm.Cond.laysFinal "java/lang/String" "java/lang/String" "value" "[B") ∈ lw_all := lw_g (lw_at lw_m3 197 rfl) rfl
theorem q804 : (Jvm.Cond.soleField "java/lang/String" "value") ∈ lw_all := lw_g (lw_at lw_m3 198 rfl) rfl
theorem q805 : (Jvm.Cond.laysFinal "java/lang/String" "java/lang/String" "coder" "B") ∈ lw_all := lw_g (lw_at lw_m3 199 rfl) rfl
theorem q806 : (Jvm.Cond.soleField "java/lang/String" "coder") ∈ lw_all := lw_g (lw_at lw_m3 200 rfl) rfl
theorem q807 : (Jvm.Cond.lays "java/lang/String" "java/lang/String" "hash" "I") ∈ lw_all := lw_g (lw_at lw_m3 201 rfl) rfl
theorem q808 : (Jvm.Cond.soleField "java/lang/String" "hash") ∈ lw_all := lw_g (lw_at lw_m3 202 rfl) rfl
theorem q809 : (Jvm.Cond.lays "java/lang/String" "java/lang/String" "hashIsZero" "Z") ∈ lw_all := lw_g (lw_at lw_m3 203 rfl) rfl
theorem q810 : (Jvm.Cond.soleField "java/lang/String" "hashIsZero") ∈ lw_all := lw_g (lw_at lw_m3 204 rfl) rfl
theorem q811 : (Jvm.Cond.superclass "java/lang/String" "java/lang/Object") ∈ lw_all := lw_g (lw_at lw_m3 205 rfl) rfl
theorem q819 : (Jvm.Cond.instanceMethod ({ cls := "java/lang/String", name := "equals", desc := "(Ljava/lang/Object;)Z" } : Jvm.MethodName)) ∈ lw_all := lw_g (lw_at lw_m3 213 rfl) rfl
theorem q820 : (Jvm.Cond.selects "java/lang/String" ({ cls := "java/lang/String", name := "equals", desc := "(Ljava/lang/Object;)Z" } : Jvm.MethodName) ({ cls := "java/lang/String", name := "equals", desc := "(Ljava/lang/Object;)Z" } : Jvm.MethodName)) ∈ lw_all := lw_g (lw_at lw_m3 214 rfl) rfl
theorem q821 : (Jvm.Cond.code ({ cls := "java/lang/String", name := "equals", desc := "(Ljava/lang/Object;)Z" } : Jvm.MethodName) prog_38_method_66_code (3 : Nat) (Option.some Jvm.ClassFile.FieldType.boolean)) ∈ lw_all := lw_g (lw_at lw_m3 215 rfl) rfl
theorem q822 : (Jvm.Cond.classLink "java/lang/String" (10 : Nat) "java/lang/String") ∈ lw_all := lw_g (lw_at lw_m3 216 rfl) rfl
theorem q823 : (Jvm.Cond.methodLink "java/lang/String" (541 : Nat) ({ cls := "java/lang/StringLatin1", name := "equals", desc := "([B[B)Z" } : Jvm.MethodName)) ∈ lw_all := lw_g (lw_at lw_m3 217 rfl) rfl
theorem q872 : (Jvm.Cond.selects "java/lang/String" ({ cls := "java/lang/Object", name := "getClass", desc := "()Ljava/lang/Class;" } : Jvm.MethodName) ({ cls := "java/lang/Object", name := "getClass", desc := "()Ljava/lang/Class;" } : Jvm.MethodName)) ∈ lw_all := lw_g (lw_at lw_m4 26 rfl) rfl
theorem q2269 : (Jvm.Cond.castable "java/lang/String" "java/lang/Object") ∈ lw_tbl := lw_at lw_m9 223 rfl
theorem in_J5 : ∀ w ∈ wsJ50, w ∈ lw_all := lw_in wsJ50 [803, 805, 807, 809] (by decide +kernel) (by decide +kernel)

def RJ6 : String := "java/lang/StringLatin1"
abbrev bcJ6_indexOf : ByteArray := prog_40_method_22_code
def yJ6_indexOf : MethodName := ⟨RJ6, "indexOf", "([BIII)I"⟩
abbrev bcJ6_canEncode : ByteArray := prog_40_method_4_code
def yJ6_canEncode : MethodName := ⟨RJ6, "canEncode", "(I)Z"⟩
abbrev bcJ6_indexOfChar : ByteArray := prog_40_method_23_code
def yJ6_indexOfChar : MethodName := ⟨RJ6, "indexOfChar", "([BIII)I"⟩
abbrev bcJ6_charAt : ByteArray := prog_40_method_2_code
def yJ6_charAt : MethodName := ⟨RJ6, "charAt", "([BI)C"⟩
abbrev bcJ6_canEncode_2 : ByteArray := prog_40_method_3_code
def yJ6_canEncode_2 : MethodName := ⟨RJ6, "canEncode", "(C)Z"⟩
abbrev bcJ6_inflate : ByteArray := prog_40_method_50_code
def yJ6_inflate : MethodName := ⟨RJ6, "inflate", "([BI[BII)V"⟩
abbrev bcJ6_equals : ByteArray := prog_40_method_13_code
def yJ6_equals : MethodName := ⟨RJ6, "equals", "([B[B)Z"⟩
theorem q138 : (Jvm.Cond.initialized "java/lang/StringLatin1") ∈ lw_all := lw_g (lw_at lw_m1 12 rfl) rfl
theorem q469 : (Jvm.Cond.static ({ cls := "java/lang/StringLatin1", name := "indexOf", desc := "([BIII)I" } : Jvm.MethodName)) ∈ lw_all := lw_g (lw_at lw_m2 103 rfl) rfl
theorem q470 : (Jvm.Cond.code ({ cls := "java/lang/StringLatin1", name := "indexOf", desc := "([BIII)I" } : Jvm.MethodName) prog_40_method_22_code (4 : Nat) (Option.some Jvm.ClassFile.FieldType.int)) ∈ lw_all := lw_g (lw_at lw_m2 104 rfl) rfl
theorem q471 : (Jvm.Cond.methodLink "java/lang/StringLatin1" (88 : Nat) ({ cls := "java/lang/StringLatin1", name := "canEncode", desc := "(I)Z" } : Jvm.MethodName)) ∈ lw_all := lw_g (lw_at lw_m2 105 rfl) rfl
theorem q472 : (Jvm.Cond.static ({ cls := "java/lang/StringLatin1", name := "canEncode", desc := "(I)Z" } : Jvm.MethodName)) ∈ lw_all := lw_g (lw_at lw_m2 106 rfl) rfl
theorem q473 : (Jvm.Cond.code ({ cls := "java/lang/StringLatin1", name := "canEncode", desc := "(I)Z" } : Jvm.MethodName) prog_40_method_4_code (1 : Nat) (Option.some Jvm.ClassFile.FieldType.boolean)) ∈ lw_all := lw_g (lw_at lw_m2 107 rfl) rfl
theorem q474 : (Jvm.Cond.methodLink "java/lang/StringLatin1" (92 : Nat) ({ cls := "java/lang/Math", name := "max", desc := "(II)I" } : Jvm.MethodName)) ∈ lw_all := lw_g (lw_at lw_m2 108 rfl) rfl
theorem q477 : (Jvm.Cond.methodLink "java/lang/StringLatin1" (38 : Nat) ({ cls := "java/lang/Math", name := "min", desc := "(II)I" } : Jvm.MethodName)) ∈ lw_all := lw_g (lw_at lw_m2 111 rfl) rfl
theorem q480 : (Jvm.Cond.methodLink "java/lang/StringLatin1" (95 : Nat) ({ cls := "java/lang/StringLatin1", name := "indexOfChar", desc := "([BIII)I" } : Jvm.MethodName)) ∈ lw_all := lw_g (lw_at lw_m2 114 rfl) rfl
theorem q481 : (Jvm.Cond.static ({ cls := "java/lang/StringLatin1", name := "indexOfChar", desc := "([BIII)I" } : Jvm.MethodName)) ∈ lw_all := lw_g (lw_at lw_m2 115 rfl) rfl
theorem q482 : (Jvm.Cond.code ({ cls := "java/lang/StringLatin1", name := "indexOfChar", desc := "([BIII)I" } : Jvm.MethodName) prog_40_method_23_code (6 : Nat) (Option.some Jvm.ClassFile.FieldType.int)) ∈ lw_all := lw_g (lw_at lw_m2 116 rfl) rfl
theorem q550 : (Jvm.Cond.static ({ cls := "java/lang/StringLatin1", name := "charAt", desc := "([BI)C" } : Jvm.MethodName)) ∈ lw_all := lw_g (lw_at lw_m2 184 rfl) rfl
theorem q551 : (Jvm.Cond.code ({ cls := "java/lang/StringLatin1", name := "charAt", desc := "([BI)C" } : Jvm.MethodName) prog_40_method_2_code (2 : Nat) (Option.some Jvm.ClassFile.FieldType.char)) ∈ lw_all := lw_g (lw_at lw_m2 185 rfl) rfl
theorem q552 : (Jvm.Cond.methodLink "java/lang/StringLatin1" (9 : Nat) ({ cls := "java/lang/String", name := "checkIndex", desc := "(II)V" } : Jvm.MethodName)) ∈ lw_all := lw_g (lw_at lw_m2 186 rfl) rfl
theorem q728 : (Jvm.Cond.static ({ cls := "java/lang/StringLatin1", name := "canEncode", desc := "(C)Z" } : Jvm.MethodName)) ∈ lw_all := lw_g (lw_at lw_m3 122 rfl) rfl
theorem q729 : (Jvm.Cond.code ({ cls := "java/lang/StringLatin1", name := "canEncode", desc := "(C)Z" } : Jvm.MethodName) prog_40_method_3_code (1 : Nat) (Option.some Jvm.ClassFile.FieldType.boolean)) ∈ lw_all := lw_g (lw_at lw_m3 123 rfl) rfl
theorem q735 : (Jvm.Cond.static ({ cls := "java/lang/StringLatin1", name := "inflate", desc := "([BI[BII)V" } : Jvm.MethodName)) ∈ lw_all := lw_g (lw_at lw_m3 129 rfl) rfl
theorem q736 : (Jvm.Cond.code ({ cls := "java/lang/StringLatin1", name := "inflate", desc := "([BI[BII)V" } : Jvm.MethodName) prog_40_method_50_code (5 : Nat) (Option.none : Option Jvm.ClassFile.FieldType)) ∈ lw_all := lw_g (lw_at lw_m3 130 rfl) rfl
theorem q737 : (Jvm.Cond.methodLink "java/lang/StringLatin1" (240 : Nat) ({ cls := "java/lang/StringUTF16", name := "inflate", desc := "([BI[BII)V" } : Jvm.MethodName)) ∈ lw_all := lw_g (lw_at lw_m3 131 rfl) rfl
theorem q824 : (Jvm.Cond.static ({ cls := "java/lang/StringLatin1", name := "equals", desc := "([B[B)Z" } : Jvm.MethodName)) ∈ lw_all := lw_g (lw_at lw_m3 218 rfl) rfl
theorem q825 : (Jvm.Cond.code ({ cls := "java/lang/StringLatin1", name := "equals", desc := "([B[B)Z" } : Jvm.MethodName) prog_40_method_13_code (3 : Nat) (Option.some Jvm.ClassFile.FieldType.boolean)) ∈ lw_all := lw_g (lw_at lw_m3 219 rfl) rfl

def RJ7 : String := "java/lang/Math"
abbrev bcJ7_max : ByteArray := prog_36_method_65_code
def yJ7_max : MethodName := ⟨RJ7, "max", "(II)I"⟩
abbrev bcJ7_min : ByteArray := prog_36_method_69_code
def yJ7_min : MethodName := ⟨RJ7, "min", "(II)I"⟩
theorem q139 : (Jvm.Cond.initialized "java/lang/Math") ∈ lw_all := lw_g (lw_at lw_m1 13 rfl) rfl
theorem q475 : (Jvm.Cond.static ({ cls := "java/lang/Math", name := "max", desc := "(II)I" } : Jvm.MethodName)) ∈ lw_all := lw_g (lw_at lw_m2 109 rfl) rfl
theorem q476 : (Jvm.Cond.code ({ cls := "java/lang/Math", name := "max", desc := "(II)I" } : Jvm.MethodName) prog_36_method_65_code (2 : Nat) (Option.some Jvm.ClassFile.FieldType.int)) ∈ lw_all := lw_g (lw_at lw_m2 110 rfl) rfl
theorem q478 : (Jvm.Cond.static ({ cls := "java/lang/Math", name := "min", desc := "(II)I" } : Jvm.MethodName)) ∈ lw_all := lw_g (lw_at lw_m2 112 rfl) rfl
theorem q479 : (Jvm.Cond.code ({ cls := "java/lang/Math", name := "min", desc := "(II)I" } : Jvm.MethodName) prog_36_method_69_code (2 : Nat) (Option.some Jvm.ClassFile.FieldType.int)) ∈ lw_all := lw_g (lw_at lw_m2 113 rfl) rfl

def RJ8 : String := "java/lang/StringUTF16"
abbrev bcJ8_indexOf : ByteArray := prog_41_method_40_code
def yJ8_indexOf : MethodName := ⟨RJ8, "indexOf", "([BIII)I"⟩
abbrev bcJ8_indexOfChar : ByteArray := prog_41_method_47_code
def yJ8_indexOfChar : MethodName := ⟨RJ8, "indexOfChar", "([BIII)I"⟩
abbrev bcJ8_checkBoundsBeginEnd : ByteArray := prog_41_method_93_code
def yJ8_checkBoundsBeginEnd : MethodName := ⟨RJ8, "checkBoundsBeginEnd", "(II[B)V"⟩
abbrev bcJ8_length : ByteArray := prog_41_method_6_code
def yJ8_length : MethodName := ⟨RJ8, "length", "([B)I"⟩
abbrev bcJ8_indexOfCharUnsafe : ByteArray := prog_41_method_48_code
def yJ8_indexOfCharUnsafe : MethodName := ⟨RJ8, "indexOfCharUnsafe", "([BIII)I"⟩
abbrev bcJ8_getChar : ByteArray := prog_41_method_5_code
def yJ8_getChar : MethodName := ⟨RJ8, "getChar", "([BI)C"⟩
abbrev bcJ8_indexOfSupplementary : ByteArray := prog_41_method_49_code
def yJ8_indexOfSupplementary : MethodName := ⟨RJ8, "indexOfSupplementary", "([BIII)I"⟩
abbrev bcJ8_charAt : ByteArray := prog_41_method_83_code
def yJ8_charAt : MethodName := ⟨RJ8, "charAt", "([BI)C"⟩
abbrev bcJ8_checkIndex : ByteArray := prog_41_method_91_code
def yJ8_checkIndex : MethodName := ⟨RJ8, "checkIndex", "(I[B)V"⟩
abbrev bcJ8_newBytesFor : ByteArray := prog_41_method_2_code
def yJ8_newBytesFor : MethodName := ⟨RJ8, "newBytesFor", "(I)[B"⟩
abbrev bcJ8_newBytesLength : ByteArray := prog_41_method_3_code
def yJ8_newBytesLength : MethodName := ⟨RJ8, "newBytesLength", "(I)I"⟩
abbrev bcJ8_inflate : ByteArray := prog_41_method_86_code
def yJ8_inflate : MethodName := ⟨RJ8, "inflate", "([BI[BII)V"⟩
abbrev bcJ8_checkBoundsOffCount : ByteArray := prog_41_method_94_code
def yJ8_checkBoundsOffCount : MethodName := ⟨RJ8, "checkBoundsOffCount", "(II[B)V"⟩
abbrev bcJ8_putChar : ByteArray := prog_41_method_4_code
def yJ8_putChar : MethodName := ⟨RJ8, "putChar", "([BII)V"⟩
abbrev bcJ8_putCharSB : ByteArray := prog_41_method_71_code
def yJ8_putCharSB : MethodName := ⟨RJ8, "putCharSB", "([BII)V"⟩
abbrev bcJ8_compress : ByteArray := prog_41_method_17_code
def yJ8_compress : MethodName := ⟨RJ8, "compress", "([BII)[B"⟩
abbrev bcJ8_compress_2 : ByteArray := prog_41_method_22_code
def yJ8_compress_2 : MethodName := ⟨RJ8, "compress", "([BI[BII)I"⟩
abbrev bcJ8_coderFromArrayLen : ByteArray := prog_41_method_15_code
def yJ8_coderFromArrayLen : MethodName := ⟨RJ8, "coderFromArrayLen", "([BI)B"⟩
theorem q140 : (Jvm.Cond.initialized "java/lang/StringUTF16") ∈ lw_all := lw_g (lw_at lw_m1 14 rfl) rfl
theorem q484 : (Jvm.Cond.static ({ cls := "java/lang/StringUTF16", name := "indexOf", desc := "([BIII)I" } : Jvm.MethodName)) ∈ lw_all := lw_g (lw_at lw_m2 118 rfl) rfl
theorem q485 : (Jvm.Cond.code ({ cls := "java/lang/StringUTF16", name := "indexOf", desc := "([BIII)I" } : Jvm.MethodName) prog_41_method_40_code (4 : Nat) (Option.some Jvm.ClassFile.FieldType.int)) ∈ lw_all := lw_g (lw_at lw_m2 119 rfl) rfl
theorem q486 : (Jvm.Cond.methodLink "java/lang/StringUTF16" (224 : Nat) ({ cls := "java/lang/Math", name := "max", desc := "(II)I" } : Jvm.MethodName)) ∈ lw_all := lw_g (lw_at lw_m2 120 rfl) rfl
theorem q487 : (Jvm.Cond.methodLink "java/lang/StringUTF16" (183 : Nat) ({ cls := "java/lang/Math", name := "min", desc := "(II)I" } : Jvm.MethodName)) ∈ lw_all := lw_g (lw_at lw_m2 121 rfl) rfl
theorem q488 : (Jvm.Cond.constant "java/lang/StringUTF16" (227 : Nat) (65536 : Int32)) ∈ lw_all := lw_g (lw_at lw_m2 122 rfl) rfl
theorem q489 : (Jvm.Cond.methodLink "java/lang/StringUTF16" (228 : Nat) ({ cls := "java/lang/StringUTF16", name := "indexOfChar", desc := "([BIII)I" } : Jvm.MethodName)) ∈ lw_all := lw_g (lw_at lw_m2 123 rfl) rfl
theorem q490 : (Jvm.Cond.static ({ cls := "java/lang/StringUTF16", name := "indexOfChar", desc := "([BIII)I" } : Jvm.MethodName)) ∈ lw_all := lw_g (lw_at lw_m2 124 rfl) rfl
theorem q491 : (Jvm.Cond.code ({ cls := "java/lang/StringUTF16", name := "indexOfChar", desc := "([BIII)I" } : Jvm.MethodName) prog_41_method_47_code (4 : Nat) (Option.some Jvm.ClassFile.FieldType.int)) ∈ lw_all := lw_g (lw_at lw_m2 125 rfl) rfl
theorem q492 : (Jvm.Cond.methodLink "java/lang/StringUTF16" (96 : Nat) ({ cls := "java/lang/StringUTF16", name := "checkBoundsBeginEnd", desc := "(II[B)V" } : Jvm.MethodName)) ∈ lw_all := lw_g (lw_at lw_m2 126 rfl) rfl
theorem q493 : (Jvm.Cond.static ({ cls := "java/lang/StringUTF16", name := "checkBoundsBeginEnd", desc := "(II[B)V" } : Jvm.MethodName)) ∈ lw_all := lw_g (lw_at lw_m2 127 rfl) rfl
theorem q494 : (Jvm.Cond.code ({ cls := "java/lang/StringUTF16", name := "checkBoundsBeginEnd", desc := "(II[B)V" } : Jvm.MethodName) prog_41_method_93_code (3 : Nat) (Option.none : Option Jvm.ClassFile.FieldType)) ∈ lw_all := lw_g (lw_at lw_m2 128 rfl) rfl
theorem q495 : (Jvm.Cond.methodLink "java/lang/StringUTF16" (48 : Nat) ({ cls := "java/lang/StringUTF16", name := "length", desc := "([B)I" } : Jvm.MethodName)) ∈ lw_all := lw_g (lw_at lw_m2 129 rfl) rfl
theorem q496 : (Jvm.Cond.static ({ cls := "java/lang/StringUTF16", name := "length", desc := "([B)I" } : Jvm.MethodName)) ∈ lw_all := lw_g (lw_at lw_m2 130 rfl) rfl
theorem q497 : (Jvm.Cond.code ({ cls := "java/lang/StringUTF16", name := "length", desc := "([B)I" } : Jvm.MethodName) prog_41_method_6_code (1 : Nat) (Option.some Jvm.ClassFile.FieldType.int)) ∈ lw_all := lw_g (lw_at lw_m2 131 rfl) rfl
theorem q498 : (Jvm.Cond.methodLink "java/lang/StringUTF16" (241 : Nat) ({ cls := "java/lang/String", name := "checkBoundsBeginEnd", desc := "(III)V" } : Jvm.MethodName)) ∈ lw_all := lw_g (lw_at lw_m2 132 rfl) rfl
theorem q506 : (Jvm.Cond.methodLink "java/lang/StringUTF16" (244 : Nat) ({ cls := "java/lang/StringUTF16", name := "indexOfCharUnsafe", desc := "([BIII)I" } : Jvm.MethodName)) ∈ lw_all := lw_g (lw_at lw_m2 140 rfl) rfl
theorem q507 : (Jvm.Cond.static ({ cls := "java/lang/StringUTF16", name := "indexOfCharUnsafe", desc := "([BIII)I" } : Jvm.MethodName)) ∈ lw_all := lw_g (lw_at lw_m2 141 rfl) rfl
theorem q508 : (Jvm.Cond.code ({ cls := "java/lang/StringUTF16", name := "indexOfCharUnsafe", desc := "([BIII)I" } : Jvm.MethodName) prog_41_method_48_code (5 : Nat) (Option.some Jvm.ClassFile.FieldType.int)) ∈ lw_all := lw_g (lw_at lw_m2 142 rfl) rfl
theorem q509 : (Jvm.Cond.methodLink "java/lang/StringUTF16" (71 : Nat) ({ cls := "java/lang/StringUTF16", name := "getChar", desc := "([BI)C" } : Jvm.MethodName)) ∈ lw_all := lw_g (lw_at lw_m2 143 rfl) rfl
theorem q510 : (Jvm.Cond.static ({ cls := "java/lang/StringUTF16", name := "getChar", desc := "([BI)C" } : Jvm.MethodName)) ∈ lw_all := lw_g (lw_at lw_m2 144 rfl) rfl
theorem q511 : (Jvm.Cond.code ({ cls := "java/lang/StringUTF16", name := "getChar", desc := "([BI)C" } : Jvm.MethodName) prog_41_method_5_code (2 : Nat) (Option.some Jvm.ClassFile.FieldType.char)) ∈ lw_all := lw_g (lw_at lw_m2 145 rfl) rfl
theorem q512 : (Jvm.Cond.fieldLink "java/lang/StringUTF16" (44 : Nat) "java/lang/StringUTF16" "$assertionsDisabled" "Z") ∈ lw_all := lw_g (lw_at lw_m2 146 rfl) rfl
theorem q513 : (Jvm.Cond.laysStatic "java/lang/StringUTF16" "$assertionsDisabled" "Z") ∈ lw_tbl := lw_at lw_m2 147 rfl
theorem q514 : (Jvm.Cond.fieldLink "java/lang/StringUTF16" (59 : Nat) "java/lang/StringUTF16" "HI_BYTE_SHIFT" "I") ∈ lw_all := lw_g (lw_at lw_m2 148 rfl) rfl
theorem q515 : (Jvm.Cond.laysStatic "java/lang/StringUTF16" "HI_BYTE_SHIFT" "I") ∈ lw_tbl := lw_at lw_m2 149 rfl
theorem q516 : (Jvm.Cond.fieldLink "java/lang/StringUTF16" (63 : Nat) "java/lang/StringUTF16" "LO_BYTE_SHIFT" "I") ∈ lw_all := lw_g (lw_at lw_m2 150 rfl) rfl
theorem q517 : (Jvm.Cond.laysStatic "java/lang/StringUTF16" "LO_BYTE_SHIFT" "I") ∈ lw_tbl := lw_at lw_m2 151 rfl
theorem q518 : (Jvm.Cond.methodLink "java/lang/StringUTF16" (232 : Nat) ({ cls := "java/lang/StringUTF16", name := "indexOfSupplementary", desc := "([BIII)I" } : Jvm.MethodName)) ∈ lw_all := lw_g (lw_at lw_m2 152 rfl) rfl
theorem q519 : (Jvm.Cond.static ({ cls := "java/lang/StringUTF16", name := "indexOfSupplementary", desc := "([BIII)I" } : Jvm.MethodName)) ∈ lw_all := lw_g (lw_at lw_m2 153 rfl) rfl
theorem q520 : (Jvm.Cond.code ({ cls := "java/lang/StringUTF16", name := "indexOfSupplementary", desc := "([BIII)I" } : Jvm.MethodName) prog_41_method_49_code (7 : Nat) (Option.some Jvm.ClassFile.FieldType.int)) ∈ lw_all := lw_g (lw_at lw_m2 154 rfl) rfl
theorem q521 : (Jvm.Cond.methodLink "java/lang/StringUTF16" (164 : Nat) ({ cls := "java/lang/Character", name := "isValidCodePoint", desc := "(I)Z" } : Jvm.MethodName)) ∈ lw_all := lw_g (lw_at lw_m2 155 rfl) rfl
theorem q524 : (Jvm.Cond.methodLink "java/lang/StringUTF16" (157 : Nat) ({ cls := "java/lang/Character", name := "highSurrogate", desc := "(I)C" } : Jvm.MethodName)) ∈ lw_all := lw_g (lw_at lw_m2 158 rfl) rfl
theorem q528 : (Jvm.Cond.methodLink "java/lang/StringUTF16" (161 : Nat) ({ cls := "java/lang/Character", name := "lowSurrogate", desc := "(I)C" } : Jvm.MethodName)) ∈ lw_all := lw_g (lw_at lw_m2 162 rfl) rfl
theorem q557 : (Jvm.Cond.static ({ cls := "java/lang/StringUTF16", name := "charAt", desc := "([BI)C" } : Jvm.MethodName)) ∈ lw_all := lw_g (lw_at lw_m2 191 rfl) rfl
theorem q558 : (Jvm.Cond.code ({ cls := "java/lang/StringUTF16", name := "charAt", desc := "([BI)C" } : Jvm.MethodName) prog_41_method_83_code (2 : Nat) (Option.some Jvm.ClassFile.FieldType.char)) ∈ lw_all := lw_g (lw_at lw_m2 192 rfl) rfl
theorem q559 : (Jvm.Cond.methodLink "java/lang/StringUTF16" (67 : Nat) ({ cls := "java/lang/StringUTF16", name := "checkIndex", desc := "(I[B)V" } : Jvm.MethodName)) ∈ lw_all := lw_g (lw_at lw_m2 193 rfl) rfl
theorem q560 : (Jvm.Cond.static ({ cls := "java/lang/StringUTF16", name := "checkIndex", desc := "(I[B)V" } : Jvm.MethodName)) ∈ lw_all := lw_g (lw_at lw_m2 194 rfl) rfl
theorem q561 : (Jvm.Cond.code ({ cls := "java/lang/StringUTF16", name := "checkIndex", desc := "(I[B)V" } : Jvm.MethodName) prog_41_method_91_code (2 : Nat) (Option.none : Option Jvm.ClassFile.FieldType)) ∈ lw_all := lw_g (lw_at lw_m2 195 rfl) rfl
theorem q562 : (Jvm.Cond.methodLink "java/lang/StringUTF16" (414 : Nat) ({ cls := "java/lang/String", name := "checkIndex", desc := "(II)V" } : Jvm.MethodName)) ∈ lw_all := lw_g (lw_at lw_m2 196 rfl) rfl
theorem q665 : (Jvm.Cond.static ({ cls := "java/lang/StringUTF16", name := "newBytesFor", desc := "(I)[B" } : Jvm.MethodName)) ∈ lw_all := lw_g (lw_at lw_m3 59 rfl) rfl
theorem q666 : (Jvm.Cond.code ({ cls := "java/lang/StringUTF16", name := "newBytesFor", desc := "(I)[B" } : Jvm.MethodName) prog_41_method_2_code (1 : Nat) (Option.some (Jvm.ClassFile.FieldType.array Jvm.ClassFile.FieldType.byte))) ∈ lw_all := lw_g (lw_at lw_m3 60 rfl) rfl
theorem q667 : (Jvm.Cond.methodLink "java/lang/StringUTF16" (11 : Nat) ({ cls := "java/lang/StringUTF16", name := "newBytesLength", desc := "(I)I" } : Jvm.MethodName)) ∈ lw_all := lw_g (lw_at lw_m3 61 rfl) rfl
theorem q668 : (Jvm.Cond.static ({ cls := "java/lang/StringUTF16", name := "newBytesLength", desc := "(I)I" } : Jvm.MethodName)) ∈ lw_all := lw_g (lw_at lw_m3 62 rfl) rfl
theorem q669 : (Jvm.Cond.code ({ cls := "java/lang/StringUTF16", name := "newBytesLength", desc := "(I)I" } : Jvm.MethodName) prog_41_method_3_code (1 : Nat) (Option.some Jvm.ClassFile.FieldType.int)) ∈ lw_all := lw_g (lw_at lw_m3 63 rfl) rfl
theorem q670 : (Jvm.Cond.constant "java/lang/StringUTF16" (20 : Nat) (1073741823 : Int32)) ∈ lw_all := lw_g (lw_at lw_m3 64 rfl) rfl
theorem q738 : (Jvm.Cond.static ({ cls := "java/lang/StringUTF16", name := "inflate", desc := "([BI[BII)V" } : Jvm.MethodName)) ∈ lw_all := lw_g (lw_at lw_m3 132 rfl) rfl
theorem q739 : (Jvm.Cond.code ({ cls := "java/lang/StringUTF16", name := "inflate", desc := "([BI[BII)V" } : Jvm.MethodName) prog_41_method_86_code (6 : Nat) (Option.none : Option Jvm.ClassFile.FieldType)) ∈ lw_all := lw_g (lw_at lw_m3 133 rfl) rfl
theorem q740 : (Jvm.Cond.methodLink "java/lang/StringUTF16" (173 : Nat) ({ cls := "java/lang/StringUTF16", name := "checkBoundsOffCount", desc := "(II[B)V" } : Jvm.MethodName)) ∈ lw_all := lw_g (lw_at lw_m3 134 rfl) rfl
theorem q741 : (Jvm.Cond.static ({ cls := "java/lang/StringUTF16", name := "checkBoundsOffCount", desc := "(II[B)V" } : Jvm.MethodName)) ∈ lw_all := lw_g (lw_at lw_m3 135 rfl) rfl
theorem q742 : (Jvm.Cond.code ({ cls := "java/lang/StringUTF16", name := "checkBoundsOffCount", desc := "(II[B)V" } : Jvm.MethodName) prog_41_method_94_code (3 : Nat) (Option.none : Option Jvm.ClassFile.FieldType)) ∈ lw_all := lw_g (lw_at lw_m3 136 rfl) rfl
theorem q743 : (Jvm.Cond.methodLink "java/lang/StringUTF16" (419 : Nat) ({ cls := "java/lang/String", name := "checkBoundsOffCount", desc := "(III)I" } : Jvm.MethodName)) ∈ lw_all := lw_g (lw_at lw_m3 137 rfl) rfl
theorem q749 : (Jvm.Cond.methodLink "java/lang/StringUTF16" (111 : Nat) ({ cls := "java/lang/StringUTF16", name := "putChar", desc := "([BII)V" } : Jvm.MethodName)) ∈ lw_all := lw_g (lw_at lw_m3 143 rfl) rfl
theorem q750 : (Jvm.Cond.static ({ cls := "java/lang/StringUTF16", name := "putChar", desc := "([BII)V" } : Jvm.MethodName)) ∈ lw_all := lw_g (lw_at lw_m3 144 rfl) rfl
theorem q751 : (Jvm.Cond.code ({ cls := "java/lang/StringUTF16", name := "putChar", desc := "([BII)V" } : Jvm.MethodName) prog_41_method_4_code (3 : Nat) (Option.none : Option Jvm.ClassFile.FieldType)) ∈ lw_all := lw_g (lw_at lw_m3 145 rfl) rfl
theorem q753 : (Jvm.Cond.static ({ cls := "java/lang/StringUTF16", name := "putCharSB", desc := "([BII)V" } : Jvm.MethodName)) ∈ lw_all := lw_g (lw_at lw_m3 147 rfl) rfl
theorem q754 : (Jvm.Cond.code ({ cls := "java/lang/StringUTF16", name := "putCharSB", desc := "([BII)V" } : Jvm.MethodName) prog_41_method_71_code (3 : Nat) (Option.none : Option Jvm.ClassFile.FieldType)) ∈ lw_all := lw_g (lw_at lw_m3 148 rfl) rfl
theorem q792 : (Jvm.Cond.static ({ cls := "java/lang/StringUTF16", name := "compress", desc := "([BII)[B" } : Jvm.MethodName)) ∈ lw_all := lw_g (lw_at lw_m3 186 rfl) rfl
theorem q793 : (Jvm.Cond.code ({ cls := "java/lang/StringUTF16", name := "compress", desc := "([BII)[B" } : Jvm.MethodName) prog_41_method_17_code (6 : Nat) (Option.some (Jvm.ClassFile.FieldType.array Jvm.ClassFile.FieldType.byte))) ∈ lw_all := lw_g (lw_at lw_m3 187 rfl) rfl
theorem q794 : (Jvm.Cond.methodLink "java/lang/StringUTF16" (123 : Nat) ({ cls := "java/lang/StringUTF16", name := "compress", desc := "([BI[BII)I" } : Jvm.MethodName)) ∈ lw_all := lw_g (lw_at lw_m3 188 rfl) rfl
theorem q795 : (Jvm.Cond.static ({ cls := "java/lang/StringUTF16", name := "compress", desc := "([BI[BII)I" } : Jvm.MethodName)) ∈ lw_all := lw_g (lw_at lw_m3 189 rfl) rfl
theorem q796 : (Jvm.Cond.code ({ cls := "java/lang/StringUTF16", name := "compress", desc := "([BI[BII)I" } : Jvm.MethodName) prog_41_method_22_code (7 : Nat) (Option.some Jvm.ClassFile.FieldType.int)) ∈ lw_all := lw_g (lw_at lw_m3 190 rfl) rfl
theorem q797 : (Jvm.Cond.methodLink "java/lang/StringUTF16" (126 : Nat) ({ cls := "java/util/Arrays", name := "copyOfRange", desc := "([BII)[B" } : Jvm.MethodName)) ∈ lw_all := lw_g (lw_at lw_m3 191 rfl) rfl
theorem q799 : (Jvm.Cond.static ({ cls := "java/lang/StringUTF16", name := "coderFromArrayLen", desc := "([BI)B" } : Jvm.MethodName)) ∈ lw_all := lw_g (lw_at lw_m3 193 rfl) rfl
theorem q800 : (Jvm.Cond.code ({ cls := "java/lang/StringUTF16", name := "coderFromArrayLen", desc := "([BI)B" } : Jvm.MethodName) prog_41_method_15_code (2 : Nat) (Option.some Jvm.ClassFile.FieldType.byte)) ∈ lw_all := lw_g (lw_at lw_m3 194 rfl) rfl

def RJ9 : String := "java/lang/Character"
abbrev bcJ9_isValidCodePoint : ByteArray := prog_30_method_11_code
def yJ9_isValidCodePoint : MethodName := ⟨RJ9, "isValidCodePoint", "(I)Z"⟩
abbrev bcJ9_highSurrogate : ByteArray := prog_30_method_28_code
def yJ9_highSurrogate : MethodName := ⟨RJ9, "highSurrogate", "(I)C"⟩
abbrev bcJ9_lowSurrogate : ByteArray := prog_30_method_29_code
def yJ9_lowSurrogate : MethodName := ⟨RJ9, "lowSurrogate", "(I)C"⟩
theorem q141 : (Jvm.Cond.initialized "java/lang/Character") ∈ lw_all := lw_g (lw_at lw_m1 15 rfl) rfl
theorem q522 : (Jvm.Cond.static ({ cls := "java/lang/Character", name := "isValidCodePoint", desc := "(I)Z" } : Jvm.MethodName)) ∈ lw_all := lw_g (lw_at lw_m2 156 rfl) rfl
theorem q523 : (Jvm.Cond.code ({ cls := "java/lang/Character", name := "isValidCodePoint", desc := "(I)Z" } : Jvm.MethodName) prog_30_method_11_code (2 : Nat) (Option.some Jvm.ClassFile.FieldType.boolean)) ∈ lw_all := lw_g (lw_at lw_m2 157 rfl) rfl
theorem q525 : (Jvm.Cond.static ({ cls := "java/lang/Character", name := "highSurrogate", desc := "(I)C" } : Jvm.MethodName)) ∈ lw_all := lw_g (lw_at lw_m2 159 rfl) rfl
theorem q526 : (Jvm.Cond.code ({ cls := "java/lang/Character", name := "highSurrogate", desc := "(I)C" } : Jvm.MethodName) prog_30_method_28_code (1 : Nat) (Option.some Jvm.ClassFile.FieldType.char)) ∈ lw_all := lw_g (lw_at lw_m2 160 rfl) rfl
theorem q527 : (Jvm.Cond.constant "java/lang/Character" (110 : Nat) (55232 : Int32)) ∈ lw_all := lw_g (lw_at lw_m2 161 rfl) rfl
theorem q529 : (Jvm.Cond.static ({ cls := "java/lang/Character", name := "lowSurrogate", desc := "(I)C" } : Jvm.MethodName)) ∈ lw_all := lw_g (lw_at lw_m2 163 rfl) rfl
theorem q530 : (Jvm.Cond.code ({ cls := "java/lang/Character", name := "lowSurrogate", desc := "(I)C" } : Jvm.MethodName) prog_30_method_29_code (1 : Nat) (Option.some Jvm.ClassFile.FieldType.char)) ∈ lw_all := lw_g (lw_at lw_m2 164 rfl) rfl
theorem q531 : (Jvm.Cond.constant "java/lang/Character" (76 : Nat) (56320 : Int32)) ∈ lw_all := lw_g (lw_at lw_m2 165 rfl) rfl

abbrev bcL_law : ByteArray := code

def RX0 : String := "SwollenHouseLaw"
abbrev bcX0_rests : ByteArray := method_3_code
def yX0_rests : MethodName := ⟨RX0, "rests", "(LSwollenHouse;IIII[J)I"⟩
theorem q126 : (Jvm.Cond.initialized "SwollenHouseLaw") ∈ lw_all := lw_g (lw_at lw_m1 0 rfl) rfl
theorem q171 : (Jvm.Cond.classLink "SwollenHouseLaw" (8 : Nat) "SwollenHouse") ∈ lw_all := lw_g (lw_at lw_m1 45 rfl) rfl
theorem q173 : (Jvm.Cond.methodLink "SwollenHouseLaw" (15 : Nat) ({ cls := "SwollenHouse", name := "<init>", desc := "()V" } : Jvm.MethodName)) ∈ lw_all := lw_g (lw_at lw_m1 47 rfl) rfl
theorem q414 : (Jvm.Cond.methodLink "SwollenHouseLaw" (21 : Nat) ({ cls := "SwollenHouse", name := "feed", desc := "(JJJ)I" } : Jvm.MethodName)) ∈ lw_all := lw_g (lw_at lw_m2 48 rfl) rfl
theorem q418 : (Jvm.Cond.methodLink "SwollenHouseLaw" (26 : Nat) ({ cls := "SwollenHouse", name := "house", desc := "()I" } : Jvm.MethodName)) ∈ lw_all := lw_g (lw_at lw_m2 52 rfl) rfl
theorem q1064 : (Jvm.Cond.methodLink "SwollenHouseLaw" (31 : Nat) ({ cls := "SwollenHouse", name := "days", desc := "()I" } : Jvm.MethodName)) ∈ lw_all := lw_g (lw_at lw_m4 218 rfl) rfl
theorem q1132 : (Jvm.Cond.methodLink "SwollenHouseLaw" (35 : Nat) ({ cls := "SwollenHouse", name := "door", desc := "(II)I" } : Jvm.MethodName)) ∈ lw_all := lw_g (lw_at lw_m5 46 rfl) rfl
theorem q1174 : (Jvm.Cond.methodLink "SwollenHouseLaw" (40 : Nat) ({ cls := "SwollenHouse", name := "person", desc := "(I)I" } : Jvm.MethodName)) ∈ lw_all := lw_g (lw_at lw_m5 88 rfl) rfl
theorem q1186 : (Jvm.Cond.methodLink "SwollenHouseLaw" (45 : Nat) ({ cls := "SwollenHouse", name := "day", desc := "()I" } : Jvm.MethodName)) ∈ lw_all := lw_g (lw_at lw_m5 100 rfl) rfl
theorem q1285 : (Jvm.Cond.methodLink "SwollenHouseLaw" (49 : Nat) ({ cls := "SwollenHouse", name := "walk", desc := "(II)I" } : Jvm.MethodName)) ∈ lw_all := lw_g (lw_at lw_m5 199 rfl) rfl
theorem q1298 : (Jvm.Cond.methodLink "SwollenHouseLaw" (53 : Nat) ({ cls := "SwollenHouse", name := "plane", desc := "(I)I" } : Jvm.MethodName)) ∈ lw_all := lw_g (lw_at lw_m5 212 rfl) rfl
theorem q1306 : (Jvm.Cond.methodLink "SwollenHouseLaw" (57 : Nat) ({ cls := "SwollenHouse", name := "wedge", desc := "(I)I" } : Jvm.MethodName)) ∈ lw_all := lw_g (lw_at lw_m5 220 rfl) rfl
theorem q1315 : (Jvm.Cond.methodLink "SwollenHouseLaw" (61 : Nat) ({ cls := "SwollenHouse", name := "force", desc := "(I)I" } : Jvm.MethodName)) ∈ lw_all := lw_g (lw_at lw_m5 229 rfl) rfl
theorem q1323 : (Jvm.Cond.methodLink "SwollenHouseLaw" (65 : Nat) ({ cls := "SwollenHouse", name := "undo", desc := "()Z" } : Jvm.MethodName)) ∈ lw_all := lw_g (lw_at lw_m5 237 rfl) rfl
theorem q1327 : (Jvm.Cond.methodLink "SwollenHouseLaw" (70 : Nat) ({ cls := "SwollenHouse", name := "judged", desc := "(I)I" } : Jvm.MethodName)) ∈ lw_all := lw_g (lw_at lw_m6 1 rfl) rfl
theorem q1369 : (Jvm.Cond.methodLink "SwollenHouseLaw" (74 : Nat) ({ cls := "SwollenHouse", name := "shut", desc := "()I" } : Jvm.MethodName)) ∈ lw_all := lw_g (lw_at lw_m6 43 rfl) rfl
theorem q1373 : (Jvm.Cond.methodLink "SwollenHouseLaw" (78 : Nat) ({ cls := "SwollenHouse", name := "range", desc := "(I)I" } : Jvm.MethodName)) ∈ lw_all := lw_g (lw_at lw_m6 47 rfl) rfl
theorem q1398 : (Jvm.Cond.methodLink "SwollenHouseLaw" (82 : Nat) ({ cls := "SwollenHouse", name := "company", desc := "(I)I" } : Jvm.MethodName)) ∈ lw_all := lw_g (lw_at lw_m6 72 rfl) rfl
theorem q1406 : (Jvm.Cond.methodLink "SwollenHouseLaw" (152 : Nat) ({ cls := "SwollenHouse", name := "parts", desc := "()I" } : Jvm.MethodName)) ∈ lw_all := lw_g (lw_at lw_m6 80 rfl) rfl
theorem q1410 : (Jvm.Cond.methodLink "SwollenHouseLaw" (176 : Nat) ({ cls := "SwollenHouse", name := "alone", desc := "()I" } : Jvm.MethodName)) ∈ lw_all := lw_g (lw_at lw_m6 84 rfl) rfl
theorem q1414 : (Jvm.Cond.methodLink "SwollenHouseLaw" (156 : Nat) ({ cls := "SwollenHouse", name := "bride", desc := "()I" } : Jvm.MethodName)) ∈ lw_all := lw_g (lw_at lw_m6 88 rfl) rfl
theorem q1418 : (Jvm.Cond.methodLink "SwollenHouseLaw" (172 : Nat) ({ cls := "SwollenHouse", name := "deep", desc := "(I)I" } : Jvm.MethodName)) ∈ lw_all := lw_g (lw_at lw_m6 92 rfl) rfl
theorem q1422 : (Jvm.Cond.methodLink "SwollenHouseLaw" (86 : Nat) ({ cls := "SwollenHouse", name := "later", desc := "(II)I" } : Jvm.MethodName)) ∈ lw_all := lw_g (lw_at lw_m6 96 rfl) rfl
theorem q1430 : (Jvm.Cond.methodLink "SwollenHouseLaw" (90 : Nat) ({ cls := "SwollenHouse", name := "closes", desc := "(I)I" } : Jvm.MethodName)) ∈ lw_all := lw_g (lw_at lw_m6 104 rfl) rfl
theorem q1438 : (Jvm.Cond.methodLink "SwollenHouseLaw" (94 : Nat) ({ cls := "SwollenHouse", name := "gives", desc := "(I)I" } : Jvm.MethodName)) ∈ lw_all := lw_g (lw_at lw_m6 112 rfl) rfl
theorem q1442 : (Jvm.Cond.methodLink "SwollenHouseLaw" (98 : Nat) ({ cls := "SwollenHouse", name := "calm", desc := "()I" } : Jvm.MethodName)) ∈ lw_all := lw_g (lw_at lw_m6 116 rfl) rfl
theorem q1446 : (Jvm.Cond.methodLink "SwollenHouseLaw" (102 : Nat) ({ cls := "SwollenHouse", name := "hard", desc := "()I" } : Jvm.MethodName)) ∈ lw_all := lw_g (lw_at lw_m6 120 rfl) rfl
theorem q1450 : (Jvm.Cond.methodLink "SwollenHouseLaw" (106 : Nat) ({ cls := "SwollenHouse", name := "arrives", desc := "(II)I" } : Jvm.MethodName)) ∈ lw_all := lw_g (lw_at lw_m6 124 rfl) rfl
theorem q1458 : (Jvm.Cond.methodLink "SwollenHouseLaw" (110 : Nat) ({ cls := "SwollenHouse", name := "from", desc := "(II)I" } : Jvm.MethodName)) ∈ lw_all := lw_g (lw_at lw_m6 132 rfl) rfl
theorem q1462 : (Jvm.Cond.methodLink "SwollenHouseLaw" (114 : Nat) ({ cls := "SwollenHouse", name := "both", desc := "(II)I" } : Jvm.MethodName)) ∈ lw_all := lw_g (lw_at lw_m6 136 rfl) rfl
theorem q1466 : (Jvm.Cond.methodLink "SwollenHouseLaw" (118 : Nat) ({ cls := "SwollenHouse", name := "cut", desc := "(II)I" } : Jvm.MethodName)) ∈ lw_all := lw_g (lw_at lw_m6 140 rfl) rfl
theorem q1470 : (Jvm.Cond.methodLink "SwollenHouseLaw" (122 : Nat) ({ cls := "SwollenHouse", name := "planed", desc := "(II)I" } : Jvm.MethodName)) ∈ lw_all := lw_g (lw_at lw_m6 144 rfl) rfl
theorem q1482 : (Jvm.Cond.methodLink "SwollenHouseLaw" (126 : Nat) ({ cls := "SwollenHouse", name := "feel", desc := "(IIZ)Z" } : Jvm.MethodName)) ∈ lw_all := lw_g (lw_at lw_m6 156 rfl) rfl
theorem q1486 : (Jvm.Cond.methodLink "SwollenHouseLaw" (131 : Nat) ({ cls := "SwollenHouse", name := "wets", desc := "()I" } : Jvm.MethodName)) ∈ lw_all := lw_g (lw_at lw_m6 160 rfl) rfl
theorem q1494 : (Jvm.Cond.methodLink "SwollenHouseLaw" (135 : Nat) ({ cls := "SwollenHouse", name := "tries", desc := "()I" } : Jvm.MethodName)) ∈ lw_all := lw_g (lw_at lw_m6 168 rfl) rfl
theorem q1498 : (Jvm.Cond.methodLink "SwollenHouseLaw" (139 : Nat) ({ cls := "SwollenHouse", name := "say", desc := "(II)Z" } : Jvm.MethodName)) ∈ lw_all := lw_g (lw_at lw_m6 172 rfl) rfl
theorem q1502 : (Jvm.Cond.methodLink "SwollenHouseLaw" (144 : Nat) ({ cls := "SwollenHouse", name := "who", desc := "()I" } : Jvm.MethodName)) ∈ lw_all := lw_g (lw_at lw_m6 176 rfl) rfl
theorem q1506 : (Jvm.Cond.methodLink "SwollenHouseLaw" (148 : Nat) ({ cls := "SwollenHouse", name := "rattles", desc := "()I" } : Jvm.MethodName)) ∈ lw_all := lw_g (lw_at lw_m6 180 rfl) rfl
theorem q1510 : (Jvm.Cond.methodLink "SwollenHouseLaw" (160 : Nat) ({ cls := "SwollenHouse", name := "worst", desc := "()I" } : Jvm.MethodName)) ∈ lw_all := lw_g (lw_at lw_m6 184 rfl) rfl
theorem q1514 : (Jvm.Cond.methodLink "SwollenHouseLaw" (164 : Nat) ({ cls := "SwollenHouse", name := "spared", desc := "()I" } : Jvm.MethodName)) ∈ lw_all := lw_g (lw_at lw_m6 188 rfl) rfl
theorem q1518 : (Jvm.Cond.methodLink "SwollenHouseLaw" (168 : Nat) ({ cls := "SwollenHouse", name := "opened", desc := "()I" } : Jvm.MethodName)) ∈ lw_all := lw_g (lw_at lw_m6 192 rfl) rfl
theorem q1526 : (Jvm.Cond.methodLink "SwollenHouseLaw" (180 : Nat) ({ cls := "SwollenHouse", name := "chance", desc := "(III)I" } : Jvm.MethodName)) ∈ lw_all := lw_g (lw_at lw_m6 200 rfl) rfl
theorem q1532 : (Jvm.Cond.methodLink "SwollenHouseLaw" (194 : Nat) ({ cls := "SwollenHouse", name := "years", desc := "(III)I" } : Jvm.MethodName)) ∈ lw_all := lw_g (lw_at lw_m6 206 rfl) rfl
theorem q1551 : (Jvm.Cond.methodLink "SwollenHouseLaw" (198 : Nat) ({ cls := "SwollenHouse", name := "mark", desc := "(IZ)Z" } : Jvm.MethodName)) ∈ lw_all := lw_g (lw_at lw_m6 225 rfl) rfl
theorem q1594 : (Jvm.Cond.methodLink "SwollenHouseLaw" (203 : Nat) ({ cls := "SwollenHouse", name := "count", desc := "(I)I" } : Jvm.MethodName)) ∈ lw_all := lw_g (lw_at lw_m7 28 rfl) rfl
theorem q1598 : (Jvm.Cond.methodLink "SwollenHouseLaw" (185 : Nat) ({ cls := "SwollenHouseLaw", name := "rests", desc := "(LSwollenHouse;IIII[J)I" } : Jvm.MethodName)) ∈ lw_all := lw_g (lw_at lw_m7 32 rfl) rfl
theorem q1599 : (Jvm.Cond.static ({ cls := "SwollenHouseLaw", name := "rests", desc := "(LSwollenHouse;IIII[J)I" } : Jvm.MethodName)) ∈ lw_all := lw_g (lw_at lw_m7 33 rfl) rfl
theorem q1600 : (Jvm.Cond.codeWith ({ cls := "SwollenHouseLaw", name := "rests", desc := "(LSwollenHouse;IIII[J)I" } : Jvm.MethodName) method_3_code (7 : Nat) (Option.some Jvm.ClassFile.FieldType.int) [((0 : Nat), (14 : Nat), (17 : Nat), (13 : Nat))]) ∈ lw_all := lw_g (lw_at lw_m7 34 rfl) rfl
theorem q1601 : (Jvm.Cond.classLink "SwollenHouseLaw" (13 : Nat) "java/util/NoSuchElementException") ∈ lw_all := lw_g (lw_at lw_m7 35 rfl) rfl
theorem q1602 : (Jvm.Cond.methodLink "SwollenHouseLaw" (7 : Nat) ({ cls := "SwollenHouse", name := "rests", desc := "(IIII)I" } : Jvm.MethodName)) ∈ lw_all := lw_g (lw_at lw_m7 36 rfl) rfl
theorem q1633 : (Jvm.Cond.methodLink "SwollenHouseLaw" (191 : Nat) ({ cls := "SwollenHouseModel", name := "thrown", desc := "()I" } : Jvm.MethodName)) ∈ lw_all := lw_g (lw_at lw_m7 67 rfl) rfl
theorem q1637 : (Jvm.Cond.methodLink "SwollenHouseLaw" (25 : Nat) ({ cls := "SwollenHouseModel", name := "feed", desc := "(JJJ)I" } : Jvm.MethodName)) ∈ lw_all := lw_g (lw_at lw_m7 71 rfl) rfl
theorem q1646 : (Jvm.Cond.classLink "SwollenHouseLaw" (16 : Nat) "SwollenHouseModel") ∈ lw_all := lw_g (lw_at lw_m7 80 rfl) rfl
theorem q1647 : (Jvm.Cond.methodLink "SwollenHouseLaw" (18 : Nat) ({ cls := "SwollenHouseModel", name := "<init>", desc := "()V" } : Jvm.MethodName)) ∈ lw_all := lw_g (lw_at lw_m7 81 rfl) rfl
theorem q1796 : (Jvm.Cond.methodLink "SwollenHouseLaw" (30 : Nat) ({ cls := "SwollenHouseModel", name := "house", desc := "()I" } : Jvm.MethodName)) ∈ lw_all := lw_g (lw_at lw_m7 230 rfl) rfl
theorem q1922 : (Jvm.Cond.methodLink "SwollenHouseLaw" (34 : Nat) ({ cls := "SwollenHouseModel", name := "days", desc := "()I" } : Jvm.MethodName)) ∈ lw_all := lw_g (lw_at lw_m8 116 rfl) rfl
theorem q1926 : (Jvm.Cond.methodLink "SwollenHouseLaw" (39 : Nat) ({ cls := "SwollenHouseModel", name := "door", desc := "(II)I" } : Jvm.MethodName)) ∈ lw_all := lw_g (lw_at lw_m8 120 rfl) rfl
theorem q1946 : (Jvm.Cond.methodLink "SwollenHouseLaw" (44 : Nat) ({ cls := "SwollenHouseModel", name := "person", desc := "(I)I" } : Jvm.MethodName)) ∈ lw_all := lw_g (lw_at lw_m8 140 rfl) rfl
theorem q1954 : (Jvm.Cond.methodLink "SwollenHouseLaw" (48 : Nat) ({ cls := "SwollenHouseModel", name := "day", desc := "()I" } : Jvm.MethodName)) ∈ lw_all := lw_g (lw_at lw_m8 148 rfl) rfl
theorem q1993 : (Jvm.Cond.methodLink "SwollenHouseLaw" (52 : Nat) ({ cls := "SwollenHouseModel", name := "walk", desc := "(II)I" } : Jvm.MethodName)) ∈ lw_all := lw_g (lw_at lw_m8 187 rfl) rfl
theorem q2009 : (Jvm.Cond.methodLink "SwollenHouseLaw" (56 : Nat) ({ cls := "SwollenHouseModel", name := "plane", desc := "(I)I" } : Jvm.MethodName)) ∈ lw_all := lw_g (lw_at lw_m8 203 rfl) rfl
theorem q2013 : (Jvm.Cond.methodLink "SwollenHouseLaw" (60 : Nat) ({ cls := "SwollenHouseModel", name := "wedge", desc := "(I)I" } : Jvm.MethodName)) ∈ lw_all := lw_g (lw_at lw_m8 207 rfl) rfl
theorem q2021 : (Jvm.Cond.methodLink "SwollenHouseLaw" (64 : Nat) ({ cls := "SwollenHouseModel", name := "force", desc := "(I)I" } : Jvm.MethodName)) ∈ lw_all := lw_g (lw_at lw_m8 215 rfl) rfl
theorem q2029 : (Jvm.Cond.methodLink "SwollenHouseLaw" (69 : Nat) ({ cls := "SwollenHouseModel", name := "undo", desc := "()Z" } : Jvm.MethodName)) ∈ lw_all := lw_g (lw_at lw_m8 223 rfl) rfl
theorem q2033 : (Jvm.Cond.methodLink "SwollenHouseLaw" (73 : Nat) ({ cls := "SwollenHouseModel", name := "judged", desc := "(I)I" } : Jvm.MethodName)) ∈ lw_all := lw_g (lw_at lw_m8 227 rfl) rfl
theorem q2048 : (Jvm.Cond.methodLink "SwollenHouseLaw" (77 : Nat) ({ cls := "SwollenHouseModel", name := "shut", desc := "()I" } : Jvm.MethodName)) ∈ lw_all := lw_g (lw_at lw_m9 2 rfl) rfl
theorem q2052 : (Jvm.Cond.methodLink "SwollenHouseLaw" (81 : Nat) ({ cls := "SwollenHouseModel", name := "range", desc := "(I)I" } : Jvm.MethodName)) ∈ lw_all := lw_g (lw_at lw_m9 6 rfl) rfl
theorem q2076 : (Jvm.Cond.methodLink "SwollenHouseLaw" (85 : Nat) ({ cls := "SwollenHouseModel", name := "company", desc := "(I)I" } : Jvm.MethodName)) ∈ lw_all := lw_g (lw_at lw_m9 30 rfl) rfl
theorem q2084 : (Jvm.Cond.methodLink "SwollenHouseLaw" (179 : Nat) ({ cls := "SwollenHouseModel", name := "alone", desc := "()I" } : Jvm.MethodName)) ∈ lw_all := lw_g (lw_at lw_m9 38 rfl) rfl
theorem q2088 : (Jvm.Cond.methodLink "SwollenHouseLaw" (159 : Nat) ({ cls := "SwollenHouseModel", name := "bride", desc := "()I" } : Jvm.MethodName)) ∈ lw_all := lw_g (lw_at lw_m9 42 rfl) rfl
theorem q2092 : (Jvm.Cond.methodLink "SwollenHouseLaw" (155 : Nat) ({ cls := "SwollenHouseModel", name := "parts", desc := "()I" } : Jvm.MethodName)) ∈ lw_all := lw_g (lw_at lw_m9 46 rfl) rfl
theorem q2096 : (Jvm.Cond.methodLink "SwollenHouseLaw" (175 : Nat) ({ cls := "SwollenHouseModel", name := "deep", desc := "(I)I" } : Jvm.MethodName)) ∈ lw_all := lw_g (lw_at lw_m9 50 rfl) rfl
theorem q2100 : (Jvm.Cond.methodLink "SwollenHouseLaw" (167 : Nat) ({ cls := "SwollenHouseModel", name := "spared", desc := "()I" } : Jvm.MethodName)) ∈ lw_all := lw_g (lw_at lw_m9 54 rfl) rfl
theorem q2104 : (Jvm.Cond.methodLink "SwollenHouseLaw" (171 : Nat) ({ cls := "SwollenHouseModel", name := "opened", desc := "()I" } : Jvm.MethodName)) ∈ lw_all := lw_g (lw_at lw_m9 58 rfl) rfl
theorem q2112 : (Jvm.Cond.methodLink "SwollenHouseLaw" (121 : Nat) ({ cls := "SwollenHouseModel", name := "cut", desc := "(II)I" } : Jvm.MethodName)) ∈ lw_all := lw_g (lw_at lw_m9 66 rfl) rfl
theorem q2116 : (Jvm.Cond.methodLink "SwollenHouseLaw" (151 : Nat) ({ cls := "SwollenHouseModel", name := "rattles", desc := "()I" } : Jvm.MethodName)) ∈ lw_all := lw_g (lw_at lw_m9 70 rfl) rfl
theorem q2120 : (Jvm.Cond.methodLink "SwollenHouseLaw" (163 : Nat) ({ cls := "SwollenHouseModel", name := "worst", desc := "()I" } : Jvm.MethodName)) ∈ lw_all := lw_g (lw_at lw_m9 74 rfl) rfl
theorem q2124 : (Jvm.Cond.methodLink "SwollenHouseLaw" (89 : Nat) ({ cls := "SwollenHouseModel", name := "later", desc := "(II)I" } : Jvm.MethodName)) ∈ lw_all := lw_g (lw_at lw_m9 78 rfl) rfl
theorem q2132 : (Jvm.Cond.methodLink "SwollenHouseLaw" (93 : Nat) ({ cls := "SwollenHouseModel", name := "closes", desc := "(I)I" } : Jvm.MethodName)) ∈ lw_all := lw_g (lw_at lw_m9 86 rfl) rfl
theorem q2140 : (Jvm.Cond.methodLink "SwollenHouseLaw" (97 : Nat) ({ cls := "SwollenHouseModel", name := "gives", desc := "(I)I" } : Jvm.MethodName)) ∈ lw_all := lw_g (lw_at lw_m9 94 rfl) rfl
theorem q2144 : (Jvm.Cond.methodLink "SwollenHouseLaw" (101 : Nat) ({ cls := "SwollenHouseModel", name := "calm", desc := "()I" } : Jvm.MethodName)) ∈ lw_all := lw_g (lw_at lw_m9 98 rfl) rfl
theorem q2148 : (Jvm.Cond.methodLink "SwollenHouseLaw" (105 : Nat) ({ cls := "SwollenHouseModel", name := "hard", desc := "()I" } : Jvm.MethodName)) ∈ lw_all := lw_g (lw_at lw_m9 102 rfl) rfl
theorem q2152 : (Jvm.Cond.methodLink "SwollenHouseLaw" (109 : Nat) ({ cls := "SwollenHouseModel", name := "arrives", desc := "(II)I" } : Jvm.MethodName)) ∈ lw_all := lw_g (lw_at lw_m9 106 rfl) rfl
theorem q2164 : (Jvm.Cond.methodLink "SwollenHouseLaw" (113 : Nat) ({ cls := "SwollenHouseModel", name := "from", desc := "(II)I" } : Jvm.MethodName)) ∈ lw_all := lw_g (lw_at lw_m9 118 rfl) rfl
theorem q2168 : (Jvm.Cond.methodLink "SwollenHouseLaw" (117 : Nat) ({ cls := "SwollenHouseModel", name := "both", desc := "(II)I" } : Jvm.MethodName)) ∈ lw_all := lw_g (lw_at lw_m9 122 rfl) rfl
theorem q2172 : (Jvm.Cond.methodLink "SwollenHouseLaw" (125 : Nat) ({ cls := "SwollenHouseModel", name := "planed", desc := "(II)I" } : Jvm.MethodName)) ∈ lw_all := lw_g (lw_at lw_m9 126 rfl) rfl
theorem q2184 : (Jvm.Cond.methodLink "SwollenHouseLaw" (130 : Nat) ({ cls := "SwollenHouseModel", name := "feel", desc := "(IIZ)Z" } : Jvm.MethodName)) ∈ lw_all := lw_g (lw_at lw_m9 138 rfl) rfl
theorem q2188 : (Jvm.Cond.methodLink "SwollenHouseLaw" (134 : Nat) ({ cls := "SwollenHouseModel", name := "wets", desc := "()I" } : Jvm.MethodName)) ∈ lw_all := lw_g (lw_at lw_m9 142 rfl) rfl
theorem q2196 : (Jvm.Cond.methodLink "SwollenHouseLaw" (138 : Nat) ({ cls := "SwollenHouseModel", name := "tries", desc := "()I" } : Jvm.MethodName)) ∈ lw_all := lw_g (lw_at lw_m9 150 rfl) rfl
theorem q2200 : (Jvm.Cond.methodLink "SwollenHouseLaw" (143 : Nat) ({ cls := "SwollenHouseModel", name := "say", desc := "(II)Z" } : Jvm.MethodName)) ∈ lw_all := lw_g (lw_at lw_m9 154 rfl) rfl
theorem q2204 : (Jvm.Cond.methodLink "SwollenHouseLaw" (147 : Nat) ({ cls := "SwollenHouseModel", name := "who", desc := "()I" } : Jvm.MethodName)) ∈ lw_all := lw_g (lw_at lw_m9 158 rfl) rfl
theorem q2208 : (Jvm.Cond.methodLink "SwollenHouseLaw" (184 : Nat) ({ cls := "SwollenHouseModel", name := "chance", desc := "(III)I" } : Jvm.MethodName)) ∈ lw_all := lw_g (lw_at lw_m9 162 rfl) rfl
theorem q2213 : (Jvm.Cond.methodLink "SwollenHouseLaw" (190 : Nat) ({ cls := "SwollenHouseModel", name := "rests", desc := "(IIII)I" } : Jvm.MethodName)) ∈ lw_all := lw_g (lw_at lw_m9 167 rfl) rfl
theorem q2220 : (Jvm.Cond.methodLink "SwollenHouseLaw" (197 : Nat) ({ cls := "SwollenHouseModel", name := "years", desc := "(III)I" } : Jvm.MethodName)) ∈ lw_all := lw_g (lw_at lw_m9 174 rfl) rfl
theorem q2240 : (Jvm.Cond.methodLink "SwollenHouseLaw" (202 : Nat) ({ cls := "SwollenHouseModel", name := "mark", desc := "(IZ)Z" } : Jvm.MethodName)) ∈ lw_all := lw_g (lw_at lw_m9 194 rfl) rfl
theorem q2244 : (Jvm.Cond.methodLink "SwollenHouseLaw" (206 : Nat) ({ cls := "SwollenHouseModel", name := "count", desc := "(I)I" } : Jvm.MethodName)) ∈ lw_all := lw_g (lw_at lw_m9 198 rfl) rfl
theorem q2248 : (Jvm.Cond.constantLong "SwollenHouseLaw" (19 : Nat) (4294967295 : Int64)) ∈ lw_all := lw_g (lw_at lw_m9 202 rfl) rfl

def RX1 : String := "SwollenHouse"
def TX1 : u_T := fun k => match k with
  | 0 => ("SwollenHouse", "tape", "[B", true)
  | 1 => ("SwollenHouse", "reader", "LSwollenHouse$Reader;", true)
  | 2 => ("SwollenHouse", "house", "LSwollenHouse$House;", false)
  | 3 => ("SwollenHouse", "lines", "Ljava/util/ArrayList;", false)
  | 4 => ("SwollenHouse", "state", "LSwollenHouse$State;", true)
  | 5 => ("SwollenHouse", "trial", "LSwollenHouse$State;", true)
  | 6 => ("SwollenHouse", "facts", "[I", true)
  | 7 => ("SwollenHouse", "taped", "I", false)
  | 8 => ("SwollenHouse", "undone", "[LSwollenHouse$State;", true)
  | 9 => ("SwollenHouse", "done", "I", false)
  | 10 => ("SwollenHouse", "row", "[I", true)
  | 11 => ("SwollenHouse", "planed", "LSwollenHouse$State;", true)
  | 12 => ("SwollenHouse", "feltAt", "[I", true)
  | 13 => ("SwollenHouse", "feltIn", "[I", true)
  | 14 => ("SwollenHouse", "feltSticks", "[Z", true)
  | 15 => ("SwollenHouse", "feltMany", "I", false)
  | 16 => ("SwollenHouse", "sticks", "[[I", true)
  | 17 => ("SwollenHouse", "saidOf", "[I", true)
  | 18 => ("SwollenHouse", "saidIn", "[I", true)
  | 19 => ("SwollenHouse", "saidMany", "I", false)
  | 20 => ("SwollenHouse", "g", "J", false)
  | _ => ("SwollenHouse", "marks", "[LSwollenHouse$Mark;", true)
def tyX1 : Nat → FieldType := fun k => match k with
  | 0 => .array .byte
  | 1 => .object "SwollenHouse$Reader"
  | 2 => .object "SwollenHouse$House"
  | 3 => .object "java/util/ArrayList"
  | 4 => .object "SwollenHouse$State"
  | 5 => .object "SwollenHouse$State"
  | 6 => .array .int
  | 7 => .int
  | 8 => .array (.object "SwollenHouse$State")
  | 9 => .int
  | 10 => .array .int
  | 11 => .object "SwollenHouse$State"
  | 12 => .array .int
  | 13 => .array .int
  | 14 => .array .boolean
  | 15 => .int
  | 16 => .array (.array .int)
  | 17 => .array .int
  | 18 => .array .int
  | 19 => .int
  | 20 => .long
  | _ => .array (.object "SwollenHouse$Mark")
abbrev wsX10 : List Cond := u_ws RX1 TX1 22
theorem nmX1 : ∀ a, a < 22 → ∀ b, b < 22 → a ≠ b → (TX1 a).2.1 ≠ (TX1 b).2.1 := by decide +kernel
theorem tyX1_ok : ∀ k, k < 22 → parseFieldDescriptor (TX1 k).2.2.1 = some (tyX1 k) := by decide +kernel
abbrev bcX1_init : ByteArray := prog_1_method_7_code
def yX1_init : MethodName := ⟨RX1, "<init>", "()V"⟩
abbrev bcX1_copies : ByteArray := prog_1_method_5_code
def yX1_copies : MethodName := ⟨RX1, "copies", "([I[I)V"⟩
abbrev bcX1_feed : ByteArray := prog_1_method_8_code
def yX1_feed : MethodName := ⟨RX1, "feed", "(JJJ)I"⟩
abbrev bcX1_house : ByteArray := prog_1_method_10_code
def yX1_house : MethodName := ⟨RX1, "house", "()I"⟩
abbrev bcX1_reads : ByteArray := prog_1_method_9_code
def yX1_reads : MethodName := ⟨RX1, "reads", "()V"⟩
abbrev bcX1_in : ByteArray := prog_1_method_1_code
def yX1_in : MethodName := ⟨RX1, "in", "(III)Z"⟩
abbrev bcX1_days : ByteArray := prog_1_method_11_code
def yX1_days : MethodName := ⟨RX1, "days", "()I"⟩
abbrev bcX1_door : ByteArray := prog_1_method_27_code
def yX1_door : MethodName := ⟨RX1, "door", "(II)I"⟩
abbrev bcX1_isDoor : ByteArray := prog_1_method_17_code
def yX1_isDoor : MethodName := ⟨RX1, "isDoor", "(I)Z"⟩
abbrev bcX1_doors : ByteArray := prog_1_method_13_code
def yX1_doors : MethodName := ⟨RX1, "doors", "()I"⟩
abbrev bcX1_door_2 : ByteArray := prog_1_method_14_code
def yX1_door_2 : MethodName := ⟨RX1, "door", "(I)LSwollenHouse$Door;"⟩
abbrev bcX1_isIn : ByteArray := prog_1_method_3_code
def yX1_isIn : MethodName := ⟨RX1, "isIn", "(II)Z"⟩
abbrev bcX1_person : ByteArray := prog_1_method_28_code
def yX1_person : MethodName := ⟨RX1, "person", "(I)I"⟩
abbrev bcX1_isPerson : ByteArray := prog_1_method_18_code
def yX1_isPerson : MethodName := ⟨RX1, "isPerson", "(I)Z"⟩
abbrev bcX1_people : ByteArray := prog_1_method_15_code
def yX1_people : MethodName := ⟨RX1, "people", "()I"⟩
abbrev bcX1_day : ByteArray := prog_1_method_30_code
def yX1_day : MethodName := ⟨RX1, "day", "()I"⟩
abbrev bcX1_keeps : ByteArray := prog_1_method_29_code
def yX1_keeps : MethodName := ⟨RX1, "keeps", "()V"⟩
abbrev bcX1_passes : ByteArray := prog_1_method_21_code
def yX1_passes : MethodName := ⟨RX1, "passes", "(LSwollenHouse$State;)V"⟩
abbrev bcX1_passes_2 : ByteArray := prog_1_method_19_code
def yX1_passes_2 : MethodName := ⟨RX1, "passes", "(LSwollenHouse$State;I)V"⟩
abbrev bcX1_swells : ByteArray := prog_1_method_20_code
def yX1_swells : MethodName := ⟨RX1, "swells", "(LSwollenHouse$State;II)I"⟩
abbrev bcX1_between : ByteArray := prog_1_method_2_code
def yX1_between : MethodName := ⟨RX1, "between", "(III)I"⟩
abbrev bcX1_sticking : ByteArray := prog_1_method_23_code
def yX1_sticking : MethodName := ⟨RX1, "sticking", "(LSwollenHouse$State;)I"⟩
abbrev bcX1_walk : ByteArray := prog_1_method_31_code
def yX1_walk : MethodName := ⟨RX1, "walk", "(II)I"⟩
abbrev bcX1_isWalked : ByteArray := prog_1_method_25_code
def yX1_isWalked : MethodName := ⟨RX1, "isWalked", "(LSwollenHouse$State;II)Z"⟩
abbrev bcX1_plane : ByteArray := prog_1_method_32_code
def yX1_plane : MethodName := ⟨RX1, "plane", "(I)I"⟩
abbrev bcX1_wedge : ByteArray := prog_1_method_33_code
def yX1_wedge : MethodName := ⟨RX1, "wedge", "(I)I"⟩
abbrev bcX1_force : ByteArray := prog_1_method_34_code
def yX1_force : MethodName := ⟨RX1, "force", "(I)I"⟩
abbrev bcX1_undo : ByteArray := prog_1_method_35_code
def yX1_undo : MethodName := ⟨RX1, "undo", "()Z"⟩
abbrev bcX1_judged : ByteArray := prog_1_method_36_code
def yX1_judged : MethodName := ⟨RX1, "judged", "(I)I"⟩
abbrev bcX1_shut : ByteArray := prog_1_method_26_code
def yX1_shut : MethodName := ⟨RX1, "shut", "(LSwollenHouse$State;)I"⟩
abbrev bcX1_shut_2 : ByteArray := prog_1_method_37_code
def yX1_shut_2 : MethodName := ⟨RX1, "shut", "()I"⟩
abbrev bcX1_range : ByteArray := prog_1_method_40_code
def yX1_range : MethodName := ⟨RX1, "range", "(I)I"⟩
abbrev bcX1_isRoom : ByteArray := prog_1_method_16_code
def yX1_isRoom : MethodName := ⟨RX1, "isRoom", "(I)Z"⟩
abbrev bcX1_rooms : ByteArray := prog_1_method_12_code
def yX1_rooms : MethodName := ⟨RX1, "rooms", "()I"⟩
abbrev bcX1_open : ByteArray := prog_1_method_24_code
def yX1_open : MethodName := ⟨RX1, "open", "(LSwollenHouse$State;)I"⟩
abbrev bcX1_range_2 : ByteArray := prog_1_method_39_code
def yX1_range_2 : MethodName := ⟨RX1, "range", "(II)I"⟩
abbrev bcX1_next : ByteArray := prog_1_method_38_code
def yX1_next : MethodName := ⟨RX1, "next", "(II)I"⟩
abbrev bcX1_company : ByteArray := prog_1_method_42_code
def yX1_company : MethodName := ⟨RX1, "company", "(I)I"⟩
abbrev bcX1_companyOf : ByteArray := prog_1_method_41_code
def yX1_companyOf : MethodName := ⟨RX1, "companyOf", "(I)I"⟩
abbrev bcX1_parts : ByteArray := prog_1_method_43_code
def yX1_parts : MethodName := ⟨RX1, "parts", "()I"⟩
abbrev bcX1_alone : ByteArray := prog_1_method_44_code
def yX1_alone : MethodName := ⟨RX1, "alone", "()I"⟩
abbrev bcX1_bride : ByteArray := prog_1_method_45_code
def yX1_bride : MethodName := ⟨RX1, "bride", "()I"⟩
abbrev bcX1_deep : ByteArray := prog_1_method_46_code
def yX1_deep : MethodName := ⟨RX1, "deep", "(I)I"⟩
abbrev bcX1_later : ByteArray := prog_1_method_47_code
def yX1_later : MethodName := ⟨RX1, "later", "(II)I"⟩
abbrev bcX1_goesOn : ByteArray := prog_1_method_22_code
def yX1_goesOn : MethodName := ⟨RX1, "goesOn", "(I)V"⟩
abbrev bcX1_closes : ByteArray := prog_1_method_49_code
def yX1_closes : MethodName := ⟨RX1, "closes", "(I)I"⟩
abbrev bcX1_comes : ByteArray := prog_1_method_48_code
def yX1_comes : MethodName := ⟨RX1, "comes", "(IZ)I"⟩
abbrev bcX1_gives : ByteArray := prog_1_method_50_code
def yX1_gives : MethodName := ⟨RX1, "gives", "(I)I"⟩
abbrev bcX1_calm : ByteArray := prog_1_method_51_code
def yX1_calm : MethodName := ⟨RX1, "calm", "()I"⟩
abbrev bcX1_hard : ByteArray := prog_1_method_52_code
def yX1_hard : MethodName := ⟨RX1, "hard", "()I"⟩
abbrev bcX1_arrives : ByteArray := prog_1_method_54_code
def yX1_arrives : MethodName := ⟨RX1, "arrives", "(II)I"⟩
abbrev bcX1_arrival : ByteArray := prog_1_method_53_code
def yX1_arrival : MethodName := ⟨RX1, "arrival", "(II)I"⟩
abbrev bcX1_from : ByteArray := prog_1_method_55_code
def yX1_from : MethodName := ⟨RX1, "from", "(II)I"⟩
abbrev bcX1_both : ByteArray := prog_1_method_56_code
def yX1_both : MethodName := ⟨RX1, "both", "(II)I"⟩
abbrev bcX1_cut : ByteArray := prog_1_method_57_code
def yX1_cut : MethodName := ⟨RX1, "cut", "(II)I"⟩
abbrev bcX1_planed : ByteArray := prog_1_method_60_code
def yX1_planed : MethodName := ⟨RX1, "planed", "(II)I"⟩
abbrev bcX1_isPlaned : ByteArray := prog_1_method_59_code
def yX1_isPlaned : MethodName := ⟨RX1, "isPlaned", "(IIII)Z"⟩
abbrev bcX1_areTogether : ByteArray := prog_1_method_58_code
def yX1_areTogether : MethodName := ⟨RX1, "areTogether", "(LSwollenHouse$State;)Z"⟩
abbrev bcX1_feel : ByteArray := prog_1_method_61_code
def yX1_feel : MethodName := ⟨RX1, "feel", "(IIZ)Z"⟩
abbrev bcX1_wets : ByteArray := prog_1_method_63_code
def yX1_wets : MethodName := ⟨RX1, "wets", "()I"⟩
abbrev bcX1_laysWets : ByteArray := prog_1_method_62_code
def yX1_laysWets : MethodName := ⟨RX1, "laysWets", "()I"⟩
abbrev bcX1_tries : ByteArray := prog_1_method_64_code
def yX1_tries : MethodName := ⟨RX1, "tries", "()I"⟩
abbrev bcX1_say : ByteArray := prog_1_method_65_code
def yX1_say : MethodName := ⟨RX1, "say", "(II)Z"⟩
abbrev bcX1_who : ByteArray := prog_1_method_66_code
def yX1_who : MethodName := ⟨RX1, "who", "()I"⟩
abbrev bcX1_rattles : ByteArray := prog_1_method_67_code
def yX1_rattles : MethodName := ⟨RX1, "rattles", "()I"⟩
abbrev bcX1_worst : ByteArray := prog_1_method_68_code
def yX1_worst : MethodName := ⟨RX1, "worst", "()I"⟩
abbrev bcX1_spared : ByteArray := prog_1_method_69_code
def yX1_spared : MethodName := ⟨RX1, "spared", "()I"⟩
abbrev bcX1_opened : ByteArray := prog_1_method_71_code
def yX1_opened : MethodName := ⟨RX1, "opened", "()I"⟩
abbrev bcX1_pairs : ByteArray := prog_1_method_70_code
def yX1_pairs : MethodName := ⟨RX1, "pairs", "(I)I"⟩
abbrev bcX1_chance : ByteArray := prog_1_method_72_code
def yX1_chance : MethodName := ⟨RX1, "chance", "(III)I"⟩
abbrev bcX1_years : ByteArray := prog_1_method_77_code
def yX1_years : MethodName := ⟨RX1, "years", "(III)I"⟩
abbrev bcX1_befalls : ByteArray := prog_1_method_76_code
def yX1_befalls : MethodName := ⟨RX1, "befalls", "(LSwollenHouse$State;)Z"⟩
abbrev bcX1_draws : ByteArray := prog_1_method_75_code
def yX1_draws : MethodName := ⟨RX1, "draws", "(I)I"⟩
abbrev bcX1_sum : ByteArray := prog_1_method_6_code
def yX1_sum : MethodName := ⟨RX1, "sum", "([I)I"⟩
abbrev bcX1_mark : ByteArray := prog_1_method_78_code
def yX1_mark : MethodName := ⟨RX1, "mark", "(IZ)Z"⟩
abbrev bcX1_count : ByteArray := prog_1_method_79_code
def yX1_count : MethodName := ⟨RX1, "count", "(I)I"⟩
abbrev bcX1_rests : ByteArray := prog_1_method_74_code
def yX1_rests : MethodName := ⟨RX1, "rests", "(IIII)I"⟩
abbrev bcX1_need : ByteArray := prog_1_method_4_code
def yX1_need : MethodName := ⟨RX1, "need", "(Z)V"⟩
abbrev bcX1_gets : ByteArray := prog_1_method_73_code
def yX1_gets : MethodName := ⟨RX1, "gets", "(IIIII)I"⟩
theorem q127 : (Jvm.Cond.initialized "SwollenHouse") ∈ lw_all := lw_g (lw_at lw_m1 1 rfl) rfl
theorem q172 : (Jvm.Cond.instantiable "SwollenHouse" (22 : Nat)) ∈ lw_all := lw_g (lw_at lw_m1 46 rfl) rfl
theorem q174 : (Jvm.Cond.instanceMethod ({ cls := "SwollenHouse", name := "<init>", desc := "()V" } : Jvm.MethodName)) ∈ lw_all := lw_g (lw_at lw_m1 48 rfl) rfl
theorem q175 : (Jvm.Cond.code ({ cls := "SwollenHouse", name := "<init>", desc := "()V" } : Jvm.MethodName) prog_1_method_7_code (1 : Nat) (Option.none : Option Jvm.ClassFile.FieldType)) ∈ lw_all := lw_g (lw_at lw_m1 49 rfl) rfl
theorem q176 : (Jvm.Cond.methodLink "SwollenHouse" (16 : Nat) ({ cls := "java/lang/Object", name := "<init>", desc := "()V" } : Jvm.MethodName)) ∈ lw_all := lw_g (lw_at lw_m1 50 rfl) rfl
theorem q179 : (Jvm.Cond.classLink "SwollenHouse" (25 : Nat) "SwollenHouse$Reader") ∈ lw_all := lw_g (lw_at lw_m1 53 rfl) rfl
theorem q181 : (Jvm.Cond.methodLinkNest "SwollenHouse" (27 : Nat) ({ cls := "SwollenHouse$Reader", name := "<init>", desc := "()V" } : Jvm.MethodName) "SwollenHouse") ∈ lw_tbl := lw_at lw_m1 55 rfl
theorem q211 : (Jvm.Cond.classLink "SwollenHouse" (32 : Nat) "SwollenHouse$House") ∈ lw_all := lw_g (lw_at lw_m1 85 rfl) rfl
theorem q213 : (Jvm.Cond.methodLinkNest "SwollenHouse" (34 : Nat) ({ cls := "SwollenHouse$House", name := "<init>", desc := "()V" } : Jvm.MethodName) "SwollenHouse") ∈ lw_tbl := lw_at lw_m1 87 rfl
theorem q246 : (Jvm.Cond.fieldLinkNest "SwollenHouse" (134 : Nat) "SwollenHouse$House" "rooms" "Ljava/util/ArrayList;" "SwollenHouse") ∈ lw_tbl := lw_at lw_m1 120 rfl
theorem q250 : (Jvm.Cond.fieldLinkNest "SwollenHouse" (150 : Nat) "SwollenHouse$House" "people" "Ljava/util/ArrayList;" "SwollenHouse") ∈ lw_tbl := lw_at lw_m1 124 rfl
theorem q253 : (Jvm.Cond.fieldLinkNest "SwollenHouse" (141 : Nat) "SwollenHouse$House" "doors" "Ljava/util/ArrayList;" "SwollenHouse") ∈ lw_tbl := lw_at lw_m1 127 rfl
theorem q262 : (Jvm.Cond.fieldLinkNest "SwollenHouse" (192 : Nat) "SwollenHouse$House" "swells" "LSwollenHouse$Expression;" "SwollenHouse") ∈ lw_tbl := lw_at lw_m1 136 rfl
theorem q280 : (Jvm.Cond.classLink "SwollenHouse" (39 : Nat) "java/util/ArrayList") ∈ lw_all := lw_g (lw_at lw_m1 154 rfl) rfl
theorem q281 : (Jvm.Cond.methodLink "SwollenHouse" (41 : Nat) ({ cls := "java/util/ArrayList", name := "<init>", desc := "(I)V" } : Jvm.MethodName)) ∈ lw_all := lw_g (lw_at lw_m1 155 rfl) rfl
theorem q282 : (Jvm.Cond.classLink "SwollenHouse" (48 : Nat) "SwollenHouse$State") ∈ lw_all := lw_g (lw_at lw_m1 156 rfl) rfl
theorem q284 : (Jvm.Cond.methodLinkNest "SwollenHouse" (50 : Nat) ({ cls := "SwollenHouse$State", name := "<init>", desc := "()V" } : Jvm.MethodName) "SwollenHouse") ∈ lw_tbl := lw_at lw_m1 158 rfl
theorem q290 : (Jvm.Cond.fieldLinkNest "SwollenHouse" (176 : Nat) "SwollenHouse$State" "swell" "[I" "SwollenHouse") ∈ lw_tbl := lw_at lw_m1 164 rfl
theorem q294 : (Jvm.Cond.fieldLinkNest "SwollenHouse" (195 : Nat) "SwollenHouse$State" "gap" "[I" "SwollenHouse") ∈ lw_tbl := lw_at lw_m1 168 rfl
theorem q296 : (Jvm.Cond.fieldLinkNest "SwollenHouse" (229 : Nat) "SwollenHouse$State" "at" "[I" "SwollenHouse") ∈ lw_tbl := lw_at lw_m1 170 rfl
theorem q299 : (Jvm.Cond.fieldLinkNest "SwollenHouse" (247 : Nat) "SwollenHouse$State" "wedges" "I" "SwollenHouse") ∈ lw_tbl := lw_at lw_m1 173 rfl
theorem q302 : (Jvm.Cond.fieldLinkNest "SwollenHouse" (189 : Nat) "SwollenHouse$State" "day" "I" "SwollenHouse") ∈ lw_tbl := lw_at lw_m1 176 rfl
theorem q315 : (Jvm.Cond.classLink "SwollenHouse" (82 : Nat) "[[I") ∈ lw_all := lw_g (lw_at lw_m1 189 rfl) rfl
theorem q317 : (Jvm.Cond.classLink "SwollenHouse" (93 : Nat) "SwollenHouse$Mark") ∈ lw_all := lw_g (lw_at lw_m1 191 rfl) rfl
theorem q319 : (Jvm.Cond.methodLink "SwollenHouse" (99 : Nat) ({ cls := "SwollenHouse$State", name := "begin", desc := "(LSwollenHouse$House;)V" } : Jvm.MethodName)) ∈ lw_all := lw_g (lw_at lw_m1 193 rfl) rfl
theorem q343 : (Jvm.Cond.static ({ cls := "SwollenHouse", name := "copies", desc := "([I[I)V" } : Jvm.MethodName)) ∈ lw_all := lw_g (lw_at lw_m1 217 rfl) rfl
theorem q344 : (Jvm.Cond.code ({ cls := "SwollenHouse", name := "copies", desc := "([I[I)V" } : Jvm.MethodName) prog_1_method_5_code (3 : Nat) (Option.none : Option Jvm.ClassFile.FieldType)) ∈ lw_all := lw_g (lw_at lw_m1 218 rfl) rfl
theorem q345 : (Jvm.Cond.fieldLink "SwollenHouse" (21 : Nat) "SwollenHouse" "tape" "[B") ∈ lw_all := lw_g (lw_at lw_m1 219 rfl) rfl
theorem q346 : (Jvm.Cond.fieldLink "SwollenHouse" (28 : Nat) "SwollenHouse" "reader" "LSwollenHouse$Reader;") ∈ lw_all := lw_g (lw_at lw_m1 220 rfl) rfl
theorem q348 : (Jvm.Cond.fieldLink "SwollenHouse" (35 : Nat) "SwollenHouse" "house" "LSwollenHouse$House;") ∈ lw_all := lw_g (lw_at lw_m1 222 rfl) rfl
theorem q349 : (Jvm.Cond.fieldLink "SwollenHouse" (44 : Nat) "SwollenHouse" "lines" "Ljava/util/ArrayList;") ∈ lw_all := lw_g (lw_at lw_m1 223 rfl) rfl
theorem q350 : (Jvm.Cond.fieldLink "SwollenHouse" (51 : Nat) "SwollenHouse" "state" "LSwollenHouse$State;") ∈ lw_all := lw_g (lw_at lw_m1 224 rfl) rfl
theorem q351 : (Jvm.Cond.fieldLink "SwollenHouse" (55 : Nat) "SwollenHouse" "trial" "LSwollenHouse$State;") ∈ lw_all := lw_g (lw_at lw_m1 225 rfl) rfl
theorem q352 : (Jvm.Cond.fieldLink "SwollenHouse" (58 : Nat) "SwollenHouse" "facts" "[I") ∈ lw_all := lw_g (lw_at lw_m1 226 rfl) rfl
theorem q353 : (Jvm.Cond.fieldLink "SwollenHouse" (103 : Nat) "SwollenHouse" "taped" "I") ∈ lw_all := lw_g (lw_at lw_m1 227 rfl) rfl
theorem q354 : (Jvm.Cond.fieldLink "SwollenHouse" (62 : Nat) "SwollenHouse" "undone" "[LSwollenHouse$State;") ∈ lw_all := lw_g (lw_at lw_m1 228 rfl) rfl
theorem q355 : (Jvm.Cond.fieldLink "SwollenHouse" (127 : Nat) "SwollenHouse" "done" "I") ∈ lw_all := lw_g (lw_at lw_m1 229 rfl) rfl
theorem q356 : (Jvm.Cond.fieldLink "SwollenHouse" (66 : Nat) "SwollenHouse" "row" "[I") ∈ lw_all := lw_g (lw_at lw_m1 230 rfl) rfl
theorem q357 : (Jvm.Cond.fieldLink "SwollenHouse" (69 : Nat) "SwollenHouse" "planed" "LSwollenHouse$State;") ∈ lw_all := lw_g (lw_at lw_m1 231 rfl) rfl
theorem q358 : (Jvm.Cond.fieldLink "SwollenHouse" (72 : Nat) "SwollenHouse" "feltAt" "[I") ∈ lw_all := lw_g (lw_at lw_m1 232 rfl) rfl
theorem q359 : (Jvm.Cond.fieldLink "SwollenHouse" (75 : Nat) "SwollenHouse" "feltIn" "[I") ∈ lw_all := lw_g (lw_at lw_m1 233 rfl) rfl
theorem q360 : (Jvm.Cond.fieldLink "SwollenHouse" (78 : Nat) "SwollenHouse" "feltSticks" "[Z") ∈ lw_all := lw_g (lw_at lw_m1 234 rfl) rfl
theorem q361 : (Jvm.Cond.fieldLink "SwollenHouse" (121 : Nat) "SwollenHouse" "feltMany" "I") ∈ lw_all := lw_g (lw_at lw_m1 235 rfl) rfl
theorem q362 : (Jvm.Cond.fieldLink "SwollenHouse" (84 : Nat) "SwollenHouse" "sticks" "[[I") ∈ lw_all := lw_g (lw_at lw_m1 236 rfl) rfl
theorem q363 : (Jvm.Cond.fieldLink "SwollenHouse" (87 : Nat) "SwollenHouse" "saidOf" "[I") ∈ lw_all := lw_g (lw_at lw_m1 237 rfl) rfl
theorem q364 : (Jvm.Cond.fieldLink "SwollenHouse" (90 : Nat) "SwollenHouse" "saidIn" "[I") ∈ lw_all := lw_g (lw_at lw_m1 238 rfl) rfl
theorem q365 : (Jvm.Cond.fieldLink "SwollenHouse" (124 : Nat) "SwollenHouse" "saidMany" "I") ∈ lw_all := lw_g (lw_at lw_m1 239 rfl) rfl
theorem q366 : (Jvm.Cond.fieldLink "SwollenHouse" (341 : Nat) "SwollenHouse" "g" "J") ∈ lw_all := lw_g (lw_at lw_m2 0 rfl) rfl
theorem q367 : (Jvm.Cond.fieldLink "SwollenHouse" (95 : Nat) "SwollenHouse" "marks" "[LSwollenHouse$Mark;") ∈ lw_all := lw_g (lw_at lw_m2 1 rfl) rfl
theorem q368 : (Jvm.Cond.laysFinal "SwollenHouse" "SwollenHouse" "tape" "[B") ∈ lw_all := lw_g (lw_at lw_m2 2 rfl) rfl
theorem q369 : (Jvm.Cond.soleField "SwollenHouse" "tape") ∈ lw_all := lw_g (lw_at lw_m2 3 rfl) rfl
theorem q370 : (Jvm.Cond.laysFinal "SwollenHouse" "SwollenHouse" "reader" "LSwollenHouse$Reader;") ∈ lw_all := lw_g (lw_at lw_m2 4 rfl) rfl
theorem q371 : (Jvm.Cond.soleField "SwollenHouse" "reader") ∈ lw_all := lw_g (lw_at lw_m2 5 rfl) rfl
theorem q372 : (Jvm.Cond.lays "SwollenHouse" "SwollenHouse" "house" "LSwollenHouse$House;") ∈ lw_all := lw_g (lw_at lw_m2 6 rfl) rfl
theorem q373 : (Jvm.Cond.soleField "SwollenHouse" "house") ∈ lw_all := lw_g (lw_at lw_m2 7 rfl) rfl
theorem q374 : (Jvm.Cond.lays "SwollenHouse" "SwollenHouse" "lines" "Ljava/util/ArrayList;") ∈ lw_all := lw_g (lw_at lw_m2 8 rfl) rfl
theorem q375 : (Jvm.Cond.soleField "SwollenHouse" "lines") ∈ lw_all := lw_g (lw_at lw_m2 9 rfl) rfl
theorem q376 : (Jvm.Cond.laysFinal "SwollenHouse" "SwollenHouse" "state" "LSwollenHouse$State;") ∈ lw_all := lw_g (lw_at lw_m2 10 rfl) rfl
theorem q377 : (Jvm.Cond.soleField "SwollenHouse" "state") ∈ lw_all := lw_g (lw_at lw_m2 11 rfl) rfl
theorem q378 : (Jvm.Cond.laysFinal "SwollenHouse" "SwollenHouse" "trial" "LSwollenHouse$State;") ∈ lw_all := lw_g (lw_at lw_m2 12 rfl) rfl
theorem q379 : (Jvm.Cond.soleField "SwollenHouse" "trial") ∈ lw_all := lw_g (lw_at lw_m2 13 rfl) rfl
theorem q380 : (Jvm.Cond.laysFinal "SwollenHouse" "SwollenHouse" "facts" "[I") ∈ lw_all := lw_g (lw_at lw_m2 14 rfl) rfl
theorem q381 : (Jvm.Cond.soleField "SwollenHouse" "facts") ∈ lw_all := lw_g (lw_at lw_m2 15 rfl) rfl
theorem q382 : (Jvm.Cond.lays "SwollenHouse" "SwollenHouse" "taped" "I") ∈ lw_all := lw_g (lw_at lw_m2 16 rfl) rfl
theorem q383 : (Jvm.Cond.soleField "SwollenHouse" "taped") ∈ lw_all := lw_g (lw_at lw_m2 17 rfl) rfl
theorem q384 : (Jvm.Cond.laysFinal "SwollenHouse" "SwollenHouse" "undone" "[LSwollenHouse$State;") ∈ lw_all := lw_g (lw_at lw_m2 18 rfl) rfl
theorem q385 : (Jvm.Cond.soleField "SwollenHouse" "undone") ∈ lw_all := lw_g (lw_at lw_m2 19 rfl) rfl
theorem q386 : (Jvm.Cond.lays "SwollenHouse" "SwollenHouse" "done" "I") ∈ lw_all := lw_g (lw_at lw_m2 20 rfl) rfl
theorem q387 : (Jvm.Cond.soleField "SwollenHouse" "done") ∈ lw_all := lw_g (lw_at lw_m2 21 rfl) rfl
theorem q388 : (Jvm.Cond.laysFinal "SwollenHouse" "SwollenHouse" "row" "[I") ∈ lw_all := lw_g (lw_at lw_m2 22 rfl) rfl
theorem q389 : (Jvm.Cond.soleField "SwollenHouse" "row") ∈ lw_all := lw_g (lw_at lw_m2 23 rfl) rfl
theorem q390 : (Jvm.Cond.laysFinal "SwollenHouse" "SwollenHouse" "planed" "LSwollenHouse$State;") ∈ lw_all := lw_g (lw_at lw_m2 24 rfl) rfl
theorem q391 : (Jvm.Cond.soleField "SwollenHouse" "planed") ∈ lw_all := lw_g (lw_at lw_m2 25 rfl) rfl
theorem q392 : (Jvm.Cond.laysFinal "SwollenHouse" "SwollenHouse" "feltAt" "[I") ∈ lw_all := lw_g (lw_at lw_m2 26 rfl) rfl
theorem q393 : (Jvm.Cond.soleField "SwollenHouse" "feltAt") ∈ lw_all := lw_g (lw_at lw_m2 27 rfl) rfl
theorem q394 : (Jvm.Cond.laysFinal "SwollenHouse" "SwollenHouse" "feltIn" "[I") ∈ lw_all := lw_g (lw_at lw_m2 28 rfl) rfl
theorem q395 : (Jvm.Cond.soleField "SwollenHouse" "feltIn") ∈ lw_all := lw_g (lw_at lw_m2 29 rfl) rfl
theorem q396 : (Jvm.Cond.laysFinal "SwollenHouse" "SwollenHouse" "feltSticks" "[Z") ∈ lw_all := lw_g (lw_at lw_m2 30 rfl) rfl
theorem q397 : (Jvm.Cond.soleField "SwollenHouse" "feltSticks") ∈ lw_all := lw_g (lw_at lw_m2 31 rfl) rfl
theorem q398 : (Jvm.Cond.lays "SwollenHouse" "SwollenHouse" "feltMany" "I") ∈ lw_all := lw_g (lw_at lw_m2 32 rfl) rfl
theorem q399 : (Jvm.Cond.soleField "SwollenHouse" "feltMany") ∈ lw_all := lw_g (lw_at lw_m2 33 rfl) rfl
theorem q400 : (Jvm.Cond.laysFinal "SwollenHouse" "SwollenHouse" "sticks" "[[I") ∈ lw_all := lw_g (lw_at lw_m2 34 rfl) rfl
theorem q401 : (Jvm.Cond.soleField "SwollenHouse" "sticks") ∈ lw_all := lw_g (lw_at lw_m2 35 rfl) rfl
theorem q402 : (Jvm.Cond.laysFinal "SwollenHouse" "SwollenHouse" "saidOf" "[I") ∈ lw_all := lw_g (lw_at lw_m2 36 rfl) rfl
theorem q403 : (Jvm.Cond.soleField "SwollenHouse" "saidOf") ∈ lw_all := lw_g (lw_at lw_m2 37 rfl) rfl
theorem q404 : (Jvm.Cond.laysFinal "SwollenHouse" "SwollenHouse" "saidIn" "[I") ∈ lw_all := lw_g (lw_at lw_m2 38 rfl) rfl
theorem q405 : (Jvm.Cond.soleField "SwollenHouse" "saidIn") ∈ lw_all := lw_g (lw_at lw_m2 39 rfl) rfl
theorem q406 : (Jvm.Cond.lays "SwollenHouse" "SwollenHouse" "saidMany" "I") ∈ lw_all := lw_g (lw_at lw_m2 40 rfl) rfl
theorem q407 : (Jvm.Cond.soleField "SwollenHouse" "saidMany") ∈ lw_all := lw_g (lw_at lw_m2 41 rfl) rfl
theorem q408 : (Jvm.Cond.lays "SwollenHouse" "SwollenHouse" "g" "J") ∈ lw_all := lw_g (lw_at lw_m2 42 rfl) rfl
theorem q409 : (Jvm.Cond.soleField "SwollenHouse" "g") ∈ lw_all := lw_g (lw_at lw_m2 43 rfl) rfl
theorem q410 : (Jvm.Cond.laysFinal "SwollenHouse" "SwollenHouse" "marks" "[LSwollenHouse$Mark;") ∈ lw_all := lw_g (lw_at lw_m2 44 rfl) rfl
theorem q411 : (Jvm.Cond.soleField "SwollenHouse" "marks") ∈ lw_all := lw_g (lw_at lw_m2 45 rfl) rfl
theorem q412 : (Jvm.Cond.superclass "SwollenHouse" "java/lang/Object") ∈ lw_all := lw_g (lw_at lw_m2 46 rfl) rfl
theorem q415 : (Jvm.Cond.instanceMethod ({ cls := "SwollenHouse", name := "feed", desc := "(JJJ)I" } : Jvm.MethodName)) ∈ lw_all := lw_g (lw_at lw_m2 49 rfl) rfl
theorem q416 : (Jvm.Cond.selects "SwollenHouse" ({ cls := "SwollenHouse", name := "feed", desc := "(JJJ)I" } : Jvm.MethodName) ({ cls := "SwollenHouse", name := "feed", desc := "(JJJ)I" } : Jvm.MethodName)) ∈ lw_all := lw_g (lw_at lw_m2 50 rfl) rfl
theorem q417 : (Jvm.Cond.code ({ cls := "SwollenHouse", name := "feed", desc := "(JJJ)I" } : Jvm.MethodName) prog_1_method_8_code (9 : Nat) (Option.some Jvm.ClassFile.FieldType.int)) ∈ lw_all := lw_g (lw_at lw_m2 51 rfl) rfl
theorem q419 : (Jvm.Cond.instanceMethod ({ cls := "SwollenHouse", name := "house", desc := "()I" } : Jvm.MethodName)) ∈ lw_all := lw_g (lw_at lw_m2 53 rfl) rfl
theorem q420 : (Jvm.Cond.selects "SwollenHouse" ({ cls := "SwollenHouse", name := "house", desc := "()I" } : Jvm.MethodName) ({ cls := "SwollenHouse", name := "house", desc := "()I" } : Jvm.MethodName)) ∈ lw_all := lw_g (lw_at lw_m2 54 rfl) rfl
theorem q421 : (Jvm.Cond.codeWith ({ cls := "SwollenHouse", name := "house", desc := "()I" } : Jvm.MethodName) prog_1_method_10_code (2 : Nat) (Option.some Jvm.ClassFile.FieldType.int) [((4 : Nat), (15 : Nat), (18 : Nat), (116 : Nat))]) ∈ lw_all := lw_g (lw_at lw_m2 55 rfl) rfl
theorem q422 : (Jvm.Cond.classLink "SwollenHouse" (116 : Nat) "SwollenHouse$Wrong") ∈ lw_all := lw_g (lw_at lw_m2 56 rfl) rfl
theorem q423 : (Jvm.Cond.methodLink "SwollenHouse" (110 : Nat) ({ cls := "SwollenHouse", name := "reads", desc := "()V" } : Jvm.MethodName)) ∈ lw_all := lw_g (lw_at lw_m2 57 rfl) rfl
theorem q424 : (Jvm.Cond.privateMethod ({ cls := "SwollenHouse", name := "reads", desc := "()V" } : Jvm.MethodName)) ∈ lw_tbl := lw_at lw_m2 58 rfl
theorem q425 : (Jvm.Cond.instanceMethod ({ cls := "SwollenHouse", name := "reads", desc := "()V" } : Jvm.MethodName)) ∈ lw_all := lw_g (lw_at lw_m2 59 rfl) rfl
theorem q426 : (Jvm.Cond.code ({ cls := "SwollenHouse", name := "reads", desc := "()V" } : Jvm.MethodName) prog_1_method_9_code (1 : Nat) (Option.none : Option Jvm.ClassFile.FieldType)) ∈ lw_all := lw_g (lw_at lw_m2 60 rfl) rfl
theorem q427 : (Jvm.Cond.methodLink "SwollenHouse" (107 : Nat) ({ cls := "SwollenHouse$Reader", name := "begin", desc := "([BI)V" } : Jvm.MethodName)) ∈ lw_all := lw_g (lw_at lw_m2 61 rfl) rfl
theorem q532 : (Jvm.Cond.methodLink "SwollenHouse" (113 : Nat) ({ cls := "SwollenHouse$Reader", name := "house", desc := "()LSwollenHouse$House;" } : Jvm.MethodName)) ∈ lw_all := lw_g (lw_at lw_m2 166 rfl) rfl
theorem q620 : (Jvm.Cond.fieldLinkNest "SwollenHouse" (118 : Nat) "SwollenHouse$Wrong" "fault" "I" "SwollenHouse") ∈ lw_tbl := lw_at lw_m3 14 rfl
theorem q851 : (Jvm.Cond.selects "SwollenHouse" ({ cls := "java/lang/Object", name := "getClass", desc := "()Ljava/lang/Class;" } : Jvm.MethodName) ({ cls := "java/lang/Object", name := "getClass", desc := "()Ljava/lang/Class;" } : Jvm.MethodName)) ∈ lw_all := lw_g (lw_at lw_m4 5 rfl) rfl
theorem q911 : (Jvm.Cond.fieldLinkNest "SwollenHouse" (238 : Nat) "SwollenHouse$Door" "one" "I" "SwollenHouse") ∈ lw_tbl := lw_at lw_m4 65 rfl
theorem q913 : (Jvm.Cond.fieldLinkNest "SwollenHouse" (241 : Nat) "SwollenHouse$Door" "other" "I" "SwollenHouse") ∈ lw_tbl := lw_at lw_m4 67 rfl
theorem q914 : (Jvm.Cond.fieldLinkNest "SwollenHouse" (167 : Nat) "SwollenHouse$Door" "wood" "LSwollenHouse$Wood;" "SwollenHouse") ∈ lw_tbl := lw_at lw_m4 68 rfl
theorem q982 : (Jvm.Cond.static ({ cls := "SwollenHouse", name := "in", desc := "(III)Z" } : Jvm.MethodName)) ∈ lw_all := lw_g (lw_at lw_m4 136 rfl) rfl
theorem q983 : (Jvm.Cond.code ({ cls := "SwollenHouse", name := "in", desc := "(III)Z" } : Jvm.MethodName) prog_1_method_1_code (3 : Nat) (Option.some Jvm.ClassFile.FieldType.boolean)) ∈ lw_all := lw_g (lw_at lw_m4 137 rfl) rfl
theorem q1065 : (Jvm.Cond.instanceMethod ({ cls := "SwollenHouse", name := "days", desc := "()I" } : Jvm.MethodName)) ∈ lw_all := lw_g (lw_at lw_m4 219 rfl) rfl
theorem q1066 : (Jvm.Cond.selects "SwollenHouse" ({ cls := "SwollenHouse", name := "days", desc := "()I" } : Jvm.MethodName) ({ cls := "SwollenHouse", name := "days", desc := "()I" } : Jvm.MethodName)) ∈ lw_all := lw_g (lw_at lw_m4 220 rfl) rfl
theorem q1067 : (Jvm.Cond.codeWith ({ cls := "SwollenHouse", name := "days", desc := "()I" } : Jvm.MethodName) prog_1_method_11_code (2 : Nat) (Option.some Jvm.ClassFile.FieldType.int) [((4 : Nat), (19 : Nat), (22 : Nat), (116 : Nat))]) ∈ lw_all := lw_g (lw_at lw_m4 221 rfl) rfl
theorem q1068 : (Jvm.Cond.methodLink "SwollenHouse" (130 : Nat) ({ cls := "SwollenHouse$Reader", name := "days", desc := "(LSwollenHouse$House;)Ljava/util/ArrayList;" } : Jvm.MethodName)) ∈ lw_all := lw_g (lw_at lw_m4 222 rfl) rfl
theorem q1133 : (Jvm.Cond.instanceMethod ({ cls := "SwollenHouse", name := "door", desc := "(II)I" } : Jvm.MethodName)) ∈ lw_all := lw_g (lw_at lw_m5 47 rfl) rfl
theorem q1134 : (Jvm.Cond.selects "SwollenHouse" ({ cls := "SwollenHouse", name := "door", desc := "(II)I" } : Jvm.MethodName) ({ cls := "SwollenHouse", name := "door", desc := "(II)I" } : Jvm.MethodName)) ∈ lw_all := lw_g (lw_at lw_m5 48 rfl) rfl
theorem q1135 : (Jvm.Cond.code ({ cls := "SwollenHouse", name := "door", desc := "(II)I" } : Jvm.MethodName) prog_1_method_27_code (3 : Nat) (Option.some Jvm.ClassFile.FieldType.int)) ∈ lw_all := lw_g (lw_at lw_m5 49 rfl) rfl
theorem q1136 : (Jvm.Cond.methodLink "SwollenHouse" (226 : Nat) ({ cls := "SwollenHouse", name := "isDoor", desc := "(I)Z" } : Jvm.MethodName)) ∈ lw_all := lw_g (lw_at lw_m5 50 rfl) rfl
theorem q1137 : (Jvm.Cond.privateMethod ({ cls := "SwollenHouse", name := "isDoor", desc := "(I)Z" } : Jvm.MethodName)) ∈ lw_tbl := lw_at lw_m5 51 rfl
theorem q1138 : (Jvm.Cond.instanceMethod ({ cls := "SwollenHouse", name := "isDoor", desc := "(I)Z" } : Jvm.MethodName)) ∈ lw_all := lw_g (lw_at lw_m5 52 rfl) rfl
theorem q1139 : (Jvm.Cond.code ({ cls := "SwollenHouse", name := "isDoor", desc := "(I)Z" } : Jvm.MethodName) prog_1_method_17_code (2 : Nat) (Option.some Jvm.ClassFile.FieldType.boolean)) ∈ lw_all := lw_g (lw_at lw_m5 53 rfl) rfl
theorem q1140 : (Jvm.Cond.methodLink "SwollenHouse" (159 : Nat) ({ cls := "SwollenHouse", name := "doors", desc := "()I" } : Jvm.MethodName)) ∈ lw_all := lw_g (lw_at lw_m5 54 rfl) rfl
theorem q1141 : (Jvm.Cond.privateMethod ({ cls := "SwollenHouse", name := "doors", desc := "()I" } : Jvm.MethodName)) ∈ lw_tbl := lw_at lw_m5 55 rfl
theorem q1142 : (Jvm.Cond.instanceMethod ({ cls := "SwollenHouse", name := "doors", desc := "()I" } : Jvm.MethodName)) ∈ lw_all := lw_g (lw_at lw_m5 56 rfl) rfl
theorem q1143 : (Jvm.Cond.code ({ cls := "SwollenHouse", name := "doors", desc := "()I" } : Jvm.MethodName) prog_1_method_13_code (1 : Nat) (Option.some Jvm.ClassFile.FieldType.int)) ∈ lw_all := lw_g (lw_at lw_m5 57 rfl) rfl
theorem q1144 : (Jvm.Cond.methodLink "SwollenHouse" (137 : Nat) ({ cls := "java/util/ArrayList", name := "size", desc := "()I" } : Jvm.MethodName)) ∈ lw_all := lw_g (lw_at lw_m5 58 rfl) rfl
theorem q1145 : (Jvm.Cond.methodLink "SwollenHouse" (155 : Nat) ({ cls := "SwollenHouse", name := "in", desc := "(III)Z" } : Jvm.MethodName)) ∈ lw_all := lw_g (lw_at lw_m5 59 rfl) rfl
theorem q1146 : (Jvm.Cond.methodLink "SwollenHouse" (163 : Nat) ({ cls := "SwollenHouse", name := "door", desc := "(I)LSwollenHouse$Door;" } : Jvm.MethodName)) ∈ lw_all := lw_g (lw_at lw_m5 60 rfl) rfl
theorem q1147 : (Jvm.Cond.privateMethod ({ cls := "SwollenHouse", name := "door", desc := "(I)LSwollenHouse$Door;" } : Jvm.MethodName)) ∈ lw_tbl := lw_at lw_m5 61 rfl
theorem q1148 : (Jvm.Cond.instanceMethod ({ cls := "SwollenHouse", name := "door", desc := "(I)LSwollenHouse$Door;" } : Jvm.MethodName)) ∈ lw_all := lw_g (lw_at lw_m5 62 rfl) rfl
theorem q1149 : (Jvm.Cond.code ({ cls := "SwollenHouse", name := "door", desc := "(I)LSwollenHouse$Door;" } : Jvm.MethodName) prog_1_method_14_code (2 : Nat) (Option.some (Jvm.ClassFile.FieldType.object "SwollenHouse$Door"))) ∈ lw_all := lw_g (lw_at lw_m5 63 rfl) rfl
theorem q1150 : (Jvm.Cond.methodLink "SwollenHouse" (144 : Nat) ({ cls := "java/util/ArrayList", name := "get", desc := "(I)Ljava/lang/Object;" } : Jvm.MethodName)) ∈ lw_all := lw_g (lw_at lw_m5 64 rfl) rfl
theorem q1151 : (Jvm.Cond.classLink "SwollenHouse" (148 : Nat) "SwollenHouse$Door") ∈ lw_all := lw_g (lw_at lw_m5 65 rfl) rfl
theorem q1152 : (Jvm.Cond.methodLink "SwollenHouse" (244 : Nat) ({ cls := "SwollenHouse$Wood", name := "kind", desc := "()I" } : Jvm.MethodName)) ∈ lw_all := lw_g (lw_at lw_m5 66 rfl) rfl
theorem q1167 : (Jvm.Cond.methodLink "SwollenHouse" (219 : Nat) ({ cls := "SwollenHouse$State", name := "sticks", desc := "(I)Z" } : Jvm.MethodName)) ∈ lw_all := lw_g (lw_at lw_m5 81 rfl) rfl
theorem q1172 : (Jvm.Cond.static ({ cls := "SwollenHouse", name := "isIn", desc := "(II)Z" } : Jvm.MethodName)) ∈ lw_all := lw_g (lw_at lw_m5 86 rfl) rfl
theorem q1173 : (Jvm.Cond.code ({ cls := "SwollenHouse", name := "isIn", desc := "(II)Z" } : Jvm.MethodName) prog_1_method_3_code (2 : Nat) (Option.some Jvm.ClassFile.FieldType.boolean)) ∈ lw_all := lw_g (lw_at lw_m5 87 rfl) rfl
theorem q1175 : (Jvm.Cond.instanceMethod ({ cls := "SwollenHouse", name := "person", desc := "(I)I" } : Jvm.MethodName)) ∈ lw_all := lw_g (lw_at lw_m5 89 rfl) rfl
theorem q1176 : (Jvm.Cond.selects "SwollenHouse" ({ cls := "SwollenHouse", name := "person", desc := "(I)I" } : Jvm.MethodName) ({ cls := "SwollenHouse", name := "person", desc := "(I)I" } : Jvm.MethodName)) ∈ lw_all := lw_g (lw_at lw_m5 90 rfl) rfl
theorem q1177 : (Jvm.Cond.code ({ cls := "SwollenHouse", name := "person", desc := "(I)I" } : Jvm.MethodName) prog_1_method_28_code (2 : Nat) (Option.some Jvm.ClassFile.FieldType.int)) ∈ lw_all := lw_g (lw_at lw_m5 91 rfl) rfl
theorem q1178 : (Jvm.Cond.methodLink "SwollenHouse" (250 : Nat) ({ cls := "SwollenHouse", name := "isPerson", desc := "(I)Z" } : Jvm.MethodName)) ∈ lw_all := lw_g (lw_at lw_m5 92 rfl) rfl
theorem q1179 : (Jvm.Cond.privateMethod ({ cls := "SwollenHouse", name := "isPerson", desc := "(I)Z" } : Jvm.MethodName)) ∈ lw_tbl := lw_at lw_m5 93 rfl
theorem q1180 : (Jvm.Cond.instanceMethod ({ cls := "SwollenHouse", name := "isPerson", desc := "(I)Z" } : Jvm.MethodName)) ∈ lw_all := lw_g (lw_at lw_m5 94 rfl) rfl
theorem q1181 : (Jvm.Cond.code ({ cls := "SwollenHouse", name := "isPerson", desc := "(I)Z" } : Jvm.MethodName) prog_1_method_18_code (2 : Nat) (Option.some Jvm.ClassFile.FieldType.boolean)) ∈ lw_all := lw_g (lw_at lw_m5 95 rfl) rfl
theorem q1182 : (Jvm.Cond.methodLink "SwollenHouse" (161 : Nat) ({ cls := "SwollenHouse", name := "people", desc := "()I" } : Jvm.MethodName)) ∈ lw_all := lw_g (lw_at lw_m5 96 rfl) rfl
theorem q1183 : (Jvm.Cond.privateMethod ({ cls := "SwollenHouse", name := "people", desc := "()I" } : Jvm.MethodName)) ∈ lw_tbl := lw_at lw_m5 97 rfl
theorem q1184 : (Jvm.Cond.instanceMethod ({ cls := "SwollenHouse", name := "people", desc := "()I" } : Jvm.MethodName)) ∈ lw_all := lw_g (lw_at lw_m5 98 rfl) rfl
theorem q1185 : (Jvm.Cond.code ({ cls := "SwollenHouse", name := "people", desc := "()I" } : Jvm.MethodName) prog_1_method_15_code (1 : Nat) (Option.some Jvm.ClassFile.FieldType.int)) ∈ lw_all := lw_g (lw_at lw_m5 99 rfl) rfl
theorem q1187 : (Jvm.Cond.instanceMethod ({ cls := "SwollenHouse", name := "day", desc := "()I" } : Jvm.MethodName)) ∈ lw_all := lw_g (lw_at lw_m5 101 rfl) rfl
theorem q1188 : (Jvm.Cond.selects "SwollenHouse" ({ cls := "SwollenHouse", name := "day", desc := "()I" } : Jvm.MethodName) ({ cls := "SwollenHouse", name := "day", desc := "()I" } : Jvm.MethodName)) ∈ lw_all := lw_g (lw_at lw_m5 102 rfl) rfl
theorem q1189 : (Jvm.Cond.code ({ cls := "SwollenHouse", name := "day", desc := "()I" } : Jvm.MethodName) prog_1_method_30_code (1 : Nat) (Option.some Jvm.ClassFile.FieldType.int)) ∈ lw_all := lw_g (lw_at lw_m5 103 rfl) rfl
theorem q1190 : (Jvm.Cond.methodLink "SwollenHouse" (256 : Nat) ({ cls := "SwollenHouse", name := "keeps", desc := "()V" } : Jvm.MethodName)) ∈ lw_all := lw_g (lw_at lw_m5 104 rfl) rfl
theorem q1191 : (Jvm.Cond.privateMethod ({ cls := "SwollenHouse", name := "keeps", desc := "()V" } : Jvm.MethodName)) ∈ lw_tbl := lw_at lw_m5 105 rfl
theorem q1192 : (Jvm.Cond.instanceMethod ({ cls := "SwollenHouse", name := "keeps", desc := "()V" } : Jvm.MethodName)) ∈ lw_all := lw_g (lw_at lw_m5 106 rfl) rfl
theorem q1193 : (Jvm.Cond.code ({ cls := "SwollenHouse", name := "keeps", desc := "()V" } : Jvm.MethodName) prog_1_method_29_code (3 : Nat) (Option.none : Option Jvm.ClassFile.FieldType)) ∈ lw_all := lw_g (lw_at lw_m5 107 rfl) rfl
theorem q1194 : (Jvm.Cond.methodLink "SwollenHouse" (253 : Nat) ({ cls := "SwollenHouse$State", name := "be", desc := "(LSwollenHouse$State;)V" } : Jvm.MethodName)) ∈ lw_all := lw_g (lw_at lw_m5 108 rfl) rfl
theorem q1198 : (Jvm.Cond.methodLink "SwollenHouse" (216 : Nat) ({ cls := "SwollenHouse", name := "passes", desc := "(LSwollenHouse$State;)V" } : Jvm.MethodName)) ∈ lw_all := lw_g (lw_at lw_m5 112 rfl) rfl
theorem q1199 : (Jvm.Cond.privateMethod ({ cls := "SwollenHouse", name := "passes", desc := "(LSwollenHouse$State;)V" } : Jvm.MethodName)) ∈ lw_tbl := lw_at lw_m5 113 rfl
theorem q1200 : (Jvm.Cond.instanceMethod ({ cls := "SwollenHouse", name := "passes", desc := "(LSwollenHouse$State;)V" } : Jvm.MethodName)) ∈ lw_all := lw_g (lw_at lw_m5 114 rfl) rfl
theorem q1201 : (Jvm.Cond.code ({ cls := "SwollenHouse", name := "passes", desc := "(LSwollenHouse$State;)V" } : Jvm.MethodName) prog_1_method_21_code (2 : Nat) (Option.none : Option Jvm.ClassFile.FieldType)) ∈ lw_all := lw_g (lw_at lw_m5 115 rfl) rfl
theorem q1202 : (Jvm.Cond.methodLink "SwollenHouse" (208 : Nat) ({ cls := "SwollenHouse$House", name := "damp", desc := "(I)I" } : Jvm.MethodName)) ∈ lw_all := lw_g (lw_at lw_m5 116 rfl) rfl
theorem q1206 : (Jvm.Cond.methodLink "SwollenHouse" (212 : Nat) ({ cls := "SwollenHouse", name := "passes", desc := "(LSwollenHouse$State;I)V" } : Jvm.MethodName)) ∈ lw_all := lw_g (lw_at lw_m5 120 rfl) rfl
theorem q1207 : (Jvm.Cond.privateMethod ({ cls := "SwollenHouse", name := "passes", desc := "(LSwollenHouse$State;I)V" } : Jvm.MethodName)) ∈ lw_tbl := lw_at lw_m5 121 rfl
theorem q1208 : (Jvm.Cond.instanceMethod ({ cls := "SwollenHouse", name := "passes", desc := "(LSwollenHouse$State;I)V" } : Jvm.MethodName)) ∈ lw_all := lw_g (lw_at lw_m5 122 rfl) rfl
theorem q1209 : (Jvm.Cond.code ({ cls := "SwollenHouse", name := "passes", desc := "(LSwollenHouse$State;I)V" } : Jvm.MethodName) prog_1_method_19_code (5 : Nat) (Option.none : Option Jvm.ClassFile.FieldType)) ∈ lw_all := lw_g (lw_at lw_m5 123 rfl) rfl
theorem q1210 : (Jvm.Cond.methodLink "SwollenHouse" (171 : Nat) ({ cls := "SwollenHouse$Wood", name := "upper", desc := "()I" } : Jvm.MethodName)) ∈ lw_all := lw_g (lw_at lw_m5 124 rfl) rfl
theorem q1225 : (Jvm.Cond.methodLink "SwollenHouse" (179 : Nat) ({ cls := "SwollenHouse", name := "swells", desc := "(LSwollenHouse$State;II)I" } : Jvm.MethodName)) ∈ lw_all := lw_g (lw_at lw_m5 139 rfl) rfl
theorem q1226 : (Jvm.Cond.privateMethod ({ cls := "SwollenHouse", name := "swells", desc := "(LSwollenHouse$State;II)I" } : Jvm.MethodName)) ∈ lw_tbl := lw_at lw_m5 140 rfl
theorem q1227 : (Jvm.Cond.instanceMethod ({ cls := "SwollenHouse", name := "swells", desc := "(LSwollenHouse$State;II)I" } : Jvm.MethodName)) ∈ lw_all := lw_g (lw_at lw_m5 141 rfl) rfl
theorem q1228 : (Jvm.Cond.code ({ cls := "SwollenHouse", name := "swells", desc := "(LSwollenHouse$State;II)I" } : Jvm.MethodName) prog_1_method_20_code (4 : Nat) (Option.some Jvm.ClassFile.FieldType.int)) ∈ lw_all := lw_g (lw_at lw_m5 142 rfl) rfl
theorem q1229 : (Jvm.Cond.methodLink "SwollenHouse" (198 : Nat) ({ cls := "SwollenHouse$Expression", name := "worked", desc := "([I)I" } : Jvm.MethodName)) ∈ lw_all := lw_g (lw_at lw_m5 143 rfl) rfl
theorem q1246 : (Jvm.Cond.methodLink "SwollenHouse" (204 : Nat) ({ cls := "SwollenHouse", name := "between", desc := "(III)I" } : Jvm.MethodName)) ∈ lw_all := lw_g (lw_at lw_m5 160 rfl) rfl
theorem q1247 : (Jvm.Cond.static ({ cls := "SwollenHouse", name := "between", desc := "(III)I" } : Jvm.MethodName)) ∈ lw_all := lw_g (lw_at lw_m5 161 rfl) rfl
theorem q1248 : (Jvm.Cond.code ({ cls := "SwollenHouse", name := "between", desc := "(III)I" } : Jvm.MethodName) prog_1_method_2_code (3 : Nat) (Option.some Jvm.ClassFile.FieldType.int)) ∈ lw_all := lw_g (lw_at lw_m5 162 rfl) rfl
theorem q1249 : (Jvm.Cond.methodLink "SwollenHouse" (1 : Nat) ({ cls := "java/lang/Math", name := "min", desc := "(II)I" } : Jvm.MethodName)) ∈ lw_all := lw_g (lw_at lw_m5 163 rfl) rfl
theorem q1250 : (Jvm.Cond.methodLink "SwollenHouse" (7 : Nat) ({ cls := "java/lang/Math", name := "max", desc := "(II)I" } : Jvm.MethodName)) ∈ lw_all := lw_g (lw_at lw_m5 164 rfl) rfl
theorem q1251 : (Jvm.Cond.methodLink "SwollenHouse" (183 : Nat) ({ cls := "SwollenHouse$Wood", name := "lower", desc := "()I" } : Jvm.MethodName)) ∈ lw_all := lw_g (lw_at lw_m5 165 rfl) rfl
theorem q1266 : (Jvm.Cond.methodLink "SwollenHouse" (186 : Nat) ({ cls := "SwollenHouse$Wood", name := "shrinks", desc := "()I" } : Jvm.MethodName)) ∈ lw_all := lw_g (lw_at lw_m5 180 rfl) rfl
theorem q1281 : (Jvm.Cond.methodLink "SwollenHouse" (222 : Nat) ({ cls := "SwollenHouse", name := "sticking", desc := "(LSwollenHouse$State;)I" } : Jvm.MethodName)) ∈ lw_all := lw_g (lw_at lw_m5 195 rfl) rfl
theorem q1282 : (Jvm.Cond.privateMethod ({ cls := "SwollenHouse", name := "sticking", desc := "(LSwollenHouse$State;)I" } : Jvm.MethodName)) ∈ lw_tbl := lw_at lw_m5 196 rfl
theorem q1283 : (Jvm.Cond.instanceMethod ({ cls := "SwollenHouse", name := "sticking", desc := "(LSwollenHouse$State;)I" } : Jvm.MethodName)) ∈ lw_all := lw_g (lw_at lw_m5 197 rfl) rfl
theorem q1284 : (Jvm.Cond.code ({ cls := "SwollenHouse", name := "sticking", desc := "(LSwollenHouse$State;)I" } : Jvm.MethodName) prog_1_method_23_code (4 : Nat) (Option.some Jvm.ClassFile.FieldType.int)) ∈ lw_all := lw_g (lw_at lw_m5 198 rfl) rfl
theorem q1286 : (Jvm.Cond.instanceMethod ({ cls := "SwollenHouse", name := "walk", desc := "(II)I" } : Jvm.MethodName)) ∈ lw_all := lw_g (lw_at lw_m5 200 rfl) rfl
theorem q1287 : (Jvm.Cond.selects "SwollenHouse" ({ cls := "SwollenHouse", name := "walk", desc := "(II)I" } : Jvm.MethodName) ({ cls := "SwollenHouse", name := "walk", desc := "(II)I" } : Jvm.MethodName)) ∈ lw_all := lw_g (lw_at lw_m5 201 rfl) rfl
theorem q1288 : (Jvm.Cond.code ({ cls := "SwollenHouse", name := "walk", desc := "(II)I" } : Jvm.MethodName) prog_1_method_31_code (3 : Nat) (Option.some Jvm.ClassFile.FieldType.int)) ∈ lw_all := lw_g (lw_at lw_m5 202 rfl) rfl
theorem q1289 : (Jvm.Cond.methodLink "SwollenHouse" (232 : Nat) ({ cls := "SwollenHouse$Door", name := "isOf", desc := "(I)Z" } : Jvm.MethodName)) ∈ lw_all := lw_g (lw_at lw_m5 203 rfl) rfl
theorem q1290 : (Jvm.Cond.methodLink "SwollenHouse" (259 : Nat) ({ cls := "SwollenHouse", name := "isWalked", desc := "(LSwollenHouse$State;II)Z" } : Jvm.MethodName)) ∈ lw_all := lw_g (lw_at lw_m5 204 rfl) rfl
theorem q1291 : (Jvm.Cond.privateMethod ({ cls := "SwollenHouse", name := "isWalked", desc := "(LSwollenHouse$State;II)Z" } : Jvm.MethodName)) ∈ lw_tbl := lw_at lw_m5 205 rfl
theorem q1292 : (Jvm.Cond.instanceMethod ({ cls := "SwollenHouse", name := "isWalked", desc := "(LSwollenHouse$State;II)Z" } : Jvm.MethodName)) ∈ lw_all := lw_g (lw_at lw_m5 206 rfl) rfl
theorem q1293 : (Jvm.Cond.code ({ cls := "SwollenHouse", name := "isWalked", desc := "(LSwollenHouse$State;II)Z" } : Jvm.MethodName) prog_1_method_25_code (4 : Nat) (Option.some Jvm.ClassFile.FieldType.boolean)) ∈ lw_all := lw_g (lw_at lw_m5 207 rfl) rfl
theorem q1294 : (Jvm.Cond.methodLink "SwollenHouse" (235 : Nat) ({ cls := "SwollenHouse$Door", name := "beyond", desc := "(I)I" } : Jvm.MethodName)) ∈ lw_all := lw_g (lw_at lw_m5 208 rfl) rfl
theorem q1299 : (Jvm.Cond.instanceMethod ({ cls := "SwollenHouse", name := "plane", desc := "(I)I" } : Jvm.MethodName)) ∈ lw_all := lw_g (lw_at lw_m5 213 rfl) rfl
theorem q1300 : (Jvm.Cond.selects "SwollenHouse" ({ cls := "SwollenHouse", name := "plane", desc := "(I)I" } : Jvm.MethodName) ({ cls := "SwollenHouse", name := "plane", desc := "(I)I" } : Jvm.MethodName)) ∈ lw_all := lw_g (lw_at lw_m5 214 rfl) rfl
theorem q1301 : (Jvm.Cond.code ({ cls := "SwollenHouse", name := "plane", desc := "(I)I" } : Jvm.MethodName) prog_1_method_32_code (2 : Nat) (Option.some Jvm.ClassFile.FieldType.int)) ∈ lw_all := lw_g (lw_at lw_m5 215 rfl) rfl
theorem q1302 : (Jvm.Cond.methodLink "SwollenHouse" (263 : Nat) ({ cls := "SwollenHouse$State", name := "canPlane", desc := "(I)Z" } : Jvm.MethodName)) ∈ lw_all := lw_g (lw_at lw_m5 216 rfl) rfl
theorem q1307 : (Jvm.Cond.instanceMethod ({ cls := "SwollenHouse", name := "wedge", desc := "(I)I" } : Jvm.MethodName)) ∈ lw_all := lw_g (lw_at lw_m5 221 rfl) rfl
theorem q1308 : (Jvm.Cond.selects "SwollenHouse" ({ cls := "SwollenHouse", name := "wedge", desc := "(I)I" } : Jvm.MethodName) ({ cls := "SwollenHouse", name := "wedge", desc := "(I)I" } : Jvm.MethodName)) ∈ lw_all := lw_g (lw_at lw_m5 222 rfl) rfl
theorem q1309 : (Jvm.Cond.code ({ cls := "SwollenHouse", name := "wedge", desc := "(I)I" } : Jvm.MethodName) prog_1_method_33_code (2 : Nat) (Option.some Jvm.ClassFile.FieldType.int)) ∈ lw_all := lw_g (lw_at lw_m5 223 rfl) rfl
theorem q1310 : (Jvm.Cond.methodLink "SwollenHouse" (266 : Nat) ({ cls := "SwollenHouse$State", name := "canWedge", desc := "(I)Z" } : Jvm.MethodName)) ∈ lw_all := lw_g (lw_at lw_m5 224 rfl) rfl
theorem q1316 : (Jvm.Cond.instanceMethod ({ cls := "SwollenHouse", name := "force", desc := "(I)I" } : Jvm.MethodName)) ∈ lw_all := lw_g (lw_at lw_m5 230 rfl) rfl
theorem q1317 : (Jvm.Cond.selects "SwollenHouse" ({ cls := "SwollenHouse", name := "force", desc := "(I)I" } : Jvm.MethodName) ({ cls := "SwollenHouse", name := "force", desc := "(I)I" } : Jvm.MethodName)) ∈ lw_all := lw_g (lw_at lw_m5 231 rfl) rfl
theorem q1318 : (Jvm.Cond.code ({ cls := "SwollenHouse", name := "force", desc := "(I)I" } : Jvm.MethodName) prog_1_method_34_code (2 : Nat) (Option.some Jvm.ClassFile.FieldType.int)) ∈ lw_all := lw_g (lw_at lw_m5 232 rfl) rfl
theorem q1319 : (Jvm.Cond.methodLink "SwollenHouse" (269 : Nat) ({ cls := "SwollenHouse$State", name := "canForce", desc := "(I)Z" } : Jvm.MethodName)) ∈ lw_all := lw_g (lw_at lw_m5 233 rfl) rfl
theorem q1324 : (Jvm.Cond.instanceMethod ({ cls := "SwollenHouse", name := "undo", desc := "()Z" } : Jvm.MethodName)) ∈ lw_all := lw_g (lw_at lw_m5 238 rfl) rfl
theorem q1325 : (Jvm.Cond.selects "SwollenHouse" ({ cls := "SwollenHouse", name := "undo", desc := "()Z" } : Jvm.MethodName) ({ cls := "SwollenHouse", name := "undo", desc := "()Z" } : Jvm.MethodName)) ∈ lw_all := lw_g (lw_at lw_m5 239 rfl) rfl
theorem q1326 : (Jvm.Cond.code ({ cls := "SwollenHouse", name := "undo", desc := "()Z" } : Jvm.MethodName) prog_1_method_35_code (1 : Nat) (Option.some Jvm.ClassFile.FieldType.boolean)) ∈ lw_all := lw_g (lw_at lw_m6 0 rfl) rfl
theorem q1328 : (Jvm.Cond.instanceMethod ({ cls := "SwollenHouse", name := "judged", desc := "(I)I" } : Jvm.MethodName)) ∈ lw_all := lw_g (lw_at lw_m6 2 rfl) rfl
theorem q1329 : (Jvm.Cond.selects "SwollenHouse" ({ cls := "SwollenHouse", name := "judged", desc := "(I)I" } : Jvm.MethodName) ({ cls := "SwollenHouse", name := "judged", desc := "(I)I" } : Jvm.MethodName)) ∈ lw_all := lw_g (lw_at lw_m6 3 rfl) rfl
theorem q1330 : (Jvm.Cond.code ({ cls := "SwollenHouse", name := "judged", desc := "(I)I" } : Jvm.MethodName) prog_1_method_36_code (5 : Nat) (Option.some Jvm.ClassFile.FieldType.int)) ∈ lw_all := lw_g (lw_at lw_m6 4 rfl) rfl
theorem q1331 : (Jvm.Cond.classLink "SwollenHouse" (272 : Nat) "SwollenHouse$Line") ∈ lw_all := lw_g (lw_at lw_m6 5 rfl) rfl
theorem q1332 : (Jvm.Cond.methodLink "SwollenHouse" (274 : Nat) ({ cls := "SwollenHouse$Line", name := "isDone", desc := "(LSwollenHouse;LSwollenHouse$State;)Z" } : Jvm.MethodName)) ∈ lw_all := lw_g (lw_at lw_m6 6 rfl) rfl
theorem q1359 : (Jvm.Cond.methodLink "SwollenHouse" (278 : Nat) ({ cls := "SwollenHouse", name := "shut", desc := "(LSwollenHouse$State;)I" } : Jvm.MethodName)) ∈ lw_all := lw_g (lw_at lw_m6 33 rfl) rfl
theorem q1360 : (Jvm.Cond.privateMethod ({ cls := "SwollenHouse", name := "shut", desc := "(LSwollenHouse$State;)I" } : Jvm.MethodName)) ∈ lw_tbl := lw_at lw_m6 34 rfl
theorem q1361 : (Jvm.Cond.instanceMethod ({ cls := "SwollenHouse", name := "shut", desc := "(LSwollenHouse$State;)I" } : Jvm.MethodName)) ∈ lw_all := lw_g (lw_at lw_m6 35 rfl) rfl
theorem q1362 : (Jvm.Cond.code ({ cls := "SwollenHouse", name := "shut", desc := "(LSwollenHouse$State;)I" } : Jvm.MethodName) prog_1_method_26_code (6 : Nat) (Option.some Jvm.ClassFile.FieldType.int)) ∈ lw_all := lw_g (lw_at lw_m6 36 rfl) rfl
theorem q1363 : (Jvm.Cond.methodLink "SwollenHouse" (281 : Nat) ({ cls := "java/lang/Integer", name := "bitCount", desc := "(I)I" } : Jvm.MethodName)) ∈ lw_all := lw_g (lw_at lw_m6 37 rfl) rfl
theorem q1370 : (Jvm.Cond.instanceMethod ({ cls := "SwollenHouse", name := "shut", desc := "()I" } : Jvm.MethodName)) ∈ lw_all := lw_g (lw_at lw_m6 44 rfl) rfl
theorem q1371 : (Jvm.Cond.selects "SwollenHouse" ({ cls := "SwollenHouse", name := "shut", desc := "()I" } : Jvm.MethodName) ({ cls := "SwollenHouse", name := "shut", desc := "()I" } : Jvm.MethodName)) ∈ lw_all := lw_g (lw_at lw_m6 45 rfl) rfl
theorem q1372 : (Jvm.Cond.code ({ cls := "SwollenHouse", name := "shut", desc := "()I" } : Jvm.MethodName) prog_1_method_37_code (1 : Nat) (Option.some Jvm.ClassFile.FieldType.int)) ∈ lw_all := lw_g (lw_at lw_m6 46 rfl) rfl
theorem q1374 : (Jvm.Cond.instanceMethod ({ cls := "SwollenHouse", name := "range", desc := "(I)I" } : Jvm.MethodName)) ∈ lw_all := lw_g (lw_at lw_m6 48 rfl) rfl
theorem q1375 : (Jvm.Cond.selects "SwollenHouse" ({ cls := "SwollenHouse", name := "range", desc := "(I)I" } : Jvm.MethodName) ({ cls := "SwollenHouse", name := "range", desc := "(I)I" } : Jvm.MethodName)) ∈ lw_all := lw_g (lw_at lw_m6 49 rfl) rfl
theorem q1376 : (Jvm.Cond.code ({ cls := "SwollenHouse", name := "range", desc := "(I)I" } : Jvm.MethodName) prog_1_method_40_code (2 : Nat) (Option.some Jvm.ClassFile.FieldType.int)) ∈ lw_all := lw_g (lw_at lw_m6 50 rfl) rfl
theorem q1377 : (Jvm.Cond.methodLink "SwollenHouse" (293 : Nat) ({ cls := "SwollenHouse", name := "isRoom", desc := "(I)Z" } : Jvm.MethodName)) ∈ lw_all := lw_g (lw_at lw_m6 51 rfl) rfl
theorem q1378 : (Jvm.Cond.privateMethod ({ cls := "SwollenHouse", name := "isRoom", desc := "(I)Z" } : Jvm.MethodName)) ∈ lw_tbl := lw_at lw_m6 52 rfl
theorem q1379 : (Jvm.Cond.instanceMethod ({ cls := "SwollenHouse", name := "isRoom", desc := "(I)Z" } : Jvm.MethodName)) ∈ lw_all := lw_g (lw_at lw_m6 53 rfl) rfl
theorem q1380 : (Jvm.Cond.code ({ cls := "SwollenHouse", name := "isRoom", desc := "(I)Z" } : Jvm.MethodName) prog_1_method_16_code (2 : Nat) (Option.some Jvm.ClassFile.FieldType.boolean)) ∈ lw_all := lw_g (lw_at lw_m6 54 rfl) rfl
theorem q1381 : (Jvm.Cond.methodLink "SwollenHouse" (153 : Nat) ({ cls := "SwollenHouse", name := "rooms", desc := "()I" } : Jvm.MethodName)) ∈ lw_all := lw_g (lw_at lw_m6 55 rfl) rfl
theorem q1382 : (Jvm.Cond.privateMethod ({ cls := "SwollenHouse", name := "rooms", desc := "()I" } : Jvm.MethodName)) ∈ lw_tbl := lw_at lw_m6 56 rfl
theorem q1383 : (Jvm.Cond.instanceMethod ({ cls := "SwollenHouse", name := "rooms", desc := "()I" } : Jvm.MethodName)) ∈ lw_all := lw_g (lw_at lw_m6 57 rfl) rfl
theorem q1384 : (Jvm.Cond.code ({ cls := "SwollenHouse", name := "rooms", desc := "()I" } : Jvm.MethodName) prog_1_method_12_code (1 : Nat) (Option.some Jvm.ClassFile.FieldType.int)) ∈ lw_all := lw_g (lw_at lw_m6 58 rfl) rfl
theorem q1385 : (Jvm.Cond.methodLink "SwollenHouse" (296 : Nat) ({ cls := "SwollenHouse", name := "open", desc := "(LSwollenHouse$State;)I" } : Jvm.MethodName)) ∈ lw_all := lw_g (lw_at lw_m6 59 rfl) rfl
theorem q1386 : (Jvm.Cond.privateMethod ({ cls := "SwollenHouse", name := "open", desc := "(LSwollenHouse$State;)I" } : Jvm.MethodName)) ∈ lw_tbl := lw_at lw_m6 60 rfl
theorem q1387 : (Jvm.Cond.instanceMethod ({ cls := "SwollenHouse", name := "open", desc := "(LSwollenHouse$State;)I" } : Jvm.MethodName)) ∈ lw_all := lw_g (lw_at lw_m6 61 rfl) rfl
theorem q1388 : (Jvm.Cond.code ({ cls := "SwollenHouse", name := "open", desc := "(LSwollenHouse$State;)I" } : Jvm.MethodName) prog_1_method_24_code (2 : Nat) (Option.some Jvm.ClassFile.FieldType.int)) ∈ lw_all := lw_g (lw_at lw_m6 62 rfl) rfl
theorem q1389 : (Jvm.Cond.methodLink "SwollenHouse" (299 : Nat) ({ cls := "SwollenHouse", name := "range", desc := "(II)I" } : Jvm.MethodName)) ∈ lw_all := lw_g (lw_at lw_m6 63 rfl) rfl
theorem q1390 : (Jvm.Cond.privateMethod ({ cls := "SwollenHouse", name := "range", desc := "(II)I" } : Jvm.MethodName)) ∈ lw_tbl := lw_at lw_m6 64 rfl
theorem q1391 : (Jvm.Cond.instanceMethod ({ cls := "SwollenHouse", name := "range", desc := "(II)I" } : Jvm.MethodName)) ∈ lw_all := lw_g (lw_at lw_m6 65 rfl) rfl
theorem q1392 : (Jvm.Cond.code ({ cls := "SwollenHouse", name := "range", desc := "(II)I" } : Jvm.MethodName) prog_1_method_39_code (5 : Nat) (Option.some Jvm.ClassFile.FieldType.int)) ∈ lw_all := lw_g (lw_at lw_m6 66 rfl) rfl
theorem q1393 : (Jvm.Cond.methodLink "SwollenHouse" (290 : Nat) ({ cls := "SwollenHouse", name := "next", desc := "(II)I" } : Jvm.MethodName)) ∈ lw_all := lw_g (lw_at lw_m6 67 rfl) rfl
theorem q1394 : (Jvm.Cond.privateMethod ({ cls := "SwollenHouse", name := "next", desc := "(II)I" } : Jvm.MethodName)) ∈ lw_tbl := lw_at lw_m6 68 rfl
theorem q1395 : (Jvm.Cond.instanceMethod ({ cls := "SwollenHouse", name := "next", desc := "(II)I" } : Jvm.MethodName)) ∈ lw_all := lw_g (lw_at lw_m6 69 rfl) rfl
theorem q1396 : (Jvm.Cond.code ({ cls := "SwollenHouse", name := "next", desc := "(II)I" } : Jvm.MethodName) prog_1_method_38_code (5 : Nat) (Option.some Jvm.ClassFile.FieldType.int)) ∈ lw_all := lw_g (lw_at lw_m6 70 rfl) rfl
theorem q1397 : (Jvm.Cond.methodLink "SwollenHouse" (286 : Nat) ({ cls := "SwollenHouse", name := "isIn", desc := "(II)Z" } : Jvm.MethodName)) ∈ lw_all := lw_g (lw_at lw_m6 71 rfl) rfl
theorem q1399 : (Jvm.Cond.instanceMethod ({ cls := "SwollenHouse", name := "company", desc := "(I)I" } : Jvm.MethodName)) ∈ lw_all := lw_g (lw_at lw_m6 73 rfl) rfl
theorem q1400 : (Jvm.Cond.selects "SwollenHouse" ({ cls := "SwollenHouse", name := "company", desc := "(I)I" } : Jvm.MethodName) ({ cls := "SwollenHouse", name := "company", desc := "(I)I" } : Jvm.MethodName)) ∈ lw_all := lw_g (lw_at lw_m6 74 rfl) rfl
theorem q1401 : (Jvm.Cond.code ({ cls := "SwollenHouse", name := "company", desc := "(I)I" } : Jvm.MethodName) prog_1_method_42_code (2 : Nat) (Option.some Jvm.ClassFile.FieldType.int)) ∈ lw_all := lw_g (lw_at lw_m6 75 rfl) rfl
theorem q1402 : (Jvm.Cond.methodLink "SwollenHouse" (302 : Nat) ({ cls := "SwollenHouse", name := "companyOf", desc := "(I)I" } : Jvm.MethodName)) ∈ lw_all := lw_g (lw_at lw_m6 76 rfl) rfl
theorem q1403 : (Jvm.Cond.privateMethod ({ cls := "SwollenHouse", name := "companyOf", desc := "(I)I" } : Jvm.MethodName)) ∈ lw_tbl := lw_at lw_m6 77 rfl
theorem q1404 : (Jvm.Cond.instanceMethod ({ cls := "SwollenHouse", name := "companyOf", desc := "(I)I" } : Jvm.MethodName)) ∈ lw_all := lw_g (lw_at lw_m6 78 rfl) rfl
theorem q1405 : (Jvm.Cond.code ({ cls := "SwollenHouse", name := "companyOf", desc := "(I)I" } : Jvm.MethodName) prog_1_method_41_code (5 : Nat) (Option.some Jvm.ClassFile.FieldType.int)) ∈ lw_all := lw_g (lw_at lw_m6 79 rfl) rfl
theorem q1407 : (Jvm.Cond.instanceMethod ({ cls := "SwollenHouse", name := "parts", desc := "()I" } : Jvm.MethodName)) ∈ lw_all := lw_g (lw_at lw_m6 81 rfl) rfl
theorem q1408 : (Jvm.Cond.selects "SwollenHouse" ({ cls := "SwollenHouse", name := "parts", desc := "()I" } : Jvm.MethodName) ({ cls := "SwollenHouse", name := "parts", desc := "()I" } : Jvm.MethodName)) ∈ lw_all := lw_g (lw_at lw_m6 82 rfl) rfl
theorem q1409 : (Jvm.Cond.code ({ cls := "SwollenHouse", name := "parts", desc := "()I" } : Jvm.MethodName) prog_1_method_43_code (4 : Nat) (Option.some Jvm.ClassFile.FieldType.int)) ∈ lw_all := lw_g (lw_at lw_m6 83 rfl) rfl
theorem q1411 : (Jvm.Cond.instanceMethod ({ cls := "SwollenHouse", name := "alone", desc := "()I" } : Jvm.MethodName)) ∈ lw_all := lw_g (lw_at lw_m6 85 rfl) rfl
theorem q1412 : (Jvm.Cond.selects "SwollenHouse" ({ cls := "SwollenHouse", name := "alone", desc := "()I" } : Jvm.MethodName) ({ cls := "SwollenHouse", name := "alone", desc := "()I" } : Jvm.MethodName)) ∈ lw_all := lw_g (lw_at lw_m6 86 rfl) rfl
theorem q1413 : (Jvm.Cond.code ({ cls := "SwollenHouse", name := "alone", desc := "()I" } : Jvm.MethodName) prog_1_method_44_code (3 : Nat) (Option.some Jvm.ClassFile.FieldType.int)) ∈ lw_all := lw_g (lw_at lw_m6 87 rfl) rfl
theorem q1415 : (Jvm.Cond.instanceMethod ({ cls := "SwollenHouse", name := "bride", desc := "()I" } : Jvm.MethodName)) ∈ lw_all := lw_g (lw_at lw_m6 89 rfl) rfl
theorem q1416 : (Jvm.Cond.selects "SwollenHouse" ({ cls := "SwollenHouse", name := "bride", desc := "()I" } : Jvm.MethodName) ({ cls := "SwollenHouse", name := "bride", desc := "()I" } : Jvm.MethodName)) ∈ lw_all := lw_g (lw_at lw_m6 90 rfl) rfl
theorem q1417 : (Jvm.Cond.code ({ cls := "SwollenHouse", name := "bride", desc := "()I" } : Jvm.MethodName) prog_1_method_45_code (5 : Nat) (Option.some Jvm.ClassFile.FieldType.int)) ∈ lw_all := lw_g (lw_at lw_m6 91 rfl) rfl
theorem q1419 : (Jvm.Cond.instanceMethod ({ cls := "SwollenHouse", name := "deep", desc := "(I)I" } : Jvm.MethodName)) ∈ lw_all := lw_g (lw_at lw_m6 93 rfl) rfl
theorem q1420 : (Jvm.Cond.selects "SwollenHouse" ({ cls := "SwollenHouse", name := "deep", desc := "(I)I" } : Jvm.MethodName) ({ cls := "SwollenHouse", name := "deep", desc := "(I)I" } : Jvm.MethodName)) ∈ lw_all := lw_g (lw_at lw_m6 94 rfl) rfl
theorem q1421 : (Jvm.Cond.code ({ cls := "SwollenHouse", name := "deep", desc := "(I)I" } : Jvm.MethodName) prog_1_method_46_code (4 : Nat) (Option.some Jvm.ClassFile.FieldType.int)) ∈ lw_all := lw_g (lw_at lw_m6 95 rfl) rfl
theorem q1423 : (Jvm.Cond.instanceMethod ({ cls := "SwollenHouse", name := "later", desc := "(II)I" } : Jvm.MethodName)) ∈ lw_all := lw_g (lw_at lw_m6 97 rfl) rfl
theorem q1424 : (Jvm.Cond.selects "SwollenHouse" ({ cls := "SwollenHouse", name := "later", desc := "(II)I" } : Jvm.MethodName) ({ cls := "SwollenHouse", name := "later", desc := "(II)I" } : Jvm.MethodName)) ∈ lw_all := lw_g (lw_at lw_m6 98 rfl) rfl
theorem q1425 : (Jvm.Cond.code ({ cls := "SwollenHouse", name := "later", desc := "(II)I" } : Jvm.MethodName) prog_1_method_47_code (3 : Nat) (Option.some Jvm.ClassFile.FieldType.int)) ∈ lw_all := lw_g (lw_at lw_m6 99 rfl) rfl
theorem q1426 : (Jvm.Cond.methodLink "SwollenHouse" (305 : Nat) ({ cls := "SwollenHouse", name := "goesOn", desc := "(I)V" } : Jvm.MethodName)) ∈ lw_all := lw_g (lw_at lw_m6 100 rfl) rfl
theorem q1427 : (Jvm.Cond.privateMethod ({ cls := "SwollenHouse", name := "goesOn", desc := "(I)V" } : Jvm.MethodName)) ∈ lw_tbl := lw_at lw_m6 101 rfl
theorem q1428 : (Jvm.Cond.instanceMethod ({ cls := "SwollenHouse", name := "goesOn", desc := "(I)V" } : Jvm.MethodName)) ∈ lw_all := lw_g (lw_at lw_m6 102 rfl) rfl
theorem q1429 : (Jvm.Cond.code ({ cls := "SwollenHouse", name := "goesOn", desc := "(I)V" } : Jvm.MethodName) prog_1_method_22_code (3 : Nat) (Option.none : Option Jvm.ClassFile.FieldType)) ∈ lw_all := lw_g (lw_at lw_m6 103 rfl) rfl
theorem q1431 : (Jvm.Cond.instanceMethod ({ cls := "SwollenHouse", name := "closes", desc := "(I)I" } : Jvm.MethodName)) ∈ lw_all := lw_g (lw_at lw_m6 105 rfl) rfl
theorem q1432 : (Jvm.Cond.selects "SwollenHouse" ({ cls := "SwollenHouse", name := "closes", desc := "(I)I" } : Jvm.MethodName) ({ cls := "SwollenHouse", name := "closes", desc := "(I)I" } : Jvm.MethodName)) ∈ lw_all := lw_g (lw_at lw_m6 106 rfl) rfl
theorem q1433 : (Jvm.Cond.code ({ cls := "SwollenHouse", name := "closes", desc := "(I)I" } : Jvm.MethodName) prog_1_method_49_code (2 : Nat) (Option.some Jvm.ClassFile.FieldType.int)) ∈ lw_all := lw_g (lw_at lw_m6 107 rfl) rfl
theorem q1434 : (Jvm.Cond.methodLink "SwollenHouse" (308 : Nat) ({ cls := "SwollenHouse", name := "comes", desc := "(IZ)I" } : Jvm.MethodName)) ∈ lw_all := lw_g (lw_at lw_m6 108 rfl) rfl
theorem q1435 : (Jvm.Cond.privateMethod ({ cls := "SwollenHouse", name := "comes", desc := "(IZ)I" } : Jvm.MethodName)) ∈ lw_tbl := lw_at lw_m6 109 rfl
theorem q1436 : (Jvm.Cond.instanceMethod ({ cls := "SwollenHouse", name := "comes", desc := "(IZ)I" } : Jvm.MethodName)) ∈ lw_all := lw_g (lw_at lw_m6 110 rfl) rfl
theorem q1437 : (Jvm.Cond.code ({ cls := "SwollenHouse", name := "comes", desc := "(IZ)I" } : Jvm.MethodName) prog_1_method_48_code (4 : Nat) (Option.some Jvm.ClassFile.FieldType.int)) ∈ lw_all := lw_g (lw_at lw_m6 111 rfl) rfl
theorem q1439 : (Jvm.Cond.instanceMethod ({ cls := "SwollenHouse", name := "gives", desc := "(I)I" } : Jvm.MethodName)) ∈ lw_all := lw_g (lw_at lw_m6 113 rfl) rfl
theorem q1440 : (Jvm.Cond.selects "SwollenHouse" ({ cls := "SwollenHouse", name := "gives", desc := "(I)I" } : Jvm.MethodName) ({ cls := "SwollenHouse", name := "gives", desc := "(I)I" } : Jvm.MethodName)) ∈ lw_all := lw_g (lw_at lw_m6 114 rfl) rfl
theorem q1441 : (Jvm.Cond.code ({ cls := "SwollenHouse", name := "gives", desc := "(I)I" } : Jvm.MethodName) prog_1_method_50_code (2 : Nat) (Option.some Jvm.ClassFile.FieldType.int)) ∈ lw_all := lw_g (lw_at lw_m6 115 rfl) rfl
theorem q1443 : (Jvm.Cond.instanceMethod ({ cls := "SwollenHouse", name := "calm", desc := "()I" } : Jvm.MethodName)) ∈ lw_all := lw_g (lw_at lw_m6 117 rfl) rfl
theorem q1444 : (Jvm.Cond.selects "SwollenHouse" ({ cls := "SwollenHouse", name := "calm", desc := "()I" } : Jvm.MethodName) ({ cls := "SwollenHouse", name := "calm", desc := "()I" } : Jvm.MethodName)) ∈ lw_all := lw_g (lw_at lw_m6 118 rfl) rfl
theorem q1445 : (Jvm.Cond.code ({ cls := "SwollenHouse", name := "calm", desc := "()I" } : Jvm.MethodName) prog_1_method_51_code (2 : Nat) (Option.some Jvm.ClassFile.FieldType.int)) ∈ lw_all := lw_g (lw_at lw_m6 119 rfl) rfl
theorem q1447 : (Jvm.Cond.instanceMethod ({ cls := "SwollenHouse", name := "hard", desc := "()I" } : Jvm.MethodName)) ∈ lw_all := lw_g (lw_at lw_m6 121 rfl) rfl
theorem q1448 : (Jvm.Cond.selects "SwollenHouse" ({ cls := "SwollenHouse", name := "hard", desc := "()I" } : Jvm.MethodName) ({ cls := "SwollenHouse", name := "hard", desc := "()I" } : Jvm.MethodName)) ∈ lw_all := lw_g (lw_at lw_m6 122 rfl) rfl
theorem q1449 : (Jvm.Cond.code ({ cls := "SwollenHouse", name := "hard", desc := "()I" } : Jvm.MethodName) prog_1_method_52_code (5 : Nat) (Option.some Jvm.ClassFile.FieldType.int)) ∈ lw_all := lw_g (lw_at lw_m6 123 rfl) rfl
theorem q1451 : (Jvm.Cond.instanceMethod ({ cls := "SwollenHouse", name := "arrives", desc := "(II)I" } : Jvm.MethodName)) ∈ lw_all := lw_g (lw_at lw_m6 125 rfl) rfl
theorem q1452 : (Jvm.Cond.selects "SwollenHouse" ({ cls := "SwollenHouse", name := "arrives", desc := "(II)I" } : Jvm.MethodName) ({ cls := "SwollenHouse", name := "arrives", desc := "(II)I" } : Jvm.MethodName)) ∈ lw_all := lw_g (lw_at lw_m6 126 rfl) rfl
theorem q1453 : (Jvm.Cond.code ({ cls := "SwollenHouse", name := "arrives", desc := "(II)I" } : Jvm.MethodName) prog_1_method_54_code (3 : Nat) (Option.some Jvm.ClassFile.FieldType.int)) ∈ lw_all := lw_g (lw_at lw_m6 127 rfl) rfl
theorem q1454 : (Jvm.Cond.methodLink "SwollenHouse" (312 : Nat) ({ cls := "SwollenHouse", name := "arrival", desc := "(II)I" } : Jvm.MethodName)) ∈ lw_all := lw_g (lw_at lw_m6 128 rfl) rfl
theorem q1455 : (Jvm.Cond.privateMethod ({ cls := "SwollenHouse", name := "arrival", desc := "(II)I" } : Jvm.MethodName)) ∈ lw_tbl := lw_at lw_m6 129 rfl
theorem q1456 : (Jvm.Cond.instanceMethod ({ cls := "SwollenHouse", name := "arrival", desc := "(II)I" } : Jvm.MethodName)) ∈ lw_all := lw_g (lw_at lw_m6 130 rfl) rfl
theorem q1457 : (Jvm.Cond.code ({ cls := "SwollenHouse", name := "arrival", desc := "(II)I" } : Jvm.MethodName) prog_1_method_53_code (5 : Nat) (Option.some Jvm.ClassFile.FieldType.int)) ∈ lw_all := lw_g (lw_at lw_m6 131 rfl) rfl
theorem q1459 : (Jvm.Cond.instanceMethod ({ cls := "SwollenHouse", name := "from", desc := "(II)I" } : Jvm.MethodName)) ∈ lw_all := lw_g (lw_at lw_m6 133 rfl) rfl
theorem q1460 : (Jvm.Cond.selects "SwollenHouse" ({ cls := "SwollenHouse", name := "from", desc := "(II)I" } : Jvm.MethodName) ({ cls := "SwollenHouse", name := "from", desc := "(II)I" } : Jvm.MethodName)) ∈ lw_all := lw_g (lw_at lw_m6 134 rfl) rfl
theorem q1461 : (Jvm.Cond.code ({ cls := "SwollenHouse", name := "from", desc := "(II)I" } : Jvm.MethodName) prog_1_method_55_code (5 : Nat) (Option.some Jvm.ClassFile.FieldType.int)) ∈ lw_all := lw_g (lw_at lw_m6 135 rfl) rfl
theorem q1463 : (Jvm.Cond.instanceMethod ({ cls := "SwollenHouse", name := "both", desc := "(II)I" } : Jvm.MethodName)) ∈ lw_all := lw_g (lw_at lw_m6 137 rfl) rfl
theorem q1464 : (Jvm.Cond.selects "SwollenHouse" ({ cls := "SwollenHouse", name := "both", desc := "(II)I" } : Jvm.MethodName) ({ cls := "SwollenHouse", name := "both", desc := "(II)I" } : Jvm.MethodName)) ∈ lw_all := lw_g (lw_at lw_m6 138 rfl) rfl
theorem q1465 : (Jvm.Cond.code ({ cls := "SwollenHouse", name := "both", desc := "(II)I" } : Jvm.MethodName) prog_1_method_56_code (6 : Nat) (Option.some Jvm.ClassFile.FieldType.int)) ∈ lw_all := lw_g (lw_at lw_m6 139 rfl) rfl
theorem q1467 : (Jvm.Cond.instanceMethod ({ cls := "SwollenHouse", name := "cut", desc := "(II)I" } : Jvm.MethodName)) ∈ lw_all := lw_g (lw_at lw_m6 141 rfl) rfl
theorem q1468 : (Jvm.Cond.selects "SwollenHouse" ({ cls := "SwollenHouse", name := "cut", desc := "(II)I" } : Jvm.MethodName) ({ cls := "SwollenHouse", name := "cut", desc := "(II)I" } : Jvm.MethodName)) ∈ lw_all := lw_g (lw_at lw_m6 142 rfl) rfl
theorem q1469 : (Jvm.Cond.code ({ cls := "SwollenHouse", name := "cut", desc := "(II)I" } : Jvm.MethodName) prog_1_method_57_code (6 : Nat) (Option.some Jvm.ClassFile.FieldType.int)) ∈ lw_all := lw_g (lw_at lw_m6 143 rfl) rfl
theorem q1471 : (Jvm.Cond.instanceMethod ({ cls := "SwollenHouse", name := "planed", desc := "(II)I" } : Jvm.MethodName)) ∈ lw_all := lw_g (lw_at lw_m6 145 rfl) rfl
theorem q1472 : (Jvm.Cond.selects "SwollenHouse" ({ cls := "SwollenHouse", name := "planed", desc := "(II)I" } : Jvm.MethodName) ({ cls := "SwollenHouse", name := "planed", desc := "(II)I" } : Jvm.MethodName)) ∈ lw_all := lw_g (lw_at lw_m6 146 rfl) rfl
theorem q1473 : (Jvm.Cond.code ({ cls := "SwollenHouse", name := "planed", desc := "(II)I" } : Jvm.MethodName) prog_1_method_60_code (4 : Nat) (Option.some Jvm.ClassFile.FieldType.int)) ∈ lw_all := lw_g (lw_at lw_m6 147 rfl) rfl
theorem q1474 : (Jvm.Cond.methodLink "SwollenHouse" (319 : Nat) ({ cls := "SwollenHouse", name := "isPlaned", desc := "(IIII)Z" } : Jvm.MethodName)) ∈ lw_all := lw_g (lw_at lw_m6 148 rfl) rfl
theorem q1475 : (Jvm.Cond.privateMethod ({ cls := "SwollenHouse", name := "isPlaned", desc := "(IIII)Z" } : Jvm.MethodName)) ∈ lw_tbl := lw_at lw_m6 149 rfl
theorem q1476 : (Jvm.Cond.instanceMethod ({ cls := "SwollenHouse", name := "isPlaned", desc := "(IIII)Z" } : Jvm.MethodName)) ∈ lw_all := lw_g (lw_at lw_m6 150 rfl) rfl
theorem q1477 : (Jvm.Cond.code ({ cls := "SwollenHouse", name := "isPlaned", desc := "(IIII)Z" } : Jvm.MethodName) prog_1_method_59_code (6 : Nat) (Option.some Jvm.ClassFile.FieldType.boolean)) ∈ lw_all := lw_g (lw_at lw_m6 151 rfl) rfl
theorem q1478 : (Jvm.Cond.methodLink "SwollenHouse" (315 : Nat) ({ cls := "SwollenHouse", name := "areTogether", desc := "(LSwollenHouse$State;)Z" } : Jvm.MethodName)) ∈ lw_all := lw_g (lw_at lw_m6 152 rfl) rfl
theorem q1479 : (Jvm.Cond.privateMethod ({ cls := "SwollenHouse", name := "areTogether", desc := "(LSwollenHouse$State;)Z" } : Jvm.MethodName)) ∈ lw_tbl := lw_at lw_m6 153 rfl
theorem q1480 : (Jvm.Cond.instanceMethod ({ cls := "SwollenHouse", name := "areTogether", desc := "(LSwollenHouse$State;)Z" } : Jvm.MethodName)) ∈ lw_all := lw_g (lw_at lw_m6 154 rfl) rfl
theorem q1481 : (Jvm.Cond.code ({ cls := "SwollenHouse", name := "areTogether", desc := "(LSwollenHouse$State;)Z" } : Jvm.MethodName) prog_1_method_58_code (4 : Nat) (Option.some Jvm.ClassFile.FieldType.boolean)) ∈ lw_all := lw_g (lw_at lw_m6 155 rfl) rfl
theorem q1483 : (Jvm.Cond.instanceMethod ({ cls := "SwollenHouse", name := "feel", desc := "(IIZ)Z" } : Jvm.MethodName)) ∈ lw_all := lw_g (lw_at lw_m6 157 rfl) rfl
theorem q1484 : (Jvm.Cond.selects "SwollenHouse" ({ cls := "SwollenHouse", name := "feel", desc := "(IIZ)Z" } : Jvm.MethodName) ({ cls := "SwollenHouse", name := "feel", desc := "(IIZ)Z" } : Jvm.MethodName)) ∈ lw_all := lw_g (lw_at lw_m6 158 rfl) rfl
theorem q1485 : (Jvm.Cond.code ({ cls := "SwollenHouse", name := "feel", desc := "(IIZ)Z" } : Jvm.MethodName) prog_1_method_61_code (4 : Nat) (Option.some Jvm.ClassFile.FieldType.boolean)) ∈ lw_all := lw_g (lw_at lw_m6 159 rfl) rfl
theorem q1487 : (Jvm.Cond.instanceMethod ({ cls := "SwollenHouse", name := "wets", desc := "()I" } : Jvm.MethodName)) ∈ lw_all := lw_g (lw_at lw_m6 161 rfl) rfl
theorem q1488 : (Jvm.Cond.selects "SwollenHouse" ({ cls := "SwollenHouse", name := "wets", desc := "()I" } : Jvm.MethodName) ({ cls := "SwollenHouse", name := "wets", desc := "()I" } : Jvm.MethodName)) ∈ lw_all := lw_g (lw_at lw_m6 162 rfl) rfl
theorem q1489 : (Jvm.Cond.code ({ cls := "SwollenHouse", name := "wets", desc := "()I" } : Jvm.MethodName) prog_1_method_63_code (1 : Nat) (Option.some Jvm.ClassFile.FieldType.int)) ∈ lw_all := lw_g (lw_at lw_m6 163 rfl) rfl
theorem q1490 : (Jvm.Cond.methodLink "SwollenHouse" (323 : Nat) ({ cls := "SwollenHouse", name := "laysWets", desc := "()I" } : Jvm.MethodName)) ∈ lw_all := lw_g (lw_at lw_m6 164 rfl) rfl
theorem q1491 : (Jvm.Cond.privateMethod ({ cls := "SwollenHouse", name := "laysWets", desc := "()I" } : Jvm.MethodName)) ∈ lw_tbl := lw_at lw_m6 165 rfl
theorem q1492 : (Jvm.Cond.instanceMethod ({ cls := "SwollenHouse", name := "laysWets", desc := "()I" } : Jvm.MethodName)) ∈ lw_all := lw_g (lw_at lw_m6 166 rfl) rfl
theorem q1493 : (Jvm.Cond.code ({ cls := "SwollenHouse", name := "laysWets", desc := "()I" } : Jvm.MethodName) prog_1_method_62_code (5 : Nat) (Option.some Jvm.ClassFile.FieldType.int)) ∈ lw_all := lw_g (lw_at lw_m6 167 rfl) rfl
theorem q1495 : (Jvm.Cond.instanceMethod ({ cls := "SwollenHouse", name := "tries", desc := "()I" } : Jvm.MethodName)) ∈ lw_all := lw_g (lw_at lw_m6 169 rfl) rfl
theorem q1496 : (Jvm.Cond.selects "SwollenHouse" ({ cls := "SwollenHouse", name := "tries", desc := "()I" } : Jvm.MethodName) ({ cls := "SwollenHouse", name := "tries", desc := "()I" } : Jvm.MethodName)) ∈ lw_all := lw_g (lw_at lw_m6 170 rfl) rfl
theorem q1497 : (Jvm.Cond.code ({ cls := "SwollenHouse", name := "tries", desc := "()I" } : Jvm.MethodName) prog_1_method_64_code (9 : Nat) (Option.some Jvm.ClassFile.FieldType.int)) ∈ lw_all := lw_g (lw_at lw_m6 171 rfl) rfl
theorem q1499 : (Jvm.Cond.instanceMethod ({ cls := "SwollenHouse", name := "say", desc := "(II)Z" } : Jvm.MethodName)) ∈ lw_all := lw_g (lw_at lw_m6 173 rfl) rfl
theorem q1500 : (Jvm.Cond.selects "SwollenHouse" ({ cls := "SwollenHouse", name := "say", desc := "(II)Z" } : Jvm.MethodName) ({ cls := "SwollenHouse", name := "say", desc := "(II)Z" } : Jvm.MethodName)) ∈ lw_all := lw_g (lw_at lw_m6 174 rfl) rfl
theorem q1501 : (Jvm.Cond.code ({ cls := "SwollenHouse", name := "say", desc := "(II)Z" } : Jvm.MethodName) prog_1_method_65_code (3 : Nat) (Option.some Jvm.ClassFile.FieldType.boolean)) ∈ lw_all := lw_g (lw_at lw_m6 175 rfl) rfl
theorem q1503 : (Jvm.Cond.instanceMethod ({ cls := "SwollenHouse", name := "who", desc := "()I" } : Jvm.MethodName)) ∈ lw_all := lw_g (lw_at lw_m6 177 rfl) rfl
theorem q1504 : (Jvm.Cond.selects "SwollenHouse" ({ cls := "SwollenHouse", name := "who", desc := "()I" } : Jvm.MethodName) ({ cls := "SwollenHouse", name := "who", desc := "()I" } : Jvm.MethodName)) ∈ lw_all := lw_g (lw_at lw_m6 178 rfl) rfl
theorem q1505 : (Jvm.Cond.code ({ cls := "SwollenHouse", name := "who", desc := "()I" } : Jvm.MethodName) prog_1_method_66_code (5 : Nat) (Option.some Jvm.ClassFile.FieldType.int)) ∈ lw_all := lw_g (lw_at lw_m6 179 rfl) rfl
theorem q1507 : (Jvm.Cond.instanceMethod ({ cls := "SwollenHouse", name := "rattles", desc := "()I" } : Jvm.MethodName)) ∈ lw_all := lw_g (lw_at lw_m6 181 rfl) rfl
theorem q1508 : (Jvm.Cond.selects "SwollenHouse" ({ cls := "SwollenHouse", name := "rattles", desc := "()I" } : Jvm.MethodName) ({ cls := "SwollenHouse", name := "rattles", desc := "()I" } : Jvm.MethodName)) ∈ lw_all := lw_g (lw_at lw_m6 182 rfl) rfl
theorem q1509 : (Jvm.Cond.code ({ cls := "SwollenHouse", name := "rattles", desc := "()I" } : Jvm.MethodName) prog_1_method_67_code (3 : Nat) (Option.some Jvm.ClassFile.FieldType.int)) ∈ lw_all := lw_g (lw_at lw_m6 183 rfl) rfl
theorem q1511 : (Jvm.Cond.instanceMethod ({ cls := "SwollenHouse", name := "worst", desc := "()I" } : Jvm.MethodName)) ∈ lw_all := lw_g (lw_at lw_m6 185 rfl) rfl
theorem q1512 : (Jvm.Cond.selects "SwollenHouse" ({ cls := "SwollenHouse", name := "worst", desc := "()I" } : Jvm.MethodName) ({ cls := "SwollenHouse", name := "worst", desc := "()I" } : Jvm.MethodName)) ∈ lw_all := lw_g (lw_at lw_m6 186 rfl) rfl
theorem q1513 : (Jvm.Cond.code ({ cls := "SwollenHouse", name := "worst", desc := "()I" } : Jvm.MethodName) prog_1_method_68_code (3 : Nat) (Option.some Jvm.ClassFile.FieldType.int)) ∈ lw_all := lw_g (lw_at lw_m6 187 rfl) rfl
theorem q1515 : (Jvm.Cond.instanceMethod ({ cls := "SwollenHouse", name := "spared", desc := "()I" } : Jvm.MethodName)) ∈ lw_all := lw_g (lw_at lw_m6 189 rfl) rfl
theorem q1516 : (Jvm.Cond.selects "SwollenHouse" ({ cls := "SwollenHouse", name := "spared", desc := "()I" } : Jvm.MethodName) ({ cls := "SwollenHouse", name := "spared", desc := "()I" } : Jvm.MethodName)) ∈ lw_all := lw_g (lw_at lw_m6 190 rfl) rfl
theorem q1517 : (Jvm.Cond.code ({ cls := "SwollenHouse", name := "spared", desc := "()I" } : Jvm.MethodName) prog_1_method_69_code (4 : Nat) (Option.some Jvm.ClassFile.FieldType.int)) ∈ lw_all := lw_g (lw_at lw_m6 191 rfl) rfl
theorem q1519 : (Jvm.Cond.instanceMethod ({ cls := "SwollenHouse", name := "opened", desc := "()I" } : Jvm.MethodName)) ∈ lw_all := lw_g (lw_at lw_m6 193 rfl) rfl
theorem q1520 : (Jvm.Cond.selects "SwollenHouse" ({ cls := "SwollenHouse", name := "opened", desc := "()I" } : Jvm.MethodName) ({ cls := "SwollenHouse", name := "opened", desc := "()I" } : Jvm.MethodName)) ∈ lw_all := lw_g (lw_at lw_m6 194 rfl) rfl
theorem q1521 : (Jvm.Cond.code ({ cls := "SwollenHouse", name := "opened", desc := "()I" } : Jvm.MethodName) prog_1_method_71_code (5 : Nat) (Option.some Jvm.ClassFile.FieldType.int)) ∈ lw_all := lw_g (lw_at lw_m6 195 rfl) rfl
theorem q1522 : (Jvm.Cond.methodLink "SwollenHouse" (326 : Nat) ({ cls := "SwollenHouse", name := "pairs", desc := "(I)I" } : Jvm.MethodName)) ∈ lw_all := lw_g (lw_at lw_m6 196 rfl) rfl
theorem q1523 : (Jvm.Cond.privateMethod ({ cls := "SwollenHouse", name := "pairs", desc := "(I)I" } : Jvm.MethodName)) ∈ lw_tbl := lw_at lw_m6 197 rfl
theorem q1524 : (Jvm.Cond.instanceMethod ({ cls := "SwollenHouse", name := "pairs", desc := "(I)I" } : Jvm.MethodName)) ∈ lw_all := lw_g (lw_at lw_m6 198 rfl) rfl
theorem q1525 : (Jvm.Cond.code ({ cls := "SwollenHouse", name := "pairs", desc := "(I)I" } : Jvm.MethodName) prog_1_method_70_code (5 : Nat) (Option.some Jvm.ClassFile.FieldType.int)) ∈ lw_all := lw_g (lw_at lw_m6 199 rfl) rfl
theorem q1527 : (Jvm.Cond.instanceMethod ({ cls := "SwollenHouse", name := "chance", desc := "(III)I" } : Jvm.MethodName)) ∈ lw_all := lw_g (lw_at lw_m6 201 rfl) rfl
theorem q1528 : (Jvm.Cond.selects "SwollenHouse" ({ cls := "SwollenHouse", name := "chance", desc := "(III)I" } : Jvm.MethodName) ({ cls := "SwollenHouse", name := "chance", desc := "(III)I" } : Jvm.MethodName)) ∈ lw_all := lw_g (lw_at lw_m6 202 rfl) rfl
theorem q1529 : (Jvm.Cond.code ({ cls := "SwollenHouse", name := "chance", desc := "(III)I" } : Jvm.MethodName) prog_1_method_72_code (12 : Nat) (Option.some Jvm.ClassFile.FieldType.int)) ∈ lw_all := lw_g (lw_at lw_m6 203 rfl) rfl
theorem q1530 : (Jvm.Cond.constantLong "SwollenHouse" (329 : Nat) (10 : Int64)) ∈ lw_all := lw_g (lw_at lw_m6 204 rfl) rfl
theorem q1531 : (Jvm.Cond.constantLong "SwollenHouse" (331 : Nat) (1000000 : Int64)) ∈ lw_all := lw_g (lw_at lw_m6 205 rfl) rfl
theorem q1533 : (Jvm.Cond.instanceMethod ({ cls := "SwollenHouse", name := "years", desc := "(III)I" } : Jvm.MethodName)) ∈ lw_all := lw_g (lw_at lw_m6 207 rfl) rfl
theorem q1534 : (Jvm.Cond.selects "SwollenHouse" ({ cls := "SwollenHouse", name := "years", desc := "(III)I" } : Jvm.MethodName) ({ cls := "SwollenHouse", name := "years", desc := "(III)I" } : Jvm.MethodName)) ∈ lw_all := lw_g (lw_at lw_m6 208 rfl) rfl
theorem q1535 : (Jvm.Cond.code ({ cls := "SwollenHouse", name := "years", desc := "(III)I" } : Jvm.MethodName) prog_1_method_77_code (6 : Nat) (Option.some Jvm.ClassFile.FieldType.int)) ∈ lw_all := lw_g (lw_at lw_m6 209 rfl) rfl
theorem q1536 : (Jvm.Cond.methodLink "SwollenHouse" (356 : Nat) ({ cls := "SwollenHouse", name := "befalls", desc := "(LSwollenHouse$State;)Z" } : Jvm.MethodName)) ∈ lw_all := lw_g (lw_at lw_m6 210 rfl) rfl
theorem q1537 : (Jvm.Cond.privateMethod ({ cls := "SwollenHouse", name := "befalls", desc := "(LSwollenHouse$State;)Z" } : Jvm.MethodName)) ∈ lw_tbl := lw_at lw_m6 211 rfl
theorem q1538 : (Jvm.Cond.instanceMethod ({ cls := "SwollenHouse", name := "befalls", desc := "(LSwollenHouse$State;)Z" } : Jvm.MethodName)) ∈ lw_all := lw_g (lw_at lw_m6 212 rfl) rfl
theorem q1539 : (Jvm.Cond.code ({ cls := "SwollenHouse", name := "befalls", desc := "(LSwollenHouse$State;)Z" } : Jvm.MethodName) prog_1_method_76_code (5 : Nat) (Option.some Jvm.ClassFile.FieldType.boolean)) ∈ lw_all := lw_g (lw_at lw_m6 213 rfl) rfl
theorem q1540 : (Jvm.Cond.methodLink "SwollenHouse" (353 : Nat) ({ cls := "SwollenHouse", name := "draws", desc := "(I)I" } : Jvm.MethodName)) ∈ lw_all := lw_g (lw_at lw_m6 214 rfl) rfl
theorem q1541 : (Jvm.Cond.privateMethod ({ cls := "SwollenHouse", name := "draws", desc := "(I)I" } : Jvm.MethodName)) ∈ lw_tbl := lw_at lw_m6 215 rfl
theorem q1542 : (Jvm.Cond.instanceMethod ({ cls := "SwollenHouse", name := "draws", desc := "(I)I" } : Jvm.MethodName)) ∈ lw_all := lw_g (lw_at lw_m6 216 rfl) rfl
theorem q1543 : (Jvm.Cond.code ({ cls := "SwollenHouse", name := "draws", desc := "(I)I" } : Jvm.MethodName) prog_1_method_75_code (2 : Nat) (Option.some Jvm.ClassFile.FieldType.int)) ∈ lw_all := lw_g (lw_at lw_m6 217 rfl) rfl
theorem q1544 : (Jvm.Cond.constantLong "SwollenHouse" (345 : Nat) (1103515245 : Int64)) ∈ lw_all := lw_g (lw_at lw_m6 218 rfl) rfl
theorem q1545 : (Jvm.Cond.constantLong "SwollenHouse" (347 : Nat) (12345 : Int64)) ∈ lw_all := lw_g (lw_at lw_m6 219 rfl) rfl
theorem q1546 : (Jvm.Cond.constantLong "SwollenHouse" (349 : Nat) (2147483648 : Int64)) ∈ lw_all := lw_g (lw_at lw_m6 220 rfl) rfl
theorem q1547 : (Jvm.Cond.constantLong "SwollenHouse" (351 : Nat) (65536 : Int64)) ∈ lw_all := lw_g (lw_at lw_m6 221 rfl) rfl
theorem q1548 : (Jvm.Cond.methodLink "SwollenHouse" (359 : Nat) ({ cls := "SwollenHouse", name := "sum", desc := "([I)I" } : Jvm.MethodName)) ∈ lw_all := lw_g (lw_at lw_m6 222 rfl) rfl
theorem q1549 : (Jvm.Cond.static ({ cls := "SwollenHouse", name := "sum", desc := "([I)I" } : Jvm.MethodName)) ∈ lw_all := lw_g (lw_at lw_m6 223 rfl) rfl
theorem q1550 : (Jvm.Cond.code ({ cls := "SwollenHouse", name := "sum", desc := "([I)I" } : Jvm.MethodName) prog_1_method_6_code (3 : Nat) (Option.some Jvm.ClassFile.FieldType.int)) ∈ lw_all := lw_g (lw_at lw_m6 224 rfl) rfl
theorem q1552 : (Jvm.Cond.instanceMethod ({ cls := "SwollenHouse", name := "mark", desc := "(IZ)Z" } : Jvm.MethodName)) ∈ lw_all := lw_g (lw_at lw_m6 226 rfl) rfl
theorem q1553 : (Jvm.Cond.selects "SwollenHouse" ({ cls := "SwollenHouse", name := "mark", desc := "(IZ)Z" } : Jvm.MethodName) ({ cls := "SwollenHouse", name := "mark", desc := "(IZ)Z" } : Jvm.MethodName)) ∈ lw_all := lw_g (lw_at lw_m6 227 rfl) rfl
theorem q1554 : (Jvm.Cond.code ({ cls := "SwollenHouse", name := "mark", desc := "(IZ)Z" } : Jvm.MethodName) prog_1_method_78_code (5 : Nat) (Option.some Jvm.ClassFile.FieldType.boolean)) ∈ lw_all := lw_g (lw_at lw_m6 228 rfl) rfl
theorem q1556 : (Jvm.Cond.methodLinkNest "SwollenHouse" (362 : Nat) ({ cls := "SwollenHouse$Mark", name := "<init>", desc := "()V" } : Jvm.MethodName) "SwollenHouse") ∈ lw_tbl := lw_at lw_m6 230 rfl
theorem q1563 : (Jvm.Cond.fieldLinkNest "SwollenHouse" (363 : Nat) "SwollenHouse$Mark" "state" "LSwollenHouse$State;" "SwollenHouse") ∈ lw_tbl := lw_at lw_m6 237 rfl
theorem q1565 : (Jvm.Cond.fieldLinkNest "SwollenHouse" (364 : Nat) "SwollenHouse$Mark" "at" "[I" "SwollenHouse") ∈ lw_tbl := lw_at lw_m6 239 rfl
theorem q1567 : (Jvm.Cond.fieldLinkNest "SwollenHouse" (369 : Nat) "SwollenHouse$Mark" "in" "[I" "SwollenHouse") ∈ lw_tbl := lw_at lw_m7 1 rfl
theorem q1569 : (Jvm.Cond.fieldLinkNest "SwollenHouse" (371 : Nat) "SwollenHouse$Mark" "of" "[I" "SwollenHouse") ∈ lw_tbl := lw_at lw_m7 3 rfl
theorem q1571 : (Jvm.Cond.fieldLinkNest "SwollenHouse" (374 : Nat) "SwollenHouse$Mark" "days" "[I" "SwollenHouse") ∈ lw_tbl := lw_at lw_m7 5 rfl
theorem q1573 : (Jvm.Cond.fieldLinkNest "SwollenHouse" (382 : Nat) "SwollenHouse$Mark" "sticks" "[Z" "SwollenHouse") ∈ lw_tbl := lw_at lw_m7 7 rfl
theorem q1574 : (Jvm.Cond.fieldLinkNest "SwollenHouse" (376 : Nat) "SwollenHouse$Mark" "felt" "I" "SwollenHouse") ∈ lw_tbl := lw_at lw_m7 8 rfl
theorem q1575 : (Jvm.Cond.fieldLinkNest "SwollenHouse" (379 : Nat) "SwollenHouse$Mark" "said" "I" "SwollenHouse") ∈ lw_tbl := lw_at lw_m7 9 rfl
theorem q1593 : (Jvm.Cond.methodLink "SwollenHouse" (365 : Nat) ({ cls := "SwollenHouse", name := "copies", desc := "([I[I)V" } : Jvm.MethodName)) ∈ lw_all := lw_g (lw_at lw_m7 27 rfl) rfl
theorem q1595 : (Jvm.Cond.instanceMethod ({ cls := "SwollenHouse", name := "count", desc := "(I)I" } : Jvm.MethodName)) ∈ lw_all := lw_g (lw_at lw_m7 29 rfl) rfl
theorem q1596 : (Jvm.Cond.selects "SwollenHouse" ({ cls := "SwollenHouse", name := "count", desc := "(I)I" } : Jvm.MethodName) ({ cls := "SwollenHouse", name := "count", desc := "(I)I" } : Jvm.MethodName)) ∈ lw_all := lw_g (lw_at lw_m7 30 rfl) rfl
theorem q1597 : (Jvm.Cond.code ({ cls := "SwollenHouse", name := "count", desc := "(I)I" } : Jvm.MethodName) prog_1_method_79_code (2 : Nat) (Option.some Jvm.ClassFile.FieldType.int)) ∈ lw_all := lw_g (lw_at lw_m7 31 rfl) rfl
theorem q1603 : (Jvm.Cond.instanceMethod ({ cls := "SwollenHouse", name := "rests", desc := "(IIII)I" } : Jvm.MethodName)) ∈ lw_all := lw_g (lw_at lw_m7 37 rfl) rfl
theorem q1604 : (Jvm.Cond.selects "SwollenHouse" ({ cls := "SwollenHouse", name := "rests", desc := "(IIII)I" } : Jvm.MethodName) ({ cls := "SwollenHouse", name := "rests", desc := "(IIII)I" } : Jvm.MethodName)) ∈ lw_all := lw_g (lw_at lw_m7 38 rfl) rfl
theorem q1605 : (Jvm.Cond.code ({ cls := "SwollenHouse", name := "rests", desc := "(IIII)I" } : Jvm.MethodName) prog_1_method_74_code (9 : Nat) (Option.some Jvm.ClassFile.FieldType.int)) ∈ lw_all := lw_g (lw_at lw_m7 39 rfl) rfl
theorem q1606 : (Jvm.Cond.methodLink "SwollenHouse" (333 : Nat) ({ cls := "SwollenHouse", name := "need", desc := "(Z)V" } : Jvm.MethodName)) ∈ lw_all := lw_g (lw_at lw_m7 40 rfl) rfl
theorem q1607 : (Jvm.Cond.static ({ cls := "SwollenHouse", name := "need", desc := "(Z)V" } : Jvm.MethodName)) ∈ lw_all := lw_g (lw_at lw_m7 41 rfl) rfl
theorem q1608 : (Jvm.Cond.code ({ cls := "SwollenHouse", name := "need", desc := "(Z)V" } : Jvm.MethodName) prog_1_method_4_code (1 : Nat) (Option.none : Option Jvm.ClassFile.FieldType)) ∈ lw_all := lw_g (lw_at lw_m7 42 rfl) rfl
theorem q1609 : (Jvm.Cond.classLink "SwollenHouse" (10 : Nat) "java/util/NoSuchElementException") ∈ lw_all := lw_g (lw_at lw_m7 43 rfl) rfl
theorem q1618 : (Jvm.Cond.methodLink "SwollenHouse" (12 : Nat) ({ cls := "java/util/NoSuchElementException", name := "<init>", desc := "()V" } : Jvm.MethodName)) ∈ lw_all := lw_g (lw_at lw_m7 52 rfl) rfl
theorem q1630 : (Jvm.Cond.methodLink "SwollenHouse" (337 : Nat) ({ cls := "SwollenHouse", name := "gets", desc := "(IIIII)I" } : Jvm.MethodName)) ∈ lw_all := lw_g (lw_at lw_m7 64 rfl) rfl
theorem q1631 : (Jvm.Cond.static ({ cls := "SwollenHouse", name := "gets", desc := "(IIIII)I" } : Jvm.MethodName)) ∈ lw_all := lw_g (lw_at lw_m7 65 rfl) rfl
theorem q1632 : (Jvm.Cond.code ({ cls := "SwollenHouse", name := "gets", desc := "(IIIII)I" } : Jvm.MethodName) prog_1_method_73_code (5 : Nat) (Option.some Jvm.ClassFile.FieldType.int)) ∈ lw_all := lw_g (lw_at lw_m7 66 rfl) rfl
theorem q2262 : (Jvm.Cond.castable "SwollenHouse" "java/lang/Object") ∈ lw_tbl := lw_at lw_m9 216 rfl
theorem in_X1 : ∀ w ∈ wsX10, w ∈ lw_all := lw_in wsX10 [368, 370, 372, 374, 376, 378, 380, 382, 384, 386, 388, 390, 392, 394, 396, 398, 400, 402, 404, 406, 408, 410] (by decide +kernel) (by decide +kernel)

def RX10 : String := "SwollenHouse$Pine"
abbrev bcX10_init : ByteArray := prog_15_method_1_code
def yX10_init : MethodName := ⟨RX10, "<init>", "()V"⟩
abbrev bcX10_kind : ByteArray := prog_15_method_2_code
def yX10_kind : MethodName := ⟨RX10, "kind", "()I"⟩
abbrev bcX10_upper : ByteArray := prog_15_method_3_code
def yX10_upper : MethodName := ⟨RX10, "upper", "()I"⟩
abbrev bcX10_lower : ByteArray := prog_15_method_4_code
def yX10_lower : MethodName := ⟨RX10, "lower", "()I"⟩
abbrev bcX10_shrinks : ByteArray := prog_15_method_5_code
def yX10_shrinks : MethodName := ⟨RX10, "shrinks", "()I"⟩
theorem q154 : (Jvm.Cond.initialized "SwollenHouse$Pine") ∈ lw_all := lw_g (lw_at lw_m1 28 rfl) rfl
theorem q863 : (Jvm.Cond.selects "SwollenHouse$Pine" ({ cls := "java/lang/Object", name := "getClass", desc := "()Ljava/lang/Class;" } : Jvm.MethodName) ({ cls := "java/lang/Object", name := "getClass", desc := "()Ljava/lang/Class;" } : Jvm.MethodName)) ∈ lw_all := lw_g (lw_at lw_m4 17 rfl) rfl
theorem q943 : (Jvm.Cond.instantiable "SwollenHouse$Pine" (0 : Nat)) ∈ lw_all := lw_g (lw_at lw_m4 97 rfl) rfl
theorem q945 : (Jvm.Cond.instanceMethod ({ cls := "SwollenHouse$Pine", name := "<init>", desc := "()V" } : Jvm.MethodName)) ∈ lw_all := lw_g (lw_at lw_m4 99 rfl) rfl
theorem q946 : (Jvm.Cond.code ({ cls := "SwollenHouse$Pine", name := "<init>", desc := "()V" } : Jvm.MethodName) prog_15_method_1_code (1 : Nat) (Option.none : Option Jvm.ClassFile.FieldType)) ∈ lw_all := lw_g (lw_at lw_m4 100 rfl) rfl
theorem q947 : (Jvm.Cond.methodLinkNest "SwollenHouse$Pine" (1 : Nat) ({ cls := "SwollenHouse$Wood", name := "<init>", desc := "()V" } : Jvm.MethodName) "SwollenHouse") ∈ lw_tbl := lw_at lw_m4 101 rfl
theorem q948 : (Jvm.Cond.superclass "SwollenHouse$Pine" "SwollenHouse$Wood") ∈ lw_all := lw_g (lw_at lw_m4 102 rfl) rfl
theorem q1164 : (Jvm.Cond.selects "SwollenHouse$Pine" ({ cls := "SwollenHouse$Wood", name := "kind", desc := "()I" } : Jvm.MethodName) ({ cls := "SwollenHouse$Pine", name := "kind", desc := "()I" } : Jvm.MethodName)) ∈ lw_all := lw_g (lw_at lw_m5 78 rfl) rfl
theorem q1165 : (Jvm.Cond.instanceMethod ({ cls := "SwollenHouse$Pine", name := "kind", desc := "()I" } : Jvm.MethodName)) ∈ lw_all := lw_g (lw_at lw_m5 79 rfl) rfl
theorem q1166 : (Jvm.Cond.code ({ cls := "SwollenHouse$Pine", name := "kind", desc := "()I" } : Jvm.MethodName) prog_15_method_2_code (1 : Nat) (Option.some Jvm.ClassFile.FieldType.int)) ∈ lw_all := lw_g (lw_at lw_m5 80 rfl) rfl
theorem q1222 : (Jvm.Cond.selects "SwollenHouse$Pine" ({ cls := "SwollenHouse$Wood", name := "upper", desc := "()I" } : Jvm.MethodName) ({ cls := "SwollenHouse$Pine", name := "upper", desc := "()I" } : Jvm.MethodName)) ∈ lw_all := lw_g (lw_at lw_m5 136 rfl) rfl
theorem q1223 : (Jvm.Cond.instanceMethod ({ cls := "SwollenHouse$Pine", name := "upper", desc := "()I" } : Jvm.MethodName)) ∈ lw_all := lw_g (lw_at lw_m5 137 rfl) rfl
theorem q1224 : (Jvm.Cond.code ({ cls := "SwollenHouse$Pine", name := "upper", desc := "()I" } : Jvm.MethodName) prog_15_method_3_code (1 : Nat) (Option.some Jvm.ClassFile.FieldType.int)) ∈ lw_all := lw_g (lw_at lw_m5 138 rfl) rfl
theorem q1263 : (Jvm.Cond.selects "SwollenHouse$Pine" ({ cls := "SwollenHouse$Wood", name := "lower", desc := "()I" } : Jvm.MethodName) ({ cls := "SwollenHouse$Pine", name := "lower", desc := "()I" } : Jvm.MethodName)) ∈ lw_all := lw_g (lw_at lw_m5 177 rfl) rfl
theorem q1264 : (Jvm.Cond.instanceMethod ({ cls := "SwollenHouse$Pine", name := "lower", desc := "()I" } : Jvm.MethodName)) ∈ lw_all := lw_g (lw_at lw_m5 178 rfl) rfl
theorem q1265 : (Jvm.Cond.code ({ cls := "SwollenHouse$Pine", name := "lower", desc := "()I" } : Jvm.MethodName) prog_15_method_4_code (1 : Nat) (Option.some Jvm.ClassFile.FieldType.int)) ∈ lw_all := lw_g (lw_at lw_m5 179 rfl) rfl
theorem q1278 : (Jvm.Cond.selects "SwollenHouse$Pine" ({ cls := "SwollenHouse$Wood", name := "shrinks", desc := "()I" } : Jvm.MethodName) ({ cls := "SwollenHouse$Pine", name := "shrinks", desc := "()I" } : Jvm.MethodName)) ∈ lw_all := lw_g (lw_at lw_m5 192 rfl) rfl
theorem q1279 : (Jvm.Cond.instanceMethod ({ cls := "SwollenHouse$Pine", name := "shrinks", desc := "()I" } : Jvm.MethodName)) ∈ lw_all := lw_g (lw_at lw_m5 193 rfl) rfl
theorem q1280 : (Jvm.Cond.code ({ cls := "SwollenHouse$Pine", name := "shrinks", desc := "()I" } : Jvm.MethodName) prog_15_method_5_code (1 : Nat) (Option.some Jvm.ClassFile.FieldType.int)) ∈ lw_all := lw_g (lw_at lw_m5 194 rfl) rfl
theorem q2272 : (Jvm.Cond.castable "SwollenHouse$Pine" "java/lang/Object") ∈ lw_tbl := lw_at lw_m9 226 rfl

def RX11 : String := "SwollenHouse$Elm"
abbrev bcX11_init : ByteArray := prog_3_method_1_code
def yX11_init : MethodName := ⟨RX11, "<init>", "()V"⟩
abbrev bcX11_kind : ByteArray := prog_3_method_2_code
def yX11_kind : MethodName := ⟨RX11, "kind", "()I"⟩
abbrev bcX11_upper : ByteArray := prog_3_method_3_code
def yX11_upper : MethodName := ⟨RX11, "upper", "()I"⟩
abbrev bcX11_lower : ByteArray := prog_3_method_4_code
def yX11_lower : MethodName := ⟨RX11, "lower", "()I"⟩
abbrev bcX11_shrinks : ByteArray := prog_3_method_5_code
def yX11_shrinks : MethodName := ⟨RX11, "shrinks", "()I"⟩
theorem q155 : (Jvm.Cond.initialized "SwollenHouse$Elm") ∈ lw_all := lw_g (lw_at lw_m1 29 rfl) rfl
theorem q853 : (Jvm.Cond.selects "SwollenHouse$Elm" ({ cls := "java/lang/Object", name := "getClass", desc := "()Ljava/lang/Class;" } : Jvm.MethodName) ({ cls := "java/lang/Object", name := "getClass", desc := "()Ljava/lang/Class;" } : Jvm.MethodName)) ∈ lw_all := lw_g (lw_at lw_m4 7 rfl) rfl
theorem q950 : (Jvm.Cond.instantiable "SwollenHouse$Elm" (0 : Nat)) ∈ lw_all := lw_g (lw_at lw_m4 104 rfl) rfl
theorem q952 : (Jvm.Cond.instanceMethod ({ cls := "SwollenHouse$Elm", name := "<init>", desc := "()V" } : Jvm.MethodName)) ∈ lw_all := lw_g (lw_at lw_m4 106 rfl) rfl
theorem q953 : (Jvm.Cond.code ({ cls := "SwollenHouse$Elm", name := "<init>", desc := "()V" } : Jvm.MethodName) prog_3_method_1_code (1 : Nat) (Option.none : Option Jvm.ClassFile.FieldType)) ∈ lw_all := lw_g (lw_at lw_m4 107 rfl) rfl
theorem q954 : (Jvm.Cond.methodLinkNest "SwollenHouse$Elm" (1 : Nat) ({ cls := "SwollenHouse$Wood", name := "<init>", desc := "()V" } : Jvm.MethodName) "SwollenHouse") ∈ lw_tbl := lw_at lw_m4 108 rfl
theorem q955 : (Jvm.Cond.superclass "SwollenHouse$Elm" "SwollenHouse$Wood") ∈ lw_all := lw_g (lw_at lw_m4 109 rfl) rfl
theorem q1155 : (Jvm.Cond.selects "SwollenHouse$Elm" ({ cls := "SwollenHouse$Wood", name := "kind", desc := "()I" } : Jvm.MethodName) ({ cls := "SwollenHouse$Elm", name := "kind", desc := "()I" } : Jvm.MethodName)) ∈ lw_all := lw_g (lw_at lw_m5 69 rfl) rfl
theorem q1156 : (Jvm.Cond.instanceMethod ({ cls := "SwollenHouse$Elm", name := "kind", desc := "()I" } : Jvm.MethodName)) ∈ lw_all := lw_g (lw_at lw_m5 70 rfl) rfl
theorem q1157 : (Jvm.Cond.code ({ cls := "SwollenHouse$Elm", name := "kind", desc := "()I" } : Jvm.MethodName) prog_3_method_2_code (1 : Nat) (Option.some Jvm.ClassFile.FieldType.int)) ∈ lw_all := lw_g (lw_at lw_m5 71 rfl) rfl
theorem q1213 : (Jvm.Cond.selects "SwollenHouse$Elm" ({ cls := "SwollenHouse$Wood", name := "upper", desc := "()I" } : Jvm.MethodName) ({ cls := "SwollenHouse$Elm", name := "upper", desc := "()I" } : Jvm.MethodName)) ∈ lw_all := lw_g (lw_at lw_m5 127 rfl) rfl
theorem q1214 : (Jvm.Cond.instanceMethod ({ cls := "SwollenHouse$Elm", name := "upper", desc := "()I" } : Jvm.MethodName)) ∈ lw_all := lw_g (lw_at lw_m5 128 rfl) rfl
theorem q1215 : (Jvm.Cond.code ({ cls := "SwollenHouse$Elm", name := "upper", desc := "()I" } : Jvm.MethodName) prog_3_method_3_code (1 : Nat) (Option.some Jvm.ClassFile.FieldType.int)) ∈ lw_all := lw_g (lw_at lw_m5 129 rfl) rfl
theorem q1254 : (Jvm.Cond.selects "SwollenHouse$Elm" ({ cls := "SwollenHouse$Wood", name := "lower", desc := "()I" } : Jvm.MethodName) ({ cls := "SwollenHouse$Elm", name := "lower", desc := "()I" } : Jvm.MethodName)) ∈ lw_all := lw_g (lw_at lw_m5 168 rfl) rfl
theorem q1255 : (Jvm.Cond.instanceMethod ({ cls := "SwollenHouse$Elm", name := "lower", desc := "()I" } : Jvm.MethodName)) ∈ lw_all := lw_g (lw_at lw_m5 169 rfl) rfl
theorem q1256 : (Jvm.Cond.code ({ cls := "SwollenHouse$Elm", name := "lower", desc := "()I" } : Jvm.MethodName) prog_3_method_4_code (1 : Nat) (Option.some Jvm.ClassFile.FieldType.int)) ∈ lw_all := lw_g (lw_at lw_m5 170 rfl) rfl
theorem q1269 : (Jvm.Cond.selects "SwollenHouse$Elm" ({ cls := "SwollenHouse$Wood", name := "shrinks", desc := "()I" } : Jvm.MethodName) ({ cls := "SwollenHouse$Elm", name := "shrinks", desc := "()I" } : Jvm.MethodName)) ∈ lw_all := lw_g (lw_at lw_m5 183 rfl) rfl
theorem q1270 : (Jvm.Cond.instanceMethod ({ cls := "SwollenHouse$Elm", name := "shrinks", desc := "()I" } : Jvm.MethodName)) ∈ lw_all := lw_g (lw_at lw_m5 184 rfl) rfl
theorem q1271 : (Jvm.Cond.code ({ cls := "SwollenHouse$Elm", name := "shrinks", desc := "()I" } : Jvm.MethodName) prog_3_method_5_code (1 : Nat) (Option.some Jvm.ClassFile.FieldType.int)) ∈ lw_all := lw_g (lw_at lw_m5 185 rfl) rfl
theorem q2273 : (Jvm.Cond.castable "SwollenHouse$Elm" "java/lang/Object") ∈ lw_tbl := lw_at lw_m9 227 rfl

def RX12 : String := "SwollenHouse$Lime"
abbrev bcX12_init : ByteArray := prog_9_method_1_code
def yX12_init : MethodName := ⟨RX12, "<init>", "()V"⟩
abbrev bcX12_kind : ByteArray := prog_9_method_2_code
def yX12_kind : MethodName := ⟨RX12, "kind", "()I"⟩
abbrev bcX12_upper : ByteArray := prog_9_method_3_code
def yX12_upper : MethodName := ⟨RX12, "upper", "()I"⟩
abbrev bcX12_lower : ByteArray := prog_9_method_4_code
def yX12_lower : MethodName := ⟨RX12, "lower", "()I"⟩
abbrev bcX12_shrinks : ByteArray := prog_9_method_5_code
def yX12_shrinks : MethodName := ⟨RX12, "shrinks", "()I"⟩
theorem q156 : (Jvm.Cond.initialized "SwollenHouse$Lime") ∈ lw_all := lw_g (lw_at lw_m1 30 rfl) rfl
theorem q858 : (Jvm.Cond.selects "SwollenHouse$Lime" ({ cls := "java/lang/Object", name := "getClass", desc := "()Ljava/lang/Class;" } : Jvm.MethodName) ({ cls := "java/lang/Object", name := "getClass", desc := "()Ljava/lang/Class;" } : Jvm.MethodName)) ∈ lw_all := lw_g (lw_at lw_m4 12 rfl) rfl
theorem q957 : (Jvm.Cond.instantiable "SwollenHouse$Lime" (0 : Nat)) ∈ lw_all := lw_g (lw_at lw_m4 111 rfl) rfl
theorem q959 : (Jvm.Cond.instanceMethod ({ cls := "SwollenHouse$Lime", name := "<init>", desc := "()V" } : Jvm.MethodName)) ∈ lw_all := lw_g (lw_at lw_m4 113 rfl) rfl
theorem q960 : (Jvm.Cond.code ({ cls := "SwollenHouse$Lime", name := "<init>", desc := "()V" } : Jvm.MethodName) prog_9_method_1_code (1 : Nat) (Option.none : Option Jvm.ClassFile.FieldType)) ∈ lw_all := lw_g (lw_at lw_m4 114 rfl) rfl
theorem q961 : (Jvm.Cond.methodLinkNest "SwollenHouse$Lime" (1 : Nat) ({ cls := "SwollenHouse$Wood", name := "<init>", desc := "()V" } : Jvm.MethodName) "SwollenHouse") ∈ lw_tbl := lw_at lw_m4 115 rfl
theorem q962 : (Jvm.Cond.superclass "SwollenHouse$Lime" "SwollenHouse$Wood") ∈ lw_all := lw_g (lw_at lw_m4 116 rfl) rfl
theorem q1158 : (Jvm.Cond.selects "SwollenHouse$Lime" ({ cls := "SwollenHouse$Wood", name := "kind", desc := "()I" } : Jvm.MethodName) ({ cls := "SwollenHouse$Lime", name := "kind", desc := "()I" } : Jvm.MethodName)) ∈ lw_all := lw_g (lw_at lw_m5 72 rfl) rfl
theorem q1159 : (Jvm.Cond.instanceMethod ({ cls := "SwollenHouse$Lime", name := "kind", desc := "()I" } : Jvm.MethodName)) ∈ lw_all := lw_g (lw_at lw_m5 73 rfl) rfl
theorem q1160 : (Jvm.Cond.code ({ cls := "SwollenHouse$Lime", name := "kind", desc := "()I" } : Jvm.MethodName) prog_9_method_2_code (1 : Nat) (Option.some Jvm.ClassFile.FieldType.int)) ∈ lw_all := lw_g (lw_at lw_m5 74 rfl) rfl
theorem q1216 : (Jvm.Cond.selects "SwollenHouse$Lime" ({ cls := "SwollenHouse$Wood", name := "upper", desc := "()I" } : Jvm.MethodName) ({ cls := "SwollenHouse$Lime", name := "upper", desc := "()I" } : Jvm.MethodName)) ∈ lw_all := lw_g (lw_at lw_m5 130 rfl) rfl
theorem q1217 : (Jvm.Cond.instanceMethod ({ cls := "SwollenHouse$Lime", name := "upper", desc := "()I" } : Jvm.MethodName)) ∈ lw_all := lw_g (lw_at lw_m5 131 rfl) rfl
theorem q1218 : (Jvm.Cond.code ({ cls := "SwollenHouse$Lime", name := "upper", desc := "()I" } : Jvm.MethodName) prog_9_method_3_code (1 : Nat) (Option.some Jvm.ClassFile.FieldType.int)) ∈ lw_all := lw_g (lw_at lw_m5 132 rfl) rfl
theorem q1257 : (Jvm.Cond.selects "SwollenHouse$Lime" ({ cls := "SwollenHouse$Wood", name := "lower", desc := "()I" } : Jvm.MethodName) ({ cls := "SwollenHouse$Lime", name := "lower", desc := "()I" } : Jvm.MethodName)) ∈ lw_all := lw_g (lw_at lw_m5 171 rfl) rfl
theorem q1258 : (Jvm.Cond.instanceMethod ({ cls := "SwollenHouse$Lime", name := "lower", desc := "()I" } : Jvm.MethodName)) ∈ lw_all := lw_g (lw_at lw_m5 172 rfl) rfl
theorem q1259 : (Jvm.Cond.code ({ cls := "SwollenHouse$Lime", name := "lower", desc := "()I" } : Jvm.MethodName) prog_9_method_4_code (1 : Nat) (Option.some Jvm.ClassFile.FieldType.int)) ∈ lw_all := lw_g (lw_at lw_m5 173 rfl) rfl
theorem q1272 : (Jvm.Cond.selects "SwollenHouse$Lime" ({ cls := "SwollenHouse$Wood", name := "shrinks", desc := "()I" } : Jvm.MethodName) ({ cls := "SwollenHouse$Lime", name := "shrinks", desc := "()I" } : Jvm.MethodName)) ∈ lw_all := lw_g (lw_at lw_m5 186 rfl) rfl
theorem q1273 : (Jvm.Cond.instanceMethod ({ cls := "SwollenHouse$Lime", name := "shrinks", desc := "()I" } : Jvm.MethodName)) ∈ lw_all := lw_g (lw_at lw_m5 187 rfl) rfl
theorem q1274 : (Jvm.Cond.code ({ cls := "SwollenHouse$Lime", name := "shrinks", desc := "()I" } : Jvm.MethodName) prog_9_method_5_code (1 : Nat) (Option.some Jvm.ClassFile.FieldType.int)) ∈ lw_all := lw_g (lw_at lw_m5 188 rfl) rfl
theorem q2274 : (Jvm.Cond.castable "SwollenHouse$Lime" "java/lang/Object") ∈ lw_tbl := lw_at lw_m9 228 rfl

def RX13 : String := "SwollenHouse$Expression"
abbrev bcX13_init : ByteArray := prog_4_method_1_code
def yX13_init : MethodName := ⟨RX13, "<init>", "()V"⟩
theorem q157 : (Jvm.Cond.initialized "SwollenHouse$Expression") ∈ lw_all := lw_g (lw_at lw_m1 31 rfl) rfl
theorem q1016 : (Jvm.Cond.instanceMethod ({ cls := "SwollenHouse$Expression", name := "<init>", desc := "()V" } : Jvm.MethodName)) ∈ lw_all := lw_g (lw_at lw_m4 170 rfl) rfl
theorem q1017 : (Jvm.Cond.code ({ cls := "SwollenHouse$Expression", name := "<init>", desc := "()V" } : Jvm.MethodName) prog_4_method_1_code (1 : Nat) (Option.none : Option Jvm.ClassFile.FieldType)) ∈ lw_all := lw_g (lw_at lw_m4 171 rfl) rfl
theorem q1018 : (Jvm.Cond.methodLink "SwollenHouse$Expression" (1 : Nat) ({ cls := "java/lang/Object", name := "<init>", desc := "()V" } : Jvm.MethodName)) ∈ lw_all := lw_g (lw_at lw_m4 172 rfl) rfl
theorem q1230 : (Jvm.Cond.declares ({ cls := "SwollenHouse$Expression", name := "worked", desc := "([I)I" } : Jvm.MethodName)) ∈ lw_tbl := lw_at lw_m5 144 rfl
theorem q1231 : (Jvm.Cond.sameMethod "SwollenHouse$Expression" "SwollenHouse$Expression" "worked" "([I)I") ∈ lw_all := lw_g (lw_at lw_m5 145 rfl) rfl

def RX14 : String := "SwollenHouse$Given"
def TX14 : u_T := fun k => match k with
  | _ => ("SwollenHouse$Given", "n", "I", true)
def tyX14 : Nat → FieldType := fun k => match k with
  | _ => .int
abbrev wsX140 : List Cond := u_ws RX14 TX14 1
theorem nmX14 : ∀ a, a < 1 → ∀ b, b < 1 → a ≠ b → (TX14 a).2.1 ≠ (TX14 b).2.1 := by decide +kernel
theorem tyX14_ok : ∀ k, k < 1 → parseFieldDescriptor (TX14 k).2.2.1 = some (tyX14 k) := by decide +kernel
abbrev bcX14_init : ByteArray := prog_7_method_1_code
def yX14_init : MethodName := ⟨RX14, "<init>", "(I)V"⟩
abbrev bcX14_worked : ByteArray := prog_7_method_2_code
def yX14_worked : MethodName := ⟨RX14, "worked", "([I)I"⟩
theorem q158 : (Jvm.Cond.initialized "SwollenHouse$Given") ∈ lw_all := lw_g (lw_at lw_m1 32 rfl) rfl
theorem q856 : (Jvm.Cond.selects "SwollenHouse$Given" ({ cls := "java/lang/Object", name := "getClass", desc := "()Ljava/lang/Class;" } : Jvm.MethodName) ({ cls := "java/lang/Object", name := "getClass", desc := "()Ljava/lang/Class;" } : Jvm.MethodName)) ∈ lw_all := lw_g (lw_at lw_m4 10 rfl) rfl
theorem q1011 : (Jvm.Cond.instantiable "SwollenHouse$Given" (1 : Nat)) ∈ lw_all := lw_g (lw_at lw_m4 165 rfl) rfl
theorem q1013 : (Jvm.Cond.instanceMethod ({ cls := "SwollenHouse$Given", name := "<init>", desc := "(I)V" } : Jvm.MethodName)) ∈ lw_all := lw_g (lw_at lw_m4 167 rfl) rfl
theorem q1014 : (Jvm.Cond.code ({ cls := "SwollenHouse$Given", name := "<init>", desc := "(I)V" } : Jvm.MethodName) prog_7_method_1_code (2 : Nat) (Option.none : Option Jvm.ClassFile.FieldType)) ∈ lw_all := lw_g (lw_at lw_m4 168 rfl) rfl
theorem q1015 : (Jvm.Cond.methodLinkNest "SwollenHouse$Given" (1 : Nat) ({ cls := "SwollenHouse$Expression", name := "<init>", desc := "()V" } : Jvm.MethodName) "SwollenHouse") ∈ lw_tbl := lw_at lw_m4 169 rfl
theorem q1019 : (Jvm.Cond.fieldLink "SwollenHouse$Given" (7 : Nat) "SwollenHouse$Given" "n" "I") ∈ lw_all := lw_g (lw_at lw_m4 173 rfl) rfl
theorem q1020 : (Jvm.Cond.laysFinal "SwollenHouse$Given" "SwollenHouse$Given" "n" "I") ∈ lw_all := lw_g (lw_at lw_m4 174 rfl) rfl
theorem q1021 : (Jvm.Cond.soleField "SwollenHouse$Given" "n") ∈ lw_all := lw_g (lw_at lw_m4 175 rfl) rfl
theorem q1022 : (Jvm.Cond.superclass "SwollenHouse$Given" "SwollenHouse$Expression") ∈ lw_all := lw_g (lw_at lw_m4 176 rfl) rfl
theorem q1235 : (Jvm.Cond.selects "SwollenHouse$Given" ({ cls := "SwollenHouse$Expression", name := "worked", desc := "([I)I" } : Jvm.MethodName) ({ cls := "SwollenHouse$Given", name := "worked", desc := "([I)I" } : Jvm.MethodName)) ∈ lw_all := lw_g (lw_at lw_m5 149 rfl) rfl
theorem q1236 : (Jvm.Cond.instanceMethod ({ cls := "SwollenHouse$Given", name := "worked", desc := "([I)I" } : Jvm.MethodName)) ∈ lw_all := lw_g (lw_at lw_m5 150 rfl) rfl
theorem q1237 : (Jvm.Cond.code ({ cls := "SwollenHouse$Given", name := "worked", desc := "([I)I" } : Jvm.MethodName) prog_7_method_2_code (2 : Nat) (Option.some Jvm.ClassFile.FieldType.int)) ∈ lw_all := lw_g (lw_at lw_m5 151 rfl) rfl
theorem q2275 : (Jvm.Cond.castable "SwollenHouse$Given" "java/lang/Object") ∈ lw_tbl := lw_at lw_m9 229 rfl
theorem in_X14 : ∀ w ∈ wsX140, w ∈ lw_all := lw_in wsX140 [1020] (by decide +kernel) (by decide +kernel)

def RX15 : String := "SwollenHouse$Fact"
def TX15 : u_T := fun k => match k with
  | _ => ("SwollenHouse$Fact", "which", "I", true)
def tyX15 : Nat → FieldType := fun k => match k with
  | _ => .int
abbrev wsX150 : List Cond := u_ws RX15 TX15 1
theorem nmX15 : ∀ a, a < 1 → ∀ b, b < 1 → a ≠ b → (TX15 a).2.1 ≠ (TX15 b).2.1 := by decide +kernel
theorem tyX15_ok : ∀ k, k < 1 → parseFieldDescriptor (TX15 k).2.2.1 = some (tyX15 k) := by decide +kernel
abbrev bcX15_init : ByteArray := prog_5_method_1_code
def yX15_init : MethodName := ⟨RX15, "<init>", "(I)V"⟩
abbrev bcX15_worked : ByteArray := prog_5_method_2_code
def yX15_worked : MethodName := ⟨RX15, "worked", "([I)I"⟩
theorem q159 : (Jvm.Cond.initialized "SwollenHouse$Fact") ∈ lw_all := lw_g (lw_at lw_m1 33 rfl) rfl
theorem q854 : (Jvm.Cond.selects "SwollenHouse$Fact" ({ cls := "java/lang/Object", name := "getClass", desc := "()Ljava/lang/Class;" } : Jvm.MethodName) ({ cls := "java/lang/Object", name := "getClass", desc := "()Ljava/lang/Class;" } : Jvm.MethodName)) ∈ lw_all := lw_g (lw_at lw_m4 8 rfl) rfl
theorem q1024 : (Jvm.Cond.instantiable "SwollenHouse$Fact" (1 : Nat)) ∈ lw_all := lw_g (lw_at lw_m4 178 rfl) rfl
theorem q1026 : (Jvm.Cond.instanceMethod ({ cls := "SwollenHouse$Fact", name := "<init>", desc := "(I)V" } : Jvm.MethodName)) ∈ lw_all := lw_g (lw_at lw_m4 180 rfl) rfl
theorem q1027 : (Jvm.Cond.code ({ cls := "SwollenHouse$Fact", name := "<init>", desc := "(I)V" } : Jvm.MethodName) prog_5_method_1_code (2 : Nat) (Option.none : Option Jvm.ClassFile.FieldType)) ∈ lw_all := lw_g (lw_at lw_m4 181 rfl) rfl
theorem q1028 : (Jvm.Cond.methodLinkNest "SwollenHouse$Fact" (1 : Nat) ({ cls := "SwollenHouse$Expression", name := "<init>", desc := "()V" } : Jvm.MethodName) "SwollenHouse") ∈ lw_tbl := lw_at lw_m4 182 rfl
theorem q1029 : (Jvm.Cond.fieldLink "SwollenHouse$Fact" (7 : Nat) "SwollenHouse$Fact" "which" "I") ∈ lw_all := lw_g (lw_at lw_m4 183 rfl) rfl
theorem q1030 : (Jvm.Cond.laysFinal "SwollenHouse$Fact" "SwollenHouse$Fact" "which" "I") ∈ lw_all := lw_g (lw_at lw_m4 184 rfl) rfl
theorem q1031 : (Jvm.Cond.soleField "SwollenHouse$Fact" "which") ∈ lw_all := lw_g (lw_at lw_m4 185 rfl) rfl
theorem q1032 : (Jvm.Cond.superclass "SwollenHouse$Fact" "SwollenHouse$Expression") ∈ lw_all := lw_g (lw_at lw_m4 186 rfl) rfl
theorem q1232 : (Jvm.Cond.selects "SwollenHouse$Fact" ({ cls := "SwollenHouse$Expression", name := "worked", desc := "([I)I" } : Jvm.MethodName) ({ cls := "SwollenHouse$Fact", name := "worked", desc := "([I)I" } : Jvm.MethodName)) ∈ lw_all := lw_g (lw_at lw_m5 146 rfl) rfl
theorem q1233 : (Jvm.Cond.instanceMethod ({ cls := "SwollenHouse$Fact", name := "worked", desc := "([I)I" } : Jvm.MethodName)) ∈ lw_all := lw_g (lw_at lw_m5 147 rfl) rfl
theorem q1234 : (Jvm.Cond.code ({ cls := "SwollenHouse$Fact", name := "worked", desc := "([I)I" } : Jvm.MethodName) prog_5_method_2_code (2 : Nat) (Option.some Jvm.ClassFile.FieldType.int)) ∈ lw_all := lw_g (lw_at lw_m5 148 rfl) rfl
theorem q2276 : (Jvm.Cond.castable "SwollenHouse$Fact" "java/lang/Object") ∈ lw_tbl := lw_at lw_m9 230 rfl
theorem in_X15 : ∀ w ∈ wsX150, w ∈ lw_all := lw_in wsX150 [1030] (by decide +kernel) (by decide +kernel)

def RX16 : String := "SwollenHouse$Not"
def TX16 : u_T := fun k => match k with
  | _ => ("SwollenHouse$Not", "part", "LSwollenHouse$Expression;", true)
def tyX16 : Nat → FieldType := fun k => match k with
  | _ => .object "SwollenHouse$Expression"
abbrev wsX160 : List Cond := u_ws RX16 TX16 1
theorem nmX16 : ∀ a, a < 1 → ∀ b, b < 1 → a ≠ b → (TX16 a).2.1 ≠ (TX16 b).2.1 := by decide +kernel
theorem tyX16_ok : ∀ k, k < 1 → parseFieldDescriptor (TX16 k).2.2.1 = some (tyX16 k) := by decide +kernel
abbrev bcX16_init : ByteArray := prog_12_method_1_code
def yX16_init : MethodName := ⟨RX16, "<init>", "(LSwollenHouse$Expression;)V"⟩
abbrev bcX16_worked : ByteArray := prog_12_method_2_code
def yX16_worked : MethodName := ⟨RX16, "worked", "([I)I"⟩
theorem q160 : (Jvm.Cond.initialized "SwollenHouse$Not") ∈ lw_all := lw_g (lw_at lw_m1 34 rfl) rfl
theorem q860 : (Jvm.Cond.selects "SwollenHouse$Not" ({ cls := "java/lang/Object", name := "getClass", desc := "()Ljava/lang/Class;" } : Jvm.MethodName) ({ cls := "java/lang/Object", name := "getClass", desc := "()Ljava/lang/Class;" } : Jvm.MethodName)) ∈ lw_all := lw_g (lw_at lw_m4 14 rfl) rfl
theorem q1034 : (Jvm.Cond.instantiable "SwollenHouse$Not" (1 : Nat)) ∈ lw_all := lw_g (lw_at lw_m4 188 rfl) rfl
theorem q1036 : (Jvm.Cond.instanceMethod ({ cls := "SwollenHouse$Not", name := "<init>", desc := "(LSwollenHouse$Expression;)V" } : Jvm.MethodName)) ∈ lw_all := lw_g (lw_at lw_m4 190 rfl) rfl
theorem q1037 : (Jvm.Cond.code ({ cls := "SwollenHouse$Not", name := "<init>", desc := "(LSwollenHouse$Expression;)V" } : Jvm.MethodName) prog_12_method_1_code (2 : Nat) (Option.none : Option Jvm.ClassFile.FieldType)) ∈ lw_all := lw_g (lw_at lw_m4 191 rfl) rfl
theorem q1038 : (Jvm.Cond.methodLinkNest "SwollenHouse$Not" (1 : Nat) ({ cls := "SwollenHouse$Expression", name := "<init>", desc := "()V" } : Jvm.MethodName) "SwollenHouse") ∈ lw_tbl := lw_at lw_m4 192 rfl
theorem q1039 : (Jvm.Cond.fieldLink "SwollenHouse$Not" (7 : Nat) "SwollenHouse$Not" "part" "LSwollenHouse$Expression;") ∈ lw_all := lw_g (lw_at lw_m4 193 rfl) rfl
theorem q1040 : (Jvm.Cond.laysFinal "SwollenHouse$Not" "SwollenHouse$Not" "part" "LSwollenHouse$Expression;") ∈ lw_all := lw_g (lw_at lw_m4 194 rfl) rfl
theorem q1041 : (Jvm.Cond.soleField "SwollenHouse$Not" "part") ∈ lw_all := lw_g (lw_at lw_m4 195 rfl) rfl
theorem q1042 : (Jvm.Cond.superclass "SwollenHouse$Not" "SwollenHouse$Expression") ∈ lw_all := lw_g (lw_at lw_m4 196 rfl) rfl
theorem q1238 : (Jvm.Cond.selects "SwollenHouse$Not" ({ cls := "SwollenHouse$Expression", name := "worked", desc := "([I)I" } : Jvm.MethodName) ({ cls := "SwollenHouse$Not", name := "worked", desc := "([I)I" } : Jvm.MethodName)) ∈ lw_all := lw_g (lw_at lw_m5 152 rfl) rfl
theorem q1239 : (Jvm.Cond.instanceMethod ({ cls := "SwollenHouse$Not", name := "worked", desc := "([I)I" } : Jvm.MethodName)) ∈ lw_all := lw_g (lw_at lw_m5 153 rfl) rfl
theorem q1240 : (Jvm.Cond.code ({ cls := "SwollenHouse$Not", name := "worked", desc := "([I)I" } : Jvm.MethodName) prog_12_method_2_code (2 : Nat) (Option.some Jvm.ClassFile.FieldType.int)) ∈ lw_all := lw_g (lw_at lw_m5 154 rfl) rfl
theorem q1241 : (Jvm.Cond.methodLink "SwollenHouse$Not" (13 : Nat) ({ cls := "SwollenHouse$Expression", name := "worked", desc := "([I)I" } : Jvm.MethodName)) ∈ lw_all := lw_g (lw_at lw_m5 155 rfl) rfl
theorem q2277 : (Jvm.Cond.castable "SwollenHouse$Not" "java/lang/Object") ∈ lw_tbl := lw_at lw_m9 231 rfl
theorem in_X16 : ∀ w ∈ wsX160, w ∈ lw_all := lw_in wsX160 [1040] (by decide +kernel) (by decide +kernel)

def RX17 : String := "SwollenHouse$Two"
def TX17 : u_T := fun k => match k with
  | 0 => ("SwollenHouse$Two", "way", "C", true)
  | 1 => ("SwollenHouse$Two", "a", "LSwollenHouse$Expression;", true)
  | _ => ("SwollenHouse$Two", "b", "LSwollenHouse$Expression;", true)
def tyX17 : Nat → FieldType := fun k => match k with
  | 0 => .char
  | 1 => .object "SwollenHouse$Expression"
  | _ => .object "SwollenHouse$Expression"
abbrev wsX170 : List Cond := u_ws RX17 TX17 3
theorem nmX17 : ∀ a, a < 3 → ∀ b, b < 3 → a ≠ b → (TX17 a).2.1 ≠ (TX17 b).2.1 := by decide +kernel
theorem tyX17_ok : ∀ k, k < 3 → parseFieldDescriptor (TX17 k).2.2.1 = some (tyX17 k) := by decide +kernel
abbrev bcX17_init : ByteArray := prog_19_method_1_code
def yX17_init : MethodName := ⟨RX17, "<init>", "(CLSwollenHouse$Expression;LSwollenHouse$Expression;)V"⟩
abbrev bcX17_worked : ByteArray := prog_19_method_2_code
def yX17_worked : MethodName := ⟨RX17, "worked", "([I)I"⟩
theorem q161 : (Jvm.Cond.initialized "SwollenHouse$Two") ∈ lw_all := lw_g (lw_at lw_m1 35 rfl) rfl
theorem q867 : (Jvm.Cond.selects "SwollenHouse$Two" ({ cls := "java/lang/Object", name := "getClass", desc := "()Ljava/lang/Class;" } : Jvm.MethodName) ({ cls := "java/lang/Object", name := "getClass", desc := "()Ljava/lang/Class;" } : Jvm.MethodName)) ∈ lw_all := lw_g (lw_at lw_m4 21 rfl) rfl
theorem q1048 : (Jvm.Cond.instantiable "SwollenHouse$Two" (3 : Nat)) ∈ lw_all := lw_g (lw_at lw_m4 202 rfl) rfl
theorem q1050 : (Jvm.Cond.instanceMethod ({ cls := "SwollenHouse$Two", name := "<init>", desc := "(CLSwollenHouse$Expression;LSwollenHouse$Expression;)V" } : Jvm.MethodName)) ∈ lw_all := lw_g (lw_at lw_m4 204 rfl) rfl
theorem q1051 : (Jvm.Cond.code ({ cls := "SwollenHouse$Two", name := "<init>", desc := "(CLSwollenHouse$Expression;LSwollenHouse$Expression;)V" } : Jvm.MethodName) prog_19_method_1_code (4 : Nat) (Option.none : Option Jvm.ClassFile.FieldType)) ∈ lw_all := lw_g (lw_at lw_m4 205 rfl) rfl
theorem q1052 : (Jvm.Cond.methodLinkNest "SwollenHouse$Two" (1 : Nat) ({ cls := "SwollenHouse$Expression", name := "<init>", desc := "()V" } : Jvm.MethodName) "SwollenHouse") ∈ lw_tbl := lw_at lw_m4 206 rfl
theorem q1053 : (Jvm.Cond.fieldLink "SwollenHouse$Two" (7 : Nat) "SwollenHouse$Two" "way" "C") ∈ lw_all := lw_g (lw_at lw_m4 207 rfl) rfl
theorem q1054 : (Jvm.Cond.fieldLink "SwollenHouse$Two" (13 : Nat) "SwollenHouse$Two" "a" "LSwollenHouse$Expression;") ∈ lw_all := lw_g (lw_at lw_m4 208 rfl) rfl
theorem q1055 : (Jvm.Cond.fieldLink "SwollenHouse$Two" (17 : Nat) "SwollenHouse$Two" "b" "LSwollenHouse$Expression;") ∈ lw_all := lw_g (lw_at lw_m4 209 rfl) rfl
theorem q1056 : (Jvm.Cond.laysFinal "SwollenHouse$Two" "SwollenHouse$Two" "way" "C") ∈ lw_all := lw_g (lw_at lw_m4 210 rfl) rfl
theorem q1057 : (Jvm.Cond.soleField "SwollenHouse$Two" "way") ∈ lw_all := lw_g (lw_at lw_m4 211 rfl) rfl
theorem q1058 : (Jvm.Cond.laysFinal "SwollenHouse$Two" "SwollenHouse$Two" "a" "LSwollenHouse$Expression;") ∈ lw_all := lw_g (lw_at lw_m4 212 rfl) rfl
theorem q1059 : (Jvm.Cond.soleField "SwollenHouse$Two" "a") ∈ lw_all := lw_g (lw_at lw_m4 213 rfl) rfl
theorem q1060 : (Jvm.Cond.laysFinal "SwollenHouse$Two" "SwollenHouse$Two" "b" "LSwollenHouse$Expression;") ∈ lw_all := lw_g (lw_at lw_m4 214 rfl) rfl
theorem q1061 : (Jvm.Cond.soleField "SwollenHouse$Two" "b") ∈ lw_all := lw_g (lw_at lw_m4 215 rfl) rfl
theorem q1062 : (Jvm.Cond.superclass "SwollenHouse$Two" "SwollenHouse$Expression") ∈ lw_all := lw_g (lw_at lw_m4 216 rfl) rfl
theorem q1242 : (Jvm.Cond.instanceMethod ({ cls := "SwollenHouse$Two", name := "worked", desc := "([I)I" } : Jvm.MethodName)) ∈ lw_all := lw_g (lw_at lw_m5 156 rfl) rfl
theorem q1243 : (Jvm.Cond.code ({ cls := "SwollenHouse$Two", name := "worked", desc := "([I)I" } : Jvm.MethodName) prog_19_method_2_code (4 : Nat) (Option.some Jvm.ClassFile.FieldType.int)) ∈ lw_all := lw_g (lw_at lw_m5 157 rfl) rfl
theorem q1244 : (Jvm.Cond.methodLink "SwollenHouse$Two" (20 : Nat) ({ cls := "SwollenHouse$Expression", name := "worked", desc := "([I)I" } : Jvm.MethodName)) ∈ lw_all := lw_g (lw_at lw_m5 158 rfl) rfl
theorem q1245 : (Jvm.Cond.selects "SwollenHouse$Two" ({ cls := "SwollenHouse$Expression", name := "worked", desc := "([I)I" } : Jvm.MethodName) ({ cls := "SwollenHouse$Two", name := "worked", desc := "([I)I" } : Jvm.MethodName)) ∈ lw_all := lw_g (lw_at lw_m5 159 rfl) rfl
theorem q2278 : (Jvm.Cond.castable "SwollenHouse$Two" "java/lang/Object") ∈ lw_tbl := lw_at lw_m9 232 rfl
theorem in_X17 : ∀ w ∈ wsX170, w ∈ lw_all := lw_in wsX170 [1056, 1058, 1060] (by decide +kernel) (by decide +kernel)

def RX18 : String := "SwollenHouse$Line"
abbrev bcX18_init : ByteArray := prog_10_method_1_code
def yX18_init : MethodName := ⟨RX18, "<init>", "()V"⟩
theorem q162 : (Jvm.Cond.initialized "SwollenHouse$Line") ∈ lw_all := lw_g (lw_at lw_m1 36 rfl) rfl
theorem q1085 : (Jvm.Cond.instanceMethod ({ cls := "SwollenHouse$Line", name := "<init>", desc := "()V" } : Jvm.MethodName)) ∈ lw_all := lw_g (lw_at lw_m4 239 rfl) rfl
theorem q1086 : (Jvm.Cond.code ({ cls := "SwollenHouse$Line", name := "<init>", desc := "()V" } : Jvm.MethodName) prog_10_method_1_code (1 : Nat) (Option.none : Option Jvm.ClassFile.FieldType)) ∈ lw_all := lw_g (lw_at lw_m5 0 rfl) rfl
theorem q1087 : (Jvm.Cond.methodLink "SwollenHouse$Line" (1 : Nat) ({ cls := "java/lang/Object", name := "<init>", desc := "()V" } : Jvm.MethodName)) ∈ lw_all := lw_g (lw_at lw_m5 1 rfl) rfl
theorem q1333 : (Jvm.Cond.declares ({ cls := "SwollenHouse$Line", name := "isDone", desc := "(LSwollenHouse;LSwollenHouse$State;)Z" } : Jvm.MethodName)) ∈ lw_tbl := lw_at lw_m6 7 rfl
theorem q1334 : (Jvm.Cond.sameMethod "SwollenHouse$Line" "SwollenHouse$Line" "isDone" "(LSwollenHouse;LSwollenHouse$State;)Z") ∈ lw_all := lw_g (lw_at lw_m6 8 rfl) rfl

def RX19 : String := "SwollenHouse$Passed"
abbrev bcX19_init : ByteArray := prog_14_method_1_code
def yX19_init : MethodName := ⟨RX19, "<init>", "()V"⟩
abbrev bcX19_isDone : ByteArray := prog_14_method_2_code
def yX19_isDone : MethodName := ⟨RX19, "isDone", "(LSwollenHouse;LSwollenHouse$State;)Z"⟩
theorem q163 : (Jvm.Cond.initialized "SwollenHouse$Passed") ∈ lw_all := lw_g (lw_at lw_m1 37 rfl) rfl
theorem q300 : (Jvm.Cond.fieldLinkNest "SwollenHouse$Passed" (13 : Nat) "SwollenHouse$State" "day" "I" "SwollenHouse") ∈ lw_tbl := lw_at lw_m1 174 rfl
theorem q347 : (Jvm.Cond.fieldLinkNest "SwollenHouse$Passed" (7 : Nat) "SwollenHouse" "house" "LSwollenHouse$House;" "SwollenHouse") ∈ lw_tbl := lw_at lw_m1 221 rfl
theorem q862 : (Jvm.Cond.selects "SwollenHouse$Passed" ({ cls := "java/lang/Object", name := "getClass", desc := "()Ljava/lang/Class;" } : Jvm.MethodName) ({ cls := "java/lang/Object", name := "getClass", desc := "()Ljava/lang/Class;" } : Jvm.MethodName)) ∈ lw_all := lw_g (lw_at lw_m4 16 rfl) rfl
theorem q1080 : (Jvm.Cond.instantiable "SwollenHouse$Passed" (0 : Nat)) ∈ lw_all := lw_g (lw_at lw_m4 234 rfl) rfl
theorem q1082 : (Jvm.Cond.instanceMethod ({ cls := "SwollenHouse$Passed", name := "<init>", desc := "()V" } : Jvm.MethodName)) ∈ lw_all := lw_g (lw_at lw_m4 236 rfl) rfl
theorem q1083 : (Jvm.Cond.code ({ cls := "SwollenHouse$Passed", name := "<init>", desc := "()V" } : Jvm.MethodName) prog_14_method_1_code (1 : Nat) (Option.none : Option Jvm.ClassFile.FieldType)) ∈ lw_all := lw_g (lw_at lw_m4 237 rfl) rfl
theorem q1084 : (Jvm.Cond.methodLinkNest "SwollenHouse$Passed" (1 : Nat) ({ cls := "SwollenHouse$Line", name := "<init>", desc := "()V" } : Jvm.MethodName) "SwollenHouse") ∈ lw_tbl := lw_at lw_m4 238 rfl
theorem q1088 : (Jvm.Cond.superclass "SwollenHouse$Passed" "SwollenHouse$Line") ∈ lw_all := lw_g (lw_at lw_m5 2 rfl) rfl
theorem q1340 : (Jvm.Cond.selects "SwollenHouse$Passed" ({ cls := "SwollenHouse$Line", name := "isDone", desc := "(LSwollenHouse;LSwollenHouse$State;)Z" } : Jvm.MethodName) ({ cls := "SwollenHouse$Passed", name := "isDone", desc := "(LSwollenHouse;LSwollenHouse$State;)Z" } : Jvm.MethodName)) ∈ lw_all := lw_g (lw_at lw_m6 14 rfl) rfl
theorem q1341 : (Jvm.Cond.instanceMethod ({ cls := "SwollenHouse$Passed", name := "isDone", desc := "(LSwollenHouse;LSwollenHouse$State;)Z" } : Jvm.MethodName)) ∈ lw_all := lw_g (lw_at lw_m6 15 rfl) rfl
theorem q1342 : (Jvm.Cond.code ({ cls := "SwollenHouse$Passed", name := "isDone", desc := "(LSwollenHouse;LSwollenHouse$State;)Z" } : Jvm.MethodName) prog_14_method_2_code (3 : Nat) (Option.some Jvm.ClassFile.FieldType.boolean)) ∈ lw_all := lw_g (lw_at lw_m6 16 rfl) rfl
theorem q1343 : (Jvm.Cond.methodLink "SwollenHouse$Passed" (19 : Nat) ({ cls := "SwollenHouse$House", name := "damp", desc := "(I)I" } : Jvm.MethodName)) ∈ lw_all := lw_g (lw_at lw_m6 17 rfl) rfl
theorem q1344 : (Jvm.Cond.methodLinkNest "SwollenHouse$Passed" (25 : Nat) ({ cls := "SwollenHouse", name := "passes", desc := "(LSwollenHouse$State;I)V" } : Jvm.MethodName) "SwollenHouse") ∈ lw_tbl := lw_at lw_m6 18 rfl
theorem q2256 : (Jvm.Cond.castable "SwollenHouse$Passed" "SwollenHouse$Line") ∈ lw_tbl := lw_at lw_m9 210 rfl
theorem q2279 : (Jvm.Cond.castable "SwollenHouse$Passed" "java/lang/Object") ∈ lw_tbl := lw_at lw_m9 233 rfl

def RX2 : String := "SwollenHouse$Reader"
def TX2 : u_T := fun k => match k with
  | 0 => ("SwollenHouse$Reader", "text", "[B", false)
  | 1 => ("SwollenHouse$Reader", "size", "I", false)
  | 2 => ("SwollenHouse$Reader", "to", "I", false)
  | 3 => ("SwollenHouse$Reader", "kind", "I", false)
  | 4 => ("SwollenHouse$Reader", "from", "I", false)
  | 5 => ("SwollenHouse$Reader", "value", "I", false)
  | 6 => ("SwollenHouse$Reader", "within", "I", false)
  | _ => ("SwollenHouse$Reader", "house", "LSwollenHouse$House;", false)
def tyX2 : Nat → FieldType := fun k => match k with
  | 0 => .array .byte
  | 1 => .int
  | 2 => .int
  | 3 => .int
  | 4 => .int
  | 5 => .int
  | 6 => .int
  | _ => .object "SwollenHouse$House"
abbrev wsX20 : List Cond := u_ws RX2 TX2 8
theorem nmX2 : ∀ a, a < 8 → ∀ b, b < 8 → a ≠ b → (TX2 a).2.1 ≠ (TX2 b).2.1 := by decide +kernel
theorem tyX2_ok : ∀ k, k < 8 → parseFieldDescriptor (TX2 k).2.2.1 = some (tyX2 k) := by decide +kernel
abbrev bcX2_init : ByteArray := prog_17_method_1_code
def yX2_init : MethodName := ⟨RX2, "<init>", "()V"⟩
abbrev bcX2_begin : ByteArray := prog_17_method_2_code
def yX2_begin : MethodName := ⟨RX2, "begin", "([BI)V"⟩
abbrev bcX2_next : ByteArray := prog_17_method_6_code
def yX2_next : MethodName := ⟨RX2, "next", "()V"⟩
abbrev bcX2_at : ByteArray := prog_17_method_3_code
def yX2_at : MethodName := ⟨RX2, "at", "(I)I"⟩
abbrev bcX2_isLetter : ByteArray := prog_17_method_4_code
def yX2_isLetter : MethodName := ⟨RX2, "isLetter", "(I)Z"⟩
abbrev bcX2_isDigit : ByteArray := prog_17_method_5_code
def yX2_isDigit : MethodName := ⟨RX2, "isDigit", "(I)Z"⟩
abbrev bcX2_house : ByteArray := prog_17_method_21_code
def yX2_house : MethodName := ⟨RX2, "house", "()LSwollenHouse$House;"⟩
abbrev bcX2_which : ByteArray := prog_17_method_8_code
def yX2_which : MethodName := ⟨RX2, "which", "(Ljava/lang/String;)I"⟩
abbrev bcX2_wrong : ByteArray := prog_17_method_7_code
def yX2_wrong : MethodName := ⟨RX2, "wrong", "(I)LSwollenHouse$Wrong;"⟩
abbrev bcX2_isFull : ByteArray := prog_17_method_20_code
def yX2_isFull : MethodName := ⟨RX2, "isFull", "(I)Z"⟩
abbrev bcX2_line : ByteArray := prog_17_method_22_code
def yX2_line : MethodName := ⟨RX2, "line", "(I)V"⟩
abbrev bcX2_fresh : ByteArray := prog_17_method_14_code
def yX2_fresh : MethodName := ⟨RX2, "fresh", "()Ljava/lang/String;"⟩
abbrev bcX2_name : ByteArray := prog_17_method_13_code
def yX2_name : MethodName := ⟨RX2, "name", "()Ljava/lang/String;"⟩
abbrev bcX2_door : ByteArray := prog_17_method_23_code
def yX2_door : MethodName := ⟨RX2, "door", "()LSwollenHouse$Door;"⟩
abbrev bcX2_passed : ByteArray := prog_17_method_19_code
def yX2_passed : MethodName := ⟨RX2, "passed", "(Ljava/util/ArrayList;)I"⟩
abbrev bcX2_told : ByteArray := prog_17_method_18_code
def yX2_told : MethodName := ⟨RX2, "told", "(Ljava/util/ArrayList;)I"⟩
abbrev bcX2_one : ByteArray := prog_17_method_16_code
def yX2_one : MethodName := ⟨RX2, "one", "(Ljava/lang/String;)I"⟩
abbrev bcX2_number : ByteArray := prog_17_method_15_code
def yX2_number : MethodName := ⟨RX2, "number", "(Ljava/lang/String;II)I"⟩
abbrev bcX2_need : ByteArray := prog_17_method_9_code
def yX2_need : MethodName := ⟨RX2, "need", "(Ljava/lang/String;)V"⟩
abbrev bcX2_number_2 : ByteArray := prog_17_method_12_code
def yX2_number_2 : MethodName := ⟨RX2, "number", "(II)I"⟩
abbrev bcX2_ahead : ByteArray := prog_17_method_17_code
def yX2_ahead : MethodName := ⟨RX2, "ahead", "(II)I"⟩
abbrev bcX2_isSign : ByteArray := prog_17_method_10_code
def yX2_isSign : MethodName := ⟨RX2, "isSign", "(C)Z"⟩
abbrev bcX2_expression : ByteArray := prog_17_method_26_code
def yX2_expression : MethodName := ⟨RX2, "expression", "()LSwollenHouse$Expression;"⟩
abbrev bcX2_test : ByteArray := prog_17_method_27_code
def yX2_test : MethodName := ⟨RX2, "test", "()LSwollenHouse$Expression;"⟩
abbrev bcX2_sum : ByteArray := prog_17_method_28_code
def yX2_sum : MethodName := ⟨RX2, "sum", "()LSwollenHouse$Expression;"⟩
abbrev bcX2_product : ByteArray := prog_17_method_29_code
def yX2_product : MethodName := ⟨RX2, "product", "()LSwollenHouse$Expression;"⟩
abbrev bcX2_part : ByteArray := prog_17_method_30_code
def yX2_part : MethodName := ⟨RX2, "part", "()LSwollenHouse$Expression;"⟩
abbrev bcX2_need_2 : ByteArray := prog_17_method_11_code
def yX2_need_2 : MethodName := ⟨RX2, "need", "(C)V"⟩
abbrev bcX2_days : ByteArray := prog_17_method_24_code
def yX2_days : MethodName := ⟨RX2, "days", "(LSwollenHouse$House;)Ljava/util/ArrayList;"⟩
abbrev bcX2_done : ByteArray := prog_17_method_25_code
def yX2_done : MethodName := ⟨RX2, "done", "(I)LSwollenHouse$Line;"⟩
theorem q128 : (Jvm.Cond.initialized "SwollenHouse$Reader") ∈ lw_all := lw_g (lw_at lw_m1 2 rfl) rfl
theorem q180 : (Jvm.Cond.instantiable "SwollenHouse$Reader" (8 : Nat)) ∈ lw_all := lw_g (lw_at lw_m1 54 rfl) rfl
theorem q182 : (Jvm.Cond.instanceMethod ({ cls := "SwollenHouse$Reader", name := "<init>", desc := "()V" } : Jvm.MethodName)) ∈ lw_all := lw_g (lw_at lw_m1 56 rfl) rfl
theorem q183 : (Jvm.Cond.code ({ cls := "SwollenHouse$Reader", name := "<init>", desc := "()V" } : Jvm.MethodName) prog_17_method_1_code (1 : Nat) (Option.none : Option Jvm.ClassFile.FieldType)) ∈ lw_all := lw_g (lw_at lw_m1 57 rfl) rfl
theorem q184 : (Jvm.Cond.methodLink "SwollenHouse$Reader" (3 : Nat) ({ cls := "java/lang/Object", name := "<init>", desc := "()V" } : Jvm.MethodName)) ∈ lw_all := lw_g (lw_at lw_m1 58 rfl) rfl
theorem q185 : (Jvm.Cond.fieldLink "SwollenHouse$Reader" (9 : Nat) "SwollenHouse$Reader" "text" "[B") ∈ lw_all := lw_g (lw_at lw_m1 59 rfl) rfl
theorem q186 : (Jvm.Cond.fieldLink "SwollenHouse$Reader" (15 : Nat) "SwollenHouse$Reader" "size" "I") ∈ lw_all := lw_g (lw_at lw_m1 60 rfl) rfl
theorem q187 : (Jvm.Cond.fieldLink "SwollenHouse$Reader" (19 : Nat) "SwollenHouse$Reader" "to" "I") ∈ lw_all := lw_g (lw_at lw_m1 61 rfl) rfl
theorem q188 : (Jvm.Cond.fieldLink "SwollenHouse$Reader" (31 : Nat) "SwollenHouse$Reader" "kind" "I") ∈ lw_all := lw_g (lw_at lw_m1 62 rfl) rfl
theorem q189 : (Jvm.Cond.fieldLink "SwollenHouse$Reader" (28 : Nat) "SwollenHouse$Reader" "from" "I") ∈ lw_all := lw_g (lw_at lw_m1 63 rfl) rfl
theorem q190 : (Jvm.Cond.fieldLink "SwollenHouse$Reader" (45 : Nat) "SwollenHouse$Reader" "value" "I") ∈ lw_all := lw_g (lw_at lw_m1 64 rfl) rfl
theorem q191 : (Jvm.Cond.fieldLink "SwollenHouse$Reader" (22 : Nat) "SwollenHouse$Reader" "within" "I") ∈ lw_all := lw_g (lw_at lw_m1 65 rfl) rfl
theorem q192 : (Jvm.Cond.fieldLink "SwollenHouse$Reader" (101 : Nat) "SwollenHouse$Reader" "house" "LSwollenHouse$House;") ∈ lw_all := lw_g (lw_at lw_m1 66 rfl) rfl
theorem q193 : (Jvm.Cond.lays "SwollenHouse$Reader" "SwollenHouse$Reader" "text" "[B") ∈ lw_all := lw_g (lw_at lw_m1 67 rfl) rfl
theorem q194 : (Jvm.Cond.soleField "SwollenHouse$Reader" "text") ∈ lw_all := lw_g (lw_at lw_m1 68 rfl) rfl
theorem q195 : (Jvm.Cond.lays "SwollenHouse$Reader" "SwollenHouse$Reader" "size" "I") ∈ lw_all := lw_g (lw_at lw_m1 69 rfl) rfl
theorem q196 : (Jvm.Cond.soleField "SwollenHouse$Reader" "size") ∈ lw_all := lw_g (lw_at lw_m1 70 rfl) rfl
theorem q197 : (Jvm.Cond.lays "SwollenHouse$Reader" "SwollenHouse$Reader" "to" "I") ∈ lw_all := lw_g (lw_at lw_m1 71 rfl) rfl
theorem q198 : (Jvm.Cond.soleField "SwollenHouse$Reader" "to") ∈ lw_all := lw_g (lw_at lw_m1 72 rfl) rfl
theorem q199 : (Jvm.Cond.lays "SwollenHouse$Reader" "SwollenHouse$Reader" "kind" "I") ∈ lw_all := lw_g (lw_at lw_m1 73 rfl) rfl
theorem q200 : (Jvm.Cond.soleField "SwollenHouse$Reader" "kind") ∈ lw_all := lw_g (lw_at lw_m1 74 rfl) rfl
theorem q201 : (Jvm.Cond.lays "SwollenHouse$Reader" "SwollenHouse$Reader" "from" "I") ∈ lw_all := lw_g (lw_at lw_m1 75 rfl) rfl
theorem q202 : (Jvm.Cond.soleField "SwollenHouse$Reader" "from") ∈ lw_all := lw_g (lw_at lw_m1 76 rfl) rfl
theorem q203 : (Jvm.Cond.lays "SwollenHouse$Reader" "SwollenHouse$Reader" "value" "I") ∈ lw_all := lw_g (lw_at lw_m1 77 rfl) rfl
theorem q204 : (Jvm.Cond.soleField "SwollenHouse$Reader" "value") ∈ lw_all := lw_g (lw_at lw_m1 78 rfl) rfl
theorem q205 : (Jvm.Cond.lays "SwollenHouse$Reader" "SwollenHouse$Reader" "within" "I") ∈ lw_all := lw_g (lw_at lw_m1 79 rfl) rfl
theorem q206 : (Jvm.Cond.soleField "SwollenHouse$Reader" "within") ∈ lw_all := lw_g (lw_at lw_m1 80 rfl) rfl
theorem q207 : (Jvm.Cond.lays "SwollenHouse$Reader" "SwollenHouse$Reader" "house" "LSwollenHouse$House;") ∈ lw_all := lw_g (lw_at lw_m1 81 rfl) rfl
theorem q208 : (Jvm.Cond.soleField "SwollenHouse$Reader" "house") ∈ lw_all := lw_g (lw_at lw_m1 82 rfl) rfl
theorem q209 : (Jvm.Cond.superclass "SwollenHouse$Reader" "java/lang/Object") ∈ lw_all := lw_g (lw_at lw_m1 83 rfl) rfl
theorem q247 : (Jvm.Cond.fieldLinkNest "SwollenHouse$Reader" (105 : Nat) "SwollenHouse$House" "rooms" "Ljava/util/ArrayList;" "SwollenHouse") ∈ lw_tbl := lw_at lw_m1 121 rfl
theorem q249 : (Jvm.Cond.fieldLinkNest "SwollenHouse$Reader" (115 : Nat) "SwollenHouse$House" "people" "Ljava/util/ArrayList;" "SwollenHouse") ∈ lw_tbl := lw_at lw_m1 123 rfl
theorem q254 : (Jvm.Cond.fieldLinkNest "SwollenHouse$Reader" (137 : Nat) "SwollenHouse$House" "doors" "Ljava/util/ArrayList;" "SwollenHouse") ∈ lw_tbl := lw_at lw_m1 128 rfl
theorem q257 : (Jvm.Cond.fieldLinkNest "SwollenHouse$Reader" (172 : Nat) "SwollenHouse$House" "at" "[I" "SwollenHouse") ∈ lw_tbl := lw_at lw_m1 131 rfl
theorem q259 : (Jvm.Cond.fieldLinkNest "SwollenHouse$Reader" (181 : Nat) "SwollenHouse$House" "damps" "[I" "SwollenHouse") ∈ lw_tbl := lw_at lw_m1 133 rfl
theorem q261 : (Jvm.Cond.fieldLinkNest "SwollenHouse$Reader" (143 : Nat) "SwollenHouse$House" "many" "I" "SwollenHouse") ∈ lw_tbl := lw_at lw_m1 135 rfl
theorem q263 : (Jvm.Cond.fieldLinkNest "SwollenHouse$Reader" (146 : Nat) "SwollenHouse$House" "swells" "LSwollenHouse$Expression;" "SwollenHouse") ∈ lw_tbl := lw_at lw_m1 137 rfl
theorem q428 : (Jvm.Cond.instanceMethod ({ cls := "SwollenHouse$Reader", name := "begin", desc := "([BI)V" } : Jvm.MethodName)) ∈ lw_all := lw_g (lw_at lw_m2 62 rfl) rfl
theorem q429 : (Jvm.Cond.selects "SwollenHouse$Reader" ({ cls := "SwollenHouse$Reader", name := "begin", desc := "([BI)V" } : Jvm.MethodName) ({ cls := "SwollenHouse$Reader", name := "begin", desc := "([BI)V" } : Jvm.MethodName)) ∈ lw_all := lw_g (lw_at lw_m2 63 rfl) rfl
theorem q430 : (Jvm.Cond.code ({ cls := "SwollenHouse$Reader", name := "begin", desc := "([BI)V" } : Jvm.MethodName) prog_17_method_2_code (3 : Nat) (Option.none : Option Jvm.ClassFile.FieldType)) ∈ lw_all := lw_g (lw_at lw_m2 64 rfl) rfl
theorem q431 : (Jvm.Cond.methodLink "SwollenHouse$Reader" (25 : Nat) ({ cls := "SwollenHouse$Reader", name := "next", desc := "()V" } : Jvm.MethodName)) ∈ lw_all := lw_g (lw_at lw_m2 65 rfl) rfl
theorem q432 : (Jvm.Cond.privateMethod ({ cls := "SwollenHouse$Reader", name := "next", desc := "()V" } : Jvm.MethodName)) ∈ lw_tbl := lw_at lw_m2 66 rfl
theorem q433 : (Jvm.Cond.instanceMethod ({ cls := "SwollenHouse$Reader", name := "next", desc := "()V" } : Jvm.MethodName)) ∈ lw_all := lw_g (lw_at lw_m2 67 rfl) rfl
theorem q434 : (Jvm.Cond.code ({ cls := "SwollenHouse$Reader", name := "next", desc := "()V" } : Jvm.MethodName) prog_17_method_6_code (1 : Nat) (Option.none : Option Jvm.ClassFile.FieldType)) ∈ lw_all := lw_g (lw_at lw_m2 68 rfl) rfl
theorem q435 : (Jvm.Cond.methodLink "SwollenHouse$Reader" (34 : Nat) ({ cls := "SwollenHouse$Reader", name := "at", desc := "(I)I" } : Jvm.MethodName)) ∈ lw_all := lw_g (lw_at lw_m2 69 rfl) rfl
theorem q436 : (Jvm.Cond.privateMethod ({ cls := "SwollenHouse$Reader", name := "at", desc := "(I)I" } : Jvm.MethodName)) ∈ lw_tbl := lw_at lw_m2 70 rfl
theorem q437 : (Jvm.Cond.instanceMethod ({ cls := "SwollenHouse$Reader", name := "at", desc := "(I)I" } : Jvm.MethodName)) ∈ lw_all := lw_g (lw_at lw_m2 71 rfl) rfl
theorem q438 : (Jvm.Cond.code ({ cls := "SwollenHouse$Reader", name := "at", desc := "(I)I" } : Jvm.MethodName) prog_17_method_3_code (2 : Nat) (Option.some Jvm.ClassFile.FieldType.int)) ∈ lw_all := lw_g (lw_at lw_m2 72 rfl) rfl
theorem q439 : (Jvm.Cond.methodLink "SwollenHouse$Reader" (38 : Nat) ({ cls := "SwollenHouse$Reader", name := "isLetter", desc := "(I)Z" } : Jvm.MethodName)) ∈ lw_all := lw_g (lw_at lw_m2 73 rfl) rfl
theorem q440 : (Jvm.Cond.static ({ cls := "SwollenHouse$Reader", name := "isLetter", desc := "(I)Z" } : Jvm.MethodName)) ∈ lw_all := lw_g (lw_at lw_m2 74 rfl) rfl
theorem q441 : (Jvm.Cond.code ({ cls := "SwollenHouse$Reader", name := "isLetter", desc := "(I)Z" } : Jvm.MethodName) prog_17_method_4_code (1 : Nat) (Option.some Jvm.ClassFile.FieldType.boolean)) ∈ lw_all := lw_g (lw_at lw_m2 75 rfl) rfl
theorem q442 : (Jvm.Cond.methodLink "SwollenHouse$Reader" (42 : Nat) ({ cls := "SwollenHouse$Reader", name := "isDigit", desc := "(I)Z" } : Jvm.MethodName)) ∈ lw_all := lw_g (lw_at lw_m2 76 rfl) rfl
theorem q443 : (Jvm.Cond.static ({ cls := "SwollenHouse$Reader", name := "isDigit", desc := "(I)Z" } : Jvm.MethodName)) ∈ lw_all := lw_g (lw_at lw_m2 77 rfl) rfl
theorem q444 : (Jvm.Cond.code ({ cls := "SwollenHouse$Reader", name := "isDigit", desc := "(I)Z" } : Jvm.MethodName) prog_17_method_5_code (1 : Nat) (Option.some Jvm.ClassFile.FieldType.boolean)) ∈ lw_all := lw_g (lw_at lw_m2 78 rfl) rfl
theorem q445 : (Jvm.Cond.stringRef "SwollenHouse$Reader" (48 : Nat) "()<=+-*;") ∈ lw_tbl := lw_at lw_m2 79 rfl
theorem q446 : (Jvm.Cond.methodLink "SwollenHouse$Reader" (50 : Nat) ({ cls := "java/lang/String", name := "indexOf", desc := "(I)I" } : Jvm.MethodName)) ∈ lw_all := lw_g (lw_at lw_m2 80 rfl) rfl
theorem q533 : (Jvm.Cond.instanceMethod ({ cls := "SwollenHouse$Reader", name := "house", desc := "()LSwollenHouse$House;" } : Jvm.MethodName)) ∈ lw_all := lw_g (lw_at lw_m2 167 rfl) rfl
theorem q534 : (Jvm.Cond.selects "SwollenHouse$Reader" ({ cls := "SwollenHouse$Reader", name := "house", desc := "()LSwollenHouse$House;" } : Jvm.MethodName) ({ cls := "SwollenHouse$Reader", name := "house", desc := "()LSwollenHouse$House;" } : Jvm.MethodName)) ∈ lw_all := lw_g (lw_at lw_m2 168 rfl) rfl
theorem q535 : (Jvm.Cond.code ({ cls := "SwollenHouse$Reader", name := "house", desc := "()LSwollenHouse$House;" } : Jvm.MethodName) prog_17_method_21_code (2 : Nat) (Option.some (Jvm.ClassFile.FieldType.object "SwollenHouse$House"))) ∈ lw_all := lw_g (lw_at lw_m2 169 rfl) rfl
theorem q536 : (Jvm.Cond.classLink "SwollenHouse$Reader" (106 : Nat) "SwollenHouse$House") ∈ lw_all := lw_g (lw_at lw_m2 170 rfl) rfl
theorem q537 : (Jvm.Cond.methodLinkNest "SwollenHouse$Reader" (140 : Nat) ({ cls := "SwollenHouse$House", name := "<init>", desc := "()V" } : Jvm.MethodName) "SwollenHouse") ∈ lw_tbl := lw_at lw_m2 171 rfl
theorem q538 : (Jvm.Cond.stringRef "SwollenHouse$Reader" (141 : Nat) "room door person damp swells ") ∈ lw_tbl := lw_at lw_m2 172 rfl
theorem q539 : (Jvm.Cond.methodLink "SwollenHouse$Reader" (71 : Nat) ({ cls := "SwollenHouse$Reader", name := "which", desc := "(Ljava/lang/String;)I" } : Jvm.MethodName)) ∈ lw_all := lw_g (lw_at lw_m2 173 rfl) rfl
theorem q540 : (Jvm.Cond.privateMethod ({ cls := "SwollenHouse$Reader", name := "which", desc := "(Ljava/lang/String;)I" } : Jvm.MethodName)) ∈ lw_tbl := lw_at lw_m2 174 rfl
theorem q541 : (Jvm.Cond.instanceMethod ({ cls := "SwollenHouse$Reader", name := "which", desc := "(Ljava/lang/String;)I" } : Jvm.MethodName)) ∈ lw_all := lw_g (lw_at lw_m2 175 rfl) rfl
theorem q542 : (Jvm.Cond.code ({ cls := "SwollenHouse$Reader", name := "which", desc := "(Ljava/lang/String;)I" } : Jvm.MethodName) prog_17_method_8_code (7 : Nat) (Option.some Jvm.ClassFile.FieldType.int)) ∈ lw_all := lw_g (lw_at lw_m2 176 rfl) rfl
theorem q543 : (Jvm.Cond.methodLink "SwollenHouse$Reader" (60 : Nat) ({ cls := "java/lang/String", name := "length", desc := "()I" } : Jvm.MethodName)) ∈ lw_all := lw_g (lw_at lw_m2 177 rfl) rfl
theorem q544 : (Jvm.Cond.methodLink "SwollenHouse$Reader" (64 : Nat) ({ cls := "java/lang/String", name := "indexOf", desc := "(II)I" } : Jvm.MethodName)) ∈ lw_all := lw_g (lw_at lw_m2 178 rfl) rfl
theorem q545 : (Jvm.Cond.methodLink "SwollenHouse$Reader" (67 : Nat) ({ cls := "java/lang/String", name := "charAt", desc := "(I)C" } : Jvm.MethodName)) ∈ lw_all := lw_g (lw_at lw_m2 179 rfl) rfl
theorem q563 : (Jvm.Cond.methodLink "SwollenHouse$Reader" (75 : Nat) ({ cls := "SwollenHouse$Reader", name := "wrong", desc := "(I)LSwollenHouse$Wrong;" } : Jvm.MethodName)) ∈ lw_all := lw_g (lw_at lw_m2 197 rfl) rfl
theorem q564 : (Jvm.Cond.privateMethod ({ cls := "SwollenHouse$Reader", name := "wrong", desc := "(I)LSwollenHouse$Wrong;" } : Jvm.MethodName)) ∈ lw_tbl := lw_at lw_m2 198 rfl
theorem q565 : (Jvm.Cond.instanceMethod ({ cls := "SwollenHouse$Reader", name := "wrong", desc := "(I)LSwollenHouse$Wrong;" } : Jvm.MethodName)) ∈ lw_all := lw_g (lw_at lw_m2 199 rfl) rfl
theorem q566 : (Jvm.Cond.code ({ cls := "SwollenHouse$Reader", name := "wrong", desc := "(I)LSwollenHouse$Wrong;" } : Jvm.MethodName) prog_17_method_7_code (2 : Nat) (Option.some (Jvm.ClassFile.FieldType.object "SwollenHouse$Wrong"))) ∈ lw_all := lw_g (lw_at lw_m2 200 rfl) rfl
theorem q567 : (Jvm.Cond.classLink "SwollenHouse$Reader" (55 : Nat) "SwollenHouse$Wrong") ∈ lw_all := lw_g (lw_at lw_m2 201 rfl) rfl
theorem q607 : (Jvm.Cond.methodLink "SwollenHouse$Reader" (57 : Nat) ({ cls := "SwollenHouse$Wrong", name := "<init>", desc := "(II)V" } : Jvm.MethodName)) ∈ lw_all := lw_g (lw_at lw_m3 1 rfl) rfl
theorem q636 : (Jvm.Cond.methodLink "SwollenHouse$Reader" (150 : Nat) ({ cls := "SwollenHouse$Reader", name := "isFull", desc := "(I)Z" } : Jvm.MethodName)) ∈ lw_all := lw_g (lw_at lw_m3 30 rfl) rfl
theorem q637 : (Jvm.Cond.privateMethod ({ cls := "SwollenHouse$Reader", name := "isFull", desc := "(I)Z" } : Jvm.MethodName)) ∈ lw_tbl := lw_at lw_m3 31 rfl
theorem q638 : (Jvm.Cond.instanceMethod ({ cls := "SwollenHouse$Reader", name := "isFull", desc := "(I)Z" } : Jvm.MethodName)) ∈ lw_all := lw_g (lw_at lw_m3 32 rfl) rfl
theorem q639 : (Jvm.Cond.code ({ cls := "SwollenHouse$Reader", name := "isFull", desc := "(I)Z" } : Jvm.MethodName) prog_17_method_20_code (2 : Nat) (Option.some Jvm.ClassFile.FieldType.boolean)) ∈ lw_all := lw_g (lw_at lw_m3 33 rfl) rfl
theorem q640 : (Jvm.Cond.methodLink "SwollenHouse$Reader" (133 : Nat) ({ cls := "java/util/ArrayList", name := "size", desc := "()I" } : Jvm.MethodName)) ∈ lw_all := lw_g (lw_at lw_m3 34 rfl) rfl
theorem q641 : (Jvm.Cond.methodLink "SwollenHouse$Reader" (153 : Nat) ({ cls := "SwollenHouse$Reader", name := "line", desc := "(I)V" } : Jvm.MethodName)) ∈ lw_all := lw_g (lw_at lw_m3 35 rfl) rfl
theorem q642 : (Jvm.Cond.privateMethod ({ cls := "SwollenHouse$Reader", name := "line", desc := "(I)V" } : Jvm.MethodName)) ∈ lw_tbl := lw_at lw_m3 36 rfl
theorem q643 : (Jvm.Cond.instanceMethod ({ cls := "SwollenHouse$Reader", name := "line", desc := "(I)V" } : Jvm.MethodName)) ∈ lw_all := lw_g (lw_at lw_m3 37 rfl) rfl
theorem q644 : (Jvm.Cond.code ({ cls := "SwollenHouse$Reader", name := "line", desc := "(I)V" } : Jvm.MethodName) prog_17_method_22_code (3 : Nat) (Option.none : Option Jvm.ClassFile.FieldType)) ∈ lw_all := lw_g (lw_at lw_m3 38 rfl) rfl
theorem q645 : (Jvm.Cond.methodLink "SwollenHouse$Reader" (159 : Nat) ({ cls := "SwollenHouse$Reader", name := "fresh", desc := "()Ljava/lang/String;" } : Jvm.MethodName)) ∈ lw_all := lw_g (lw_at lw_m3 39 rfl) rfl
theorem q646 : (Jvm.Cond.privateMethod ({ cls := "SwollenHouse$Reader", name := "fresh", desc := "()Ljava/lang/String;" } : Jvm.MethodName)) ∈ lw_tbl := lw_at lw_m3 40 rfl
theorem q647 : (Jvm.Cond.instanceMethod ({ cls := "SwollenHouse$Reader", name := "fresh", desc := "()Ljava/lang/String;" } : Jvm.MethodName)) ∈ lw_all := lw_g (lw_at lw_m3 41 rfl) rfl
theorem q648 : (Jvm.Cond.code ({ cls := "SwollenHouse$Reader", name := "fresh", desc := "()Ljava/lang/String;" } : Jvm.MethodName) prog_17_method_14_code (2 : Nat) (Option.some (Jvm.ClassFile.FieldType.object "java/lang/String"))) ∈ lw_all := lw_g (lw_at lw_m3 42 rfl) rfl
theorem q649 : (Jvm.Cond.methodLink "SwollenHouse$Reader" (98 : Nat) ({ cls := "SwollenHouse$Reader", name := "name", desc := "()Ljava/lang/String;" } : Jvm.MethodName)) ∈ lw_all := lw_g (lw_at lw_m3 43 rfl) rfl
theorem q650 : (Jvm.Cond.privateMethod ({ cls := "SwollenHouse$Reader", name := "name", desc := "()Ljava/lang/String;" } : Jvm.MethodName)) ∈ lw_tbl := lw_at lw_m3 44 rfl
theorem q651 : (Jvm.Cond.instanceMethod ({ cls := "SwollenHouse$Reader", name := "name", desc := "()Ljava/lang/String;" } : Jvm.MethodName)) ∈ lw_all := lw_g (lw_at lw_m3 45 rfl) rfl
theorem q652 : (Jvm.Cond.code ({ cls := "SwollenHouse$Reader", name := "name", desc := "()Ljava/lang/String;" } : Jvm.MethodName) prog_17_method_13_code (3 : Nat) (Option.some (Jvm.ClassFile.FieldType.object "java/lang/String"))) ∈ lw_all := lw_g (lw_at lw_m3 46 rfl) rfl
theorem q653 : (Jvm.Cond.stringRef "SwollenHouse$Reader" (83 : Nat) "room door gap person in damp swells day walk plane wedge force oak pine elm lime not and or ") ∈ lw_tbl := lw_at lw_m3 47 rfl
theorem q654 : (Jvm.Cond.classLink "SwollenHouse$Reader" (85 : Nat) "java/lang/StringBuilder") ∈ lw_all := lw_g (lw_at lw_m3 48 rfl) rfl
theorem q656 : (Jvm.Cond.methodLink "SwollenHouse$Reader" (87 : Nat) ({ cls := "java/lang/StringBuilder", name := "<init>", desc := "(I)V" } : Jvm.MethodName)) ∈ lw_all := lw_g (lw_at lw_m3 50 rfl) rfl
theorem q684 : (Jvm.Cond.methodLink "SwollenHouse$Reader" (90 : Nat) ({ cls := "java/lang/StringBuilder", name := "append", desc := "(C)Ljava/lang/StringBuilder;" } : Jvm.MethodName)) ∈ lw_all := lw_g (lw_at lw_m3 78 rfl) rfl
theorem q755 : (Jvm.Cond.methodLink "SwollenHouse$Reader" (94 : Nat) ({ cls := "java/lang/StringBuilder", name := "toString", desc := "()Ljava/lang/String;" } : Jvm.MethodName)) ∈ lw_all := lw_g (lw_at lw_m3 149 rfl) rfl
theorem q812 : (Jvm.Cond.methodLinkNest "SwollenHouse$Reader" (111 : Nat) ({ cls := "SwollenHouse$House", name := "place", desc := "(Ljava/util/ArrayList;Ljava/lang/String;)I" } : Jvm.MethodName) "SwollenHouse") ∈ lw_tbl := lw_at lw_m3 206 rfl
theorem q826 : (Jvm.Cond.methodLink "SwollenHouse$Reader" (162 : Nat) ({ cls := "java/util/ArrayList", name := "add", desc := "(Ljava/lang/Object;)Z" } : Jvm.MethodName)) ∈ lw_all := lw_g (lw_at lw_m3 220 rfl) rfl
theorem q865 : (Jvm.Cond.selects "SwollenHouse$Reader" ({ cls := "java/lang/Object", name := "getClass", desc := "()Ljava/lang/Class;" } : Jvm.MethodName) ({ cls := "java/lang/Object", name := "getClass", desc := "()Ljava/lang/Class;" } : Jvm.MethodName)) ∈ lw_all := lw_g (lw_at lw_m4 19 rfl) rfl
theorem q883 : (Jvm.Cond.methodLink "SwollenHouse$Reader" (166 : Nat) ({ cls := "SwollenHouse$Reader", name := "door", desc := "()LSwollenHouse$Door;" } : Jvm.MethodName)) ∈ lw_all := lw_g (lw_at lw_m4 37 rfl) rfl
theorem q884 : (Jvm.Cond.privateMethod ({ cls := "SwollenHouse$Reader", name := "door", desc := "()LSwollenHouse$Door;" } : Jvm.MethodName)) ∈ lw_tbl := lw_at lw_m4 38 rfl
theorem q885 : (Jvm.Cond.instanceMethod ({ cls := "SwollenHouse$Reader", name := "door", desc := "()LSwollenHouse$Door;" } : Jvm.MethodName)) ∈ lw_all := lw_g (lw_at lw_m4 39 rfl) rfl
theorem q886 : (Jvm.Cond.code ({ cls := "SwollenHouse$Reader", name := "door", desc := "()LSwollenHouse$Door;" } : Jvm.MethodName) prog_17_method_23_code (5 : Nat) (Option.some (Jvm.ClassFile.FieldType.object "SwollenHouse$Door"))) ∈ lw_all := lw_g (lw_at lw_m4 40 rfl) rfl
theorem q887 : (Jvm.Cond.methodLink "SwollenHouse$Reader" (175 : Nat) ({ cls := "SwollenHouse$Reader", name := "passed", desc := "(Ljava/util/ArrayList;)I" } : Jvm.MethodName)) ∈ lw_all := lw_g (lw_at lw_m4 41 rfl) rfl
theorem q888 : (Jvm.Cond.privateMethod ({ cls := "SwollenHouse$Reader", name := "passed", desc := "(Ljava/util/ArrayList;)I" } : Jvm.MethodName)) ∈ lw_tbl := lw_at lw_m4 42 rfl
theorem q889 : (Jvm.Cond.instanceMethod ({ cls := "SwollenHouse$Reader", name := "passed", desc := "(Ljava/util/ArrayList;)I" } : Jvm.MethodName)) ∈ lw_all := lw_g (lw_at lw_m4 43 rfl) rfl
theorem q890 : (Jvm.Cond.code ({ cls := "SwollenHouse$Reader", name := "passed", desc := "(Ljava/util/ArrayList;)I" } : Jvm.MethodName) prog_17_method_19_code (3 : Nat) (Option.some Jvm.ClassFile.FieldType.int)) ∈ lw_all := lw_g (lw_at lw_m4 44 rfl) rfl
theorem q891 : (Jvm.Cond.methodLink "SwollenHouse$Reader" (129 : Nat) ({ cls := "SwollenHouse$Reader", name := "told", desc := "(Ljava/util/ArrayList;)I" } : Jvm.MethodName)) ∈ lw_all := lw_g (lw_at lw_m4 45 rfl) rfl
theorem q892 : (Jvm.Cond.privateMethod ({ cls := "SwollenHouse$Reader", name := "told", desc := "(Ljava/util/ArrayList;)I" } : Jvm.MethodName)) ∈ lw_tbl := lw_at lw_m4 46 rfl
theorem q893 : (Jvm.Cond.instanceMethod ({ cls := "SwollenHouse$Reader", name := "told", desc := "(Ljava/util/ArrayList;)I" } : Jvm.MethodName)) ∈ lw_all := lw_g (lw_at lw_m4 47 rfl) rfl
theorem q894 : (Jvm.Cond.code ({ cls := "SwollenHouse$Reader", name := "told", desc := "(Ljava/util/ArrayList;)I" } : Jvm.MethodName) prog_17_method_18_code (3 : Nat) (Option.some Jvm.ClassFile.FieldType.int)) ∈ lw_all := lw_g (lw_at lw_m4 48 rfl) rfl
theorem q895 : (Jvm.Cond.methodLink "SwollenHouse$Reader" (188 : Nat) ({ cls := "SwollenHouse$House", name := "areJoined", desc := "(II)Z" } : Jvm.MethodName)) ∈ lw_all := lw_g (lw_at lw_m4 49 rfl) rfl
theorem q904 : (Jvm.Cond.classLink "SwollenHouse$Reader" (192 : Nat) "SwollenHouse$Door") ∈ lw_all := lw_g (lw_at lw_m4 58 rfl) rfl
theorem q906 : (Jvm.Cond.methodLink "SwollenHouse$Reader" (194 : Nat) ({ cls := "SwollenHouse$Door", name := "<init>", desc := "(II)V" } : Jvm.MethodName)) ∈ lw_all := lw_g (lw_at lw_m4 60 rfl) rfl
theorem q915 : (Jvm.Cond.fieldLinkNest "SwollenHouse$Reader" (212 : Nat) "SwollenHouse$Door" "wood" "LSwollenHouse$Wood;" "SwollenHouse") ∈ lw_tbl := lw_at lw_m4 69 rfl
theorem q917 : (Jvm.Cond.fieldLinkNest "SwollenHouse$Reader" (221 : Nat) "SwollenHouse$Door" "gap" "I" "SwollenHouse") ∈ lw_tbl := lw_at lw_m4 71 rfl
theorem q927 : (Jvm.Cond.stringRef "SwollenHouse$Reader" (195 : Nat) "oak pine elm lime ") ∈ lw_tbl := lw_at lw_m4 81 rfl
theorem q928 : (Jvm.Cond.methodLink "SwollenHouse$Reader" (197 : Nat) ({ cls := "SwollenHouse$Reader", name := "one", desc := "(Ljava/lang/String;)I" } : Jvm.MethodName)) ∈ lw_all := lw_g (lw_at lw_m4 82 rfl) rfl
theorem q929 : (Jvm.Cond.privateMethod ({ cls := "SwollenHouse$Reader", name := "one", desc := "(Ljava/lang/String;)I" } : Jvm.MethodName)) ∈ lw_tbl := lw_at lw_m4 83 rfl
theorem q930 : (Jvm.Cond.instanceMethod ({ cls := "SwollenHouse$Reader", name := "one", desc := "(Ljava/lang/String;)I" } : Jvm.MethodName)) ∈ lw_all := lw_g (lw_at lw_m4 84 rfl) rfl
theorem q931 : (Jvm.Cond.code ({ cls := "SwollenHouse$Reader", name := "one", desc := "(Ljava/lang/String;)I" } : Jvm.MethodName) prog_17_method_16_code (3 : Nat) (Option.some Jvm.ClassFile.FieldType.int)) ∈ lw_all := lw_g (lw_at lw_m4 85 rfl) rfl
theorem q932 : (Jvm.Cond.classLink "SwollenHouse$Reader" (200 : Nat) "SwollenHouse$Oak") ∈ lw_all := lw_g (lw_at lw_m4 86 rfl) rfl
theorem q934 : (Jvm.Cond.methodLinkNest "SwollenHouse$Reader" (202 : Nat) ({ cls := "SwollenHouse$Oak", name := "<init>", desc := "()V" } : Jvm.MethodName) "SwollenHouse") ∈ lw_tbl := lw_at lw_m4 88 rfl
theorem q942 : (Jvm.Cond.classLink "SwollenHouse$Reader" (203 : Nat) "SwollenHouse$Pine") ∈ lw_all := lw_g (lw_at lw_m4 96 rfl) rfl
theorem q944 : (Jvm.Cond.methodLinkNest "SwollenHouse$Reader" (205 : Nat) ({ cls := "SwollenHouse$Pine", name := "<init>", desc := "()V" } : Jvm.MethodName) "SwollenHouse") ∈ lw_tbl := lw_at lw_m4 98 rfl
theorem q949 : (Jvm.Cond.classLink "SwollenHouse$Reader" (206 : Nat) "SwollenHouse$Elm") ∈ lw_all := lw_g (lw_at lw_m4 103 rfl) rfl
theorem q951 : (Jvm.Cond.methodLinkNest "SwollenHouse$Reader" (208 : Nat) ({ cls := "SwollenHouse$Elm", name := "<init>", desc := "()V" } : Jvm.MethodName) "SwollenHouse") ∈ lw_tbl := lw_at lw_m4 105 rfl
theorem q956 : (Jvm.Cond.classLink "SwollenHouse$Reader" (209 : Nat) "SwollenHouse$Lime") ∈ lw_all := lw_g (lw_at lw_m4 110 rfl) rfl
theorem q958 : (Jvm.Cond.methodLinkNest "SwollenHouse$Reader" (211 : Nat) ({ cls := "SwollenHouse$Lime", name := "<init>", desc := "()V" } : Jvm.MethodName) "SwollenHouse") ∈ lw_tbl := lw_at lw_m4 112 rfl
theorem q963 : (Jvm.Cond.stringRef "SwollenHouse$Reader" (216 : Nat) "gap ") ∈ lw_tbl := lw_at lw_m4 117 rfl
theorem q964 : (Jvm.Cond.methodLink "SwollenHouse$Reader" (218 : Nat) ({ cls := "SwollenHouse$Reader", name := "number", desc := "(Ljava/lang/String;II)I" } : Jvm.MethodName)) ∈ lw_all := lw_g (lw_at lw_m4 118 rfl) rfl
theorem q965 : (Jvm.Cond.privateMethod ({ cls := "SwollenHouse$Reader", name := "number", desc := "(Ljava/lang/String;II)I" } : Jvm.MethodName)) ∈ lw_tbl := lw_at lw_m4 119 rfl
theorem q966 : (Jvm.Cond.instanceMethod ({ cls := "SwollenHouse$Reader", name := "number", desc := "(Ljava/lang/String;II)I" } : Jvm.MethodName)) ∈ lw_all := lw_g (lw_at lw_m4 120 rfl) rfl
theorem q967 : (Jvm.Cond.code ({ cls := "SwollenHouse$Reader", name := "number", desc := "(Ljava/lang/String;II)I" } : Jvm.MethodName) prog_17_method_15_code (4 : Nat) (Option.some Jvm.ClassFile.FieldType.int)) ∈ lw_all := lw_g (lw_at lw_m4 121 rfl) rfl
theorem q968 : (Jvm.Cond.methodLink "SwollenHouse$Reader" (118 : Nat) ({ cls := "SwollenHouse$Reader", name := "need", desc := "(Ljava/lang/String;)V" } : Jvm.MethodName)) ∈ lw_all := lw_g (lw_at lw_m4 122 rfl) rfl
theorem q969 : (Jvm.Cond.privateMethod ({ cls := "SwollenHouse$Reader", name := "need", desc := "(Ljava/lang/String;)V" } : Jvm.MethodName)) ∈ lw_tbl := lw_at lw_m4 123 rfl
theorem q970 : (Jvm.Cond.instanceMethod ({ cls := "SwollenHouse$Reader", name := "need", desc := "(Ljava/lang/String;)V" } : Jvm.MethodName)) ∈ lw_all := lw_g (lw_at lw_m4 124 rfl) rfl
theorem q971 : (Jvm.Cond.code ({ cls := "SwollenHouse$Reader", name := "need", desc := "(Ljava/lang/String;)V" } : Jvm.MethodName) prog_17_method_9_code (2 : Nat) (Option.none : Option Jvm.ClassFile.FieldType)) ∈ lw_all := lw_g (lw_at lw_m4 125 rfl) rfl
theorem q972 : (Jvm.Cond.methodLink "SwollenHouse$Reader" (122 : Nat) ({ cls := "SwollenHouse$Reader", name := "number", desc := "(II)I" } : Jvm.MethodName)) ∈ lw_all := lw_g (lw_at lw_m4 126 rfl) rfl
theorem q973 : (Jvm.Cond.privateMethod ({ cls := "SwollenHouse$Reader", name := "number", desc := "(II)I" } : Jvm.MethodName)) ∈ lw_tbl := lw_at lw_m4 127 rfl
theorem q974 : (Jvm.Cond.instanceMethod ({ cls := "SwollenHouse$Reader", name := "number", desc := "(II)I" } : Jvm.MethodName)) ∈ lw_all := lw_g (lw_at lw_m4 128 rfl) rfl
theorem q975 : (Jvm.Cond.code ({ cls := "SwollenHouse$Reader", name := "number", desc := "(II)I" } : Jvm.MethodName) prog_17_method_12_code (4 : Nat) (Option.some Jvm.ClassFile.FieldType.int)) ∈ lw_all := lw_g (lw_at lw_m4 129 rfl) rfl
theorem q976 : (Jvm.Cond.stringRef "SwollenHouse$Reader" (170 : Nat) "in ") ∈ lw_tbl := lw_at lw_m4 130 rfl
theorem q977 : (Jvm.Cond.methodLink "SwollenHouse$Reader" (178 : Nat) ({ cls := "SwollenHouse$Reader", name := "ahead", desc := "(II)I" } : Jvm.MethodName)) ∈ lw_all := lw_g (lw_at lw_m4 131 rfl) rfl
theorem q978 : (Jvm.Cond.privateMethod ({ cls := "SwollenHouse$Reader", name := "ahead", desc := "(II)I" } : Jvm.MethodName)) ∈ lw_tbl := lw_at lw_m4 132 rfl
theorem q979 : (Jvm.Cond.instanceMethod ({ cls := "SwollenHouse$Reader", name := "ahead", desc := "(II)I" } : Jvm.MethodName)) ∈ lw_all := lw_g (lw_at lw_m4 133 rfl) rfl
theorem q980 : (Jvm.Cond.code ({ cls := "SwollenHouse$Reader", name := "ahead", desc := "(II)I" } : Jvm.MethodName) prog_17_method_17_code (5 : Nat) (Option.some Jvm.ClassFile.FieldType.int)) ∈ lw_all := lw_g (lw_at lw_m4 134 rfl) rfl
theorem q981 : (Jvm.Cond.methodLinkNest "SwollenHouse$Reader" (125 : Nat) ({ cls := "SwollenHouse", name := "in", desc := "(III)Z" } : Jvm.MethodName) "SwollenHouse") ∈ lw_tbl := lw_at lw_m4 135 rfl
theorem q984 : (Jvm.Cond.methodLink "SwollenHouse$Reader" (79 : Nat) ({ cls := "SwollenHouse$Reader", name := "isSign", desc := "(C)Z" } : Jvm.MethodName)) ∈ lw_all := lw_g (lw_at lw_m4 138 rfl) rfl
theorem q985 : (Jvm.Cond.privateMethod ({ cls := "SwollenHouse$Reader", name := "isSign", desc := "(C)Z" } : Jvm.MethodName)) ∈ lw_tbl := lw_at lw_m4 139 rfl
theorem q986 : (Jvm.Cond.instanceMethod ({ cls := "SwollenHouse$Reader", name := "isSign", desc := "(C)Z" } : Jvm.MethodName)) ∈ lw_all := lw_g (lw_at lw_m4 140 rfl) rfl
theorem q987 : (Jvm.Cond.code ({ cls := "SwollenHouse$Reader", name := "isSign", desc := "(C)Z" } : Jvm.MethodName) prog_17_method_10_code (2 : Nat) (Option.some Jvm.ClassFile.FieldType.boolean)) ∈ lw_all := lw_g (lw_at lw_m4 141 rfl) rfl
theorem q988 : (Jvm.Cond.methodLink "SwollenHouse$Reader" (184 : Nat) ({ cls := "SwollenHouse$Reader", name := "expression", desc := "()LSwollenHouse$Expression;" } : Jvm.MethodName)) ∈ lw_all := lw_g (lw_at lw_m4 142 rfl) rfl
theorem q989 : (Jvm.Cond.privateMethod ({ cls := "SwollenHouse$Reader", name := "expression", desc := "()LSwollenHouse$Expression;" } : Jvm.MethodName)) ∈ lw_tbl := lw_at lw_m4 143 rfl
theorem q990 : (Jvm.Cond.instanceMethod ({ cls := "SwollenHouse$Reader", name := "expression", desc := "()LSwollenHouse$Expression;" } : Jvm.MethodName)) ∈ lw_all := lw_g (lw_at lw_m4 144 rfl) rfl
theorem q991 : (Jvm.Cond.code ({ cls := "SwollenHouse$Reader", name := "expression", desc := "()LSwollenHouse$Expression;" } : Jvm.MethodName) prog_17_method_26_code (3 : Nat) (Option.some (Jvm.ClassFile.FieldType.object "SwollenHouse$Expression"))) ∈ lw_all := lw_g (lw_at lw_m4 145 rfl) rfl
theorem q992 : (Jvm.Cond.methodLink "SwollenHouse$Reader" (246 : Nat) ({ cls := "SwollenHouse$Reader", name := "test", desc := "()LSwollenHouse$Expression;" } : Jvm.MethodName)) ∈ lw_all := lw_g (lw_at lw_m4 146 rfl) rfl
theorem q993 : (Jvm.Cond.privateMethod ({ cls := "SwollenHouse$Reader", name := "test", desc := "()LSwollenHouse$Expression;" } : Jvm.MethodName)) ∈ lw_tbl := lw_at lw_m4 147 rfl
theorem q994 : (Jvm.Cond.instanceMethod ({ cls := "SwollenHouse$Reader", name := "test", desc := "()LSwollenHouse$Expression;" } : Jvm.MethodName)) ∈ lw_all := lw_g (lw_at lw_m4 148 rfl) rfl
theorem q995 : (Jvm.Cond.code ({ cls := "SwollenHouse$Reader", name := "test", desc := "()LSwollenHouse$Expression;" } : Jvm.MethodName) prog_17_method_27_code (3 : Nat) (Option.some (Jvm.ClassFile.FieldType.object "SwollenHouse$Expression"))) ∈ lw_all := lw_g (lw_at lw_m4 149 rfl) rfl
theorem q996 : (Jvm.Cond.methodLink "SwollenHouse$Reader" (256 : Nat) ({ cls := "SwollenHouse$Reader", name := "sum", desc := "()LSwollenHouse$Expression;" } : Jvm.MethodName)) ∈ lw_all := lw_g (lw_at lw_m4 150 rfl) rfl
theorem q997 : (Jvm.Cond.privateMethod ({ cls := "SwollenHouse$Reader", name := "sum", desc := "()LSwollenHouse$Expression;" } : Jvm.MethodName)) ∈ lw_tbl := lw_at lw_m4 151 rfl
theorem q998 : (Jvm.Cond.instanceMethod ({ cls := "SwollenHouse$Reader", name := "sum", desc := "()LSwollenHouse$Expression;" } : Jvm.MethodName)) ∈ lw_all := lw_g (lw_at lw_m4 152 rfl) rfl
theorem q999 : (Jvm.Cond.code ({ cls := "SwollenHouse$Reader", name := "sum", desc := "()LSwollenHouse$Expression;" } : Jvm.MethodName) prog_17_method_28_code (3 : Nat) (Option.some (Jvm.ClassFile.FieldType.object "SwollenHouse$Expression"))) ∈ lw_all := lw_g (lw_at lw_m4 153 rfl) rfl
theorem q1000 : (Jvm.Cond.methodLink "SwollenHouse$Reader" (259 : Nat) ({ cls := "SwollenHouse$Reader", name := "product", desc := "()LSwollenHouse$Expression;" } : Jvm.MethodName)) ∈ lw_all := lw_g (lw_at lw_m4 154 rfl) rfl
theorem q1001 : (Jvm.Cond.privateMethod ({ cls := "SwollenHouse$Reader", name := "product", desc := "()LSwollenHouse$Expression;" } : Jvm.MethodName)) ∈ lw_tbl := lw_at lw_m4 155 rfl
theorem q1002 : (Jvm.Cond.instanceMethod ({ cls := "SwollenHouse$Reader", name := "product", desc := "()LSwollenHouse$Expression;" } : Jvm.MethodName)) ∈ lw_all := lw_g (lw_at lw_m4 156 rfl) rfl
theorem q1003 : (Jvm.Cond.code ({ cls := "SwollenHouse$Reader", name := "product", desc := "()LSwollenHouse$Expression;" } : Jvm.MethodName) prog_17_method_29_code (2 : Nat) (Option.some (Jvm.ClassFile.FieldType.object "SwollenHouse$Expression"))) ∈ lw_all := lw_g (lw_at lw_m4 157 rfl) rfl
theorem q1004 : (Jvm.Cond.methodLink "SwollenHouse$Reader" (262 : Nat) ({ cls := "SwollenHouse$Reader", name := "part", desc := "()LSwollenHouse$Expression;" } : Jvm.MethodName)) ∈ lw_all := lw_g (lw_at lw_m4 158 rfl) rfl
theorem q1005 : (Jvm.Cond.privateMethod ({ cls := "SwollenHouse$Reader", name := "part", desc := "()LSwollenHouse$Expression;" } : Jvm.MethodName)) ∈ lw_tbl := lw_at lw_m4 159 rfl
theorem q1006 : (Jvm.Cond.instanceMethod ({ cls := "SwollenHouse$Reader", name := "part", desc := "()LSwollenHouse$Expression;" } : Jvm.MethodName)) ∈ lw_all := lw_g (lw_at lw_m4 160 rfl) rfl
theorem q1007 : (Jvm.Cond.code ({ cls := "SwollenHouse$Reader", name := "part", desc := "()LSwollenHouse$Expression;" } : Jvm.MethodName) prog_17_method_30_code (5 : Nat) (Option.some (Jvm.ClassFile.FieldType.object "SwollenHouse$Expression"))) ∈ lw_all := lw_g (lw_at lw_m4 161 rfl) rfl
theorem q1008 : (Jvm.Cond.stringRef "SwollenHouse$Reader" (265 : Nat) "wet swell space date ") ∈ lw_tbl := lw_at lw_m4 162 rfl
theorem q1009 : (Jvm.Cond.stringRef "SwollenHouse$Reader" (267 : Nat) "not ") ∈ lw_tbl := lw_at lw_m4 163 rfl
theorem q1010 : (Jvm.Cond.classLink "SwollenHouse$Reader" (269 : Nat) "SwollenHouse$Given") ∈ lw_all := lw_g (lw_at lw_m4 164 rfl) rfl
theorem q1012 : (Jvm.Cond.methodLink "SwollenHouse$Reader" (271 : Nat) ({ cls := "SwollenHouse$Given", name := "<init>", desc := "(I)V" } : Jvm.MethodName)) ∈ lw_all := lw_g (lw_at lw_m4 166 rfl) rfl
theorem q1023 : (Jvm.Cond.classLink "SwollenHouse$Reader" (272 : Nat) "SwollenHouse$Fact") ∈ lw_all := lw_g (lw_at lw_m4 177 rfl) rfl
theorem q1025 : (Jvm.Cond.methodLink "SwollenHouse$Reader" (274 : Nat) ({ cls := "SwollenHouse$Fact", name := "<init>", desc := "(I)V" } : Jvm.MethodName)) ∈ lw_all := lw_g (lw_at lw_m4 179 rfl) rfl
theorem q1033 : (Jvm.Cond.classLink "SwollenHouse$Reader" (275 : Nat) "SwollenHouse$Not") ∈ lw_all := lw_g (lw_at lw_m4 187 rfl) rfl
theorem q1035 : (Jvm.Cond.methodLink "SwollenHouse$Reader" (277 : Nat) ({ cls := "SwollenHouse$Not", name := "<init>", desc := "(LSwollenHouse$Expression;)V" } : Jvm.MethodName)) ∈ lw_all := lw_g (lw_at lw_m4 189 rfl) rfl
theorem q1043 : (Jvm.Cond.methodLink "SwollenHouse$Reader" (156 : Nat) ({ cls := "SwollenHouse$Reader", name := "need", desc := "(C)V" } : Jvm.MethodName)) ∈ lw_all := lw_g (lw_at lw_m4 197 rfl) rfl
theorem q1044 : (Jvm.Cond.privateMethod ({ cls := "SwollenHouse$Reader", name := "need", desc := "(C)V" } : Jvm.MethodName)) ∈ lw_tbl := lw_at lw_m4 198 rfl
theorem q1045 : (Jvm.Cond.instanceMethod ({ cls := "SwollenHouse$Reader", name := "need", desc := "(C)V" } : Jvm.MethodName)) ∈ lw_all := lw_g (lw_at lw_m4 199 rfl) rfl
theorem q1046 : (Jvm.Cond.code ({ cls := "SwollenHouse$Reader", name := "need", desc := "(C)V" } : Jvm.MethodName) prog_17_method_11_code (2 : Nat) (Option.none : Option Jvm.ClassFile.FieldType)) ∈ lw_all := lw_g (lw_at lw_m4 200 rfl) rfl
theorem q1047 : (Jvm.Cond.classLink "SwollenHouse$Reader" (251 : Nat) "SwollenHouse$Two") ∈ lw_all := lw_g (lw_at lw_m4 201 rfl) rfl
theorem q1049 : (Jvm.Cond.methodLink "SwollenHouse$Reader" (253 : Nat) ({ cls := "SwollenHouse$Two", name := "<init>", desc := "(CLSwollenHouse$Expression;LSwollenHouse$Expression;)V" } : Jvm.MethodName)) ∈ lw_all := lw_g (lw_at lw_m4 203 rfl) rfl
theorem q1063 : (Jvm.Cond.stringRef "SwollenHouse$Reader" (249 : Nat) "and or ") ∈ lw_tbl := lw_at lw_m4 217 rfl
theorem q1069 : (Jvm.Cond.instanceMethod ({ cls := "SwollenHouse$Reader", name := "days", desc := "(LSwollenHouse$House;)Ljava/util/ArrayList;" } : Jvm.MethodName)) ∈ lw_all := lw_g (lw_at lw_m4 223 rfl) rfl
theorem q1070 : (Jvm.Cond.selects "SwollenHouse$Reader" ({ cls := "SwollenHouse$Reader", name := "days", desc := "(LSwollenHouse$House;)Ljava/util/ArrayList;" } : Jvm.MethodName) ({ cls := "SwollenHouse$Reader", name := "days", desc := "(LSwollenHouse$House;)Ljava/util/ArrayList;" } : Jvm.MethodName)) ∈ lw_all := lw_g (lw_at lw_m4 224 rfl) rfl
theorem q1071 : (Jvm.Cond.code ({ cls := "SwollenHouse$Reader", name := "days", desc := "(LSwollenHouse$House;)Ljava/util/ArrayList;" } : Jvm.MethodName) prog_17_method_24_code (4 : Nat) (Option.some (Jvm.ClassFile.FieldType.object "java/util/ArrayList"))) ∈ lw_all := lw_g (lw_at lw_m4 225 rfl) rfl
theorem q1072 : (Jvm.Cond.classLink "SwollenHouse$Reader" (134 : Nat) "java/util/ArrayList") ∈ lw_all := lw_g (lw_at lw_m4 226 rfl) rfl
theorem q1073 : (Jvm.Cond.methodLink "SwollenHouse$Reader" (224 : Nat) ({ cls := "java/util/ArrayList", name := "<init>", desc := "(I)V" } : Jvm.MethodName)) ∈ lw_all := lw_g (lw_at lw_m4 227 rfl) rfl
theorem q1074 : (Jvm.Cond.stringRef "SwollenHouse$Reader" (225 : Nat) "day walk plane wedge force ") ∈ lw_tbl := lw_at lw_m4 228 rfl
theorem q1075 : (Jvm.Cond.methodLink "SwollenHouse$Reader" (227 : Nat) ({ cls := "SwollenHouse$Reader", name := "done", desc := "(I)LSwollenHouse$Line;" } : Jvm.MethodName)) ∈ lw_all := lw_g (lw_at lw_m4 229 rfl) rfl
theorem q1076 : (Jvm.Cond.privateMethod ({ cls := "SwollenHouse$Reader", name := "done", desc := "(I)LSwollenHouse$Line;" } : Jvm.MethodName)) ∈ lw_tbl := lw_at lw_m4 230 rfl
theorem q1077 : (Jvm.Cond.instanceMethod ({ cls := "SwollenHouse$Reader", name := "done", desc := "(I)LSwollenHouse$Line;" } : Jvm.MethodName)) ∈ lw_all := lw_g (lw_at lw_m4 231 rfl) rfl
theorem q1078 : (Jvm.Cond.code ({ cls := "SwollenHouse$Reader", name := "done", desc := "(I)LSwollenHouse$Line;" } : Jvm.MethodName) prog_17_method_25_code (3 : Nat) (Option.some (Jvm.ClassFile.FieldType.object "SwollenHouse$Line"))) ∈ lw_all := lw_g (lw_at lw_m4 232 rfl) rfl
theorem q1079 : (Jvm.Cond.classLink "SwollenHouse$Reader" (231 : Nat) "SwollenHouse$Passed") ∈ lw_all := lw_g (lw_at lw_m4 233 rfl) rfl
theorem q1081 : (Jvm.Cond.methodLinkNest "SwollenHouse$Reader" (233 : Nat) ({ cls := "SwollenHouse$Passed", name := "<init>", desc := "()V" } : Jvm.MethodName) "SwollenHouse") ∈ lw_tbl := lw_at lw_m4 235 rfl
theorem q1089 : (Jvm.Cond.classLink "SwollenHouse$Reader" (234 : Nat) "SwollenHouse$Walked") ∈ lw_all := lw_g (lw_at lw_m5 3 rfl) rfl
theorem q1091 : (Jvm.Cond.methodLink "SwollenHouse$Reader" (236 : Nat) ({ cls := "SwollenHouse$Walked", name := "<init>", desc := "(II)V" } : Jvm.MethodName)) ∈ lw_all := lw_g (lw_at lw_m5 5 rfl) rfl
theorem q1102 : (Jvm.Cond.classLink "SwollenHouse$Reader" (237 : Nat) "SwollenHouse$Planed") ∈ lw_all := lw_g (lw_at lw_m5 16 rfl) rfl
theorem q1104 : (Jvm.Cond.methodLink "SwollenHouse$Reader" (239 : Nat) ({ cls := "SwollenHouse$Planed", name := "<init>", desc := "(I)V" } : Jvm.MethodName)) ∈ lw_all := lw_g (lw_at lw_m5 18 rfl) rfl
theorem q1112 : (Jvm.Cond.classLink "SwollenHouse$Reader" (240 : Nat) "SwollenHouse$Wedged") ∈ lw_all := lw_g (lw_at lw_m5 26 rfl) rfl
theorem q1114 : (Jvm.Cond.methodLink "SwollenHouse$Reader" (242 : Nat) ({ cls := "SwollenHouse$Wedged", name := "<init>", desc := "(I)V" } : Jvm.MethodName)) ∈ lw_all := lw_g (lw_at lw_m5 28 rfl) rfl
theorem q1122 : (Jvm.Cond.classLink "SwollenHouse$Reader" (243 : Nat) "SwollenHouse$Forced") ∈ lw_all := lw_g (lw_at lw_m5 36 rfl) rfl
theorem q1124 : (Jvm.Cond.methodLink "SwollenHouse$Reader" (245 : Nat) ({ cls := "SwollenHouse$Forced", name := "<init>", desc := "(I)V" } : Jvm.MethodName)) ∈ lw_all := lw_g (lw_at lw_m5 38 rfl) rfl
theorem q2263 : (Jvm.Cond.castable "SwollenHouse$Reader" "java/lang/Object") ∈ lw_tbl := lw_at lw_m9 217 rfl
theorem in_X2 : ∀ w ∈ wsX20, w ∈ lw_all := lw_in wsX20 [193, 195, 197, 199, 201, 203, 205, 207] (by decide +kernel) (by decide +kernel)

def RX20 : String := "SwollenHouse$Walked"
def TX20 : u_T := fun k => match k with
  | 0 => ("SwollenHouse$Walked", "person", "I", true)
  | _ => ("SwollenHouse$Walked", "door", "I", true)
def tyX20 : Nat → FieldType := fun k => match k with
  | 0 => .int
  | _ => .int
abbrev wsX200 : List Cond := u_ws RX20 TX20 2
theorem nmX20 : ∀ a, a < 2 → ∀ b, b < 2 → a ≠ b → (TX20 a).2.1 ≠ (TX20 b).2.1 := by decide +kernel
theorem tyX20_ok : ∀ k, k < 2 → parseFieldDescriptor (TX20 k).2.2.1 = some (tyX20 k) := by decide +kernel
abbrev bcX20_init : ByteArray := prog_20_method_1_code
def yX20_init : MethodName := ⟨RX20, "<init>", "(II)V"⟩
abbrev bcX20_isDone : ByteArray := prog_20_method_2_code
def yX20_isDone : MethodName := ⟨RX20, "isDone", "(LSwollenHouse;LSwollenHouse$State;)Z"⟩
theorem q164 : (Jvm.Cond.initialized "SwollenHouse$Walked") ∈ lw_all := lw_g (lw_at lw_m1 38 rfl) rfl
theorem q868 : (Jvm.Cond.selects "SwollenHouse$Walked" ({ cls := "java/lang/Object", name := "getClass", desc := "()Ljava/lang/Class;" } : Jvm.MethodName) ({ cls := "java/lang/Object", name := "getClass", desc := "()Ljava/lang/Class;" } : Jvm.MethodName)) ∈ lw_all := lw_g (lw_at lw_m4 22 rfl) rfl
theorem q1090 : (Jvm.Cond.instantiable "SwollenHouse$Walked" (2 : Nat)) ∈ lw_all := lw_g (lw_at lw_m5 4 rfl) rfl
theorem q1092 : (Jvm.Cond.instanceMethod ({ cls := "SwollenHouse$Walked", name := "<init>", desc := "(II)V" } : Jvm.MethodName)) ∈ lw_all := lw_g (lw_at lw_m5 6 rfl) rfl
theorem q1093 : (Jvm.Cond.code ({ cls := "SwollenHouse$Walked", name := "<init>", desc := "(II)V" } : Jvm.MethodName) prog_20_method_1_code (3 : Nat) (Option.none : Option Jvm.ClassFile.FieldType)) ∈ lw_all := lw_g (lw_at lw_m5 7 rfl) rfl
theorem q1094 : (Jvm.Cond.methodLinkNest "SwollenHouse$Walked" (1 : Nat) ({ cls := "SwollenHouse$Line", name := "<init>", desc := "()V" } : Jvm.MethodName) "SwollenHouse") ∈ lw_tbl := lw_at lw_m5 8 rfl
theorem q1095 : (Jvm.Cond.fieldLink "SwollenHouse$Walked" (7 : Nat) "SwollenHouse$Walked" "person" "I") ∈ lw_all := lw_g (lw_at lw_m5 9 rfl) rfl
theorem q1096 : (Jvm.Cond.fieldLink "SwollenHouse$Walked" (13 : Nat) "SwollenHouse$Walked" "door" "I") ∈ lw_all := lw_g (lw_at lw_m5 10 rfl) rfl
theorem q1097 : (Jvm.Cond.laysFinal "SwollenHouse$Walked" "SwollenHouse$Walked" "person" "I") ∈ lw_all := lw_g (lw_at lw_m5 11 rfl) rfl
theorem q1098 : (Jvm.Cond.soleField "SwollenHouse$Walked" "person") ∈ lw_all := lw_g (lw_at lw_m5 12 rfl) rfl
theorem q1099 : (Jvm.Cond.laysFinal "SwollenHouse$Walked" "SwollenHouse$Walked" "door" "I") ∈ lw_all := lw_g (lw_at lw_m5 13 rfl) rfl
theorem q1100 : (Jvm.Cond.soleField "SwollenHouse$Walked" "door") ∈ lw_all := lw_g (lw_at lw_m5 14 rfl) rfl
theorem q1101 : (Jvm.Cond.superclass "SwollenHouse$Walked" "SwollenHouse$Line") ∈ lw_all := lw_g (lw_at lw_m5 15 rfl) rfl
theorem q1350 : (Jvm.Cond.selects "SwollenHouse$Walked" ({ cls := "SwollenHouse$Line", name := "isDone", desc := "(LSwollenHouse;LSwollenHouse$State;)Z" } : Jvm.MethodName) ({ cls := "SwollenHouse$Walked", name := "isDone", desc := "(LSwollenHouse;LSwollenHouse$State;)Z" } : Jvm.MethodName)) ∈ lw_all := lw_g (lw_at lw_m6 24 rfl) rfl
theorem q1351 : (Jvm.Cond.instanceMethod ({ cls := "SwollenHouse$Walked", name := "isDone", desc := "(LSwollenHouse;LSwollenHouse$State;)Z" } : Jvm.MethodName)) ∈ lw_all := lw_g (lw_at lw_m6 25 rfl) rfl
theorem q1352 : (Jvm.Cond.code ({ cls := "SwollenHouse$Walked", name := "isDone", desc := "(LSwollenHouse;LSwollenHouse$State;)Z" } : Jvm.MethodName) prog_20_method_2_code (3 : Nat) (Option.some Jvm.ClassFile.FieldType.boolean)) ∈ lw_all := lw_g (lw_at lw_m6 26 rfl) rfl
theorem q1353 : (Jvm.Cond.methodLinkNest "SwollenHouse$Walked" (16 : Nat) ({ cls := "SwollenHouse", name := "isWalked", desc := "(LSwollenHouse$State;II)Z" } : Jvm.MethodName) "SwollenHouse") ∈ lw_tbl := lw_at lw_m6 27 rfl
theorem q2258 : (Jvm.Cond.castable "SwollenHouse$Walked" "SwollenHouse$Line") ∈ lw_tbl := lw_at lw_m9 212 rfl
theorem q2280 : (Jvm.Cond.castable "SwollenHouse$Walked" "java/lang/Object") ∈ lw_tbl := lw_at lw_m9 234 rfl
theorem in_X20 : ∀ w ∈ wsX200, w ∈ lw_all := lw_in wsX200 [1097, 1099] (by decide +kernel) (by decide +kernel)

def RX21 : String := "SwollenHouse$Planed"
def TX21 : u_T := fun k => match k with
  | _ => ("SwollenHouse$Planed", "door", "I", true)
def tyX21 : Nat → FieldType := fun k => match k with
  | _ => .int
abbrev wsX210 : List Cond := u_ws RX21 TX21 1
theorem nmX21 : ∀ a, a < 1 → ∀ b, b < 1 → a ≠ b → (TX21 a).2.1 ≠ (TX21 b).2.1 := by decide +kernel
theorem tyX21_ok : ∀ k, k < 1 → parseFieldDescriptor (TX21 k).2.2.1 = some (tyX21 k) := by decide +kernel
abbrev bcX21_init : ByteArray := prog_16_method_1_code
def yX21_init : MethodName := ⟨RX21, "<init>", "(I)V"⟩
abbrev bcX21_isDone : ByteArray := prog_16_method_2_code
def yX21_isDone : MethodName := ⟨RX21, "isDone", "(LSwollenHouse;LSwollenHouse$State;)Z"⟩
theorem q165 : (Jvm.Cond.initialized "SwollenHouse$Planed") ∈ lw_all := lw_g (lw_at lw_m1 39 rfl) rfl
theorem q293 : (Jvm.Cond.fieldLinkNest "SwollenHouse$Planed" (24 : Nat) "SwollenHouse$State" "gap" "[I" "SwollenHouse") ∈ lw_tbl := lw_at lw_m1 167 rfl
theorem q864 : (Jvm.Cond.selects "SwollenHouse$Planed" ({ cls := "java/lang/Object", name := "getClass", desc := "()Ljava/lang/Class;" } : Jvm.MethodName) ({ cls := "java/lang/Object", name := "getClass", desc := "()Ljava/lang/Class;" } : Jvm.MethodName)) ∈ lw_all := lw_g (lw_at lw_m4 18 rfl) rfl
theorem q1103 : (Jvm.Cond.instantiable "SwollenHouse$Planed" (1 : Nat)) ∈ lw_all := lw_g (lw_at lw_m5 17 rfl) rfl
theorem q1105 : (Jvm.Cond.instanceMethod ({ cls := "SwollenHouse$Planed", name := "<init>", desc := "(I)V" } : Jvm.MethodName)) ∈ lw_all := lw_g (lw_at lw_m5 19 rfl) rfl
theorem q1106 : (Jvm.Cond.code ({ cls := "SwollenHouse$Planed", name := "<init>", desc := "(I)V" } : Jvm.MethodName) prog_16_method_1_code (2 : Nat) (Option.none : Option Jvm.ClassFile.FieldType)) ∈ lw_all := lw_g (lw_at lw_m5 20 rfl) rfl
theorem q1107 : (Jvm.Cond.methodLinkNest "SwollenHouse$Planed" (1 : Nat) ({ cls := "SwollenHouse$Line", name := "<init>", desc := "()V" } : Jvm.MethodName) "SwollenHouse") ∈ lw_tbl := lw_at lw_m5 21 rfl
theorem q1108 : (Jvm.Cond.fieldLink "SwollenHouse$Planed" (7 : Nat) "SwollenHouse$Planed" "door" "I") ∈ lw_all := lw_g (lw_at lw_m5 22 rfl) rfl
theorem q1109 : (Jvm.Cond.laysFinal "SwollenHouse$Planed" "SwollenHouse$Planed" "door" "I") ∈ lw_all := lw_g (lw_at lw_m5 23 rfl) rfl
theorem q1110 : (Jvm.Cond.soleField "SwollenHouse$Planed" "door") ∈ lw_all := lw_g (lw_at lw_m5 24 rfl) rfl
theorem q1111 : (Jvm.Cond.superclass "SwollenHouse$Planed" "SwollenHouse$Line") ∈ lw_all := lw_g (lw_at lw_m5 25 rfl) rfl
theorem q1345 : (Jvm.Cond.selects "SwollenHouse$Planed" ({ cls := "SwollenHouse$Line", name := "isDone", desc := "(LSwollenHouse;LSwollenHouse$State;)Z" } : Jvm.MethodName) ({ cls := "SwollenHouse$Planed", name := "isDone", desc := "(LSwollenHouse;LSwollenHouse$State;)Z" } : Jvm.MethodName)) ∈ lw_all := lw_g (lw_at lw_m6 19 rfl) rfl
theorem q1346 : (Jvm.Cond.instanceMethod ({ cls := "SwollenHouse$Planed", name := "isDone", desc := "(LSwollenHouse;LSwollenHouse$State;)Z" } : Jvm.MethodName)) ∈ lw_all := lw_g (lw_at lw_m6 20 rfl) rfl
theorem q1347 : (Jvm.Cond.code ({ cls := "SwollenHouse$Planed", name := "isDone", desc := "(LSwollenHouse;LSwollenHouse$State;)Z" } : Jvm.MethodName) prog_16_method_2_code (3 : Nat) (Option.some Jvm.ClassFile.FieldType.boolean)) ∈ lw_all := lw_g (lw_at lw_m6 21 rfl) rfl
theorem q1348 : (Jvm.Cond.methodLinkNest "SwollenHouse$Planed" (13 : Nat) ({ cls := "SwollenHouse", name := "isDoor", desc := "(I)Z" } : Jvm.MethodName) "SwollenHouse") ∈ lw_tbl := lw_at lw_m6 22 rfl
theorem q1349 : (Jvm.Cond.methodLink "SwollenHouse$Planed" (19 : Nat) ({ cls := "SwollenHouse$State", name := "canPlane", desc := "(I)Z" } : Jvm.MethodName)) ∈ lw_all := lw_g (lw_at lw_m6 23 rfl) rfl
theorem q2257 : (Jvm.Cond.castable "SwollenHouse$Planed" "SwollenHouse$Line") ∈ lw_tbl := lw_at lw_m9 211 rfl
theorem q2281 : (Jvm.Cond.castable "SwollenHouse$Planed" "java/lang/Object") ∈ lw_tbl := lw_at lw_m9 235 rfl
theorem in_X21 : ∀ w ∈ wsX210, w ∈ lw_all := lw_in wsX210 [1109] (by decide +kernel) (by decide +kernel)

def RX22 : String := "SwollenHouse$Wedged"
def TX22 : u_T := fun k => match k with
  | _ => ("SwollenHouse$Wedged", "door", "I", true)
def tyX22 : Nat → FieldType := fun k => match k with
  | _ => .int
abbrev wsX220 : List Cond := u_ws RX22 TX22 1
theorem nmX22 : ∀ a, a < 1 → ∀ b, b < 1 → a ≠ b → (TX22 a).2.1 ≠ (TX22 b).2.1 := by decide +kernel
theorem tyX22_ok : ∀ k, k < 1 → parseFieldDescriptor (TX22 k).2.2.1 = some (tyX22 k) := by decide +kernel
abbrev bcX22_init : ByteArray := prog_21_method_1_code
def yX22_init : MethodName := ⟨RX22, "<init>", "(I)V"⟩
abbrev bcX22_isDone : ByteArray := prog_21_method_2_code
def yX22_isDone : MethodName := ⟨RX22, "isDone", "(LSwollenHouse;LSwollenHouse$State;)Z"⟩
theorem q166 : (Jvm.Cond.initialized "SwollenHouse$Wedged") ∈ lw_all := lw_g (lw_at lw_m1 40 rfl) rfl
theorem q297 : (Jvm.Cond.fieldLinkNest "SwollenHouse$Wedged" (24 : Nat) "SwollenHouse$State" "wedges" "I" "SwollenHouse") ∈ lw_tbl := lw_at lw_m1 171 rfl
theorem q869 : (Jvm.Cond.selects "SwollenHouse$Wedged" ({ cls := "java/lang/Object", name := "getClass", desc := "()Ljava/lang/Class;" } : Jvm.MethodName) ({ cls := "java/lang/Object", name := "getClass", desc := "()Ljava/lang/Class;" } : Jvm.MethodName)) ∈ lw_all := lw_g (lw_at lw_m4 23 rfl) rfl
theorem q1113 : (Jvm.Cond.instantiable "SwollenHouse$Wedged" (1 : Nat)) ∈ lw_all := lw_g (lw_at lw_m5 27 rfl) rfl
theorem q1115 : (Jvm.Cond.instanceMethod ({ cls := "SwollenHouse$Wedged", name := "<init>", desc := "(I)V" } : Jvm.MethodName)) ∈ lw_all := lw_g (lw_at lw_m5 29 rfl) rfl
theorem q1116 : (Jvm.Cond.code ({ cls := "SwollenHouse$Wedged", name := "<init>", desc := "(I)V" } : Jvm.MethodName) prog_21_method_1_code (2 : Nat) (Option.none : Option Jvm.ClassFile.FieldType)) ∈ lw_all := lw_g (lw_at lw_m5 30 rfl) rfl
theorem q1117 : (Jvm.Cond.methodLinkNest "SwollenHouse$Wedged" (1 : Nat) ({ cls := "SwollenHouse$Line", name := "<init>", desc := "()V" } : Jvm.MethodName) "SwollenHouse") ∈ lw_tbl := lw_at lw_m5 31 rfl
theorem q1118 : (Jvm.Cond.fieldLink "SwollenHouse$Wedged" (7 : Nat) "SwollenHouse$Wedged" "door" "I") ∈ lw_all := lw_g (lw_at lw_m5 32 rfl) rfl
theorem q1119 : (Jvm.Cond.laysFinal "SwollenHouse$Wedged" "SwollenHouse$Wedged" "door" "I") ∈ lw_all := lw_g (lw_at lw_m5 33 rfl) rfl
theorem q1120 : (Jvm.Cond.soleField "SwollenHouse$Wedged" "door") ∈ lw_all := lw_g (lw_at lw_m5 34 rfl) rfl
theorem q1121 : (Jvm.Cond.superclass "SwollenHouse$Wedged" "SwollenHouse$Line") ∈ lw_all := lw_g (lw_at lw_m5 35 rfl) rfl
theorem q1354 : (Jvm.Cond.selects "SwollenHouse$Wedged" ({ cls := "SwollenHouse$Line", name := "isDone", desc := "(LSwollenHouse;LSwollenHouse$State;)Z" } : Jvm.MethodName) ({ cls := "SwollenHouse$Wedged", name := "isDone", desc := "(LSwollenHouse;LSwollenHouse$State;)Z" } : Jvm.MethodName)) ∈ lw_all := lw_g (lw_at lw_m6 28 rfl) rfl
theorem q1355 : (Jvm.Cond.instanceMethod ({ cls := "SwollenHouse$Wedged", name := "isDone", desc := "(LSwollenHouse;LSwollenHouse$State;)Z" } : Jvm.MethodName)) ∈ lw_all := lw_g (lw_at lw_m6 29 rfl) rfl
theorem q1356 : (Jvm.Cond.code ({ cls := "SwollenHouse$Wedged", name := "isDone", desc := "(LSwollenHouse;LSwollenHouse$State;)Z" } : Jvm.MethodName) prog_21_method_2_code (3 : Nat) (Option.some Jvm.ClassFile.FieldType.boolean)) ∈ lw_all := lw_g (lw_at lw_m6 30 rfl) rfl
theorem q1357 : (Jvm.Cond.methodLinkNest "SwollenHouse$Wedged" (13 : Nat) ({ cls := "SwollenHouse", name := "isDoor", desc := "(I)Z" } : Jvm.MethodName) "SwollenHouse") ∈ lw_tbl := lw_at lw_m6 31 rfl
theorem q1358 : (Jvm.Cond.methodLink "SwollenHouse$Wedged" (19 : Nat) ({ cls := "SwollenHouse$State", name := "canWedge", desc := "(I)Z" } : Jvm.MethodName)) ∈ lw_all := lw_g (lw_at lw_m6 32 rfl) rfl
theorem q2259 : (Jvm.Cond.castable "SwollenHouse$Wedged" "SwollenHouse$Line") ∈ lw_tbl := lw_at lw_m9 213 rfl
theorem q2282 : (Jvm.Cond.castable "SwollenHouse$Wedged" "java/lang/Object") ∈ lw_tbl := lw_at lw_m9 236 rfl
theorem in_X22 : ∀ w ∈ wsX220, w ∈ lw_all := lw_in wsX220 [1119] (by decide +kernel) (by decide +kernel)

def RX23 : String := "SwollenHouse$Forced"
def TX23 : u_T := fun k => match k with
  | _ => ("SwollenHouse$Forced", "door", "I", true)
def tyX23 : Nat → FieldType := fun k => match k with
  | _ => .int
abbrev wsX230 : List Cond := u_ws RX23 TX23 1
theorem nmX23 : ∀ a, a < 1 → ∀ b, b < 1 → a ≠ b → (TX23 a).2.1 ≠ (TX23 b).2.1 := by decide +kernel
theorem tyX23_ok : ∀ k, k < 1 → parseFieldDescriptor (TX23 k).2.2.1 = some (tyX23 k) := by decide +kernel
abbrev bcX23_init : ByteArray := prog_6_method_1_code
def yX23_init : MethodName := ⟨RX23, "<init>", "(I)V"⟩
abbrev bcX23_isDone : ByteArray := prog_6_method_2_code
def yX23_isDone : MethodName := ⟨RX23, "isDone", "(LSwollenHouse;LSwollenHouse$State;)Z"⟩
theorem q167 : (Jvm.Cond.initialized "SwollenHouse$Forced") ∈ lw_all := lw_g (lw_at lw_m1 41 rfl) rfl
theorem q289 : (Jvm.Cond.fieldLinkNest "SwollenHouse$Forced" (28 : Nat) "SwollenHouse$State" "swell" "[I" "SwollenHouse") ∈ lw_tbl := lw_at lw_m1 163 rfl
theorem q292 : (Jvm.Cond.fieldLinkNest "SwollenHouse$Forced" (24 : Nat) "SwollenHouse$State" "gap" "[I" "SwollenHouse") ∈ lw_tbl := lw_at lw_m1 166 rfl
theorem q855 : (Jvm.Cond.selects "SwollenHouse$Forced" ({ cls := "java/lang/Object", name := "getClass", desc := "()Ljava/lang/Class;" } : Jvm.MethodName) ({ cls := "java/lang/Object", name := "getClass", desc := "()Ljava/lang/Class;" } : Jvm.MethodName)) ∈ lw_all := lw_g (lw_at lw_m4 9 rfl) rfl
theorem q1123 : (Jvm.Cond.instantiable "SwollenHouse$Forced" (1 : Nat)) ∈ lw_all := lw_g (lw_at lw_m5 37 rfl) rfl
theorem q1125 : (Jvm.Cond.instanceMethod ({ cls := "SwollenHouse$Forced", name := "<init>", desc := "(I)V" } : Jvm.MethodName)) ∈ lw_all := lw_g (lw_at lw_m5 39 rfl) rfl
theorem q1126 : (Jvm.Cond.code ({ cls := "SwollenHouse$Forced", name := "<init>", desc := "(I)V" } : Jvm.MethodName) prog_6_method_1_code (2 : Nat) (Option.none : Option Jvm.ClassFile.FieldType)) ∈ lw_all := lw_g (lw_at lw_m5 40 rfl) rfl
theorem q1127 : (Jvm.Cond.methodLinkNest "SwollenHouse$Forced" (1 : Nat) ({ cls := "SwollenHouse$Line", name := "<init>", desc := "()V" } : Jvm.MethodName) "SwollenHouse") ∈ lw_tbl := lw_at lw_m5 41 rfl
theorem q1128 : (Jvm.Cond.fieldLink "SwollenHouse$Forced" (7 : Nat) "SwollenHouse$Forced" "door" "I") ∈ lw_all := lw_g (lw_at lw_m5 42 rfl) rfl
theorem q1129 : (Jvm.Cond.laysFinal "SwollenHouse$Forced" "SwollenHouse$Forced" "door" "I") ∈ lw_all := lw_g (lw_at lw_m5 43 rfl) rfl
theorem q1130 : (Jvm.Cond.soleField "SwollenHouse$Forced" "door") ∈ lw_all := lw_g (lw_at lw_m5 44 rfl) rfl
theorem q1131 : (Jvm.Cond.superclass "SwollenHouse$Forced" "SwollenHouse$Line") ∈ lw_all := lw_g (lw_at lw_m5 45 rfl) rfl
theorem q1335 : (Jvm.Cond.selects "SwollenHouse$Forced" ({ cls := "SwollenHouse$Line", name := "isDone", desc := "(LSwollenHouse;LSwollenHouse$State;)Z" } : Jvm.MethodName) ({ cls := "SwollenHouse$Forced", name := "isDone", desc := "(LSwollenHouse;LSwollenHouse$State;)Z" } : Jvm.MethodName)) ∈ lw_all := lw_g (lw_at lw_m6 9 rfl) rfl
theorem q1336 : (Jvm.Cond.instanceMethod ({ cls := "SwollenHouse$Forced", name := "isDone", desc := "(LSwollenHouse;LSwollenHouse$State;)Z" } : Jvm.MethodName)) ∈ lw_all := lw_g (lw_at lw_m6 10 rfl) rfl
theorem q1337 : (Jvm.Cond.code ({ cls := "SwollenHouse$Forced", name := "isDone", desc := "(LSwollenHouse;LSwollenHouse$State;)Z" } : Jvm.MethodName) prog_6_method_2_code (3 : Nat) (Option.some Jvm.ClassFile.FieldType.boolean)) ∈ lw_all := lw_g (lw_at lw_m6 11 rfl) rfl
theorem q1338 : (Jvm.Cond.methodLinkNest "SwollenHouse$Forced" (13 : Nat) ({ cls := "SwollenHouse", name := "isDoor", desc := "(I)Z" } : Jvm.MethodName) "SwollenHouse") ∈ lw_tbl := lw_at lw_m6 12 rfl
theorem q1339 : (Jvm.Cond.methodLink "SwollenHouse$Forced" (19 : Nat) ({ cls := "SwollenHouse$State", name := "canForce", desc := "(I)Z" } : Jvm.MethodName)) ∈ lw_all := lw_g (lw_at lw_m6 13 rfl) rfl
theorem q2255 : (Jvm.Cond.castable "SwollenHouse$Forced" "SwollenHouse$Line") ∈ lw_tbl := lw_at lw_m9 209 rfl
theorem q2283 : (Jvm.Cond.castable "SwollenHouse$Forced" "java/lang/Object") ∈ lw_tbl := lw_at lw_m9 237 rfl
theorem in_X23 : ∀ w ∈ wsX230, w ∈ lw_all := lw_in wsX230 [1129] (by decide +kernel) (by decide +kernel)

def RX24 : String := "SwollenHouse$Mark"
def TX24 : u_T := fun k => match k with
  | 0 => ("SwollenHouse$Mark", "state", "LSwollenHouse$State;", true)
  | 1 => ("SwollenHouse$Mark", "at", "[I", true)
  | 2 => ("SwollenHouse$Mark", "in", "[I", true)
  | 3 => ("SwollenHouse$Mark", "of", "[I", true)
  | 4 => ("SwollenHouse$Mark", "days", "[I", true)
  | 5 => ("SwollenHouse$Mark", "sticks", "[Z", true)
  | 6 => ("SwollenHouse$Mark", "felt", "I", false)
  | _ => ("SwollenHouse$Mark", "said", "I", false)
def tyX24 : Nat → FieldType := fun k => match k with
  | 0 => .object "SwollenHouse$State"
  | 1 => .array .int
  | 2 => .array .int
  | 3 => .array .int
  | 4 => .array .int
  | 5 => .array .boolean
  | 6 => .int
  | _ => .int
abbrev wsX240 : List Cond := u_ws RX24 TX24 8
theorem nmX24 : ∀ a, a < 8 → ∀ b, b < 8 → a ≠ b → (TX24 a).2.1 ≠ (TX24 b).2.1 := by decide +kernel
theorem tyX24_ok : ∀ k, k < 8 → parseFieldDescriptor (TX24 k).2.2.1 = some (tyX24 k) := by decide +kernel
abbrev bcX24_init : ByteArray := prog_11_method_1_code
def yX24_init : MethodName := ⟨RX24, "<init>", "()V"⟩
theorem q170 : (Jvm.Cond.initialized "SwollenHouse$Mark") ∈ lw_all := lw_g (lw_at lw_m1 44 rfl) rfl
theorem q859 : (Jvm.Cond.selects "SwollenHouse$Mark" ({ cls := "java/lang/Object", name := "getClass", desc := "()Ljava/lang/Class;" } : Jvm.MethodName) ({ cls := "java/lang/Object", name := "getClass", desc := "()Ljava/lang/Class;" } : Jvm.MethodName)) ∈ lw_all := lw_g (lw_at lw_m4 13 rfl) rfl
theorem q1555 : (Jvm.Cond.instantiable "SwollenHouse$Mark" (8 : Nat)) ∈ lw_all := lw_g (lw_at lw_m6 229 rfl) rfl
theorem q1557 : (Jvm.Cond.instanceMethod ({ cls := "SwollenHouse$Mark", name := "<init>", desc := "()V" } : Jvm.MethodName)) ∈ lw_all := lw_g (lw_at lw_m6 231 rfl) rfl
theorem q1558 : (Jvm.Cond.code ({ cls := "SwollenHouse$Mark", name := "<init>", desc := "()V" } : Jvm.MethodName) prog_11_method_1_code (1 : Nat) (Option.none : Option Jvm.ClassFile.FieldType)) ∈ lw_all := lw_g (lw_at lw_m6 232 rfl) rfl
theorem q1559 : (Jvm.Cond.methodLink "SwollenHouse$Mark" (3 : Nat) ({ cls := "java/lang/Object", name := "<init>", desc := "()V" } : Jvm.MethodName)) ∈ lw_all := lw_g (lw_at lw_m6 233 rfl) rfl
theorem q1560 : (Jvm.Cond.classLink "SwollenHouse$Mark" (9 : Nat) "SwollenHouse$State") ∈ lw_all := lw_g (lw_at lw_m6 234 rfl) rfl
theorem q1561 : (Jvm.Cond.methodLinkNest "SwollenHouse$Mark" (11 : Nat) ({ cls := "SwollenHouse$State", name := "<init>", desc := "()V" } : Jvm.MethodName) "SwollenHouse") ∈ lw_tbl := lw_at lw_m6 235 rfl
theorem q1562 : (Jvm.Cond.fieldLink "SwollenHouse$Mark" (12 : Nat) "SwollenHouse$Mark" "state" "LSwollenHouse$State;") ∈ lw_all := lw_g (lw_at lw_m6 236 rfl) rfl
theorem q1564 : (Jvm.Cond.fieldLink "SwollenHouse$Mark" (18 : Nat) "SwollenHouse$Mark" "at" "[I") ∈ lw_all := lw_g (lw_at lw_m6 238 rfl) rfl
theorem q1566 : (Jvm.Cond.fieldLink "SwollenHouse$Mark" (22 : Nat) "SwollenHouse$Mark" "in" "[I") ∈ lw_all := lw_g (lw_at lw_m7 0 rfl) rfl
theorem q1568 : (Jvm.Cond.fieldLink "SwollenHouse$Mark" (25 : Nat) "SwollenHouse$Mark" "of" "[I") ∈ lw_all := lw_g (lw_at lw_m7 2 rfl) rfl
theorem q1570 : (Jvm.Cond.fieldLink "SwollenHouse$Mark" (28 : Nat) "SwollenHouse$Mark" "days" "[I") ∈ lw_all := lw_g (lw_at lw_m7 4 rfl) rfl
theorem q1572 : (Jvm.Cond.fieldLink "SwollenHouse$Mark" (31 : Nat) "SwollenHouse$Mark" "sticks" "[Z") ∈ lw_all := lw_g (lw_at lw_m7 6 rfl) rfl
theorem q1576 : (Jvm.Cond.laysFinal "SwollenHouse$Mark" "SwollenHouse$Mark" "state" "LSwollenHouse$State;") ∈ lw_all := lw_g (lw_at lw_m7 10 rfl) rfl
theorem q1577 : (Jvm.Cond.soleField "SwollenHouse$Mark" "state") ∈ lw_all := lw_g (lw_at lw_m7 11 rfl) rfl
theorem q1578 : (Jvm.Cond.laysFinal "SwollenHouse$Mark" "SwollenHouse$Mark" "at" "[I") ∈ lw_all := lw_g (lw_at lw_m7 12 rfl) rfl
theorem q1579 : (Jvm.Cond.soleField "SwollenHouse$Mark" "at") ∈ lw_all := lw_g (lw_at lw_m7 13 rfl) rfl
theorem q1580 : (Jvm.Cond.laysFinal "SwollenHouse$Mark" "SwollenHouse$Mark" "in" "[I") ∈ lw_all := lw_g (lw_at lw_m7 14 rfl) rfl
theorem q1581 : (Jvm.Cond.soleField "SwollenHouse$Mark" "in") ∈ lw_all := lw_g (lw_at lw_m7 15 rfl) rfl
theorem q1582 : (Jvm.Cond.laysFinal "SwollenHouse$Mark" "SwollenHouse$Mark" "of" "[I") ∈ lw_all := lw_g (lw_at lw_m7 16 rfl) rfl
theorem q1583 : (Jvm.Cond.soleField "SwollenHouse$Mark" "of") ∈ lw_all := lw_g (lw_at lw_m7 17 rfl) rfl
theorem q1584 : (Jvm.Cond.laysFinal "SwollenHouse$Mark" "SwollenHouse$Mark" "days" "[I") ∈ lw_all := lw_g (lw_at lw_m7 18 rfl) rfl
theorem q1585 : (Jvm.Cond.soleField "SwollenHouse$Mark" "days") ∈ lw_all := lw_g (lw_at lw_m7 19 rfl) rfl
theorem q1586 : (Jvm.Cond.laysFinal "SwollenHouse$Mark" "SwollenHouse$Mark" "sticks" "[Z") ∈ lw_all := lw_g (lw_at lw_m7 20 rfl) rfl
theorem q1587 : (Jvm.Cond.soleField "SwollenHouse$Mark" "sticks") ∈ lw_all := lw_g (lw_at lw_m7 21 rfl) rfl
theorem q1588 : (Jvm.Cond.lays "SwollenHouse$Mark" "SwollenHouse$Mark" "felt" "I") ∈ lw_all := lw_g (lw_at lw_m7 22 rfl) rfl
theorem q1589 : (Jvm.Cond.soleField "SwollenHouse$Mark" "felt") ∈ lw_all := lw_g (lw_at lw_m7 23 rfl) rfl
theorem q1590 : (Jvm.Cond.lays "SwollenHouse$Mark" "SwollenHouse$Mark" "said" "I") ∈ lw_all := lw_g (lw_at lw_m7 24 rfl) rfl
theorem q1591 : (Jvm.Cond.soleField "SwollenHouse$Mark" "said") ∈ lw_all := lw_g (lw_at lw_m7 25 rfl) rfl
theorem q1592 : (Jvm.Cond.superclass "SwollenHouse$Mark" "java/lang/Object") ∈ lw_all := lw_g (lw_at lw_m7 26 rfl) rfl
theorem q2261 : (Jvm.Cond.castable "SwollenHouse$Mark" "java/lang/Object") ∈ lw_tbl := lw_at lw_m9 215 rfl
theorem in_X24 : ∀ w ∈ wsX240, w ∈ lw_all := lw_in wsX240 [1576, 1578, 1580, 1582, 1584, 1586, 1588, 1590] (by decide +kernel) (by decide +kernel)

def RX3 : String := "SwollenHouse$House"
def TX3 : u_T := fun k => match k with
  | 0 => ("SwollenHouse$House", "rooms", "Ljava/util/ArrayList;", true)
  | 1 => ("SwollenHouse$House", "people", "Ljava/util/ArrayList;", true)
  | 2 => ("SwollenHouse$House", "doors", "Ljava/util/ArrayList;", true)
  | 3 => ("SwollenHouse$House", "at", "[I", true)
  | 4 => ("SwollenHouse$House", "damps", "[I", true)
  | 5 => ("SwollenHouse$House", "many", "I", false)
  | _ => ("SwollenHouse$House", "swells", "LSwollenHouse$Expression;", false)
def tyX3 : Nat → FieldType := fun k => match k with
  | 0 => .object "java/util/ArrayList"
  | 1 => .object "java/util/ArrayList"
  | 2 => .object "java/util/ArrayList"
  | 3 => .array .int
  | 4 => .array .int
  | 5 => .int
  | _ => .object "SwollenHouse$Expression"
abbrev wsX30 : List Cond := u_ws RX3 TX3 7
theorem nmX3 : ∀ a, a < 7 → ∀ b, b < 7 → a ≠ b → (TX3 a).2.1 ≠ (TX3 b).2.1 := by decide +kernel
theorem tyX3_ok : ∀ k, k < 7 → parseFieldDescriptor (TX3 k).2.2.1 = some (tyX3 k) := by decide +kernel
abbrev bcX3_init : ByteArray := prog_8_method_1_code
def yX3_init : MethodName := ⟨RX3, "<init>", "()V"⟩
abbrev bcX3_place : ByteArray := prog_8_method_2_code
def yX3_place : MethodName := ⟨RX3, "place", "(Ljava/util/ArrayList;Ljava/lang/String;)I"⟩
abbrev bcX3_areJoined : ByteArray := prog_8_method_3_code
def yX3_areJoined : MethodName := ⟨RX3, "areJoined", "(II)Z"⟩
abbrev bcX3_damp : ByteArray := prog_8_method_4_code
def yX3_damp : MethodName := ⟨RX3, "damp", "(I)I"⟩
theorem q129 : (Jvm.Cond.initialized "SwollenHouse$House") ∈ lw_all := lw_g (lw_at lw_m1 3 rfl) rfl
theorem q212 : (Jvm.Cond.instantiable "SwollenHouse$House" (7 : Nat)) ∈ lw_all := lw_g (lw_at lw_m1 86 rfl) rfl
theorem q214 : (Jvm.Cond.instanceMethod ({ cls := "SwollenHouse$House", name := "<init>", desc := "()V" } : Jvm.MethodName)) ∈ lw_all := lw_g (lw_at lw_m1 88 rfl) rfl
theorem q215 : (Jvm.Cond.code ({ cls := "SwollenHouse$House", name := "<init>", desc := "()V" } : Jvm.MethodName) prog_8_method_1_code (1 : Nat) (Option.none : Option Jvm.ClassFile.FieldType)) ∈ lw_all := lw_g (lw_at lw_m1 89 rfl) rfl
theorem q216 : (Jvm.Cond.methodLink "SwollenHouse$House" (3 : Nat) ({ cls := "java/lang/Object", name := "<init>", desc := "()V" } : Jvm.MethodName)) ∈ lw_all := lw_g (lw_at lw_m1 90 rfl) rfl
theorem q217 : (Jvm.Cond.classLink "SwollenHouse$House" (9 : Nat) "java/util/ArrayList") ∈ lw_all := lw_g (lw_at lw_m1 91 rfl) rfl
theorem q219 : (Jvm.Cond.methodLink "SwollenHouse$House" (11 : Nat) ({ cls := "java/util/ArrayList", name := "<init>", desc := "(I)V" } : Jvm.MethodName)) ∈ lw_all := lw_g (lw_at lw_m1 93 rfl) rfl
theorem q245 : (Jvm.Cond.fieldLink "SwollenHouse$House" (14 : Nat) "SwollenHouse$House" "rooms" "Ljava/util/ArrayList;") ∈ lw_all := lw_g (lw_at lw_m1 119 rfl) rfl
theorem q248 : (Jvm.Cond.fieldLink "SwollenHouse$House" (20 : Nat) "SwollenHouse$House" "people" "Ljava/util/ArrayList;") ∈ lw_all := lw_g (lw_at lw_m1 122 rfl) rfl
theorem q251 : (Jvm.Cond.fieldLink "SwollenHouse$House" (23 : Nat) "SwollenHouse$House" "doors" "Ljava/util/ArrayList;") ∈ lw_all := lw_g (lw_at lw_m1 125 rfl) rfl
theorem q255 : (Jvm.Cond.fieldLink "SwollenHouse$House" (26 : Nat) "SwollenHouse$House" "at" "[I") ∈ lw_all := lw_g (lw_at lw_m1 129 rfl) rfl
theorem q258 : (Jvm.Cond.fieldLink "SwollenHouse$House" (30 : Nat) "SwollenHouse$House" "damps" "[I") ∈ lw_all := lw_g (lw_at lw_m1 132 rfl) rfl
theorem q260 : (Jvm.Cond.fieldLink "SwollenHouse$House" (53 : Nat) "SwollenHouse$House" "many" "I") ∈ lw_all := lw_g (lw_at lw_m1 134 rfl) rfl
theorem q264 : (Jvm.Cond.laysFinal "SwollenHouse$House" "SwollenHouse$House" "rooms" "Ljava/util/ArrayList;") ∈ lw_all := lw_g (lw_at lw_m1 138 rfl) rfl
theorem q265 : (Jvm.Cond.soleField "SwollenHouse$House" "rooms") ∈ lw_all := lw_g (lw_at lw_m1 139 rfl) rfl
theorem q266 : (Jvm.Cond.laysFinal "SwollenHouse$House" "SwollenHouse$House" "people" "Ljava/util/ArrayList;") ∈ lw_all := lw_g (lw_at lw_m1 140 rfl) rfl
theorem q267 : (Jvm.Cond.soleField "SwollenHouse$House" "people") ∈ lw_all := lw_g (lw_at lw_m1 141 rfl) rfl
theorem q268 : (Jvm.Cond.laysFinal "SwollenHouse$House" "SwollenHouse$House" "doors" "Ljava/util/ArrayList;") ∈ lw_all := lw_g (lw_at lw_m1 142 rfl) rfl
theorem q269 : (Jvm.Cond.soleField "SwollenHouse$House" "doors") ∈ lw_all := lw_g (lw_at lw_m1 143 rfl) rfl
theorem q270 : (Jvm.Cond.laysFinal "SwollenHouse$House" "SwollenHouse$House" "at" "[I") ∈ lw_all := lw_g (lw_at lw_m1 144 rfl) rfl
theorem q271 : (Jvm.Cond.soleField "SwollenHouse$House" "at") ∈ lw_all := lw_g (lw_at lw_m1 145 rfl) rfl
theorem q272 : (Jvm.Cond.laysFinal "SwollenHouse$House" "SwollenHouse$House" "damps" "[I") ∈ lw_all := lw_g (lw_at lw_m1 146 rfl) rfl
theorem q273 : (Jvm.Cond.soleField "SwollenHouse$House" "damps") ∈ lw_all := lw_g (lw_at lw_m1 147 rfl) rfl
theorem q274 : (Jvm.Cond.lays "SwollenHouse$House" "SwollenHouse$House" "many" "I") ∈ lw_all := lw_g (lw_at lw_m1 148 rfl) rfl
theorem q275 : (Jvm.Cond.soleField "SwollenHouse$House" "many") ∈ lw_all := lw_g (lw_at lw_m1 149 rfl) rfl
theorem q276 : (Jvm.Cond.lays "SwollenHouse$House" "SwollenHouse$House" "swells" "LSwollenHouse$Expression;") ∈ lw_all := lw_g (lw_at lw_m1 150 rfl) rfl
theorem q277 : (Jvm.Cond.soleField "SwollenHouse$House" "swells") ∈ lw_all := lw_g (lw_at lw_m1 151 rfl) rfl
theorem q278 : (Jvm.Cond.superclass "SwollenHouse$House" "java/lang/Object") ∈ lw_all := lw_g (lw_at lw_m1 152 rfl) rfl
theorem q813 : (Jvm.Cond.static ({ cls := "SwollenHouse$House", name := "place", desc := "(Ljava/util/ArrayList;Ljava/lang/String;)I" } : Jvm.MethodName)) ∈ lw_all := lw_g (lw_at lw_m3 207 rfl) rfl
theorem q814 : (Jvm.Cond.code ({ cls := "SwollenHouse$House", name := "place", desc := "(Ljava/util/ArrayList;Ljava/lang/String;)I" } : Jvm.MethodName) prog_8_method_2_code (3 : Nat) (Option.some Jvm.ClassFile.FieldType.int)) ∈ lw_all := lw_g (lw_at lw_m3 208 rfl) rfl
theorem q815 : (Jvm.Cond.methodLink "SwollenHouse$House" (33 : Nat) ({ cls := "java/util/ArrayList", name := "size", desc := "()I" } : Jvm.MethodName)) ∈ lw_all := lw_g (lw_at lw_m3 209 rfl) rfl
theorem q816 : (Jvm.Cond.methodLink "SwollenHouse$House" (37 : Nat) ({ cls := "java/util/ArrayList", name := "get", desc := "(I)Ljava/lang/Object;" } : Jvm.MethodName)) ∈ lw_all := lw_g (lw_at lw_m3 210 rfl) rfl
theorem q817 : (Jvm.Cond.classLink "SwollenHouse$House" (41 : Nat) "java/lang/String") ∈ lw_all := lw_g (lw_at lw_m3 211 rfl) rfl
theorem q818 : (Jvm.Cond.methodLink "SwollenHouse$House" (43 : Nat) ({ cls := "java/lang/String", name := "equals", desc := "(Ljava/lang/Object;)Z" } : Jvm.MethodName)) ∈ lw_all := lw_g (lw_at lw_m3 212 rfl) rfl
theorem q857 : (Jvm.Cond.selects "SwollenHouse$House" ({ cls := "java/lang/Object", name := "getClass", desc := "()Ljava/lang/Class;" } : Jvm.MethodName) ({ cls := "java/lang/Object", name := "getClass", desc := "()Ljava/lang/Class;" } : Jvm.MethodName)) ∈ lw_all := lw_g (lw_at lw_m4 11 rfl) rfl
theorem q896 : (Jvm.Cond.instanceMethod ({ cls := "SwollenHouse$House", name := "areJoined", desc := "(II)Z" } : Jvm.MethodName)) ∈ lw_all := lw_g (lw_at lw_m4 50 rfl) rfl
theorem q897 : (Jvm.Cond.selects "SwollenHouse$House" ({ cls := "SwollenHouse$House", name := "areJoined", desc := "(II)Z" } : Jvm.MethodName) ({ cls := "SwollenHouse$House", name := "areJoined", desc := "(II)Z" } : Jvm.MethodName)) ∈ lw_all := lw_g (lw_at lw_m4 51 rfl) rfl
theorem q898 : (Jvm.Cond.code ({ cls := "SwollenHouse$House", name := "areJoined", desc := "(II)Z" } : Jvm.MethodName) prog_8_method_3_code (4 : Nat) (Option.some Jvm.ClassFile.FieldType.boolean)) ∈ lw_all := lw_g (lw_at lw_m4 52 rfl) rfl
theorem q899 : (Jvm.Cond.classLink "SwollenHouse$House" (47 : Nat) "SwollenHouse$Door") ∈ lw_all := lw_g (lw_at lw_m4 53 rfl) rfl
theorem q900 : (Jvm.Cond.methodLink "SwollenHouse$House" (49 : Nat) ({ cls := "SwollenHouse$Door", name := "isOf", desc := "(I)Z" } : Jvm.MethodName)) ∈ lw_all := lw_g (lw_at lw_m4 54 rfl) rfl
theorem q1203 : (Jvm.Cond.instanceMethod ({ cls := "SwollenHouse$House", name := "damp", desc := "(I)I" } : Jvm.MethodName)) ∈ lw_all := lw_g (lw_at lw_m5 117 rfl) rfl
theorem q1204 : (Jvm.Cond.selects "SwollenHouse$House" ({ cls := "SwollenHouse$House", name := "damp", desc := "(I)I" } : Jvm.MethodName) ({ cls := "SwollenHouse$House", name := "damp", desc := "(I)I" } : Jvm.MethodName)) ∈ lw_all := lw_g (lw_at lw_m5 118 rfl) rfl
theorem q1205 : (Jvm.Cond.code ({ cls := "SwollenHouse$House", name := "damp", desc := "(I)I" } : Jvm.MethodName) prog_8_method_4_code (2 : Nat) (Option.some Jvm.ClassFile.FieldType.int)) ∈ lw_all := lw_g (lw_at lw_m5 119 rfl) rfl
theorem q2264 : (Jvm.Cond.castable "SwollenHouse$House" "java/lang/Object") ∈ lw_tbl := lw_at lw_m9 218 rfl
theorem in_X3 : ∀ w ∈ wsX30, w ∈ lw_all := lw_in wsX30 [264, 266, 268, 270, 272, 274, 276] (by decide +kernel) (by decide +kernel)

def RX4 : String := "SwollenHouse$State"
def TX4 : u_T := fun k => match k with
  | 0 => ("SwollenHouse$State", "swell", "[I", true)
  | 1 => ("SwollenHouse$State", "gap", "[I", true)
  | 2 => ("SwollenHouse$State", "at", "[I", true)
  | 3 => ("SwollenHouse$State", "wedges", "I", false)
  | _ => ("SwollenHouse$State", "day", "I", false)
def tyX4 : Nat → FieldType := fun k => match k with
  | 0 => .array .int
  | 1 => .array .int
  | 2 => .array .int
  | 3 => .int
  | _ => .int
abbrev wsX40 : List Cond := u_ws RX4 TX4 5
theorem nmX4 : ∀ a, a < 5 → ∀ b, b < 5 → a ≠ b → (TX4 a).2.1 ≠ (TX4 b).2.1 := by decide +kernel
theorem tyX4_ok : ∀ k, k < 5 → parseFieldDescriptor (TX4 k).2.2.1 = some (tyX4 k) := by decide +kernel
abbrev bcX4_init : ByteArray := prog_18_method_1_code
def yX4_init : MethodName := ⟨RX4, "<init>", "()V"⟩
abbrev bcX4_begin : ByteArray := prog_18_method_3_code
def yX4_begin : MethodName := ⟨RX4, "begin", "(LSwollenHouse$House;)V"⟩
abbrev bcX4_sticks : ByteArray := prog_18_method_4_code
def yX4_sticks : MethodName := ⟨RX4, "sticks", "(I)Z"⟩
abbrev bcX4_be : ByteArray := prog_18_method_2_code
def yX4_be : MethodName := ⟨RX4, "be", "(LSwollenHouse$State;)V"⟩
abbrev bcX4_canPlane : ByteArray := prog_18_method_5_code
def yX4_canPlane : MethodName := ⟨RX4, "canPlane", "(I)Z"⟩
abbrev bcX4_canWedge : ByteArray := prog_18_method_6_code
def yX4_canWedge : MethodName := ⟨RX4, "canWedge", "(I)Z"⟩
abbrev bcX4_canForce : ByteArray := prog_18_method_7_code
def yX4_canForce : MethodName := ⟨RX4, "canForce", "(I)Z"⟩
theorem q133 : (Jvm.Cond.initialized "SwollenHouse$State") ∈ lw_all := lw_g (lw_at lw_m1 7 rfl) rfl
theorem q252 : (Jvm.Cond.fieldLinkNest "SwollenHouse$State" (32 : Nat) "SwollenHouse$House" "doors" "Ljava/util/ArrayList;" "SwollenHouse") ∈ lw_tbl := lw_at lw_m1 126 rfl
theorem q256 : (Jvm.Cond.fieldLinkNest "SwollenHouse$State" (52 : Nat) "SwollenHouse$House" "at" "[I" "SwollenHouse") ∈ lw_tbl := lw_at lw_m1 130 rfl
theorem q283 : (Jvm.Cond.instantiable "SwollenHouse$State" (5 : Nat)) ∈ lw_all := lw_g (lw_at lw_m1 157 rfl) rfl
theorem q285 : (Jvm.Cond.instanceMethod ({ cls := "SwollenHouse$State", name := "<init>", desc := "()V" } : Jvm.MethodName)) ∈ lw_all := lw_g (lw_at lw_m1 159 rfl) rfl
theorem q286 : (Jvm.Cond.code ({ cls := "SwollenHouse$State", name := "<init>", desc := "()V" } : Jvm.MethodName) prog_18_method_1_code (1 : Nat) (Option.none : Option Jvm.ClassFile.FieldType)) ∈ lw_all := lw_g (lw_at lw_m1 160 rfl) rfl
theorem q287 : (Jvm.Cond.methodLink "SwollenHouse$State" (3 : Nat) ({ cls := "java/lang/Object", name := "<init>", desc := "()V" } : Jvm.MethodName)) ∈ lw_all := lw_g (lw_at lw_m1 161 rfl) rfl
theorem q288 : (Jvm.Cond.fieldLink "SwollenHouse$State" (9 : Nat) "SwollenHouse$State" "swell" "[I") ∈ lw_all := lw_g (lw_at lw_m1 162 rfl) rfl
theorem q291 : (Jvm.Cond.fieldLink "SwollenHouse$State" (15 : Nat) "SwollenHouse$State" "gap" "[I") ∈ lw_all := lw_g (lw_at lw_m1 165 rfl) rfl
theorem q295 : (Jvm.Cond.fieldLink "SwollenHouse$State" (18 : Nat) "SwollenHouse$State" "at" "[I") ∈ lw_all := lw_g (lw_at lw_m1 169 rfl) rfl
theorem q298 : (Jvm.Cond.fieldLink "SwollenHouse$State" (25 : Nat) "SwollenHouse$State" "wedges" "I") ∈ lw_all := lw_g (lw_at lw_m1 172 rfl) rfl
theorem q301 : (Jvm.Cond.fieldLink "SwollenHouse$State" (29 : Nat) "SwollenHouse$State" "day" "I") ∈ lw_all := lw_g (lw_at lw_m1 175 rfl) rfl
theorem q303 : (Jvm.Cond.laysFinal "SwollenHouse$State" "SwollenHouse$State" "swell" "[I") ∈ lw_all := lw_g (lw_at lw_m1 177 rfl) rfl
theorem q304 : (Jvm.Cond.soleField "SwollenHouse$State" "swell") ∈ lw_all := lw_g (lw_at lw_m1 178 rfl) rfl
theorem q305 : (Jvm.Cond.laysFinal "SwollenHouse$State" "SwollenHouse$State" "gap" "[I") ∈ lw_all := lw_g (lw_at lw_m1 179 rfl) rfl
theorem q306 : (Jvm.Cond.soleField "SwollenHouse$State" "gap") ∈ lw_all := lw_g (lw_at lw_m1 180 rfl) rfl
theorem q307 : (Jvm.Cond.laysFinal "SwollenHouse$State" "SwollenHouse$State" "at" "[I") ∈ lw_all := lw_g (lw_at lw_m1 181 rfl) rfl
theorem q308 : (Jvm.Cond.soleField "SwollenHouse$State" "at") ∈ lw_all := lw_g (lw_at lw_m1 182 rfl) rfl
theorem q309 : (Jvm.Cond.lays "SwollenHouse$State" "SwollenHouse$State" "wedges" "I") ∈ lw_all := lw_g (lw_at lw_m1 183 rfl) rfl
theorem q310 : (Jvm.Cond.soleField "SwollenHouse$State" "wedges") ∈ lw_all := lw_g (lw_at lw_m1 184 rfl) rfl
theorem q311 : (Jvm.Cond.lays "SwollenHouse$State" "SwollenHouse$State" "day" "I") ∈ lw_all := lw_g (lw_at lw_m1 185 rfl) rfl
theorem q312 : (Jvm.Cond.soleField "SwollenHouse$State" "day") ∈ lw_all := lw_g (lw_at lw_m1 186 rfl) rfl
theorem q313 : (Jvm.Cond.superclass "SwollenHouse$State" "java/lang/Object") ∈ lw_all := lw_g (lw_at lw_m1 187 rfl) rfl
theorem q320 : (Jvm.Cond.instanceMethod ({ cls := "SwollenHouse$State", name := "begin", desc := "(LSwollenHouse$House;)V" } : Jvm.MethodName)) ∈ lw_all := lw_g (lw_at lw_m1 194 rfl) rfl
theorem q321 : (Jvm.Cond.selects "SwollenHouse$State" ({ cls := "SwollenHouse$State", name := "begin", desc := "(LSwollenHouse$House;)V" } : Jvm.MethodName) ({ cls := "SwollenHouse$State", name := "begin", desc := "(LSwollenHouse$House;)V" } : Jvm.MethodName)) ∈ lw_all := lw_g (lw_at lw_m1 195 rfl) rfl
theorem q322 : (Jvm.Cond.code ({ cls := "SwollenHouse$State", name := "begin", desc := "(LSwollenHouse$House;)V" } : Jvm.MethodName) prog_18_method_3_code (3 : Nat) (Option.none : Option Jvm.ClassFile.FieldType)) ∈ lw_all := lw_g (lw_at lw_m1 196 rfl) rfl
theorem q323 : (Jvm.Cond.methodLink "SwollenHouse$State" (38 : Nat) ({ cls := "java/util/ArrayList", name := "size", desc := "()I" } : Jvm.MethodName)) ∈ lw_all := lw_g (lw_at lw_m1 197 rfl) rfl
theorem q327 : (Jvm.Cond.methodLink "SwollenHouse$State" (44 : Nat) ({ cls := "java/util/ArrayList", name := "get", desc := "(I)Ljava/lang/Object;" } : Jvm.MethodName)) ∈ lw_all := lw_g (lw_at lw_m1 201 rfl) rfl
theorem q341 : (Jvm.Cond.classLink "SwollenHouse$State" (48 : Nat) "SwollenHouse$Door") ∈ lw_all := lw_g (lw_at lw_m1 215 rfl) rfl
theorem q342 : (Jvm.Cond.methodLinkNest "SwollenHouse$State" (21 : Nat) ({ cls := "SwollenHouse", name := "copies", desc := "([I[I)V" } : Jvm.MethodName) "SwollenHouse") ∈ lw_tbl := lw_at lw_m1 216 rfl
theorem q866 : (Jvm.Cond.selects "SwollenHouse$State" ({ cls := "java/lang/Object", name := "getClass", desc := "()Ljava/lang/Class;" } : Jvm.MethodName) ({ cls := "java/lang/Object", name := "getClass", desc := "()Ljava/lang/Class;" } : Jvm.MethodName)) ∈ lw_all := lw_g (lw_at lw_m4 20 rfl) rfl
theorem q916 : (Jvm.Cond.fieldLinkNest "SwollenHouse$State" (50 : Nat) "SwollenHouse$Door" "gap" "I" "SwollenHouse") ∈ lw_tbl := lw_at lw_m4 70 rfl
theorem q1168 : (Jvm.Cond.instanceMethod ({ cls := "SwollenHouse$State", name := "sticks", desc := "(I)Z" } : Jvm.MethodName)) ∈ lw_all := lw_g (lw_at lw_m5 82 rfl) rfl
theorem q1169 : (Jvm.Cond.selects "SwollenHouse$State" ({ cls := "SwollenHouse$State", name := "sticks", desc := "(I)Z" } : Jvm.MethodName) ({ cls := "SwollenHouse$State", name := "sticks", desc := "(I)Z" } : Jvm.MethodName)) ∈ lw_all := lw_g (lw_at lw_m5 83 rfl) rfl
theorem q1170 : (Jvm.Cond.code ({ cls := "SwollenHouse$State", name := "sticks", desc := "(I)Z" } : Jvm.MethodName) prog_18_method_4_code (2 : Nat) (Option.some Jvm.ClassFile.FieldType.boolean)) ∈ lw_all := lw_g (lw_at lw_m5 84 rfl) rfl
theorem q1171 : (Jvm.Cond.methodLinkNest "SwollenHouse$State" (53 : Nat) ({ cls := "SwollenHouse", name := "isIn", desc := "(II)Z" } : Jvm.MethodName) "SwollenHouse") ∈ lw_tbl := lw_at lw_m5 85 rfl
theorem q1195 : (Jvm.Cond.instanceMethod ({ cls := "SwollenHouse$State", name := "be", desc := "(LSwollenHouse$State;)V" } : Jvm.MethodName)) ∈ lw_all := lw_g (lw_at lw_m5 109 rfl) rfl
theorem q1196 : (Jvm.Cond.selects "SwollenHouse$State" ({ cls := "SwollenHouse$State", name := "be", desc := "(LSwollenHouse$State;)V" } : Jvm.MethodName) ({ cls := "SwollenHouse$State", name := "be", desc := "(LSwollenHouse$State;)V" } : Jvm.MethodName)) ∈ lw_all := lw_g (lw_at lw_m5 110 rfl) rfl
theorem q1197 : (Jvm.Cond.code ({ cls := "SwollenHouse$State", name := "be", desc := "(LSwollenHouse$State;)V" } : Jvm.MethodName) prog_18_method_2_code (2 : Nat) (Option.none : Option Jvm.ClassFile.FieldType)) ∈ lw_all := lw_g (lw_at lw_m5 111 rfl) rfl
theorem q1303 : (Jvm.Cond.instanceMethod ({ cls := "SwollenHouse$State", name := "canPlane", desc := "(I)Z" } : Jvm.MethodName)) ∈ lw_all := lw_g (lw_at lw_m5 217 rfl) rfl
theorem q1304 : (Jvm.Cond.selects "SwollenHouse$State" ({ cls := "SwollenHouse$State", name := "canPlane", desc := "(I)Z" } : Jvm.MethodName) ({ cls := "SwollenHouse$State", name := "canPlane", desc := "(I)Z" } : Jvm.MethodName)) ∈ lw_all := lw_g (lw_at lw_m5 218 rfl) rfl
theorem q1305 : (Jvm.Cond.code ({ cls := "SwollenHouse$State", name := "canPlane", desc := "(I)Z" } : Jvm.MethodName) prog_18_method_5_code (2 : Nat) (Option.some Jvm.ClassFile.FieldType.boolean)) ∈ lw_all := lw_g (lw_at lw_m5 219 rfl) rfl
theorem q1311 : (Jvm.Cond.instanceMethod ({ cls := "SwollenHouse$State", name := "canWedge", desc := "(I)Z" } : Jvm.MethodName)) ∈ lw_all := lw_g (lw_at lw_m5 225 rfl) rfl
theorem q1312 : (Jvm.Cond.selects "SwollenHouse$State" ({ cls := "SwollenHouse$State", name := "canWedge", desc := "(I)Z" } : Jvm.MethodName) ({ cls := "SwollenHouse$State", name := "canWedge", desc := "(I)Z" } : Jvm.MethodName)) ∈ lw_all := lw_g (lw_at lw_m5 226 rfl) rfl
theorem q1313 : (Jvm.Cond.code ({ cls := "SwollenHouse$State", name := "canWedge", desc := "(I)Z" } : Jvm.MethodName) prog_18_method_6_code (2 : Nat) (Option.some Jvm.ClassFile.FieldType.boolean)) ∈ lw_all := lw_g (lw_at lw_m5 227 rfl) rfl
theorem q1314 : (Jvm.Cond.methodLink "SwollenHouse$State" (57 : Nat) ({ cls := "SwollenHouse$State", name := "sticks", desc := "(I)Z" } : Jvm.MethodName)) ∈ lw_all := lw_g (lw_at lw_m5 228 rfl) rfl
theorem q1320 : (Jvm.Cond.instanceMethod ({ cls := "SwollenHouse$State", name := "canForce", desc := "(I)Z" } : Jvm.MethodName)) ∈ lw_all := lw_g (lw_at lw_m5 234 rfl) rfl
theorem q1321 : (Jvm.Cond.selects "SwollenHouse$State" ({ cls := "SwollenHouse$State", name := "canForce", desc := "(I)Z" } : Jvm.MethodName) ({ cls := "SwollenHouse$State", name := "canForce", desc := "(I)Z" } : Jvm.MethodName)) ∈ lw_all := lw_g (lw_at lw_m5 235 rfl) rfl
theorem q1322 : (Jvm.Cond.code ({ cls := "SwollenHouse$State", name := "canForce", desc := "(I)Z" } : Jvm.MethodName) prog_18_method_7_code (2 : Nat) (Option.some Jvm.ClassFile.FieldType.boolean)) ∈ lw_all := lw_g (lw_at lw_m5 236 rfl) rfl
theorem q2260 : (Jvm.Cond.castable "SwollenHouse$State" "java/lang/Object") ∈ lw_tbl := lw_at lw_m9 214 rfl
theorem in_X4 : ∀ w ∈ wsX40, w ∈ lw_all := lw_in wsX40 [303, 305, 307, 309, 311] (by decide +kernel) (by decide +kernel)

def RX5 : String := "SwollenHouseModel"
def TX5 : u_T := fun k => match k with
  | 0 => ("SwollenHouseModel", "thrown", "I", false)
  | 1 => ("SwollenHouseModel", "tape", "[I", true)
  | 2 => ("SwollenHouseModel", "taped", "I", false)
  | 3 => ("SwollenHouseModel", "size", "I", false)
  | 4 => ("SwollenHouseModel", "sort", "[I", true)
  | 5 => ("SwollenHouseModel", "place", "[I", true)
  | 6 => ("SwollenHouseModel", "value", "[J", true)
  | 7 => ("SwollenHouseModel", "at", "I", false)
  | 8 => ("SwollenHouseModel", "fault", "I", false)
  | 9 => ("SwollenHouseModel", "words", "[J", true)
  | 10 => ("SwollenHouseModel", "houses", "[I", true)
  | 11 => ("SwollenHouseModel", "op", "[I", true)
  | 12 => ("SwollenHouseModel", "arg", "[I", true)
  | 13 => ("SwollenHouseModel", "codes", "I", false)
  | 14 => ("SwollenHouseModel", "names", "[J", true)
  | 15 => ("SwollenHouseModel", "readNames", "[J", true)
  | 16 => ("SwollenHouseModel", "nameOf", "[I", true)
  | 17 => ("SwollenHouseModel", "readNameOf", "[I", true)
  | 18 => ("SwollenHouseModel", "namesMany", "I", false)
  | 19 => ("SwollenHouseModel", "readMany", "I", false)
  | 20 => ("SwollenHouseModel", "once", "I", false)
  | 21 => ("SwollenHouseModel", "lines", "[I", true)
  | 22 => ("SwollenHouseModel", "facts", "[I", true)
  | 23 => ("SwollenHouseModel", "pile", "[I", true)
  | 24 => ("SwollenHouseModel", "state", "[I", true)
  | 25 => ("SwollenHouseModel", "undos", "I", false)
  | 26 => ("SwollenHouseModel", "isMarked", "[Z", true)
  | 27 => ("SwollenHouseModel", "opens", "[I", true)
  | 28 => ("SwollenHouseModel", "row", "[I", true)
  | 29 => ("SwollenHouseModel", "gaps", "[I", true)
  | 30 => ("SwollenHouseModel", "sticks", "[I", true)
  | _ => ("SwollenHouseModel", "g", "J", false)
def tyX5 : Nat → FieldType := fun k => match k with
  | 0 => .int
  | 1 => .array .int
  | 2 => .int
  | 3 => .int
  | 4 => .array .int
  | 5 => .array .int
  | 6 => .array .long
  | 7 => .int
  | 8 => .int
  | 9 => .array .long
  | 10 => .array .int
  | 11 => .array .int
  | 12 => .array .int
  | 13 => .int
  | 14 => .array .long
  | 15 => .array .long
  | 16 => .array .int
  | 17 => .array .int
  | 18 => .int
  | 19 => .int
  | 20 => .int
  | 21 => .array .int
  | 22 => .array .int
  | 23 => .array .int
  | 24 => .array .int
  | 25 => .int
  | 26 => .array .boolean
  | 27 => .array .int
  | 28 => .array .int
  | 29 => .array .int
  | 30 => .array .int
  | _ => .long
abbrev wsX50 : List Cond := u_ws RX5 TX5 32
theorem nmX5 : ∀ a, a < 32 → ∀ b, b < 32 → a ≠ b → (TX5 a).2.1 ≠ (TX5 b).2.1 := by decide +kernel
theorem tyX5_ok : ∀ k, k < 32 → parseFieldDescriptor (TX5 k).2.2.1 = some (tyX5 k) := by decide +kernel
abbrev bcX5_thrown : ByteArray := prog_25_method_1_code
def yX5_thrown : MethodName := ⟨RX5, "thrown", "()I"⟩
abbrev bcX5_feed : ByteArray := prog_25_method_2_code
def yX5_feed : MethodName := ⟨RX5, "feed", "(JJJ)I"⟩
abbrev bcX5_lay : ByteArray := prog_25_method_3_code
def yX5_lay : MethodName := ⟨RX5, "lay", "(J)V"⟩
abbrev bcX5_init : ByteArray := prog_25_method_4_code
def yX5_init : MethodName := ⟨RX5, "<init>", "()V"⟩
abbrev bcX5_standsAsAlways : ByteArray := prog_25_method_18_code
def yX5_standsAsAlways : MethodName := ⟨RX5, "standsAsAlways", "(I)V"⟩
abbrev bcX5_begins : ByteArray := prog_25_method_43_code
def yX5_begins : MethodName := ⟨RX5, "begins", "()V"⟩
abbrev bcX5_starts : ByteArray := prog_25_method_42_code
def yX5_starts : MethodName := ⟨RX5, "starts", "(I)V"⟩
abbrev bcX5_doors : ByteArray := prog_25_method_46_code
def yX5_doors : MethodName := ⟨RX5, "doors", "()I"⟩
abbrev bcX5_doorOf : ByteArray := prog_25_method_48_code
def yX5_doorOf : MethodName := ⟨RX5, "doorOf", "(II)I"⟩
abbrev bcX5_persons : ByteArray := prog_25_method_47_code
def yX5_persons : MethodName := ⟨RX5, "persons", "()I"⟩
abbrev bcX5_house : ByteArray := prog_25_method_26_code
def yX5_house : MethodName := ⟨RX5, "house", "()I"⟩
abbrev bcX5_cutAll : ByteArray := prog_25_method_9_code
def yX5_cutAll : MethodName := ⟨RX5, "cutAll", "()V"⟩
abbrev bcX5_isLetter : ByteArray := prog_25_method_5_code
def yX5_isLetter : MethodName := ⟨RX5, "isLetter", "(I)Z"⟩
abbrev bcX5_rank : ByteArray := prog_25_method_7_code
def yX5_rank : MethodName := ⟨RX5, "rank", "(I)I"⟩
abbrev bcX5_isDigit : ByteArray := prog_25_method_6_code
def yX5_isDigit : MethodName := ⟨RX5, "isDigit", "(I)Z"⟩
abbrev bcX5_isSignOf : ByteArray := prog_25_method_8_code
def yX5_isSignOf : MethodName := ⟨RX5, "isSignOf", "(I)Z"⟩
abbrev bcX5_readLine : ByteArray := prog_25_method_27_code
def yX5_readLine : MethodName := ⟨RX5, "readLine", "()V"⟩
abbrev bcX5_isWord : ByteArray := prog_25_method_12_code
def yX5_isWord : MethodName := ⟨RX5, "isWord", "(I)Z"⟩
abbrev bcX5_readName : ByteArray := prog_25_method_28_code
def yX5_readName : MethodName := ⟨RX5, "readName", "(III)V"⟩
abbrev bcX5_wrong : ByteArray := prog_25_method_10_code
def yX5_wrong : MethodName := ⟨RX5, "wrong", "(I)V"⟩
abbrev bcX5_isName : ByteArray := prog_25_method_23_code
def yX5_isName : MethodName := ⟨RX5, "isName", "()Z"⟩
abbrev bcX5_wordHere : ByteArray := prog_25_method_21_code
def yX5_wordHere : MethodName := ⟨RX5, "wordHere", "(II)I"⟩
abbrev bcX5_nameAt : ByteArray := prog_25_method_24_code
def yX5_nameAt : MethodName := ⟨RX5, "nameAt", "(Z)I"⟩
abbrev bcX5_readDoor : ByteArray := prog_25_method_29_code
def yX5_readDoor : MethodName := ⟨RX5, "readDoor", "()V"⟩
abbrev bcX5_takeTold : ByteArray := prog_25_method_25_code
def yX5_takeTold : MethodName := ⟨RX5, "takeTold", "(ZII)I"⟩
abbrev bcX5_within : ByteArray := prog_25_method_17_code
def yX5_within : MethodName := ⟨RX5, "within", "(III)Z"⟩
abbrev bcX5_takeOne : ByteArray := prog_25_method_22_code
def yX5_takeOne : MethodName := ⟨RX5, "takeOne", "(II)I"⟩
abbrev bcX5_takeAfter : ByteArray := prog_25_method_20_code
def yX5_takeAfter : MethodName := ⟨RX5, "takeAfter", "(III)I"⟩
abbrev bcX5_takeWord : ByteArray := prog_25_method_16_code
def yX5_takeWord : MethodName := ⟨RX5, "takeWord", "(I)V"⟩
abbrev bcX5_hasWord : ByteArray := prog_25_method_15_code
def yX5_hasWord : MethodName := ⟨RX5, "hasWord", "(I)Z"⟩
abbrev bcX5_takeNumber : ByteArray := prog_25_method_19_code
def yX5_takeNumber : MethodName := ⟨RX5, "takeNumber", "(II)I"⟩
abbrev bcX5_readOnce : ByteArray := prog_25_method_30_code
def yX5_readOnce : MethodName := ⟨RX5, "readOnce", "()V"⟩
abbrev bcX5_readDamp : ByteArray := prog_25_method_31_code
def yX5_readDamp : MethodName := ⟨RX5, "readDamp", "()V"⟩
abbrev bcX5_whole : ByteArray := prog_25_method_34_code
def yX5_whole : MethodName := ⟨RX5, "whole", "(I)V"⟩
abbrev bcX5_test : ByteArray := prog_25_method_35_code
def yX5_test : MethodName := ⟨RX5, "test", "(I)V"⟩
abbrev bcX5_sums : ByteArray := prog_25_method_36_code
def yX5_sums : MethodName := ⟨RX5, "sums", "(I)V"⟩
abbrev bcX5_products : ByteArray := prog_25_method_37_code
def yX5_products : MethodName := ⟨RX5, "products", "(I)V"⟩
abbrev bcX5_takePart : ByteArray := prog_25_method_38_code
def yX5_takePart : MethodName := ⟨RX5, "takePart", "(I)V"⟩
abbrev bcX5_isSign : ByteArray := prog_25_method_11_code
def yX5_isSign : MethodName := ⟨RX5, "isSign", "(I)Z"⟩
abbrev bcX5_emit : ByteArray := prog_25_method_33_code
def yX5_emit : MethodName := ⟨RX5, "emit", "(II)V"⟩
abbrev bcX5_hasSign : ByteArray := prog_25_method_14_code
def yX5_hasSign : MethodName := ⟨RX5, "hasSign", "(I)Z"⟩
abbrev bcX5_takeSign : ByteArray := prog_25_method_13_code
def yX5_takeSign : MethodName := ⟨RX5, "takeSign", "(I)V"⟩
abbrev bcX5_days : ByteArray := prog_25_method_32_code
def yX5_days : MethodName := ⟨RX5, "days", "()I"⟩
abbrev bcX5_door : ByteArray := prog_25_method_67_code
def yX5_door : MethodName := ⟨RX5, "door", "(II)I"⟩
abbrev bcX5_isDoor : ByteArray := prog_25_method_50_code
def yX5_isDoor : MethodName := ⟨RX5, "isDoor", "(I)Z"⟩
abbrev bcX5_isWedged : ByteArray := prog_25_method_54_code
def yX5_isWedged : MethodName := ⟨RX5, "isWedged", "(II)Z"⟩
abbrev bcX5_doesStick : ByteArray := prog_25_method_55_code
def yX5_doesStick : MethodName := ⟨RX5, "doesStick", "(II)Z"⟩
abbrev bcX5_overOf : ByteArray := prog_25_method_53_code
def yX5_overOf : MethodName := ⟨RX5, "overOf", "(II)I"⟩
abbrev bcX5_person : ByteArray := prog_25_method_68_code
def yX5_person : MethodName := ⟨RX5, "person", "(I)I"⟩
abbrev bcX5_isPerson : ByteArray := prog_25_method_51_code
def yX5_isPerson : MethodName := ⟨RX5, "isPerson", "(I)Z"⟩
abbrev bcX5_day : ByteArray := prog_25_method_69_code
def yX5_day : MethodName := ⟨RX5, "day", "()I"⟩
abbrev bcX5_keeps : ByteArray := prog_25_method_44_code
def yX5_keeps : MethodName := ⟨RX5, "keeps", "()V"⟩
abbrev bcX5_copies : ByteArray := prog_25_method_41_code
def yX5_copies : MethodName := ⟨RX5, "copies", "(III)V"⟩
abbrev bcX5_passes : ByteArray := prog_25_method_59_code
def yX5_passes : MethodName := ⟨RX5, "passes", "(I)V"⟩
abbrev bcX5_dampOn : ByteArray := prog_25_method_52_code
def yX5_dampOn : MethodName := ⟨RX5, "dampOn", "(I)I"⟩
abbrev bcX5_passes_2 : ByteArray := prog_25_method_58_code
def yX5_passes_2 : MethodName := ⟨RX5, "passes", "(II)V"⟩
abbrev bcX5_moves : ByteArray := prog_25_method_57_code
def yX5_moves : MethodName := ⟨RX5, "moves", "(III)I"⟩
abbrev bcX5_worthAt : ByteArray := prog_25_method_39_code
def yX5_worthAt : MethodName := ⟨RX5, "worthAt", "(I)I"⟩
abbrev bcX5_both : ByteArray := prog_25_method_40_code
def yX5_both : MethodName := ⟨RX5, "both", "(III)I"⟩
abbrev bcX5_sticking : ByteArray := prog_25_method_56_code
def yX5_sticking : MethodName := ⟨RX5, "sticking", "(I)I"⟩
abbrev bcX5_walk : ByteArray := prog_25_method_70_code
def yX5_walk : MethodName := ⟨RX5, "walk", "(II)I"⟩
abbrev bcX5_mayWalk : ByteArray := prog_25_method_61_code
def yX5_mayWalk : MethodName := ⟨RX5, "mayWalk", "(III)Z"⟩
abbrev bcX5_behind : ByteArray := prog_25_method_60_code
def yX5_behind : MethodName := ⟨RX5, "behind", "(II)I"⟩
abbrev bcX5_walks : ByteArray := prog_25_method_64_code
def yX5_walks : MethodName := ⟨RX5, "walks", "(III)V"⟩
abbrev bcX5_plane : ByteArray := prog_25_method_71_code
def yX5_plane : MethodName := ⟨RX5, "plane", "(I)I"⟩
abbrev bcX5_wedge : ByteArray := prog_25_method_72_code
def yX5_wedge : MethodName := ⟨RX5, "wedge", "(I)I"⟩
abbrev bcX5_mayWedge : ByteArray := prog_25_method_63_code
def yX5_mayWedge : MethodName := ⟨RX5, "mayWedge", "(II)Z"⟩
abbrev bcX5_force : ByteArray := prog_25_method_73_code
def yX5_force : MethodName := ⟨RX5, "force", "(I)I"⟩
abbrev bcX5_mayForce : ByteArray := prog_25_method_62_code
def yX5_mayForce : MethodName := ⟨RX5, "mayForce", "(II)Z"⟩
abbrev bcX5_undo : ByteArray := prog_25_method_74_code
def yX5_undo : MethodName := ⟨RX5, "undo", "()Z"⟩
abbrev bcX5_judged : ByteArray := prog_25_method_76_code
def yX5_judged : MethodName := ⟨RX5, "judged", "(I)I"⟩
abbrev bcX5_can : ByteArray := prog_25_method_75_code
def yX5_can : MethodName := ⟨RX5, "can", "(III)Z"⟩
abbrev bcX5_shutIn : ByteArray := prog_25_method_77_code
def yX5_shutIn : MethodName := ⟨RX5, "shutIn", "(I)I"⟩
abbrev bcX5_bits : ByteArray := prog_25_method_65_code
def yX5_bits : MethodName := ⟨RX5, "bits", "(I)I"⟩
abbrev bcX5_shut : ByteArray := prog_25_method_78_code
def yX5_shut : MethodName := ⟨RX5, "shut", "()I"⟩
abbrev bcX5_range : ByteArray := prog_25_method_82_code
def yX5_range : MethodName := ⟨RX5, "range", "(I)I"⟩
abbrev bcX5_isRoom : ByteArray := prog_25_method_49_code
def yX5_isRoom : MethodName := ⟨RX5, "isRoom", "(I)Z"⟩
abbrev bcX5_rooms : ByteArray := prog_25_method_45_code
def yX5_rooms : MethodName := ⟨RX5, "rooms", "()I"⟩
abbrev bcX5_openNow : ByteArray := prog_25_method_81_code
def yX5_openNow : MethodName := ⟨RX5, "openNow", "(I)I"⟩
abbrev bcX5_rangeBy : ByteArray := prog_25_method_80_code
def yX5_rangeBy : MethodName := ⟨RX5, "rangeBy", "(II)I"⟩
abbrev bcX5_onFrom : ByteArray := prog_25_method_79_code
def yX5_onFrom : MethodName := ⟨RX5, "onFrom", "(II)I"⟩
abbrev bcX5_company : ByteArray := prog_25_method_84_code
def yX5_company : MethodName := ⟨RX5, "company", "(I)I"⟩
abbrev bcX5_companyBy : ByteArray := prog_25_method_83_code
def yX5_companyBy : MethodName := ⟨RX5, "companyBy", "(II)I"⟩
abbrev bcX5_alone : ByteArray := prog_25_method_85_code
def yX5_alone : MethodName := ⟨RX5, "alone", "()I"⟩
abbrev bcX5_bride : ByteArray := prog_25_method_86_code
def yX5_bride : MethodName := ⟨RX5, "bride", "()I"⟩
abbrev bcX5_parts : ByteArray := prog_25_method_87_code
def yX5_parts : MethodName := ⟨RX5, "parts", "()I"⟩
abbrev bcX5_deep : ByteArray := prog_25_method_88_code
def yX5_deep : MethodName := ⟨RX5, "deep", "(I)I"⟩
abbrev bcX5_spared : ByteArray := prog_25_method_89_code
def yX5_spared : MethodName := ⟨RX5, "spared", "()I"⟩
abbrev bcX5_opened : ByteArray := prog_25_method_91_code
def yX5_opened : MethodName := ⟨RX5, "opened", "()I"⟩
abbrev bcX5_pairsBy : ByteArray := prog_25_method_90_code
def yX5_pairsBy : MethodName := ⟨RX5, "pairsBy", "(I)I"⟩
abbrev bcX5_cut : ByteArray := prog_25_method_92_code
def yX5_cut : MethodName := ⟨RX5, "cut", "(II)I"⟩
abbrev bcX5_rattles : ByteArray := prog_25_method_93_code
def yX5_rattles : MethodName := ⟨RX5, "rattles", "()I"⟩
abbrev bcX5_worst : ByteArray := prog_25_method_94_code
def yX5_worst : MethodName := ⟨RX5, "worst", "()I"⟩
abbrev bcX5_later : ByteArray := prog_25_method_96_code
def yX5_later : MethodName := ⟨RX5, "later", "(II)I"⟩
abbrev bcX5_triesNow : ByteArray := prog_25_method_95_code
def yX5_triesNow : MethodName := ⟨RX5, "triesNow", "()V"⟩
abbrev bcX5_closes : ByteArray := prog_25_method_98_code
def yX5_closes : MethodName := ⟨RX5, "closes", "(I)I"⟩
abbrev bcX5_behindHow : ByteArray := prog_25_method_97_code
def yX5_behindHow : MethodName := ⟨RX5, "behindHow", "(IZ)I"⟩
abbrev bcX5_gives : ByteArray := prog_25_method_99_code
def yX5_gives : MethodName := ⟨RX5, "gives", "(I)I"⟩
abbrev bcX5_calm : ByteArray := prog_25_method_100_code
def yX5_calm : MethodName := ⟨RX5, "calm", "()I"⟩
abbrev bcX5_hard : ByteArray := prog_25_method_101_code
def yX5_hard : MethodName := ⟨RX5, "hard", "()I"⟩
abbrev bcX5_arrives : ByteArray := prog_25_method_104_code
def yX5_arrives : MethodName := ⟨RX5, "arrives", "(II)I"⟩
abbrev bcX5_opensThen : ByteArray := prog_25_method_102_code
def yX5_opensThen : MethodName := ⟨RX5, "opensThen", "()V"⟩
abbrev bcX5_arrivesBy : ByteArray := prog_25_method_103_code
def yX5_arrivesBy : MethodName := ⟨RX5, "arrivesBy", "(II)I"⟩
abbrev bcX5_from : ByteArray := prog_25_method_105_code
def yX5_from : MethodName := ⟨RX5, "from", "(II)I"⟩
abbrev bcX5_both_2 : ByteArray := prog_25_method_106_code
def yX5_both_2 : MethodName := ⟨RX5, "both", "(II)I"⟩
abbrev bcX5_planed : ByteArray := prog_25_method_109_code
def yX5_planed : MethodName := ⟨RX5, "planed", "(II)I"⟩
abbrev bcX5_doesPlane : ByteArray := prog_25_method_108_code
def yX5_doesPlane : MethodName := ⟨RX5, "doesPlane", "(IIII)Z"⟩
abbrev bcX5_areOne : ByteArray := prog_25_method_107_code
def yX5_areOne : MethodName := ⟨RX5, "areOne", "(I)Z"⟩
abbrev bcX5_feel : ByteArray := prog_25_method_110_code
def yX5_feel : MethodName := ⟨RX5, "feel", "(IIZ)Z"⟩
abbrev bcX5_wets : ByteArray := prog_25_method_112_code
def yX5_wets : MethodName := ⟨RX5, "wets", "()I"⟩
abbrev bcX5_wetsNow : ByteArray := prog_25_method_111_code
def yX5_wetsNow : MethodName := ⟨RX5, "wetsNow", "()I"⟩
abbrev bcX5_tries : ByteArray := prog_25_method_113_code
def yX5_tries : MethodName := ⟨RX5, "tries", "()I"⟩
abbrev bcX5_say : ByteArray := prog_25_method_114_code
def yX5_say : MethodName := ⟨RX5, "say", "(II)Z"⟩
abbrev bcX5_who : ByteArray := prog_25_method_115_code
def yX5_who : MethodName := ⟨RX5, "who", "()I"⟩
abbrev bcX5_chance : ByteArray := prog_25_method_116_code
def yX5_chance : MethodName := ⟨RX5, "chance", "(III)I"⟩
abbrev bcX5_rests : ByteArray := prog_25_method_118_code
def yX5_rests : MethodName := ⟨RX5, "rests", "(IIII)I"⟩
abbrev bcX5_getsBy : ByteArray := prog_25_method_117_code
def yX5_getsBy : MethodName := ⟨RX5, "getsBy", "(IIIII)I"⟩
abbrev bcX5_years : ByteArray := prog_25_method_121_code
def yX5_years : MethodName := ⟨RX5, "years", "(III)I"⟩
abbrev bcX5_drawsDeed : ByteArray := prog_25_method_120_code
def yX5_drawsDeed : MethodName := ⟨RX5, "drawsDeed", "()Z"⟩
abbrev bcX5_draw : ByteArray := prog_25_method_119_code
def yX5_draw : MethodName := ⟨RX5, "draw", "(I)I"⟩
abbrev bcX5_sumOf : ByteArray := prog_25_method_66_code
def yX5_sumOf : MethodName := ⟨RX5, "sumOf", "(II)I"⟩
abbrev bcX5_mark : ByteArray := prog_25_method_122_code
def yX5_mark : MethodName := ⟨RX5, "mark", "(IZ)Z"⟩
abbrev bcX5_count : ByteArray := prog_25_method_123_code
def yX5_count : MethodName := ⟨RX5, "count", "(I)I"⟩
theorem q136 : (Jvm.Cond.initialized "SwollenHouseModel") ∈ lw_all := lw_g (lw_at lw_m1 10 rfl) rfl
theorem q871 : (Jvm.Cond.selects "SwollenHouseModel" ({ cls := "java/lang/Object", name := "getClass", desc := "()Ljava/lang/Class;" } : Jvm.MethodName) ({ cls := "java/lang/Object", name := "getClass", desc := "()Ljava/lang/Class;" } : Jvm.MethodName)) ∈ lw_all := lw_g (lw_at lw_m4 25 rfl) rfl
theorem q1634 : (Jvm.Cond.instanceMethod ({ cls := "SwollenHouseModel", name := "thrown", desc := "()I" } : Jvm.MethodName)) ∈ lw_all := lw_g (lw_at lw_m7 68 rfl) rfl
theorem q1635 : (Jvm.Cond.selects "SwollenHouseModel" ({ cls := "SwollenHouseModel", name := "thrown", desc := "()I" } : Jvm.MethodName) ({ cls := "SwollenHouseModel", name := "thrown", desc := "()I" } : Jvm.MethodName)) ∈ lw_all := lw_g (lw_at lw_m7 69 rfl) rfl
theorem q1636 : (Jvm.Cond.code ({ cls := "SwollenHouseModel", name := "thrown", desc := "()I" } : Jvm.MethodName) prog_25_method_1_code (1 : Nat) (Option.some Jvm.ClassFile.FieldType.int)) ∈ lw_all := lw_g (lw_at lw_m7 70 rfl) rfl
theorem q1638 : (Jvm.Cond.instanceMethod ({ cls := "SwollenHouseModel", name := "feed", desc := "(JJJ)I" } : Jvm.MethodName)) ∈ lw_all := lw_g (lw_at lw_m7 72 rfl) rfl
theorem q1639 : (Jvm.Cond.selects "SwollenHouseModel" ({ cls := "SwollenHouseModel", name := "feed", desc := "(JJJ)I" } : Jvm.MethodName) ({ cls := "SwollenHouseModel", name := "feed", desc := "(JJJ)I" } : Jvm.MethodName)) ∈ lw_all := lw_g (lw_at lw_m7 73 rfl) rfl
theorem q1640 : (Jvm.Cond.code ({ cls := "SwollenHouseModel", name := "feed", desc := "(JJJ)I" } : Jvm.MethodName) prog_25_method_2_code (7 : Nat) (Option.some Jvm.ClassFile.FieldType.int)) ∈ lw_all := lw_g (lw_at lw_m7 74 rfl) rfl
theorem q1641 : (Jvm.Cond.methodLink "SwollenHouseModel" (7 : Nat) ({ cls := "SwollenHouseModel", name := "lay", desc := "(J)V" } : Jvm.MethodName)) ∈ lw_all := lw_g (lw_at lw_m7 75 rfl) rfl
theorem q1642 : (Jvm.Cond.privateMethod ({ cls := "SwollenHouseModel", name := "lay", desc := "(J)V" } : Jvm.MethodName)) ∈ lw_tbl := lw_at lw_m7 76 rfl
theorem q1643 : (Jvm.Cond.instanceMethod ({ cls := "SwollenHouseModel", name := "lay", desc := "(J)V" } : Jvm.MethodName)) ∈ lw_all := lw_g (lw_at lw_m7 77 rfl) rfl
theorem q1644 : (Jvm.Cond.instantiable "SwollenHouseModel" (32 : Nat)) ∈ lw_all := lw_g (lw_at lw_m7 78 rfl) rfl
theorem q1645 : (Jvm.Cond.code ({ cls := "SwollenHouseModel", name := "lay", desc := "(J)V" } : Jvm.MethodName) prog_25_method_3_code (5 : Nat) (Option.none : Option Jvm.ClassFile.FieldType)) ∈ lw_all := lw_g (lw_at lw_m7 79 rfl) rfl
theorem q1648 : (Jvm.Cond.instanceMethod ({ cls := "SwollenHouseModel", name := "<init>", desc := "()V" } : Jvm.MethodName)) ∈ lw_all := lw_g (lw_at lw_m7 82 rfl) rfl
theorem q1649 : (Jvm.Cond.code ({ cls := "SwollenHouseModel", name := "<init>", desc := "()V" } : Jvm.MethodName) prog_25_method_4_code (1 : Nat) (Option.none : Option Jvm.ClassFile.FieldType)) ∈ lw_all := lw_g (lw_at lw_m7 83 rfl) rfl
theorem q1650 : (Jvm.Cond.methodLink "SwollenHouseModel" (18 : Nat) ({ cls := "java/lang/Object", name := "<init>", desc := "()V" } : Jvm.MethodName)) ∈ lw_all := lw_g (lw_at lw_m7 84 rfl) rfl
theorem q1651 : (Jvm.Cond.constantLong "SwollenHouseModel" (34 : Nat) (932857 : Int64)) ∈ lw_all := lw_g (lw_at lw_m7 85 rfl) rfl
theorem q1652 : (Jvm.Cond.constantLong "SwollenHouseModel" (36 : Nat) (223720 : Int64)) ∈ lw_all := lw_g (lw_at lw_m7 86 rfl) rfl
theorem q1653 : (Jvm.Cond.constantLong "SwollenHouseModel" (38 : Nat) (9636 : Int64)) ∈ lw_all := lw_g (lw_at lw_m7 87 rfl) rfl
theorem q1654 : (Jvm.Cond.constantLong "SwollenHouseModel" (40 : Nat) (1119812451 : Int64)) ∈ lw_all := lw_g (lw_at lw_m7 88 rfl) rfl
theorem q1655 : (Jvm.Cond.constantLong "SwollenHouseModel" (42 : Nat) (347 : Int64)) ∈ lw_all := lw_g (lw_at lw_m7 89 rfl) rfl
theorem q1656 : (Jvm.Cond.constantLong "SwollenHouseModel" (44 : Nat) (204478 : Int64)) ∈ lw_all := lw_g (lw_at lw_m7 90 rfl) rfl
theorem q1657 : (Jvm.Cond.constantLong "SwollenHouseModel" (46 : Nat) (1360911042 : Int64)) ∈ lw_all := lw_g (lw_at lw_m7 91 rfl) rfl
theorem q1658 : (Jvm.Cond.constantLong "SwollenHouseModel" (48 : Nat) (5538 : Int64)) ∈ lw_all := lw_g (lw_at lw_m7 92 rfl) rfl
theorem q1659 : (Jvm.Cond.constantLong "SwollenHouseModel" (50 : Nat) (1166843 : Int64)) ∈ lw_all := lw_g (lw_at lw_m7 93 rfl) rfl
theorem q1660 : (Jvm.Cond.constantLong "SwollenHouseModel" (52 : Nat) (30596304 : Int64)) ∈ lw_all := lw_g (lw_at lw_m7 94 rfl) rfl
theorem q1661 : (Jvm.Cond.constantLong "SwollenHouseModel" (54 : Nat) (43364708 : Int64)) ∈ lw_all := lw_g (lw_at lw_m7 95 rfl) rfl
theorem q1662 : (Jvm.Cond.constantLong "SwollenHouseModel" (56 : Nat) (12029519 : Int64)) ∈ lw_all := lw_g (lw_at lw_m7 96 rfl) rfl
theorem q1663 : (Jvm.Cond.constantLong "SwollenHouseModel" (58 : Nat) (20583 : Int64)) ∈ lw_all := lw_g (lw_at lw_m7 97 rfl) rfl
theorem q1664 : (Jvm.Cond.constantLong "SwollenHouseModel" (60 : Nat) (823292 : Int64)) ∈ lw_all := lw_g (lw_at lw_m7 98 rfl) rfl
theorem q1665 : (Jvm.Cond.constantLong "SwollenHouseModel" (62 : Nat) (7302 : Int64)) ∈ lw_all := lw_g (lw_at lw_m7 99 rfl) rfl
theorem q1666 : (Jvm.Cond.constantLong "SwollenHouseModel" (64 : Nat) (620643 : Int64)) ∈ lw_all := lw_g (lw_at lw_m7 100 rfl) rfl
theorem q1667 : (Jvm.Cond.constantLong "SwollenHouseModel" (66 : Nat) (19741 : Int64)) ∈ lw_all := lw_g (lw_at lw_m7 101 rfl) rfl
theorem q1668 : (Jvm.Cond.constantLong "SwollenHouseModel" (68 : Nat) (1891 : Int64)) ∈ lw_all := lw_g (lw_at lw_m7 102 rfl) rfl
theorem q1669 : (Jvm.Cond.constantLong "SwollenHouseModel" (70 : Nat) (573 : Int64)) ∈ lw_all := lw_g (lw_at lw_m7 103 rfl) rfl
theorem q1670 : (Jvm.Cond.constantLong "SwollenHouseModel" (72 : Nat) (31692 : Int64)) ∈ lw_all := lw_g (lw_at lw_m7 104 rfl) rfl
theorem q1671 : (Jvm.Cond.constantLong "SwollenHouseModel" (74 : Nat) (36781379 : Int64)) ∈ lw_all := lw_g (lw_at lw_m7 105 rfl) rfl
theorem q1672 : (Jvm.Cond.constantLong "SwollenHouseModel" (76 : Nat) (36420992 : Int64)) ∈ lw_all := lw_g (lw_at lw_m7 106 rfl) rfl
theorem q1673 : (Jvm.Cond.constantLong "SwollenHouseModel" (78 : Nat) (204726 : Int64)) ∈ lw_all := lw_g (lw_at lw_m7 107 rfl) rfl
theorem q1674 : (Jvm.Cond.methodLink "SwollenHouseModel" (132 : Nat) ({ cls := "SwollenHouseModel", name := "standsAsAlways", desc := "(I)V" } : Jvm.MethodName)) ∈ lw_all := lw_g (lw_at lw_m7 108 rfl) rfl
theorem q1675 : (Jvm.Cond.privateMethod ({ cls := "SwollenHouseModel", name := "standsAsAlways", desc := "(I)V" } : Jvm.MethodName)) ∈ lw_tbl := lw_at lw_m7 109 rfl
theorem q1676 : (Jvm.Cond.instanceMethod ({ cls := "SwollenHouseModel", name := "standsAsAlways", desc := "(I)V" } : Jvm.MethodName)) ∈ lw_all := lw_g (lw_at lw_m7 110 rfl) rfl
theorem q1677 : (Jvm.Cond.code ({ cls := "SwollenHouseModel", name := "standsAsAlways", desc := "(I)V" } : Jvm.MethodName) prog_25_method_18_code (3 : Nat) (Option.none : Option Jvm.ClassFile.FieldType)) ∈ lw_all := lw_g (lw_at lw_m7 111 rfl) rfl
theorem q1678 : (Jvm.Cond.methodLink "SwollenHouseModel" (136 : Nat) ({ cls := "SwollenHouseModel", name := "begins", desc := "()V" } : Jvm.MethodName)) ∈ lw_all := lw_g (lw_at lw_m7 112 rfl) rfl
theorem q1679 : (Jvm.Cond.privateMethod ({ cls := "SwollenHouseModel", name := "begins", desc := "()V" } : Jvm.MethodName)) ∈ lw_tbl := lw_at lw_m7 113 rfl
theorem q1680 : (Jvm.Cond.instanceMethod ({ cls := "SwollenHouseModel", name := "begins", desc := "()V" } : Jvm.MethodName)) ∈ lw_all := lw_g (lw_at lw_m7 114 rfl) rfl
theorem q1681 : (Jvm.Cond.code ({ cls := "SwollenHouseModel", name := "begins", desc := "()V" } : Jvm.MethodName) prog_25_method_43_code (2 : Nat) (Option.none : Option Jvm.ClassFile.FieldType)) ∈ lw_all := lw_g (lw_at lw_m7 115 rfl) rfl
theorem q1682 : (Jvm.Cond.methodLink "SwollenHouseModel" (282 : Nat) ({ cls := "SwollenHouseModel", name := "starts", desc := "(I)V" } : Jvm.MethodName)) ∈ lw_all := lw_g (lw_at lw_m7 116 rfl) rfl
theorem q1683 : (Jvm.Cond.privateMethod ({ cls := "SwollenHouseModel", name := "starts", desc := "(I)V" } : Jvm.MethodName)) ∈ lw_tbl := lw_at lw_m7 117 rfl
theorem q1684 : (Jvm.Cond.instanceMethod ({ cls := "SwollenHouseModel", name := "starts", desc := "(I)V" } : Jvm.MethodName)) ∈ lw_all := lw_g (lw_at lw_m7 118 rfl) rfl
theorem q1685 : (Jvm.Cond.code ({ cls := "SwollenHouseModel", name := "starts", desc := "(I)V" } : Jvm.MethodName) prog_25_method_42_code (3 : Nat) (Option.none : Option Jvm.ClassFile.FieldType)) ∈ lw_all := lw_g (lw_at lw_m7 119 rfl) rfl
theorem q1686 : (Jvm.Cond.methodLink "SwollenHouseModel" (272 : Nat) ({ cls := "SwollenHouseModel", name := "doors", desc := "()I" } : Jvm.MethodName)) ∈ lw_all := lw_g (lw_at lw_m7 120 rfl) rfl
theorem q1687 : (Jvm.Cond.privateMethod ({ cls := "SwollenHouseModel", name := "doors", desc := "()I" } : Jvm.MethodName)) ∈ lw_tbl := lw_at lw_m7 121 rfl
theorem q1688 : (Jvm.Cond.instanceMethod ({ cls := "SwollenHouseModel", name := "doors", desc := "()I" } : Jvm.MethodName)) ∈ lw_all := lw_g (lw_at lw_m7 122 rfl) rfl
theorem q1689 : (Jvm.Cond.code ({ cls := "SwollenHouseModel", name := "doors", desc := "()I" } : Jvm.MethodName) prog_25_method_46_code (1 : Nat) (Option.some Jvm.ClassFile.FieldType.int)) ∈ lw_all := lw_g (lw_at lw_m7 123 rfl) rfl
theorem q1690 : (Jvm.Cond.methodLink "SwollenHouseModel" (276 : Nat) ({ cls := "SwollenHouseModel", name := "doorOf", desc := "(II)I" } : Jvm.MethodName)) ∈ lw_all := lw_g (lw_at lw_m7 124 rfl) rfl
theorem q1691 : (Jvm.Cond.privateMethod ({ cls := "SwollenHouseModel", name := "doorOf", desc := "(II)I" } : Jvm.MethodName)) ∈ lw_tbl := lw_at lw_m7 125 rfl
theorem q1692 : (Jvm.Cond.instanceMethod ({ cls := "SwollenHouseModel", name := "doorOf", desc := "(II)I" } : Jvm.MethodName)) ∈ lw_all := lw_g (lw_at lw_m7 126 rfl) rfl
theorem q1693 : (Jvm.Cond.code ({ cls := "SwollenHouseModel", name := "doorOf", desc := "(II)I" } : Jvm.MethodName) prog_25_method_48_code (3 : Nat) (Option.some Jvm.ClassFile.FieldType.int)) ∈ lw_all := lw_g (lw_at lw_m7 127 rfl) rfl
theorem q1694 : (Jvm.Cond.methodLink "SwollenHouseModel" (279 : Nat) ({ cls := "SwollenHouseModel", name := "persons", desc := "()I" } : Jvm.MethodName)) ∈ lw_all := lw_g (lw_at lw_m7 128 rfl) rfl
theorem q1695 : (Jvm.Cond.privateMethod ({ cls := "SwollenHouseModel", name := "persons", desc := "()I" } : Jvm.MethodName)) ∈ lw_tbl := lw_at lw_m7 129 rfl
theorem q1696 : (Jvm.Cond.instanceMethod ({ cls := "SwollenHouseModel", name := "persons", desc := "()I" } : Jvm.MethodName)) ∈ lw_all := lw_g (lw_at lw_m7 130 rfl) rfl
theorem q1697 : (Jvm.Cond.code ({ cls := "SwollenHouseModel", name := "persons", desc := "()I" } : Jvm.MethodName) prog_25_method_47_code (1 : Nat) (Option.some Jvm.ClassFile.FieldType.int)) ∈ lw_all := lw_g (lw_at lw_m7 131 rfl) rfl
theorem q1698 : (Jvm.Cond.fieldLink "SwollenHouseModel" (1 : Nat) "SwollenHouseModel" "thrown" "I") ∈ lw_all := lw_g (lw_at lw_m7 132 rfl) rfl
theorem q1699 : (Jvm.Cond.fieldLink "SwollenHouseModel" (14 : Nat) "SwollenHouseModel" "tape" "[I") ∈ lw_all := lw_g (lw_at lw_m7 133 rfl) rfl
theorem q1700 : (Jvm.Cond.fieldLink "SwollenHouseModel" (11 : Nat) "SwollenHouseModel" "taped" "I") ∈ lw_all := lw_g (lw_at lw_m7 134 rfl) rfl
theorem q1701 : (Jvm.Cond.fieldLink "SwollenHouseModel" (143 : Nat) "SwollenHouseModel" "size" "I") ∈ lw_all := lw_g (lw_at lw_m7 135 rfl) rfl
theorem q1702 : (Jvm.Cond.fieldLink "SwollenHouseModel" (24 : Nat) "SwollenHouseModel" "sort" "[I") ∈ lw_all := lw_g (lw_at lw_m7 136 rfl) rfl
theorem q1703 : (Jvm.Cond.fieldLink "SwollenHouseModel" (27 : Nat) "SwollenHouseModel" "place" "[I") ∈ lw_all := lw_g (lw_at lw_m7 137 rfl) rfl
theorem q1704 : (Jvm.Cond.fieldLink "SwollenHouseModel" (30 : Nat) "SwollenHouseModel" "value" "[J") ∈ lw_all := lw_g (lw_at lw_m7 138 rfl) rfl
theorem q1705 : (Jvm.Cond.fieldLink "SwollenHouseModel" (162 : Nat) "SwollenHouseModel" "at" "I") ∈ lw_all := lw_g (lw_at lw_m7 139 rfl) rfl
theorem q1706 : (Jvm.Cond.fieldLink "SwollenHouseModel" (165 : Nat) "SwollenHouseModel" "fault" "I") ∈ lw_all := lw_g (lw_at lw_m7 140 rfl) rfl
theorem q1707 : (Jvm.Cond.fieldLink "SwollenHouseModel" (80 : Nat) "SwollenHouseModel" "words" "[J") ∈ lw_all := lw_g (lw_at lw_m7 141 rfl) rfl
theorem q1708 : (Jvm.Cond.fieldLink "SwollenHouseModel" (83 : Nat) "SwollenHouseModel" "houses" "[I") ∈ lw_all := lw_g (lw_at lw_m7 142 rfl) rfl
theorem q1709 : (Jvm.Cond.fieldLink "SwollenHouseModel" (86 : Nat) "SwollenHouseModel" "op" "[I") ∈ lw_all := lw_g (lw_at lw_m7 143 rfl) rfl
theorem q1710 : (Jvm.Cond.fieldLink "SwollenHouseModel" (89 : Nat) "SwollenHouseModel" "arg" "[I") ∈ lw_all := lw_g (lw_at lw_m7 144 rfl) rfl
theorem q1711 : (Jvm.Cond.fieldLink "SwollenHouseModel" (211 : Nat) "SwollenHouseModel" "codes" "I") ∈ lw_all := lw_g (lw_at lw_m7 145 rfl) rfl
theorem q1712 : (Jvm.Cond.fieldLink "SwollenHouseModel" (92 : Nat) "SwollenHouseModel" "names" "[J") ∈ lw_all := lw_g (lw_at lw_m7 146 rfl) rfl
theorem q1713 : (Jvm.Cond.fieldLink "SwollenHouseModel" (95 : Nat) "SwollenHouseModel" "readNames" "[J") ∈ lw_all := lw_g (lw_at lw_m7 147 rfl) rfl
theorem q1714 : (Jvm.Cond.fieldLink "SwollenHouseModel" (98 : Nat) "SwollenHouseModel" "nameOf" "[I") ∈ lw_all := lw_g (lw_at lw_m7 148 rfl) rfl
theorem q1715 : (Jvm.Cond.fieldLink "SwollenHouseModel" (101 : Nat) "SwollenHouseModel" "readNameOf" "[I") ∈ lw_all := lw_g (lw_at lw_m7 149 rfl) rfl
theorem q1716 : (Jvm.Cond.fieldLink "SwollenHouseModel" (193 : Nat) "SwollenHouseModel" "namesMany" "I") ∈ lw_all := lw_g (lw_at lw_m7 150 rfl) rfl
theorem q1717 : (Jvm.Cond.fieldLink "SwollenHouseModel" (190 : Nat) "SwollenHouseModel" "readMany" "I") ∈ lw_all := lw_g (lw_at lw_m7 151 rfl) rfl
theorem q1718 : (Jvm.Cond.fieldLink "SwollenHouseModel" (214 : Nat) "SwollenHouseModel" "once" "I") ∈ lw_all := lw_g (lw_at lw_m7 152 rfl) rfl
theorem q1719 : (Jvm.Cond.fieldLink "SwollenHouseModel" (104 : Nat) "SwollenHouseModel" "lines" "[I") ∈ lw_all := lw_g (lw_at lw_m7 153 rfl) rfl
theorem q1720 : (Jvm.Cond.fieldLink "SwollenHouseModel" (107 : Nat) "SwollenHouseModel" "facts" "[I") ∈ lw_all := lw_g (lw_at lw_m7 154 rfl) rfl
theorem q1721 : (Jvm.Cond.fieldLink "SwollenHouseModel" (110 : Nat) "SwollenHouseModel" "pile" "[I") ∈ lw_all := lw_g (lw_at lw_m7 155 rfl) rfl
theorem q1722 : (Jvm.Cond.fieldLink "SwollenHouseModel" (113 : Nat) "SwollenHouseModel" "state" "[I") ∈ lw_all := lw_g (lw_at lw_m7 156 rfl) rfl
theorem q1723 : (Jvm.Cond.fieldLink "SwollenHouseModel" (285 : Nat) "SwollenHouseModel" "undos" "I") ∈ lw_all := lw_g (lw_at lw_m7 157 rfl) rfl
theorem q1724 : (Jvm.Cond.fieldLink "SwollenHouseModel" (116 : Nat) "SwollenHouseModel" "isMarked" "[Z") ∈ lw_all := lw_g (lw_at lw_m7 158 rfl) rfl
theorem q1725 : (Jvm.Cond.fieldLink "SwollenHouseModel" (120 : Nat) "SwollenHouseModel" "opens" "[I") ∈ lw_all := lw_g (lw_at lw_m7 159 rfl) rfl
theorem q1726 : (Jvm.Cond.fieldLink "SwollenHouseModel" (123 : Nat) "SwollenHouseModel" "row" "[I") ∈ lw_all := lw_g (lw_at lw_m7 160 rfl) rfl
theorem q1727 : (Jvm.Cond.fieldLink "SwollenHouseModel" (126 : Nat) "SwollenHouseModel" "gaps" "[I") ∈ lw_all := lw_g (lw_at lw_m7 161 rfl) rfl
theorem q1728 : (Jvm.Cond.fieldLink "SwollenHouseModel" (129 : Nat) "SwollenHouseModel" "sticks" "[I") ∈ lw_all := lw_g (lw_at lw_m7 162 rfl) rfl
theorem q1729 : (Jvm.Cond.fieldLink "SwollenHouseModel" (401 : Nat) "SwollenHouseModel" "g" "J") ∈ lw_all := lw_g (lw_at lw_m7 163 rfl) rfl
theorem q1730 : (Jvm.Cond.lays "SwollenHouseModel" "SwollenHouseModel" "thrown" "I") ∈ lw_all := lw_g (lw_at lw_m7 164 rfl) rfl
theorem q1731 : (Jvm.Cond.soleField "SwollenHouseModel" "thrown") ∈ lw_all := lw_g (lw_at lw_m7 165 rfl) rfl
theorem q1732 : (Jvm.Cond.laysFinal "SwollenHouseModel" "SwollenHouseModel" "tape" "[I") ∈ lw_all := lw_g (lw_at lw_m7 166 rfl) rfl
theorem q1733 : (Jvm.Cond.soleField "SwollenHouseModel" "tape") ∈ lw_all := lw_g (lw_at lw_m7 167 rfl) rfl
theorem q1734 : (Jvm.Cond.lays "SwollenHouseModel" "SwollenHouseModel" "taped" "I") ∈ lw_all := lw_g (lw_at lw_m7 168 rfl) rfl
theorem q1735 : (Jvm.Cond.soleField "SwollenHouseModel" "taped") ∈ lw_all := lw_g (lw_at lw_m7 169 rfl) rfl
theorem q1736 : (Jvm.Cond.lays "SwollenHouseModel" "SwollenHouseModel" "size" "I") ∈ lw_all := lw_g (lw_at lw_m7 170 rfl) rfl
theorem q1737 : (Jvm.Cond.soleField "SwollenHouseModel" "size") ∈ lw_all := lw_g (lw_at lw_m7 171 rfl) rfl
theorem q1738 : (Jvm.Cond.laysFinal "SwollenHouseModel" "SwollenHouseModel" "sort" "[I") ∈ lw_all := lw_g (lw_at lw_m7 172 rfl) rfl
theorem q1739 : (Jvm.Cond.soleField "SwollenHouseModel" "sort") ∈ lw_all := lw_g (lw_at lw_m7 173 rfl) rfl
theorem q1740 : (Jvm.Cond.laysFinal "SwollenHouseModel" "SwollenHouseModel" "place" "[I") ∈ lw_all := lw_g (lw_at lw_m7 174 rfl) rfl
theorem q1741 : (Jvm.Cond.soleField "SwollenHouseModel" "place") ∈ lw_all := lw_g (lw_at lw_m7 175 rfl) rfl
theorem q1742 : (Jvm.Cond.laysFinal "SwollenHouseModel" "SwollenHouseModel" "value" "[J") ∈ lw_all := lw_g (lw_at lw_m7 176 rfl) rfl
theorem q1743 : (Jvm.Cond.soleField "SwollenHouseModel" "value") ∈ lw_all := lw_g (lw_at lw_m7 177 rfl) rfl
theorem q1744 : (Jvm.Cond.lays "SwollenHouseModel" "SwollenHouseModel" "at" "I") ∈ lw_all := lw_g (lw_at lw_m7 178 rfl) rfl
theorem q1745 : (Jvm.Cond.soleField "SwollenHouseModel" "at") ∈ lw_all := lw_g (lw_at lw_m7 179 rfl) rfl
theorem q1746 : (Jvm.Cond.lays "SwollenHouseModel" "SwollenHouseModel" "fault" "I") ∈ lw_all := lw_g (lw_at lw_m7 180 rfl) rfl
theorem q1747 : (Jvm.Cond.soleField "SwollenHouseModel" "fault") ∈ lw_all := lw_g (lw_at lw_m7 181 rfl) rfl
theorem q1748 : (Jvm.Cond.laysFinal "SwollenHouseModel" "SwollenHouseModel" "words" "[J") ∈ lw_all := lw_g (lw_at lw_m7 182 rfl) rfl
theorem q1749 : (Jvm.Cond.soleField "SwollenHouseModel" "words") ∈ lw_all := lw_g (lw_at lw_m7 183 rfl) rfl
theorem q1750 : (Jvm.Cond.laysFinal "SwollenHouseModel" "SwollenHouseModel" "houses" "[I") ∈ lw_all := lw_g (lw_at lw_m7 184 rfl) rfl
theorem q1751 : (Jvm.Cond.soleField "SwollenHouseModel" "houses") ∈ lw_all := lw_g (lw_at lw_m7 185 rfl) rfl
theorem q1752 : (Jvm.Cond.laysFinal "SwollenHouseModel" "SwollenHouseModel" "op" "[I") ∈ lw_all := lw_g (lw_at lw_m7 186 rfl) rfl
theorem q1753 : (Jvm.Cond.soleField "SwollenHouseModel" "op") ∈ lw_all := lw_g (lw_at lw_m7 187 rfl) rfl
theorem q1754 : (Jvm.Cond.laysFinal "SwollenHouseModel" "SwollenHouseModel" "arg" "[I") ∈ lw_all := lw_g (lw_at lw_m7 188 rfl) rfl
theorem q1755 : (Jvm.Cond.soleField "SwollenHouseModel" "arg") ∈ lw_all := lw_g (lw_at lw_m7 189 rfl) rfl
theorem q1756 : (Jvm.Cond.lays "SwollenHouseModel" "SwollenHouseModel" "codes" "I") ∈ lw_all := lw_g (lw_at lw_m7 190 rfl) rfl
theorem q1757 : (Jvm.Cond.soleField "SwollenHouseModel" "codes") ∈ lw_all := lw_g (lw_at lw_m7 191 rfl) rfl
theorem q1758 : (Jvm.Cond.laysFinal "SwollenHouseModel" "SwollenHouseModel" "names" "[J") ∈ lw_all := lw_g (lw_at lw_m7 192 rfl) rfl
theorem q1759 : (Jvm.Cond.soleField "SwollenHouseModel" "names") ∈ lw_all := lw_g (lw_at lw_m7 193 rfl) rfl
theorem q1760 : (Jvm.Cond.laysFinal "SwollenHouseModel" "SwollenHouseModel" "readNames" "[J") ∈ lw_all := lw_g (lw_at lw_m7 194 rfl) rfl
theorem q1761 : (Jvm.Cond.soleField "SwollenHouseModel" "readNames") ∈ lw_all := lw_g (lw_at lw_m7 195 rfl) rfl
theorem q1762 : (Jvm.Cond.laysFinal "SwollenHouseModel" "SwollenHouseModel" "nameOf" "[I") ∈ lw_all := lw_g (lw_at lw_m7 196 rfl) rfl
theorem q1763 : (Jvm.Cond.soleField "SwollenHouseModel" "nameOf") ∈ lw_all := lw_g (lw_at lw_m7 197 rfl) rfl
theorem q1764 : (Jvm.Cond.laysFinal "SwollenHouseModel" "SwollenHouseModel" "readNameOf" "[I") ∈ lw_all := lw_g (lw_at lw_m7 198 rfl) rfl
theorem q1765 : (Jvm.Cond.soleField "SwollenHouseModel" "readNameOf") ∈ lw_all := lw_g (lw_at lw_m7 199 rfl) rfl
theorem q1766 : (Jvm.Cond.lays "SwollenHouseModel" "SwollenHouseModel" "namesMany" "I") ∈ lw_all := lw_g (lw_at lw_m7 200 rfl) rfl
theorem q1767 : (Jvm.Cond.soleField "SwollenHouseModel" "namesMany") ∈ lw_all := lw_g (lw_at lw_m7 201 rfl) rfl
theorem q1768 : (Jvm.Cond.lays "SwollenHouseModel" "SwollenHouseModel" "readMany" "I") ∈ lw_all := lw_g (lw_at lw_m7 202 rfl) rfl
theorem q1769 : (Jvm.Cond.soleField "SwollenHouseModel" "readMany") ∈ lw_all := lw_g (lw_at lw_m7 203 rfl) rfl
theorem q1770 : (Jvm.Cond.lays "SwollenHouseModel" "SwollenHouseModel" "once" "I") ∈ lw_all := lw_g (lw_at lw_m7 204 rfl) rfl
theorem q1771 : (Jvm.Cond.soleField "SwollenHouseModel" "once") ∈ lw_all := lw_g (lw_at lw_m7 205 rfl) rfl
theorem q1772 : (Jvm.Cond.laysFinal "SwollenHouseModel" "SwollenHouseModel" "lines" "[I") ∈ lw_all := lw_g (lw_at lw_m7 206 rfl) rfl
theorem q1773 : (Jvm.Cond.soleField "SwollenHouseModel" "lines") ∈ lw_all := lw_g (lw_at lw_m7 207 rfl) rfl
theorem q1774 : (Jvm.Cond.laysFinal "SwollenHouseModel" "SwollenHouseModel" "facts" "[I") ∈ lw_all := lw_g (lw_at lw_m7 208 rfl) rfl
theorem q1775 : (Jvm.Cond.soleField "SwollenHouseModel" "facts") ∈ lw_all := lw_g (lw_at lw_m7 209 rfl) rfl
theorem q1776 : (Jvm.Cond.laysFinal "SwollenHouseModel" "SwollenHouseModel" "pile" "[I") ∈ lw_all := lw_g (lw_at lw_m7 210 rfl) rfl
theorem q1777 : (Jvm.Cond.soleField "SwollenHouseModel" "pile") ∈ lw_all := lw_g (lw_at lw_m7 211 rfl) rfl
theorem q1778 : (Jvm.Cond.laysFinal "SwollenHouseModel" "SwollenHouseModel" "state" "[I") ∈ lw_all := lw_g (lw_at lw_m7 212 rfl) rfl
theorem q1779 : (Jvm.Cond.soleField "SwollenHouseModel" "state") ∈ lw_all := lw_g (lw_at lw_m7 213 rfl) rfl
theorem q1780 : (Jvm.Cond.lays "SwollenHouseModel" "SwollenHouseModel" "undos" "I") ∈ lw_all := lw_g (lw_at lw_m7 214 rfl) rfl
theorem q1781 : (Jvm.Cond.soleField "SwollenHouseModel" "undos") ∈ lw_all := lw_g (lw_at lw_m7 215 rfl) rfl
theorem q1782 : (Jvm.Cond.laysFinal "SwollenHouseModel" "SwollenHouseModel" "isMarked" "[Z") ∈ lw_all := lw_g (lw_at lw_m7 216 rfl) rfl
theorem q1783 : (Jvm.Cond.soleField "SwollenHouseModel" "isMarked") ∈ lw_all := lw_g (lw_at lw_m7 217 rfl) rfl
theorem q1784 : (Jvm.Cond.laysFinal "SwollenHouseModel" "SwollenHouseModel" "opens" "[I") ∈ lw_all := lw_g (lw_at lw_m7 218 rfl) rfl
theorem q1785 : (Jvm.Cond.soleField "SwollenHouseModel" "opens") ∈ lw_all := lw_g (lw_at lw_m7 219 rfl) rfl
theorem q1786 : (Jvm.Cond.laysFinal "SwollenHouseModel" "SwollenHouseModel" "row" "[I") ∈ lw_all := lw_g (lw_at lw_m7 220 rfl) rfl
theorem q1787 : (Jvm.Cond.soleField "SwollenHouseModel" "row") ∈ lw_all := lw_g (lw_at lw_m7 221 rfl) rfl
theorem q1788 : (Jvm.Cond.laysFinal "SwollenHouseModel" "SwollenHouseModel" "gaps" "[I") ∈ lw_all := lw_g (lw_at lw_m7 222 rfl) rfl
theorem q1789 : (Jvm.Cond.soleField "SwollenHouseModel" "gaps") ∈ lw_all := lw_g (lw_at lw_m7 223 rfl) rfl
theorem q1790 : (Jvm.Cond.laysFinal "SwollenHouseModel" "SwollenHouseModel" "sticks" "[I") ∈ lw_all := lw_g (lw_at lw_m7 224 rfl) rfl
theorem q1791 : (Jvm.Cond.soleField "SwollenHouseModel" "sticks") ∈ lw_all := lw_g (lw_at lw_m7 225 rfl) rfl
theorem q1792 : (Jvm.Cond.lays "SwollenHouseModel" "SwollenHouseModel" "g" "J") ∈ lw_all := lw_g (lw_at lw_m7 226 rfl) rfl
theorem q1793 : (Jvm.Cond.soleField "SwollenHouseModel" "g") ∈ lw_all := lw_g (lw_at lw_m7 227 rfl) rfl
theorem q1794 : (Jvm.Cond.superclass "SwollenHouseModel" "java/lang/Object") ∈ lw_all := lw_g (lw_at lw_m7 228 rfl) rfl
theorem q1797 : (Jvm.Cond.instanceMethod ({ cls := "SwollenHouseModel", name := "house", desc := "()I" } : Jvm.MethodName)) ∈ lw_all := lw_g (lw_at lw_m7 231 rfl) rfl
theorem q1798 : (Jvm.Cond.selects "SwollenHouseModel" ({ cls := "SwollenHouseModel", name := "house", desc := "()I" } : Jvm.MethodName) ({ cls := "SwollenHouseModel", name := "house", desc := "()I" } : Jvm.MethodName)) ∈ lw_all := lw_g (lw_at lw_m7 232 rfl) rfl
theorem q1799 : (Jvm.Cond.code ({ cls := "SwollenHouseModel", name := "house", desc := "()I" } : Jvm.MethodName) prog_25_method_26_code (2 : Nat) (Option.some Jvm.ClassFile.FieldType.int)) ∈ lw_all := lw_g (lw_at lw_m7 233 rfl) rfl
theorem q1800 : (Jvm.Cond.methodLink "SwollenHouseModel" (208 : Nat) ({ cls := "SwollenHouseModel", name := "cutAll", desc := "()V" } : Jvm.MethodName)) ∈ lw_all := lw_g (lw_at lw_m7 234 rfl) rfl
theorem q1801 : (Jvm.Cond.privateMethod ({ cls := "SwollenHouseModel", name := "cutAll", desc := "()V" } : Jvm.MethodName)) ∈ lw_tbl := lw_at lw_m7 235 rfl
theorem q1802 : (Jvm.Cond.instanceMethod ({ cls := "SwollenHouseModel", name := "cutAll", desc := "()V" } : Jvm.MethodName)) ∈ lw_all := lw_g (lw_at lw_m7 236 rfl) rfl
theorem q1803 : (Jvm.Cond.code ({ cls := "SwollenHouseModel", name := "cutAll", desc := "()V" } : Jvm.MethodName) prog_25_method_9_code (7 : Nat) (Option.none : Option Jvm.ClassFile.FieldType)) ∈ lw_all := lw_g (lw_at lw_m7 237 rfl) rfl
theorem q1804 : (Jvm.Cond.methodLink "SwollenHouseModel" (139 : Nat) ({ cls := "SwollenHouseModel", name := "isLetter", desc := "(I)Z" } : Jvm.MethodName)) ∈ lw_all := lw_g (lw_at lw_m7 238 rfl) rfl
theorem q1805 : (Jvm.Cond.static ({ cls := "SwollenHouseModel", name := "isLetter", desc := "(I)Z" } : Jvm.MethodName)) ∈ lw_all := lw_g (lw_at lw_m7 239 rfl) rfl
theorem q1806 : (Jvm.Cond.code ({ cls := "SwollenHouseModel", name := "isLetter", desc := "(I)Z" } : Jvm.MethodName) prog_25_method_5_code (1 : Nat) (Option.some Jvm.ClassFile.FieldType.boolean)) ∈ lw_all := lw_g (lw_at lw_m8 0 rfl) rfl
theorem q1807 : (Jvm.Cond.constantLong "SwollenHouseModel" (146 : Nat) (37 : Int64)) ∈ lw_all := lw_g (lw_at lw_m8 1 rfl) rfl
theorem q1808 : (Jvm.Cond.methodLink "SwollenHouseModel" (148 : Nat) ({ cls := "SwollenHouseModel", name := "rank", desc := "(I)I" } : Jvm.MethodName)) ∈ lw_all := lw_g (lw_at lw_m8 2 rfl) rfl
theorem q1809 : (Jvm.Cond.static ({ cls := "SwollenHouseModel", name := "rank", desc := "(I)I" } : Jvm.MethodName)) ∈ lw_all := lw_g (lw_at lw_m8 3 rfl) rfl
theorem q1810 : (Jvm.Cond.code ({ cls := "SwollenHouseModel", name := "rank", desc := "(I)I" } : Jvm.MethodName) prog_25_method_7_code (1 : Nat) (Option.some Jvm.ClassFile.FieldType.int)) ∈ lw_all := lw_g (lw_at lw_m8 4 rfl) rfl
theorem q1811 : (Jvm.Cond.methodLink "SwollenHouseModel" (152 : Nat) ({ cls := "SwollenHouseModel", name := "isDigit", desc := "(I)Z" } : Jvm.MethodName)) ∈ lw_all := lw_g (lw_at lw_m8 5 rfl) rfl
theorem q1812 : (Jvm.Cond.static ({ cls := "SwollenHouseModel", name := "isDigit", desc := "(I)Z" } : Jvm.MethodName)) ∈ lw_all := lw_g (lw_at lw_m8 6 rfl) rfl
theorem q1813 : (Jvm.Cond.code ({ cls := "SwollenHouseModel", name := "isDigit", desc := "(I)Z" } : Jvm.MethodName) prog_25_method_6_code (1 : Nat) (Option.some Jvm.ClassFile.FieldType.boolean)) ∈ lw_all := lw_g (lw_at lw_m8 7 rfl) rfl
theorem q1814 : (Jvm.Cond.constantLong "SwollenHouseModel" (155 : Nat) (10 : Int64)) ∈ lw_all := lw_g (lw_at lw_m8 8 rfl) rfl
theorem q1815 : (Jvm.Cond.constantLong "SwollenHouseModel" (157 : Nat) (48 : Int64)) ∈ lw_all := lw_g (lw_at lw_m8 9 rfl) rfl
theorem q1816 : (Jvm.Cond.methodLink "SwollenHouseModel" (159 : Nat) ({ cls := "SwollenHouseModel", name := "isSignOf", desc := "(I)Z" } : Jvm.MethodName)) ∈ lw_all := lw_g (lw_at lw_m8 10 rfl) rfl
theorem q1817 : (Jvm.Cond.static ({ cls := "SwollenHouseModel", name := "isSignOf", desc := "(I)Z" } : Jvm.MethodName)) ∈ lw_all := lw_g (lw_at lw_m8 11 rfl) rfl
theorem q1818 : (Jvm.Cond.code ({ cls := "SwollenHouseModel", name := "isSignOf", desc := "(I)Z" } : Jvm.MethodName) prog_25_method_8_code (1 : Nat) (Option.some Jvm.ClassFile.FieldType.boolean)) ∈ lw_all := lw_g (lw_at lw_m8 12 rfl) rfl
theorem q1819 : (Jvm.Cond.methodLink "SwollenHouseModel" (217 : Nat) ({ cls := "SwollenHouseModel", name := "readLine", desc := "()V" } : Jvm.MethodName)) ∈ lw_all := lw_g (lw_at lw_m8 13 rfl) rfl
theorem q1820 : (Jvm.Cond.privateMethod ({ cls := "SwollenHouseModel", name := "readLine", desc := "()V" } : Jvm.MethodName)) ∈ lw_tbl := lw_at lw_m8 14 rfl
theorem q1821 : (Jvm.Cond.instanceMethod ({ cls := "SwollenHouseModel", name := "readLine", desc := "()V" } : Jvm.MethodName)) ∈ lw_all := lw_g (lw_at lw_m8 15 rfl) rfl
theorem q1822 : (Jvm.Cond.code ({ cls := "SwollenHouseModel", name := "readLine", desc := "()V" } : Jvm.MethodName) prog_25_method_27_code (3 : Nat) (Option.none : Option Jvm.ClassFile.FieldType)) ∈ lw_all := lw_g (lw_at lw_m8 16 rfl) rfl
theorem q1823 : (Jvm.Cond.methodLink "SwollenHouseModel" (174 : Nat) ({ cls := "SwollenHouseModel", name := "isWord", desc := "(I)Z" } : Jvm.MethodName)) ∈ lw_all := lw_g (lw_at lw_m8 17 rfl) rfl
theorem q1824 : (Jvm.Cond.privateMethod ({ cls := "SwollenHouseModel", name := "isWord", desc := "(I)Z" } : Jvm.MethodName)) ∈ lw_tbl := lw_at lw_m8 18 rfl
theorem q1825 : (Jvm.Cond.instanceMethod ({ cls := "SwollenHouseModel", name := "isWord", desc := "(I)Z" } : Jvm.MethodName)) ∈ lw_all := lw_g (lw_at lw_m8 19 rfl) rfl
theorem q1826 : (Jvm.Cond.code ({ cls := "SwollenHouseModel", name := "isWord", desc := "(I)Z" } : Jvm.MethodName) prog_25_method_12_code (2 : Nat) (Option.some Jvm.ClassFile.FieldType.boolean)) ∈ lw_all := lw_g (lw_at lw_m8 20 rfl) rfl
theorem q1827 : (Jvm.Cond.methodLink "SwollenHouseModel" (223 : Nat) ({ cls := "SwollenHouseModel", name := "readName", desc := "(III)V" } : Jvm.MethodName)) ∈ lw_all := lw_g (lw_at lw_m8 21 rfl) rfl
theorem q1828 : (Jvm.Cond.privateMethod ({ cls := "SwollenHouseModel", name := "readName", desc := "(III)V" } : Jvm.MethodName)) ∈ lw_tbl := lw_at lw_m8 22 rfl
theorem q1829 : (Jvm.Cond.instanceMethod ({ cls := "SwollenHouseModel", name := "readName", desc := "(III)V" } : Jvm.MethodName)) ∈ lw_all := lw_g (lw_at lw_m8 23 rfl) rfl
theorem q1830 : (Jvm.Cond.code ({ cls := "SwollenHouseModel", name := "readName", desc := "(III)V" } : Jvm.MethodName) prog_25_method_28_code (5 : Nat) (Option.none : Option Jvm.ClassFile.FieldType)) ∈ lw_all := lw_g (lw_at lw_m8 24 rfl) rfl
theorem q1831 : (Jvm.Cond.methodLink "SwollenHouseModel" (171 : Nat) ({ cls := "SwollenHouseModel", name := "wrong", desc := "(I)V" } : Jvm.MethodName)) ∈ lw_all := lw_g (lw_at lw_m8 25 rfl) rfl
theorem q1832 : (Jvm.Cond.privateMethod ({ cls := "SwollenHouseModel", name := "wrong", desc := "(I)V" } : Jvm.MethodName)) ∈ lw_tbl := lw_at lw_m8 26 rfl
theorem q1833 : (Jvm.Cond.instanceMethod ({ cls := "SwollenHouseModel", name := "wrong", desc := "(I)V" } : Jvm.MethodName)) ∈ lw_all := lw_g (lw_at lw_m8 27 rfl) rfl
theorem q1834 : (Jvm.Cond.code ({ cls := "SwollenHouseModel", name := "wrong", desc := "(I)V" } : Jvm.MethodName) prog_25_method_10_code (2 : Nat) (Option.none : Option Jvm.ClassFile.FieldType)) ∈ lw_all := lw_g (lw_at lw_m8 28 rfl) rfl
theorem q1835 : (Jvm.Cond.methodLink "SwollenHouseModel" (196 : Nat) ({ cls := "SwollenHouseModel", name := "isName", desc := "()Z" } : Jvm.MethodName)) ∈ lw_all := lw_g (lw_at lw_m8 29 rfl) rfl
theorem q1836 : (Jvm.Cond.privateMethod ({ cls := "SwollenHouseModel", name := "isName", desc := "()Z" } : Jvm.MethodName)) ∈ lw_tbl := lw_at lw_m8 30 rfl
theorem q1837 : (Jvm.Cond.instanceMethod ({ cls := "SwollenHouseModel", name := "isName", desc := "()Z" } : Jvm.MethodName)) ∈ lw_all := lw_g (lw_at lw_m8 31 rfl) rfl
theorem q1838 : (Jvm.Cond.code ({ cls := "SwollenHouseModel", name := "isName", desc := "()Z" } : Jvm.MethodName) prog_25_method_23_code (1 : Nat) (Option.some Jvm.ClassFile.FieldType.boolean)) ∈ lw_all := lw_g (lw_at lw_m8 32 rfl) rfl
theorem q1839 : (Jvm.Cond.methodLink "SwollenHouseModel" (187 : Nat) ({ cls := "SwollenHouseModel", name := "wordHere", desc := "(II)I" } : Jvm.MethodName)) ∈ lw_all := lw_g (lw_at lw_m8 33 rfl) rfl
theorem q1840 : (Jvm.Cond.privateMethod ({ cls := "SwollenHouseModel", name := "wordHere", desc := "(II)I" } : Jvm.MethodName)) ∈ lw_tbl := lw_at lw_m8 34 rfl
theorem q1841 : (Jvm.Cond.instanceMethod ({ cls := "SwollenHouseModel", name := "wordHere", desc := "(II)I" } : Jvm.MethodName)) ∈ lw_all := lw_g (lw_at lw_m8 35 rfl) rfl
theorem q1842 : (Jvm.Cond.code ({ cls := "SwollenHouseModel", name := "wordHere", desc := "(II)I" } : Jvm.MethodName) prog_25_method_21_code (5 : Nat) (Option.some Jvm.ClassFile.FieldType.int)) ∈ lw_all := lw_g (lw_at lw_m8 36 rfl) rfl
theorem q1843 : (Jvm.Cond.methodLink "SwollenHouseModel" (200 : Nat) ({ cls := "SwollenHouseModel", name := "nameAt", desc := "(Z)I" } : Jvm.MethodName)) ∈ lw_all := lw_g (lw_at lw_m8 37 rfl) rfl
theorem q1844 : (Jvm.Cond.privateMethod ({ cls := "SwollenHouseModel", name := "nameAt", desc := "(Z)I" } : Jvm.MethodName)) ∈ lw_tbl := lw_at lw_m8 38 rfl
theorem q1845 : (Jvm.Cond.instanceMethod ({ cls := "SwollenHouseModel", name := "nameAt", desc := "(Z)I" } : Jvm.MethodName)) ∈ lw_all := lw_g (lw_at lw_m8 39 rfl) rfl
theorem q1846 : (Jvm.Cond.code ({ cls := "SwollenHouseModel", name := "nameAt", desc := "(Z)I" } : Jvm.MethodName) prog_25_method_24_code (3 : Nat) (Option.some Jvm.ClassFile.FieldType.int)) ∈ lw_all := lw_g (lw_at lw_m8 40 rfl) rfl
theorem q1847 : (Jvm.Cond.methodLink "SwollenHouseModel" (227 : Nat) ({ cls := "SwollenHouseModel", name := "readDoor", desc := "()V" } : Jvm.MethodName)) ∈ lw_all := lw_g (lw_at lw_m8 41 rfl) rfl
theorem q1848 : (Jvm.Cond.privateMethod ({ cls := "SwollenHouseModel", name := "readDoor", desc := "()V" } : Jvm.MethodName)) ∈ lw_tbl := lw_at lw_m8 42 rfl
theorem q1849 : (Jvm.Cond.instanceMethod ({ cls := "SwollenHouseModel", name := "readDoor", desc := "()V" } : Jvm.MethodName)) ∈ lw_all := lw_g (lw_at lw_m8 43 rfl) rfl
theorem q1850 : (Jvm.Cond.code ({ cls := "SwollenHouseModel", name := "readDoor", desc := "()V" } : Jvm.MethodName) prog_25_method_29_code (8 : Nat) (Option.none : Option Jvm.ClassFile.FieldType)) ∈ lw_all := lw_g (lw_at lw_m8 44 rfl) rfl
theorem q1851 : (Jvm.Cond.methodLink "SwollenHouseModel" (230 : Nat) ({ cls := "SwollenHouseModel", name := "takeTold", desc := "(ZII)I" } : Jvm.MethodName)) ∈ lw_all := lw_g (lw_at lw_m8 45 rfl) rfl
theorem q1852 : (Jvm.Cond.privateMethod ({ cls := "SwollenHouseModel", name := "takeTold", desc := "(ZII)I" } : Jvm.MethodName)) ∈ lw_tbl := lw_at lw_m8 46 rfl
theorem q1853 : (Jvm.Cond.instanceMethod ({ cls := "SwollenHouseModel", name := "takeTold", desc := "(ZII)I" } : Jvm.MethodName)) ∈ lw_all := lw_g (lw_at lw_m8 47 rfl) rfl
theorem q1854 : (Jvm.Cond.code ({ cls := "SwollenHouseModel", name := "takeTold", desc := "(ZII)I" } : Jvm.MethodName) prog_25_method_25_code (5 : Nat) (Option.some Jvm.ClassFile.FieldType.int)) ∈ lw_all := lw_g (lw_at lw_m8 48 rfl) rfl
theorem q1855 : (Jvm.Cond.methodLink "SwollenHouseModel" (204 : Nat) ({ cls := "SwollenHouseModel", name := "within", desc := "(III)Z" } : Jvm.MethodName)) ∈ lw_all := lw_g (lw_at lw_m8 49 rfl) rfl
theorem q1856 : (Jvm.Cond.static ({ cls := "SwollenHouseModel", name := "within", desc := "(III)Z" } : Jvm.MethodName)) ∈ lw_all := lw_g (lw_at lw_m8 50 rfl) rfl
theorem q1857 : (Jvm.Cond.code ({ cls := "SwollenHouseModel", name := "within", desc := "(III)Z" } : Jvm.MethodName) prog_25_method_17_code (3 : Nat) (Option.some Jvm.ClassFile.FieldType.boolean)) ∈ lw_all := lw_g (lw_at lw_m8 51 rfl) rfl
theorem q1858 : (Jvm.Cond.methodLink "SwollenHouseModel" (237 : Nat) ({ cls := "SwollenHouseModel", name := "takeOne", desc := "(II)I" } : Jvm.MethodName)) ∈ lw_all := lw_g (lw_at lw_m8 52 rfl) rfl
theorem q1859 : (Jvm.Cond.privateMethod ({ cls := "SwollenHouseModel", name := "takeOne", desc := "(II)I" } : Jvm.MethodName)) ∈ lw_tbl := lw_at lw_m8 53 rfl
theorem q1860 : (Jvm.Cond.instanceMethod ({ cls := "SwollenHouseModel", name := "takeOne", desc := "(II)I" } : Jvm.MethodName)) ∈ lw_all := lw_g (lw_at lw_m8 54 rfl) rfl
theorem q1861 : (Jvm.Cond.code ({ cls := "SwollenHouseModel", name := "takeOne", desc := "(II)I" } : Jvm.MethodName) prog_25_method_22_code (4 : Nat) (Option.some Jvm.ClassFile.FieldType.int)) ∈ lw_all := lw_g (lw_at lw_m8 55 rfl) rfl
theorem q1862 : (Jvm.Cond.methodLink "SwollenHouseModel" (240 : Nat) ({ cls := "SwollenHouseModel", name := "takeAfter", desc := "(III)I" } : Jvm.MethodName)) ∈ lw_all := lw_g (lw_at lw_m8 56 rfl) rfl
theorem q1863 : (Jvm.Cond.privateMethod ({ cls := "SwollenHouseModel", name := "takeAfter", desc := "(III)I" } : Jvm.MethodName)) ∈ lw_tbl := lw_at lw_m8 57 rfl
theorem q1864 : (Jvm.Cond.instanceMethod ({ cls := "SwollenHouseModel", name := "takeAfter", desc := "(III)I" } : Jvm.MethodName)) ∈ lw_all := lw_g (lw_at lw_m8 58 rfl) rfl
theorem q1865 : (Jvm.Cond.code ({ cls := "SwollenHouseModel", name := "takeAfter", desc := "(III)I" } : Jvm.MethodName) prog_25_method_20_code (4 : Nat) (Option.some Jvm.ClassFile.FieldType.int)) ∈ lw_all := lw_g (lw_at lw_m8 59 rfl) rfl
theorem q1866 : (Jvm.Cond.methodLink "SwollenHouseModel" (180 : Nat) ({ cls := "SwollenHouseModel", name := "takeWord", desc := "(I)V" } : Jvm.MethodName)) ∈ lw_all := lw_g (lw_at lw_m8 60 rfl) rfl
theorem q1867 : (Jvm.Cond.privateMethod ({ cls := "SwollenHouseModel", name := "takeWord", desc := "(I)V" } : Jvm.MethodName)) ∈ lw_tbl := lw_at lw_m8 61 rfl
theorem q1868 : (Jvm.Cond.instanceMethod ({ cls := "SwollenHouseModel", name := "takeWord", desc := "(I)V" } : Jvm.MethodName)) ∈ lw_all := lw_g (lw_at lw_m8 62 rfl) rfl
theorem q1869 : (Jvm.Cond.code ({ cls := "SwollenHouseModel", name := "takeWord", desc := "(I)V" } : Jvm.MethodName) prog_25_method_16_code (2 : Nat) (Option.none : Option Jvm.ClassFile.FieldType)) ∈ lw_all := lw_g (lw_at lw_m8 63 rfl) rfl
theorem q1870 : (Jvm.Cond.methodLink "SwollenHouseModel" (177 : Nat) ({ cls := "SwollenHouseModel", name := "hasWord", desc := "(I)Z" } : Jvm.MethodName)) ∈ lw_all := lw_g (lw_at lw_m8 64 rfl) rfl
theorem q1871 : (Jvm.Cond.privateMethod ({ cls := "SwollenHouseModel", name := "hasWord", desc := "(I)Z" } : Jvm.MethodName)) ∈ lw_tbl := lw_at lw_m8 65 rfl
theorem q1872 : (Jvm.Cond.instanceMethod ({ cls := "SwollenHouseModel", name := "hasWord", desc := "(I)Z" } : Jvm.MethodName)) ∈ lw_all := lw_g (lw_at lw_m8 66 rfl) rfl
theorem q1873 : (Jvm.Cond.code ({ cls := "SwollenHouseModel", name := "hasWord", desc := "(I)Z" } : Jvm.MethodName) prog_25_method_15_code (3 : Nat) (Option.some Jvm.ClassFile.FieldType.boolean)) ∈ lw_all := lw_g (lw_at lw_m8 67 rfl) rfl
theorem q1874 : (Jvm.Cond.methodLink "SwollenHouseModel" (183 : Nat) ({ cls := "SwollenHouseModel", name := "takeNumber", desc := "(II)I" } : Jvm.MethodName)) ∈ lw_all := lw_g (lw_at lw_m8 68 rfl) rfl
theorem q1875 : (Jvm.Cond.privateMethod ({ cls := "SwollenHouseModel", name := "takeNumber", desc := "(II)I" } : Jvm.MethodName)) ∈ lw_tbl := lw_at lw_m8 69 rfl
theorem q1876 : (Jvm.Cond.instanceMethod ({ cls := "SwollenHouseModel", name := "takeNumber", desc := "(II)I" } : Jvm.MethodName)) ∈ lw_all := lw_g (lw_at lw_m8 70 rfl) rfl
theorem q1877 : (Jvm.Cond.code ({ cls := "SwollenHouseModel", name := "takeNumber", desc := "(II)I" } : Jvm.MethodName) prog_25_method_19_code (3 : Nat) (Option.some Jvm.ClassFile.FieldType.int)) ∈ lw_all := lw_g (lw_at lw_m8 71 rfl) rfl
theorem q1878 : (Jvm.Cond.methodLink "SwollenHouseModel" (234 : Nat) ({ cls := "SwollenHouseModel", name := "readOnce", desc := "()V" } : Jvm.MethodName)) ∈ lw_all := lw_g (lw_at lw_m8 72 rfl) rfl
theorem q1879 : (Jvm.Cond.privateMethod ({ cls := "SwollenHouseModel", name := "readOnce", desc := "()V" } : Jvm.MethodName)) ∈ lw_tbl := lw_at lw_m8 73 rfl
theorem q1880 : (Jvm.Cond.instanceMethod ({ cls := "SwollenHouseModel", name := "readOnce", desc := "()V" } : Jvm.MethodName)) ∈ lw_all := lw_g (lw_at lw_m8 74 rfl) rfl
theorem q1881 : (Jvm.Cond.code ({ cls := "SwollenHouseModel", name := "readOnce", desc := "()V" } : Jvm.MethodName) prog_25_method_30_code (2 : Nat) (Option.none : Option Jvm.ClassFile.FieldType)) ∈ lw_all := lw_g (lw_at lw_m8 75 rfl) rfl
theorem q1882 : (Jvm.Cond.methodLink "SwollenHouseModel" (244 : Nat) ({ cls := "SwollenHouseModel", name := "readDamp", desc := "()V" } : Jvm.MethodName)) ∈ lw_all := lw_g (lw_at lw_m8 76 rfl) rfl
theorem q1883 : (Jvm.Cond.privateMethod ({ cls := "SwollenHouseModel", name := "readDamp", desc := "()V" } : Jvm.MethodName)) ∈ lw_tbl := lw_at lw_m8 77 rfl
theorem q1884 : (Jvm.Cond.instanceMethod ({ cls := "SwollenHouseModel", name := "readDamp", desc := "()V" } : Jvm.MethodName)) ∈ lw_all := lw_g (lw_at lw_m8 78 rfl) rfl
theorem q1885 : (Jvm.Cond.code ({ cls := "SwollenHouseModel", name := "readDamp", desc := "()V" } : Jvm.MethodName) prog_25_method_31_code (3 : Nat) (Option.none : Option Jvm.ClassFile.FieldType)) ∈ lw_all := lw_g (lw_at lw_m8 79 rfl) rfl
theorem q1886 : (Jvm.Cond.methodLink "SwollenHouseModel" (247 : Nat) ({ cls := "SwollenHouseModel", name := "whole", desc := "(I)V" } : Jvm.MethodName)) ∈ lw_all := lw_g (lw_at lw_m8 80 rfl) rfl
theorem q1887 : (Jvm.Cond.privateMethod ({ cls := "SwollenHouseModel", name := "whole", desc := "(I)V" } : Jvm.MethodName)) ∈ lw_tbl := lw_at lw_m8 81 rfl
theorem q1888 : (Jvm.Cond.instanceMethod ({ cls := "SwollenHouseModel", name := "whole", desc := "(I)V" } : Jvm.MethodName)) ∈ lw_all := lw_g (lw_at lw_m8 82 rfl) rfl
theorem q1889 : (Jvm.Cond.code ({ cls := "SwollenHouseModel", name := "whole", desc := "(I)V" } : Jvm.MethodName) prog_25_method_34_code (3 : Nat) (Option.none : Option Jvm.ClassFile.FieldType)) ∈ lw_all := lw_g (lw_at lw_m8 83 rfl) rfl
theorem q1890 : (Jvm.Cond.methodLink "SwollenHouseModel" (254 : Nat) ({ cls := "SwollenHouseModel", name := "test", desc := "(I)V" } : Jvm.MethodName)) ∈ lw_all := lw_g (lw_at lw_m8 84 rfl) rfl
theorem q1891 : (Jvm.Cond.privateMethod ({ cls := "SwollenHouseModel", name := "test", desc := "(I)V" } : Jvm.MethodName)) ∈ lw_tbl := lw_at lw_m8 85 rfl
theorem q1892 : (Jvm.Cond.instanceMethod ({ cls := "SwollenHouseModel", name := "test", desc := "(I)V" } : Jvm.MethodName)) ∈ lw_all := lw_g (lw_at lw_m8 86 rfl) rfl
theorem q1893 : (Jvm.Cond.code ({ cls := "SwollenHouseModel", name := "test", desc := "(I)V" } : Jvm.MethodName) prog_25_method_35_code (3 : Nat) (Option.none : Option Jvm.ClassFile.FieldType)) ∈ lw_all := lw_g (lw_at lw_m8 87 rfl) rfl
theorem q1894 : (Jvm.Cond.methodLink "SwollenHouseModel" (257 : Nat) ({ cls := "SwollenHouseModel", name := "sums", desc := "(I)V" } : Jvm.MethodName)) ∈ lw_all := lw_g (lw_at lw_m8 88 rfl) rfl
theorem q1895 : (Jvm.Cond.privateMethod ({ cls := "SwollenHouseModel", name := "sums", desc := "(I)V" } : Jvm.MethodName)) ∈ lw_tbl := lw_at lw_m8 89 rfl
theorem q1896 : (Jvm.Cond.instanceMethod ({ cls := "SwollenHouseModel", name := "sums", desc := "(I)V" } : Jvm.MethodName)) ∈ lw_all := lw_g (lw_at lw_m8 90 rfl) rfl
theorem q1897 : (Jvm.Cond.code ({ cls := "SwollenHouseModel", name := "sums", desc := "(I)V" } : Jvm.MethodName) prog_25_method_36_code (3 : Nat) (Option.none : Option Jvm.ClassFile.FieldType)) ∈ lw_all := lw_g (lw_at lw_m8 91 rfl) rfl
theorem q1898 : (Jvm.Cond.methodLink "SwollenHouseModel" (263 : Nat) ({ cls := "SwollenHouseModel", name := "products", desc := "(I)V" } : Jvm.MethodName)) ∈ lw_all := lw_g (lw_at lw_m8 92 rfl) rfl
theorem q1899 : (Jvm.Cond.privateMethod ({ cls := "SwollenHouseModel", name := "products", desc := "(I)V" } : Jvm.MethodName)) ∈ lw_tbl := lw_at lw_m8 93 rfl
theorem q1900 : (Jvm.Cond.instanceMethod ({ cls := "SwollenHouseModel", name := "products", desc := "(I)V" } : Jvm.MethodName)) ∈ lw_all := lw_g (lw_at lw_m8 94 rfl) rfl
theorem q1901 : (Jvm.Cond.code ({ cls := "SwollenHouseModel", name := "products", desc := "(I)V" } : Jvm.MethodName) prog_25_method_37_code (2 : Nat) (Option.none : Option Jvm.ClassFile.FieldType)) ∈ lw_all := lw_g (lw_at lw_m8 95 rfl) rfl
theorem q1902 : (Jvm.Cond.methodLink "SwollenHouseModel" (266 : Nat) ({ cls := "SwollenHouseModel", name := "takePart", desc := "(I)V" } : Jvm.MethodName)) ∈ lw_all := lw_g (lw_at lw_m8 96 rfl) rfl
theorem q1903 : (Jvm.Cond.privateMethod ({ cls := "SwollenHouseModel", name := "takePart", desc := "(I)V" } : Jvm.MethodName)) ∈ lw_tbl := lw_at lw_m8 97 rfl
theorem q1904 : (Jvm.Cond.instanceMethod ({ cls := "SwollenHouseModel", name := "takePart", desc := "(I)V" } : Jvm.MethodName)) ∈ lw_all := lw_g (lw_at lw_m8 98 rfl) rfl
theorem q1905 : (Jvm.Cond.code ({ cls := "SwollenHouseModel", name := "takePart", desc := "(I)V" } : Jvm.MethodName) prog_25_method_38_code (4 : Nat) (Option.none : Option Jvm.ClassFile.FieldType)) ∈ lw_all := lw_g (lw_at lw_m8 99 rfl) rfl
theorem q1906 : (Jvm.Cond.methodLink "SwollenHouseModel" (168 : Nat) ({ cls := "SwollenHouseModel", name := "isSign", desc := "(I)Z" } : Jvm.MethodName)) ∈ lw_all := lw_g (lw_at lw_m8 100 rfl) rfl
theorem q1907 : (Jvm.Cond.privateMethod ({ cls := "SwollenHouseModel", name := "isSign", desc := "(I)Z" } : Jvm.MethodName)) ∈ lw_tbl := lw_at lw_m8 101 rfl
theorem q1908 : (Jvm.Cond.instanceMethod ({ cls := "SwollenHouseModel", name := "isSign", desc := "(I)Z" } : Jvm.MethodName)) ∈ lw_all := lw_g (lw_at lw_m8 102 rfl) rfl
theorem q1909 : (Jvm.Cond.code ({ cls := "SwollenHouseModel", name := "isSign", desc := "(I)Z" } : Jvm.MethodName) prog_25_method_11_code (2 : Nat) (Option.some Jvm.ClassFile.FieldType.boolean)) ∈ lw_all := lw_g (lw_at lw_m8 103 rfl) rfl
theorem q1910 : (Jvm.Cond.methodLink "SwollenHouseModel" (250 : Nat) ({ cls := "SwollenHouseModel", name := "emit", desc := "(II)V" } : Jvm.MethodName)) ∈ lw_all := lw_g (lw_at lw_m8 104 rfl) rfl
theorem q1911 : (Jvm.Cond.privateMethod ({ cls := "SwollenHouseModel", name := "emit", desc := "(II)V" } : Jvm.MethodName)) ∈ lw_tbl := lw_at lw_m8 105 rfl
theorem q1912 : (Jvm.Cond.instanceMethod ({ cls := "SwollenHouseModel", name := "emit", desc := "(II)V" } : Jvm.MethodName)) ∈ lw_all := lw_g (lw_at lw_m8 106 rfl) rfl
theorem q1913 : (Jvm.Cond.code ({ cls := "SwollenHouseModel", name := "emit", desc := "(II)V" } : Jvm.MethodName) prog_25_method_33_code (3 : Nat) (Option.none : Option Jvm.ClassFile.FieldType)) ∈ lw_all := lw_g (lw_at lw_m8 107 rfl) rfl
theorem q1914 : (Jvm.Cond.methodLink "SwollenHouseModel" (260 : Nat) ({ cls := "SwollenHouseModel", name := "hasSign", desc := "(I)Z" } : Jvm.MethodName)) ∈ lw_all := lw_g (lw_at lw_m8 108 rfl) rfl
theorem q1915 : (Jvm.Cond.privateMethod ({ cls := "SwollenHouseModel", name := "hasSign", desc := "(I)Z" } : Jvm.MethodName)) ∈ lw_tbl := lw_at lw_m8 109 rfl
theorem q1916 : (Jvm.Cond.instanceMethod ({ cls := "SwollenHouseModel", name := "hasSign", desc := "(I)Z" } : Jvm.MethodName)) ∈ lw_all := lw_g (lw_at lw_m8 110 rfl) rfl
theorem q1917 : (Jvm.Cond.code ({ cls := "SwollenHouseModel", name := "hasSign", desc := "(I)Z" } : Jvm.MethodName) prog_25_method_14_code (3 : Nat) (Option.some Jvm.ClassFile.FieldType.boolean)) ∈ lw_all := lw_g (lw_at lw_m8 111 rfl) rfl
theorem q1918 : (Jvm.Cond.methodLink "SwollenHouseModel" (220 : Nat) ({ cls := "SwollenHouseModel", name := "takeSign", desc := "(I)V" } : Jvm.MethodName)) ∈ lw_all := lw_g (lw_at lw_m8 112 rfl) rfl
theorem q1919 : (Jvm.Cond.privateMethod ({ cls := "SwollenHouseModel", name := "takeSign", desc := "(I)V" } : Jvm.MethodName)) ∈ lw_tbl := lw_at lw_m8 113 rfl
theorem q1920 : (Jvm.Cond.instanceMethod ({ cls := "SwollenHouseModel", name := "takeSign", desc := "(I)V" } : Jvm.MethodName)) ∈ lw_all := lw_g (lw_at lw_m8 114 rfl) rfl
theorem q1921 : (Jvm.Cond.code ({ cls := "SwollenHouseModel", name := "takeSign", desc := "(I)V" } : Jvm.MethodName) prog_25_method_13_code (2 : Nat) (Option.none : Option Jvm.ClassFile.FieldType)) ∈ lw_all := lw_g (lw_at lw_m8 115 rfl) rfl
theorem q1923 : (Jvm.Cond.instanceMethod ({ cls := "SwollenHouseModel", name := "days", desc := "()I" } : Jvm.MethodName)) ∈ lw_all := lw_g (lw_at lw_m8 117 rfl) rfl
theorem q1924 : (Jvm.Cond.selects "SwollenHouseModel" ({ cls := "SwollenHouseModel", name := "days", desc := "()I" } : Jvm.MethodName) ({ cls := "SwollenHouseModel", name := "days", desc := "()I" } : Jvm.MethodName)) ∈ lw_all := lw_g (lw_at lw_m8 118 rfl) rfl
theorem q1925 : (Jvm.Cond.code ({ cls := "SwollenHouseModel", name := "days", desc := "()I" } : Jvm.MethodName) prog_25_method_32_code (4 : Nat) (Option.some Jvm.ClassFile.FieldType.int)) ∈ lw_all := lw_g (lw_at lw_m8 119 rfl) rfl
theorem q1927 : (Jvm.Cond.instanceMethod ({ cls := "SwollenHouseModel", name := "door", desc := "(II)I" } : Jvm.MethodName)) ∈ lw_all := lw_g (lw_at lw_m8 121 rfl) rfl
theorem q1928 : (Jvm.Cond.selects "SwollenHouseModel" ({ cls := "SwollenHouseModel", name := "door", desc := "(II)I" } : Jvm.MethodName) ({ cls := "SwollenHouseModel", name := "door", desc := "(II)I" } : Jvm.MethodName)) ∈ lw_all := lw_g (lw_at lw_m8 122 rfl) rfl
theorem q1929 : (Jvm.Cond.code ({ cls := "SwollenHouseModel", name := "door", desc := "(II)I" } : Jvm.MethodName) prog_25_method_67_code (3 : Nat) (Option.some Jvm.ClassFile.FieldType.int)) ∈ lw_all := lw_g (lw_at lw_m8 123 rfl) rfl
theorem q1930 : (Jvm.Cond.methodLink "SwollenHouseModel" (319 : Nat) ({ cls := "SwollenHouseModel", name := "isDoor", desc := "(I)Z" } : Jvm.MethodName)) ∈ lw_all := lw_g (lw_at lw_m8 124 rfl) rfl
theorem q1931 : (Jvm.Cond.privateMethod ({ cls := "SwollenHouseModel", name := "isDoor", desc := "(I)Z" } : Jvm.MethodName)) ∈ lw_tbl := lw_at lw_m8 125 rfl
theorem q1932 : (Jvm.Cond.instanceMethod ({ cls := "SwollenHouseModel", name := "isDoor", desc := "(I)Z" } : Jvm.MethodName)) ∈ lw_all := lw_g (lw_at lw_m8 126 rfl) rfl
theorem q1933 : (Jvm.Cond.code ({ cls := "SwollenHouseModel", name := "isDoor", desc := "(I)Z" } : Jvm.MethodName) prog_25_method_50_code (2 : Nat) (Option.some Jvm.ClassFile.FieldType.boolean)) ∈ lw_all := lw_g (lw_at lw_m8 127 rfl) rfl
theorem q1934 : (Jvm.Cond.methodLink "SwollenHouseModel" (297 : Nat) ({ cls := "SwollenHouseModel", name := "isWedged", desc := "(II)Z" } : Jvm.MethodName)) ∈ lw_all := lw_g (lw_at lw_m8 128 rfl) rfl
theorem q1935 : (Jvm.Cond.privateMethod ({ cls := "SwollenHouseModel", name := "isWedged", desc := "(II)Z" } : Jvm.MethodName)) ∈ lw_tbl := lw_at lw_m8 129 rfl
theorem q1936 : (Jvm.Cond.instanceMethod ({ cls := "SwollenHouseModel", name := "isWedged", desc := "(II)Z" } : Jvm.MethodName)) ∈ lw_all := lw_g (lw_at lw_m8 130 rfl) rfl
theorem q1937 : (Jvm.Cond.code ({ cls := "SwollenHouseModel", name := "isWedged", desc := "(II)Z" } : Jvm.MethodName) prog_25_method_54_code (3 : Nat) (Option.some Jvm.ClassFile.FieldType.boolean)) ∈ lw_all := lw_g (lw_at lw_m8 131 rfl) rfl
theorem q1938 : (Jvm.Cond.methodLink "SwollenHouseModel" (301 : Nat) ({ cls := "SwollenHouseModel", name := "doesStick", desc := "(II)Z" } : Jvm.MethodName)) ∈ lw_all := lw_g (lw_at lw_m8 132 rfl) rfl
theorem q1939 : (Jvm.Cond.privateMethod ({ cls := "SwollenHouseModel", name := "doesStick", desc := "(II)Z" } : Jvm.MethodName)) ∈ lw_tbl := lw_at lw_m8 133 rfl
theorem q1940 : (Jvm.Cond.instanceMethod ({ cls := "SwollenHouseModel", name := "doesStick", desc := "(II)Z" } : Jvm.MethodName)) ∈ lw_all := lw_g (lw_at lw_m8 134 rfl) rfl
theorem q1941 : (Jvm.Cond.code ({ cls := "SwollenHouseModel", name := "doesStick", desc := "(II)Z" } : Jvm.MethodName) prog_25_method_55_code (3 : Nat) (Option.some Jvm.ClassFile.FieldType.boolean)) ∈ lw_all := lw_g (lw_at lw_m8 135 rfl) rfl
theorem q1942 : (Jvm.Cond.methodLink "SwollenHouseModel" (294 : Nat) ({ cls := "SwollenHouseModel", name := "overOf", desc := "(II)I" } : Jvm.MethodName)) ∈ lw_all := lw_g (lw_at lw_m8 136 rfl) rfl
theorem q1943 : (Jvm.Cond.privateMethod ({ cls := "SwollenHouseModel", name := "overOf", desc := "(II)I" } : Jvm.MethodName)) ∈ lw_tbl := lw_at lw_m8 137 rfl
theorem q1944 : (Jvm.Cond.instanceMethod ({ cls := "SwollenHouseModel", name := "overOf", desc := "(II)I" } : Jvm.MethodName)) ∈ lw_all := lw_g (lw_at lw_m8 138 rfl) rfl
theorem q1945 : (Jvm.Cond.code ({ cls := "SwollenHouseModel", name := "overOf", desc := "(II)I" } : Jvm.MethodName) prog_25_method_53_code (3 : Nat) (Option.some Jvm.ClassFile.FieldType.int)) ∈ lw_all := lw_g (lw_at lw_m8 139 rfl) rfl
theorem q1947 : (Jvm.Cond.instanceMethod ({ cls := "SwollenHouseModel", name := "person", desc := "(I)I" } : Jvm.MethodName)) ∈ lw_all := lw_g (lw_at lw_m8 141 rfl) rfl
theorem q1948 : (Jvm.Cond.selects "SwollenHouseModel" ({ cls := "SwollenHouseModel", name := "person", desc := "(I)I" } : Jvm.MethodName) ({ cls := "SwollenHouseModel", name := "person", desc := "(I)I" } : Jvm.MethodName)) ∈ lw_all := lw_g (lw_at lw_m8 142 rfl) rfl
theorem q1949 : (Jvm.Cond.code ({ cls := "SwollenHouseModel", name := "person", desc := "(I)I" } : Jvm.MethodName) prog_25_method_68_code (2 : Nat) (Option.some Jvm.ClassFile.FieldType.int)) ∈ lw_all := lw_g (lw_at lw_m8 143 rfl) rfl
theorem q1950 : (Jvm.Cond.methodLink "SwollenHouseModel" (322 : Nat) ({ cls := "SwollenHouseModel", name := "isPerson", desc := "(I)Z" } : Jvm.MethodName)) ∈ lw_all := lw_g (lw_at lw_m8 144 rfl) rfl
theorem q1951 : (Jvm.Cond.privateMethod ({ cls := "SwollenHouseModel", name := "isPerson", desc := "(I)Z" } : Jvm.MethodName)) ∈ lw_tbl := lw_at lw_m8 145 rfl
theorem q1952 : (Jvm.Cond.instanceMethod ({ cls := "SwollenHouseModel", name := "isPerson", desc := "(I)Z" } : Jvm.MethodName)) ∈ lw_all := lw_g (lw_at lw_m8 146 rfl) rfl
theorem q1953 : (Jvm.Cond.code ({ cls := "SwollenHouseModel", name := "isPerson", desc := "(I)Z" } : Jvm.MethodName) prog_25_method_51_code (2 : Nat) (Option.some Jvm.ClassFile.FieldType.boolean)) ∈ lw_all := lw_g (lw_at lw_m8 147 rfl) rfl
theorem q1955 : (Jvm.Cond.instanceMethod ({ cls := "SwollenHouseModel", name := "day", desc := "()I" } : Jvm.MethodName)) ∈ lw_all := lw_g (lw_at lw_m8 149 rfl) rfl
theorem q1956 : (Jvm.Cond.selects "SwollenHouseModel" ({ cls := "SwollenHouseModel", name := "day", desc := "()I" } : Jvm.MethodName) ({ cls := "SwollenHouseModel", name := "day", desc := "()I" } : Jvm.MethodName)) ∈ lw_all := lw_g (lw_at lw_m8 150 rfl) rfl
theorem q1957 : (Jvm.Cond.code ({ cls := "SwollenHouseModel", name := "day", desc := "()I" } : Jvm.MethodName) prog_25_method_69_code (1 : Nat) (Option.some Jvm.ClassFile.FieldType.int)) ∈ lw_all := lw_g (lw_at lw_m8 151 rfl) rfl
theorem q1958 : (Jvm.Cond.methodLink "SwollenHouseModel" (325 : Nat) ({ cls := "SwollenHouseModel", name := "keeps", desc := "()V" } : Jvm.MethodName)) ∈ lw_all := lw_g (lw_at lw_m8 152 rfl) rfl
theorem q1959 : (Jvm.Cond.privateMethod ({ cls := "SwollenHouseModel", name := "keeps", desc := "()V" } : Jvm.MethodName)) ∈ lw_tbl := lw_at lw_m8 153 rfl
theorem q1960 : (Jvm.Cond.instanceMethod ({ cls := "SwollenHouseModel", name := "keeps", desc := "()V" } : Jvm.MethodName)) ∈ lw_all := lw_g (lw_at lw_m8 154 rfl) rfl
theorem q1961 : (Jvm.Cond.code ({ cls := "SwollenHouseModel", name := "keeps", desc := "()V" } : Jvm.MethodName) prog_25_method_44_code (2 : Nat) (Option.none : Option Jvm.ClassFile.FieldType)) ∈ lw_all := lw_g (lw_at lw_m8 155 rfl) rfl
theorem q1962 : (Jvm.Cond.methodLink "SwollenHouseModel" (288 : Nat) ({ cls := "SwollenHouseModel", name := "copies", desc := "(III)V" } : Jvm.MethodName)) ∈ lw_all := lw_g (lw_at lw_m8 156 rfl) rfl
theorem q1963 : (Jvm.Cond.privateMethod ({ cls := "SwollenHouseModel", name := "copies", desc := "(III)V" } : Jvm.MethodName)) ∈ lw_tbl := lw_at lw_m8 157 rfl
theorem q1964 : (Jvm.Cond.instanceMethod ({ cls := "SwollenHouseModel", name := "copies", desc := "(III)V" } : Jvm.MethodName)) ∈ lw_all := lw_g (lw_at lw_m8 158 rfl) rfl
theorem q1965 : (Jvm.Cond.code ({ cls := "SwollenHouseModel", name := "copies", desc := "(III)V" } : Jvm.MethodName) prog_25_method_41_code (5 : Nat) (Option.none : Option Jvm.ClassFile.FieldType)) ∈ lw_all := lw_g (lw_at lw_m8 159 rfl) rfl
theorem q1966 : (Jvm.Cond.methodLink "SwollenHouseModel" (328 : Nat) ({ cls := "SwollenHouseModel", name := "passes", desc := "(I)V" } : Jvm.MethodName)) ∈ lw_all := lw_g (lw_at lw_m8 160 rfl) rfl
theorem q1967 : (Jvm.Cond.privateMethod ({ cls := "SwollenHouseModel", name := "passes", desc := "(I)V" } : Jvm.MethodName)) ∈ lw_tbl := lw_at lw_m8 161 rfl
theorem q1968 : (Jvm.Cond.instanceMethod ({ cls := "SwollenHouseModel", name := "passes", desc := "(I)V" } : Jvm.MethodName)) ∈ lw_all := lw_g (lw_at lw_m8 162 rfl) rfl
theorem q1969 : (Jvm.Cond.code ({ cls := "SwollenHouseModel", name := "passes", desc := "(I)V" } : Jvm.MethodName) prog_25_method_59_code (2 : Nat) (Option.none : Option Jvm.ClassFile.FieldType)) ∈ lw_all := lw_g (lw_at lw_m8 163 rfl) rfl
theorem q1970 : (Jvm.Cond.methodLink "SwollenHouseModel" (310 : Nat) ({ cls := "SwollenHouseModel", name := "dampOn", desc := "(I)I" } : Jvm.MethodName)) ∈ lw_all := lw_g (lw_at lw_m8 164 rfl) rfl
theorem q1971 : (Jvm.Cond.privateMethod ({ cls := "SwollenHouseModel", name := "dampOn", desc := "(I)I" } : Jvm.MethodName)) ∈ lw_tbl := lw_at lw_m8 165 rfl
theorem q1972 : (Jvm.Cond.instanceMethod ({ cls := "SwollenHouseModel", name := "dampOn", desc := "(I)I" } : Jvm.MethodName)) ∈ lw_all := lw_g (lw_at lw_m8 166 rfl) rfl
theorem q1973 : (Jvm.Cond.code ({ cls := "SwollenHouseModel", name := "dampOn", desc := "(I)I" } : Jvm.MethodName) prog_25_method_52_code (2 : Nat) (Option.some Jvm.ClassFile.FieldType.int)) ∈ lw_all := lw_g (lw_at lw_m8 167 rfl) rfl
theorem q1974 : (Jvm.Cond.methodLink "SwollenHouseModel" (313 : Nat) ({ cls := "SwollenHouseModel", name := "passes", desc := "(II)V" } : Jvm.MethodName)) ∈ lw_all := lw_g (lw_at lw_m8 168 rfl) rfl
theorem q1975 : (Jvm.Cond.privateMethod ({ cls := "SwollenHouseModel", name := "passes", desc := "(II)V" } : Jvm.MethodName)) ∈ lw_tbl := lw_at lw_m8 169 rfl
theorem q1976 : (Jvm.Cond.instanceMethod ({ cls := "SwollenHouseModel", name := "passes", desc := "(II)V" } : Jvm.MethodName)) ∈ lw_all := lw_g (lw_at lw_m8 170 rfl) rfl
theorem q1977 : (Jvm.Cond.code ({ cls := "SwollenHouseModel", name := "passes", desc := "(II)V" } : Jvm.MethodName) prog_25_method_58_code (5 : Nat) (Option.none : Option Jvm.ClassFile.FieldType)) ∈ lw_all := lw_g (lw_at lw_m8 171 rfl) rfl
theorem q1978 : (Jvm.Cond.methodLink "SwollenHouseModel" (307 : Nat) ({ cls := "SwollenHouseModel", name := "moves", desc := "(III)I" } : Jvm.MethodName)) ∈ lw_all := lw_g (lw_at lw_m8 172 rfl) rfl
theorem q1979 : (Jvm.Cond.privateMethod ({ cls := "SwollenHouseModel", name := "moves", desc := "(III)I" } : Jvm.MethodName)) ∈ lw_tbl := lw_at lw_m8 173 rfl
theorem q1980 : (Jvm.Cond.instanceMethod ({ cls := "SwollenHouseModel", name := "moves", desc := "(III)I" } : Jvm.MethodName)) ∈ lw_all := lw_g (lw_at lw_m8 174 rfl) rfl
theorem q1981 : (Jvm.Cond.code ({ cls := "SwollenHouseModel", name := "moves", desc := "(III)I" } : Jvm.MethodName) prog_25_method_57_code (8 : Nat) (Option.some Jvm.ClassFile.FieldType.int)) ∈ lw_all := lw_g (lw_at lw_m8 175 rfl) rfl
theorem q1982 : (Jvm.Cond.methodLink "SwollenHouseModel" (304 : Nat) ({ cls := "SwollenHouseModel", name := "worthAt", desc := "(I)I" } : Jvm.MethodName)) ∈ lw_all := lw_g (lw_at lw_m8 176 rfl) rfl
theorem q1983 : (Jvm.Cond.privateMethod ({ cls := "SwollenHouseModel", name := "worthAt", desc := "(I)I" } : Jvm.MethodName)) ∈ lw_tbl := lw_at lw_m8 177 rfl
theorem q1984 : (Jvm.Cond.instanceMethod ({ cls := "SwollenHouseModel", name := "worthAt", desc := "(I)I" } : Jvm.MethodName)) ∈ lw_all := lw_g (lw_at lw_m8 178 rfl) rfl
theorem q1985 : (Jvm.Cond.code ({ cls := "SwollenHouseModel", name := "worthAt", desc := "(I)I" } : Jvm.MethodName) prog_25_method_39_code (5 : Nat) (Option.some Jvm.ClassFile.FieldType.int)) ∈ lw_all := lw_g (lw_at lw_m8 179 rfl) rfl
theorem q1986 : (Jvm.Cond.methodLink "SwollenHouseModel" (269 : Nat) ({ cls := "SwollenHouseModel", name := "both", desc := "(III)I" } : Jvm.MethodName)) ∈ lw_all := lw_g (lw_at lw_m8 180 rfl) rfl
theorem q1987 : (Jvm.Cond.static ({ cls := "SwollenHouseModel", name := "both", desc := "(III)I" } : Jvm.MethodName)) ∈ lw_all := lw_g (lw_at lw_m8 181 rfl) rfl
theorem q1988 : (Jvm.Cond.code ({ cls := "SwollenHouseModel", name := "both", desc := "(III)I" } : Jvm.MethodName) prog_25_method_40_code (3 : Nat) (Option.some Jvm.ClassFile.FieldType.int)) ∈ lw_all := lw_g (lw_at lw_m8 182 rfl) rfl
theorem q1989 : (Jvm.Cond.methodLink "SwollenHouseModel" (330 : Nat) ({ cls := "SwollenHouseModel", name := "sticking", desc := "(I)I" } : Jvm.MethodName)) ∈ lw_all := lw_g (lw_at lw_m8 183 rfl) rfl
theorem q1990 : (Jvm.Cond.privateMethod ({ cls := "SwollenHouseModel", name := "sticking", desc := "(I)I" } : Jvm.MethodName)) ∈ lw_tbl := lw_at lw_m8 184 rfl
theorem q1991 : (Jvm.Cond.instanceMethod ({ cls := "SwollenHouseModel", name := "sticking", desc := "(I)I" } : Jvm.MethodName)) ∈ lw_all := lw_g (lw_at lw_m8 185 rfl) rfl
theorem q1992 : (Jvm.Cond.code ({ cls := "SwollenHouseModel", name := "sticking", desc := "(I)I" } : Jvm.MethodName) prog_25_method_56_code (4 : Nat) (Option.some Jvm.ClassFile.FieldType.int)) ∈ lw_all := lw_g (lw_at lw_m8 186 rfl) rfl
theorem q1994 : (Jvm.Cond.instanceMethod ({ cls := "SwollenHouseModel", name := "walk", desc := "(II)I" } : Jvm.MethodName)) ∈ lw_all := lw_g (lw_at lw_m8 188 rfl) rfl
theorem q1995 : (Jvm.Cond.selects "SwollenHouseModel" ({ cls := "SwollenHouseModel", name := "walk", desc := "(II)I" } : Jvm.MethodName) ({ cls := "SwollenHouseModel", name := "walk", desc := "(II)I" } : Jvm.MethodName)) ∈ lw_all := lw_g (lw_at lw_m8 189 rfl) rfl
theorem q1996 : (Jvm.Cond.code ({ cls := "SwollenHouseModel", name := "walk", desc := "(II)I" } : Jvm.MethodName) prog_25_method_70_code (3 : Nat) (Option.some Jvm.ClassFile.FieldType.int)) ∈ lw_all := lw_g (lw_at lw_m8 190 rfl) rfl
theorem q1997 : (Jvm.Cond.methodLink "SwollenHouseModel" (333 : Nat) ({ cls := "SwollenHouseModel", name := "mayWalk", desc := "(III)Z" } : Jvm.MethodName)) ∈ lw_all := lw_g (lw_at lw_m8 191 rfl) rfl
theorem q1998 : (Jvm.Cond.privateMethod ({ cls := "SwollenHouseModel", name := "mayWalk", desc := "(III)Z" } : Jvm.MethodName)) ∈ lw_tbl := lw_at lw_m8 192 rfl
theorem q1999 : (Jvm.Cond.instanceMethod ({ cls := "SwollenHouseModel", name := "mayWalk", desc := "(III)Z" } : Jvm.MethodName)) ∈ lw_all := lw_g (lw_at lw_m8 193 rfl) rfl
theorem q2000 : (Jvm.Cond.code ({ cls := "SwollenHouseModel", name := "mayWalk", desc := "(III)Z" } : Jvm.MethodName) prog_25_method_61_code (4 : Nat) (Option.some Jvm.ClassFile.FieldType.boolean)) ∈ lw_all := lw_g (lw_at lw_m8 194 rfl) rfl
theorem q2001 : (Jvm.Cond.methodLink "SwollenHouseModel" (316 : Nat) ({ cls := "SwollenHouseModel", name := "behind", desc := "(II)I" } : Jvm.MethodName)) ∈ lw_all := lw_g (lw_at lw_m8 195 rfl) rfl
theorem q2002 : (Jvm.Cond.privateMethod ({ cls := "SwollenHouseModel", name := "behind", desc := "(II)I" } : Jvm.MethodName)) ∈ lw_tbl := lw_at lw_m8 196 rfl
theorem q2003 : (Jvm.Cond.instanceMethod ({ cls := "SwollenHouseModel", name := "behind", desc := "(II)I" } : Jvm.MethodName)) ∈ lw_all := lw_g (lw_at lw_m8 197 rfl) rfl
theorem q2004 : (Jvm.Cond.code ({ cls := "SwollenHouseModel", name := "behind", desc := "(II)I" } : Jvm.MethodName) prog_25_method_60_code (3 : Nat) (Option.some Jvm.ClassFile.FieldType.int)) ∈ lw_all := lw_g (lw_at lw_m8 198 rfl) rfl
theorem q2005 : (Jvm.Cond.methodLink "SwollenHouseModel" (336 : Nat) ({ cls := "SwollenHouseModel", name := "walks", desc := "(III)V" } : Jvm.MethodName)) ∈ lw_all := lw_g (lw_at lw_m8 199 rfl) rfl
theorem q2006 : (Jvm.Cond.privateMethod ({ cls := "SwollenHouseModel", name := "walks", desc := "(III)V" } : Jvm.MethodName)) ∈ lw_tbl := lw_at lw_m8 200 rfl
theorem q2007 : (Jvm.Cond.instanceMethod ({ cls := "SwollenHouseModel", name := "walks", desc := "(III)V" } : Jvm.MethodName)) ∈ lw_all := lw_g (lw_at lw_m8 201 rfl) rfl
theorem q2008 : (Jvm.Cond.code ({ cls := "SwollenHouseModel", name := "walks", desc := "(III)V" } : Jvm.MethodName) prog_25_method_64_code (4 : Nat) (Option.none : Option Jvm.ClassFile.FieldType)) ∈ lw_all := lw_g (lw_at lw_m8 202 rfl) rfl
theorem q2010 : (Jvm.Cond.instanceMethod ({ cls := "SwollenHouseModel", name := "plane", desc := "(I)I" } : Jvm.MethodName)) ∈ lw_all := lw_g (lw_at lw_m8 204 rfl) rfl
theorem q2011 : (Jvm.Cond.selects "SwollenHouseModel" ({ cls := "SwollenHouseModel", name := "plane", desc := "(I)I" } : Jvm.MethodName) ({ cls := "SwollenHouseModel", name := "plane", desc := "(I)I" } : Jvm.MethodName)) ∈ lw_all := lw_g (lw_at lw_m8 205 rfl) rfl
theorem q2012 : (Jvm.Cond.code ({ cls := "SwollenHouseModel", name := "plane", desc := "(I)I" } : Jvm.MethodName) prog_25_method_71_code (2 : Nat) (Option.some Jvm.ClassFile.FieldType.int)) ∈ lw_all := lw_g (lw_at lw_m8 206 rfl) rfl
theorem q2014 : (Jvm.Cond.instanceMethod ({ cls := "SwollenHouseModel", name := "wedge", desc := "(I)I" } : Jvm.MethodName)) ∈ lw_all := lw_g (lw_at lw_m8 208 rfl) rfl
theorem q2015 : (Jvm.Cond.selects "SwollenHouseModel" ({ cls := "SwollenHouseModel", name := "wedge", desc := "(I)I" } : Jvm.MethodName) ({ cls := "SwollenHouseModel", name := "wedge", desc := "(I)I" } : Jvm.MethodName)) ∈ lw_all := lw_g (lw_at lw_m8 209 rfl) rfl
theorem q2016 : (Jvm.Cond.code ({ cls := "SwollenHouseModel", name := "wedge", desc := "(I)I" } : Jvm.MethodName) prog_25_method_72_code (2 : Nat) (Option.some Jvm.ClassFile.FieldType.int)) ∈ lw_all := lw_g (lw_at lw_m8 210 rfl) rfl
theorem q2017 : (Jvm.Cond.methodLink "SwollenHouseModel" (339 : Nat) ({ cls := "SwollenHouseModel", name := "mayWedge", desc := "(II)Z" } : Jvm.MethodName)) ∈ lw_all := lw_g (lw_at lw_m8 211 rfl) rfl
theorem q2018 : (Jvm.Cond.privateMethod ({ cls := "SwollenHouseModel", name := "mayWedge", desc := "(II)Z" } : Jvm.MethodName)) ∈ lw_tbl := lw_at lw_m8 212 rfl
theorem q2019 : (Jvm.Cond.instanceMethod ({ cls := "SwollenHouseModel", name := "mayWedge", desc := "(II)Z" } : Jvm.MethodName)) ∈ lw_all := lw_g (lw_at lw_m8 213 rfl) rfl
theorem q2020 : (Jvm.Cond.code ({ cls := "SwollenHouseModel", name := "mayWedge", desc := "(II)Z" } : Jvm.MethodName) prog_25_method_63_code (3 : Nat) (Option.some Jvm.ClassFile.FieldType.boolean)) ∈ lw_all := lw_g (lw_at lw_m8 214 rfl) rfl
theorem q2022 : (Jvm.Cond.instanceMethod ({ cls := "SwollenHouseModel", name := "force", desc := "(I)I" } : Jvm.MethodName)) ∈ lw_all := lw_g (lw_at lw_m8 216 rfl) rfl
theorem q2023 : (Jvm.Cond.selects "SwollenHouseModel" ({ cls := "SwollenHouseModel", name := "force", desc := "(I)I" } : Jvm.MethodName) ({ cls := "SwollenHouseModel", name := "force", desc := "(I)I" } : Jvm.MethodName)) ∈ lw_all := lw_g (lw_at lw_m8 217 rfl) rfl
theorem q2024 : (Jvm.Cond.code ({ cls := "SwollenHouseModel", name := "force", desc := "(I)I" } : Jvm.MethodName) prog_25_method_73_code (2 : Nat) (Option.some Jvm.ClassFile.FieldType.int)) ∈ lw_all := lw_g (lw_at lw_m8 218 rfl) rfl
theorem q2025 : (Jvm.Cond.methodLink "SwollenHouseModel" (342 : Nat) ({ cls := "SwollenHouseModel", name := "mayForce", desc := "(II)Z" } : Jvm.MethodName)) ∈ lw_all := lw_g (lw_at lw_m8 219 rfl) rfl
theorem q2026 : (Jvm.Cond.privateMethod ({ cls := "SwollenHouseModel", name := "mayForce", desc := "(II)Z" } : Jvm.MethodName)) ∈ lw_tbl := lw_at lw_m8 220 rfl
theorem q2027 : (Jvm.Cond.instanceMethod ({ cls := "SwollenHouseModel", name := "mayForce", desc := "(II)Z" } : Jvm.MethodName)) ∈ lw_all := lw_g (lw_at lw_m8 221 rfl) rfl
theorem q2028 : (Jvm.Cond.code ({ cls := "SwollenHouseModel", name := "mayForce", desc := "(II)Z" } : Jvm.MethodName) prog_25_method_62_code (3 : Nat) (Option.some Jvm.ClassFile.FieldType.boolean)) ∈ lw_all := lw_g (lw_at lw_m8 222 rfl) rfl
theorem q2030 : (Jvm.Cond.instanceMethod ({ cls := "SwollenHouseModel", name := "undo", desc := "()Z" } : Jvm.MethodName)) ∈ lw_all := lw_g (lw_at lw_m8 224 rfl) rfl
theorem q2031 : (Jvm.Cond.selects "SwollenHouseModel" ({ cls := "SwollenHouseModel", name := "undo", desc := "()Z" } : Jvm.MethodName) ({ cls := "SwollenHouseModel", name := "undo", desc := "()Z" } : Jvm.MethodName)) ∈ lw_all := lw_g (lw_at lw_m8 225 rfl) rfl
theorem q2032 : (Jvm.Cond.code ({ cls := "SwollenHouseModel", name := "undo", desc := "()Z" } : Jvm.MethodName) prog_25_method_74_code (1 : Nat) (Option.some Jvm.ClassFile.FieldType.boolean)) ∈ lw_all := lw_g (lw_at lw_m8 226 rfl) rfl
theorem q2034 : (Jvm.Cond.instanceMethod ({ cls := "SwollenHouseModel", name := "judged", desc := "(I)I" } : Jvm.MethodName)) ∈ lw_all := lw_g (lw_at lw_m8 228 rfl) rfl
theorem q2035 : (Jvm.Cond.selects "SwollenHouseModel" ({ cls := "SwollenHouseModel", name := "judged", desc := "(I)I" } : Jvm.MethodName) ({ cls := "SwollenHouseModel", name := "judged", desc := "(I)I" } : Jvm.MethodName)) ∈ lw_all := lw_g (lw_at lw_m8 229 rfl) rfl
theorem q2036 : (Jvm.Cond.code ({ cls := "SwollenHouseModel", name := "judged", desc := "(I)I" } : Jvm.MethodName) prog_25_method_76_code (9 : Nat) (Option.some Jvm.ClassFile.FieldType.int)) ∈ lw_all := lw_g (lw_at lw_m8 230 rfl) rfl
theorem q2037 : (Jvm.Cond.methodLink "SwollenHouseModel" (345 : Nat) ({ cls := "SwollenHouseModel", name := "can", desc := "(III)Z" } : Jvm.MethodName)) ∈ lw_all := lw_g (lw_at lw_m8 231 rfl) rfl
theorem q2038 : (Jvm.Cond.privateMethod ({ cls := "SwollenHouseModel", name := "can", desc := "(III)Z" } : Jvm.MethodName)) ∈ lw_tbl := lw_at lw_m8 232 rfl
theorem q2039 : (Jvm.Cond.instanceMethod ({ cls := "SwollenHouseModel", name := "can", desc := "(III)Z" } : Jvm.MethodName)) ∈ lw_all := lw_g (lw_at lw_m8 233 rfl) rfl
theorem q2040 : (Jvm.Cond.code ({ cls := "SwollenHouseModel", name := "can", desc := "(III)Z" } : Jvm.MethodName) prog_25_method_75_code (4 : Nat) (Option.some Jvm.ClassFile.FieldType.boolean)) ∈ lw_all := lw_g (lw_at lw_m8 234 rfl) rfl
theorem q2041 : (Jvm.Cond.methodLink "SwollenHouseModel" (348 : Nat) ({ cls := "SwollenHouseModel", name := "shutIn", desc := "(I)I" } : Jvm.MethodName)) ∈ lw_all := lw_g (lw_at lw_m8 235 rfl) rfl
theorem q2042 : (Jvm.Cond.privateMethod ({ cls := "SwollenHouseModel", name := "shutIn", desc := "(I)I" } : Jvm.MethodName)) ∈ lw_tbl := lw_at lw_m8 236 rfl
theorem q2043 : (Jvm.Cond.instanceMethod ({ cls := "SwollenHouseModel", name := "shutIn", desc := "(I)I" } : Jvm.MethodName)) ∈ lw_all := lw_g (lw_at lw_m8 237 rfl) rfl
theorem q2044 : (Jvm.Cond.code ({ cls := "SwollenHouseModel", name := "shutIn", desc := "(I)I" } : Jvm.MethodName) prog_25_method_77_code (8 : Nat) (Option.some Jvm.ClassFile.FieldType.int)) ∈ lw_all := lw_g (lw_at lw_m8 238 rfl) rfl
theorem q2045 : (Jvm.Cond.methodLink "SwollenHouseModel" (351 : Nat) ({ cls := "SwollenHouseModel", name := "bits", desc := "(I)I" } : Jvm.MethodName)) ∈ lw_all := lw_g (lw_at lw_m8 239 rfl) rfl
theorem q2046 : (Jvm.Cond.static ({ cls := "SwollenHouseModel", name := "bits", desc := "(I)I" } : Jvm.MethodName)) ∈ lw_all := lw_g (lw_at lw_m9 0 rfl) rfl
theorem q2047 : (Jvm.Cond.code ({ cls := "SwollenHouseModel", name := "bits", desc := "(I)I" } : Jvm.MethodName) prog_25_method_65_code (3 : Nat) (Option.some Jvm.ClassFile.FieldType.int)) ∈ lw_all := lw_g (lw_at lw_m9 1 rfl) rfl
theorem q2049 : (Jvm.Cond.instanceMethod ({ cls := "SwollenHouseModel", name := "shut", desc := "()I" } : Jvm.MethodName)) ∈ lw_all := lw_g (lw_at lw_m9 3 rfl) rfl
theorem q2050 : (Jvm.Cond.selects "SwollenHouseModel" ({ cls := "SwollenHouseModel", name := "shut", desc := "()I" } : Jvm.MethodName) ({ cls := "SwollenHouseModel", name := "shut", desc := "()I" } : Jvm.MethodName)) ∈ lw_all := lw_g (lw_at lw_m9 4 rfl) rfl
theorem q2051 : (Jvm.Cond.code ({ cls := "SwollenHouseModel", name := "shut", desc := "()I" } : Jvm.MethodName) prog_25_method_78_code (1 : Nat) (Option.some Jvm.ClassFile.FieldType.int)) ∈ lw_all := lw_g (lw_at lw_m9 5 rfl) rfl
theorem q2053 : (Jvm.Cond.instanceMethod ({ cls := "SwollenHouseModel", name := "range", desc := "(I)I" } : Jvm.MethodName)) ∈ lw_all := lw_g (lw_at lw_m9 7 rfl) rfl
theorem q2054 : (Jvm.Cond.selects "SwollenHouseModel" ({ cls := "SwollenHouseModel", name := "range", desc := "(I)I" } : Jvm.MethodName) ({ cls := "SwollenHouseModel", name := "range", desc := "(I)I" } : Jvm.MethodName)) ∈ lw_all := lw_g (lw_at lw_m9 8 rfl) rfl
theorem q2055 : (Jvm.Cond.code ({ cls := "SwollenHouseModel", name := "range", desc := "(I)I" } : Jvm.MethodName) prog_25_method_82_code (2 : Nat) (Option.some Jvm.ClassFile.FieldType.int)) ∈ lw_all := lw_g (lw_at lw_m9 9 rfl) rfl
theorem q2056 : (Jvm.Cond.methodLink "SwollenHouseModel" (357 : Nat) ({ cls := "SwollenHouseModel", name := "isRoom", desc := "(I)Z" } : Jvm.MethodName)) ∈ lw_all := lw_g (lw_at lw_m9 10 rfl) rfl
theorem q2057 : (Jvm.Cond.privateMethod ({ cls := "SwollenHouseModel", name := "isRoom", desc := "(I)Z" } : Jvm.MethodName)) ∈ lw_tbl := lw_at lw_m9 11 rfl
theorem q2058 : (Jvm.Cond.instanceMethod ({ cls := "SwollenHouseModel", name := "isRoom", desc := "(I)Z" } : Jvm.MethodName)) ∈ lw_all := lw_g (lw_at lw_m9 12 rfl) rfl
theorem q2059 : (Jvm.Cond.code ({ cls := "SwollenHouseModel", name := "isRoom", desc := "(I)Z" } : Jvm.MethodName) prog_25_method_49_code (2 : Nat) (Option.some Jvm.ClassFile.FieldType.boolean)) ∈ lw_all := lw_g (lw_at lw_m9 13 rfl) rfl
theorem q2060 : (Jvm.Cond.methodLink "SwollenHouseModel" (291 : Nat) ({ cls := "SwollenHouseModel", name := "rooms", desc := "()I" } : Jvm.MethodName)) ∈ lw_all := lw_g (lw_at lw_m9 14 rfl) rfl
theorem q2061 : (Jvm.Cond.privateMethod ({ cls := "SwollenHouseModel", name := "rooms", desc := "()I" } : Jvm.MethodName)) ∈ lw_tbl := lw_at lw_m9 15 rfl
theorem q2062 : (Jvm.Cond.instanceMethod ({ cls := "SwollenHouseModel", name := "rooms", desc := "()I" } : Jvm.MethodName)) ∈ lw_all := lw_g (lw_at lw_m9 16 rfl) rfl
theorem q2063 : (Jvm.Cond.code ({ cls := "SwollenHouseModel", name := "rooms", desc := "()I" } : Jvm.MethodName) prog_25_method_45_code (1 : Nat) (Option.some Jvm.ClassFile.FieldType.int)) ∈ lw_all := lw_g (lw_at lw_m9 17 rfl) rfl
theorem q2064 : (Jvm.Cond.methodLink "SwollenHouseModel" (360 : Nat) ({ cls := "SwollenHouseModel", name := "openNow", desc := "(I)I" } : Jvm.MethodName)) ∈ lw_all := lw_g (lw_at lw_m9 18 rfl) rfl
theorem q2065 : (Jvm.Cond.privateMethod ({ cls := "SwollenHouseModel", name := "openNow", desc := "(I)I" } : Jvm.MethodName)) ∈ lw_tbl := lw_at lw_m9 19 rfl
theorem q2066 : (Jvm.Cond.instanceMethod ({ cls := "SwollenHouseModel", name := "openNow", desc := "(I)I" } : Jvm.MethodName)) ∈ lw_all := lw_g (lw_at lw_m9 20 rfl) rfl
theorem q2067 : (Jvm.Cond.code ({ cls := "SwollenHouseModel", name := "openNow", desc := "(I)I" } : Jvm.MethodName) prog_25_method_81_code (2 : Nat) (Option.some Jvm.ClassFile.FieldType.int)) ∈ lw_all := lw_g (lw_at lw_m9 21 rfl) rfl
theorem q2068 : (Jvm.Cond.methodLink "SwollenHouseModel" (363 : Nat) ({ cls := "SwollenHouseModel", name := "rangeBy", desc := "(II)I" } : Jvm.MethodName)) ∈ lw_all := lw_g (lw_at lw_m9 22 rfl) rfl
theorem q2069 : (Jvm.Cond.privateMethod ({ cls := "SwollenHouseModel", name := "rangeBy", desc := "(II)I" } : Jvm.MethodName)) ∈ lw_tbl := lw_at lw_m9 23 rfl
theorem q2070 : (Jvm.Cond.instanceMethod ({ cls := "SwollenHouseModel", name := "rangeBy", desc := "(II)I" } : Jvm.MethodName)) ∈ lw_all := lw_g (lw_at lw_m9 24 rfl) rfl
theorem q2071 : (Jvm.Cond.code ({ cls := "SwollenHouseModel", name := "rangeBy", desc := "(II)I" } : Jvm.MethodName) prog_25_method_80_code (5 : Nat) (Option.some Jvm.ClassFile.FieldType.int)) ∈ lw_all := lw_g (lw_at lw_m9 25 rfl) rfl
theorem q2072 : (Jvm.Cond.methodLink "SwollenHouseModel" (354 : Nat) ({ cls := "SwollenHouseModel", name := "onFrom", desc := "(II)I" } : Jvm.MethodName)) ∈ lw_all := lw_g (lw_at lw_m9 26 rfl) rfl
theorem q2073 : (Jvm.Cond.privateMethod ({ cls := "SwollenHouseModel", name := "onFrom", desc := "(II)I" } : Jvm.MethodName)) ∈ lw_tbl := lw_at lw_m9 27 rfl
theorem q2074 : (Jvm.Cond.instanceMethod ({ cls := "SwollenHouseModel", name := "onFrom", desc := "(II)I" } : Jvm.MethodName)) ∈ lw_all := lw_g (lw_at lw_m9 28 rfl) rfl
theorem q2075 : (Jvm.Cond.code ({ cls := "SwollenHouseModel", name := "onFrom", desc := "(II)I" } : Jvm.MethodName) prog_25_method_79_code (8 : Nat) (Option.some Jvm.ClassFile.FieldType.int)) ∈ lw_all := lw_g (lw_at lw_m9 29 rfl) rfl
theorem q2077 : (Jvm.Cond.instanceMethod ({ cls := "SwollenHouseModel", name := "company", desc := "(I)I" } : Jvm.MethodName)) ∈ lw_all := lw_g (lw_at lw_m9 31 rfl) rfl
theorem q2078 : (Jvm.Cond.selects "SwollenHouseModel" ({ cls := "SwollenHouseModel", name := "company", desc := "(I)I" } : Jvm.MethodName) ({ cls := "SwollenHouseModel", name := "company", desc := "(I)I" } : Jvm.MethodName)) ∈ lw_all := lw_g (lw_at lw_m9 32 rfl) rfl
theorem q2079 : (Jvm.Cond.code ({ cls := "SwollenHouseModel", name := "company", desc := "(I)I" } : Jvm.MethodName) prog_25_method_84_code (2 : Nat) (Option.some Jvm.ClassFile.FieldType.int)) ∈ lw_all := lw_g (lw_at lw_m9 33 rfl) rfl
theorem q2080 : (Jvm.Cond.methodLink "SwollenHouseModel" (366 : Nat) ({ cls := "SwollenHouseModel", name := "companyBy", desc := "(II)I" } : Jvm.MethodName)) ∈ lw_all := lw_g (lw_at lw_m9 34 rfl) rfl
theorem q2081 : (Jvm.Cond.privateMethod ({ cls := "SwollenHouseModel", name := "companyBy", desc := "(II)I" } : Jvm.MethodName)) ∈ lw_tbl := lw_at lw_m9 35 rfl
theorem q2082 : (Jvm.Cond.instanceMethod ({ cls := "SwollenHouseModel", name := "companyBy", desc := "(II)I" } : Jvm.MethodName)) ∈ lw_all := lw_g (lw_at lw_m9 36 rfl) rfl
theorem q2083 : (Jvm.Cond.code ({ cls := "SwollenHouseModel", name := "companyBy", desc := "(II)I" } : Jvm.MethodName) prog_25_method_83_code (6 : Nat) (Option.some Jvm.ClassFile.FieldType.int)) ∈ lw_all := lw_g (lw_at lw_m9 37 rfl) rfl
theorem q2085 : (Jvm.Cond.instanceMethod ({ cls := "SwollenHouseModel", name := "alone", desc := "()I" } : Jvm.MethodName)) ∈ lw_all := lw_g (lw_at lw_m9 39 rfl) rfl
theorem q2086 : (Jvm.Cond.selects "SwollenHouseModel" ({ cls := "SwollenHouseModel", name := "alone", desc := "()I" } : Jvm.MethodName) ({ cls := "SwollenHouseModel", name := "alone", desc := "()I" } : Jvm.MethodName)) ∈ lw_all := lw_g (lw_at lw_m9 40 rfl) rfl
theorem q2087 : (Jvm.Cond.code ({ cls := "SwollenHouseModel", name := "alone", desc := "()I" } : Jvm.MethodName) prog_25_method_85_code (3 : Nat) (Option.some Jvm.ClassFile.FieldType.int)) ∈ lw_all := lw_g (lw_at lw_m9 41 rfl) rfl
theorem q2089 : (Jvm.Cond.instanceMethod ({ cls := "SwollenHouseModel", name := "bride", desc := "()I" } : Jvm.MethodName)) ∈ lw_all := lw_g (lw_at lw_m9 43 rfl) rfl
theorem q2090 : (Jvm.Cond.selects "SwollenHouseModel" ({ cls := "SwollenHouseModel", name := "bride", desc := "()I" } : Jvm.MethodName) ({ cls := "SwollenHouseModel", name := "bride", desc := "()I" } : Jvm.MethodName)) ∈ lw_all := lw_g (lw_at lw_m9 44 rfl) rfl
theorem q2091 : (Jvm.Cond.code ({ cls := "SwollenHouseModel", name := "bride", desc := "()I" } : Jvm.MethodName) prog_25_method_86_code (5 : Nat) (Option.some Jvm.ClassFile.FieldType.int)) ∈ lw_all := lw_g (lw_at lw_m9 45 rfl) rfl
theorem q2093 : (Jvm.Cond.instanceMethod ({ cls := "SwollenHouseModel", name := "parts", desc := "()I" } : Jvm.MethodName)) ∈ lw_all := lw_g (lw_at lw_m9 47 rfl) rfl
theorem q2094 : (Jvm.Cond.selects "SwollenHouseModel" ({ cls := "SwollenHouseModel", name := "parts", desc := "()I" } : Jvm.MethodName) ({ cls := "SwollenHouseModel", name := "parts", desc := "()I" } : Jvm.MethodName)) ∈ lw_all := lw_g (lw_at lw_m9 48 rfl) rfl
theorem q2095 : (Jvm.Cond.code ({ cls := "SwollenHouseModel", name := "parts", desc := "()I" } : Jvm.MethodName) prog_25_method_87_code (3 : Nat) (Option.some Jvm.ClassFile.FieldType.int)) ∈ lw_all := lw_g (lw_at lw_m9 49 rfl) rfl
theorem q2097 : (Jvm.Cond.instanceMethod ({ cls := "SwollenHouseModel", name := "deep", desc := "(I)I" } : Jvm.MethodName)) ∈ lw_all := lw_g (lw_at lw_m9 51 rfl) rfl
theorem q2098 : (Jvm.Cond.selects "SwollenHouseModel" ({ cls := "SwollenHouseModel", name := "deep", desc := "(I)I" } : Jvm.MethodName) ({ cls := "SwollenHouseModel", name := "deep", desc := "(I)I" } : Jvm.MethodName)) ∈ lw_all := lw_g (lw_at lw_m9 52 rfl) rfl
theorem q2099 : (Jvm.Cond.code ({ cls := "SwollenHouseModel", name := "deep", desc := "(I)I" } : Jvm.MethodName) prog_25_method_88_code (4 : Nat) (Option.some Jvm.ClassFile.FieldType.int)) ∈ lw_all := lw_g (lw_at lw_m9 53 rfl) rfl
theorem q2101 : (Jvm.Cond.instanceMethod ({ cls := "SwollenHouseModel", name := "spared", desc := "()I" } : Jvm.MethodName)) ∈ lw_all := lw_g (lw_at lw_m9 55 rfl) rfl
theorem q2102 : (Jvm.Cond.selects "SwollenHouseModel" ({ cls := "SwollenHouseModel", name := "spared", desc := "()I" } : Jvm.MethodName) ({ cls := "SwollenHouseModel", name := "spared", desc := "()I" } : Jvm.MethodName)) ∈ lw_all := lw_g (lw_at lw_m9 56 rfl) rfl
theorem q2103 : (Jvm.Cond.code ({ cls := "SwollenHouseModel", name := "spared", desc := "()I" } : Jvm.MethodName) prog_25_method_89_code (6 : Nat) (Option.some Jvm.ClassFile.FieldType.int)) ∈ lw_all := lw_g (lw_at lw_m9 57 rfl) rfl
theorem q2105 : (Jvm.Cond.instanceMethod ({ cls := "SwollenHouseModel", name := "opened", desc := "()I" } : Jvm.MethodName)) ∈ lw_all := lw_g (lw_at lw_m9 59 rfl) rfl
theorem q2106 : (Jvm.Cond.selects "SwollenHouseModel" ({ cls := "SwollenHouseModel", name := "opened", desc := "()I" } : Jvm.MethodName) ({ cls := "SwollenHouseModel", name := "opened", desc := "()I" } : Jvm.MethodName)) ∈ lw_all := lw_g (lw_at lw_m9 60 rfl) rfl
theorem q2107 : (Jvm.Cond.code ({ cls := "SwollenHouseModel", name := "opened", desc := "()I" } : Jvm.MethodName) prog_25_method_91_code (6 : Nat) (Option.some Jvm.ClassFile.FieldType.int)) ∈ lw_all := lw_g (lw_at lw_m9 61 rfl) rfl
theorem q2108 : (Jvm.Cond.methodLink "SwollenHouseModel" (369 : Nat) ({ cls := "SwollenHouseModel", name := "pairsBy", desc := "(I)I" } : Jvm.MethodName)) ∈ lw_all := lw_g (lw_at lw_m9 62 rfl) rfl
theorem q2109 : (Jvm.Cond.privateMethod ({ cls := "SwollenHouseModel", name := "pairsBy", desc := "(I)I" } : Jvm.MethodName)) ∈ lw_tbl := lw_at lw_m9 63 rfl
theorem q2110 : (Jvm.Cond.instanceMethod ({ cls := "SwollenHouseModel", name := "pairsBy", desc := "(I)I" } : Jvm.MethodName)) ∈ lw_all := lw_g (lw_at lw_m9 64 rfl) rfl
theorem q2111 : (Jvm.Cond.code ({ cls := "SwollenHouseModel", name := "pairsBy", desc := "(I)I" } : Jvm.MethodName) prog_25_method_90_code (4 : Nat) (Option.some Jvm.ClassFile.FieldType.int)) ∈ lw_all := lw_g (lw_at lw_m9 65 rfl) rfl
theorem q2113 : (Jvm.Cond.instanceMethod ({ cls := "SwollenHouseModel", name := "cut", desc := "(II)I" } : Jvm.MethodName)) ∈ lw_all := lw_g (lw_at lw_m9 67 rfl) rfl
theorem q2114 : (Jvm.Cond.selects "SwollenHouseModel" ({ cls := "SwollenHouseModel", name := "cut", desc := "(II)I" } : Jvm.MethodName) ({ cls := "SwollenHouseModel", name := "cut", desc := "(II)I" } : Jvm.MethodName)) ∈ lw_all := lw_g (lw_at lw_m9 68 rfl) rfl
theorem q2115 : (Jvm.Cond.code ({ cls := "SwollenHouseModel", name := "cut", desc := "(II)I" } : Jvm.MethodName) prog_25_method_92_code (7 : Nat) (Option.some Jvm.ClassFile.FieldType.int)) ∈ lw_all := lw_g (lw_at lw_m9 69 rfl) rfl
theorem q2117 : (Jvm.Cond.instanceMethod ({ cls := "SwollenHouseModel", name := "rattles", desc := "()I" } : Jvm.MethodName)) ∈ lw_all := lw_g (lw_at lw_m9 71 rfl) rfl
theorem q2118 : (Jvm.Cond.selects "SwollenHouseModel" ({ cls := "SwollenHouseModel", name := "rattles", desc := "()I" } : Jvm.MethodName) ({ cls := "SwollenHouseModel", name := "rattles", desc := "()I" } : Jvm.MethodName)) ∈ lw_all := lw_g (lw_at lw_m9 72 rfl) rfl
theorem q2119 : (Jvm.Cond.code ({ cls := "SwollenHouseModel", name := "rattles", desc := "()I" } : Jvm.MethodName) prog_25_method_93_code (3 : Nat) (Option.some Jvm.ClassFile.FieldType.int)) ∈ lw_all := lw_g (lw_at lw_m9 73 rfl) rfl
theorem q2121 : (Jvm.Cond.instanceMethod ({ cls := "SwollenHouseModel", name := "worst", desc := "()I" } : Jvm.MethodName)) ∈ lw_all := lw_g (lw_at lw_m9 75 rfl) rfl
theorem q2122 : (Jvm.Cond.selects "SwollenHouseModel" ({ cls := "SwollenHouseModel", name := "worst", desc := "()I" } : Jvm.MethodName) ({ cls := "SwollenHouseModel", name := "worst", desc := "()I" } : Jvm.MethodName)) ∈ lw_all := lw_g (lw_at lw_m9 76 rfl) rfl
theorem q2123 : (Jvm.Cond.code ({ cls := "SwollenHouseModel", name := "worst", desc := "()I" } : Jvm.MethodName) prog_25_method_94_code (5 : Nat) (Option.some Jvm.ClassFile.FieldType.int)) ∈ lw_all := lw_g (lw_at lw_m9 77 rfl) rfl
theorem q2125 : (Jvm.Cond.instanceMethod ({ cls := "SwollenHouseModel", name := "later", desc := "(II)I" } : Jvm.MethodName)) ∈ lw_all := lw_g (lw_at lw_m9 79 rfl) rfl
theorem q2126 : (Jvm.Cond.selects "SwollenHouseModel" ({ cls := "SwollenHouseModel", name := "later", desc := "(II)I" } : Jvm.MethodName) ({ cls := "SwollenHouseModel", name := "later", desc := "(II)I" } : Jvm.MethodName)) ∈ lw_all := lw_g (lw_at lw_m9 80 rfl) rfl
theorem q2127 : (Jvm.Cond.code ({ cls := "SwollenHouseModel", name := "later", desc := "(II)I" } : Jvm.MethodName) prog_25_method_96_code (4 : Nat) (Option.some Jvm.ClassFile.FieldType.int)) ∈ lw_all := lw_g (lw_at lw_m9 81 rfl) rfl
theorem q2128 : (Jvm.Cond.methodLink "SwollenHouseModel" (372 : Nat) ({ cls := "SwollenHouseModel", name := "triesNow", desc := "()V" } : Jvm.MethodName)) ∈ lw_all := lw_g (lw_at lw_m9 82 rfl) rfl
theorem q2129 : (Jvm.Cond.privateMethod ({ cls := "SwollenHouseModel", name := "triesNow", desc := "()V" } : Jvm.MethodName)) ∈ lw_tbl := lw_at lw_m9 83 rfl
theorem q2130 : (Jvm.Cond.instanceMethod ({ cls := "SwollenHouseModel", name := "triesNow", desc := "()V" } : Jvm.MethodName)) ∈ lw_all := lw_g (lw_at lw_m9 84 rfl) rfl
theorem q2131 : (Jvm.Cond.code ({ cls := "SwollenHouseModel", name := "triesNow", desc := "()V" } : Jvm.MethodName) prog_25_method_95_code (1 : Nat) (Option.none : Option Jvm.ClassFile.FieldType)) ∈ lw_all := lw_g (lw_at lw_m9 85 rfl) rfl
theorem q2133 : (Jvm.Cond.instanceMethod ({ cls := "SwollenHouseModel", name := "closes", desc := "(I)I" } : Jvm.MethodName)) ∈ lw_all := lw_g (lw_at lw_m9 87 rfl) rfl
theorem q2134 : (Jvm.Cond.selects "SwollenHouseModel" ({ cls := "SwollenHouseModel", name := "closes", desc := "(I)I" } : Jvm.MethodName) ({ cls := "SwollenHouseModel", name := "closes", desc := "(I)I" } : Jvm.MethodName)) ∈ lw_all := lw_g (lw_at lw_m9 88 rfl) rfl
theorem q2135 : (Jvm.Cond.code ({ cls := "SwollenHouseModel", name := "closes", desc := "(I)I" } : Jvm.MethodName) prog_25_method_98_code (2 : Nat) (Option.some Jvm.ClassFile.FieldType.int)) ∈ lw_all := lw_g (lw_at lw_m9 89 rfl) rfl
theorem q2136 : (Jvm.Cond.methodLink "SwollenHouseModel" (375 : Nat) ({ cls := "SwollenHouseModel", name := "behindHow", desc := "(IZ)I" } : Jvm.MethodName)) ∈ lw_all := lw_g (lw_at lw_m9 90 rfl) rfl
theorem q2137 : (Jvm.Cond.privateMethod ({ cls := "SwollenHouseModel", name := "behindHow", desc := "(IZ)I" } : Jvm.MethodName)) ∈ lw_tbl := lw_at lw_m9 91 rfl
theorem q2138 : (Jvm.Cond.instanceMethod ({ cls := "SwollenHouseModel", name := "behindHow", desc := "(IZ)I" } : Jvm.MethodName)) ∈ lw_all := lw_g (lw_at lw_m9 92 rfl) rfl
theorem q2139 : (Jvm.Cond.code ({ cls := "SwollenHouseModel", name := "behindHow", desc := "(IZ)I" } : Jvm.MethodName) prog_25_method_97_code (5 : Nat) (Option.some Jvm.ClassFile.FieldType.int)) ∈ lw_all := lw_g (lw_at lw_m9 93 rfl) rfl
theorem q2141 : (Jvm.Cond.instanceMethod ({ cls := "SwollenHouseModel", name := "gives", desc := "(I)I" } : Jvm.MethodName)) ∈ lw_all := lw_g (lw_at lw_m9 95 rfl) rfl
theorem q2142 : (Jvm.Cond.selects "SwollenHouseModel" ({ cls := "SwollenHouseModel", name := "gives", desc := "(I)I" } : Jvm.MethodName) ({ cls := "SwollenHouseModel", name := "gives", desc := "(I)I" } : Jvm.MethodName)) ∈ lw_all := lw_g (lw_at lw_m9 96 rfl) rfl
theorem q2143 : (Jvm.Cond.code ({ cls := "SwollenHouseModel", name := "gives", desc := "(I)I" } : Jvm.MethodName) prog_25_method_99_code (2 : Nat) (Option.some Jvm.ClassFile.FieldType.int)) ∈ lw_all := lw_g (lw_at lw_m9 97 rfl) rfl
theorem q2145 : (Jvm.Cond.instanceMethod ({ cls := "SwollenHouseModel", name := "calm", desc := "()I" } : Jvm.MethodName)) ∈ lw_all := lw_g (lw_at lw_m9 99 rfl) rfl
theorem q2146 : (Jvm.Cond.selects "SwollenHouseModel" ({ cls := "SwollenHouseModel", name := "calm", desc := "()I" } : Jvm.MethodName) ({ cls := "SwollenHouseModel", name := "calm", desc := "()I" } : Jvm.MethodName)) ∈ lw_all := lw_g (lw_at lw_m9 100 rfl) rfl
theorem q2147 : (Jvm.Cond.code ({ cls := "SwollenHouseModel", name := "calm", desc := "()I" } : Jvm.MethodName) prog_25_method_100_code (1 : Nat) (Option.some Jvm.ClassFile.FieldType.int)) ∈ lw_all := lw_g (lw_at lw_m9 101 rfl) rfl
theorem q2149 : (Jvm.Cond.instanceMethod ({ cls := "SwollenHouseModel", name := "hard", desc := "()I" } : Jvm.MethodName)) ∈ lw_all := lw_g (lw_at lw_m9 103 rfl) rfl
theorem q2150 : (Jvm.Cond.selects "SwollenHouseModel" ({ cls := "SwollenHouseModel", name := "hard", desc := "()I" } : Jvm.MethodName) ({ cls := "SwollenHouseModel", name := "hard", desc := "()I" } : Jvm.MethodName)) ∈ lw_all := lw_g (lw_at lw_m9 104 rfl) rfl
theorem q2151 : (Jvm.Cond.code ({ cls := "SwollenHouseModel", name := "hard", desc := "()I" } : Jvm.MethodName) prog_25_method_101_code (5 : Nat) (Option.some Jvm.ClassFile.FieldType.int)) ∈ lw_all := lw_g (lw_at lw_m9 105 rfl) rfl
theorem q2153 : (Jvm.Cond.instanceMethod ({ cls := "SwollenHouseModel", name := "arrives", desc := "(II)I" } : Jvm.MethodName)) ∈ lw_all := lw_g (lw_at lw_m9 107 rfl) rfl
theorem q2154 : (Jvm.Cond.selects "SwollenHouseModel" ({ cls := "SwollenHouseModel", name := "arrives", desc := "(II)I" } : Jvm.MethodName) ({ cls := "SwollenHouseModel", name := "arrives", desc := "(II)I" } : Jvm.MethodName)) ∈ lw_all := lw_g (lw_at lw_m9 108 rfl) rfl
theorem q2155 : (Jvm.Cond.code ({ cls := "SwollenHouseModel", name := "arrives", desc := "(II)I" } : Jvm.MethodName) prog_25_method_104_code (3 : Nat) (Option.some Jvm.ClassFile.FieldType.int)) ∈ lw_all := lw_g (lw_at lw_m9 109 rfl) rfl
theorem q2156 : (Jvm.Cond.methodLink "SwollenHouseModel" (379 : Nat) ({ cls := "SwollenHouseModel", name := "opensThen", desc := "()V" } : Jvm.MethodName)) ∈ lw_all := lw_g (lw_at lw_m9 110 rfl) rfl
theorem q2157 : (Jvm.Cond.privateMethod ({ cls := "SwollenHouseModel", name := "opensThen", desc := "()V" } : Jvm.MethodName)) ∈ lw_tbl := lw_at lw_m9 111 rfl
theorem q2158 : (Jvm.Cond.instanceMethod ({ cls := "SwollenHouseModel", name := "opensThen", desc := "()V" } : Jvm.MethodName)) ∈ lw_all := lw_g (lw_at lw_m9 112 rfl) rfl
theorem q2159 : (Jvm.Cond.code ({ cls := "SwollenHouseModel", name := "opensThen", desc := "()V" } : Jvm.MethodName) prog_25_method_102_code (2 : Nat) (Option.none : Option Jvm.ClassFile.FieldType)) ∈ lw_all := lw_g (lw_at lw_m9 113 rfl) rfl
theorem q2160 : (Jvm.Cond.methodLink "SwollenHouseModel" (382 : Nat) ({ cls := "SwollenHouseModel", name := "arrivesBy", desc := "(II)I" } : Jvm.MethodName)) ∈ lw_all := lw_g (lw_at lw_m9 114 rfl) rfl
theorem q2161 : (Jvm.Cond.privateMethod ({ cls := "SwollenHouseModel", name := "arrivesBy", desc := "(II)I" } : Jvm.MethodName)) ∈ lw_tbl := lw_at lw_m9 115 rfl
theorem q2162 : (Jvm.Cond.instanceMethod ({ cls := "SwollenHouseModel", name := "arrivesBy", desc := "(II)I" } : Jvm.MethodName)) ∈ lw_all := lw_g (lw_at lw_m9 116 rfl) rfl
theorem q2163 : (Jvm.Cond.code ({ cls := "SwollenHouseModel", name := "arrivesBy", desc := "(II)I" } : Jvm.MethodName) prog_25_method_103_code (5 : Nat) (Option.some Jvm.ClassFile.FieldType.int)) ∈ lw_all := lw_g (lw_at lw_m9 117 rfl) rfl
theorem q2165 : (Jvm.Cond.instanceMethod ({ cls := "SwollenHouseModel", name := "from", desc := "(II)I" } : Jvm.MethodName)) ∈ lw_all := lw_g (lw_at lw_m9 119 rfl) rfl
theorem q2166 : (Jvm.Cond.selects "SwollenHouseModel" ({ cls := "SwollenHouseModel", name := "from", desc := "(II)I" } : Jvm.MethodName) ({ cls := "SwollenHouseModel", name := "from", desc := "(II)I" } : Jvm.MethodName)) ∈ lw_all := lw_g (lw_at lw_m9 120 rfl) rfl
theorem q2167 : (Jvm.Cond.code ({ cls := "SwollenHouseModel", name := "from", desc := "(II)I" } : Jvm.MethodName) prog_25_method_105_code (6 : Nat) (Option.some Jvm.ClassFile.FieldType.int)) ∈ lw_all := lw_g (lw_at lw_m9 121 rfl) rfl
theorem q2169 : (Jvm.Cond.instanceMethod ({ cls := "SwollenHouseModel", name := "both", desc := "(II)I" } : Jvm.MethodName)) ∈ lw_all := lw_g (lw_at lw_m9 123 rfl) rfl
theorem q2170 : (Jvm.Cond.selects "SwollenHouseModel" ({ cls := "SwollenHouseModel", name := "both", desc := "(II)I" } : Jvm.MethodName) ({ cls := "SwollenHouseModel", name := "both", desc := "(II)I" } : Jvm.MethodName)) ∈ lw_all := lw_g (lw_at lw_m9 124 rfl) rfl
theorem q2171 : (Jvm.Cond.code ({ cls := "SwollenHouseModel", name := "both", desc := "(II)I" } : Jvm.MethodName) prog_25_method_106_code (6 : Nat) (Option.some Jvm.ClassFile.FieldType.int)) ∈ lw_all := lw_g (lw_at lw_m9 125 rfl) rfl
theorem q2173 : (Jvm.Cond.instanceMethod ({ cls := "SwollenHouseModel", name := "planed", desc := "(II)I" } : Jvm.MethodName)) ∈ lw_all := lw_g (lw_at lw_m9 127 rfl) rfl
theorem q2174 : (Jvm.Cond.selects "SwollenHouseModel" ({ cls := "SwollenHouseModel", name := "planed", desc := "(II)I" } : Jvm.MethodName) ({ cls := "SwollenHouseModel", name := "planed", desc := "(II)I" } : Jvm.MethodName)) ∈ lw_all := lw_g (lw_at lw_m9 128 rfl) rfl
theorem q2175 : (Jvm.Cond.code ({ cls := "SwollenHouseModel", name := "planed", desc := "(II)I" } : Jvm.MethodName) prog_25_method_109_code (4 : Nat) (Option.some Jvm.ClassFile.FieldType.int)) ∈ lw_all := lw_g (lw_at lw_m9 129 rfl) rfl
theorem q2176 : (Jvm.Cond.methodLink "SwollenHouseModel" (388 : Nat) ({ cls := "SwollenHouseModel", name := "doesPlane", desc := "(IIII)Z" } : Jvm.MethodName)) ∈ lw_all := lw_g (lw_at lw_m9 130 rfl) rfl
theorem q2177 : (Jvm.Cond.privateMethod ({ cls := "SwollenHouseModel", name := "doesPlane", desc := "(IIII)Z" } : Jvm.MethodName)) ∈ lw_tbl := lw_at lw_m9 131 rfl
theorem q2178 : (Jvm.Cond.instanceMethod ({ cls := "SwollenHouseModel", name := "doesPlane", desc := "(IIII)Z" } : Jvm.MethodName)) ∈ lw_all := lw_g (lw_at lw_m9 132 rfl) rfl
theorem q2179 : (Jvm.Cond.code ({ cls := "SwollenHouseModel", name := "doesPlane", desc := "(IIII)Z" } : Jvm.MethodName) prog_25_method_108_code (7 : Nat) (Option.some Jvm.ClassFile.FieldType.boolean)) ∈ lw_all := lw_g (lw_at lw_m9 133 rfl) rfl
theorem q2180 : (Jvm.Cond.methodLink "SwollenHouseModel" (385 : Nat) ({ cls := "SwollenHouseModel", name := "areOne", desc := "(I)Z" } : Jvm.MethodName)) ∈ lw_all := lw_g (lw_at lw_m9 134 rfl) rfl
theorem q2181 : (Jvm.Cond.privateMethod ({ cls := "SwollenHouseModel", name := "areOne", desc := "(I)Z" } : Jvm.MethodName)) ∈ lw_tbl := lw_at lw_m9 135 rfl
theorem q2182 : (Jvm.Cond.instanceMethod ({ cls := "SwollenHouseModel", name := "areOne", desc := "(I)Z" } : Jvm.MethodName)) ∈ lw_all := lw_g (lw_at lw_m9 136 rfl) rfl
theorem q2183 : (Jvm.Cond.code ({ cls := "SwollenHouseModel", name := "areOne", desc := "(I)Z" } : Jvm.MethodName) prog_25_method_107_code (4 : Nat) (Option.some Jvm.ClassFile.FieldType.boolean)) ∈ lw_all := lw_g (lw_at lw_m9 137 rfl) rfl
theorem q2185 : (Jvm.Cond.instanceMethod ({ cls := "SwollenHouseModel", name := "feel", desc := "(IIZ)Z" } : Jvm.MethodName)) ∈ lw_all := lw_g (lw_at lw_m9 139 rfl) rfl
theorem q2186 : (Jvm.Cond.selects "SwollenHouseModel" ({ cls := "SwollenHouseModel", name := "feel", desc := "(IIZ)Z" } : Jvm.MethodName) ({ cls := "SwollenHouseModel", name := "feel", desc := "(IIZ)Z" } : Jvm.MethodName)) ∈ lw_all := lw_g (lw_at lw_m9 140 rfl) rfl
theorem q2187 : (Jvm.Cond.code ({ cls := "SwollenHouseModel", name := "feel", desc := "(IIZ)Z" } : Jvm.MethodName) prog_25_method_110_code (5 : Nat) (Option.some Jvm.ClassFile.FieldType.boolean)) ∈ lw_all := lw_g (lw_at lw_m9 141 rfl) rfl
theorem q2189 : (Jvm.Cond.instanceMethod ({ cls := "SwollenHouseModel", name := "wets", desc := "()I" } : Jvm.MethodName)) ∈ lw_all := lw_g (lw_at lw_m9 143 rfl) rfl
theorem q2190 : (Jvm.Cond.selects "SwollenHouseModel" ({ cls := "SwollenHouseModel", name := "wets", desc := "()I" } : Jvm.MethodName) ({ cls := "SwollenHouseModel", name := "wets", desc := "()I" } : Jvm.MethodName)) ∈ lw_all := lw_g (lw_at lw_m9 144 rfl) rfl
theorem q2191 : (Jvm.Cond.code ({ cls := "SwollenHouseModel", name := "wets", desc := "()I" } : Jvm.MethodName) prog_25_method_112_code (1 : Nat) (Option.some Jvm.ClassFile.FieldType.int)) ∈ lw_all := lw_g (lw_at lw_m9 145 rfl) rfl
theorem q2192 : (Jvm.Cond.methodLink "SwollenHouseModel" (392 : Nat) ({ cls := "SwollenHouseModel", name := "wetsNow", desc := "()I" } : Jvm.MethodName)) ∈ lw_all := lw_g (lw_at lw_m9 146 rfl) rfl
theorem q2193 : (Jvm.Cond.privateMethod ({ cls := "SwollenHouseModel", name := "wetsNow", desc := "()I" } : Jvm.MethodName)) ∈ lw_tbl := lw_at lw_m9 147 rfl
theorem q2194 : (Jvm.Cond.instanceMethod ({ cls := "SwollenHouseModel", name := "wetsNow", desc := "()I" } : Jvm.MethodName)) ∈ lw_all := lw_g (lw_at lw_m9 148 rfl) rfl
theorem q2195 : (Jvm.Cond.code ({ cls := "SwollenHouseModel", name := "wetsNow", desc := "()I" } : Jvm.MethodName) prog_25_method_111_code (6 : Nat) (Option.some Jvm.ClassFile.FieldType.int)) ∈ lw_all := lw_g (lw_at lw_m9 149 rfl) rfl
theorem q2197 : (Jvm.Cond.instanceMethod ({ cls := "SwollenHouseModel", name := "tries", desc := "()I" } : Jvm.MethodName)) ∈ lw_all := lw_g (lw_at lw_m9 151 rfl) rfl
theorem q2198 : (Jvm.Cond.selects "SwollenHouseModel" ({ cls := "SwollenHouseModel", name := "tries", desc := "()I" } : Jvm.MethodName) ({ cls := "SwollenHouseModel", name := "tries", desc := "()I" } : Jvm.MethodName)) ∈ lw_all := lw_g (lw_at lw_m9 152 rfl) rfl
theorem q2199 : (Jvm.Cond.code ({ cls := "SwollenHouseModel", name := "tries", desc := "()I" } : Jvm.MethodName) prog_25_method_113_code (9 : Nat) (Option.some Jvm.ClassFile.FieldType.int)) ∈ lw_all := lw_g (lw_at lw_m9 153 rfl) rfl
theorem q2201 : (Jvm.Cond.instanceMethod ({ cls := "SwollenHouseModel", name := "say", desc := "(II)Z" } : Jvm.MethodName)) ∈ lw_all := lw_g (lw_at lw_m9 155 rfl) rfl
theorem q2202 : (Jvm.Cond.selects "SwollenHouseModel" ({ cls := "SwollenHouseModel", name := "say", desc := "(II)Z" } : Jvm.MethodName) ({ cls := "SwollenHouseModel", name := "say", desc := "(II)Z" } : Jvm.MethodName)) ∈ lw_all := lw_g (lw_at lw_m9 156 rfl) rfl
theorem q2203 : (Jvm.Cond.code ({ cls := "SwollenHouseModel", name := "say", desc := "(II)Z" } : Jvm.MethodName) prog_25_method_114_code (4 : Nat) (Option.some Jvm.ClassFile.FieldType.boolean)) ∈ lw_all := lw_g (lw_at lw_m9 157 rfl) rfl
theorem q2205 : (Jvm.Cond.instanceMethod ({ cls := "SwollenHouseModel", name := "who", desc := "()I" } : Jvm.MethodName)) ∈ lw_all := lw_g (lw_at lw_m9 159 rfl) rfl
theorem q2206 : (Jvm.Cond.selects "SwollenHouseModel" ({ cls := "SwollenHouseModel", name := "who", desc := "()I" } : Jvm.MethodName) ({ cls := "SwollenHouseModel", name := "who", desc := "()I" } : Jvm.MethodName)) ∈ lw_all := lw_g (lw_at lw_m9 160 rfl) rfl
theorem q2207 : (Jvm.Cond.code ({ cls := "SwollenHouseModel", name := "who", desc := "()I" } : Jvm.MethodName) prog_25_method_115_code (6 : Nat) (Option.some Jvm.ClassFile.FieldType.int)) ∈ lw_all := lw_g (lw_at lw_m9 161 rfl) rfl
theorem q2209 : (Jvm.Cond.instanceMethod ({ cls := "SwollenHouseModel", name := "chance", desc := "(III)I" } : Jvm.MethodName)) ∈ lw_all := lw_g (lw_at lw_m9 163 rfl) rfl
theorem q2210 : (Jvm.Cond.selects "SwollenHouseModel" ({ cls := "SwollenHouseModel", name := "chance", desc := "(III)I" } : Jvm.MethodName) ({ cls := "SwollenHouseModel", name := "chance", desc := "(III)I" } : Jvm.MethodName)) ∈ lw_all := lw_g (lw_at lw_m9 164 rfl) rfl
theorem q2211 : (Jvm.Cond.code ({ cls := "SwollenHouseModel", name := "chance", desc := "(III)I" } : Jvm.MethodName) prog_25_method_116_code (13 : Nat) (Option.some Jvm.ClassFile.FieldType.int)) ∈ lw_all := lw_g (lw_at lw_m9 165 rfl) rfl
theorem q2212 : (Jvm.Cond.constantLong "SwollenHouseModel" (395 : Nat) (1000000 : Int64)) ∈ lw_all := lw_g (lw_at lw_m9 166 rfl) rfl
theorem q2214 : (Jvm.Cond.instanceMethod ({ cls := "SwollenHouseModel", name := "rests", desc := "(IIII)I" } : Jvm.MethodName)) ∈ lw_all := lw_g (lw_at lw_m9 168 rfl) rfl
theorem q2215 : (Jvm.Cond.selects "SwollenHouseModel" ({ cls := "SwollenHouseModel", name := "rests", desc := "(IIII)I" } : Jvm.MethodName) ({ cls := "SwollenHouseModel", name := "rests", desc := "(IIII)I" } : Jvm.MethodName)) ∈ lw_all := lw_g (lw_at lw_m9 169 rfl) rfl
theorem q2216 : (Jvm.Cond.code ({ cls := "SwollenHouseModel", name := "rests", desc := "(IIII)I" } : Jvm.MethodName) prog_25_method_118_code (12 : Nat) (Option.some Jvm.ClassFile.FieldType.int)) ∈ lw_all := lw_g (lw_at lw_m9 170 rfl) rfl
theorem q2217 : (Jvm.Cond.methodLink "SwollenHouseModel" (397 : Nat) ({ cls := "SwollenHouseModel", name := "getsBy", desc := "(IIIII)I" } : Jvm.MethodName)) ∈ lw_all := lw_g (lw_at lw_m9 171 rfl) rfl
theorem q2218 : (Jvm.Cond.static ({ cls := "SwollenHouseModel", name := "getsBy", desc := "(IIIII)I" } : Jvm.MethodName)) ∈ lw_all := lw_g (lw_at lw_m9 172 rfl) rfl
theorem q2219 : (Jvm.Cond.code ({ cls := "SwollenHouseModel", name := "getsBy", desc := "(IIIII)I" } : Jvm.MethodName) prog_25_method_117_code (5 : Nat) (Option.some Jvm.ClassFile.FieldType.int)) ∈ lw_all := lw_g (lw_at lw_m9 173 rfl) rfl
theorem q2221 : (Jvm.Cond.instanceMethod ({ cls := "SwollenHouseModel", name := "years", desc := "(III)I" } : Jvm.MethodName)) ∈ lw_all := lw_g (lw_at lw_m9 175 rfl) rfl
theorem q2222 : (Jvm.Cond.selects "SwollenHouseModel" ({ cls := "SwollenHouseModel", name := "years", desc := "(III)I" } : Jvm.MethodName) ({ cls := "SwollenHouseModel", name := "years", desc := "(III)I" } : Jvm.MethodName)) ∈ lw_all := lw_g (lw_at lw_m9 176 rfl) rfl
theorem q2223 : (Jvm.Cond.code ({ cls := "SwollenHouseModel", name := "years", desc := "(III)I" } : Jvm.MethodName) prog_25_method_121_code (6 : Nat) (Option.some Jvm.ClassFile.FieldType.int)) ∈ lw_all := lw_g (lw_at lw_m9 177 rfl) rfl
theorem q2224 : (Jvm.Cond.methodLink "SwollenHouseModel" (416 : Nat) ({ cls := "SwollenHouseModel", name := "drawsDeed", desc := "()Z" } : Jvm.MethodName)) ∈ lw_all := lw_g (lw_at lw_m9 178 rfl) rfl
theorem q2225 : (Jvm.Cond.privateMethod ({ cls := "SwollenHouseModel", name := "drawsDeed", desc := "()Z" } : Jvm.MethodName)) ∈ lw_tbl := lw_at lw_m9 179 rfl
theorem q2226 : (Jvm.Cond.instanceMethod ({ cls := "SwollenHouseModel", name := "drawsDeed", desc := "()Z" } : Jvm.MethodName)) ∈ lw_all := lw_g (lw_at lw_m9 180 rfl) rfl
theorem q2227 : (Jvm.Cond.code ({ cls := "SwollenHouseModel", name := "drawsDeed", desc := "()Z" } : Jvm.MethodName) prog_25_method_120_code (4 : Nat) (Option.some Jvm.ClassFile.FieldType.boolean)) ∈ lw_all := lw_g (lw_at lw_m9 181 rfl) rfl
theorem q2228 : (Jvm.Cond.methodLink "SwollenHouseModel" (413 : Nat) ({ cls := "SwollenHouseModel", name := "draw", desc := "(I)I" } : Jvm.MethodName)) ∈ lw_all := lw_g (lw_at lw_m9 182 rfl) rfl
theorem q2229 : (Jvm.Cond.privateMethod ({ cls := "SwollenHouseModel", name := "draw", desc := "(I)I" } : Jvm.MethodName)) ∈ lw_tbl := lw_at lw_m9 183 rfl
theorem q2230 : (Jvm.Cond.instanceMethod ({ cls := "SwollenHouseModel", name := "draw", desc := "(I)I" } : Jvm.MethodName)) ∈ lw_all := lw_g (lw_at lw_m9 184 rfl) rfl
theorem q2231 : (Jvm.Cond.code ({ cls := "SwollenHouseModel", name := "draw", desc := "(I)I" } : Jvm.MethodName) prog_25_method_119_code (2 : Nat) (Option.some Jvm.ClassFile.FieldType.int)) ∈ lw_all := lw_g (lw_at lw_m9 185 rfl) rfl
theorem q2232 : (Jvm.Cond.constantLong "SwollenHouseModel" (405 : Nat) (1103515245 : Int64)) ∈ lw_all := lw_g (lw_at lw_m9 186 rfl) rfl
theorem q2233 : (Jvm.Cond.constantLong "SwollenHouseModel" (407 : Nat) (12345 : Int64)) ∈ lw_all := lw_g (lw_at lw_m9 187 rfl) rfl
theorem q2234 : (Jvm.Cond.constantLong "SwollenHouseModel" (409 : Nat) (2147483648 : Int64)) ∈ lw_all := lw_g (lw_at lw_m9 188 rfl) rfl
theorem q2235 : (Jvm.Cond.constantLong "SwollenHouseModel" (411 : Nat) (65536 : Int64)) ∈ lw_all := lw_g (lw_at lw_m9 189 rfl) rfl
theorem q2236 : (Jvm.Cond.methodLink "SwollenHouseModel" (419 : Nat) ({ cls := "SwollenHouseModel", name := "sumOf", desc := "(II)I" } : Jvm.MethodName)) ∈ lw_all := lw_g (lw_at lw_m9 190 rfl) rfl
theorem q2237 : (Jvm.Cond.privateMethod ({ cls := "SwollenHouseModel", name := "sumOf", desc := "(II)I" } : Jvm.MethodName)) ∈ lw_tbl := lw_at lw_m9 191 rfl
theorem q2238 : (Jvm.Cond.instanceMethod ({ cls := "SwollenHouseModel", name := "sumOf", desc := "(II)I" } : Jvm.MethodName)) ∈ lw_all := lw_g (lw_at lw_m9 192 rfl) rfl
theorem q2239 : (Jvm.Cond.code ({ cls := "SwollenHouseModel", name := "sumOf", desc := "(II)I" } : Jvm.MethodName) prog_25_method_66_code (5 : Nat) (Option.some Jvm.ClassFile.FieldType.int)) ∈ lw_all := lw_g (lw_at lw_m9 193 rfl) rfl
theorem q2241 : (Jvm.Cond.instanceMethod ({ cls := "SwollenHouseModel", name := "mark", desc := "(IZ)Z" } : Jvm.MethodName)) ∈ lw_all := lw_g (lw_at lw_m9 195 rfl) rfl
theorem q2242 : (Jvm.Cond.selects "SwollenHouseModel" ({ cls := "SwollenHouseModel", name := "mark", desc := "(IZ)Z" } : Jvm.MethodName) ({ cls := "SwollenHouseModel", name := "mark", desc := "(IZ)Z" } : Jvm.MethodName)) ∈ lw_all := lw_g (lw_at lw_m9 196 rfl) rfl
theorem q2243 : (Jvm.Cond.code ({ cls := "SwollenHouseModel", name := "mark", desc := "(IZ)Z" } : Jvm.MethodName) prog_25_method_122_code (3 : Nat) (Option.some Jvm.ClassFile.FieldType.boolean)) ∈ lw_all := lw_g (lw_at lw_m9 197 rfl) rfl
theorem q2245 : (Jvm.Cond.instanceMethod ({ cls := "SwollenHouseModel", name := "count", desc := "(I)I" } : Jvm.MethodName)) ∈ lw_all := lw_g (lw_at lw_m9 199 rfl) rfl
theorem q2246 : (Jvm.Cond.selects "SwollenHouseModel" ({ cls := "SwollenHouseModel", name := "count", desc := "(I)I" } : Jvm.MethodName) ({ cls := "SwollenHouseModel", name := "count", desc := "(I)I" } : Jvm.MethodName)) ∈ lw_all := lw_g (lw_at lw_m9 200 rfl) rfl
theorem q2247 : (Jvm.Cond.code ({ cls := "SwollenHouseModel", name := "count", desc := "(I)I" } : Jvm.MethodName) prog_25_method_123_code (2 : Nat) (Option.some Jvm.ClassFile.FieldType.int)) ∈ lw_all := lw_g (lw_at lw_m9 201 rfl) rfl
theorem q2266 : (Jvm.Cond.castable "SwollenHouseModel" "java/lang/Object") ∈ lw_tbl := lw_at lw_m9 220 rfl
theorem in_X5 : ∀ w ∈ wsX50, w ∈ lw_all := lw_in wsX50 [1730, 1732, 1734, 1736, 1738, 1740, 1742, 1744, 1746, 1748, 1750, 1752, 1754, 1756, 1758, 1760, 1762, 1764, 1766, 1768, 1770, 1772, 1774, 1776, 1778, 1780, 1782, 1784, 1786, 1788, 1790, 1792] (by decide +kernel) (by decide +kernel)

def RX6 : String := "SwollenHouse$Wrong"
def TX6 : u_T := fun k => match k with
  | 0 => ("java/lang/Throwable", "cause", "Ljava/lang/Throwable;", false)
  | 1 => ("java/lang/Throwable", "stackTrace", "[Ljava/lang/StackTraceElement;", false)
  | 2 => ("java/lang/Throwable", "suppressedExceptions", "Ljava/util/List;", false)
  | 3 => ("java/lang/Throwable", "detailMessage", "Ljava/lang/String;", false)
  | 4 => ("java/lang/Throwable", "backtrace", "Ljava/lang/Object;", false)
  | 5 => ("java/lang/Throwable", "depth", "I", false)
  | _ => ("SwollenHouse$Wrong", "fault", "I", true)
def tyX6 : Nat → FieldType := fun k => match k with
  | 0 => .object "java/lang/Throwable"
  | 1 => .array (.object "java/lang/StackTraceElement")
  | 2 => .object "java/util/List"
  | 3 => .object "java/lang/String"
  | 4 => .object "java/lang/Object"
  | 5 => .int
  | _ => .int
abbrev wsX60 : List Cond := u_ws RX6 TX6 7
theorem nmX6 : ∀ a, a < 7 → ∀ b, b < 7 → a ≠ b → (TX6 a).2.1 ≠ (TX6 b).2.1 := by decide +kernel
theorem tyX6_ok : ∀ k, k < 7 → parseFieldDescriptor (TX6 k).2.2.1 = some (tyX6 k) := by decide +kernel
abbrev bcX6_init : ByteArray := prog_23_method_1_code
def yX6_init : MethodName := ⟨RX6, "<init>", "(II)V"⟩
theorem q145 : (Jvm.Cond.initialized "SwollenHouse$Wrong") ∈ lw_all := lw_g (lw_at lw_m1 19 rfl) rfl
theorem q568 : (Jvm.Cond.instantiable "SwollenHouse$Wrong" (7 : Nat)) ∈ lw_all := lw_g (lw_at lw_m2 202 rfl) rfl
theorem q569 : (Jvm.Cond.castable "SwollenHouse$Wrong" "SwollenHouse$Wrong") ∈ lw_tbl := lw_at lw_m2 203 rfl
theorem q576 : (Jvm.Cond.selects "SwollenHouse$Wrong" ({ cls := "java/lang/Throwable", name := "fillInStackTrace", desc := "(I)Ljava/lang/Throwable;" } : Jvm.MethodName) ({ cls := "java/lang/Throwable", name := "fillInStackTrace", desc := "(I)Ljava/lang/Throwable;" } : Jvm.MethodName)) ∈ lw_all := lw_g (lw_at lw_m2 210 rfl) rfl
theorem q577 : (Jvm.Cond.selects "SwollenHouse$Wrong" ({ cls := "java/lang/Throwable", name := "fillInStackTrace", desc := "()Ljava/lang/Throwable;" } : Jvm.MethodName) ({ cls := "java/lang/Throwable", name := "fillInStackTrace", desc := "()Ljava/lang/Throwable;" } : Jvm.MethodName)) ∈ lw_all := lw_g (lw_at lw_m2 211 rfl) rfl
theorem q578 : (Jvm.Cond.lays "SwollenHouse$Wrong" "java/lang/Throwable" "cause" "Ljava/lang/Throwable;") ∈ lw_all := lw_g (lw_at lw_m2 212 rfl) rfl
theorem q580 : (Jvm.Cond.lays "SwollenHouse$Wrong" "java/lang/Throwable" "stackTrace" "[Ljava/lang/StackTraceElement;") ∈ lw_all := lw_g (lw_at lw_m2 214 rfl) rfl
theorem q582 : (Jvm.Cond.lays "SwollenHouse$Wrong" "java/lang/Throwable" "suppressedExceptions" "Ljava/util/List;") ∈ lw_all := lw_g (lw_at lw_m2 216 rfl) rfl
theorem q584 : (Jvm.Cond.lays "SwollenHouse$Wrong" "java/lang/Throwable" "detailMessage" "Ljava/lang/String;") ∈ lw_all := lw_g (lw_at lw_m2 218 rfl) rfl
theorem q586 : (Jvm.Cond.lays "SwollenHouse$Wrong" "java/lang/Throwable" "backtrace" "Ljava/lang/Object;") ∈ lw_all := lw_g (lw_at lw_m2 220 rfl) rfl
theorem q608 : (Jvm.Cond.instanceMethod ({ cls := "SwollenHouse$Wrong", name := "<init>", desc := "(II)V" } : Jvm.MethodName)) ∈ lw_all := lw_g (lw_at lw_m3 2 rfl) rfl
theorem q609 : (Jvm.Cond.code ({ cls := "SwollenHouse$Wrong", name := "<init>", desc := "(II)V" } : Jvm.MethodName) prog_23_method_1_code (3 : Nat) (Option.none : Option Jvm.ClassFile.FieldType)) ∈ lw_all := lw_g (lw_at lw_m3 3 rfl) rfl
theorem q610 : (Jvm.Cond.methodLink "SwollenHouse$Wrong" (1 : Nat) ({ cls := "java/lang/RuntimeException", name := "<init>", desc := "(Ljava/lang/String;Ljava/lang/Throwable;ZZ)V" } : Jvm.MethodName)) ∈ lw_all := lw_g (lw_at lw_m3 4 rfl) rfl
theorem q619 : (Jvm.Cond.fieldLink "SwollenHouse$Wrong" (7 : Nat) "SwollenHouse$Wrong" "fault" "I") ∈ lw_all := lw_g (lw_at lw_m3 13 rfl) rfl
theorem q626 : (Jvm.Cond.laysFinal "SwollenHouse$Wrong" "SwollenHouse$Wrong" "fault" "I") ∈ lw_all := lw_g (lw_at lw_m3 20 rfl) rfl
theorem q627 : (Jvm.Cond.soleField "SwollenHouse$Wrong" "fault") ∈ lw_all := lw_g (lw_at lw_m3 21 rfl) rfl
theorem q632 : (Jvm.Cond.lays "SwollenHouse$Wrong" "java/lang/Throwable" "depth" "I") ∈ lw_all := lw_g (lw_at lw_m3 26 rfl) rfl
theorem q635 : (Jvm.Cond.superclass "SwollenHouse$Wrong" "java/lang/RuntimeException") ∈ lw_all := lw_g (lw_at lw_m3 29 rfl) rfl
theorem q870 : (Jvm.Cond.selects "SwollenHouse$Wrong" ({ cls := "java/lang/Object", name := "getClass", desc := "()Ljava/lang/Class;" } : Jvm.MethodName) ({ cls := "java/lang/Object", name := "getClass", desc := "()Ljava/lang/Class;" } : Jvm.MethodName)) ∈ lw_all := lw_g (lw_at lw_m4 24 rfl) rfl
theorem q2267 : (Jvm.Cond.castable "SwollenHouse$Wrong" "java/lang/Object") ∈ lw_tbl := lw_at lw_m9 221 rfl
theorem in_X6 : ∀ w ∈ wsX60, w ∈ lw_all := lw_in wsX60 [578, 580, 582, 584, 586, 632, 626] (by decide +kernel) (by decide +kernel)

def RX7 : String := "SwollenHouse$Door"
def TX7 : u_T := fun k => match k with
  | 0 => ("SwollenHouse$Door", "one", "I", true)
  | 1 => ("SwollenHouse$Door", "other", "I", true)
  | 2 => ("SwollenHouse$Door", "wood", "LSwollenHouse$Wood;", false)
  | _ => ("SwollenHouse$Door", "gap", "I", false)
def tyX7 : Nat → FieldType := fun k => match k with
  | 0 => .int
  | 1 => .int
  | 2 => .object "SwollenHouse$Wood"
  | _ => .int
abbrev wsX70 : List Cond := u_ws RX7 TX7 4
theorem nmX7 : ∀ a, a < 4 → ∀ b, b < 4 → a ≠ b → (TX7 a).2.1 ≠ (TX7 b).2.1 := by decide +kernel
theorem tyX7_ok : ∀ k, k < 4 → parseFieldDescriptor (TX7 k).2.2.1 = some (tyX7 k) := by decide +kernel
abbrev bcX7_isOf : ByteArray := prog_2_method_2_code
def yX7_isOf : MethodName := ⟨RX7, "isOf", "(I)Z"⟩
abbrev bcX7_init : ByteArray := prog_2_method_1_code
def yX7_init : MethodName := ⟨RX7, "<init>", "(II)V"⟩
abbrev bcX7_beyond : ByteArray := prog_2_method_3_code
def yX7_beyond : MethodName := ⟨RX7, "beyond", "(I)I"⟩
theorem q151 : (Jvm.Cond.initialized "SwollenHouse$Door") ∈ lw_all := lw_g (lw_at lw_m1 25 rfl) rfl
theorem q852 : (Jvm.Cond.selects "SwollenHouse$Door" ({ cls := "java/lang/Object", name := "getClass", desc := "()Ljava/lang/Class;" } : Jvm.MethodName) ({ cls := "java/lang/Object", name := "getClass", desc := "()Ljava/lang/Class;" } : Jvm.MethodName)) ∈ lw_all := lw_g (lw_at lw_m4 6 rfl) rfl
theorem q901 : (Jvm.Cond.instanceMethod ({ cls := "SwollenHouse$Door", name := "isOf", desc := "(I)Z" } : Jvm.MethodName)) ∈ lw_all := lw_g (lw_at lw_m4 55 rfl) rfl
theorem q902 : (Jvm.Cond.selects "SwollenHouse$Door" ({ cls := "SwollenHouse$Door", name := "isOf", desc := "(I)Z" } : Jvm.MethodName) ({ cls := "SwollenHouse$Door", name := "isOf", desc := "(I)Z" } : Jvm.MethodName)) ∈ lw_all := lw_g (lw_at lw_m4 56 rfl) rfl
theorem q903 : (Jvm.Cond.code ({ cls := "SwollenHouse$Door", name := "isOf", desc := "(I)Z" } : Jvm.MethodName) prog_2_method_2_code (2 : Nat) (Option.some Jvm.ClassFile.FieldType.boolean)) ∈ lw_all := lw_g (lw_at lw_m4 57 rfl) rfl
theorem q905 : (Jvm.Cond.instantiable "SwollenHouse$Door" (4 : Nat)) ∈ lw_all := lw_g (lw_at lw_m4 59 rfl) rfl
theorem q907 : (Jvm.Cond.instanceMethod ({ cls := "SwollenHouse$Door", name := "<init>", desc := "(II)V" } : Jvm.MethodName)) ∈ lw_all := lw_g (lw_at lw_m4 61 rfl) rfl
theorem q908 : (Jvm.Cond.code ({ cls := "SwollenHouse$Door", name := "<init>", desc := "(II)V" } : Jvm.MethodName) prog_2_method_1_code (3 : Nat) (Option.none : Option Jvm.ClassFile.FieldType)) ∈ lw_all := lw_g (lw_at lw_m4 62 rfl) rfl
theorem q909 : (Jvm.Cond.methodLink "SwollenHouse$Door" (1 : Nat) ({ cls := "java/lang/Object", name := "<init>", desc := "()V" } : Jvm.MethodName)) ∈ lw_all := lw_g (lw_at lw_m4 63 rfl) rfl
theorem q910 : (Jvm.Cond.fieldLink "SwollenHouse$Door" (7 : Nat) "SwollenHouse$Door" "one" "I") ∈ lw_all := lw_g (lw_at lw_m4 64 rfl) rfl
theorem q912 : (Jvm.Cond.fieldLink "SwollenHouse$Door" (13 : Nat) "SwollenHouse$Door" "other" "I") ∈ lw_all := lw_g (lw_at lw_m4 66 rfl) rfl
theorem q918 : (Jvm.Cond.laysFinal "SwollenHouse$Door" "SwollenHouse$Door" "one" "I") ∈ lw_all := lw_g (lw_at lw_m4 72 rfl) rfl
theorem q919 : (Jvm.Cond.soleField "SwollenHouse$Door" "one") ∈ lw_all := lw_g (lw_at lw_m4 73 rfl) rfl
theorem q920 : (Jvm.Cond.laysFinal "SwollenHouse$Door" "SwollenHouse$Door" "other" "I") ∈ lw_all := lw_g (lw_at lw_m4 74 rfl) rfl
theorem q921 : (Jvm.Cond.soleField "SwollenHouse$Door" "other") ∈ lw_all := lw_g (lw_at lw_m4 75 rfl) rfl
theorem q922 : (Jvm.Cond.lays "SwollenHouse$Door" "SwollenHouse$Door" "wood" "LSwollenHouse$Wood;") ∈ lw_all := lw_g (lw_at lw_m4 76 rfl) rfl
theorem q923 : (Jvm.Cond.soleField "SwollenHouse$Door" "wood") ∈ lw_all := lw_g (lw_at lw_m4 77 rfl) rfl
theorem q924 : (Jvm.Cond.lays "SwollenHouse$Door" "SwollenHouse$Door" "gap" "I") ∈ lw_all := lw_g (lw_at lw_m4 78 rfl) rfl
theorem q925 : (Jvm.Cond.soleField "SwollenHouse$Door" "gap") ∈ lw_all := lw_g (lw_at lw_m4 79 rfl) rfl
theorem q926 : (Jvm.Cond.superclass "SwollenHouse$Door" "java/lang/Object") ∈ lw_all := lw_g (lw_at lw_m4 80 rfl) rfl
theorem q1295 : (Jvm.Cond.instanceMethod ({ cls := "SwollenHouse$Door", name := "beyond", desc := "(I)I" } : Jvm.MethodName)) ∈ lw_all := lw_g (lw_at lw_m5 209 rfl) rfl
theorem q1296 : (Jvm.Cond.selects "SwollenHouse$Door" ({ cls := "SwollenHouse$Door", name := "beyond", desc := "(I)I" } : Jvm.MethodName) ({ cls := "SwollenHouse$Door", name := "beyond", desc := "(I)I" } : Jvm.MethodName)) ∈ lw_all := lw_g (lw_at lw_m5 210 rfl) rfl
theorem q1297 : (Jvm.Cond.code ({ cls := "SwollenHouse$Door", name := "beyond", desc := "(I)I" } : Jvm.MethodName) prog_2_method_3_code (2 : Nat) (Option.some Jvm.ClassFile.FieldType.int)) ∈ lw_all := lw_g (lw_at lw_m5 211 rfl) rfl
theorem q2270 : (Jvm.Cond.castable "SwollenHouse$Door" "java/lang/Object") ∈ lw_tbl := lw_at lw_m9 224 rfl
theorem in_X7 : ∀ w ∈ wsX70, w ∈ lw_all := lw_in wsX70 [918, 920, 922, 924] (by decide +kernel) (by decide +kernel)

def RX8 : String := "SwollenHouse$Wood"
abbrev bcX8_init : ByteArray := prog_22_method_1_code
def yX8_init : MethodName := ⟨RX8, "<init>", "()V"⟩
theorem q152 : (Jvm.Cond.initialized "SwollenHouse$Wood") ∈ lw_all := lw_g (lw_at lw_m1 26 rfl) rfl
theorem q938 : (Jvm.Cond.instanceMethod ({ cls := "SwollenHouse$Wood", name := "<init>", desc := "()V" } : Jvm.MethodName)) ∈ lw_all := lw_g (lw_at lw_m4 92 rfl) rfl
theorem q939 : (Jvm.Cond.code ({ cls := "SwollenHouse$Wood", name := "<init>", desc := "()V" } : Jvm.MethodName) prog_22_method_1_code (1 : Nat) (Option.none : Option Jvm.ClassFile.FieldType)) ∈ lw_all := lw_g (lw_at lw_m4 93 rfl) rfl
theorem q940 : (Jvm.Cond.methodLink "SwollenHouse$Wood" (1 : Nat) ({ cls := "java/lang/Object", name := "<init>", desc := "()V" } : Jvm.MethodName)) ∈ lw_all := lw_g (lw_at lw_m4 94 rfl) rfl
theorem q1153 : (Jvm.Cond.declares ({ cls := "SwollenHouse$Wood", name := "kind", desc := "()I" } : Jvm.MethodName)) ∈ lw_tbl := lw_at lw_m5 67 rfl
theorem q1154 : (Jvm.Cond.sameMethod "SwollenHouse$Wood" "SwollenHouse$Wood" "kind" "()I") ∈ lw_all := lw_g (lw_at lw_m5 68 rfl) rfl
theorem q1211 : (Jvm.Cond.declares ({ cls := "SwollenHouse$Wood", name := "upper", desc := "()I" } : Jvm.MethodName)) ∈ lw_tbl := lw_at lw_m5 125 rfl
theorem q1212 : (Jvm.Cond.sameMethod "SwollenHouse$Wood" "SwollenHouse$Wood" "upper" "()I") ∈ lw_all := lw_g (lw_at lw_m5 126 rfl) rfl
theorem q1252 : (Jvm.Cond.declares ({ cls := "SwollenHouse$Wood", name := "lower", desc := "()I" } : Jvm.MethodName)) ∈ lw_tbl := lw_at lw_m5 166 rfl
theorem q1253 : (Jvm.Cond.sameMethod "SwollenHouse$Wood" "SwollenHouse$Wood" "lower" "()I") ∈ lw_all := lw_g (lw_at lw_m5 167 rfl) rfl
theorem q1267 : (Jvm.Cond.declares ({ cls := "SwollenHouse$Wood", name := "shrinks", desc := "()I" } : Jvm.MethodName)) ∈ lw_tbl := lw_at lw_m5 181 rfl
theorem q1268 : (Jvm.Cond.sameMethod "SwollenHouse$Wood" "SwollenHouse$Wood" "shrinks" "()I") ∈ lw_all := lw_g (lw_at lw_m5 182 rfl) rfl

def RX9 : String := "SwollenHouse$Oak"
abbrev bcX9_init : ByteArray := prog_13_method_1_code
def yX9_init : MethodName := ⟨RX9, "<init>", "()V"⟩
abbrev bcX9_kind : ByteArray := prog_13_method_2_code
def yX9_kind : MethodName := ⟨RX9, "kind", "()I"⟩
abbrev bcX9_upper : ByteArray := prog_13_method_3_code
def yX9_upper : MethodName := ⟨RX9, "upper", "()I"⟩
abbrev bcX9_lower : ByteArray := prog_13_method_4_code
def yX9_lower : MethodName := ⟨RX9, "lower", "()I"⟩
abbrev bcX9_shrinks : ByteArray := prog_13_method_5_code
def yX9_shrinks : MethodName := ⟨RX9, "shrinks", "()I"⟩
theorem q153 : (Jvm.Cond.initialized "SwollenHouse$Oak") ∈ lw_all := lw_g (lw_at lw_m1 27 rfl) rfl
theorem q861 : (Jvm.Cond.selects "SwollenHouse$Oak" ({ cls := "java/lang/Object", name := "getClass", desc := "()Ljava/lang/Class;" } : Jvm.MethodName) ({ cls := "java/lang/Object", name := "getClass", desc := "()Ljava/lang/Class;" } : Jvm.MethodName)) ∈ lw_all := lw_g (lw_at lw_m4 15 rfl) rfl
theorem q933 : (Jvm.Cond.instantiable "SwollenHouse$Oak" (0 : Nat)) ∈ lw_all := lw_g (lw_at lw_m4 87 rfl) rfl
theorem q935 : (Jvm.Cond.instanceMethod ({ cls := "SwollenHouse$Oak", name := "<init>", desc := "()V" } : Jvm.MethodName)) ∈ lw_all := lw_g (lw_at lw_m4 89 rfl) rfl
theorem q936 : (Jvm.Cond.code ({ cls := "SwollenHouse$Oak", name := "<init>", desc := "()V" } : Jvm.MethodName) prog_13_method_1_code (1 : Nat) (Option.none : Option Jvm.ClassFile.FieldType)) ∈ lw_all := lw_g (lw_at lw_m4 90 rfl) rfl
theorem q937 : (Jvm.Cond.methodLinkNest "SwollenHouse$Oak" (1 : Nat) ({ cls := "SwollenHouse$Wood", name := "<init>", desc := "()V" } : Jvm.MethodName) "SwollenHouse") ∈ lw_tbl := lw_at lw_m4 91 rfl
theorem q941 : (Jvm.Cond.superclass "SwollenHouse$Oak" "SwollenHouse$Wood") ∈ lw_all := lw_g (lw_at lw_m4 95 rfl) rfl
theorem q1161 : (Jvm.Cond.selects "SwollenHouse$Oak" ({ cls := "SwollenHouse$Wood", name := "kind", desc := "()I" } : Jvm.MethodName) ({ cls := "SwollenHouse$Oak", name := "kind", desc := "()I" } : Jvm.MethodName)) ∈ lw_all := lw_g (lw_at lw_m5 75 rfl) rfl
theorem q1162 : (Jvm.Cond.instanceMethod ({ cls := "SwollenHouse$Oak", name := "kind", desc := "()I" } : Jvm.MethodName)) ∈ lw_all := lw_g (lw_at lw_m5 76 rfl) rfl
theorem q1163 : (Jvm.Cond.code ({ cls := "SwollenHouse$Oak", name := "kind", desc := "()I" } : Jvm.MethodName) prog_13_method_2_code (1 : Nat) (Option.some Jvm.ClassFile.FieldType.int)) ∈ lw_all := lw_g (lw_at lw_m5 77 rfl) rfl
theorem q1219 : (Jvm.Cond.selects "SwollenHouse$Oak" ({ cls := "SwollenHouse$Wood", name := "upper", desc := "()I" } : Jvm.MethodName) ({ cls := "SwollenHouse$Oak", name := "upper", desc := "()I" } : Jvm.MethodName)) ∈ lw_all := lw_g (lw_at lw_m5 133 rfl) rfl
theorem q1220 : (Jvm.Cond.instanceMethod ({ cls := "SwollenHouse$Oak", name := "upper", desc := "()I" } : Jvm.MethodName)) ∈ lw_all := lw_g (lw_at lw_m5 134 rfl) rfl
theorem q1221 : (Jvm.Cond.code ({ cls := "SwollenHouse$Oak", name := "upper", desc := "()I" } : Jvm.MethodName) prog_13_method_3_code (1 : Nat) (Option.some Jvm.ClassFile.FieldType.int)) ∈ lw_all := lw_g (lw_at lw_m5 135 rfl) rfl
theorem q1260 : (Jvm.Cond.selects "SwollenHouse$Oak" ({ cls := "SwollenHouse$Wood", name := "lower", desc := "()I" } : Jvm.MethodName) ({ cls := "SwollenHouse$Oak", name := "lower", desc := "()I" } : Jvm.MethodName)) ∈ lw_all := lw_g (lw_at lw_m5 174 rfl) rfl
theorem q1261 : (Jvm.Cond.instanceMethod ({ cls := "SwollenHouse$Oak", name := "lower", desc := "()I" } : Jvm.MethodName)) ∈ lw_all := lw_g (lw_at lw_m5 175 rfl) rfl
theorem q1262 : (Jvm.Cond.code ({ cls := "SwollenHouse$Oak", name := "lower", desc := "()I" } : Jvm.MethodName) prog_13_method_4_code (1 : Nat) (Option.some Jvm.ClassFile.FieldType.int)) ∈ lw_all := lw_g (lw_at lw_m5 176 rfl) rfl
theorem q1275 : (Jvm.Cond.selects "SwollenHouse$Oak" ({ cls := "SwollenHouse$Wood", name := "shrinks", desc := "()I" } : Jvm.MethodName) ({ cls := "SwollenHouse$Oak", name := "shrinks", desc := "()I" } : Jvm.MethodName)) ∈ lw_all := lw_g (lw_at lw_m5 189 rfl) rfl
theorem q1276 : (Jvm.Cond.instanceMethod ({ cls := "SwollenHouse$Oak", name := "shrinks", desc := "()I" } : Jvm.MethodName)) ∈ lw_all := lw_g (lw_at lw_m5 190 rfl) rfl
theorem q1277 : (Jvm.Cond.code ({ cls := "SwollenHouse$Oak", name := "shrinks", desc := "()I" } : Jvm.MethodName) prog_13_method_5_code (1 : Nat) (Option.some Jvm.ClassFile.FieldType.int)) ∈ lw_all := lw_g (lw_at lw_m5 191 rfl) rfl
theorem q2271 : (Jvm.Cond.castable "SwollenHouse$Oak" "java/lang/Object") ∈ lw_tbl := lw_at lw_m9 225 rfl

theorem q712 : (Jvm.Cond.sameMethod "[B" "java/lang/Object" "clone" "()Ljava/lang/Object;") ∈ lw_all := lw_g (lw_at lw_m3 106 rfl) rfl
theorem q715 : (Jvm.Cond.selects "[B" ({ cls := "[B", name := "clone", desc := "()Ljava/lang/Object;" } : Jvm.MethodName) ({ cls := "java/lang/Object", name := "clone", desc := "()Ljava/lang/Object;" } : Jvm.MethodName)) ∈ lw_all := lw_g (lw_at lw_m3 109 rfl) rfl
theorem q716 : (Jvm.Cond.castable "[B" "java/lang/Cloneable") ∈ lw_tbl := lw_at lw_m3 110 rfl
theorem q2289 : (Jvm.Cond.castable "[B" "java/lang/Object") ∈ lw_tbl := lw_at lw_m10 3 rfl

theorem q2291 : (Jvm.Cond.castable "[I" "java/lang/Object") ∈ lw_tbl := lw_at lw_m10 5 rfl

theorem q2296 : (Jvm.Cond.castable "[J" "java/lang/Object") ∈ lw_tbl := lw_at lw_m10 10 rfl

theorem q2294 : (Jvm.Cond.castable "[LSwollenHouse$Mark;" "java/lang/Object") ∈ lw_tbl := lw_at lw_m10 8 rfl

theorem q2292 : (Jvm.Cond.castable "[LSwollenHouse$State;" "java/lang/Object") ∈ lw_tbl := lw_at lw_m10 6 rfl

theorem q2286 : (Jvm.Cond.sameMethod "[Ljava/lang/Object;" "java/lang/Object" "getClass" "()Ljava/lang/Class;") ∈ lw_all := lw_g (lw_at lw_m10 0 rfl) rfl
theorem q2287 : (Jvm.Cond.selects "[Ljava/lang/Object;" ({ cls := "java/lang/Object", name := "getClass", desc := "()Ljava/lang/Class;" } : Jvm.MethodName) ({ cls := "java/lang/Object", name := "getClass", desc := "()Ljava/lang/Class;" } : Jvm.MethodName)) ∈ lw_all := lw_g (lw_at lw_m10 1 rfl) rfl
theorem q2290 : (Jvm.Cond.castable "[Ljava/lang/Object;" "java/lang/Object") ∈ lw_tbl := lw_at lw_m10 4 rfl

theorem q2295 : (Jvm.Cond.castable "[Z" "java/lang/Object") ∈ lw_tbl := lw_at lw_m10 9 rfl

theorem q2293 : (Jvm.Cond.castable "[[I" "java/lang/Object") ∈ lw_tbl := lw_at lw_m10 7 rfl

theorem q150 : (Jvm.Cond.initialized "java/lang/System") ∈ lw_all := lw_g (lw_at lw_m1 24 rfl) rfl
theorem q720 : (Jvm.Cond.static ({ cls := "java/lang/System", name := "arraycopy", desc := "(Ljava/lang/Object;ILjava/lang/Object;II)V" } : Jvm.MethodName)) ∈ lw_all := lw_g (lw_at lw_m3 114 rfl) rfl
theorem q721 : (Jvm.Cond.native ({ cls := "java/lang/System", name := "arraycopy", desc := "(Ljava/lang/Object;ILjava/lang/Object;II)V" } : Jvm.MethodName)) ∈ lw_all := lw_g (lw_at lw_m3 115 rfl) rfl

theorem q210 : (Jvm.Cond.arrayClass Jvm.ClassFile.FieldType.byte) ∈ lw_all := lw_g (lw_at lw_m1 84 rfl) rfl
theorem q230 : (Jvm.Cond.arrayOver (Jvm.ClassFile.FieldType.object "java/lang/Object")) ∈ lw_tbl := lw_at lw_m1 104 rfl
theorem q279 : (Jvm.Cond.arrayClass Jvm.ClassFile.FieldType.int) ∈ lw_all := lw_g (lw_at lw_m1 153 rfl) rfl
theorem q314 : (Jvm.Cond.arrayOver (Jvm.ClassFile.FieldType.object "SwollenHouse$State")) ∈ lw_tbl := lw_at lw_m1 188 rfl
theorem q316 : (Jvm.Cond.arrayOver (Jvm.ClassFile.FieldType.array Jvm.ClassFile.FieldType.int)) ∈ lw_tbl := lw_at lw_m1 190 rfl
theorem q318 : (Jvm.Cond.arrayOver (Jvm.ClassFile.FieldType.object "SwollenHouse$Mark")) ∈ lw_tbl := lw_at lw_m1 192 rfl
theorem q413 : (Jvm.Cond.arrayClass Jvm.ClassFile.FieldType.boolean) ∈ lw_all := lw_g (lw_at lw_m2 47 rfl) rfl
theorem q1795 : (Jvm.Cond.arrayClass Jvm.ClassFile.FieldType.long) ∈ lw_all := lw_g (lw_at lw_m7 229 rfl) rfl

