set_option maxRecDepth 100000
/-! java/lang/Throwable -/
def RJ0 : String := "java/lang/Throwable"
def TJ0 : u_T := fun k => match k with
  | 0 => ("java/lang/Throwable", "cause", "Ljava/lang/Throwable;", false)
  | 1 => ("java/lang/Throwable", "stackTrace", "[Ljava/lang/StackTraceElement;", false)
  | 2 => ("java/lang/Throwable", "suppressedExceptions", "Ljava/util/List;", false)
  | 3 => ("java/lang/Throwable", "detailMessage", "Ljava/lang/String;", false)
  | _ => ("java/lang/Throwable", "backtrace", "Ljava/lang/Object;", false)
def tyJ0 : Nat → FieldType := fun k => match k with
  | 0 => .object "java/lang/Throwable"
  | 1 => .array (.object "java/lang/StackTraceElement")
  | 2 => .object "java/util/List"
  | 3 => .object "java/lang/String"
  | _ => .object "java/lang/Object"
abbrev wsJ00 : List Cond := u_ws RJ0 TJ0 5
theorem nmJ0 : ∀ a, a < 5 → ∀ b, b < 5 → a ≠ b → (TJ0 a).2.1 ≠ (TJ0 b).2.1 := by decide +kernel
theorem tyJ0_ok : ∀ k, k < 5 → parseFieldDescriptor (TJ0 k).2.2.1 = some (tyJ0 k) := by decide +kernel
abbrev cJ0_init : ByteArray := prog_43_method_2_code
def yJ0_init : MethodName := ⟨RJ0, "<init>", "(Ljava/lang/String;)V"⟩
abbrev cJ0_init_2 : ByteArray := prog_43_method_1_code
def yJ0_init_2 : MethodName := ⟨RJ0, "<init>", "()V"⟩
abbrev cJ0_init_3 : ByteArray := prog_43_method_3_code
def yJ0_init_3 : MethodName := ⟨RJ0, "<init>", "(Ljava/lang/String;Ljava/lang/Throwable;)V"⟩
theorem q380 : (Jvm.Cond.initialized "java/lang/Throwable") ∈ lw_all := lw_g (lw_at lw_m1 26 rfl) rfl
theorem q1579 : (Jvm.Cond.instanceMethod ({ cls := "java/lang/Throwable", name := "<init>", desc := "(Ljava/lang/String;)V" } : Jvm.MethodName)) ∈ lw_all := lw_g (lw_at lw_m6 25 rfl) rfl
theorem q1580 : (Jvm.Cond.code ({ cls := "java/lang/Throwable", name := "<init>", desc := "(Ljava/lang/String;)V" } : Jvm.MethodName) prog_43_method_2_code (2 : Nat) (Option.none : Option Jvm.ClassFile.FieldType)) ∈ lw_all := lw_g (lw_at lw_m6 26 rfl) rfl
theorem q1581 : (Jvm.Cond.methodLink "java/lang/Throwable" (1 : Nat) ({ cls := "java/lang/Object", name := "<init>", desc := "()V" } : Jvm.MethodName)) ∈ lw_all := lw_g (lw_at lw_m6 27 rfl) rfl
theorem q1582 : (Jvm.Cond.fieldLink "java/lang/Throwable" (13 : Nat) "java/lang/Throwable" "UNASSIGNED_STACK" "[Ljava/lang/StackTraceElement;") ∈ lw_all := lw_g (lw_at lw_m6 28 rfl) rfl
theorem q1583 : (Jvm.Cond.laysStatic "java/lang/Throwable" "UNASSIGNED_STACK" "[Ljava/lang/StackTraceElement;") ∈ lw_tbl := lw_at lw_m6 29 rfl
theorem q1584 : (Jvm.Cond.fieldLink "java/lang/Throwable" (20 : Nat) "java/lang/Throwable" "SUPPRESSED_SENTINEL" "Ljava/util/List;") ∈ lw_all := lw_g (lw_at lw_m6 30 rfl) rfl
theorem q1585 : (Jvm.Cond.laysStatic "java/lang/Throwable" "SUPPRESSED_SENTINEL" "Ljava/util/List;") ∈ lw_tbl := lw_at lw_m6 31 rfl
theorem q1586 : (Jvm.Cond.methodLink "java/lang/Throwable" (27 : Nat) ({ cls := "java/lang/Throwable", name := "fillInStackTrace", desc := "()Ljava/lang/Throwable;" } : Jvm.MethodName)) ∈ lw_all := lw_g (lw_at lw_m6 32 rfl) rfl
theorem q1587 : (Jvm.Cond.instanceMethod ({ cls := "java/lang/Throwable", name := "fillInStackTrace", desc := "()Ljava/lang/Throwable;" } : Jvm.MethodName)) ∈ lw_all := lw_g (lw_at lw_m6 33 rfl) rfl
theorem q1588 : (Jvm.Cond.sameMethod "java/lang/Throwable" "java/lang/Throwable" "fillInStackTrace" "()Ljava/lang/Throwable;") ∈ lw_all := lw_g (lw_at lw_m6 34 rfl) rfl
theorem q1599 : (Jvm.Cond.codeSync ({ cls := "java/lang/Throwable", name := "fillInStackTrace", desc := "()Ljava/lang/Throwable;" } : Jvm.MethodName) prog_43_method_18_code (1 : Nat) (Option.some (Jvm.ClassFile.FieldType.object "java/lang/Throwable"))) ∈ lw_all := lw_g (lw_at lw_m6 45 rfl) rfl
theorem q1600 : (Jvm.Cond.methodLink "java/lang/Throwable" (202 : Nat) ({ cls := "java/lang/Throwable", name := "fillInStackTrace", desc := "(I)Ljava/lang/Throwable;" } : Jvm.MethodName)) ∈ lw_all := lw_g (lw_at lw_m6 46 rfl) rfl
theorem q1601 : (Jvm.Cond.privateMethod ({ cls := "java/lang/Throwable", name := "fillInStackTrace", desc := "(I)Ljava/lang/Throwable;" } : Jvm.MethodName)) ∈ lw_tbl := lw_at lw_m6 47 rfl
theorem q1602 : (Jvm.Cond.instanceMethod ({ cls := "java/lang/Throwable", name := "fillInStackTrace", desc := "(I)Ljava/lang/Throwable;" } : Jvm.MethodName)) ∈ lw_all := lw_g (lw_at lw_m6 48 rfl) rfl
theorem q1603 : (Jvm.Cond.instantiable "java/lang/Throwable" (6 : Nat)) ∈ lw_all := lw_g (lw_at lw_m6 49 rfl) rfl
theorem q1604 : (Jvm.Cond.native ({ cls := "java/lang/Throwable", name := "fillInStackTrace", desc := "(I)Ljava/lang/Throwable;" } : Jvm.MethodName)) ∈ lw_all := lw_g (lw_at lw_m6 50 rfl) rfl
theorem q1605 : (Jvm.Cond.fieldLink "java/lang/Throwable" (198 : Nat) "java/lang/Throwable" "backtrace" "Ljava/lang/Object;") ∈ lw_all := lw_g (lw_at lw_m6 51 rfl) rfl
theorem q1606 : (Jvm.Cond.fieldLink "java/lang/Throwable" (31 : Nat) "java/lang/Throwable" "detailMessage" "Ljava/lang/String;") ∈ lw_all := lw_g (lw_at lw_m6 52 rfl) rfl
theorem q1607 : (Jvm.Cond.fieldLink "java/lang/Throwable" (7 : Nat) "java/lang/Throwable" "cause" "Ljava/lang/Throwable;") ∈ lw_all := lw_g (lw_at lw_m6 53 rfl) rfl
theorem q1608 : (Jvm.Cond.fieldLink "java/lang/Throwable" (17 : Nat) "java/lang/Throwable" "stackTrace" "[Ljava/lang/StackTraceElement;") ∈ lw_all := lw_g (lw_at lw_m6 54 rfl) rfl
theorem q1609 : (Jvm.Cond.fieldLink "java/lang/Throwable" (24 : Nat) "java/lang/Throwable" "suppressedExceptions" "Ljava/util/List;") ∈ lw_all := lw_g (lw_at lw_m6 55 rfl) rfl
theorem q1611 : (Jvm.Cond.soleField "java/lang/Throwable" "backtrace") ∈ lw_all := lw_g (lw_at lw_m6 57 rfl) rfl
theorem q1613 : (Jvm.Cond.soleField "java/lang/Throwable" "detailMessage") ∈ lw_all := lw_g (lw_at lw_m6 59 rfl) rfl
theorem q1615 : (Jvm.Cond.soleField "java/lang/Throwable" "cause") ∈ lw_all := lw_g (lw_at lw_m6 61 rfl) rfl
theorem q1617 : (Jvm.Cond.soleField "java/lang/Throwable" "stackTrace") ∈ lw_all := lw_g (lw_at lw_m6 63 rfl) rfl
theorem q1619 : (Jvm.Cond.soleField "java/lang/Throwable" "depth") ∈ lw_all := lw_g (lw_at lw_m6 65 rfl) rfl
theorem q1621 : (Jvm.Cond.soleField "java/lang/Throwable" "suppressedExceptions") ∈ lw_all := lw_g (lw_at lw_m6 67 rfl) rfl
theorem q1630 : (Jvm.Cond.declares ({ cls := "java/lang/Throwable", name := "<init>", desc := "()V" } : Jvm.MethodName)) ∈ lw_tbl := lw_at lw_m6 76 rfl
theorem q1631 : (Jvm.Cond.declares ({ cls := "java/lang/Throwable", name := "<init>", desc := "(Ljava/lang/String;)V" } : Jvm.MethodName)) ∈ lw_tbl := lw_at lw_m6 77 rfl
theorem q1633 : (Jvm.Cond.lays "java/lang/Throwable" "java/lang/Throwable" "cause" "Ljava/lang/Throwable;") ∈ lw_all := lw_g (lw_at lw_m6 79 rfl) rfl
theorem q1634 : (Jvm.Cond.lays "java/lang/Throwable" "java/lang/Throwable" "stackTrace" "[Ljava/lang/StackTraceElement;") ∈ lw_all := lw_g (lw_at lw_m6 80 rfl) rfl
theorem q1635 : (Jvm.Cond.lays "java/lang/Throwable" "java/lang/Throwable" "suppressedExceptions" "Ljava/util/List;") ∈ lw_all := lw_g (lw_at lw_m6 81 rfl) rfl
theorem q1636 : (Jvm.Cond.lays "java/lang/Throwable" "java/lang/Throwable" "detailMessage" "Ljava/lang/String;") ∈ lw_all := lw_g (lw_at lw_m6 82 rfl) rfl
theorem q1637 : (Jvm.Cond.lays "java/lang/Throwable" "java/lang/Throwable" "backtrace" "Ljava/lang/Object;") ∈ lw_all := lw_g (lw_at lw_m6 83 rfl) rfl
theorem q1638 : (Jvm.Cond.fieldLink "java/lang/Throwable" (198 : Nat) "java/lang/Throwable" "backtrace" "Ljava/lang/Object;") ∈ lw_all := lw_g (lw_at lw_m6 84 rfl) rfl
theorem q1639 : (Jvm.Cond.superclass "java/lang/Throwable" "java/lang/Object") ∈ lw_all := lw_g (lw_at lw_m6 85 rfl) rfl
theorem q1640 : (Jvm.Cond.instanceMethod ({ cls := "java/lang/Throwable", name := "<init>", desc := "()V" } : Jvm.MethodName)) ∈ lw_all := lw_g (lw_at lw_m6 86 rfl) rfl
theorem q1641 : (Jvm.Cond.code ({ cls := "java/lang/Throwable", name := "<init>", desc := "()V" } : Jvm.MethodName) prog_43_method_1_code (1 : Nat) (Option.none : Option Jvm.ClassFile.FieldType)) ∈ lw_all := lw_g (lw_at lw_m6 87 rfl) rfl
theorem q1850 : (Jvm.Cond.instanceMethod ({ cls := "java/lang/Throwable", name := "<init>", desc := "(Ljava/lang/String;Ljava/lang/Throwable;)V" } : Jvm.MethodName)) ∈ lw_all := lw_g (lw_at lw_m7 56 rfl) rfl
theorem q1851 : (Jvm.Cond.code ({ cls := "java/lang/Throwable", name := "<init>", desc := "(Ljava/lang/String;Ljava/lang/Throwable;)V" } : Jvm.MethodName) prog_43_method_3_code (3 : Nat) (Option.none : Option Jvm.ClassFile.FieldType)) ∈ lw_all := lw_g (lw_at lw_m7 57 rfl) rfl
theorem q5250 : (Jvm.Cond.sameMethod "java/lang/Throwable" "java/lang/Throwable" "fillInStackTrace" "(I)Ljava/lang/Throwable;") ∈ lw_all := lw_g (lw_at lw_m21 96 rfl) rfl
theorem in_J0 : ∀ w ∈ wsJ00, w ∈ lw_all := lw_in wsJ00 [1633, 1634, 1635, 1636, 1637] (by decide +kernel) (by decide +kernel)
/-! java/lang/Exception -/
def RJ1 : String := "java/lang/Exception"
abbrev cJ1_init : ByteArray := prog_33_method_2_code
def yJ1_init : MethodName := ⟨RJ1, "<init>", "(Ljava/lang/String;)V"⟩
abbrev cJ1_init_2 : ByteArray := prog_33_method_1_code
def yJ1_init_2 : MethodName := ⟨RJ1, "<init>", "()V"⟩
abbrev cJ1_init_3 : ByteArray := prog_33_method_3_code
def yJ1_init_3 : MethodName := ⟨RJ1, "<init>", "(Ljava/lang/String;Ljava/lang/Throwable;)V"⟩
theorem q381 : (Jvm.Cond.initialized "java/lang/Exception") ∈ lw_all := lw_g (lw_at lw_m1 27 rfl) rfl
theorem q1576 : (Jvm.Cond.instanceMethod ({ cls := "java/lang/Exception", name := "<init>", desc := "(Ljava/lang/String;)V" } : Jvm.MethodName)) ∈ lw_all := lw_g (lw_at lw_m6 22 rfl) rfl
theorem q1577 : (Jvm.Cond.code ({ cls := "java/lang/Exception", name := "<init>", desc := "(Ljava/lang/String;)V" } : Jvm.MethodName) prog_33_method_2_code (2 : Nat) (Option.none : Option Jvm.ClassFile.FieldType)) ∈ lw_all := lw_g (lw_at lw_m6 23 rfl) rfl
theorem q1578 : (Jvm.Cond.methodLink "java/lang/Exception" (7 : Nat) ({ cls := "java/lang/Throwable", name := "<init>", desc := "(Ljava/lang/String;)V" } : Jvm.MethodName)) ∈ lw_all := lw_g (lw_at lw_m6 24 rfl) rfl
theorem q1628 : (Jvm.Cond.declares ({ cls := "java/lang/Exception", name := "<init>", desc := "()V" } : Jvm.MethodName)) ∈ lw_tbl := lw_at lw_m6 74 rfl
theorem q1629 : (Jvm.Cond.declares ({ cls := "java/lang/Exception", name := "<init>", desc := "(Ljava/lang/String;)V" } : Jvm.MethodName)) ∈ lw_tbl := lw_at lw_m6 75 rfl
theorem q1670 : (Jvm.Cond.instanceMethod ({ cls := "java/lang/Exception", name := "<init>", desc := "()V" } : Jvm.MethodName)) ∈ lw_all := lw_g (lw_at lw_m6 116 rfl) rfl
theorem q1671 : (Jvm.Cond.code ({ cls := "java/lang/Exception", name := "<init>", desc := "()V" } : Jvm.MethodName) prog_33_method_1_code (1 : Nat) (Option.none : Option Jvm.ClassFile.FieldType)) ∈ lw_all := lw_g (lw_at lw_m6 117 rfl) rfl
theorem q1672 : (Jvm.Cond.methodLink "java/lang/Exception" (1 : Nat) ({ cls := "java/lang/Throwable", name := "<init>", desc := "()V" } : Jvm.MethodName)) ∈ lw_all := lw_g (lw_at lw_m6 118 rfl) rfl
theorem q1847 : (Jvm.Cond.instanceMethod ({ cls := "java/lang/Exception", name := "<init>", desc := "(Ljava/lang/String;Ljava/lang/Throwable;)V" } : Jvm.MethodName)) ∈ lw_all := lw_g (lw_at lw_m7 53 rfl) rfl
theorem q1848 : (Jvm.Cond.code ({ cls := "java/lang/Exception", name := "<init>", desc := "(Ljava/lang/String;Ljava/lang/Throwable;)V" } : Jvm.MethodName) prog_33_method_3_code (3 : Nat) (Option.none : Option Jvm.ClassFile.FieldType)) ∈ lw_all := lw_g (lw_at lw_m7 54 rfl) rfl
theorem q1849 : (Jvm.Cond.methodLink "java/lang/Exception" (10 : Nat) ({ cls := "java/lang/Throwable", name := "<init>", desc := "(Ljava/lang/String;Ljava/lang/Throwable;)V" } : Jvm.MethodName)) ∈ lw_all := lw_g (lw_at lw_m7 55 rfl) rfl
/-! java/lang/RuntimeException -/
def RJ2 : String := "java/lang/RuntimeException"
abbrev cJ2_init : ByteArray := prog_38_method_2_code
def yJ2_init : MethodName := ⟨RJ2, "<init>", "(Ljava/lang/String;)V"⟩
abbrev cJ2_init_2 : ByteArray := prog_38_method_1_code
def yJ2_init_2 : MethodName := ⟨RJ2, "<init>", "()V"⟩
abbrev cJ2_init_3 : ByteArray := prog_38_method_3_code
def yJ2_init_3 : MethodName := ⟨RJ2, "<init>", "(Ljava/lang/String;Ljava/lang/Throwable;)V"⟩
theorem q382 : (Jvm.Cond.initialized "java/lang/RuntimeException") ∈ lw_all := lw_g (lw_at lw_m1 28 rfl) rfl
theorem q1573 : (Jvm.Cond.instanceMethod ({ cls := "java/lang/RuntimeException", name := "<init>", desc := "(Ljava/lang/String;)V" } : Jvm.MethodName)) ∈ lw_all := lw_g (lw_at lw_m6 19 rfl) rfl
theorem q1574 : (Jvm.Cond.code ({ cls := "java/lang/RuntimeException", name := "<init>", desc := "(Ljava/lang/String;)V" } : Jvm.MethodName) prog_38_method_2_code (2 : Nat) (Option.none : Option Jvm.ClassFile.FieldType)) ∈ lw_all := lw_g (lw_at lw_m6 20 rfl) rfl
theorem q1575 : (Jvm.Cond.methodLink "java/lang/RuntimeException" (7 : Nat) ({ cls := "java/lang/Exception", name := "<init>", desc := "(Ljava/lang/String;)V" } : Jvm.MethodName)) ∈ lw_all := lw_g (lw_at lw_m6 21 rfl) rfl
theorem q1626 : (Jvm.Cond.declares ({ cls := "java/lang/RuntimeException", name := "<init>", desc := "()V" } : Jvm.MethodName)) ∈ lw_tbl := lw_at lw_m6 72 rfl
theorem q1627 : (Jvm.Cond.declares ({ cls := "java/lang/RuntimeException", name := "<init>", desc := "(Ljava/lang/String;)V" } : Jvm.MethodName)) ∈ lw_tbl := lw_at lw_m6 73 rfl
theorem q1667 : (Jvm.Cond.instanceMethod ({ cls := "java/lang/RuntimeException", name := "<init>", desc := "()V" } : Jvm.MethodName)) ∈ lw_all := lw_g (lw_at lw_m6 113 rfl) rfl
theorem q1668 : (Jvm.Cond.code ({ cls := "java/lang/RuntimeException", name := "<init>", desc := "()V" } : Jvm.MethodName) prog_38_method_1_code (1 : Nat) (Option.none : Option Jvm.ClassFile.FieldType)) ∈ lw_all := lw_g (lw_at lw_m6 114 rfl) rfl
theorem q1669 : (Jvm.Cond.methodLink "java/lang/RuntimeException" (1 : Nat) ({ cls := "java/lang/Exception", name := "<init>", desc := "()V" } : Jvm.MethodName)) ∈ lw_all := lw_g (lw_at lw_m6 115 rfl) rfl
theorem q1844 : (Jvm.Cond.instanceMethod ({ cls := "java/lang/RuntimeException", name := "<init>", desc := "(Ljava/lang/String;Ljava/lang/Throwable;)V" } : Jvm.MethodName)) ∈ lw_all := lw_g (lw_at lw_m7 50 rfl) rfl
theorem q1845 : (Jvm.Cond.code ({ cls := "java/lang/RuntimeException", name := "<init>", desc := "(Ljava/lang/String;Ljava/lang/Throwable;)V" } : Jvm.MethodName) prog_38_method_3_code (3 : Nat) (Option.none : Option Jvm.ClassFile.FieldType)) ∈ lw_all := lw_g (lw_at lw_m7 51 rfl) rfl
theorem q1846 : (Jvm.Cond.methodLink "java/lang/RuntimeException" (10 : Nat) ({ cls := "java/lang/Exception", name := "<init>", desc := "(Ljava/lang/String;Ljava/lang/Throwable;)V" } : Jvm.MethodName)) ∈ lw_all := lw_g (lw_at lw_m7 52 rfl) rfl
/-! java/lang/IndexOutOfBoundsException -/
def RJ3 : String := "java/lang/IndexOutOfBoundsException"
def TJ3 : u_T := fun k => match k with
  | 0 => ("java/lang/Throwable", "cause", "Ljava/lang/Throwable;", false)
  | 1 => ("java/lang/Throwable", "stackTrace", "[Ljava/lang/StackTraceElement;", false)
  | 2 => ("java/lang/Throwable", "suppressedExceptions", "Ljava/util/List;", false)
  | 3 => ("java/lang/Throwable", "detailMessage", "Ljava/lang/String;", false)
  | 4 => ("java/lang/Throwable", "backtrace", "Ljava/lang/Object;", false)
  | _ => ("java/lang/Throwable", "depth", "I", false)
def tyJ3 : Nat → FieldType := fun k => match k with
  | 0 => .object "java/lang/Throwable"
  | 1 => .array (.object "java/lang/StackTraceElement")
  | 2 => .object "java/util/List"
  | 3 => .object "java/lang/String"
  | 4 => .object "java/lang/Object"
  | _ => .int
abbrev wsJ30 : List Cond := u_ws RJ3 TJ3 6
theorem nmJ3 : ∀ a, a < 6 → ∀ b, b < 6 → a ≠ b → (TJ3 a).2.1 ≠ (TJ3 b).2.1 := by decide +kernel
theorem tyJ3_ok : ∀ k, k < 6 → parseFieldDescriptor (TJ3 k).2.2.1 = some (tyJ3 k) := by decide +kernel
abbrev cJ3_init : ByteArray := prog_36_method_2_code
def yJ3_init : MethodName := ⟨RJ3, "<init>", "(Ljava/lang/String;)V"⟩
abbrev cJ3_init_2 : ByteArray := prog_36_method_1_code
def yJ3_init_2 : MethodName := ⟨RJ3, "<init>", "()V"⟩
theorem q383 : (Jvm.Cond.initialized "java/lang/IndexOutOfBoundsException") ∈ lw_all := lw_g (lw_at lw_m1 29 rfl) rfl
theorem q1570 : (Jvm.Cond.instanceMethod ({ cls := "java/lang/IndexOutOfBoundsException", name := "<init>", desc := "(Ljava/lang/String;)V" } : Jvm.MethodName)) ∈ lw_all := lw_g (lw_at lw_m6 16 rfl) rfl
theorem q1571 : (Jvm.Cond.code ({ cls := "java/lang/IndexOutOfBoundsException", name := "<init>", desc := "(Ljava/lang/String;)V" } : Jvm.MethodName) prog_36_method_2_code (2 : Nat) (Option.none : Option Jvm.ClassFile.FieldType)) ∈ lw_all := lw_g (lw_at lw_m6 17 rfl) rfl
theorem q1572 : (Jvm.Cond.methodLink "java/lang/IndexOutOfBoundsException" (7 : Nat) ({ cls := "java/lang/RuntimeException", name := "<init>", desc := "(Ljava/lang/String;)V" } : Jvm.MethodName)) ∈ lw_all := lw_g (lw_at lw_m6 18 rfl) rfl
theorem q1596 : (Jvm.Cond.selects "java/lang/IndexOutOfBoundsException" ({ cls := "java/lang/Throwable", name := "fillInStackTrace", desc := "()Ljava/lang/Throwable;" } : Jvm.MethodName) ({ cls := "java/lang/Throwable", name := "fillInStackTrace", desc := "()Ljava/lang/Throwable;" } : Jvm.MethodName)) ∈ lw_all := lw_g (lw_at lw_m6 42 rfl) rfl
theorem q1624 : (Jvm.Cond.declares ({ cls := "java/lang/IndexOutOfBoundsException", name := "<init>", desc := "()V" } : Jvm.MethodName)) ∈ lw_tbl := lw_at lw_m6 70 rfl
theorem q1625 : (Jvm.Cond.declares ({ cls := "java/lang/IndexOutOfBoundsException", name := "<init>", desc := "(Ljava/lang/String;)V" } : Jvm.MethodName)) ∈ lw_tbl := lw_at lw_m6 71 rfl
theorem q1655 : (Jvm.Cond.instantiable "java/lang/IndexOutOfBoundsException" (6 : Nat)) ∈ lw_all := lw_g (lw_at lw_m6 101 rfl) rfl
theorem q1656 : (Jvm.Cond.castable "java/lang/IndexOutOfBoundsException" "java/lang/IndexOutOfBoundsException") ∈ lw_tbl := lw_at lw_m6 102 rfl
theorem q1657 : (Jvm.Cond.selects "java/lang/IndexOutOfBoundsException" ({ cls := "java/lang/Throwable", name := "fillInStackTrace", desc := "(I)Ljava/lang/Throwable;" } : Jvm.MethodName) ({ cls := "java/lang/Throwable", name := "fillInStackTrace", desc := "(I)Ljava/lang/Throwable;" } : Jvm.MethodName)) ∈ lw_all := lw_g (lw_at lw_m6 103 rfl) rfl
theorem q1658 : (Jvm.Cond.lays "java/lang/IndexOutOfBoundsException" "java/lang/Throwable" "cause" "Ljava/lang/Throwable;") ∈ lw_all := lw_g (lw_at lw_m6 104 rfl) rfl
theorem q1659 : (Jvm.Cond.lays "java/lang/IndexOutOfBoundsException" "java/lang/Throwable" "stackTrace" "[Ljava/lang/StackTraceElement;") ∈ lw_all := lw_g (lw_at lw_m6 105 rfl) rfl
theorem q1660 : (Jvm.Cond.lays "java/lang/IndexOutOfBoundsException" "java/lang/Throwable" "suppressedExceptions" "Ljava/util/List;") ∈ lw_all := lw_g (lw_at lw_m6 106 rfl) rfl
theorem q1661 : (Jvm.Cond.lays "java/lang/IndexOutOfBoundsException" "java/lang/Throwable" "detailMessage" "Ljava/lang/String;") ∈ lw_all := lw_g (lw_at lw_m6 107 rfl) rfl
theorem q1662 : (Jvm.Cond.lays "java/lang/IndexOutOfBoundsException" "java/lang/Throwable" "backtrace" "Ljava/lang/Object;") ∈ lw_all := lw_g (lw_at lw_m6 108 rfl) rfl
theorem q1664 : (Jvm.Cond.instanceMethod ({ cls := "java/lang/IndexOutOfBoundsException", name := "<init>", desc := "()V" } : Jvm.MethodName)) ∈ lw_all := lw_g (lw_at lw_m6 110 rfl) rfl
theorem q1665 : (Jvm.Cond.code ({ cls := "java/lang/IndexOutOfBoundsException", name := "<init>", desc := "()V" } : Jvm.MethodName) prog_36_method_1_code (1 : Nat) (Option.none : Option Jvm.ClassFile.FieldType)) ∈ lw_all := lw_g (lw_at lw_m6 111 rfl) rfl
theorem q1666 : (Jvm.Cond.methodLink "java/lang/IndexOutOfBoundsException" (1 : Nat) ({ cls := "java/lang/RuntimeException", name := "<init>", desc := "()V" } : Jvm.MethodName)) ∈ lw_all := lw_g (lw_at lw_m6 112 rfl) rfl
theorem q1673 : (Jvm.Cond.lays "java/lang/IndexOutOfBoundsException" "java/lang/Throwable" "depth" "I") ∈ lw_all := lw_g (lw_at lw_m6 119 rfl) rfl
theorem q1674 : (Jvm.Cond.superclass "java/lang/IndexOutOfBoundsException" "java/lang/RuntimeException") ∈ lw_all := lw_g (lw_at lw_m6 120 rfl) rfl
theorem in_J3 : ∀ w ∈ wsJ30, w ∈ lw_all := lw_in wsJ30 [1658, 1659, 1660, 1661, 1662, 1673] (by decide +kernel) (by decide +kernel)
/-! java/lang/ArrayIndexOutOfBoundsException -/
def RJ4 : String := "java/lang/ArrayIndexOutOfBoundsException"
def TJ4 : u_T := fun k => match k with
  | 0 => ("java/lang/Throwable", "backtrace", "Ljava/lang/Object;", false)
  | 1 => ("java/lang/Throwable", "detailMessage", "Ljava/lang/String;", false)
  | 2 => ("java/lang/Throwable", "cause", "Ljava/lang/Throwable;", false)
  | 3 => ("java/lang/Throwable", "stackTrace", "[Ljava/lang/StackTraceElement;", false)
  | 4 => ("java/lang/Throwable", "depth", "I", false)
  | _ => ("java/lang/Throwable", "suppressedExceptions", "Ljava/util/List;", false)
def tyJ4 : Nat → FieldType := fun k => match k with
  | 0 => .object "java/lang/Object"
  | 1 => .object "java/lang/String"
  | 2 => .object "java/lang/Throwable"
  | 3 => .array (.object "java/lang/StackTraceElement")
  | 4 => .int
  | _ => .object "java/util/List"
abbrev wsJ40 : List Cond := u_ws RJ4 TJ4 6
theorem nmJ4 : ∀ a, a < 6 → ∀ b, b < 6 → a ≠ b → (TJ4 a).2.1 ≠ (TJ4 b).2.1 := by decide +kernel
theorem tyJ4_ok : ∀ k, k < 6 → parseFieldDescriptor (TJ4 k).2.2.1 = some (tyJ4 k) := by decide +kernel
abbrev cJ4_init : ByteArray := prog_32_method_2_code
def yJ4_init : MethodName := ⟨RJ4, "<init>", "(Ljava/lang/String;)V"⟩
theorem q384 : (Jvm.Cond.initialized "java/lang/ArrayIndexOutOfBoundsException") ∈ lw_all := lw_g (lw_at lw_m1 30 rfl) rfl
theorem q1566 : (Jvm.Cond.instantiable "java/lang/ArrayIndexOutOfBoundsException" (6 : Nat)) ∈ lw_all := lw_g (lw_at lw_m6 12 rfl) rfl
theorem q1567 : (Jvm.Cond.instanceMethod ({ cls := "java/lang/ArrayIndexOutOfBoundsException", name := "<init>", desc := "(Ljava/lang/String;)V" } : Jvm.MethodName)) ∈ lw_all := lw_g (lw_at lw_m6 13 rfl) rfl
theorem q1568 : (Jvm.Cond.code ({ cls := "java/lang/ArrayIndexOutOfBoundsException", name := "<init>", desc := "(Ljava/lang/String;)V" } : Jvm.MethodName) prog_32_method_2_code (2 : Nat) (Option.none : Option Jvm.ClassFile.FieldType)) ∈ lw_all := lw_g (lw_at lw_m6 14 rfl) rfl
theorem q1569 : (Jvm.Cond.methodLink "java/lang/ArrayIndexOutOfBoundsException" (7 : Nat) ({ cls := "java/lang/IndexOutOfBoundsException", name := "<init>", desc := "(Ljava/lang/String;)V" } : Jvm.MethodName)) ∈ lw_all := lw_g (lw_at lw_m6 15 rfl) rfl
theorem q1593 : (Jvm.Cond.selects "java/lang/ArrayIndexOutOfBoundsException" ({ cls := "java/lang/Throwable", name := "fillInStackTrace", desc := "()Ljava/lang/Throwable;" } : Jvm.MethodName) ({ cls := "java/lang/Throwable", name := "fillInStackTrace", desc := "()Ljava/lang/Throwable;" } : Jvm.MethodName)) ∈ lw_all := lw_g (lw_at lw_m6 39 rfl) rfl
theorem q1610 : (Jvm.Cond.lays "java/lang/ArrayIndexOutOfBoundsException" "java/lang/Throwable" "backtrace" "Ljava/lang/Object;") ∈ lw_all := lw_g (lw_at lw_m6 56 rfl) rfl
theorem q1612 : (Jvm.Cond.lays "java/lang/ArrayIndexOutOfBoundsException" "java/lang/Throwable" "detailMessage" "Ljava/lang/String;") ∈ lw_all := lw_g (lw_at lw_m6 58 rfl) rfl
theorem q1614 : (Jvm.Cond.lays "java/lang/ArrayIndexOutOfBoundsException" "java/lang/Throwable" "cause" "Ljava/lang/Throwable;") ∈ lw_all := lw_g (lw_at lw_m6 60 rfl) rfl
theorem q1616 : (Jvm.Cond.lays "java/lang/ArrayIndexOutOfBoundsException" "java/lang/Throwable" "stackTrace" "[Ljava/lang/StackTraceElement;") ∈ lw_all := lw_g (lw_at lw_m6 62 rfl) rfl
theorem q1618 : (Jvm.Cond.lays "java/lang/ArrayIndexOutOfBoundsException" "java/lang/Throwable" "depth" "I") ∈ lw_all := lw_g (lw_at lw_m6 64 rfl) rfl
theorem q1620 : (Jvm.Cond.lays "java/lang/ArrayIndexOutOfBoundsException" "java/lang/Throwable" "suppressedExceptions" "Ljava/util/List;") ∈ lw_all := lw_g (lw_at lw_m6 66 rfl) rfl
theorem q1622 : (Jvm.Cond.superclass "java/lang/ArrayIndexOutOfBoundsException" "java/lang/IndexOutOfBoundsException") ∈ lw_all := lw_g (lw_at lw_m6 68 rfl) rfl
theorem q1623 : (Jvm.Cond.castable "java/lang/ArrayIndexOutOfBoundsException" "java/lang/ArrayIndexOutOfBoundsException") ∈ lw_tbl := lw_at lw_m6 69 rfl
theorem q1632 : (Jvm.Cond.selects "java/lang/ArrayIndexOutOfBoundsException" ({ cls := "java/lang/Throwable", name := "fillInStackTrace", desc := "(I)Ljava/lang/Throwable;" } : Jvm.MethodName) ({ cls := "java/lang/Throwable", name := "fillInStackTrace", desc := "(I)Ljava/lang/Throwable;" } : Jvm.MethodName)) ∈ lw_all := lw_g (lw_at lw_m6 78 rfl) rfl
theorem q5251 : (Jvm.Cond.castable "java/lang/ArrayIndexOutOfBoundsException" "java/lang/IndexOutOfBoundsException") ∈ lw_tbl := lw_at lw_m21 97 rfl
theorem in_J4 : ∀ w ∈ wsJ40, w ∈ lw_all := lw_in wsJ40 [1610, 1612, 1614, 1616, 1618, 1620] (by decide +kernel) (by decide +kernel)
/-! java/lang/String -/
def RJ5 : String := "java/lang/String"
def TJ5 : u_T := fun k => match k with
  | 0 => ("java/lang/String", "value", "[B", true)
  | _ => ("java/lang/String", "coder", "B", true)
def tyJ5 : Nat → FieldType := fun k => match k with
  | 0 => .array .byte
  | _ => .byte
abbrev wsJ50 : List Cond := u_ws RJ5 TJ5 2
theorem nmJ5 : ∀ a, a < 2 → ∀ b, b < 2 → a ≠ b → (TJ5 a).2.1 ≠ (TJ5 b).2.1 := by decide +kernel
theorem tyJ5_ok : ∀ k, k < 2 → parseFieldDescriptor (TJ5 k).2.2.1 = some (tyJ5 k) := by decide +kernel
abbrev cJ5_length : ByteArray := prog_39_method_54_code
def yJ5_length : MethodName := ⟨RJ5, "length", "()I"⟩
abbrev cJ5_coder : ByteArray := prog_39_method_152_code
def yJ5_coder : MethodName := ⟨RJ5, "coder", "()B"⟩
abbrev cJ5_charAt : ByteArray := prog_39_method_56_code
def yJ5_charAt : MethodName := ⟨RJ5, "charAt", "(I)C"⟩
abbrev cJ5_isLatin1 : ByteArray := prog_39_method_154_code
def yJ5_isLatin1 : MethodName := ⟨RJ5, "isLatin1", "()Z"⟩
abbrev cJ5_checkIndex : ByteArray := prog_39_method_155_code
def yJ5_checkIndex : MethodName := ⟨RJ5, "checkIndex", "(II)V"⟩
theorem q385 : (Jvm.Cond.initialized "java/lang/String") ∈ lw_all := lw_g (lw_at lw_m1 31 rfl) rfl
theorem q1642 : (Jvm.Cond.instantiable "java/lang/String" (4 : Nat)) ∈ lw_all := lw_g (lw_at lw_m6 88 rfl) rfl
theorem q1643 : (Jvm.Cond.laysFinal "java/lang/String" "java/lang/String" "value" "[B") ∈ lw_all := lw_g (lw_at lw_m6 89 rfl) rfl
theorem q1644 : (Jvm.Cond.soleField "java/lang/String" "value") ∈ lw_all := lw_g (lw_at lw_m6 90 rfl) rfl
theorem q1645 : (Jvm.Cond.laysFinal "java/lang/String" "java/lang/String" "coder" "B") ∈ lw_all := lw_g (lw_at lw_m6 91 rfl) rfl
theorem q1646 : (Jvm.Cond.soleField "java/lang/String" "coder") ∈ lw_all := lw_g (lw_at lw_m6 92 rfl) rfl
theorem q1768 : (Jvm.Cond.instanceMethod ({ cls := "java/lang/String", name := "length", desc := "()I" } : Jvm.MethodName)) ∈ lw_all := lw_g (lw_at lw_m6 214 rfl) rfl
theorem q1769 : (Jvm.Cond.selects "java/lang/String" ({ cls := "java/lang/String", name := "length", desc := "()I" } : Jvm.MethodName) ({ cls := "java/lang/String", name := "length", desc := "()I" } : Jvm.MethodName)) ∈ lw_all := lw_g (lw_at lw_m6 215 rfl) rfl
theorem q1770 : (Jvm.Cond.code ({ cls := "java/lang/String", name := "length", desc := "()I" } : Jvm.MethodName) prog_39_method_54_code (1 : Nat) (Option.some Jvm.ClassFile.FieldType.int)) ∈ lw_all := lw_g (lw_at lw_m6 216 rfl) rfl
theorem q1771 : (Jvm.Cond.methodLink "java/lang/String" (335 : Nat) ({ cls := "java/lang/String", name := "coder", desc := "()B" } : Jvm.MethodName)) ∈ lw_all := lw_g (lw_at lw_m6 217 rfl) rfl
theorem q1772 : (Jvm.Cond.instanceMethod ({ cls := "java/lang/String", name := "coder", desc := "()B" } : Jvm.MethodName)) ∈ lw_all := lw_g (lw_at lw_m6 218 rfl) rfl
theorem q1773 : (Jvm.Cond.selects "java/lang/String" ({ cls := "java/lang/String", name := "coder", desc := "()B" } : Jvm.MethodName) ({ cls := "java/lang/String", name := "coder", desc := "()B" } : Jvm.MethodName)) ∈ lw_all := lw_g (lw_at lw_m6 219 rfl) rfl
theorem q1774 : (Jvm.Cond.code ({ cls := "java/lang/String", name := "coder", desc := "()B" } : Jvm.MethodName) prog_39_method_152_code (1 : Nat) (Option.some Jvm.ClassFile.FieldType.byte)) ∈ lw_all := lw_g (lw_at lw_m6 220 rfl) rfl
theorem q1775 : (Jvm.Cond.fieldLink "java/lang/String" (38 : Nat) "java/lang/String" "COMPACT_STRINGS" "Z") ∈ lw_all := lw_g (lw_at lw_m6 221 rfl) rfl
theorem q1776 : (Jvm.Cond.laysStatic "java/lang/String" "COMPACT_STRINGS" "Z") ∈ lw_tbl := lw_at lw_m6 222 rfl
theorem q1778 : (Jvm.Cond.instanceMethod ({ cls := "java/lang/String", name := "charAt", desc := "(I)C" } : Jvm.MethodName)) ∈ lw_all := lw_g (lw_at lw_m6 224 rfl) rfl
theorem q1779 : (Jvm.Cond.selects "java/lang/String" ({ cls := "java/lang/String", name := "charAt", desc := "(I)C" } : Jvm.MethodName) ({ cls := "java/lang/String", name := "charAt", desc := "(I)C" } : Jvm.MethodName)) ∈ lw_all := lw_g (lw_at lw_m6 225 rfl) rfl
theorem q1780 : (Jvm.Cond.code ({ cls := "java/lang/String", name := "charAt", desc := "(I)C" } : Jvm.MethodName) prog_39_method_56_code (2 : Nat) (Option.some Jvm.ClassFile.FieldType.char)) ∈ lw_all := lw_g (lw_at lw_m6 226 rfl) rfl
theorem q1781 : (Jvm.Cond.methodLink "java/lang/String" (492 : Nat) ({ cls := "java/lang/String", name := "isLatin1", desc := "()Z" } : Jvm.MethodName)) ∈ lw_all := lw_g (lw_at lw_m6 227 rfl) rfl
theorem q1782 : (Jvm.Cond.instanceMethod ({ cls := "java/lang/String", name := "isLatin1", desc := "()Z" } : Jvm.MethodName)) ∈ lw_all := lw_g (lw_at lw_m6 228 rfl) rfl
theorem q1783 : (Jvm.Cond.selects "java/lang/String" ({ cls := "java/lang/String", name := "isLatin1", desc := "()Z" } : Jvm.MethodName) ({ cls := "java/lang/String", name := "isLatin1", desc := "()Z" } : Jvm.MethodName)) ∈ lw_all := lw_g (lw_at lw_m6 229 rfl) rfl
theorem q1784 : (Jvm.Cond.code ({ cls := "java/lang/String", name := "isLatin1", desc := "()Z" } : Jvm.MethodName) prog_39_method_154_code (1 : Nat) (Option.some Jvm.ClassFile.FieldType.boolean)) ∈ lw_all := lw_g (lw_at lw_m6 230 rfl) rfl
theorem q1785 : (Jvm.Cond.methodLink "java/lang/String" (495 : Nat) ({ cls := "java/lang/StringLatin1", name := "charAt", desc := "([BI)C" } : Jvm.MethodName)) ∈ lw_all := lw_g (lw_at lw_m6 231 rfl) rfl
theorem q1789 : (Jvm.Cond.static ({ cls := "java/lang/String", name := "checkIndex", desc := "(II)V" } : Jvm.MethodName)) ∈ lw_all := lw_g (lw_at lw_m6 235 rfl) rfl
theorem q1790 : (Jvm.Cond.code ({ cls := "java/lang/String", name := "checkIndex", desc := "(II)V" } : Jvm.MethodName) prog_39_method_155_code (2 : Nat) (Option.none : Option Jvm.ClassFile.FieldType)) ∈ lw_all := lw_g (lw_at lw_m6 236 rfl) rfl
theorem q1791 : (Jvm.Cond.fieldLink "java/lang/String" (1053 : Nat) "jdk/internal/util/Preconditions" "SIOOBE_FORMATTER" "Ljava/util/function/BiFunction;") ∈ lw_all := lw_g (lw_at lw_m6 237 rfl) rfl
theorem q1793 : (Jvm.Cond.methodLink "java/lang/String" (1059 : Nat) ({ cls := "jdk/internal/util/Preconditions", name := "checkIndex", desc := "(IILjava/util/function/BiFunction;)I" } : Jvm.MethodName)) ∈ lw_all := lw_g (lw_at lw_m6 239 rfl) rfl
theorem q1796 : (Jvm.Cond.methodLink "java/lang/String" (498 : Nat) ({ cls := "java/lang/StringUTF16", name := "charAt", desc := "([BI)C" } : Jvm.MethodName)) ∈ lw_all := lw_g (lw_at lw_m7 2 rfl) rfl
theorem q5253 : (Jvm.Cond.fieldLink "java/lang/String" (9 : Nat) "java/lang/String" "value" "[B") ∈ lw_all := lw_g (lw_at lw_m21 99 rfl) rfl
theorem q5254 : (Jvm.Cond.fieldLink "java/lang/String" (15 : Nat) "java/lang/String" "coder" "B") ∈ lw_all := lw_g (lw_at lw_m21 100 rfl) rfl
theorem in_J5 : ∀ w ∈ wsJ50, w ∈ lw_all := lw_in wsJ50 [1643, 1645] (by decide +kernel) (by decide +kernel)
/-! java/lang/IllegalArgumentException -/
def RJ6 : String := "java/lang/IllegalArgumentException"
def TJ6 : u_T := fun k => match k with
  | 0 => ("java/lang/Throwable", "cause", "Ljava/lang/Throwable;", false)
  | 1 => ("java/lang/Throwable", "stackTrace", "[Ljava/lang/StackTraceElement;", false)
  | 2 => ("java/lang/Throwable", "suppressedExceptions", "Ljava/util/List;", false)
  | 3 => ("java/lang/Throwable", "detailMessage", "Ljava/lang/String;", false)
  | 4 => ("java/lang/Throwable", "backtrace", "Ljava/lang/Object;", false)
  | _ => ("java/lang/Throwable", "depth", "I", false)
def tyJ6 : Nat → FieldType := fun k => match k with
  | 0 => .object "java/lang/Throwable"
  | 1 => .array (.object "java/lang/StackTraceElement")
  | 2 => .object "java/util/List"
  | 3 => .object "java/lang/String"
  | 4 => .object "java/lang/Object"
  | _ => .int
abbrev wsJ60 : List Cond := u_ws RJ6 TJ6 6
theorem nmJ6 : ∀ a, a < 6 → ∀ b, b < 6 → a ≠ b → (TJ6 a).2.1 ≠ (TJ6 b).2.1 := by decide +kernel
theorem tyJ6_ok : ∀ k, k < 6 → parseFieldDescriptor (TJ6 k).2.2.1 = some (tyJ6 k) := by decide +kernel
abbrev cJ6_init : ByteArray := prog_34_method_1_code
def yJ6_init : MethodName := ⟨RJ6, "<init>", "()V"⟩
theorem q386 : (Jvm.Cond.initialized "java/lang/IllegalArgumentException") ∈ lw_all := lw_g (lw_at lw_m1 32 rfl) rfl
theorem q1594 : (Jvm.Cond.selects "java/lang/IllegalArgumentException" ({ cls := "java/lang/Throwable", name := "fillInStackTrace", desc := "()Ljava/lang/Throwable;" } : Jvm.MethodName) ({ cls := "java/lang/Throwable", name := "fillInStackTrace", desc := "()Ljava/lang/Throwable;" } : Jvm.MethodName)) ∈ lw_all := lw_g (lw_at lw_m6 40 rfl) rfl
theorem q1691 : (Jvm.Cond.instantiable "java/lang/IllegalArgumentException" (6 : Nat)) ∈ lw_all := lw_g (lw_at lw_m6 137 rfl) rfl
theorem q1692 : (Jvm.Cond.castable "java/lang/IllegalArgumentException" "java/lang/IllegalArgumentException") ∈ lw_tbl := lw_at lw_m6 138 rfl
theorem q1693 : (Jvm.Cond.selects "java/lang/IllegalArgumentException" ({ cls := "java/lang/Throwable", name := "fillInStackTrace", desc := "(I)Ljava/lang/Throwable;" } : Jvm.MethodName) ({ cls := "java/lang/Throwable", name := "fillInStackTrace", desc := "(I)Ljava/lang/Throwable;" } : Jvm.MethodName)) ∈ lw_all := lw_g (lw_at lw_m6 139 rfl) rfl
theorem q1694 : (Jvm.Cond.lays "java/lang/IllegalArgumentException" "java/lang/Throwable" "cause" "Ljava/lang/Throwable;") ∈ lw_all := lw_g (lw_at lw_m6 140 rfl) rfl
theorem q1695 : (Jvm.Cond.lays "java/lang/IllegalArgumentException" "java/lang/Throwable" "stackTrace" "[Ljava/lang/StackTraceElement;") ∈ lw_all := lw_g (lw_at lw_m6 141 rfl) rfl
theorem q1696 : (Jvm.Cond.lays "java/lang/IllegalArgumentException" "java/lang/Throwable" "suppressedExceptions" "Ljava/util/List;") ∈ lw_all := lw_g (lw_at lw_m6 142 rfl) rfl
theorem q1697 : (Jvm.Cond.lays "java/lang/IllegalArgumentException" "java/lang/Throwable" "detailMessage" "Ljava/lang/String;") ∈ lw_all := lw_g (lw_at lw_m6 143 rfl) rfl
theorem q1698 : (Jvm.Cond.lays "java/lang/IllegalArgumentException" "java/lang/Throwable" "backtrace" "Ljava/lang/Object;") ∈ lw_all := lw_g (lw_at lw_m6 144 rfl) rfl
theorem q1700 : (Jvm.Cond.instanceMethod ({ cls := "java/lang/IllegalArgumentException", name := "<init>", desc := "()V" } : Jvm.MethodName)) ∈ lw_all := lw_g (lw_at lw_m6 146 rfl) rfl
theorem q1701 : (Jvm.Cond.code ({ cls := "java/lang/IllegalArgumentException", name := "<init>", desc := "()V" } : Jvm.MethodName) prog_34_method_1_code (1 : Nat) (Option.none : Option Jvm.ClassFile.FieldType)) ∈ lw_all := lw_g (lw_at lw_m6 147 rfl) rfl
theorem q1702 : (Jvm.Cond.methodLink "java/lang/IllegalArgumentException" (1 : Nat) ({ cls := "java/lang/RuntimeException", name := "<init>", desc := "()V" } : Jvm.MethodName)) ∈ lw_all := lw_g (lw_at lw_m6 148 rfl) rfl
theorem q1703 : (Jvm.Cond.lays "java/lang/IllegalArgumentException" "java/lang/Throwable" "depth" "I") ∈ lw_all := lw_g (lw_at lw_m6 149 rfl) rfl
theorem q1704 : (Jvm.Cond.superclass "java/lang/IllegalArgumentException" "java/lang/RuntimeException") ∈ lw_all := lw_g (lw_at lw_m6 150 rfl) rfl
theorem in_J6 : ∀ w ∈ wsJ60, w ∈ lw_all := lw_in wsJ60 [1694, 1695, 1696, 1697, 1698, 1703] (by decide +kernel) (by decide +kernel)
/-! java/lang/StringLatin1 -/
def RJ7 : String := "java/lang/StringLatin1"
abbrev cJ7_charAt : ByteArray := prog_40_method_2_code
def yJ7_charAt : MethodName := ⟨RJ7, "charAt", "([BI)C"⟩
theorem q387 : (Jvm.Cond.initialized "java/lang/StringLatin1") ∈ lw_all := lw_g (lw_at lw_m1 33 rfl) rfl
theorem q1786 : (Jvm.Cond.static ({ cls := "java/lang/StringLatin1", name := "charAt", desc := "([BI)C" } : Jvm.MethodName)) ∈ lw_all := lw_g (lw_at lw_m6 232 rfl) rfl
theorem q1787 : (Jvm.Cond.code ({ cls := "java/lang/StringLatin1", name := "charAt", desc := "([BI)C" } : Jvm.MethodName) prog_40_method_2_code (2 : Nat) (Option.some Jvm.ClassFile.FieldType.char)) ∈ lw_all := lw_g (lw_at lw_m6 233 rfl) rfl
theorem q1788 : (Jvm.Cond.methodLink "java/lang/StringLatin1" (9 : Nat) ({ cls := "java/lang/String", name := "checkIndex", desc := "(II)V" } : Jvm.MethodName)) ∈ lw_all := lw_g (lw_at lw_m6 234 rfl) rfl
/-! jdk/internal/util/Preconditions -/
def RJ8 : String := "jdk/internal/util/Preconditions"
abbrev cJ8_checkIndex : ByteArray := prog_46_method_11_code
def yJ8_checkIndex : MethodName := ⟨RJ8, "checkIndex", "(IILjava/util/function/BiFunction;)I"⟩
theorem q388 : (Jvm.Cond.initialized "jdk/internal/util/Preconditions") ∈ lw_all := lw_g (lw_at lw_m1 34 rfl) rfl
theorem q1792 : (Jvm.Cond.laysStatic "jdk/internal/util/Preconditions" "SIOOBE_FORMATTER" "Ljava/util/function/BiFunction;") ∈ lw_tbl := lw_at lw_m6 238 rfl
theorem q1794 : (Jvm.Cond.static ({ cls := "jdk/internal/util/Preconditions", name := "checkIndex", desc := "(IILjava/util/function/BiFunction;)I" } : Jvm.MethodName)) ∈ lw_all := lw_g (lw_at lw_m7 0 rfl) rfl
theorem q1795 : (Jvm.Cond.code ({ cls := "jdk/internal/util/Preconditions", name := "checkIndex", desc := "(IILjava/util/function/BiFunction;)I" } : Jvm.MethodName) prog_46_method_11_code (3 : Nat) (Option.some Jvm.ClassFile.FieldType.int)) ∈ lw_all := lw_g (lw_at lw_m7 1 rfl) rfl
/-! java/lang/StringUTF16 -/
def RJ9 : String := "java/lang/StringUTF16"
abbrev cJ9_charAt : ByteArray := prog_41_method_83_code
def yJ9_charAt : MethodName := ⟨RJ9, "charAt", "([BI)C"⟩
abbrev cJ9_checkIndex : ByteArray := prog_41_method_91_code
def yJ9_checkIndex : MethodName := ⟨RJ9, "checkIndex", "(I[B)V"⟩
abbrev cJ9_length : ByteArray := prog_41_method_6_code
def yJ9_length : MethodName := ⟨RJ9, "length", "([B)I"⟩
abbrev cJ9_getChar : ByteArray := prog_41_method_5_code
def yJ9_getChar : MethodName := ⟨RJ9, "getChar", "([BI)C"⟩
theorem q389 : (Jvm.Cond.initialized "java/lang/StringUTF16") ∈ lw_all := lw_g (lw_at lw_m1 35 rfl) rfl
theorem q1797 : (Jvm.Cond.static ({ cls := "java/lang/StringUTF16", name := "charAt", desc := "([BI)C" } : Jvm.MethodName)) ∈ lw_all := lw_g (lw_at lw_m7 3 rfl) rfl
theorem q1798 : (Jvm.Cond.code ({ cls := "java/lang/StringUTF16", name := "charAt", desc := "([BI)C" } : Jvm.MethodName) prog_41_method_83_code (2 : Nat) (Option.some Jvm.ClassFile.FieldType.char)) ∈ lw_all := lw_g (lw_at lw_m7 4 rfl) rfl
theorem q1799 : (Jvm.Cond.methodLink "java/lang/StringUTF16" (67 : Nat) ({ cls := "java/lang/StringUTF16", name := "checkIndex", desc := "(I[B)V" } : Jvm.MethodName)) ∈ lw_all := lw_g (lw_at lw_m7 5 rfl) rfl
theorem q1800 : (Jvm.Cond.static ({ cls := "java/lang/StringUTF16", name := "checkIndex", desc := "(I[B)V" } : Jvm.MethodName)) ∈ lw_all := lw_g (lw_at lw_m7 6 rfl) rfl
theorem q1801 : (Jvm.Cond.code ({ cls := "java/lang/StringUTF16", name := "checkIndex", desc := "(I[B)V" } : Jvm.MethodName) prog_41_method_91_code (2 : Nat) (Option.none : Option Jvm.ClassFile.FieldType)) ∈ lw_all := lw_g (lw_at lw_m7 7 rfl) rfl
theorem q1802 : (Jvm.Cond.methodLink "java/lang/StringUTF16" (48 : Nat) ({ cls := "java/lang/StringUTF16", name := "length", desc := "([B)I" } : Jvm.MethodName)) ∈ lw_all := lw_g (lw_at lw_m7 8 rfl) rfl
theorem q1803 : (Jvm.Cond.static ({ cls := "java/lang/StringUTF16", name := "length", desc := "([B)I" } : Jvm.MethodName)) ∈ lw_all := lw_g (lw_at lw_m7 9 rfl) rfl
theorem q1804 : (Jvm.Cond.code ({ cls := "java/lang/StringUTF16", name := "length", desc := "([B)I" } : Jvm.MethodName) prog_41_method_6_code (1 : Nat) (Option.some Jvm.ClassFile.FieldType.int)) ∈ lw_all := lw_g (lw_at lw_m7 10 rfl) rfl
theorem q1805 : (Jvm.Cond.methodLink "java/lang/StringUTF16" (414 : Nat) ({ cls := "java/lang/String", name := "checkIndex", desc := "(II)V" } : Jvm.MethodName)) ∈ lw_all := lw_g (lw_at lw_m7 11 rfl) rfl
theorem q1806 : (Jvm.Cond.methodLink "java/lang/StringUTF16" (71 : Nat) ({ cls := "java/lang/StringUTF16", name := "getChar", desc := "([BI)C" } : Jvm.MethodName)) ∈ lw_all := lw_g (lw_at lw_m7 12 rfl) rfl
theorem q1807 : (Jvm.Cond.static ({ cls := "java/lang/StringUTF16", name := "getChar", desc := "([BI)C" } : Jvm.MethodName)) ∈ lw_all := lw_g (lw_at lw_m7 13 rfl) rfl
theorem q1808 : (Jvm.Cond.code ({ cls := "java/lang/StringUTF16", name := "getChar", desc := "([BI)C" } : Jvm.MethodName) prog_41_method_5_code (2 : Nat) (Option.some Jvm.ClassFile.FieldType.char)) ∈ lw_all := lw_g (lw_at lw_m7 14 rfl) rfl
theorem q1809 : (Jvm.Cond.fieldLink "java/lang/StringUTF16" (44 : Nat) "java/lang/StringUTF16" "$assertionsDisabled" "Z") ∈ lw_all := lw_g (lw_at lw_m7 15 rfl) rfl
theorem q1810 : (Jvm.Cond.laysStatic "java/lang/StringUTF16" "$assertionsDisabled" "Z") ∈ lw_tbl := lw_at lw_m7 16 rfl
theorem q1811 : (Jvm.Cond.fieldLink "java/lang/StringUTF16" (59 : Nat) "java/lang/StringUTF16" "HI_BYTE_SHIFT" "I") ∈ lw_all := lw_g (lw_at lw_m7 17 rfl) rfl
theorem q1812 : (Jvm.Cond.laysStatic "java/lang/StringUTF16" "HI_BYTE_SHIFT" "I") ∈ lw_tbl := lw_at lw_m7 18 rfl
theorem q1813 : (Jvm.Cond.fieldLink "java/lang/StringUTF16" (63 : Nat) "java/lang/StringUTF16" "LO_BYTE_SHIFT" "I") ∈ lw_all := lw_g (lw_at lw_m7 19 rfl) rfl
theorem q1814 : (Jvm.Cond.laysStatic "java/lang/StringUTF16" "LO_BYTE_SHIFT" "I") ∈ lw_tbl := lw_at lw_m7 20 rfl
/-! java/lang/UnsupportedOperationException -/
def RJ10 : String := "java/lang/UnsupportedOperationException"
def TJ10 : u_T := fun k => match k with
  | 0 => ("java/lang/Throwable", "cause", "Ljava/lang/Throwable;", false)
  | 1 => ("java/lang/Throwable", "stackTrace", "[Ljava/lang/StackTraceElement;", false)
  | 2 => ("java/lang/Throwable", "suppressedExceptions", "Ljava/util/List;", false)
  | 3 => ("java/lang/Throwable", "detailMessage", "Ljava/lang/String;", false)
  | 4 => ("java/lang/Throwable", "backtrace", "Ljava/lang/Object;", false)
  | _ => ("java/lang/Throwable", "depth", "I", false)
def tyJ10 : Nat → FieldType := fun k => match k with
  | 0 => .object "java/lang/Throwable"
  | 1 => .array (.object "java/lang/StackTraceElement")
  | 2 => .object "java/util/List"
  | 3 => .object "java/lang/String"
  | 4 => .object "java/lang/Object"
  | _ => .int
abbrev wsJ100 : List Cond := u_ws RJ10 TJ10 6
theorem nmJ10 : ∀ a, a < 6 → ∀ b, b < 6 → a ≠ b → (TJ10 a).2.1 ≠ (TJ10 b).2.1 := by decide +kernel
theorem tyJ10_ok : ∀ k, k < 6 → parseFieldDescriptor (TJ10 k).2.2.1 = some (tyJ10 k) := by decide +kernel
abbrev cJ10_init : ByteArray := prog_44_method_3_code
def yJ10_init : MethodName := ⟨RJ10, "<init>", "(Ljava/lang/String;Ljava/lang/Throwable;)V"⟩
abbrev cJ10_init_2 : ByteArray := prog_44_method_1_code
def yJ10_init_2 : MethodName := ⟨RJ10, "<init>", "()V"⟩
theorem q390 : (Jvm.Cond.initialized "java/lang/UnsupportedOperationException") ∈ lw_all := lw_g (lw_at lw_m1 36 rfl) rfl
theorem q1597 : (Jvm.Cond.selects "java/lang/UnsupportedOperationException" ({ cls := "java/lang/Throwable", name := "fillInStackTrace", desc := "()Ljava/lang/Throwable;" } : Jvm.MethodName) ({ cls := "java/lang/Throwable", name := "fillInStackTrace", desc := "()Ljava/lang/Throwable;" } : Jvm.MethodName)) ∈ lw_all := lw_g (lw_at lw_m6 43 rfl) rfl
theorem q1829 : (Jvm.Cond.declares ({ cls := "java/lang/UnsupportedOperationException", name := "<init>", desc := "()V" } : Jvm.MethodName)) ∈ lw_tbl := lw_at lw_m7 35 rfl
theorem q1830 : (Jvm.Cond.declares ({ cls := "java/lang/UnsupportedOperationException", name := "<init>", desc := "(Ljava/lang/String;)V" } : Jvm.MethodName)) ∈ lw_tbl := lw_at lw_m7 36 rfl
theorem q1841 : (Jvm.Cond.instanceMethod ({ cls := "java/lang/UnsupportedOperationException", name := "<init>", desc := "(Ljava/lang/String;Ljava/lang/Throwable;)V" } : Jvm.MethodName)) ∈ lw_all := lw_g (lw_at lw_m7 47 rfl) rfl
theorem q1842 : (Jvm.Cond.code ({ cls := "java/lang/UnsupportedOperationException", name := "<init>", desc := "(Ljava/lang/String;Ljava/lang/Throwable;)V" } : Jvm.MethodName) prog_44_method_3_code (3 : Nat) (Option.none : Option Jvm.ClassFile.FieldType)) ∈ lw_all := lw_g (lw_at lw_m7 48 rfl) rfl
theorem q1843 : (Jvm.Cond.methodLink "java/lang/UnsupportedOperationException" (10 : Nat) ({ cls := "java/lang/RuntimeException", name := "<init>", desc := "(Ljava/lang/String;Ljava/lang/Throwable;)V" } : Jvm.MethodName)) ∈ lw_all := lw_g (lw_at lw_m7 49 rfl) rfl
theorem q1883 : (Jvm.Cond.instantiable "java/lang/UnsupportedOperationException" (6 : Nat)) ∈ lw_all := lw_g (lw_at lw_m7 89 rfl) rfl
theorem q1884 : (Jvm.Cond.castable "java/lang/UnsupportedOperationException" "java/lang/UnsupportedOperationException") ∈ lw_tbl := lw_at lw_m7 90 rfl
theorem q1885 : (Jvm.Cond.selects "java/lang/UnsupportedOperationException" ({ cls := "java/lang/Throwable", name := "fillInStackTrace", desc := "(I)Ljava/lang/Throwable;" } : Jvm.MethodName) ({ cls := "java/lang/Throwable", name := "fillInStackTrace", desc := "(I)Ljava/lang/Throwable;" } : Jvm.MethodName)) ∈ lw_all := lw_g (lw_at lw_m7 91 rfl) rfl
theorem q1886 : (Jvm.Cond.lays "java/lang/UnsupportedOperationException" "java/lang/Throwable" "cause" "Ljava/lang/Throwable;") ∈ lw_all := lw_g (lw_at lw_m7 92 rfl) rfl
theorem q1887 : (Jvm.Cond.lays "java/lang/UnsupportedOperationException" "java/lang/Throwable" "stackTrace" "[Ljava/lang/StackTraceElement;") ∈ lw_all := lw_g (lw_at lw_m7 93 rfl) rfl
theorem q1888 : (Jvm.Cond.lays "java/lang/UnsupportedOperationException" "java/lang/Throwable" "suppressedExceptions" "Ljava/util/List;") ∈ lw_all := lw_g (lw_at lw_m7 94 rfl) rfl
theorem q1889 : (Jvm.Cond.lays "java/lang/UnsupportedOperationException" "java/lang/Throwable" "detailMessage" "Ljava/lang/String;") ∈ lw_all := lw_g (lw_at lw_m7 95 rfl) rfl
theorem q1890 : (Jvm.Cond.lays "java/lang/UnsupportedOperationException" "java/lang/Throwable" "backtrace" "Ljava/lang/Object;") ∈ lw_all := lw_g (lw_at lw_m7 96 rfl) rfl
theorem q1892 : (Jvm.Cond.instanceMethod ({ cls := "java/lang/UnsupportedOperationException", name := "<init>", desc := "()V" } : Jvm.MethodName)) ∈ lw_all := lw_g (lw_at lw_m7 98 rfl) rfl
theorem q1893 : (Jvm.Cond.code ({ cls := "java/lang/UnsupportedOperationException", name := "<init>", desc := "()V" } : Jvm.MethodName) prog_44_method_1_code (1 : Nat) (Option.none : Option Jvm.ClassFile.FieldType)) ∈ lw_all := lw_g (lw_at lw_m7 99 rfl) rfl
theorem q1894 : (Jvm.Cond.methodLink "java/lang/UnsupportedOperationException" (1 : Nat) ({ cls := "java/lang/RuntimeException", name := "<init>", desc := "()V" } : Jvm.MethodName)) ∈ lw_all := lw_g (lw_at lw_m7 100 rfl) rfl
theorem q1895 : (Jvm.Cond.lays "java/lang/UnsupportedOperationException" "java/lang/Throwable" "depth" "I") ∈ lw_all := lw_g (lw_at lw_m7 101 rfl) rfl
theorem q1896 : (Jvm.Cond.superclass "java/lang/UnsupportedOperationException" "java/lang/RuntimeException") ∈ lw_all := lw_g (lw_at lw_m7 102 rfl) rfl
theorem in_J10 : ∀ w ∈ wsJ100, w ∈ lw_all := lw_in wsJ100 [1886, 1887, 1888, 1889, 1890, 1895] (by decide +kernel) (by decide +kernel)
/-! java/lang/IllegalStateException -/
def RJ11 : String := "java/lang/IllegalStateException"
def TJ11 : u_T := fun k => match k with
  | 0 => ("java/lang/Throwable", "cause", "Ljava/lang/Throwable;", false)
  | 1 => ("java/lang/Throwable", "stackTrace", "[Ljava/lang/StackTraceElement;", false)
  | 2 => ("java/lang/Throwable", "suppressedExceptions", "Ljava/util/List;", false)
  | 3 => ("java/lang/Throwable", "detailMessage", "Ljava/lang/String;", false)
  | 4 => ("java/lang/Throwable", "backtrace", "Ljava/lang/Object;", false)
  | _ => ("java/lang/Throwable", "depth", "I", false)
def tyJ11 : Nat → FieldType := fun k => match k with
  | 0 => .object "java/lang/Throwable"
  | 1 => .array (.object "java/lang/StackTraceElement")
  | 2 => .object "java/util/List"
  | 3 => .object "java/lang/String"
  | 4 => .object "java/lang/Object"
  | _ => .int
abbrev wsJ110 : List Cond := u_ws RJ11 TJ11 6
theorem nmJ11 : ∀ a, a < 6 → ∀ b, b < 6 → a ≠ b → (TJ11 a).2.1 ≠ (TJ11 b).2.1 := by decide +kernel
theorem tyJ11_ok : ∀ k, k < 6 → parseFieldDescriptor (TJ11 k).2.2.1 = some (tyJ11 k) := by decide +kernel
abbrev cJ11_init : ByteArray := prog_35_method_1_code
def yJ11_init : MethodName := ⟨RJ11, "<init>", "()V"⟩
theorem q394 : (Jvm.Cond.initialized "java/lang/IllegalStateException") ∈ lw_all := lw_g (lw_at lw_m1 40 rfl) rfl
theorem q1595 : (Jvm.Cond.selects "java/lang/IllegalStateException" ({ cls := "java/lang/Throwable", name := "fillInStackTrace", desc := "()Ljava/lang/Throwable;" } : Jvm.MethodName) ({ cls := "java/lang/Throwable", name := "fillInStackTrace", desc := "()Ljava/lang/Throwable;" } : Jvm.MethodName)) ∈ lw_all := lw_g (lw_at lw_m6 41 rfl) rfl
theorem q2246 : (Jvm.Cond.instantiable "java/lang/IllegalStateException" (6 : Nat)) ∈ lw_all := lw_g (lw_at lw_m8 212 rfl) rfl
theorem q2247 : (Jvm.Cond.castable "java/lang/IllegalStateException" "java/lang/IllegalStateException") ∈ lw_tbl := lw_at lw_m8 213 rfl
theorem q2248 : (Jvm.Cond.selects "java/lang/IllegalStateException" ({ cls := "java/lang/Throwable", name := "fillInStackTrace", desc := "(I)Ljava/lang/Throwable;" } : Jvm.MethodName) ({ cls := "java/lang/Throwable", name := "fillInStackTrace", desc := "(I)Ljava/lang/Throwable;" } : Jvm.MethodName)) ∈ lw_all := lw_g (lw_at lw_m8 214 rfl) rfl
theorem q2249 : (Jvm.Cond.lays "java/lang/IllegalStateException" "java/lang/Throwable" "cause" "Ljava/lang/Throwable;") ∈ lw_all := lw_g (lw_at lw_m8 215 rfl) rfl
theorem q2250 : (Jvm.Cond.lays "java/lang/IllegalStateException" "java/lang/Throwable" "stackTrace" "[Ljava/lang/StackTraceElement;") ∈ lw_all := lw_g (lw_at lw_m8 216 rfl) rfl
theorem q2251 : (Jvm.Cond.lays "java/lang/IllegalStateException" "java/lang/Throwable" "suppressedExceptions" "Ljava/util/List;") ∈ lw_all := lw_g (lw_at lw_m8 217 rfl) rfl
theorem q2252 : (Jvm.Cond.lays "java/lang/IllegalStateException" "java/lang/Throwable" "detailMessage" "Ljava/lang/String;") ∈ lw_all := lw_g (lw_at lw_m8 218 rfl) rfl
theorem q2253 : (Jvm.Cond.lays "java/lang/IllegalStateException" "java/lang/Throwable" "backtrace" "Ljava/lang/Object;") ∈ lw_all := lw_g (lw_at lw_m8 219 rfl) rfl
theorem q2255 : (Jvm.Cond.instanceMethod ({ cls := "java/lang/IllegalStateException", name := "<init>", desc := "()V" } : Jvm.MethodName)) ∈ lw_all := lw_g (lw_at lw_m8 221 rfl) rfl
theorem q2256 : (Jvm.Cond.code ({ cls := "java/lang/IllegalStateException", name := "<init>", desc := "()V" } : Jvm.MethodName) prog_35_method_1_code (1 : Nat) (Option.none : Option Jvm.ClassFile.FieldType)) ∈ lw_all := lw_g (lw_at lw_m8 222 rfl) rfl
theorem q2257 : (Jvm.Cond.methodLink "java/lang/IllegalStateException" (1 : Nat) ({ cls := "java/lang/RuntimeException", name := "<init>", desc := "()V" } : Jvm.MethodName)) ∈ lw_all := lw_g (lw_at lw_m8 223 rfl) rfl
theorem q2258 : (Jvm.Cond.lays "java/lang/IllegalStateException" "java/lang/Throwable" "depth" "I") ∈ lw_all := lw_g (lw_at lw_m8 224 rfl) rfl
theorem q2259 : (Jvm.Cond.superclass "java/lang/IllegalStateException" "java/lang/RuntimeException") ∈ lw_all := lw_g (lw_at lw_m8 225 rfl) rfl
theorem in_J11 : ∀ w ∈ wsJ110, w ∈ lw_all := lw_in wsJ110 [2249, 2250, 2251, 2252, 2253, 2258] (by decide +kernel) (by decide +kernel)
/-! java/lang/ArithmeticException -/
def RJ12 : String := "java/lang/ArithmeticException"
def TJ12 : u_T := fun k => match k with
  | 0 => ("java/lang/Throwable", "backtrace", "Ljava/lang/Object;", false)
  | 1 => ("java/lang/Throwable", "detailMessage", "Ljava/lang/String;", false)
  | 2 => ("java/lang/Throwable", "cause", "Ljava/lang/Throwable;", false)
  | 3 => ("java/lang/Throwable", "stackTrace", "[Ljava/lang/StackTraceElement;", false)
  | 4 => ("java/lang/Throwable", "depth", "I", false)
  | _ => ("java/lang/Throwable", "suppressedExceptions", "Ljava/util/List;", false)
def tyJ12 : Nat → FieldType := fun k => match k with
  | 0 => .object "java/lang/Object"
  | 1 => .object "java/lang/String"
  | 2 => .object "java/lang/Throwable"
  | 3 => .array (.object "java/lang/StackTraceElement")
  | 4 => .int
  | _ => .object "java/util/List"
abbrev wsJ120 : List Cond := u_ws RJ12 TJ12 6
theorem nmJ12 : ∀ a, a < 6 → ∀ b, b < 6 → a ≠ b → (TJ12 a).2.1 ≠ (TJ12 b).2.1 := by decide +kernel
theorem tyJ12_ok : ∀ k, k < 6 → parseFieldDescriptor (TJ12 k).2.2.1 = some (tyJ12 k) := by decide +kernel
abbrev cJ12_init : ByteArray := prog_31_method_2_code
def yJ12_init : MethodName := ⟨RJ12, "<init>", "(Ljava/lang/String;)V"⟩
abbrev cJ12_init_2 : ByteArray := prog_31_method_1_code
def yJ12_init_2 : MethodName := ⟨RJ12, "<init>", "()V"⟩
theorem q395 : (Jvm.Cond.initialized "java/lang/ArithmeticException") ∈ lw_all := lw_g (lw_at lw_m1 41 rfl) rfl
theorem q1592 : (Jvm.Cond.selects "java/lang/ArithmeticException" ({ cls := "java/lang/Throwable", name := "fillInStackTrace", desc := "()Ljava/lang/Throwable;" } : Jvm.MethodName) ({ cls := "java/lang/Throwable", name := "fillInStackTrace", desc := "()Ljava/lang/Throwable;" } : Jvm.MethodName)) ∈ lw_all := lw_g (lw_at lw_m6 38 rfl) rfl
theorem q2264 : (Jvm.Cond.instantiable "java/lang/ArithmeticException" (6 : Nat)) ∈ lw_all := lw_g (lw_at lw_m8 230 rfl) rfl
theorem q2265 : (Jvm.Cond.instanceMethod ({ cls := "java/lang/ArithmeticException", name := "<init>", desc := "(Ljava/lang/String;)V" } : Jvm.MethodName)) ∈ lw_all := lw_g (lw_at lw_m8 231 rfl) rfl
theorem q2266 : (Jvm.Cond.code ({ cls := "java/lang/ArithmeticException", name := "<init>", desc := "(Ljava/lang/String;)V" } : Jvm.MethodName) prog_31_method_2_code (2 : Nat) (Option.none : Option Jvm.ClassFile.FieldType)) ∈ lw_all := lw_g (lw_at lw_m8 232 rfl) rfl
theorem q2267 : (Jvm.Cond.methodLink "java/lang/ArithmeticException" (7 : Nat) ({ cls := "java/lang/RuntimeException", name := "<init>", desc := "(Ljava/lang/String;)V" } : Jvm.MethodName)) ∈ lw_all := lw_g (lw_at lw_m8 233 rfl) rfl
theorem q2268 : (Jvm.Cond.lays "java/lang/ArithmeticException" "java/lang/Throwable" "backtrace" "Ljava/lang/Object;") ∈ lw_all := lw_g (lw_at lw_m8 234 rfl) rfl
theorem q2269 : (Jvm.Cond.lays "java/lang/ArithmeticException" "java/lang/Throwable" "detailMessage" "Ljava/lang/String;") ∈ lw_all := lw_g (lw_at lw_m8 235 rfl) rfl
theorem q2270 : (Jvm.Cond.lays "java/lang/ArithmeticException" "java/lang/Throwable" "cause" "Ljava/lang/Throwable;") ∈ lw_all := lw_g (lw_at lw_m8 236 rfl) rfl
theorem q2271 : (Jvm.Cond.lays "java/lang/ArithmeticException" "java/lang/Throwable" "stackTrace" "[Ljava/lang/StackTraceElement;") ∈ lw_all := lw_g (lw_at lw_m8 237 rfl) rfl
theorem q2272 : (Jvm.Cond.lays "java/lang/ArithmeticException" "java/lang/Throwable" "depth" "I") ∈ lw_all := lw_g (lw_at lw_m8 238 rfl) rfl
theorem q2273 : (Jvm.Cond.lays "java/lang/ArithmeticException" "java/lang/Throwable" "suppressedExceptions" "Ljava/util/List;") ∈ lw_all := lw_g (lw_at lw_m8 239 rfl) rfl
theorem q2274 : (Jvm.Cond.superclass "java/lang/ArithmeticException" "java/lang/RuntimeException") ∈ lw_all := lw_g (lw_at lw_m9 0 rfl) rfl
theorem q2275 : (Jvm.Cond.castable "java/lang/ArithmeticException" "java/lang/ArithmeticException") ∈ lw_tbl := lw_at lw_m9 1 rfl
theorem q2276 : (Jvm.Cond.selects "java/lang/ArithmeticException" ({ cls := "java/lang/Throwable", name := "fillInStackTrace", desc := "(I)Ljava/lang/Throwable;" } : Jvm.MethodName) ({ cls := "java/lang/Throwable", name := "fillInStackTrace", desc := "(I)Ljava/lang/Throwable;" } : Jvm.MethodName)) ∈ lw_all := lw_g (lw_at lw_m9 2 rfl) rfl
theorem q3017 : (Jvm.Cond.instanceMethod ({ cls := "java/lang/ArithmeticException", name := "<init>", desc := "()V" } : Jvm.MethodName)) ∈ lw_all := lw_g (lw_at lw_m12 23 rfl) rfl
theorem q3018 : (Jvm.Cond.code ({ cls := "java/lang/ArithmeticException", name := "<init>", desc := "()V" } : Jvm.MethodName) prog_31_method_1_code (1 : Nat) (Option.none : Option Jvm.ClassFile.FieldType)) ∈ lw_all := lw_g (lw_at lw_m12 24 rfl) rfl
theorem q3019 : (Jvm.Cond.methodLink "java/lang/ArithmeticException" (1 : Nat) ({ cls := "java/lang/RuntimeException", name := "<init>", desc := "()V" } : Jvm.MethodName)) ∈ lw_all := lw_g (lw_at lw_m12 25 rfl) rfl
theorem in_J12 : ∀ w ∈ wsJ120, w ∈ lw_all := lw_in wsJ120 [2268, 2269, 2270, 2271, 2272, 2273] (by decide +kernel) (by decide +kernel)
/-! java/lang/Math -/
def RJ13 : String := "java/lang/Math"
abbrev cJ13_min : ByteArray := prog_37_method_69_code
def yJ13_min : MethodName := ⟨RJ13, "min", "(II)I"⟩
abbrev cJ13_max : ByteArray := prog_37_method_65_code
def yJ13_max : MethodName := ⟨RJ13, "max", "(II)I"⟩
abbrev cJ13_max_2 : ByteArray := prog_37_method_66_code
def yJ13_max_2 : MethodName := ⟨RJ13, "max", "(JJ)J"⟩
abbrev cJ13_abs : ByteArray := prog_37_method_59_code
def yJ13_abs : MethodName := ⟨RJ13, "abs", "(I)I"⟩
abbrev cJ13_min_2 : ByteArray := prog_37_method_70_code
def yJ13_min_2 : MethodName := ⟨RJ13, "min", "(JJ)J"⟩
theorem q398 : (Jvm.Cond.initialized "java/lang/Math") ∈ lw_all := lw_g (lw_at lw_m1 44 rfl) rfl
theorem q4811 : (Jvm.Cond.static ({ cls := "java/lang/Math", name := "min", desc := "(II)I" } : Jvm.MethodName)) ∈ lw_all := lw_g (lw_at lw_m19 137 rfl) rfl
theorem q4812 : (Jvm.Cond.code ({ cls := "java/lang/Math", name := "min", desc := "(II)I" } : Jvm.MethodName) prog_37_method_69_code (2 : Nat) (Option.some Jvm.ClassFile.FieldType.int)) ∈ lw_all := lw_g (lw_at lw_m19 138 rfl) rfl
theorem q4859 : (Jvm.Cond.static ({ cls := "java/lang/Math", name := "max", desc := "(II)I" } : Jvm.MethodName)) ∈ lw_all := lw_g (lw_at lw_m19 185 rfl) rfl
theorem q4860 : (Jvm.Cond.code ({ cls := "java/lang/Math", name := "max", desc := "(II)I" } : Jvm.MethodName) prog_37_method_65_code (2 : Nat) (Option.some Jvm.ClassFile.FieldType.int)) ∈ lw_all := lw_g (lw_at lw_m19 186 rfl) rfl
theorem q4944 : (Jvm.Cond.static ({ cls := "java/lang/Math", name := "max", desc := "(JJ)J" } : Jvm.MethodName)) ∈ lw_all := lw_g (lw_at lw_m20 30 rfl) rfl
theorem q4945 : (Jvm.Cond.code ({ cls := "java/lang/Math", name := "max", desc := "(JJ)J" } : Jvm.MethodName) prog_37_method_66_code (4 : Nat) (Option.some Jvm.ClassFile.FieldType.long)) ∈ lw_all := lw_g (lw_at lw_m20 31 rfl) rfl
theorem q4983 : (Jvm.Cond.static ({ cls := "java/lang/Math", name := "abs", desc := "(I)I" } : Jvm.MethodName)) ∈ lw_all := lw_g (lw_at lw_m20 69 rfl) rfl
theorem q4984 : (Jvm.Cond.code ({ cls := "java/lang/Math", name := "abs", desc := "(I)I" } : Jvm.MethodName) prog_37_method_59_code (1 : Nat) (Option.some Jvm.ClassFile.FieldType.int)) ∈ lw_all := lw_g (lw_at lw_m20 70 rfl) rfl
theorem q5026 : (Jvm.Cond.static ({ cls := "java/lang/Math", name := "min", desc := "(JJ)J" } : Jvm.MethodName)) ∈ lw_all := lw_g (lw_at lw_m20 112 rfl) rfl
theorem q5027 : (Jvm.Cond.code ({ cls := "java/lang/Math", name := "min", desc := "(JJ)J" } : Jvm.MethodName) prog_37_method_70_code (4 : Nat) (Option.some Jvm.ClassFile.FieldType.long)) ∈ lw_all := lw_g (lw_at lw_m20 113 rfl) rfl
/-! java/util/NoSuchElementException -/
def RJ14 : String := "java/util/NoSuchElementException"
def TJ14 : u_T := fun k => match k with
  | 0 => ("java/lang/Throwable", "cause", "Ljava/lang/Throwable;", false)
  | 1 => ("java/lang/Throwable", "stackTrace", "[Ljava/lang/StackTraceElement;", false)
  | 2 => ("java/lang/Throwable", "suppressedExceptions", "Ljava/util/List;", false)
  | 3 => ("java/lang/Throwable", "detailMessage", "Ljava/lang/String;", false)
  | 4 => ("java/lang/Throwable", "backtrace", "Ljava/lang/Object;", false)
  | _ => ("java/lang/Throwable", "depth", "I", false)
def tyJ14 : Nat → FieldType := fun k => match k with
  | 0 => .object "java/lang/Throwable"
  | 1 => .array (.object "java/lang/StackTraceElement")
  | 2 => .object "java/util/List"
  | 3 => .object "java/lang/String"
  | 4 => .object "java/lang/Object"
  | _ => .int
abbrev wsJ140 : List Cond := u_ws RJ14 TJ14 6
theorem nmJ14 : ∀ a, a < 6 → ∀ b, b < 6 → a ≠ b → (TJ14 a).2.1 ≠ (TJ14 b).2.1 := by decide +kernel
theorem tyJ14_ok : ∀ k, k < 6 → parseFieldDescriptor (TJ14 k).2.2.1 = some (tyJ14 k) := by decide +kernel
abbrev cJ14_init : ByteArray := prog_45_method_1_code
def yJ14_init : MethodName := ⟨RJ14, "<init>", "()V"⟩
theorem q399 : (Jvm.Cond.initialized "java/util/NoSuchElementException") ∈ lw_all := lw_g (lw_at lw_m1 45 rfl) rfl
theorem q1598 : (Jvm.Cond.selects "java/util/NoSuchElementException" ({ cls := "java/lang/Throwable", name := "fillInStackTrace", desc := "()Ljava/lang/Throwable;" } : Jvm.MethodName) ({ cls := "java/lang/Throwable", name := "fillInStackTrace", desc := "()Ljava/lang/Throwable;" } : Jvm.MethodName)) ∈ lw_all := lw_g (lw_at lw_m6 44 rfl) rfl
theorem q3161 : (Jvm.Cond.instantiable "java/util/NoSuchElementException" (6 : Nat)) ∈ lw_all := lw_g (lw_at lw_m12 167 rfl) rfl
theorem q3162 : (Jvm.Cond.castable "java/util/NoSuchElementException" "java/util/NoSuchElementException") ∈ lw_tbl := lw_at lw_m12 168 rfl
theorem q3163 : (Jvm.Cond.selects "java/util/NoSuchElementException" ({ cls := "java/lang/Throwable", name := "fillInStackTrace", desc := "(I)Ljava/lang/Throwable;" } : Jvm.MethodName) ({ cls := "java/lang/Throwable", name := "fillInStackTrace", desc := "(I)Ljava/lang/Throwable;" } : Jvm.MethodName)) ∈ lw_all := lw_g (lw_at lw_m12 169 rfl) rfl
theorem q3164 : (Jvm.Cond.lays "java/util/NoSuchElementException" "java/lang/Throwable" "cause" "Ljava/lang/Throwable;") ∈ lw_all := lw_g (lw_at lw_m12 170 rfl) rfl
theorem q3165 : (Jvm.Cond.lays "java/util/NoSuchElementException" "java/lang/Throwable" "stackTrace" "[Ljava/lang/StackTraceElement;") ∈ lw_all := lw_g (lw_at lw_m12 171 rfl) rfl
theorem q3166 : (Jvm.Cond.lays "java/util/NoSuchElementException" "java/lang/Throwable" "suppressedExceptions" "Ljava/util/List;") ∈ lw_all := lw_g (lw_at lw_m12 172 rfl) rfl
theorem q3167 : (Jvm.Cond.lays "java/util/NoSuchElementException" "java/lang/Throwable" "detailMessage" "Ljava/lang/String;") ∈ lw_all := lw_g (lw_at lw_m12 173 rfl) rfl
theorem q3168 : (Jvm.Cond.lays "java/util/NoSuchElementException" "java/lang/Throwable" "backtrace" "Ljava/lang/Object;") ∈ lw_all := lw_g (lw_at lw_m12 174 rfl) rfl
theorem q3170 : (Jvm.Cond.instanceMethod ({ cls := "java/util/NoSuchElementException", name := "<init>", desc := "()V" } : Jvm.MethodName)) ∈ lw_all := lw_g (lw_at lw_m12 176 rfl) rfl
theorem q3171 : (Jvm.Cond.code ({ cls := "java/util/NoSuchElementException", name := "<init>", desc := "()V" } : Jvm.MethodName) prog_45_method_1_code (1 : Nat) (Option.none : Option Jvm.ClassFile.FieldType)) ∈ lw_all := lw_g (lw_at lw_m12 177 rfl) rfl
theorem q3172 : (Jvm.Cond.methodLink "java/util/NoSuchElementException" (1 : Nat) ({ cls := "java/lang/RuntimeException", name := "<init>", desc := "()V" } : Jvm.MethodName)) ∈ lw_all := lw_g (lw_at lw_m12 178 rfl) rfl
theorem q3173 : (Jvm.Cond.lays "java/util/NoSuchElementException" "java/lang/Throwable" "depth" "I") ∈ lw_all := lw_g (lw_at lw_m12 179 rfl) rfl
theorem q3174 : (Jvm.Cond.superclass "java/util/NoSuchElementException" "java/lang/RuntimeException") ∈ lw_all := lw_g (lw_at lw_m12 180 rfl) rfl
theorem in_J14 : ∀ w ∈ wsJ140, w ∈ lw_all := lw_in wsJ140 [3164, 3165, 3166, 3167, 3168, 3173] (by decide +kernel) (by decide +kernel)
/-! java/lang/Object -/
def RJ15 : String := "java/lang/Object"
abbrev cJ15_init : ByteArray := object_method_1_code
def yJ15_init : MethodName := ⟨RJ15, "<init>", "()V"⟩
theorem q406 : (Jvm.Cond.instanceMethod ({ cls := "java/lang/Object", name := "<init>", desc := "()V" } : Jvm.MethodName)) ∈ lw_all := lw_g (lw_at lw_m1 52 rfl) rfl
theorem q407 : (Jvm.Cond.code ({ cls := "java/lang/Object", name := "<init>", desc := "()V" } : Jvm.MethodName) object_method_1_code (1 : Nat) (Option.none : Option Jvm.ClassFile.FieldType)) ∈ lw_all := lw_g (lw_at lw_m1 53 rfl) rfl
/-! ScholarsPressLaw -/
def RX0 : String := "ScholarsPressLaw"
abbrev cX0_feed : ByteArray := method_3_code
def yX0_feed : MethodName := ⟨RX0, "feed", "(LScholarsPress;IIIII[J)I"⟩
abbrev cX0_end : ByteArray := method_4_code
def yX0_end : MethodName := ⟨RX0, "end", "(LScholarsPress;I[J)I"⟩
abbrev cX0_font : ByteArray := method_5_code
def yX0_font : MethodName := ⟨RX0, "font", "(LScholarsPress;[J)I"⟩
abbrev cX0_hyphens : ByteArray := method_6_code
def yX0_hyphens : MethodName := ⟨RX0, "hyphens", "(LScholarsPress;[J)I"⟩
abbrev cX0_style : ByteArray := method_7_code
def yX0_style : MethodName := ⟨RX0, "style", "(LScholarsPress;[J)I"⟩
abbrev cX0_source : ByteArray := method_8_code
def yX0_source : MethodName := ⟨RX0, "source", "(LScholarsPress;[J)I"⟩
abbrev cX0_change : ByteArray := method_9_code
def yX0_change : MethodName := ⟨RX0, "change", "(LScholarsPress;II[J)I"⟩
abbrev cX0_set : ByteArray := method_10_code
def yX0_set : MethodName := ⟨RX0, "set", "(LScholarsPress;I[J)I"⟩
abbrev cX0_element : ByteArray := method_11_code
def yX0_element : MethodName := ⟨RX0, "element", "(LScholarsPress;II[J)I"⟩
abbrev cX0_count : ByteArray := method_12_code
def yX0_count : MethodName := ⟨RX0, "count", "(LScholarsPress;I[J)I"⟩
abbrev cX0_line : ByteArray := method_13_code
def yX0_line : MethodName := ⟨RX0, "line", "(LScholarsPress;II[J)I"⟩
abbrev cX0_spot : ByteArray := method_14_code
def yX0_spot : MethodName := ⟨RX0, "spot", "(LScholarsPress;II[J)I"⟩
abbrev cX0_paragraph : ByteArray := method_15_code
def yX0_paragraph : MethodName := ⟨RX0, "paragraph", "(LScholarsPress;II[J)I"⟩
abbrev cX0_judge : ByteArray := method_16_code
def yX0_judge : MethodName := ⟨RX0, "judge", "(LScholarsPress;I[J)I"⟩
abbrev cX0_where : ByteArray := method_17_code
def yX0_where : MethodName := ⟨RX0, "where", "(LScholarsPress;I[J)I"⟩
abbrev cX0_note : ByteArray := method_18_code
def yX0_note : MethodName := ⟨RX0, "note", "(LScholarsPress;II[J)I"⟩
abbrev cX0_wavering : ByteArray := method_19_code
def yX0_wavering : MethodName := ⟨RX0, "wavering", "(LScholarsPress;I[J)I"⟩
abbrev cX0_print : ByteArray := method_20_code
def yX0_print : MethodName := ⟨RX0, "print", "(LScholarsPress;I[J)I"⟩
abbrev cX0_word : ByteArray := method_21_code
def yX0_word : MethodName := ⟨RX0, "word", "(LScholarsPress;I[J)I"⟩
theorem q354 : (Jvm.Cond.initialized "ScholarsPressLaw") ∈ lw_all := lw_g (lw_at lw_m1 0 rfl) rfl
theorem q400 : (Jvm.Cond.classLink "ScholarsPressLaw" (8 : Nat) "ScholarsPress") ∈ lw_all := lw_g (lw_at lw_m1 46 rfl) rfl
theorem q402 : (Jvm.Cond.methodLink "ScholarsPressLaw" (84 : Nat) ({ cls := "ScholarsPress", name := "<init>", desc := "()V" } : Jvm.MethodName)) ∈ lw_all := lw_g (lw_at lw_m1 48 rfl) rfl
theorem q1558 : (Jvm.Cond.methodLink "ScholarsPressLaw" (118 : Nat) ({ cls := "ScholarsPress", name := "place", desc := "()I" } : Jvm.MethodName)) ∈ lw_all := lw_g (lw_at lw_m6 4 rfl) rfl
theorem q1562 : (Jvm.Cond.methodLink "ScholarsPressLaw" (88 : Nat) ({ cls := "ScholarsPressLaw", name := "feed", desc := "(LScholarsPress;IIIII[J)I" } : Jvm.MethodName)) ∈ lw_all := lw_g (lw_at lw_m6 8 rfl) rfl
theorem q1563 : (Jvm.Cond.static ({ cls := "ScholarsPressLaw", name := "feed", desc := "(LScholarsPress;IIIII[J)I" } : Jvm.MethodName)) ∈ lw_all := lw_g (lw_at lw_m6 9 rfl) rfl
theorem q1564 : (Jvm.Cond.codeWith ({ cls := "ScholarsPressLaw", name := "feed", desc := "(LScholarsPress;IIIII[J)I" } : Jvm.MethodName) method_3_code (8 : Nat) (Option.some Jvm.ClassFile.FieldType.int) [((0 : Nat), (16 : Nat), (19 : Nat), (13 : Nat))]) ∈ lw_all := lw_g (lw_at lw_m6 10 rfl) rfl
theorem q1565 : (Jvm.Cond.classLink "ScholarsPressLaw" (13 : Nat) "java/lang/IndexOutOfBoundsException") ∈ lw_all := lw_g (lw_at lw_m6 11 rfl) rfl
theorem q1647 : (Jvm.Cond.methodLink "ScholarsPressLaw" (7 : Nat) ({ cls := "ScholarsPress", name := "feed", desc := "(IIIII)I" } : Jvm.MethodName)) ∈ lw_all := lw_g (lw_at lw_m6 93 rfl) rfl
theorem q1679 : (Jvm.Cond.methodLink "ScholarsPressLaw" (97 : Nat) ({ cls := "ScholarsPressLaw", name := "end", desc := "(LScholarsPress;I[J)I" } : Jvm.MethodName)) ∈ lw_all := lw_g (lw_at lw_m6 125 rfl) rfl
theorem q1680 : (Jvm.Cond.static ({ cls := "ScholarsPressLaw", name := "end", desc := "(LScholarsPress;I[J)I" } : Jvm.MethodName)) ∈ lw_all := lw_g (lw_at lw_m6 126 rfl) rfl
theorem q1681 : (Jvm.Cond.codeWith ({ cls := "ScholarsPressLaw", name := "end", desc := "(LScholarsPress;I[J)I" } : Jvm.MethodName) method_4_code (4 : Nat) (Option.some Jvm.ClassFile.FieldType.int) [((0 : Nat), (9 : Nat), (12 : Nat), (19 : Nat))]) ∈ lw_all := lw_g (lw_at lw_m6 127 rfl) rfl
theorem q1682 : (Jvm.Cond.classLink "ScholarsPressLaw" (19 : Nat) "java/lang/IllegalArgumentException") ∈ lw_all := lw_g (lw_at lw_m6 128 rfl) rfl
theorem q1683 : (Jvm.Cond.methodLink "ScholarsPressLaw" (15 : Nat) ({ cls := "ScholarsPress", name := "end", desc := "(I)I" } : Jvm.MethodName)) ∈ lw_all := lw_g (lw_at lw_m6 129 rfl) rfl
theorem q1705 : (Jvm.Cond.methodLink "ScholarsPressLaw" (101 : Nat) ({ cls := "ScholarsPressLaw", name := "font", desc := "(LScholarsPress;[J)I" } : Jvm.MethodName)) ∈ lw_all := lw_g (lw_at lw_m6 151 rfl) rfl
theorem q1706 : (Jvm.Cond.static ({ cls := "ScholarsPressLaw", name := "font", desc := "(LScholarsPress;[J)I" } : Jvm.MethodName)) ∈ lw_all := lw_g (lw_at lw_m6 152 rfl) rfl
theorem q1707 : (Jvm.Cond.codeWith ({ cls := "ScholarsPressLaw", name := "font", desc := "(LScholarsPress;[J)I" } : Jvm.MethodName) method_5_code (3 : Nat) (Option.some Jvm.ClassFile.FieldType.int) [((0 : Nat), (8 : Nat), (11 : Nat), (25 : Nat))]) ∈ lw_all := lw_g (lw_at lw_m6 153 rfl) rfl
theorem q1708 : (Jvm.Cond.classLink "ScholarsPressLaw" (25 : Nat) "java/lang/UnsupportedOperationException") ∈ lw_all := lw_g (lw_at lw_m6 154 rfl) rfl
theorem q1709 : (Jvm.Cond.methodLink "ScholarsPressLaw" (21 : Nat) ({ cls := "ScholarsPress", name := "font", desc := "()I" } : Jvm.MethodName)) ∈ lw_all := lw_g (lw_at lw_m6 155 rfl) rfl
theorem q1897 : (Jvm.Cond.methodLink "ScholarsPressLaw" (105 : Nat) ({ cls := "ScholarsPressLaw", name := "hyphens", desc := "(LScholarsPress;[J)I" } : Jvm.MethodName)) ∈ lw_all := lw_g (lw_at lw_m7 103 rfl) rfl
theorem q1898 : (Jvm.Cond.static ({ cls := "ScholarsPressLaw", name := "hyphens", desc := "(LScholarsPress;[J)I" } : Jvm.MethodName)) ∈ lw_all := lw_g (lw_at lw_m7 104 rfl) rfl
theorem q1899 : (Jvm.Cond.codeWith ({ cls := "ScholarsPressLaw", name := "hyphens", desc := "(LScholarsPress;[J)I" } : Jvm.MethodName) method_6_code (3 : Nat) (Option.some Jvm.ClassFile.FieldType.int) [((0 : Nat), (8 : Nat), (11 : Nat), (25 : Nat))]) ∈ lw_all := lw_g (lw_at lw_m7 105 rfl) rfl
theorem q1900 : (Jvm.Cond.methodLink "ScholarsPressLaw" (27 : Nat) ({ cls := "ScholarsPress", name := "hyphens", desc := "()I" } : Jvm.MethodName)) ∈ lw_all := lw_g (lw_at lw_m7 106 rfl) rfl
theorem q1951 : (Jvm.Cond.methodLink "ScholarsPressLaw" (108 : Nat) ({ cls := "ScholarsPressLaw", name := "style", desc := "(LScholarsPress;[J)I" } : Jvm.MethodName)) ∈ lw_all := lw_g (lw_at lw_m7 157 rfl) rfl
theorem q1952 : (Jvm.Cond.static ({ cls := "ScholarsPressLaw", name := "style", desc := "(LScholarsPress;[J)I" } : Jvm.MethodName)) ∈ lw_all := lw_g (lw_at lw_m7 158 rfl) rfl
theorem q1953 : (Jvm.Cond.codeWith ({ cls := "ScholarsPressLaw", name := "style", desc := "(LScholarsPress;[J)I" } : Jvm.MethodName) method_7_code (3 : Nat) (Option.some Jvm.ClassFile.FieldType.int) [((0 : Nat), (8 : Nat), (11 : Nat), (25 : Nat))]) ∈ lw_all := lw_g (lw_at lw_m7 159 rfl) rfl
theorem q1954 : (Jvm.Cond.methodLink "ScholarsPressLaw" (30 : Nat) ({ cls := "ScholarsPress", name := "style", desc := "()I" } : Jvm.MethodName)) ∈ lw_all := lw_g (lw_at lw_m7 160 rfl) rfl
theorem q2120 : (Jvm.Cond.methodLink "ScholarsPressLaw" (111 : Nat) ({ cls := "ScholarsPressLaw", name := "source", desc := "(LScholarsPress;[J)I" } : Jvm.MethodName)) ∈ lw_all := lw_g (lw_at lw_m8 86 rfl) rfl
theorem q2121 : (Jvm.Cond.static ({ cls := "ScholarsPressLaw", name := "source", desc := "(LScholarsPress;[J)I" } : Jvm.MethodName)) ∈ lw_all := lw_g (lw_at lw_m8 87 rfl) rfl
theorem q2122 : (Jvm.Cond.codeWith ({ cls := "ScholarsPressLaw", name := "source", desc := "(LScholarsPress;[J)I" } : Jvm.MethodName) method_8_code (3 : Nat) (Option.some Jvm.ClassFile.FieldType.int) [((0 : Nat), (8 : Nat), (11 : Nat), (25 : Nat))]) ∈ lw_all := lw_g (lw_at lw_m8 88 rfl) rfl
theorem q2123 : (Jvm.Cond.methodLink "ScholarsPressLaw" (33 : Nat) ({ cls := "ScholarsPress", name := "source", desc := "()I" } : Jvm.MethodName)) ∈ lw_all := lw_g (lw_at lw_m8 89 rfl) rfl
theorem q2234 : (Jvm.Cond.methodLink "ScholarsPressLaw" (114 : Nat) ({ cls := "ScholarsPressLaw", name := "change", desc := "(LScholarsPress;II[J)I" } : Jvm.MethodName)) ∈ lw_all := lw_g (lw_at lw_m8 200 rfl) rfl
theorem q2235 : (Jvm.Cond.static ({ cls := "ScholarsPressLaw", name := "change", desc := "(LScholarsPress;II[J)I" } : Jvm.MethodName)) ∈ lw_all := lw_g (lw_at lw_m8 201 rfl) rfl
theorem q2236 : (Jvm.Cond.codeWith ({ cls := "ScholarsPressLaw", name := "change", desc := "(LScholarsPress;II[J)I" } : Jvm.MethodName) method_9_code (5 : Nat) (Option.some Jvm.ClassFile.FieldType.int) [((0 : Nat), (10 : Nat), (13 : Nat), (19 : Nat)), ((0 : Nat), (10 : Nat), (17 : Nat), (40 : Nat)), ((0 : Nat), (10 : Nat), (21 : Nat), (13 : Nat)), ((0 : Nat), (10 : Nat), (25 : Nat), (25 : Nat))]) ∈ lw_all := lw_g (lw_at lw_m8 202 rfl) rfl
theorem q2237 : (Jvm.Cond.classLink "ScholarsPressLaw" (40 : Nat) "java/lang/IllegalStateException") ∈ lw_all := lw_g (lw_at lw_m8 203 rfl) rfl
theorem q2238 : (Jvm.Cond.methodLink "ScholarsPressLaw" (36 : Nat) ({ cls := "ScholarsPress", name := "change", desc := "(II)I" } : Jvm.MethodName)) ∈ lw_all := lw_g (lw_at lw_m8 204 rfl) rfl
theorem q2260 : (Jvm.Cond.methodLink "ScholarsPressLaw" (122 : Nat) ({ cls := "ScholarsPressLaw", name := "set", desc := "(LScholarsPress;I[J)I" } : Jvm.MethodName)) ∈ lw_all := lw_g (lw_at lw_m8 226 rfl) rfl
theorem q2261 : (Jvm.Cond.static ({ cls := "ScholarsPressLaw", name := "set", desc := "(LScholarsPress;I[J)I" } : Jvm.MethodName)) ∈ lw_all := lw_g (lw_at lw_m8 227 rfl) rfl
theorem q2262 : (Jvm.Cond.codeWith ({ cls := "ScholarsPressLaw", name := "set", desc := "(LScholarsPress;I[J)I" } : Jvm.MethodName) method_10_code (4 : Nat) (Option.some Jvm.ClassFile.FieldType.int) [((0 : Nat), (9 : Nat), (12 : Nat), (19 : Nat)), ((0 : Nat), (9 : Nat), (15 : Nat), (40 : Nat)), ((0 : Nat), (9 : Nat), (18 : Nat), (13 : Nat)), ((0 : Nat), (9 : Nat), (21 : Nat), (45 : Nat))]) ∈ lw_all := lw_g (lw_at lw_m8 228 rfl) rfl
theorem q2263 : (Jvm.Cond.classLink "ScholarsPressLaw" (45 : Nat) "java/lang/ArithmeticException") ∈ lw_all := lw_g (lw_at lw_m8 229 rfl) rfl
theorem q2277 : (Jvm.Cond.methodLink "ScholarsPressLaw" (42 : Nat) ({ cls := "ScholarsPress", name := "set", desc := "(I)I" } : Jvm.MethodName)) ∈ lw_all := lw_g (lw_at lw_m9 3 rfl) rfl
theorem q3053 : (Jvm.Cond.methodLink "ScholarsPressLaw" (125 : Nat) ({ cls := "ScholarsPressLaw", name := "element", desc := "(LScholarsPress;II[J)I" } : Jvm.MethodName)) ∈ lw_all := lw_g (lw_at lw_m12 59 rfl) rfl
theorem q3054 : (Jvm.Cond.static ({ cls := "ScholarsPressLaw", name := "element", desc := "(LScholarsPress;II[J)I" } : Jvm.MethodName)) ∈ lw_all := lw_g (lw_at lw_m12 60 rfl) rfl
theorem q3055 : (Jvm.Cond.codeWith ({ cls := "ScholarsPressLaw", name := "element", desc := "(LScholarsPress;II[J)I" } : Jvm.MethodName) method_11_code (5 : Nat) (Option.some Jvm.ClassFile.FieldType.int) [((0 : Nat), (10 : Nat), (13 : Nat), (19 : Nat)), ((0 : Nat), (10 : Nat), (17 : Nat), (40 : Nat))]) ∈ lw_all := lw_g (lw_at lw_m12 61 rfl) rfl
theorem q3056 : (Jvm.Cond.methodLink "ScholarsPressLaw" (47 : Nat) ({ cls := "ScholarsPress", name := "element", desc := "(II)I" } : Jvm.MethodName)) ∈ lw_all := lw_g (lw_at lw_m12 62 rfl) rfl
theorem q3065 : (Jvm.Cond.methodLink "ScholarsPressLaw" (128 : Nat) ({ cls := "ScholarsPressLaw", name := "count", desc := "(LScholarsPress;I[J)I" } : Jvm.MethodName)) ∈ lw_all := lw_g (lw_at lw_m12 71 rfl) rfl
theorem q3066 : (Jvm.Cond.static ({ cls := "ScholarsPressLaw", name := "count", desc := "(LScholarsPress;I[J)I" } : Jvm.MethodName)) ∈ lw_all := lw_g (lw_at lw_m12 72 rfl) rfl
theorem q3067 : (Jvm.Cond.codeWith ({ cls := "ScholarsPressLaw", name := "count", desc := "(LScholarsPress;I[J)I" } : Jvm.MethodName) method_12_code (4 : Nat) (Option.some Jvm.ClassFile.FieldType.int) [((0 : Nat), (9 : Nat), (12 : Nat), (19 : Nat))]) ∈ lw_all := lw_g (lw_at lw_m12 73 rfl) rfl
theorem q3068 : (Jvm.Cond.methodLink "ScholarsPressLaw" (50 : Nat) ({ cls := "ScholarsPress", name := "count", desc := "(I)I" } : Jvm.MethodName)) ∈ lw_all := lw_g (lw_at lw_m12 74 rfl) rfl
theorem q3084 : (Jvm.Cond.methodLink "ScholarsPressLaw" (131 : Nat) ({ cls := "ScholarsPressLaw", name := "line", desc := "(LScholarsPress;II[J)I" } : Jvm.MethodName)) ∈ lw_all := lw_g (lw_at lw_m12 90 rfl) rfl
theorem q3085 : (Jvm.Cond.static ({ cls := "ScholarsPressLaw", name := "line", desc := "(LScholarsPress;II[J)I" } : Jvm.MethodName)) ∈ lw_all := lw_g (lw_at lw_m12 91 rfl) rfl
theorem q3086 : (Jvm.Cond.codeWith ({ cls := "ScholarsPressLaw", name := "line", desc := "(LScholarsPress;II[J)I" } : Jvm.MethodName) method_13_code (5 : Nat) (Option.some Jvm.ClassFile.FieldType.int) [((0 : Nat), (10 : Nat), (13 : Nat), (19 : Nat)), ((0 : Nat), (10 : Nat), (17 : Nat), (40 : Nat)), ((0 : Nat), (10 : Nat), (21 : Nat), (13 : Nat))]) ∈ lw_all := lw_g (lw_at lw_m12 92 rfl) rfl
theorem q3087 : (Jvm.Cond.methodLink "ScholarsPressLaw" (53 : Nat) ({ cls := "ScholarsPress", name := "line", desc := "(II)I" } : Jvm.MethodName)) ∈ lw_all := lw_g (lw_at lw_m12 93 rfl) rfl
theorem q3109 : (Jvm.Cond.methodLink "ScholarsPressLaw" (134 : Nat) ({ cls := "ScholarsPressLaw", name := "spot", desc := "(LScholarsPress;II[J)I" } : Jvm.MethodName)) ∈ lw_all := lw_g (lw_at lw_m12 115 rfl) rfl
theorem q3110 : (Jvm.Cond.static ({ cls := "ScholarsPressLaw", name := "spot", desc := "(LScholarsPress;II[J)I" } : Jvm.MethodName)) ∈ lw_all := lw_g (lw_at lw_m12 116 rfl) rfl
theorem q3111 : (Jvm.Cond.codeWith ({ cls := "ScholarsPressLaw", name := "spot", desc := "(LScholarsPress;II[J)I" } : Jvm.MethodName) method_14_code (5 : Nat) (Option.some Jvm.ClassFile.FieldType.int) [((0 : Nat), (9 : Nat), (12 : Nat), (40 : Nat)), ((0 : Nat), (9 : Nat), (16 : Nat), (13 : Nat))]) ∈ lw_all := lw_g (lw_at lw_m12 117 rfl) rfl
theorem q3112 : (Jvm.Cond.methodLink "ScholarsPressLaw" (56 : Nat) ({ cls := "ScholarsPress", name := "spot", desc := "(II)J" } : Jvm.MethodName)) ∈ lw_all := lw_g (lw_at lw_m12 118 rfl) rfl
theorem q3126 : (Jvm.Cond.methodLink "ScholarsPressLaw" (137 : Nat) ({ cls := "ScholarsPressLaw", name := "paragraph", desc := "(LScholarsPress;II[J)I" } : Jvm.MethodName)) ∈ lw_all := lw_g (lw_at lw_m12 132 rfl) rfl
theorem q3127 : (Jvm.Cond.static ({ cls := "ScholarsPressLaw", name := "paragraph", desc := "(LScholarsPress;II[J)I" } : Jvm.MethodName)) ∈ lw_all := lw_g (lw_at lw_m12 133 rfl) rfl
theorem q3128 : (Jvm.Cond.codeWith ({ cls := "ScholarsPressLaw", name := "paragraph", desc := "(LScholarsPress;II[J)I" } : Jvm.MethodName) method_15_code (5 : Nat) (Option.some Jvm.ClassFile.FieldType.int) [((0 : Nat), (9 : Nat), (12 : Nat), (19 : Nat)), ((0 : Nat), (9 : Nat), (16 : Nat), (40 : Nat)), ((0 : Nat), (9 : Nat), (20 : Nat), (13 : Nat))]) ∈ lw_all := lw_g (lw_at lw_m12 134 rfl) rfl
theorem q3129 : (Jvm.Cond.methodLink "ScholarsPressLaw" (60 : Nat) ({ cls := "ScholarsPress", name := "paragraph", desc := "(II)J" } : Jvm.MethodName)) ∈ lw_all := lw_g (lw_at lw_m12 135 rfl) rfl
theorem q3133 : (Jvm.Cond.methodLink "ScholarsPressLaw" (140 : Nat) ({ cls := "ScholarsPressLaw", name := "judge", desc := "(LScholarsPress;I[J)I" } : Jvm.MethodName)) ∈ lw_all := lw_g (lw_at lw_m12 139 rfl) rfl
theorem q3134 : (Jvm.Cond.static ({ cls := "ScholarsPressLaw", name := "judge", desc := "(LScholarsPress;I[J)I" } : Jvm.MethodName)) ∈ lw_all := lw_g (lw_at lw_m12 140 rfl) rfl
theorem q3135 : (Jvm.Cond.codeWith ({ cls := "ScholarsPressLaw", name := "judge", desc := "(LScholarsPress;I[J)I" } : Jvm.MethodName) method_16_code (4 : Nat) (Option.some Jvm.ClassFile.FieldType.int) [((0 : Nat), (8 : Nat), (11 : Nat), (40 : Nat)), ((0 : Nat), (8 : Nat), (14 : Nat), (13 : Nat)), ((0 : Nat), (8 : Nat), (17 : Nat), (25 : Nat))]) ∈ lw_all := lw_g (lw_at lw_m12 141 rfl) rfl
theorem q3136 : (Jvm.Cond.methodLink "ScholarsPressLaw" (63 : Nat) ({ cls := "ScholarsPress", name := "judge", desc := "(I)J" } : Jvm.MethodName)) ∈ lw_all := lw_g (lw_at lw_m12 142 rfl) rfl
theorem q3147 : (Jvm.Cond.methodLink "ScholarsPressLaw" (143 : Nat) ({ cls := "ScholarsPressLaw", name := "where", desc := "(LScholarsPress;I[J)I" } : Jvm.MethodName)) ∈ lw_all := lw_g (lw_at lw_m12 153 rfl) rfl
theorem q3148 : (Jvm.Cond.static ({ cls := "ScholarsPressLaw", name := "where", desc := "(LScholarsPress;I[J)I" } : Jvm.MethodName)) ∈ lw_all := lw_g (lw_at lw_m12 154 rfl) rfl
theorem q3149 : (Jvm.Cond.codeWith ({ cls := "ScholarsPressLaw", name := "where", desc := "(LScholarsPress;I[J)I" } : Jvm.MethodName) method_17_code (4 : Nat) (Option.some Jvm.ClassFile.FieldType.int) [((0 : Nat), (9 : Nat), (12 : Nat), (19 : Nat)), ((0 : Nat), (9 : Nat), (15 : Nat), (40 : Nat)), ((0 : Nat), (9 : Nat), (18 : Nat), (70 : Nat))]) ∈ lw_all := lw_g (lw_at lw_m12 155 rfl) rfl
theorem q3150 : (Jvm.Cond.classLink "ScholarsPressLaw" (70 : Nat) "java/util/NoSuchElementException") ∈ lw_all := lw_g (lw_at lw_m12 156 rfl) rfl
theorem q3151 : (Jvm.Cond.methodLink "ScholarsPressLaw" (67 : Nat) ({ cls := "ScholarsPress", name := "where", desc := "(I)I" } : Jvm.MethodName)) ∈ lw_all := lw_g (lw_at lw_m12 157 rfl) rfl
theorem q3177 : (Jvm.Cond.methodLink "ScholarsPressLaw" (146 : Nat) ({ cls := "ScholarsPressLaw", name := "note", desc := "(LScholarsPress;II[J)I" } : Jvm.MethodName)) ∈ lw_all := lw_g (lw_at lw_m12 183 rfl) rfl
theorem q3178 : (Jvm.Cond.static ({ cls := "ScholarsPressLaw", name := "note", desc := "(LScholarsPress;II[J)I" } : Jvm.MethodName)) ∈ lw_all := lw_g (lw_at lw_m12 184 rfl) rfl
theorem q3179 : (Jvm.Cond.codeWith ({ cls := "ScholarsPressLaw", name := "note", desc := "(LScholarsPress;II[J)I" } : Jvm.MethodName) method_18_code (5 : Nat) (Option.some Jvm.ClassFile.FieldType.int) [((0 : Nat), (10 : Nat), (13 : Nat), (19 : Nat)), ((0 : Nat), (10 : Nat), (17 : Nat), (40 : Nat)), ((0 : Nat), (10 : Nat), (21 : Nat), (13 : Nat))]) ∈ lw_all := lw_g (lw_at lw_m12 185 rfl) rfl
theorem q3180 : (Jvm.Cond.methodLink "ScholarsPressLaw" (72 : Nat) ({ cls := "ScholarsPress", name := "note", desc := "(II)I" } : Jvm.MethodName)) ∈ lw_all := lw_g (lw_at lw_m12 186 rfl) rfl
theorem q3204 : (Jvm.Cond.methodLink "ScholarsPressLaw" (149 : Nat) ({ cls := "ScholarsPressLaw", name := "wavering", desc := "(LScholarsPress;I[J)I" } : Jvm.MethodName)) ∈ lw_all := lw_g (lw_at lw_m12 210 rfl) rfl
theorem q3205 : (Jvm.Cond.static ({ cls := "ScholarsPressLaw", name := "wavering", desc := "(LScholarsPress;I[J)I" } : Jvm.MethodName)) ∈ lw_all := lw_g (lw_at lw_m12 211 rfl) rfl
theorem q3206 : (Jvm.Cond.codeWith ({ cls := "ScholarsPressLaw", name := "wavering", desc := "(LScholarsPress;I[J)I" } : Jvm.MethodName) method_19_code (4 : Nat) (Option.some Jvm.ClassFile.FieldType.int) [((0 : Nat), (9 : Nat), (12 : Nat), (40 : Nat)), ((0 : Nat), (9 : Nat), (15 : Nat), (13 : Nat))]) ∈ lw_all := lw_g (lw_at lw_m12 212 rfl) rfl
theorem q3207 : (Jvm.Cond.methodLink "ScholarsPressLaw" (75 : Nat) ({ cls := "ScholarsPress", name := "wavering", desc := "(I)I" } : Jvm.MethodName)) ∈ lw_all := lw_g (lw_at lw_m12 213 rfl) rfl
theorem q3211 : (Jvm.Cond.methodLink "ScholarsPressLaw" (152 : Nat) ({ cls := "ScholarsPressLaw", name := "print", desc := "(LScholarsPress;I[J)I" } : Jvm.MethodName)) ∈ lw_all := lw_g (lw_at lw_m12 217 rfl) rfl
theorem q3212 : (Jvm.Cond.static ({ cls := "ScholarsPressLaw", name := "print", desc := "(LScholarsPress;I[J)I" } : Jvm.MethodName)) ∈ lw_all := lw_g (lw_at lw_m12 218 rfl) rfl
theorem q3213 : (Jvm.Cond.codeWith ({ cls := "ScholarsPressLaw", name := "print", desc := "(LScholarsPress;I[J)I" } : Jvm.MethodName) method_20_code (4 : Nat) (Option.some Jvm.ClassFile.FieldType.int) [((0 : Nat), (9 : Nat), (12 : Nat), (40 : Nat)), ((0 : Nat), (9 : Nat), (15 : Nat), (13 : Nat))]) ∈ lw_all := lw_g (lw_at lw_m12 219 rfl) rfl
theorem q3214 : (Jvm.Cond.methodLink "ScholarsPressLaw" (78 : Nat) ({ cls := "ScholarsPress", name := "print", desc := "(I)I" } : Jvm.MethodName)) ∈ lw_all := lw_g (lw_at lw_m12 220 rfl) rfl
theorem q3247 : (Jvm.Cond.methodLink "ScholarsPressLaw" (155 : Nat) ({ cls := "ScholarsPressLaw", name := "word", desc := "(LScholarsPress;I[J)I" } : Jvm.MethodName)) ∈ lw_all := lw_g (lw_at lw_m13 13 rfl) rfl
theorem q3248 : (Jvm.Cond.static ({ cls := "ScholarsPressLaw", name := "word", desc := "(LScholarsPress;I[J)I" } : Jvm.MethodName)) ∈ lw_all := lw_g (lw_at lw_m13 14 rfl) rfl
theorem q3249 : (Jvm.Cond.codeWith ({ cls := "ScholarsPressLaw", name := "word", desc := "(LScholarsPress;I[J)I" } : Jvm.MethodName) method_21_code (4 : Nat) (Option.some Jvm.ClassFile.FieldType.int) [((0 : Nat), (8 : Nat), (11 : Nat), (13 : Nat))]) ∈ lw_all := lw_g (lw_at lw_m13 15 rfl) rfl
theorem q3250 : (Jvm.Cond.methodLink "ScholarsPressLaw" (81 : Nat) ({ cls := "ScholarsPress", name := "word", desc := "(I)J" } : Jvm.MethodName)) ∈ lw_all := lw_g (lw_at lw_m13 16 rfl) rfl
theorem q3255 : (Jvm.Cond.classLink "ScholarsPressLaw" (85 : Nat) "ScholarsPressModel") ∈ lw_all := lw_g (lw_at lw_m13 21 rfl) rfl
theorem q3257 : (Jvm.Cond.methodLink "ScholarsPressLaw" (87 : Nat) ({ cls := "ScholarsPressModel", name := "<init>", desc := "()V" } : Jvm.MethodName)) ∈ lw_all := lw_g (lw_at lw_m13 23 rfl) rfl
theorem q4306 : (Jvm.Cond.methodLink "ScholarsPressLaw" (94 : Nat) ({ cls := "ScholarsPressModel", name := "thrown", desc := "()I" } : Jvm.MethodName)) ∈ lw_all := lw_g (lw_at lw_m17 112 rfl) rfl
theorem q4310 : (Jvm.Cond.methodLink "ScholarsPressLaw" (93 : Nat) ({ cls := "ScholarsPressModel", name := "feed", desc := "(IIIII)I" } : Jvm.MethodName)) ∈ lw_all := lw_g (lw_at lw_m17 116 rfl) rfl
theorem q4322 : (Jvm.Cond.methodLink "ScholarsPressLaw" (100 : Nat) ({ cls := "ScholarsPressModel", name := "end", desc := "(I)I" } : Jvm.MethodName)) ∈ lw_all := lw_g (lw_at lw_m17 128 rfl) rfl
theorem q4326 : (Jvm.Cond.methodLink "ScholarsPressLaw" (104 : Nat) ({ cls := "ScholarsPressModel", name := "font", desc := "()I" } : Jvm.MethodName)) ∈ lw_all := lw_g (lw_at lw_m17 132 rfl) rfl
theorem q4440 : (Jvm.Cond.methodLink "ScholarsPressLaw" (107 : Nat) ({ cls := "ScholarsPressModel", name := "hyphens", desc := "()I" } : Jvm.MethodName)) ∈ lw_all := lw_g (lw_at lw_m18 6 rfl) rfl
theorem q4470 : (Jvm.Cond.methodLink "ScholarsPressLaw" (110 : Nat) ({ cls := "ScholarsPressModel", name := "style", desc := "()I" } : Jvm.MethodName)) ∈ lw_all := lw_g (lw_at lw_m18 36 rfl) rfl
theorem q4559 : (Jvm.Cond.methodLink "ScholarsPressLaw" (113 : Nat) ({ cls := "ScholarsPressModel", name := "source", desc := "()I" } : Jvm.MethodName)) ∈ lw_all := lw_g (lw_at lw_m18 125 rfl) rfl
theorem q4644 : (Jvm.Cond.methodLink "ScholarsPressLaw" (117 : Nat) ({ cls := "ScholarsPressModel", name := "change", desc := "(II)I" } : Jvm.MethodName)) ∈ lw_all := lw_g (lw_at lw_m18 210 rfl) rfl
theorem q4648 : (Jvm.Cond.methodLink "ScholarsPressLaw" (121 : Nat) ({ cls := "ScholarsPressModel", name := "place", desc := "()I" } : Jvm.MethodName)) ∈ lw_all := lw_g (lw_at lw_m18 214 rfl) rfl
theorem q4652 : (Jvm.Cond.methodLink "ScholarsPressLaw" (124 : Nat) ({ cls := "ScholarsPressModel", name := "set", desc := "(I)I" } : Jvm.MethodName)) ∈ lw_all := lw_g (lw_at lw_m18 218 rfl) rfl
theorem q5142 : (Jvm.Cond.methodLink "ScholarsPressLaw" (127 : Nat) ({ cls := "ScholarsPressModel", name := "element", desc := "(II)I" } : Jvm.MethodName)) ∈ lw_all := lw_g (lw_at lw_m20 228 rfl) rfl
theorem q5149 : (Jvm.Cond.methodLink "ScholarsPressLaw" (130 : Nat) ({ cls := "ScholarsPressModel", name := "count", desc := "(I)I" } : Jvm.MethodName)) ∈ lw_all := lw_g (lw_at lw_m20 235 rfl) rfl
theorem q5153 : (Jvm.Cond.methodLink "ScholarsPressLaw" (133 : Nat) ({ cls := "ScholarsPressModel", name := "line", desc := "(II)I" } : Jvm.MethodName)) ∈ lw_all := lw_g (lw_at lw_m20 239 rfl) rfl
theorem q5165 : (Jvm.Cond.methodLink "ScholarsPressLaw" (136 : Nat) ({ cls := "ScholarsPressModel", name := "spot", desc := "(II)J" } : Jvm.MethodName)) ∈ lw_all := lw_g (lw_at lw_m21 11 rfl) rfl
theorem q5179 : (Jvm.Cond.methodLink "ScholarsPressLaw" (139 : Nat) ({ cls := "ScholarsPressModel", name := "paragraph", desc := "(II)J" } : Jvm.MethodName)) ∈ lw_all := lw_g (lw_at lw_m21 25 rfl) rfl
theorem q5183 : (Jvm.Cond.methodLink "ScholarsPressLaw" (142 : Nat) ({ cls := "ScholarsPressModel", name := "judge", desc := "(I)J" } : Jvm.MethodName)) ∈ lw_all := lw_g (lw_at lw_m21 29 rfl) rfl
theorem q5193 : (Jvm.Cond.methodLink "ScholarsPressLaw" (145 : Nat) ({ cls := "ScholarsPressModel", name := "where", desc := "(I)I" } : Jvm.MethodName)) ∈ lw_all := lw_g (lw_at lw_m21 39 rfl) rfl
theorem q5198 : (Jvm.Cond.methodLink "ScholarsPressLaw" (148 : Nat) ({ cls := "ScholarsPressModel", name := "note", desc := "(II)I" } : Jvm.MethodName)) ∈ lw_all := lw_g (lw_at lw_m21 44 rfl) rfl
theorem q5202 : (Jvm.Cond.methodLink "ScholarsPressLaw" (151 : Nat) ({ cls := "ScholarsPressModel", name := "wavering", desc := "(I)I" } : Jvm.MethodName)) ∈ lw_all := lw_g (lw_at lw_m21 48 rfl) rfl
theorem q5206 : (Jvm.Cond.methodLink "ScholarsPressLaw" (154 : Nat) ({ cls := "ScholarsPressModel", name := "print", desc := "(I)I" } : Jvm.MethodName)) ∈ lw_all := lw_g (lw_at lw_m21 52 rfl) rfl
theorem q5245 : (Jvm.Cond.methodLink "ScholarsPressLaw" (157 : Nat) ({ cls := "ScholarsPressModel", name := "word", desc := "(I)J" } : Jvm.MethodName)) ∈ lw_all := lw_g (lw_at lw_m21 91 rfl) rfl
/-! ScholarsPress -/
def RX1 : String := "ScholarsPress"
def TX1 : u_T := fun k => match k with
  | 0 => ("ScholarsPress", "tape", "[B", true)
  | 1 => ("ScholarsPress", "taped", "I", false)
  | 2 => ("ScholarsPress", "signs", "LScholarsPress$Signs;", true)
  | 3 => ("ScholarsPress", "styles", "[LScholarsPress$Style;", true)
  | 4 => ("ScholarsPress", "sources", "[LScholarsPress$Source;", true)
  | 5 => ("ScholarsPress", "trees", "[LScholarsPress$Tree;", true)
  | 6 => ("ScholarsPress", "style", "LScholarsPress$Style;", false)
  | 7 => ("ScholarsPress", "font", "LScholarsPress$Font;", false)
  | 8 => ("ScholarsPress", "otherFont", "LScholarsPress$Font;", false)
  | 9 => ("ScholarsPress", "patterns", "LScholarsPress$Hyphens;", false)
  | 10 => ("ScholarsPress", "otherPatterns", "LScholarsPress$Hyphens;", false)
  | 11 => ("ScholarsPress", "source", "LScholarsPress$Source;", false)
  | 12 => ("ScholarsPress", "tree", "LScholarsPress$Tree;", false)
  | 13 => ("ScholarsPress", "treeFits", "Z", false)
  | 14 => ("ScholarsPress", "place", "I", false)
  | 15 => ("ScholarsPress", "desk", "LScholarsPress$Desk;", true)
  | 16 => ("ScholarsPress", "books", "[LScholarsPress$Book;", true)
  | 17 => ("ScholarsPress", "shapes", "LScholarsPress$Shapes;", true)
  | 18 => ("ScholarsPress", "book", "LScholarsPress$Book;", false)
  | 19 => ("ScholarsPress", "fresh", "I", false)
  | 20 => ("ScholarsPress", "out", "LScholarsPress$Bytes;", false)
  | 21 => ("ScholarsPress", "otherOut", "LScholarsPress$Bytes;", false)
  | _ => ("ScholarsPress", "numbers", "[I", true)
def tyX1 : Nat → FieldType := fun k => match k with
  | 0 => .array .byte
  | 1 => .int
  | 2 => .object "ScholarsPress$Signs"
  | 3 => .array (.object "ScholarsPress$Style")
  | 4 => .array (.object "ScholarsPress$Source")
  | 5 => .array (.object "ScholarsPress$Tree")
  | 6 => .object "ScholarsPress$Style"
  | 7 => .object "ScholarsPress$Font"
  | 8 => .object "ScholarsPress$Font"
  | 9 => .object "ScholarsPress$Hyphens"
  | 10 => .object "ScholarsPress$Hyphens"
  | 11 => .object "ScholarsPress$Source"
  | 12 => .object "ScholarsPress$Tree"
  | 13 => .boolean
  | 14 => .int
  | 15 => .object "ScholarsPress$Desk"
  | 16 => .array (.object "ScholarsPress$Book")
  | 17 => .object "ScholarsPress$Shapes"
  | 18 => .object "ScholarsPress$Book"
  | 19 => .int
  | 20 => .object "ScholarsPress$Bytes"
  | 21 => .object "ScholarsPress$Bytes"
  | _ => .array .int
abbrev wsX10 : List Cond := u_ws RX1 TX1 23
theorem nmX1 : ∀ a, a < 23 → ∀ b, b < 23 → a ≠ b → (TX1 a).2.1 ≠ (TX1 b).2.1 := by decide +kernel
theorem tyX1_ok : ∀ k, k < 23 → parseFieldDescriptor (TX1 k).2.2.1 = some (tyX1 k) := by decide +kernel
abbrev cX1_init : ByteArray := prog_1_method_10_code
def yX1_init : MethodName := ⟨RX1, "<init>", "()V"⟩
abbrev cX1_place : ByteArray := prog_1_method_23_code
def yX1_place : MethodName := ⟨RX1, "place", "()I"⟩
abbrev cX1_feed : ByteArray := prog_1_method_11_code
def yX1_feed : MethodName := ⟨RX1, "feed", "(IIIII)I"⟩
abbrev cX1_room : ByteArray := prog_1_method_3_code
def yX1_room : MethodName := ⟨RX1, "room", "(Z)V"⟩
abbrev cX1_four : ByteArray := prog_1_method_12_code
def yX1_four : MethodName := ⟨RX1, "four", "(I)V"⟩
abbrev cX1_end : ByteArray := prog_1_method_13_code
def yX1_end : MethodName := ⟨RX1, "end", "(I)I"⟩
abbrev cX1_good : ByteArray := prog_1_method_1_code
def yX1_good : MethodName := ⟨RX1, "good", "(Z)V"⟩
abbrev cX1_font : ByteArray := prog_1_method_16_code
def yX1_font : MethodName := ⟨RX1, "font", "()I"⟩
abbrev cX1_take : ByteArray := prog_1_method_14_code
def yX1_take : MethodName := ⟨RX1, "take", "()I"⟩
abbrev cX1_isBlank : ByteArray := prog_1_method_4_code
def yX1_isBlank : MethodName := ⟨RX1, "isBlank", "(I)Z"⟩
abbrev cX1_isSmall : ByteArray := prog_1_method_5_code
def yX1_isSmall : MethodName := ⟨RX1, "isSmall", "(I)Z"⟩
abbrev cX1_isDigit : ByteArray := prog_1_method_6_code
def yX1_isDigit : MethodName := ⟨RX1, "isDigit", "(I)Z"⟩
abbrev cX1_isPlain : ByteArray := prog_1_method_8_code
def yX1_isPlain : MethodName := ⟨RX1, "isPlain", "(I)Z"⟩
abbrev cX1_broken : ByteArray := prog_1_method_15_code
def yX1_broken : MethodName := ⟨RX1, "broken", "(LScholarsPress$Broken;)Ljava/lang/UnsupportedOperationException;"⟩
abbrev cX1_hyphens : ByteArray := prog_1_method_17_code
def yX1_hyphens : MethodName := ⟨RX1, "hyphens", "()I"⟩
abbrev cX1_small : ByteArray := prog_1_method_9_code
def yX1_small : MethodName := ⟨RX1, "small", "(I)I"⟩
abbrev cX1_style : ByteArray := prog_1_method_18_code
def yX1_style : MethodName := ⟨RX1, "style", "()I"⟩
abbrev cX1_source : ByteArray := prog_1_method_21_code
def yX1_source : MethodName := ⟨RX1, "source", "()I"⟩
abbrev cX1_freeSource : ByteArray := prog_1_method_19_code
def yX1_freeSource : MethodName := ⟨RX1, "freeSource", "()LScholarsPress$Source;"⟩
abbrev cX1_load : ByteArray := prog_1_method_20_code
def yX1_load : MethodName := ⟨RX1, "load", "(LScholarsPress$Source;I)I"⟩
abbrev cX1_change : ByteArray := prog_1_method_22_code
def yX1_change : MethodName := ⟨RX1, "change", "(II)I"⟩
abbrev cX1_state : ByteArray := prog_1_method_2_code
def yX1_state : MethodName := ⟨RX1, "state", "(Z)V"⟩
abbrev cX1_set : ByteArray := prog_1_method_25_code
def yX1_set : MethodName := ⟨RX1, "set", "(I)I"⟩
abbrev cX1_freeBook : ByteArray := prog_1_method_26_code
def yX1_freeBook : MethodName := ⟨RX1, "freeBook", "(LScholarsPress$Book;)LScholarsPress$Book;"⟩
abbrev cX1_tree : ByteArray := prog_1_method_24_code
def yX1_tree : MethodName := ⟨RX1, "tree", "()LScholarsPress$Tree;"⟩
abbrev cX1_isLetter : ByteArray := prog_1_method_7_code
def yX1_isLetter : MethodName := ⟨RX1, "isLetter", "(I)Z"⟩
abbrev cX1_element : ByteArray := prog_1_method_27_code
def yX1_element : MethodName := ⟨RX1, "element", "(II)I"⟩
abbrev cX1_told : ByteArray := prog_1_method_28_code
def yX1_told : MethodName := ⟨RX1, "told", "(LScholarsPress$Tree;II)I"⟩
abbrev cX1_count : ByteArray := prog_1_method_29_code
def yX1_count : MethodName := ⟨RX1, "count", "(I)I"⟩
abbrev cX1_counted : ByteArray := prog_1_method_30_code
def yX1_counted : MethodName := ⟨RX1, "counted", "(I)I"⟩
abbrev cX1_line : ByteArray := prog_1_method_32_code
def yX1_line : MethodName := ⟨RX1, "line", "(II)I"⟩
abbrev cX1_lineThere : ByteArray := prog_1_method_31_code
def yX1_lineThere : MethodName := ⟨RX1, "lineThere", "(I)V"⟩
abbrev cX1_spot : ByteArray := prog_1_method_33_code
def yX1_spot : MethodName := ⟨RX1, "spot", "(II)J"⟩
abbrev cX1_paragraph : ByteArray := prog_1_method_34_code
def yX1_paragraph : MethodName := ⟨RX1, "paragraph", "(II)J"⟩
abbrev cX1_judge : ByteArray := prog_1_method_35_code
def yX1_judge : MethodName := ⟨RX1, "judge", "(I)J"⟩
abbrev cX1_where : ByteArray := prog_1_method_36_code
def yX1_where : MethodName := ⟨RX1, "where", "(I)I"⟩
abbrev cX1_take0 : ByteArray := prog_1_method_37_code
def yX1_take0 : MethodName := ⟨RX1, "take0", "()I"⟩
abbrev cX1_note : ByteArray := prog_1_method_38_code
def yX1_note : MethodName := ⟨RX1, "note", "(II)I"⟩
abbrev cX1_floatTold : ByteArray := prog_1_method_39_code
def yX1_floatTold : MethodName := ⟨RX1, "floatTold", "(II)I"⟩
abbrev cX1_wavering : ByteArray := prog_1_method_40_code
def yX1_wavering : MethodName := ⟨RX1, "wavering", "(I)I"⟩
abbrev cX1_print : ByteArray := prog_1_method_41_code
def yX1_print : MethodName := ⟨RX1, "print", "(I)I"⟩
abbrev cX1_word : ByteArray := prog_1_method_42_code
def yX1_word : MethodName := ⟨RX1, "word", "(I)J"⟩
theorem q355 : (Jvm.Cond.initialized "ScholarsPress") ∈ lw_all := lw_g (lw_at lw_m1 1 rfl) rfl
theorem q401 : (Jvm.Cond.instantiable "ScholarsPress" (23 : Nat)) ∈ lw_all := lw_g (lw_at lw_m1 47 rfl) rfl
theorem q403 : (Jvm.Cond.instanceMethod ({ cls := "ScholarsPress", name := "<init>", desc := "()V" } : Jvm.MethodName)) ∈ lw_all := lw_g (lw_at lw_m1 49 rfl) rfl
theorem q404 : (Jvm.Cond.code ({ cls := "ScholarsPress", name := "<init>", desc := "()V" } : Jvm.MethodName) prog_1_method_10_code (1 : Nat) (Option.none : Option Jvm.ClassFile.FieldType)) ∈ lw_all := lw_g (lw_at lw_m1 50 rfl) rfl
theorem q405 : (Jvm.Cond.methodLink "ScholarsPress" (19 : Nat) ({ cls := "java/lang/Object", name := "<init>", desc := "()V" } : Jvm.MethodName)) ∈ lw_all := lw_g (lw_at lw_m1 51 rfl) rfl
theorem q408 : (Jvm.Cond.classLink "ScholarsPress" (26 : Nat) "ScholarsPress$Signs") ∈ lw_all := lw_g (lw_at lw_m1 54 rfl) rfl
theorem q410 : (Jvm.Cond.methodLinkNest "ScholarsPress" (28 : Nat) ({ cls := "ScholarsPress$Signs", name := "<init>", desc := "([B)V" } : Jvm.MethodName) "ScholarsPress") ∈ lw_tbl := lw_at lw_m1 56 rfl
theorem q450 : (Jvm.Cond.classLink "ScholarsPress" (35 : Nat) "ScholarsPress$Style") ∈ lw_all := lw_g (lw_at lw_m1 96 rfl) rfl
theorem q453 : (Jvm.Cond.methodLinkNest "ScholarsPress" (37 : Nat) ({ cls := "ScholarsPress$Style", name := "<init>", desc := "()V" } : Jvm.MethodName) "ScholarsPress") ∈ lw_tbl := lw_at lw_m1 99 rfl
theorem q476 : (Jvm.Cond.fieldLinkNest "ScholarsPress" (303 : Nat) "ScholarsPress$Names" "many" "I" "ScholarsPress") ∈ lw_tbl := lw_at lw_m1 122 rfl
theorem q503 : (Jvm.Cond.fieldLinkNest "ScholarsPress" (458 : Nat) "ScholarsPress$Bytes" "row" "[B" "ScholarsPress") ∈ lw_tbl := lw_at lw_m1 149 rfl
theorem q509 : (Jvm.Cond.fieldLinkNest "ScholarsPress" (282 : Nat) "ScholarsPress$Bytes" "many" "I" "ScholarsPress") ∈ lw_tbl := lw_at lw_m1 155 rfl
theorem q551 : (Jvm.Cond.fieldLinkNest "ScholarsPress" (179 : Nat) "ScholarsPress$Style" "selectors" "I" "ScholarsPress") ∈ lw_tbl := lw_at lw_m1 197 rfl
theorem q636 : (Jvm.Cond.classLink "ScholarsPress" (42 : Nat) "ScholarsPress$Source") ∈ lw_all := lw_g (lw_at lw_m2 42 rfl) rfl
theorem q639 : (Jvm.Cond.methodLinkNest "ScholarsPress" (44 : Nat) ({ cls := "ScholarsPress$Source", name := "<init>", desc := "()V" } : Jvm.MethodName) "ScholarsPress") ∈ lw_tbl := lw_at lw_m2 45 rfl
theorem q647 : (Jvm.Cond.fieldLinkNest "ScholarsPress" (196 : Nat) "ScholarsPress$Source" "text" "[B" "ScholarsPress") ∈ lw_tbl := lw_at lw_m2 53 rfl
theorem q650 : (Jvm.Cond.fieldLinkNest "ScholarsPress" (209 : Nat) "ScholarsPress$Source" "length" "I" "ScholarsPress") ∈ lw_tbl := lw_at lw_m2 56 rfl
theorem q656 : (Jvm.Cond.fieldLinkNest "ScholarsPress" (189 : Nat) "ScholarsPress$Source" "elements" "I" "ScholarsPress") ∈ lw_tbl := lw_at lw_m2 62 rfl
theorem q662 : (Jvm.Cond.fieldLinkNest "ScholarsPress" (257 : Nat) "ScholarsPress$Source" "parent" "[I" "ScholarsPress") ∈ lw_tbl := lw_at lw_m2 68 rfl
theorem q664 : (Jvm.Cond.fieldLinkNest "ScholarsPress" (260 : Nat) "ScholarsPress$Source" "from" "[I" "ScholarsPress") ∈ lw_tbl := lw_at lw_m2 70 rfl
theorem q666 : (Jvm.Cond.fieldLinkNest "ScholarsPress" (263 : Nat) "ScholarsPress$Source" "to" "[I" "ScholarsPress") ∈ lw_tbl := lw_at lw_m2 72 rfl
theorem q677 : (Jvm.Cond.fieldLinkNest "ScholarsPress" (266 : Nat) "ScholarsPress$Source" "fieldStart" "[I" "ScholarsPress") ∈ lw_tbl := lw_at lw_m2 83 rfl
theorem q686 : (Jvm.Cond.fieldLinkNest "ScholarsPress" (269 : Nat) "ScholarsPress$Source" "fields" "I" "ScholarsPress") ∈ lw_tbl := lw_at lw_m2 92 rfl
theorem q703 : (Jvm.Cond.fieldLinkNest "ScholarsPress" (299 : Nat) "ScholarsPress$Source" "entityNames" "LScholarsPress$Names;" "ScholarsPress") ∈ lw_tbl := lw_at lw_m2 109 rfl
theorem q769 : (Jvm.Cond.classLink "ScholarsPress" (49 : Nat) "ScholarsPress$Tree") ∈ lw_all := lw_g (lw_at lw_m2 175 rfl) rfl
theorem q772 : (Jvm.Cond.methodLinkNest "ScholarsPress" (51 : Nat) ({ cls := "ScholarsPress$Tree", name := "<init>", desc := "()V" } : Jvm.MethodName) "ScholarsPress") ∈ lw_tbl := lw_at lw_m2 178 rfl
theorem q791 : (Jvm.Cond.fieldLinkNest "ScholarsPress" (272 : Nat) "ScholarsPress$Tree" "shown" "[Z" "ScholarsPress") ∈ lw_tbl := lw_at lw_m2 197 rfl
theorem q795 : (Jvm.Cond.fieldLinkNest "ScholarsPress" (289 : Nat) "ScholarsPress$Tree" "inFlow" "[Z" "ScholarsPress") ∈ lw_tbl := lw_at lw_m2 201 rfl
theorem q800 : (Jvm.Cond.fieldLinkNest "ScholarsPress" (276 : Nat) "ScholarsPress$Tree" "counted" "[I" "ScholarsPress") ∈ lw_tbl := lw_at lw_m2 206 rfl
theorem q856 : (Jvm.Cond.classLink "ScholarsPress" (60 : Nat) "ScholarsPress$Font") ∈ lw_all := lw_g (lw_at lw_m3 22 rfl) rfl
theorem q858 : (Jvm.Cond.methodLinkNest "ScholarsPress" (62 : Nat) ({ cls := "ScholarsPress$Font", name := "<init>", desc := "()V" } : Jvm.MethodName) "ScholarsPress") ∈ lw_tbl := lw_at lw_m3 24 rfl
theorem q871 : (Jvm.Cond.fieldLinkNest "ScholarsPress" (158 : Nat) "ScholarsPress$Font" "told" "I" "ScholarsPress") ∈ lw_tbl := lw_at lw_m3 37 rfl
theorem q883 : (Jvm.Cond.classLink "ScholarsPress" (70 : Nat) "ScholarsPress$Hyphens") ∈ lw_all := lw_g (lw_at lw_m3 49 rfl) rfl
theorem q885 : (Jvm.Cond.methodLinkNest "ScholarsPress" (72 : Nat) ({ cls := "ScholarsPress$Hyphens", name := "<init>", desc := "()V" } : Jvm.MethodName) "ScholarsPress") ∈ lw_tbl := lw_at lw_m3 51 rfl
theorem q904 : (Jvm.Cond.fieldLinkNest "ScholarsPress" (164 : Nat) "ScholarsPress$Hyphens" "patterns" "I" "ScholarsPress") ∈ lw_tbl := lw_at lw_m3 70 rfl
theorem q909 : (Jvm.Cond.fieldLinkNest "ScholarsPress" (166 : Nat) "ScholarsPress$Hyphens" "exceptions" "I" "ScholarsPress") ∈ lw_tbl := lw_at lw_m3 75 rfl
theorem q953 : (Jvm.Cond.classLink "ScholarsPress" (84 : Nat) "ScholarsPress$Desk") ∈ lw_all := lw_g (lw_at lw_m3 119 rfl) rfl
theorem q955 : (Jvm.Cond.methodLinkNest "ScholarsPress" (86 : Nat) ({ cls := "ScholarsPress$Desk", name := "<init>", desc := "()V" } : Jvm.MethodName) "ScholarsPress") ∈ lw_tbl := lw_at lw_m3 121 rfl
theorem q1046 : (Jvm.Cond.fieldLinkNest "ScholarsPress" (279 : Nat) "ScholarsPress$Desk" "small" "LScholarsPress$Bytes;" "ScholarsPress") ∈ lw_tbl := lw_at lw_m3 212 rfl
theorem q1114 : (Jvm.Cond.classLink "ScholarsPress" (91 : Nat) "ScholarsPress$Book") ∈ lw_all := lw_g (lw_at lw_m4 40 rfl) rfl
theorem q1117 : (Jvm.Cond.methodLinkNest "ScholarsPress" (93 : Nat) ({ cls := "ScholarsPress$Book", name := "<init>", desc := "(LScholarsPress$Desk;)V" } : Jvm.MethodName) "ScholarsPress") ∈ lw_tbl := lw_at lw_m4 43 rfl
theorem q1218 : (Jvm.Cond.fieldLinkNest "ScholarsPress" (329 : Nat) "ScholarsPress$Entries" "many" "I" "ScholarsPress") ∈ lw_tbl := lw_at lw_m4 144 rfl
theorem q1244 : (Jvm.Cond.fieldLinkNest "ScholarsPress" (215 : Nat) "ScholarsPress$Book" "tree" "LScholarsPress$Tree;" "ScholarsPress") ∈ lw_tbl := lw_at lw_m4 170 rfl
theorem q1246 : (Jvm.Cond.fieldLinkNest "ScholarsPress" (173 : Nat) "ScholarsPress$Book" "style" "LScholarsPress$Style;" "ScholarsPress") ∈ lw_tbl := lw_at lw_m4 172 rfl
theorem q1250 : (Jvm.Cond.fieldLinkNest "ScholarsPress" (186 : Nat) "ScholarsPress$Book" "source" "LScholarsPress$Source;" "ScholarsPress") ∈ lw_tbl := lw_at lw_m4 176 rfl
theorem q1257 : (Jvm.Cond.fieldLinkNest "ScholarsPress" (353 : Nat) "ScholarsPress$Book" "paragraphs" "[LScholarsPress$Paragraph;" "ScholarsPress") ∈ lw_tbl := lw_at lw_m4 183 rfl
theorem q1259 : (Jvm.Cond.fieldLinkNest "ScholarsPress" (318 : Nat) "ScholarsPress$Book" "many" "I" "ScholarsPress") ∈ lw_tbl := lw_at lw_m4 185 rfl
theorem q1261 : (Jvm.Cond.fieldLinkNest "ScholarsPress" (338 : Nat) "ScholarsPress$Book" "paragraphOf" "[I" "ScholarsPress") ∈ lw_tbl := lw_at lw_m4 187 rfl
theorem q1263 : (Jvm.Cond.fieldLinkNest "ScholarsPress" (341 : Nat) "ScholarsPress$Book" "lineIn" "[I" "ScholarsPress") ∈ lw_tbl := lw_at lw_m4 189 rfl
theorem q1268 : (Jvm.Cond.fieldLinkNest "ScholarsPress" (350 : Nat) "ScholarsPress$Book" "numberOf" "[I" "ScholarsPress") ∈ lw_tbl := lw_at lw_m4 194 rfl
theorem q1270 : (Jvm.Cond.fieldLinkNest "ScholarsPress" (315 : Nat) "ScholarsPress$Book" "lines" "I" "ScholarsPress") ∈ lw_tbl := lw_at lw_m4 196 rfl
theorem q1274 : (Jvm.Cond.fieldLinkNest "ScholarsPress" (365 : Nat) "ScholarsPress$Book" "rowLeft" "[I" "ScholarsPress") ∈ lw_tbl := lw_at lw_m4 200 rfl
theorem q1285 : (Jvm.Cond.fieldLinkNest "ScholarsPress" (413 : Nat) "ScholarsPress$Book" "beginsIn" "[I" "ScholarsPress") ∈ lw_tbl := lw_at lw_m4 211 rfl
theorem q1287 : (Jvm.Cond.fieldLinkNest "ScholarsPress" (419 : Nat) "ScholarsPress$Book" "endsIn" "[I" "ScholarsPress") ∈ lw_tbl := lw_at lw_m4 213 rfl
theorem q1289 : (Jvm.Cond.fieldLinkNest "ScholarsPress" (431 : Nat) "ScholarsPress$Book" "notes" "[I" "ScholarsPress") ∈ lw_tbl := lw_at lw_m4 215 rfl
theorem q1292 : (Jvm.Cond.fieldLinkNest "ScholarsPress" (434 : Nat) "ScholarsPress$Book" "noteCall" "[I" "ScholarsPress") ∈ lw_tbl := lw_at lw_m4 218 rfl
theorem q1294 : (Jvm.Cond.fieldLinkNest "ScholarsPress" (319 : Nat) "ScholarsPress$Book" "noteMany" "I" "ScholarsPress") ∈ lw_tbl := lw_at lw_m4 220 rfl
theorem q1296 : (Jvm.Cond.fieldLinkNest "ScholarsPress" (443 : Nat) "ScholarsPress$Book" "floats" "[I" "ScholarsPress") ∈ lw_tbl := lw_at lw_m4 222 rfl
theorem q1298 : (Jvm.Cond.fieldLinkNest "ScholarsPress" (446 : Nat) "ScholarsPress$Book" "floatCall" "[I" "ScholarsPress") ∈ lw_tbl := lw_at lw_m4 224 rfl
theorem q1300 : (Jvm.Cond.fieldLinkNest "ScholarsPress" (322 : Nat) "ScholarsPress$Book" "floatMany" "I" "ScholarsPress") ∈ lw_tbl := lw_at lw_m4 226 rfl
theorem q1305 : (Jvm.Cond.fieldLinkNest "ScholarsPress" (325 : Nat) "ScholarsPress$Book" "entries" "LScholarsPress$Entries;" "ScholarsPress") ∈ lw_tbl := lw_at lw_m4 231 rfl
theorem q1317 : (Jvm.Cond.fieldLinkNest "ScholarsPress" (425 : Nat) "ScholarsPress$Book" "noteFrom" "[I" "ScholarsPress") ∈ lw_tbl := lw_at lw_m5 3 rfl
theorem q1322 : (Jvm.Cond.fieldLinkNest "ScholarsPress" (312 : Nat) "ScholarsPress$Book" "columns" "I" "ScholarsPress") ∈ lw_tbl := lw_at lw_m5 8 rfl
theorem q1327 : (Jvm.Cond.fieldLinkNest "ScholarsPress" (437 : Nat) "ScholarsPress$Book" "noteEnd" "[I" "ScholarsPress") ∈ lw_tbl := lw_at lw_m5 13 rfl
theorem q1331 : (Jvm.Cond.fieldLinkNest "ScholarsPress" (344 : Nat) "ScholarsPress$Book" "columnOf" "[I" "ScholarsPress") ∈ lw_tbl := lw_at lw_m5 17 rfl
theorem q1333 : (Jvm.Cond.fieldLinkNest "ScholarsPress" (347 : Nat) "ScholarsPress$Book" "topOf" "[I" "ScholarsPress") ∈ lw_tbl := lw_at lw_m5 19 rfl
theorem q1469 : (Jvm.Cond.classLink "ScholarsPress" (100 : Nat) "ScholarsPress$Shapes") ∈ lw_all := lw_g (lw_at lw_m5 155 rfl) rfl
theorem q1471 : (Jvm.Cond.methodLinkNest "ScholarsPress" (102 : Nat) ({ cls := "ScholarsPress$Shapes", name := "<init>", desc := "()V" } : Jvm.MethodName) "ScholarsPress") ∈ lw_tbl := lw_at lw_m5 157 rfl
theorem q1485 : (Jvm.Cond.classLink "ScholarsPress" (107 : Nat) "ScholarsPress$Bytes") ∈ lw_all := lw_g (lw_at lw_m5 171 rfl) rfl
theorem q1486 : (Jvm.Cond.constant "ScholarsPress" (109 : Nat) (65536 : Int32)) ∈ lw_all := lw_g (lw_at lw_m5 172 rfl) rfl
theorem q1487 : (Jvm.Cond.methodLinkNest "ScholarsPress" (110 : Nat) ({ cls := "ScholarsPress$Bytes", name := "<init>", desc := "(I)V" } : Jvm.MethodName) "ScholarsPress") ∈ lw_tbl := lw_at lw_m5 173 rfl
theorem q1488 : (Jvm.Cond.fieldLink "ScholarsPress" (22 : Nat) "ScholarsPress" "tape" "[B") ∈ lw_all := lw_g (lw_at lw_m5 174 rfl) rfl
theorem q1489 : (Jvm.Cond.fieldLink "ScholarsPress" (124 : Nat) "ScholarsPress" "taped" "I") ∈ lw_all := lw_g (lw_at lw_m5 175 rfl) rfl
theorem q1490 : (Jvm.Cond.fieldLink "ScholarsPress" (31 : Nat) "ScholarsPress" "signs" "LScholarsPress$Signs;") ∈ lw_all := lw_g (lw_at lw_m5 176 rfl) rfl
theorem q1491 : (Jvm.Cond.fieldLink "ScholarsPress" (38 : Nat) "ScholarsPress" "styles" "[LScholarsPress$Style;") ∈ lw_all := lw_g (lw_at lw_m5 177 rfl) rfl
theorem q1492 : (Jvm.Cond.fieldLink "ScholarsPress" (45 : Nat) "ScholarsPress" "sources" "[LScholarsPress$Source;") ∈ lw_all := lw_g (lw_at lw_m5 178 rfl) rfl
theorem q1493 : (Jvm.Cond.fieldLink "ScholarsPress" (52 : Nat) "ScholarsPress" "trees" "[LScholarsPress$Tree;") ∈ lw_all := lw_g (lw_at lw_m5 179 rfl) rfl
theorem q1494 : (Jvm.Cond.fieldLink "ScholarsPress" (56 : Nat) "ScholarsPress" "style" "LScholarsPress$Style;") ∈ lw_all := lw_g (lw_at lw_m5 180 rfl) rfl
theorem q1495 : (Jvm.Cond.fieldLink "ScholarsPress" (63 : Nat) "ScholarsPress" "font" "LScholarsPress$Font;") ∈ lw_all := lw_g (lw_at lw_m5 181 rfl) rfl
theorem q1496 : (Jvm.Cond.fieldLink "ScholarsPress" (67 : Nat) "ScholarsPress" "otherFont" "LScholarsPress$Font;") ∈ lw_all := lw_g (lw_at lw_m5 182 rfl) rfl
theorem q1497 : (Jvm.Cond.fieldLink "ScholarsPress" (73 : Nat) "ScholarsPress" "patterns" "LScholarsPress$Hyphens;") ∈ lw_all := lw_g (lw_at lw_m5 183 rfl) rfl
theorem q1498 : (Jvm.Cond.fieldLink "ScholarsPress" (77 : Nat) "ScholarsPress" "otherPatterns" "LScholarsPress$Hyphens;") ∈ lw_all := lw_g (lw_at lw_m5 184 rfl) rfl
theorem q1499 : (Jvm.Cond.fieldLink "ScholarsPress" (182 : Nat) "ScholarsPress" "source" "LScholarsPress$Source;") ∈ lw_all := lw_g (lw_at lw_m5 185 rfl) rfl
theorem q1500 : (Jvm.Cond.fieldLink "ScholarsPress" (219 : Nat) "ScholarsPress" "tree" "LScholarsPress$Tree;") ∈ lw_all := lw_g (lw_at lw_m5 186 rfl) rfl
theorem q1501 : (Jvm.Cond.fieldLink "ScholarsPress" (175 : Nat) "ScholarsPress" "treeFits" "Z") ∈ lw_all := lw_g (lw_at lw_m5 187 rfl) rfl
theorem q1502 : (Jvm.Cond.fieldLink "ScholarsPress" (80 : Nat) "ScholarsPress" "place" "I") ∈ lw_all := lw_g (lw_at lw_m5 188 rfl) rfl
theorem q1503 : (Jvm.Cond.fieldLink "ScholarsPress" (87 : Nat) "ScholarsPress" "desk" "LScholarsPress$Desk;") ∈ lw_all := lw_g (lw_at lw_m5 189 rfl) rfl
theorem q1504 : (Jvm.Cond.fieldLink "ScholarsPress" (96 : Nat) "ScholarsPress" "books" "[LScholarsPress$Book;") ∈ lw_all := lw_g (lw_at lw_m5 190 rfl) rfl
theorem q1505 : (Jvm.Cond.fieldLink "ScholarsPress" (103 : Nat) "ScholarsPress" "shapes" "LScholarsPress$Shapes;") ∈ lw_all := lw_g (lw_at lw_m5 191 rfl) rfl
theorem q1506 : (Jvm.Cond.fieldLink "ScholarsPress" (169 : Nat) "ScholarsPress" "book" "LScholarsPress$Book;") ∈ lw_all := lw_g (lw_at lw_m5 192 rfl) rfl
theorem q1507 : (Jvm.Cond.fieldLink "ScholarsPress" (255 : Nat) "ScholarsPress" "fresh" "I") ∈ lw_all := lw_g (lw_at lw_m5 193 rfl) rfl
theorem q1508 : (Jvm.Cond.fieldLink "ScholarsPress" (113 : Nat) "ScholarsPress" "out" "LScholarsPress$Bytes;") ∈ lw_all := lw_g (lw_at lw_m5 194 rfl) rfl
theorem q1509 : (Jvm.Cond.fieldLink "ScholarsPress" (117 : Nat) "ScholarsPress" "otherOut" "LScholarsPress$Bytes;") ∈ lw_all := lw_g (lw_at lw_m5 195 rfl) rfl
theorem q1510 : (Jvm.Cond.fieldLink "ScholarsPress" (120 : Nat) "ScholarsPress" "numbers" "[I") ∈ lw_all := lw_g (lw_at lw_m5 196 rfl) rfl
theorem q1511 : (Jvm.Cond.laysFinal "ScholarsPress" "ScholarsPress" "tape" "[B") ∈ lw_all := lw_g (lw_at lw_m5 197 rfl) rfl
theorem q1512 : (Jvm.Cond.soleField "ScholarsPress" "tape") ∈ lw_all := lw_g (lw_at lw_m5 198 rfl) rfl
theorem q1513 : (Jvm.Cond.lays "ScholarsPress" "ScholarsPress" "taped" "I") ∈ lw_all := lw_g (lw_at lw_m5 199 rfl) rfl
theorem q1514 : (Jvm.Cond.soleField "ScholarsPress" "taped") ∈ lw_all := lw_g (lw_at lw_m5 200 rfl) rfl
theorem q1515 : (Jvm.Cond.laysFinal "ScholarsPress" "ScholarsPress" "signs" "LScholarsPress$Signs;") ∈ lw_all := lw_g (lw_at lw_m5 201 rfl) rfl
theorem q1516 : (Jvm.Cond.soleField "ScholarsPress" "signs") ∈ lw_all := lw_g (lw_at lw_m5 202 rfl) rfl
theorem q1517 : (Jvm.Cond.laysFinal "ScholarsPress" "ScholarsPress" "styles" "[LScholarsPress$Style;") ∈ lw_all := lw_g (lw_at lw_m5 203 rfl) rfl
theorem q1518 : (Jvm.Cond.soleField "ScholarsPress" "styles") ∈ lw_all := lw_g (lw_at lw_m5 204 rfl) rfl
theorem q1519 : (Jvm.Cond.laysFinal "ScholarsPress" "ScholarsPress" "sources" "[LScholarsPress$Source;") ∈ lw_all := lw_g (lw_at lw_m5 205 rfl) rfl
theorem q1520 : (Jvm.Cond.soleField "ScholarsPress" "sources") ∈ lw_all := lw_g (lw_at lw_m5 206 rfl) rfl
theorem q1521 : (Jvm.Cond.laysFinal "ScholarsPress" "ScholarsPress" "trees" "[LScholarsPress$Tree;") ∈ lw_all := lw_g (lw_at lw_m5 207 rfl) rfl
theorem q1522 : (Jvm.Cond.soleField "ScholarsPress" "trees") ∈ lw_all := lw_g (lw_at lw_m5 208 rfl) rfl
theorem q1523 : (Jvm.Cond.lays "ScholarsPress" "ScholarsPress" "style" "LScholarsPress$Style;") ∈ lw_all := lw_g (lw_at lw_m5 209 rfl) rfl
theorem q1524 : (Jvm.Cond.soleField "ScholarsPress" "style") ∈ lw_all := lw_g (lw_at lw_m5 210 rfl) rfl
theorem q1525 : (Jvm.Cond.lays "ScholarsPress" "ScholarsPress" "font" "LScholarsPress$Font;") ∈ lw_all := lw_g (lw_at lw_m5 211 rfl) rfl
theorem q1526 : (Jvm.Cond.soleField "ScholarsPress" "font") ∈ lw_all := lw_g (lw_at lw_m5 212 rfl) rfl
theorem q1527 : (Jvm.Cond.lays "ScholarsPress" "ScholarsPress" "otherFont" "LScholarsPress$Font;") ∈ lw_all := lw_g (lw_at lw_m5 213 rfl) rfl
theorem q1528 : (Jvm.Cond.soleField "ScholarsPress" "otherFont") ∈ lw_all := lw_g (lw_at lw_m5 214 rfl) rfl
theorem q1529 : (Jvm.Cond.lays "ScholarsPress" "ScholarsPress" "patterns" "LScholarsPress$Hyphens;") ∈ lw_all := lw_g (lw_at lw_m5 215 rfl) rfl
theorem q1530 : (Jvm.Cond.soleField "ScholarsPress" "patterns") ∈ lw_all := lw_g (lw_at lw_m5 216 rfl) rfl
theorem q1531 : (Jvm.Cond.lays "ScholarsPress" "ScholarsPress" "otherPatterns" "LScholarsPress$Hyphens;") ∈ lw_all := lw_g (lw_at lw_m5 217 rfl) rfl
theorem q1532 : (Jvm.Cond.soleField "ScholarsPress" "otherPatterns") ∈ lw_all := lw_g (lw_at lw_m5 218 rfl) rfl
theorem q1533 : (Jvm.Cond.lays "ScholarsPress" "ScholarsPress" "source" "LScholarsPress$Source;") ∈ lw_all := lw_g (lw_at lw_m5 219 rfl) rfl
theorem q1534 : (Jvm.Cond.soleField "ScholarsPress" "source") ∈ lw_all := lw_g (lw_at lw_m5 220 rfl) rfl
theorem q1535 : (Jvm.Cond.lays "ScholarsPress" "ScholarsPress" "tree" "LScholarsPress$Tree;") ∈ lw_all := lw_g (lw_at lw_m5 221 rfl) rfl
theorem q1536 : (Jvm.Cond.soleField "ScholarsPress" "tree") ∈ lw_all := lw_g (lw_at lw_m5 222 rfl) rfl
theorem q1537 : (Jvm.Cond.lays "ScholarsPress" "ScholarsPress" "treeFits" "Z") ∈ lw_all := lw_g (lw_at lw_m5 223 rfl) rfl
theorem q1538 : (Jvm.Cond.soleField "ScholarsPress" "treeFits") ∈ lw_all := lw_g (lw_at lw_m5 224 rfl) rfl
theorem q1539 : (Jvm.Cond.lays "ScholarsPress" "ScholarsPress" "place" "I") ∈ lw_all := lw_g (lw_at lw_m5 225 rfl) rfl
theorem q1540 : (Jvm.Cond.soleField "ScholarsPress" "place") ∈ lw_all := lw_g (lw_at lw_m5 226 rfl) rfl
theorem q1541 : (Jvm.Cond.laysFinal "ScholarsPress" "ScholarsPress" "desk" "LScholarsPress$Desk;") ∈ lw_all := lw_g (lw_at lw_m5 227 rfl) rfl
theorem q1542 : (Jvm.Cond.soleField "ScholarsPress" "desk") ∈ lw_all := lw_g (lw_at lw_m5 228 rfl) rfl
theorem q1543 : (Jvm.Cond.laysFinal "ScholarsPress" "ScholarsPress" "books" "[LScholarsPress$Book;") ∈ lw_all := lw_g (lw_at lw_m5 229 rfl) rfl
theorem q1544 : (Jvm.Cond.soleField "ScholarsPress" "books") ∈ lw_all := lw_g (lw_at lw_m5 230 rfl) rfl
theorem q1545 : (Jvm.Cond.laysFinal "ScholarsPress" "ScholarsPress" "shapes" "LScholarsPress$Shapes;") ∈ lw_all := lw_g (lw_at lw_m5 231 rfl) rfl
theorem q1546 : (Jvm.Cond.soleField "ScholarsPress" "shapes") ∈ lw_all := lw_g (lw_at lw_m5 232 rfl) rfl
theorem q1547 : (Jvm.Cond.lays "ScholarsPress" "ScholarsPress" "book" "LScholarsPress$Book;") ∈ lw_all := lw_g (lw_at lw_m5 233 rfl) rfl
theorem q1548 : (Jvm.Cond.soleField "ScholarsPress" "book") ∈ lw_all := lw_g (lw_at lw_m5 234 rfl) rfl
theorem q1549 : (Jvm.Cond.lays "ScholarsPress" "ScholarsPress" "fresh" "I") ∈ lw_all := lw_g (lw_at lw_m5 235 rfl) rfl
theorem q1550 : (Jvm.Cond.soleField "ScholarsPress" "fresh") ∈ lw_all := lw_g (lw_at lw_m5 236 rfl) rfl
theorem q1551 : (Jvm.Cond.lays "ScholarsPress" "ScholarsPress" "out" "LScholarsPress$Bytes;") ∈ lw_all := lw_g (lw_at lw_m5 237 rfl) rfl
theorem q1552 : (Jvm.Cond.soleField "ScholarsPress" "out") ∈ lw_all := lw_g (lw_at lw_m5 238 rfl) rfl
theorem q1553 : (Jvm.Cond.lays "ScholarsPress" "ScholarsPress" "otherOut" "LScholarsPress$Bytes;") ∈ lw_all := lw_g (lw_at lw_m5 239 rfl) rfl
theorem q1554 : (Jvm.Cond.soleField "ScholarsPress" "otherOut") ∈ lw_all := lw_g (lw_at lw_m6 0 rfl) rfl
theorem q1555 : (Jvm.Cond.laysFinal "ScholarsPress" "ScholarsPress" "numbers" "[I") ∈ lw_all := lw_g (lw_at lw_m6 1 rfl) rfl
theorem q1556 : (Jvm.Cond.soleField "ScholarsPress" "numbers") ∈ lw_all := lw_g (lw_at lw_m6 2 rfl) rfl
theorem q1557 : (Jvm.Cond.superclass "ScholarsPress" "java/lang/Object") ∈ lw_all := lw_g (lw_at lw_m6 3 rfl) rfl
theorem q1559 : (Jvm.Cond.instanceMethod ({ cls := "ScholarsPress", name := "place", desc := "()I" } : Jvm.MethodName)) ∈ lw_all := lw_g (lw_at lw_m6 5 rfl) rfl
theorem q1560 : (Jvm.Cond.selects "ScholarsPress" ({ cls := "ScholarsPress", name := "place", desc := "()I" } : Jvm.MethodName) ({ cls := "ScholarsPress", name := "place", desc := "()I" } : Jvm.MethodName)) ∈ lw_all := lw_g (lw_at lw_m6 6 rfl) rfl
theorem q1561 : (Jvm.Cond.code ({ cls := "ScholarsPress", name := "place", desc := "()I" } : Jvm.MethodName) prog_1_method_23_code (1 : Nat) (Option.some Jvm.ClassFile.FieldType.int)) ∈ lw_all := lw_g (lw_at lw_m6 7 rfl) rfl
theorem q1648 : (Jvm.Cond.instanceMethod ({ cls := "ScholarsPress", name := "feed", desc := "(IIIII)I" } : Jvm.MethodName)) ∈ lw_all := lw_g (lw_at lw_m6 94 rfl) rfl
theorem q1649 : (Jvm.Cond.selects "ScholarsPress" ({ cls := "ScholarsPress", name := "feed", desc := "(IIIII)I" } : Jvm.MethodName) ({ cls := "ScholarsPress", name := "feed", desc := "(IIIII)I" } : Jvm.MethodName)) ∈ lw_all := lw_g (lw_at lw_m6 95 rfl) rfl
theorem q1650 : (Jvm.Cond.code ({ cls := "ScholarsPress", name := "feed", desc := "(IIIII)I" } : Jvm.MethodName) prog_1_method_11_code (6 : Nat) (Option.some Jvm.ClassFile.FieldType.int)) ∈ lw_all := lw_g (lw_at lw_m6 96 rfl) rfl
theorem q1651 : (Jvm.Cond.methodLink "ScholarsPress" (127 : Nat) ({ cls := "ScholarsPress", name := "room", desc := "(Z)V" } : Jvm.MethodName)) ∈ lw_all := lw_g (lw_at lw_m6 97 rfl) rfl
theorem q1652 : (Jvm.Cond.static ({ cls := "ScholarsPress", name := "room", desc := "(Z)V" } : Jvm.MethodName)) ∈ lw_all := lw_g (lw_at lw_m6 98 rfl) rfl
theorem q1653 : (Jvm.Cond.code ({ cls := "ScholarsPress", name := "room", desc := "(Z)V" } : Jvm.MethodName) prog_1_method_3_code (1 : Nat) (Option.none : Option Jvm.ClassFile.FieldType)) ∈ lw_all := lw_g (lw_at lw_m6 99 rfl) rfl
theorem q1654 : (Jvm.Cond.classLink "ScholarsPress" (10 : Nat) "java/lang/IndexOutOfBoundsException") ∈ lw_all := lw_g (lw_at lw_m6 100 rfl) rfl
theorem q1663 : (Jvm.Cond.methodLink "ScholarsPress" (12 : Nat) ({ cls := "java/lang/IndexOutOfBoundsException", name := "<init>", desc := "()V" } : Jvm.MethodName)) ∈ lw_all := lw_g (lw_at lw_m6 109 rfl) rfl
theorem q1675 : (Jvm.Cond.methodLink "ScholarsPress" (131 : Nat) ({ cls := "ScholarsPress", name := "four", desc := "(I)V" } : Jvm.MethodName)) ∈ lw_all := lw_g (lw_at lw_m6 121 rfl) rfl
theorem q1676 : (Jvm.Cond.privateMethod ({ cls := "ScholarsPress", name := "four", desc := "(I)V" } : Jvm.MethodName)) ∈ lw_tbl := lw_at lw_m6 122 rfl
theorem q1677 : (Jvm.Cond.instanceMethod ({ cls := "ScholarsPress", name := "four", desc := "(I)V" } : Jvm.MethodName)) ∈ lw_all := lw_g (lw_at lw_m6 123 rfl) rfl
theorem q1678 : (Jvm.Cond.code ({ cls := "ScholarsPress", name := "four", desc := "(I)V" } : Jvm.MethodName) prog_1_method_12_code (3 : Nat) (Option.none : Option Jvm.ClassFile.FieldType)) ∈ lw_all := lw_g (lw_at lw_m6 124 rfl) rfl
theorem q1684 : (Jvm.Cond.instanceMethod ({ cls := "ScholarsPress", name := "end", desc := "(I)I" } : Jvm.MethodName)) ∈ lw_all := lw_g (lw_at lw_m6 130 rfl) rfl
theorem q1685 : (Jvm.Cond.selects "ScholarsPress" ({ cls := "ScholarsPress", name := "end", desc := "(I)I" } : Jvm.MethodName) ({ cls := "ScholarsPress", name := "end", desc := "(I)I" } : Jvm.MethodName)) ∈ lw_all := lw_g (lw_at lw_m6 131 rfl) rfl
theorem q1686 : (Jvm.Cond.code ({ cls := "ScholarsPress", name := "end", desc := "(I)I" } : Jvm.MethodName) prog_1_method_13_code (2 : Nat) (Option.some Jvm.ClassFile.FieldType.int)) ∈ lw_all := lw_g (lw_at lw_m6 132 rfl) rfl
theorem q1687 : (Jvm.Cond.methodLink "ScholarsPress" (134 : Nat) ({ cls := "ScholarsPress", name := "good", desc := "(Z)V" } : Jvm.MethodName)) ∈ lw_all := lw_g (lw_at lw_m6 133 rfl) rfl
theorem q1688 : (Jvm.Cond.static ({ cls := "ScholarsPress", name := "good", desc := "(Z)V" } : Jvm.MethodName)) ∈ lw_all := lw_g (lw_at lw_m6 134 rfl) rfl
theorem q1689 : (Jvm.Cond.code ({ cls := "ScholarsPress", name := "good", desc := "(Z)V" } : Jvm.MethodName) prog_1_method_1_code (1 : Nat) (Option.none : Option Jvm.ClassFile.FieldType)) ∈ lw_all := lw_g (lw_at lw_m6 135 rfl) rfl
theorem q1690 : (Jvm.Cond.classLink "ScholarsPress" (1 : Nat) "java/lang/IllegalArgumentException") ∈ lw_all := lw_g (lw_at lw_m6 136 rfl) rfl
theorem q1699 : (Jvm.Cond.methodLink "ScholarsPress" (3 : Nat) ({ cls := "java/lang/IllegalArgumentException", name := "<init>", desc := "()V" } : Jvm.MethodName)) ∈ lw_all := lw_g (lw_at lw_m6 145 rfl) rfl
theorem q1710 : (Jvm.Cond.instanceMethod ({ cls := "ScholarsPress", name := "font", desc := "()I" } : Jvm.MethodName)) ∈ lw_all := lw_g (lw_at lw_m6 156 rfl) rfl
theorem q1711 : (Jvm.Cond.selects "ScholarsPress" ({ cls := "ScholarsPress", name := "font", desc := "()I" } : Jvm.MethodName) ({ cls := "ScholarsPress", name := "font", desc := "()I" } : Jvm.MethodName)) ∈ lw_all := lw_g (lw_at lw_m6 157 rfl) rfl
theorem q1712 : (Jvm.Cond.codeWith ({ cls := "ScholarsPress", name := "font", desc := "()I" } : Jvm.MethodName) prog_1_method_16_code (2 : Nat) (Option.some Jvm.ClassFile.FieldType.int) [((11 : Nat), (22 : Nat), (25 : Nat), (138 : Nat))]) ∈ lw_all := lw_g (lw_at lw_m6 158 rfl) rfl
theorem q1713 : (Jvm.Cond.classLink "ScholarsPress" (138 : Nat) "ScholarsPress$Broken") ∈ lw_all := lw_g (lw_at lw_m6 159 rfl) rfl
theorem q1714 : (Jvm.Cond.methodLink "ScholarsPress" (143 : Nat) ({ cls := "ScholarsPress", name := "take", desc := "()I" } : Jvm.MethodName)) ∈ lw_all := lw_g (lw_at lw_m6 160 rfl) rfl
theorem q1715 : (Jvm.Cond.privateMethod ({ cls := "ScholarsPress", name := "take", desc := "()I" } : Jvm.MethodName)) ∈ lw_tbl := lw_at lw_m6 161 rfl
theorem q1716 : (Jvm.Cond.instanceMethod ({ cls := "ScholarsPress", name := "take", desc := "()I" } : Jvm.MethodName)) ∈ lw_all := lw_g (lw_at lw_m6 162 rfl) rfl
theorem q1717 : (Jvm.Cond.code ({ cls := "ScholarsPress", name := "take", desc := "()I" } : Jvm.MethodName) prog_1_method_14_code (2 : Nat) (Option.some Jvm.ClassFile.FieldType.int)) ∈ lw_all := lw_g (lw_at lw_m6 163 rfl) rfl
theorem q1718 : (Jvm.Cond.methodLinkNest "ScholarsPress" (147 : Nat) ({ cls := "ScholarsPress$Signs", name := "begin", desc := "(I)V" } : Jvm.MethodName) "ScholarsPress") ∈ lw_tbl := lw_at lw_m6 164 rfl
theorem q1731 : (Jvm.Cond.static ({ cls := "ScholarsPress", name := "isBlank", desc := "(I)Z" } : Jvm.MethodName)) ∈ lw_all := lw_g (lw_at lw_m6 177 rfl) rfl
theorem q1732 : (Jvm.Cond.code ({ cls := "ScholarsPress", name := "isBlank", desc := "(I)Z" } : Jvm.MethodName) prog_1_method_4_code (1 : Nat) (Option.some Jvm.ClassFile.FieldType.boolean)) ∈ lw_all := lw_g (lw_at lw_m6 178 rfl) rfl
theorem q1734 : (Jvm.Cond.static ({ cls := "ScholarsPress", name := "isSmall", desc := "(I)Z" } : Jvm.MethodName)) ∈ lw_all := lw_g (lw_at lw_m6 180 rfl) rfl
theorem q1735 : (Jvm.Cond.code ({ cls := "ScholarsPress", name := "isSmall", desc := "(I)Z" } : Jvm.MethodName) prog_1_method_5_code (1 : Nat) (Option.some Jvm.ClassFile.FieldType.boolean)) ∈ lw_all := lw_g (lw_at lw_m6 181 rfl) rfl
theorem q1741 : (Jvm.Cond.static ({ cls := "ScholarsPress", name := "isDigit", desc := "(I)Z" } : Jvm.MethodName)) ∈ lw_all := lw_g (lw_at lw_m6 187 rfl) rfl
theorem q1742 : (Jvm.Cond.code ({ cls := "ScholarsPress", name := "isDigit", desc := "(I)Z" } : Jvm.MethodName) prog_1_method_6_code (1 : Nat) (Option.some Jvm.ClassFile.FieldType.boolean)) ∈ lw_all := lw_g (lw_at lw_m6 188 rfl) rfl
theorem q1752 : (Jvm.Cond.static ({ cls := "ScholarsPress", name := "isPlain", desc := "(I)Z" } : Jvm.MethodName)) ∈ lw_all := lw_g (lw_at lw_m6 198 rfl) rfl
theorem q1753 : (Jvm.Cond.code ({ cls := "ScholarsPress", name := "isPlain", desc := "(I)Z" } : Jvm.MethodName) prog_1_method_8_code (1 : Nat) (Option.some Jvm.ClassFile.FieldType.boolean)) ∈ lw_all := lw_g (lw_at lw_m6 199 rfl) rfl
theorem q1754 : (Jvm.Cond.methodLinkNest "ScholarsPress" (150 : Nat) ({ cls := "ScholarsPress$Font", name := "read", desc := "(LScholarsPress$Signs;)V" } : Jvm.MethodName) "ScholarsPress") ∈ lw_tbl := lw_at lw_m6 200 rfl
theorem q1853 : (Jvm.Cond.fieldLinkNest "ScholarsPress" (137 : Nat) "ScholarsPress$Broken" "place" "I" "ScholarsPress") ∈ lw_tbl := lw_at lw_m7 59 rfl
theorem q1878 : (Jvm.Cond.methodLink "ScholarsPress" (154 : Nat) ({ cls := "ScholarsPress", name := "broken", desc := "(LScholarsPress$Broken;)Ljava/lang/UnsupportedOperationException;" } : Jvm.MethodName)) ∈ lw_all := lw_g (lw_at lw_m7 84 rfl) rfl
theorem q1879 : (Jvm.Cond.privateMethod ({ cls := "ScholarsPress", name := "broken", desc := "(LScholarsPress$Broken;)Ljava/lang/UnsupportedOperationException;" } : Jvm.MethodName)) ∈ lw_tbl := lw_at lw_m7 85 rfl
theorem q1880 : (Jvm.Cond.instanceMethod ({ cls := "ScholarsPress", name := "broken", desc := "(LScholarsPress$Broken;)Ljava/lang/UnsupportedOperationException;" } : Jvm.MethodName)) ∈ lw_all := lw_g (lw_at lw_m7 86 rfl) rfl
theorem q1881 : (Jvm.Cond.code ({ cls := "ScholarsPress", name := "broken", desc := "(LScholarsPress$Broken;)Ljava/lang/UnsupportedOperationException;" } : Jvm.MethodName) prog_1_method_15_code (2 : Nat) (Option.some (Jvm.ClassFile.FieldType.object "java/lang/UnsupportedOperationException"))) ∈ lw_all := lw_g (lw_at lw_m7 87 rfl) rfl
theorem q1882 : (Jvm.Cond.classLink "ScholarsPress" (140 : Nat) "java/lang/UnsupportedOperationException") ∈ lw_all := lw_g (lw_at lw_m7 88 rfl) rfl
theorem q1891 : (Jvm.Cond.methodLink "ScholarsPress" (142 : Nat) ({ cls := "java/lang/UnsupportedOperationException", name := "<init>", desc := "()V" } : Jvm.MethodName)) ∈ lw_all := lw_g (lw_at lw_m7 97 rfl) rfl
theorem q1901 : (Jvm.Cond.instanceMethod ({ cls := "ScholarsPress", name := "hyphens", desc := "()I" } : Jvm.MethodName)) ∈ lw_all := lw_g (lw_at lw_m7 107 rfl) rfl
theorem q1902 : (Jvm.Cond.selects "ScholarsPress" ({ cls := "ScholarsPress", name := "hyphens", desc := "()I" } : Jvm.MethodName) ({ cls := "ScholarsPress", name := "hyphens", desc := "()I" } : Jvm.MethodName)) ∈ lw_all := lw_g (lw_at lw_m7 108 rfl) rfl
theorem q1903 : (Jvm.Cond.codeWith ({ cls := "ScholarsPress", name := "hyphens", desc := "()I" } : Jvm.MethodName) prog_1_method_17_code (3 : Nat) (Option.some Jvm.ClassFile.FieldType.int) [((5 : Nat), (17 : Nat), (20 : Nat), (138 : Nat))]) ∈ lw_all := lw_g (lw_at lw_m7 109 rfl) rfl
theorem q1904 : (Jvm.Cond.methodLinkNest "ScholarsPress" (161 : Nat) ({ cls := "ScholarsPress$Hyphens", name := "read", desc := "([BI)V" } : Jvm.MethodName) "ScholarsPress") ∈ lw_tbl := lw_at lw_m7 110 rfl
theorem q1936 : (Jvm.Cond.static ({ cls := "ScholarsPress", name := "small", desc := "(I)I" } : Jvm.MethodName)) ∈ lw_all := lw_g (lw_at lw_m7 142 rfl) rfl
theorem q1937 : (Jvm.Cond.code ({ cls := "ScholarsPress", name := "small", desc := "(I)I" } : Jvm.MethodName) prog_1_method_9_code (1 : Nat) (Option.some Jvm.ClassFile.FieldType.int)) ∈ lw_all := lw_g (lw_at lw_m7 143 rfl) rfl
theorem q1955 : (Jvm.Cond.instanceMethod ({ cls := "ScholarsPress", name := "style", desc := "()I" } : Jvm.MethodName)) ∈ lw_all := lw_g (lw_at lw_m7 161 rfl) rfl
theorem q1956 : (Jvm.Cond.selects "ScholarsPress" ({ cls := "ScholarsPress", name := "style", desc := "()I" } : Jvm.MethodName) ({ cls := "ScholarsPress", name := "style", desc := "()I" } : Jvm.MethodName)) ∈ lw_all := lw_g (lw_at lw_m7 162 rfl) rfl
theorem q1957 : (Jvm.Cond.codeWith ({ cls := "ScholarsPress", name := "style", desc := "()I" } : Jvm.MethodName) prog_1_method_18_code (3 : Nat) (Option.some Jvm.ClassFile.FieldType.int) [((55 : Nat), (68 : Nat), (71 : Nat), (138 : Nat))]) ∈ lw_all := lw_g (lw_at lw_m7 163 rfl) rfl
theorem q1958 : (Jvm.Cond.methodLinkNest "ScholarsPress" (174 : Nat) ({ cls := "ScholarsPress$Style", name := "read", desc := "(LScholarsPress$Signs;)V" } : Jvm.MethodName) "ScholarsPress") ∈ lw_tbl := lw_at lw_m7 164 rfl
theorem q2124 : (Jvm.Cond.instanceMethod ({ cls := "ScholarsPress", name := "source", desc := "()I" } : Jvm.MethodName)) ∈ lw_all := lw_g (lw_at lw_m8 90 rfl) rfl
theorem q2125 : (Jvm.Cond.selects "ScholarsPress" ({ cls := "ScholarsPress", name := "source", desc := "()I" } : Jvm.MethodName) ({ cls := "ScholarsPress", name := "source", desc := "()I" } : Jvm.MethodName)) ∈ lw_all := lw_g (lw_at lw_m8 91 rfl) rfl
theorem q2126 : (Jvm.Cond.code ({ cls := "ScholarsPress", name := "source", desc := "()I" } : Jvm.MethodName) prog_1_method_21_code (3 : Nat) (Option.some Jvm.ClassFile.FieldType.int)) ∈ lw_all := lw_g (lw_at lw_m8 92 rfl) rfl
theorem q2127 : (Jvm.Cond.methodLink "ScholarsPress" (192 : Nat) ({ cls := "ScholarsPress", name := "freeSource", desc := "()LScholarsPress$Source;" } : Jvm.MethodName)) ∈ lw_all := lw_g (lw_at lw_m8 93 rfl) rfl
theorem q2128 : (Jvm.Cond.privateMethod ({ cls := "ScholarsPress", name := "freeSource", desc := "()LScholarsPress$Source;" } : Jvm.MethodName)) ∈ lw_tbl := lw_at lw_m8 94 rfl
theorem q2129 : (Jvm.Cond.instanceMethod ({ cls := "ScholarsPress", name := "freeSource", desc := "()LScholarsPress$Source;" } : Jvm.MethodName)) ∈ lw_all := lw_g (lw_at lw_m8 95 rfl) rfl
theorem q2130 : (Jvm.Cond.code ({ cls := "ScholarsPress", name := "freeSource", desc := "()LScholarsPress$Source;" } : Jvm.MethodName) prog_1_method_19_code (2 : Nat) (Option.some (Jvm.ClassFile.FieldType.object "ScholarsPress$Source"))) ∈ lw_all := lw_g (lw_at lw_m8 96 rfl) rfl
theorem q2131 : (Jvm.Cond.methodLink "ScholarsPress" (199 : Nat) ({ cls := "java/lang/System", name := "arraycopy", desc := "(Ljava/lang/Object;ILjava/lang/Object;II)V" } : Jvm.MethodName)) ∈ lw_all := lw_g (lw_at lw_m8 97 rfl) rfl
theorem q2134 : (Jvm.Cond.methodLink "ScholarsPress" (205 : Nat) ({ cls := "ScholarsPress", name := "load", desc := "(LScholarsPress$Source;I)I" } : Jvm.MethodName)) ∈ lw_all := lw_g (lw_at lw_m8 100 rfl) rfl
theorem q2135 : (Jvm.Cond.privateMethod ({ cls := "ScholarsPress", name := "load", desc := "(LScholarsPress$Source;I)I" } : Jvm.MethodName)) ∈ lw_tbl := lw_at lw_m8 101 rfl
theorem q2136 : (Jvm.Cond.instanceMethod ({ cls := "ScholarsPress", name := "load", desc := "(LScholarsPress$Source;I)I" } : Jvm.MethodName)) ∈ lw_all := lw_g (lw_at lw_m8 102 rfl) rfl
theorem q2137 : (Jvm.Cond.codeWith ({ cls := "ScholarsPress", name := "load", desc := "(LScholarsPress$Source;I)I" } : Jvm.MethodName) prog_1_method_20_code (4 : Nat) (Option.some Jvm.ClassFile.FieldType.int) [((0 : Nat), (5 : Nat), (8 : Nat), (138 : Nat))]) ∈ lw_all := lw_g (lw_at lw_m8 103 rfl) rfl
theorem q2138 : (Jvm.Cond.methodLinkNest "ScholarsPress" (187 : Nat) ({ cls := "ScholarsPress$Source", name := "read", desc := "(I)V" } : Jvm.MethodName) "ScholarsPress") ∈ lw_tbl := lw_at lw_m8 104 rfl
theorem q2239 : (Jvm.Cond.instanceMethod ({ cls := "ScholarsPress", name := "change", desc := "(II)I" } : Jvm.MethodName)) ∈ lw_all := lw_g (lw_at lw_m8 205 rfl) rfl
theorem q2240 : (Jvm.Cond.selects "ScholarsPress" ({ cls := "ScholarsPress", name := "change", desc := "(II)I" } : Jvm.MethodName) ({ cls := "ScholarsPress", name := "change", desc := "(II)I" } : Jvm.MethodName)) ∈ lw_all := lw_g (lw_at lw_m8 206 rfl) rfl
theorem q2241 : (Jvm.Cond.code ({ cls := "ScholarsPress", name := "change", desc := "(II)I" } : Jvm.MethodName) prog_1_method_22_code (6 : Nat) (Option.some Jvm.ClassFile.FieldType.int)) ∈ lw_all := lw_g (lw_at lw_m8 207 rfl) rfl
theorem q2242 : (Jvm.Cond.methodLink "ScholarsPress" (212 : Nat) ({ cls := "ScholarsPress", name := "state", desc := "(Z)V" } : Jvm.MethodName)) ∈ lw_all := lw_g (lw_at lw_m8 208 rfl) rfl
theorem q2243 : (Jvm.Cond.static ({ cls := "ScholarsPress", name := "state", desc := "(Z)V" } : Jvm.MethodName)) ∈ lw_all := lw_g (lw_at lw_m8 209 rfl) rfl
theorem q2244 : (Jvm.Cond.code ({ cls := "ScholarsPress", name := "state", desc := "(Z)V" } : Jvm.MethodName) prog_1_method_2_code (1 : Nat) (Option.none : Option Jvm.ClassFile.FieldType)) ∈ lw_all := lw_g (lw_at lw_m8 210 rfl) rfl
theorem q2245 : (Jvm.Cond.classLink "ScholarsPress" (7 : Nat) "java/lang/IllegalStateException") ∈ lw_all := lw_g (lw_at lw_m8 211 rfl) rfl
theorem q2254 : (Jvm.Cond.methodLink "ScholarsPress" (9 : Nat) ({ cls := "java/lang/IllegalStateException", name := "<init>", desc := "()V" } : Jvm.MethodName)) ∈ lw_all := lw_g (lw_at lw_m8 220 rfl) rfl
theorem q2278 : (Jvm.Cond.instanceMethod ({ cls := "ScholarsPress", name := "set", desc := "(I)I" } : Jvm.MethodName)) ∈ lw_all := lw_g (lw_at lw_m9 4 rfl) rfl
theorem q2279 : (Jvm.Cond.selects "ScholarsPress" ({ cls := "ScholarsPress", name := "set", desc := "(I)I" } : Jvm.MethodName) ({ cls := "ScholarsPress", name := "set", desc := "(I)I" } : Jvm.MethodName)) ∈ lw_all := lw_g (lw_at lw_m9 5 rfl) rfl
theorem q2280 : (Jvm.Cond.code ({ cls := "ScholarsPress", name := "set", desc := "(I)I" } : Jvm.MethodName) prog_1_method_25_code (6 : Nat) (Option.some Jvm.ClassFile.FieldType.int)) ∈ lw_all := lw_g (lw_at lw_m9 6 rfl) rfl
theorem q2281 : (Jvm.Cond.methodLink "ScholarsPress" (224 : Nat) ({ cls := "ScholarsPress", name := "freeBook", desc := "(LScholarsPress$Book;)LScholarsPress$Book;" } : Jvm.MethodName)) ∈ lw_all := lw_g (lw_at lw_m9 7 rfl) rfl
theorem q2282 : (Jvm.Cond.privateMethod ({ cls := "ScholarsPress", name := "freeBook", desc := "(LScholarsPress$Book;)LScholarsPress$Book;" } : Jvm.MethodName)) ∈ lw_tbl := lw_at lw_m9 8 rfl
theorem q2283 : (Jvm.Cond.instanceMethod ({ cls := "ScholarsPress", name := "freeBook", desc := "(LScholarsPress$Book;)LScholarsPress$Book;" } : Jvm.MethodName)) ∈ lw_all := lw_g (lw_at lw_m9 9 rfl) rfl
theorem q2284 : (Jvm.Cond.code ({ cls := "ScholarsPress", name := "freeBook", desc := "(LScholarsPress$Book;)LScholarsPress$Book;" } : Jvm.MethodName) prog_1_method_26_code (3 : Nat) (Option.some (Jvm.ClassFile.FieldType.object "ScholarsPress$Book"))) ∈ lw_all := lw_g (lw_at lw_m9 10 rfl) rfl
theorem q2285 : (Jvm.Cond.methodLink "ScholarsPress" (228 : Nat) ({ cls := "ScholarsPress", name := "tree", desc := "()LScholarsPress$Tree;" } : Jvm.MethodName)) ∈ lw_all := lw_g (lw_at lw_m9 11 rfl) rfl
theorem q2286 : (Jvm.Cond.privateMethod ({ cls := "ScholarsPress", name := "tree", desc := "()LScholarsPress$Tree;" } : Jvm.MethodName)) ∈ lw_tbl := lw_at lw_m9 12 rfl
theorem q2287 : (Jvm.Cond.instanceMethod ({ cls := "ScholarsPress", name := "tree", desc := "()LScholarsPress$Tree;" } : Jvm.MethodName)) ∈ lw_all := lw_g (lw_at lw_m9 13 rfl) rfl
theorem q2288 : (Jvm.Cond.code ({ cls := "ScholarsPress", name := "tree", desc := "()LScholarsPress$Tree;" } : Jvm.MethodName) prog_1_method_24_code (1 : Nat) (Option.some (Jvm.ClassFile.FieldType.object "ScholarsPress$Tree"))) ∈ lw_all := lw_g (lw_at lw_m9 14 rfl) rfl
theorem q2289 : (Jvm.Cond.methodLinkNest "ScholarsPress" (220 : Nat) ({ cls := "ScholarsPress$Tree", name := "make", desc := "(LScholarsPress$Source;LScholarsPress$Style;)V" } : Jvm.MethodName) "ScholarsPress") ∈ lw_tbl := lw_at lw_m9 15 rfl
theorem q2358 : (Jvm.Cond.methodLinkNest "ScholarsPress" (231 : Nat) ({ cls := "ScholarsPress$Book", name := "begin", desc := "(LScholarsPress$Tree;LScholarsPress$Font;LScholarsPress$Hyphens;LScholarsPress$Book;)V" } : Jvm.MethodName) "ScholarsPress") ∈ lw_tbl := lw_at lw_m9 84 rfl
theorem q2382 : (Jvm.Cond.methodLinkNest "ScholarsPress" (234 : Nat) ({ cls := "ScholarsPress$Book", name := "gather", desc := "()V" } : Jvm.MethodName) "ScholarsPress") ∈ lw_tbl := lw_at lw_m9 108 rfl
theorem q2534 : (Jvm.Cond.fieldLinkNest "ScholarsPress" (385 : Nat) "ScholarsPress$Paragraph" "length" "I" "ScholarsPress") ∈ lw_tbl := lw_at lw_m10 20 rfl
theorem q2536 : (Jvm.Cond.fieldLinkNest "ScholarsPress" (386 : Nat) "ScholarsPress$Paragraph" "element" "I" "ScholarsPress") ∈ lw_tbl := lw_at lw_m10 22 rfl
theorem q2540 : (Jvm.Cond.fieldLinkNest "ScholarsPress" (382 : Nat) "ScholarsPress$Paragraph" "width" "I" "ScholarsPress") ∈ lw_tbl := lw_at lw_m10 26 rfl
theorem q2559 : (Jvm.Cond.fieldLinkNest "ScholarsPress" (380 : Nat) "ScholarsPress$Paragraph" "many" "I" "ScholarsPress") ∈ lw_tbl := lw_at lw_m10 45 rfl
theorem q2562 : (Jvm.Cond.fieldLinkNest "ScholarsPress" (379 : Nat) "ScholarsPress$Paragraph" "lines" "I" "ScholarsPress") ∈ lw_tbl := lw_at lw_m10 48 rfl
theorem q2565 : (Jvm.Cond.fieldLinkNest "ScholarsPress" (375 : Nat) "ScholarsPress$Paragraph" "cost" "J" "ScholarsPress") ∈ lw_tbl := lw_at lw_m10 51 rfl
theorem q2567 : (Jvm.Cond.fieldLinkNest "ScholarsPress" (381 : Nat) "ScholarsPress$Paragraph" "told" "I" "ScholarsPress") ∈ lw_tbl := lw_at lw_m10 53 rfl
theorem q2625 : (Jvm.Cond.static ({ cls := "ScholarsPress", name := "isLetter", desc := "(I)Z" } : Jvm.MethodName)) ∈ lw_all := lw_g (lw_at lw_m10 111 rfl) rfl
theorem q2626 : (Jvm.Cond.code ({ cls := "ScholarsPress", name := "isLetter", desc := "(I)Z" } : Jvm.MethodName) prog_1_method_7_code (1 : Nat) (Option.some Jvm.ClassFile.FieldType.boolean)) ∈ lw_all := lw_g (lw_at lw_m10 112 rfl) rfl
theorem q2627 : (Jvm.Cond.methodLink "ScholarsPress" (13 : Nat) ({ cls := "ScholarsPress", name := "isSmall", desc := "(I)Z" } : Jvm.MethodName)) ∈ lw_all := lw_g (lw_at lw_m10 113 rfl) rfl
theorem q2835 : (Jvm.Cond.methodLinkNest "ScholarsPress" (237 : Nat) ({ cls := "ScholarsPress$Book", name := "set", desc := "(LScholarsPress$Shapes;)V" } : Jvm.MethodName) "ScholarsPress") ∈ lw_tbl := lw_at lw_m11 81 rfl
theorem q2969 : (Jvm.Cond.methodLinkNest "ScholarsPress" (241 : Nat) ({ cls := "ScholarsPress$Book", name := "breakColumns", desc := "()V" } : Jvm.MethodName) "ScholarsPress") ∈ lw_tbl := lw_at lw_m11 215 rfl
theorem q3040 : (Jvm.Cond.methodLinkNest "ScholarsPress" (244 : Nat) ({ cls := "ScholarsPress$Book", name := "isSettled", desc := "()Z" } : Jvm.MethodName) "ScholarsPress") ∈ lw_tbl := lw_at lw_m12 46 rfl
theorem q3048 : (Jvm.Cond.methodLinkNest "ScholarsPress" (248 : Nat) ({ cls := "ScholarsPress$Shapes", name := "begin", desc := "(LScholarsPress$Book;)V" } : Jvm.MethodName) "ScholarsPress") ∈ lw_tbl := lw_at lw_m12 54 rfl
theorem q3049 : (Jvm.Cond.methodLinkNest "ScholarsPress" (251 : Nat) ({ cls := "ScholarsPress$Shapes", name := "fresh", desc := "(LScholarsPress$Book;)I" } : Jvm.MethodName) "ScholarsPress") ∈ lw_tbl := lw_at lw_m12 55 rfl
theorem q3057 : (Jvm.Cond.instanceMethod ({ cls := "ScholarsPress", name := "element", desc := "(II)I" } : Jvm.MethodName)) ∈ lw_all := lw_g (lw_at lw_m12 63 rfl) rfl
theorem q3058 : (Jvm.Cond.selects "ScholarsPress" ({ cls := "ScholarsPress", name := "element", desc := "(II)I" } : Jvm.MethodName) ({ cls := "ScholarsPress", name := "element", desc := "(II)I" } : Jvm.MethodName)) ∈ lw_all := lw_g (lw_at lw_m12 64 rfl) rfl
theorem q3059 : (Jvm.Cond.code ({ cls := "ScholarsPress", name := "element", desc := "(II)I" } : Jvm.MethodName) prog_1_method_27_code (4 : Nat) (Option.some Jvm.ClassFile.FieldType.int)) ∈ lw_all := lw_g (lw_at lw_m12 65 rfl) rfl
theorem q3060 : (Jvm.Cond.methodLinkNest "ScholarsPress" (285 : Nat) ({ cls := "ScholarsPress$Tree", name := "title", desc := "(ILScholarsPress$Bytes;)V" } : Jvm.MethodName) "ScholarsPress") ∈ lw_tbl := lw_at lw_m12 66 rfl
theorem q3061 : (Jvm.Cond.methodLink "ScholarsPress" (292 : Nat) ({ cls := "ScholarsPress", name := "told", desc := "(LScholarsPress$Tree;II)I" } : Jvm.MethodName)) ∈ lw_all := lw_g (lw_at lw_m12 67 rfl) rfl
theorem q3062 : (Jvm.Cond.static ({ cls := "ScholarsPress", name := "told", desc := "(LScholarsPress$Tree;II)I" } : Jvm.MethodName)) ∈ lw_all := lw_g (lw_at lw_m12 68 rfl) rfl
theorem q3063 : (Jvm.Cond.code ({ cls := "ScholarsPress", name := "told", desc := "(LScholarsPress$Tree;II)I" } : Jvm.MethodName) prog_1_method_28_code (4 : Nat) (Option.some Jvm.ClassFile.FieldType.int)) ∈ lw_all := lw_g (lw_at lw_m12 69 rfl) rfl
theorem q3064 : (Jvm.Cond.methodLinkNest "ScholarsPress" (295 : Nat) ({ cls := "ScholarsPress$Tree", name := "property", desc := "(II)I" } : Jvm.MethodName) "ScholarsPress") ∈ lw_tbl := lw_at lw_m12 70 rfl
theorem q3069 : (Jvm.Cond.instanceMethod ({ cls := "ScholarsPress", name := "count", desc := "(I)I" } : Jvm.MethodName)) ∈ lw_all := lw_g (lw_at lw_m12 75 rfl) rfl
theorem q3070 : (Jvm.Cond.selects "ScholarsPress" ({ cls := "ScholarsPress", name := "count", desc := "(I)I" } : Jvm.MethodName) ({ cls := "ScholarsPress", name := "count", desc := "(I)I" } : Jvm.MethodName)) ∈ lw_all := lw_g (lw_at lw_m12 76 rfl) rfl
theorem q3071 : (Jvm.Cond.code ({ cls := "ScholarsPress", name := "count", desc := "(I)I" } : Jvm.MethodName) prog_1_method_29_code (2 : Nat) (Option.some Jvm.ClassFile.FieldType.int)) ∈ lw_all := lw_g (lw_at lw_m12 77 rfl) rfl
theorem q3072 : (Jvm.Cond.methodLink "ScholarsPress" (306 : Nat) ({ cls := "ScholarsPress", name := "counted", desc := "(I)I" } : Jvm.MethodName)) ∈ lw_all := lw_g (lw_at lw_m12 78 rfl) rfl
theorem q3073 : (Jvm.Cond.privateMethod ({ cls := "ScholarsPress", name := "counted", desc := "(I)I" } : Jvm.MethodName)) ∈ lw_tbl := lw_at lw_m12 79 rfl
theorem q3074 : (Jvm.Cond.instanceMethod ({ cls := "ScholarsPress", name := "counted", desc := "(I)I" } : Jvm.MethodName)) ∈ lw_all := lw_g (lw_at lw_m12 80 rfl) rfl
theorem q3075 : (Jvm.Cond.code ({ cls := "ScholarsPress", name := "counted", desc := "(I)I" } : Jvm.MethodName) prog_1_method_30_code (3 : Nat) (Option.some Jvm.ClassFile.FieldType.int)) ∈ lw_all := lw_g (lw_at lw_m12 81 rfl) rfl
theorem q3076 : (Jvm.Cond.methodLinkNest "ScholarsPress" (309 : Nat) ({ cls := "ScholarsPress$Book", name := "pages", desc := "()I" } : Jvm.MethodName) "ScholarsPress") ∈ lw_tbl := lw_at lw_m12 82 rfl
theorem q3080 : (Jvm.Cond.methodLinkNest "ScholarsPress" (332 : Nat) ({ cls := "ScholarsPress$Book", name := "wavering", desc := "(I)I" } : Jvm.MethodName) "ScholarsPress") ∈ lw_tbl := lw_at lw_m12 86 rfl
theorem q3088 : (Jvm.Cond.instanceMethod ({ cls := "ScholarsPress", name := "line", desc := "(II)I" } : Jvm.MethodName)) ∈ lw_all := lw_g (lw_at lw_m12 94 rfl) rfl
theorem q3089 : (Jvm.Cond.selects "ScholarsPress" ({ cls := "ScholarsPress", name := "line", desc := "(II)I" } : Jvm.MethodName) ({ cls := "ScholarsPress", name := "line", desc := "(II)I" } : Jvm.MethodName)) ∈ lw_all := lw_g (lw_at lw_m12 95 rfl) rfl
theorem q3090 : (Jvm.Cond.code ({ cls := "ScholarsPress", name := "line", desc := "(II)I" } : Jvm.MethodName) prog_1_method_32_code (5 : Nat) (Option.some Jvm.ClassFile.FieldType.int)) ∈ lw_all := lw_g (lw_at lw_m12 96 rfl) rfl
theorem q3091 : (Jvm.Cond.methodLink "ScholarsPress" (335 : Nat) ({ cls := "ScholarsPress", name := "lineThere", desc := "(I)V" } : Jvm.MethodName)) ∈ lw_all := lw_g (lw_at lw_m12 97 rfl) rfl
theorem q3092 : (Jvm.Cond.privateMethod ({ cls := "ScholarsPress", name := "lineThere", desc := "(I)V" } : Jvm.MethodName)) ∈ lw_tbl := lw_at lw_m12 98 rfl
theorem q3093 : (Jvm.Cond.instanceMethod ({ cls := "ScholarsPress", name := "lineThere", desc := "(I)V" } : Jvm.MethodName)) ∈ lw_all := lw_g (lw_at lw_m12 99 rfl) rfl
theorem q3094 : (Jvm.Cond.code ({ cls := "ScholarsPress", name := "lineThere", desc := "(I)V" } : Jvm.MethodName) prog_1_method_31_code (2 : Nat) (Option.none : Option Jvm.ClassFile.FieldType)) ∈ lw_all := lw_g (lw_at lw_m12 100 rfl) rfl
theorem q3095 : (Jvm.Cond.methodLinkNest "ScholarsPress" (357 : Nat) ({ cls := "ScholarsPress$Paragraph", name := "ratioOf", desc := "(I)I" } : Jvm.MethodName) "ScholarsPress") ∈ lw_tbl := lw_at lw_m12 101 rfl
theorem q3103 : (Jvm.Cond.methodLinkNest "ScholarsPress" (362 : Nat) ({ cls := "ScholarsPress$Paragraph", name := "breakOf", desc := "(I)I" } : Jvm.MethodName) "ScholarsPress") ∈ lw_tbl := lw_at lw_m12 109 rfl
theorem q3104 : (Jvm.Cond.methodLinkNest "ScholarsPress" (368 : Nat) ({ cls := "ScholarsPress$Paragraph", name := "startOf", desc := "(I)I" } : Jvm.MethodName) "ScholarsPress") ∈ lw_tbl := lw_at lw_m12 110 rfl
theorem q3113 : (Jvm.Cond.instanceMethod ({ cls := "ScholarsPress", name := "spot", desc := "(II)J" } : Jvm.MethodName)) ∈ lw_all := lw_g (lw_at lw_m12 119 rfl) rfl
theorem q3114 : (Jvm.Cond.selects "ScholarsPress" ({ cls := "ScholarsPress", name := "spot", desc := "(II)J" } : Jvm.MethodName) ({ cls := "ScholarsPress", name := "spot", desc := "(II)J" } : Jvm.MethodName)) ∈ lw_all := lw_g (lw_at lw_m12 120 rfl) rfl
theorem q3115 : (Jvm.Cond.code ({ cls := "ScholarsPress", name := "spot", desc := "(II)J" } : Jvm.MethodName) prog_1_method_33_code (5 : Nat) (Option.some Jvm.ClassFile.FieldType.long)) ∈ lw_all := lw_g (lw_at lw_m12 121 rfl) rfl
theorem q3116 : (Jvm.Cond.methodLinkNest "ScholarsPress" (371 : Nat) ({ cls := "ScholarsPress$Paragraph", name := "spot", desc := "(II)J" } : Jvm.MethodName) "ScholarsPress") ∈ lw_tbl := lw_at lw_m12 122 rfl
theorem q3130 : (Jvm.Cond.instanceMethod ({ cls := "ScholarsPress", name := "paragraph", desc := "(II)J" } : Jvm.MethodName)) ∈ lw_all := lw_g (lw_at lw_m12 136 rfl) rfl
theorem q3131 : (Jvm.Cond.selects "ScholarsPress" ({ cls := "ScholarsPress", name := "paragraph", desc := "(II)J" } : Jvm.MethodName) ({ cls := "ScholarsPress", name := "paragraph", desc := "(II)J" } : Jvm.MethodName)) ∈ lw_all := lw_g (lw_at lw_m12 137 rfl) rfl
theorem q3132 : (Jvm.Cond.code ({ cls := "ScholarsPress", name := "paragraph", desc := "(II)J" } : Jvm.MethodName) prog_1_method_34_code (4 : Nat) (Option.some Jvm.ClassFile.FieldType.long)) ∈ lw_all := lw_g (lw_at lw_m12 138 rfl) rfl
theorem q3137 : (Jvm.Cond.instanceMethod ({ cls := "ScholarsPress", name := "judge", desc := "(I)J" } : Jvm.MethodName)) ∈ lw_all := lw_g (lw_at lw_m12 143 rfl) rfl
theorem q3138 : (Jvm.Cond.selects "ScholarsPress" ({ cls := "ScholarsPress", name := "judge", desc := "(I)J" } : Jvm.MethodName) ({ cls := "ScholarsPress", name := "judge", desc := "(I)J" } : Jvm.MethodName)) ∈ lw_all := lw_g (lw_at lw_m12 144 rfl) rfl
theorem q3139 : (Jvm.Cond.code ({ cls := "ScholarsPress", name := "judge", desc := "(I)J" } : Jvm.MethodName) prog_1_method_35_code (9 : Nat) (Option.some Jvm.ClassFile.FieldType.long)) ∈ lw_all := lw_g (lw_at lw_m12 145 rfl) rfl
theorem q3140 : (Jvm.Cond.methodLink "ScholarsPress" (389 : Nat) ({ cls := "ScholarsPress", name := "isBlank", desc := "(I)Z" } : Jvm.MethodName)) ∈ lw_all := lw_g (lw_at lw_m12 146 rfl) rfl
theorem q3141 : (Jvm.Cond.methodLink "ScholarsPress" (392 : Nat) ({ cls := "ScholarsPress", name := "isDigit", desc := "(I)Z" } : Jvm.MethodName)) ∈ lw_all := lw_g (lw_at lw_m12 147 rfl) rfl
theorem q3142 : (Jvm.Cond.methodLinkNest "ScholarsPress" (395 : Nat) ({ cls := "ScholarsPress$Broken", name := "<init>", desc := "(I)V" } : Jvm.MethodName) "ScholarsPress") ∈ lw_tbl := lw_at lw_m12 148 rfl
theorem q3143 : (Jvm.Cond.methodLinkNest "ScholarsPress" (396 : Nat) ({ cls := "ScholarsPress$Paragraph", name := "judge", desc := "([II)J" } : Jvm.MethodName) "ScholarsPress") ∈ lw_tbl := lw_at lw_m12 149 rfl
theorem q3152 : (Jvm.Cond.instanceMethod ({ cls := "ScholarsPress", name := "where", desc := "(I)I" } : Jvm.MethodName)) ∈ lw_all := lw_g (lw_at lw_m12 158 rfl) rfl
theorem q3153 : (Jvm.Cond.selects "ScholarsPress" ({ cls := "ScholarsPress", name := "where", desc := "(I)I" } : Jvm.MethodName) ({ cls := "ScholarsPress", name := "where", desc := "(I)I" } : Jvm.MethodName)) ∈ lw_all := lw_g (lw_at lw_m12 159 rfl) rfl
theorem q3154 : (Jvm.Cond.code ({ cls := "ScholarsPress", name := "where", desc := "(I)I" } : Jvm.MethodName) prog_1_method_36_code (4 : Nat) (Option.some Jvm.ClassFile.FieldType.int)) ∈ lw_all := lw_g (lw_at lw_m12 160 rfl) rfl
theorem q3155 : (Jvm.Cond.methodLink "ScholarsPress" (400 : Nat) ({ cls := "ScholarsPress", name := "take0", desc := "()I" } : Jvm.MethodName)) ∈ lw_all := lw_g (lw_at lw_m12 161 rfl) rfl
theorem q3156 : (Jvm.Cond.privateMethod ({ cls := "ScholarsPress", name := "take0", desc := "()I" } : Jvm.MethodName)) ∈ lw_tbl := lw_at lw_m12 162 rfl
theorem q3157 : (Jvm.Cond.instanceMethod ({ cls := "ScholarsPress", name := "take0", desc := "()I" } : Jvm.MethodName)) ∈ lw_all := lw_g (lw_at lw_m12 163 rfl) rfl
theorem q3158 : (Jvm.Cond.code ({ cls := "ScholarsPress", name := "take0", desc := "()I" } : Jvm.MethodName) prog_1_method_37_code (2 : Nat) (Option.some Jvm.ClassFile.FieldType.int)) ∈ lw_all := lw_g (lw_at lw_m12 164 rfl) rfl
theorem q3159 : (Jvm.Cond.methodLinkNest "ScholarsPress" (403 : Nat) ({ cls := "ScholarsPress$Source", name := "byId", desc := "([BII)I" } : Jvm.MethodName) "ScholarsPress") ∈ lw_tbl := lw_at lw_m12 165 rfl
theorem q3160 : (Jvm.Cond.classLink "ScholarsPress" (407 : Nat) "java/util/NoSuchElementException") ∈ lw_all := lw_g (lw_at lw_m12 166 rfl) rfl
theorem q3169 : (Jvm.Cond.methodLink "ScholarsPress" (409 : Nat) ({ cls := "java/util/NoSuchElementException", name := "<init>", desc := "()V" } : Jvm.MethodName)) ∈ lw_all := lw_g (lw_at lw_m12 175 rfl) rfl
theorem q3175 : (Jvm.Cond.methodLinkNest "ScholarsPress" (410 : Nat) ({ cls := "ScholarsPress$Book", name := "pageOf", desc := "(I)I" } : Jvm.MethodName) "ScholarsPress") ∈ lw_tbl := lw_at lw_m12 181 rfl
theorem q3176 : (Jvm.Cond.methodLinkNest "ScholarsPress" (416 : Nat) ({ cls := "ScholarsPress$Book", name := "numberAt", desc := "(I)I" } : Jvm.MethodName) "ScholarsPress") ∈ lw_tbl := lw_at lw_m12 182 rfl
theorem q3181 : (Jvm.Cond.instanceMethod ({ cls := "ScholarsPress", name := "note", desc := "(II)I" } : Jvm.MethodName)) ∈ lw_all := lw_g (lw_at lw_m12 187 rfl) rfl
theorem q3182 : (Jvm.Cond.selects "ScholarsPress" ({ cls := "ScholarsPress", name := "note", desc := "(II)I" } : Jvm.MethodName) ({ cls := "ScholarsPress", name := "note", desc := "(II)I" } : Jvm.MethodName)) ∈ lw_all := lw_g (lw_at lw_m12 188 rfl) rfl
theorem q3183 : (Jvm.Cond.code ({ cls := "ScholarsPress", name := "note", desc := "(II)I" } : Jvm.MethodName) prog_1_method_38_code (6 : Nat) (Option.some Jvm.ClassFile.FieldType.int)) ∈ lw_all := lw_g (lw_at lw_m12 189 rfl) rfl
theorem q3184 : (Jvm.Cond.methodLink "ScholarsPress" (422 : Nat) ({ cls := "ScholarsPress", name := "floatTold", desc := "(II)I" } : Jvm.MethodName)) ∈ lw_all := lw_g (lw_at lw_m12 190 rfl) rfl
theorem q3185 : (Jvm.Cond.privateMethod ({ cls := "ScholarsPress", name := "floatTold", desc := "(II)I" } : Jvm.MethodName)) ∈ lw_tbl := lw_at lw_m12 191 rfl
theorem q3186 : (Jvm.Cond.instanceMethod ({ cls := "ScholarsPress", name := "floatTold", desc := "(II)I" } : Jvm.MethodName)) ∈ lw_all := lw_g (lw_at lw_m12 192 rfl) rfl
theorem q3187 : (Jvm.Cond.code ({ cls := "ScholarsPress", name := "floatTold", desc := "(II)I" } : Jvm.MethodName) prog_1_method_39_code (3 : Nat) (Option.some Jvm.ClassFile.FieldType.int)) ∈ lw_all := lw_g (lw_at lw_m12 193 rfl) rfl
theorem q3188 : (Jvm.Cond.methodLinkNest "ScholarsPress" (449 : Nat) ({ cls := "ScholarsPress$Book", name := "columnOfFloat", desc := "(I)I" } : Jvm.MethodName) "ScholarsPress") ∈ lw_tbl := lw_at lw_m12 194 rfl
theorem q3192 : (Jvm.Cond.methodLinkNest "ScholarsPress" (452 : Nat) ({ cls := "ScholarsPress$Book", name := "floatTop", desc := "(II)I" } : Jvm.MethodName) "ScholarsPress") ∈ lw_tbl := lw_at lw_m12 198 rfl
theorem q3196 : (Jvm.Cond.methodLinkNest "ScholarsPress" (428 : Nat) ({ cls := "ScholarsPress$Book", name := "columnOfNoteLine", desc := "(I)I" } : Jvm.MethodName) "ScholarsPress") ∈ lw_tbl := lw_at lw_m12 202 rfl
theorem q3200 : (Jvm.Cond.methodLinkNest "ScholarsPress" (440 : Nat) ({ cls := "ScholarsPress$Book", name := "noteTop", desc := "(II)J" } : Jvm.MethodName) "ScholarsPress") ∈ lw_tbl := lw_at lw_m12 206 rfl
theorem q3208 : (Jvm.Cond.instanceMethod ({ cls := "ScholarsPress", name := "wavering", desc := "(I)I" } : Jvm.MethodName)) ∈ lw_all := lw_g (lw_at lw_m12 214 rfl) rfl
theorem q3209 : (Jvm.Cond.selects "ScholarsPress" ({ cls := "ScholarsPress", name := "wavering", desc := "(I)I" } : Jvm.MethodName) ({ cls := "ScholarsPress", name := "wavering", desc := "(I)I" } : Jvm.MethodName)) ∈ lw_all := lw_g (lw_at lw_m12 215 rfl) rfl
theorem q3210 : (Jvm.Cond.code ({ cls := "ScholarsPress", name := "wavering", desc := "(I)I" } : Jvm.MethodName) prog_1_method_40_code (3 : Nat) (Option.some Jvm.ClassFile.FieldType.int)) ∈ lw_all := lw_g (lw_at lw_m12 216 rfl) rfl
theorem q3215 : (Jvm.Cond.instanceMethod ({ cls := "ScholarsPress", name := "print", desc := "(I)I" } : Jvm.MethodName)) ∈ lw_all := lw_g (lw_at lw_m12 221 rfl) rfl
theorem q3216 : (Jvm.Cond.selects "ScholarsPress" ({ cls := "ScholarsPress", name := "print", desc := "(I)I" } : Jvm.MethodName) ({ cls := "ScholarsPress", name := "print", desc := "(I)I" } : Jvm.MethodName)) ∈ lw_all := lw_g (lw_at lw_m12 222 rfl) rfl
theorem q3217 : (Jvm.Cond.code ({ cls := "ScholarsPress", name := "print", desc := "(I)I" } : Jvm.MethodName) prog_1_method_41_code (3 : Nat) (Option.some Jvm.ClassFile.FieldType.int)) ∈ lw_all := lw_g (lw_at lw_m12 223 rfl) rfl
theorem q3218 : (Jvm.Cond.methodLinkNest "ScholarsPress" (455 : Nat) ({ cls := "ScholarsPress$Book", name := "print", desc := "(ILScholarsPress$Bytes;)V" } : Jvm.MethodName) "ScholarsPress") ∈ lw_tbl := lw_at lw_m12 224 rfl
theorem q3251 : (Jvm.Cond.instanceMethod ({ cls := "ScholarsPress", name := "word", desc := "(I)J" } : Jvm.MethodName)) ∈ lw_all := lw_g (lw_at lw_m13 17 rfl) rfl
theorem q3252 : (Jvm.Cond.selects "ScholarsPress" ({ cls := "ScholarsPress", name := "word", desc := "(I)J" } : Jvm.MethodName) ({ cls := "ScholarsPress", name := "word", desc := "(I)J" } : Jvm.MethodName)) ∈ lw_all := lw_g (lw_at lw_m13 18 rfl) rfl
theorem q3253 : (Jvm.Cond.code ({ cls := "ScholarsPress", name := "word", desc := "(I)J" } : Jvm.MethodName) prog_1_method_42_code (5 : Nat) (Option.some Jvm.ClassFile.FieldType.long)) ∈ lw_all := lw_g (lw_at lw_m13 19 rfl) rfl
theorem q3254 : (Jvm.Cond.constantLong "ScholarsPress" (461 : Nat) (255 : Int64)) ∈ lw_all := lw_g (lw_at lw_m13 20 rfl) rfl
theorem in_X1 : ∀ w ∈ wsX10, w ∈ lw_all := lw_in wsX10 [1511, 1513, 1515, 1517, 1519, 1521, 1523, 1525, 1527, 1529, 1531, 1533, 1535, 1537, 1539, 1541, 1543, 1545, 1547, 1549, 1551, 1553, 1555] (by decide +kernel) (by decide +kernel)
/-! ScholarsPress$Signs -/
def RX2 : String := "ScholarsPress$Signs"
def TX2 : u_T := fun k => match k with
  | 0 => ("ScholarsPress$Signs", "text", "[B", true)
  | 1 => ("ScholarsPress$Signs", "length", "I", false)
  | 2 => ("ScholarsPress$Signs", "at", "I", false)
  | 3 => ("ScholarsPress$Signs", "kind", "I", false)
  | 4 => ("ScholarsPress$Signs", "place", "I", false)
  | 5 => ("ScholarsPress$Signs", "from", "I", false)
  | 6 => ("ScholarsPress$Signs", "size", "I", false)
  | _ => ("ScholarsPress$Signs", "number", "I", false)
def tyX2 : Nat → FieldType := fun k => match k with
  | 0 => .array .byte
  | 1 => .int
  | 2 => .int
  | 3 => .int
  | 4 => .int
  | 5 => .int
  | 6 => .int
  | _ => .int
abbrev wsX20 : List Cond := u_ws RX2 TX2 8
theorem nmX2 : ∀ a, a < 8 → ∀ b, b < 8 → a ≠ b → (TX2 a).2.1 ≠ (TX2 b).2.1 := by decide +kernel
theorem tyX2_ok : ∀ k, k < 8 → parseFieldDescriptor (TX2 k).2.2.1 = some (tyX2 k) := by decide +kernel
abbrev cX2_init : ByteArray := prog_14_method_1_code
def yX2_init : MethodName := ⟨RX2, "<init>", "([B)V"⟩
abbrev cX2_begin : ByteArray := prog_14_method_2_code
def yX2_begin : MethodName := ⟨RX2, "begin", "(I)V"⟩
abbrev cX2_next : ByteArray := prog_14_method_4_code
def yX2_next : MethodName := ⟨RX2, "next", "()V"⟩
abbrev cX2_byteAt : ByteArray := prog_14_method_3_code
def yX2_byteAt : MethodName := ⟨RX2, "byteAt", "(I)I"⟩
abbrev cX2_name : ByteArray := prog_14_method_5_code
def yX2_name : MethodName := ⟨RX2, "name", "()V"⟩
abbrev cX2_number : ByteArray := prog_14_method_6_code
def yX2_number : MethodName := ⟨RX2, "number", "()V"⟩
abbrev cX2_string : ByteArray := prog_14_method_7_code
def yX2_string : MethodName := ⟨RX2, "string", "()V"⟩
abbrev cX2_isEnd : ByteArray := prog_14_method_9_code
def yX2_isEnd : MethodName := ⟨RX2, "isEnd", "()Z"⟩
abbrev cX2_isName : ByteArray := prog_14_method_11_code
def yX2_isName : MethodName := ⟨RX2, "isName", "(Ljava/lang/String;)Z"⟩
abbrev cX2_broken : ByteArray := prog_14_method_8_code
def yX2_broken : MethodName := ⟨RX2, "broken", "()LScholarsPress$Broken;"⟩
abbrev cX2_needNumber : ByteArray := prog_14_method_15_code
def yX2_needNumber : MethodName := ⟨RX2, "needNumber", "(II)I"⟩
abbrev cX2_take : ByteArray := prog_14_method_12_code
def yX2_take : MethodName := ⟨RX2, "take", "(I)Z"⟩
abbrev cX2_isByte : ByteArray := prog_14_method_10_code
def yX2_isByte : MethodName := ⟨RX2, "isByte", "(I)Z"⟩
abbrev cX2_need : ByteArray := prog_14_method_13_code
def yX2_need : MethodName := ⟨RX2, "need", "(I)V"⟩
abbrev cX2_needKind : ByteArray := prog_14_method_14_code
def yX2_needKind : MethodName := ⟨RX2, "needKind", "(I)V"⟩
theorem q356 : (Jvm.Cond.initialized "ScholarsPress$Signs") ∈ lw_all := lw_g (lw_at lw_m1 2 rfl) rfl
theorem q409 : (Jvm.Cond.instantiable "ScholarsPress$Signs" (8 : Nat)) ∈ lw_all := lw_g (lw_at lw_m1 55 rfl) rfl
theorem q411 : (Jvm.Cond.instanceMethod ({ cls := "ScholarsPress$Signs", name := "<init>", desc := "([B)V" } : Jvm.MethodName)) ∈ lw_all := lw_g (lw_at lw_m1 57 rfl) rfl
theorem q412 : (Jvm.Cond.code ({ cls := "ScholarsPress$Signs", name := "<init>", desc := "([B)V" } : Jvm.MethodName) prog_14_method_1_code (2 : Nat) (Option.none : Option Jvm.ClassFile.FieldType)) ∈ lw_all := lw_g (lw_at lw_m1 58 rfl) rfl
theorem q413 : (Jvm.Cond.methodLink "ScholarsPress$Signs" (1 : Nat) ({ cls := "java/lang/Object", name := "<init>", desc := "()V" } : Jvm.MethodName)) ∈ lw_all := lw_g (lw_at lw_m1 59 rfl) rfl
theorem q414 : (Jvm.Cond.fieldLink "ScholarsPress$Signs" (7 : Nat) "ScholarsPress$Signs" "text" "[B") ∈ lw_all := lw_g (lw_at lw_m1 60 rfl) rfl
theorem q417 : (Jvm.Cond.fieldLink "ScholarsPress$Signs" (13 : Nat) "ScholarsPress$Signs" "length" "I") ∈ lw_all := lw_g (lw_at lw_m1 63 rfl) rfl
theorem q418 : (Jvm.Cond.fieldLink "ScholarsPress$Signs" (17 : Nat) "ScholarsPress$Signs" "at" "I") ∈ lw_all := lw_g (lw_at lw_m1 64 rfl) rfl
theorem q420 : (Jvm.Cond.fieldLink "ScholarsPress$Signs" (36 : Nat) "ScholarsPress$Signs" "kind" "I") ∈ lw_all := lw_g (lw_at lw_m1 66 rfl) rfl
theorem q422 : (Jvm.Cond.fieldLink "ScholarsPress$Signs" (33 : Nat) "ScholarsPress$Signs" "place" "I") ∈ lw_all := lw_g (lw_at lw_m1 68 rfl) rfl
theorem q425 : (Jvm.Cond.fieldLink "ScholarsPress$Signs" (59 : Nat) "ScholarsPress$Signs" "from" "I") ∈ lw_all := lw_g (lw_at lw_m1 71 rfl) rfl
theorem q428 : (Jvm.Cond.fieldLink "ScholarsPress$Signs" (62 : Nat) "ScholarsPress$Signs" "size" "I") ∈ lw_all := lw_g (lw_at lw_m1 74 rfl) rfl
theorem q430 : (Jvm.Cond.fieldLink "ScholarsPress$Signs" (57 : Nat) "ScholarsPress$Signs" "number" "I") ∈ lw_all := lw_g (lw_at lw_m1 76 rfl) rfl
theorem q432 : (Jvm.Cond.laysFinal "ScholarsPress$Signs" "ScholarsPress$Signs" "text" "[B") ∈ lw_all := lw_g (lw_at lw_m1 78 rfl) rfl
theorem q433 : (Jvm.Cond.soleField "ScholarsPress$Signs" "text") ∈ lw_all := lw_g (lw_at lw_m1 79 rfl) rfl
theorem q434 : (Jvm.Cond.lays "ScholarsPress$Signs" "ScholarsPress$Signs" "length" "I") ∈ lw_all := lw_g (lw_at lw_m1 80 rfl) rfl
theorem q435 : (Jvm.Cond.soleField "ScholarsPress$Signs" "length") ∈ lw_all := lw_g (lw_at lw_m1 81 rfl) rfl
theorem q436 : (Jvm.Cond.lays "ScholarsPress$Signs" "ScholarsPress$Signs" "at" "I") ∈ lw_all := lw_g (lw_at lw_m1 82 rfl) rfl
theorem q437 : (Jvm.Cond.soleField "ScholarsPress$Signs" "at") ∈ lw_all := lw_g (lw_at lw_m1 83 rfl) rfl
theorem q438 : (Jvm.Cond.lays "ScholarsPress$Signs" "ScholarsPress$Signs" "kind" "I") ∈ lw_all := lw_g (lw_at lw_m1 84 rfl) rfl
theorem q439 : (Jvm.Cond.soleField "ScholarsPress$Signs" "kind") ∈ lw_all := lw_g (lw_at lw_m1 85 rfl) rfl
theorem q440 : (Jvm.Cond.lays "ScholarsPress$Signs" "ScholarsPress$Signs" "place" "I") ∈ lw_all := lw_g (lw_at lw_m1 86 rfl) rfl
theorem q441 : (Jvm.Cond.soleField "ScholarsPress$Signs" "place") ∈ lw_all := lw_g (lw_at lw_m1 87 rfl) rfl
theorem q442 : (Jvm.Cond.lays "ScholarsPress$Signs" "ScholarsPress$Signs" "from" "I") ∈ lw_all := lw_g (lw_at lw_m1 88 rfl) rfl
theorem q443 : (Jvm.Cond.soleField "ScholarsPress$Signs" "from") ∈ lw_all := lw_g (lw_at lw_m1 89 rfl) rfl
theorem q444 : (Jvm.Cond.lays "ScholarsPress$Signs" "ScholarsPress$Signs" "size" "I") ∈ lw_all := lw_g (lw_at lw_m1 90 rfl) rfl
theorem q445 : (Jvm.Cond.soleField "ScholarsPress$Signs" "size") ∈ lw_all := lw_g (lw_at lw_m1 91 rfl) rfl
theorem q446 : (Jvm.Cond.lays "ScholarsPress$Signs" "ScholarsPress$Signs" "number" "I") ∈ lw_all := lw_g (lw_at lw_m1 92 rfl) rfl
theorem q447 : (Jvm.Cond.soleField "ScholarsPress$Signs" "number") ∈ lw_all := lw_g (lw_at lw_m1 93 rfl) rfl
theorem q448 : (Jvm.Cond.superclass "ScholarsPress$Signs" "java/lang/Object") ∈ lw_all := lw_g (lw_at lw_m1 94 rfl) rfl
theorem q1719 : (Jvm.Cond.privateMethod ({ cls := "ScholarsPress$Signs", name := "begin", desc := "(I)V" } : Jvm.MethodName)) ∈ lw_tbl := lw_at lw_m6 165 rfl
theorem q1720 : (Jvm.Cond.instanceMethod ({ cls := "ScholarsPress$Signs", name := "begin", desc := "(I)V" } : Jvm.MethodName)) ∈ lw_all := lw_g (lw_at lw_m6 166 rfl) rfl
theorem q1721 : (Jvm.Cond.code ({ cls := "ScholarsPress$Signs", name := "begin", desc := "(I)V" } : Jvm.MethodName) prog_14_method_2_code (2 : Nat) (Option.none : Option Jvm.ClassFile.FieldType)) ∈ lw_all := lw_g (lw_at lw_m6 167 rfl) rfl
theorem q1722 : (Jvm.Cond.methodLink "ScholarsPress$Signs" (20 : Nat) ({ cls := "ScholarsPress$Signs", name := "next", desc := "()V" } : Jvm.MethodName)) ∈ lw_all := lw_g (lw_at lw_m6 168 rfl) rfl
theorem q1723 : (Jvm.Cond.privateMethod ({ cls := "ScholarsPress$Signs", name := "next", desc := "()V" } : Jvm.MethodName)) ∈ lw_tbl := lw_at lw_m6 169 rfl
theorem q1724 : (Jvm.Cond.instanceMethod ({ cls := "ScholarsPress$Signs", name := "next", desc := "()V" } : Jvm.MethodName)) ∈ lw_all := lw_g (lw_at lw_m6 170 rfl) rfl
theorem q1725 : (Jvm.Cond.code ({ cls := "ScholarsPress$Signs", name := "next", desc := "()V" } : Jvm.MethodName) prog_14_method_4_code (2 : Nat) (Option.none : Option Jvm.ClassFile.FieldType)) ∈ lw_all := lw_g (lw_at lw_m6 171 rfl) rfl
theorem q1726 : (Jvm.Cond.methodLink "ScholarsPress$Signs" (23 : Nat) ({ cls := "ScholarsPress$Signs", name := "byteAt", desc := "(I)I" } : Jvm.MethodName)) ∈ lw_all := lw_g (lw_at lw_m6 172 rfl) rfl
theorem q1727 : (Jvm.Cond.privateMethod ({ cls := "ScholarsPress$Signs", name := "byteAt", desc := "(I)I" } : Jvm.MethodName)) ∈ lw_tbl := lw_at lw_m6 173 rfl
theorem q1728 : (Jvm.Cond.instanceMethod ({ cls := "ScholarsPress$Signs", name := "byteAt", desc := "(I)I" } : Jvm.MethodName)) ∈ lw_all := lw_g (lw_at lw_m6 174 rfl) rfl
theorem q1729 : (Jvm.Cond.code ({ cls := "ScholarsPress$Signs", name := "byteAt", desc := "(I)I" } : Jvm.MethodName) prog_14_method_3_code (2 : Nat) (Option.some Jvm.ClassFile.FieldType.int)) ∈ lw_all := lw_g (lw_at lw_m6 175 rfl) rfl
theorem q1730 : (Jvm.Cond.methodLinkNest "ScholarsPress$Signs" (27 : Nat) ({ cls := "ScholarsPress", name := "isBlank", desc := "(I)Z" } : Jvm.MethodName) "ScholarsPress") ∈ lw_tbl := lw_at lw_m6 176 rfl
theorem q1733 : (Jvm.Cond.methodLinkNest "ScholarsPress$Signs" (39 : Nat) ({ cls := "ScholarsPress", name := "isSmall", desc := "(I)Z" } : Jvm.MethodName) "ScholarsPress") ∈ lw_tbl := lw_at lw_m6 179 rfl
theorem q1736 : (Jvm.Cond.methodLink "ScholarsPress$Signs" (42 : Nat) ({ cls := "ScholarsPress$Signs", name := "name", desc := "()V" } : Jvm.MethodName)) ∈ lw_all := lw_g (lw_at lw_m6 182 rfl) rfl
theorem q1737 : (Jvm.Cond.privateMethod ({ cls := "ScholarsPress$Signs", name := "name", desc := "()V" } : Jvm.MethodName)) ∈ lw_tbl := lw_at lw_m6 183 rfl
theorem q1738 : (Jvm.Cond.instanceMethod ({ cls := "ScholarsPress$Signs", name := "name", desc := "()V" } : Jvm.MethodName)) ∈ lw_all := lw_g (lw_at lw_m6 184 rfl) rfl
theorem q1739 : (Jvm.Cond.code ({ cls := "ScholarsPress$Signs", name := "name", desc := "()V" } : Jvm.MethodName) prog_14_method_5_code (1 : Nat) (Option.none : Option Jvm.ClassFile.FieldType)) ∈ lw_all := lw_g (lw_at lw_m6 185 rfl) rfl
theorem q1740 : (Jvm.Cond.methodLinkNest "ScholarsPress$Signs" (45 : Nat) ({ cls := "ScholarsPress", name := "isDigit", desc := "(I)Z" } : Jvm.MethodName) "ScholarsPress") ∈ lw_tbl := lw_at lw_m6 186 rfl
theorem q1743 : (Jvm.Cond.methodLink "ScholarsPress$Signs" (48 : Nat) ({ cls := "ScholarsPress$Signs", name := "number", desc := "()V" } : Jvm.MethodName)) ∈ lw_all := lw_g (lw_at lw_m6 189 rfl) rfl
theorem q1744 : (Jvm.Cond.privateMethod ({ cls := "ScholarsPress$Signs", name := "number", desc := "()V" } : Jvm.MethodName)) ∈ lw_tbl := lw_at lw_m6 190 rfl
theorem q1745 : (Jvm.Cond.instanceMethod ({ cls := "ScholarsPress$Signs", name := "number", desc := "()V" } : Jvm.MethodName)) ∈ lw_all := lw_g (lw_at lw_m6 191 rfl) rfl
theorem q1746 : (Jvm.Cond.code ({ cls := "ScholarsPress$Signs", name := "number", desc := "()V" } : Jvm.MethodName) prog_14_method_6_code (2 : Nat) (Option.none : Option Jvm.ClassFile.FieldType)) ∈ lw_all := lw_g (lw_at lw_m6 192 rfl) rfl
theorem q1747 : (Jvm.Cond.methodLink "ScholarsPress$Signs" (51 : Nat) ({ cls := "ScholarsPress$Signs", name := "string", desc := "()V" } : Jvm.MethodName)) ∈ lw_all := lw_g (lw_at lw_m6 193 rfl) rfl
theorem q1748 : (Jvm.Cond.privateMethod ({ cls := "ScholarsPress$Signs", name := "string", desc := "()V" } : Jvm.MethodName)) ∈ lw_tbl := lw_at lw_m6 194 rfl
theorem q1749 : (Jvm.Cond.instanceMethod ({ cls := "ScholarsPress$Signs", name := "string", desc := "()V" } : Jvm.MethodName)) ∈ lw_all := lw_g (lw_at lw_m6 195 rfl) rfl
theorem q1750 : (Jvm.Cond.code ({ cls := "ScholarsPress$Signs", name := "string", desc := "()V" } : Jvm.MethodName) prog_14_method_7_code (2 : Nat) (Option.none : Option Jvm.ClassFile.FieldType)) ∈ lw_all := lw_g (lw_at lw_m6 196 rfl) rfl
theorem q1751 : (Jvm.Cond.methodLinkNest "ScholarsPress$Signs" (54 : Nat) ({ cls := "ScholarsPress", name := "isPlain", desc := "(I)Z" } : Jvm.MethodName) "ScholarsPress") ∈ lw_tbl := lw_at lw_m6 197 rfl
theorem q1759 : (Jvm.Cond.privateMethod ({ cls := "ScholarsPress$Signs", name := "isEnd", desc := "()Z" } : Jvm.MethodName)) ∈ lw_tbl := lw_at lw_m6 205 rfl
theorem q1760 : (Jvm.Cond.instanceMethod ({ cls := "ScholarsPress$Signs", name := "isEnd", desc := "()Z" } : Jvm.MethodName)) ∈ lw_all := lw_g (lw_at lw_m6 206 rfl) rfl
theorem q1761 : (Jvm.Cond.code ({ cls := "ScholarsPress$Signs", name := "isEnd", desc := "()Z" } : Jvm.MethodName) prog_14_method_9_code (1 : Nat) (Option.some Jvm.ClassFile.FieldType.boolean)) ∈ lw_all := lw_g (lw_at lw_m6 207 rfl) rfl
theorem q1764 : (Jvm.Cond.privateMethod ({ cls := "ScholarsPress$Signs", name := "isName", desc := "(Ljava/lang/String;)Z" } : Jvm.MethodName)) ∈ lw_tbl := lw_at lw_m6 210 rfl
theorem q1765 : (Jvm.Cond.instanceMethod ({ cls := "ScholarsPress$Signs", name := "isName", desc := "(Ljava/lang/String;)Z" } : Jvm.MethodName)) ∈ lw_all := lw_g (lw_at lw_m6 211 rfl) rfl
theorem q1766 : (Jvm.Cond.code ({ cls := "ScholarsPress$Signs", name := "isName", desc := "(Ljava/lang/String;)Z" } : Jvm.MethodName) prog_14_method_11_code (3 : Nat) (Option.some Jvm.ClassFile.FieldType.boolean)) ∈ lw_all := lw_g (lw_at lw_m6 212 rfl) rfl
theorem q1767 : (Jvm.Cond.methodLink "ScholarsPress$Signs" (70 : Nat) ({ cls := "java/lang/String", name := "length", desc := "()I" } : Jvm.MethodName)) ∈ lw_all := lw_g (lw_at lw_m6 213 rfl) rfl
theorem q1777 : (Jvm.Cond.methodLink "ScholarsPress$Signs" (75 : Nat) ({ cls := "java/lang/String", name := "charAt", desc := "(I)C" } : Jvm.MethodName)) ∈ lw_all := lw_g (lw_at lw_m6 223 rfl) rfl
theorem q1823 : (Jvm.Cond.privateMethod ({ cls := "ScholarsPress$Signs", name := "broken", desc := "()LScholarsPress$Broken;" } : Jvm.MethodName)) ∈ lw_tbl := lw_at lw_m7 29 rfl
theorem q1824 : (Jvm.Cond.instanceMethod ({ cls := "ScholarsPress$Signs", name := "broken", desc := "()LScholarsPress$Broken;" } : Jvm.MethodName)) ∈ lw_all := lw_g (lw_at lw_m7 30 rfl) rfl
theorem q1825 : (Jvm.Cond.code ({ cls := "ScholarsPress$Signs", name := "broken", desc := "()LScholarsPress$Broken;" } : Jvm.MethodName) prog_14_method_8_code (1 : Nat) (Option.some (Jvm.ClassFile.FieldType.object "ScholarsPress$Broken"))) ∈ lw_all := lw_g (lw_at lw_m7 31 rfl) rfl
theorem q1826 : (Jvm.Cond.classLink "ScholarsPress$Signs" (65 : Nat) "ScholarsPress$Broken") ∈ lw_all := lw_g (lw_at lw_m7 32 rfl) rfl
theorem q1837 : (Jvm.Cond.methodLinkNest "ScholarsPress$Signs" (67 : Nat) ({ cls := "ScholarsPress$Broken", name := "<init>", desc := "(I)V" } : Jvm.MethodName) "ScholarsPress") ∈ lw_tbl := lw_at lw_m7 43 rfl
theorem q1859 : (Jvm.Cond.privateMethod ({ cls := "ScholarsPress$Signs", name := "needNumber", desc := "(II)I" } : Jvm.MethodName)) ∈ lw_tbl := lw_at lw_m7 65 rfl
theorem q1860 : (Jvm.Cond.instanceMethod ({ cls := "ScholarsPress$Signs", name := "needNumber", desc := "(II)I" } : Jvm.MethodName)) ∈ lw_all := lw_g (lw_at lw_m7 66 rfl) rfl
theorem q1861 : (Jvm.Cond.code ({ cls := "ScholarsPress$Signs", name := "needNumber", desc := "(II)I" } : Jvm.MethodName) prog_14_method_15_code (4 : Nat) (Option.some Jvm.ClassFile.FieldType.int)) ∈ lw_all := lw_g (lw_at lw_m7 67 rfl) rfl
theorem q1862 : (Jvm.Cond.methodLink "ScholarsPress$Signs" (85 : Nat) ({ cls := "ScholarsPress$Signs", name := "broken", desc := "()LScholarsPress$Broken;" } : Jvm.MethodName)) ∈ lw_all := lw_g (lw_at lw_m7 68 rfl) rfl
theorem q1865 : (Jvm.Cond.privateMethod ({ cls := "ScholarsPress$Signs", name := "take", desc := "(I)Z" } : Jvm.MethodName)) ∈ lw_tbl := lw_at lw_m7 71 rfl
theorem q1866 : (Jvm.Cond.instanceMethod ({ cls := "ScholarsPress$Signs", name := "take", desc := "(I)Z" } : Jvm.MethodName)) ∈ lw_all := lw_g (lw_at lw_m7 72 rfl) rfl
theorem q1867 : (Jvm.Cond.code ({ cls := "ScholarsPress$Signs", name := "take", desc := "(I)Z" } : Jvm.MethodName) prog_14_method_12_code (3 : Nat) (Option.some Jvm.ClassFile.FieldType.boolean)) ∈ lw_all := lw_g (lw_at lw_m7 73 rfl) rfl
theorem q1868 : (Jvm.Cond.methodLink "ScholarsPress$Signs" (79 : Nat) ({ cls := "ScholarsPress$Signs", name := "isByte", desc := "(I)Z" } : Jvm.MethodName)) ∈ lw_all := lw_g (lw_at lw_m7 74 rfl) rfl
theorem q1869 : (Jvm.Cond.privateMethod ({ cls := "ScholarsPress$Signs", name := "isByte", desc := "(I)Z" } : Jvm.MethodName)) ∈ lw_tbl := lw_at lw_m7 75 rfl
theorem q1870 : (Jvm.Cond.instanceMethod ({ cls := "ScholarsPress$Signs", name := "isByte", desc := "(I)Z" } : Jvm.MethodName)) ∈ lw_all := lw_g (lw_at lw_m7 76 rfl) rfl
theorem q1871 : (Jvm.Cond.code ({ cls := "ScholarsPress$Signs", name := "isByte", desc := "(I)Z" } : Jvm.MethodName) prog_14_method_10_code (2 : Nat) (Option.some Jvm.ClassFile.FieldType.boolean)) ∈ lw_all := lw_g (lw_at lw_m7 77 rfl) rfl
theorem q1874 : (Jvm.Cond.privateMethod ({ cls := "ScholarsPress$Signs", name := "need", desc := "(I)V" } : Jvm.MethodName)) ∈ lw_tbl := lw_at lw_m7 80 rfl
theorem q1875 : (Jvm.Cond.instanceMethod ({ cls := "ScholarsPress$Signs", name := "need", desc := "(I)V" } : Jvm.MethodName)) ∈ lw_all := lw_g (lw_at lw_m7 81 rfl) rfl
theorem q1876 : (Jvm.Cond.code ({ cls := "ScholarsPress$Signs", name := "need", desc := "(I)V" } : Jvm.MethodName) prog_14_method_13_code (2 : Nat) (Option.none : Option Jvm.ClassFile.FieldType)) ∈ lw_all := lw_g (lw_at lw_m7 82 rfl) rfl
theorem q1877 : (Jvm.Cond.methodLink "ScholarsPress$Signs" (82 : Nat) ({ cls := "ScholarsPress$Signs", name := "take", desc := "(I)Z" } : Jvm.MethodName)) ∈ lw_all := lw_g (lw_at lw_m7 83 rfl) rfl
theorem q1973 : (Jvm.Cond.privateMethod ({ cls := "ScholarsPress$Signs", name := "needKind", desc := "(I)V" } : Jvm.MethodName)) ∈ lw_tbl := lw_at lw_m7 179 rfl
theorem q1974 : (Jvm.Cond.instanceMethod ({ cls := "ScholarsPress$Signs", name := "needKind", desc := "(I)V" } : Jvm.MethodName)) ∈ lw_all := lw_g (lw_at lw_m7 180 rfl) rfl
theorem q1975 : (Jvm.Cond.code ({ cls := "ScholarsPress$Signs", name := "needKind", desc := "(I)V" } : Jvm.MethodName) prog_14_method_14_code (2 : Nat) (Option.none : Option Jvm.ClassFile.FieldType)) ∈ lw_all := lw_g (lw_at lw_m7 181 rfl) rfl
theorem in_X2 : ∀ w ∈ wsX20, w ∈ lw_all := lw_in wsX20 [432, 434, 436, 438, 440, 442, 444, 446] (by decide +kernel) (by decide +kernel)
/-! ScholarsPress$Style -/
def RX3 : String := "ScholarsPress$Style"
def TX3 : u_T := fun k => match k with
  | 0 => ("ScholarsPress$Style", "names", "LScholarsPress$Names;", true)
  | 1 => ("ScholarsPress$Style", "counters", "LScholarsPress$Names;", true)
  | 2 => ("ScholarsPress$Style", "strings", "LScholarsPress$Bytes;", true)
  | 3 => ("ScholarsPress$Style", "stepName", "[I", true)
  | 4 => ("ScholarsPress$Style", "stepJoin", "[I", true)
  | 5 => ("ScholarsPress$Style", "askStart", "[I", true)
  | 6 => ("ScholarsPress$Style", "steps", "I", false)
  | 7 => ("ScholarsPress$Style", "askKind", "[I", true)
  | 8 => ("ScholarsPress$Style", "askName", "[I", true)
  | 9 => ("ScholarsPress$Style", "askFrom", "[I", true)
  | 10 => ("ScholarsPress$Style", "askSize", "[I", true)
  | 11 => ("ScholarsPress$Style", "asks", "I", false)
  | 12 => ("ScholarsPress$Style", "stepStart", "[I", true)
  | 13 => ("ScholarsPress$Style", "weight", "[I", true)
  | 14 => ("ScholarsPress$Style", "bodyOf", "[I", true)
  | 15 => ("ScholarsPress$Style", "selectors", "I", false)
  | 16 => ("ScholarsPress$Style", "property", "[I", true)
  | 17 => ("ScholarsPress$Style", "value", "[I", true)
  | 18 => ("ScholarsPress$Style", "size", "[I", true)
  | 19 => ("ScholarsPress$Style", "share", "[Z", true)
  | 20 => ("ScholarsPress$Style", "told", "I", false)
  | 21 => ("ScholarsPress$Style", "bodyStart", "[I", true)
  | 22 => ("ScholarsPress$Style", "bodies", "I", false)
  | 23 => ("ScholarsPress$Style", "width", "I", false)
  | 24 => ("ScholarsPress$Style", "height", "I", false)
  | 25 => ("ScholarsPress$Style", "columns", "I", false)
  | 26 => ("ScholarsPress$Style", "gap", "I", false)
  | 27 => ("ScholarsPress$Style", "rule", "I", false)
  | _ => ("ScholarsPress$Style", "lines", "I", false)
def tyX3 : Nat → FieldType := fun k => match k with
  | 0 => .object "ScholarsPress$Names"
  | 1 => .object "ScholarsPress$Names"
  | 2 => .object "ScholarsPress$Bytes"
  | 3 => .array .int
  | 4 => .array .int
  | 5 => .array .int
  | 6 => .int
  | 7 => .array .int
  | 8 => .array .int
  | 9 => .array .int
  | 10 => .array .int
  | 11 => .int
  | 12 => .array .int
  | 13 => .array .int
  | 14 => .array .int
  | 15 => .int
  | 16 => .array .int
  | 17 => .array .int
  | 18 => .array .int
  | 19 => .array .boolean
  | 20 => .int
  | 21 => .array .int
  | 22 => .int
  | 23 => .int
  | 24 => .int
  | 25 => .int
  | 26 => .int
  | 27 => .int
  | _ => .int
abbrev wsX30 : List Cond := u_ws RX3 TX3 29
theorem nmX3 : ∀ a, a < 29 → ∀ b, b < 29 → a ≠ b → (TX3 a).2.1 ≠ (TX3 b).2.1 := by decide +kernel
theorem tyX3_ok : ∀ k, k < 29 → parseFieldDescriptor (TX3 k).2.2.1 = some (tyX3 k) := by decide +kernel
abbrev cX3_init : ByteArray := prog_16_method_1_code
def yX3_init : MethodName := ⟨RX3, "<init>", "()V"⟩
abbrev cX3_clear : ByteArray := prog_16_method_2_code
def yX3_clear : MethodName := ⟨RX3, "clear", "()V"⟩
abbrev cX3_read : ByteArray := prog_16_method_3_code
def yX3_read : MethodName := ⟨RX3, "read", "(LScholarsPress$Signs;)V"⟩
abbrev cX3_page : ByteArray := prog_16_method_4_code
def yX3_page : MethodName := ⟨RX3, "page", "(LScholarsPress$Signs;)V"⟩
abbrev cX3_pageProperty : ByteArray := prog_16_method_5_code
def yX3_pageProperty : MethodName := ⟨RX3, "pageProperty", "(LScholarsPress$Signs;)I"⟩
abbrev cX3_rule : ByteArray := prog_16_method_6_code
def yX3_rule : MethodName := ⟨RX3, "rule", "(LScholarsPress$Signs;)V"⟩
abbrev cX3_selector : ByteArray := prog_16_method_7_code
def yX3_selector : MethodName := ⟨RX3, "selector", "(LScholarsPress$Signs;)V"⟩
abbrev cX3_step : ByteArray := prog_16_method_9_code
def yX3_step : MethodName := ⟨RX3, "step", "(LScholarsPress$Signs;I)I"⟩
abbrev cX3_field : ByteArray := prog_16_method_11_code
def yX3_field : MethodName := ⟨RX3, "field", "(LScholarsPress$Signs;)V"⟩
abbrev cX3_ask : ByteArray := prog_16_method_10_code
def yX3_ask : MethodName := ⟨RX3, "ask", "(IIII)V"⟩
abbrev cX3_place : ByteArray := prog_16_method_12_code
def yX3_place : MethodName := ⟨RX3, "place", "(LScholarsPress$Signs;)V"⟩
abbrev cX3_join : ByteArray := prog_16_method_8_code
def yX3_join : MethodName := ⟨RX3, "join", "(LScholarsPress$Signs;)I"⟩
abbrev cX3_declaration : ByteArray := prog_16_method_13_code
def yX3_declaration : MethodName := ⟨RX3, "declaration", "(LScholarsPress$Signs;)V"⟩
abbrev cX3_propertyOf : ByteArray := prog_16_method_17_code
def yX3_propertyOf : MethodName := ⟨RX3, "propertyOf", "(LScholarsPress$Signs;)I"⟩
abbrev cX3_size : ByteArray := prog_16_method_14_code
def yX3_size : MethodName := ⟨RX3, "size", "(LScholarsPress$Signs;)V"⟩
abbrev cX3_counter : ByteArray := prog_16_method_15_code
def yX3_counter : MethodName := ⟨RX3, "counter", "(LScholarsPress$Signs;)V"⟩
abbrev cX3_label : ByteArray := prog_16_method_16_code
def yX3_label : MethodName := ⟨RX3, "label", "(LScholarsPress$Signs;)V"⟩
abbrev cX3_wordOf : ByteArray := prog_16_method_18_code
def yX3_wordOf : MethodName := ⟨RX3, "wordOf", "(ILScholarsPress$Signs;)I"⟩
abbrev cX3_showOf : ByteArray := prog_16_method_19_code
def yX3_showOf : MethodName := ⟨RX3, "showOf", "(LScholarsPress$Signs;)I"⟩
theorem q357 : (Jvm.Cond.initialized "ScholarsPress$Style") ∈ lw_all := lw_g (lw_at lw_m1 3 rfl) rfl
theorem q416 : (Jvm.Cond.fieldLinkNest "ScholarsPress$Style" (193 : Nat) "ScholarsPress$Signs" "text" "[B" "ScholarsPress") ∈ lw_tbl := lw_at lw_m1 62 rfl
theorem q421 : (Jvm.Cond.fieldLinkNest "ScholarsPress$Style" (180 : Nat) "ScholarsPress$Signs" "kind" "I" "ScholarsPress") ∈ lw_tbl := lw_at lw_m1 67 rfl
theorem q423 : (Jvm.Cond.fieldLinkNest "ScholarsPress$Style" (250 : Nat) "ScholarsPress$Signs" "place" "I" "ScholarsPress") ∈ lw_tbl := lw_at lw_m1 69 rfl
theorem q426 : (Jvm.Cond.fieldLinkNest "ScholarsPress$Style" (197 : Nat) "ScholarsPress$Signs" "from" "I" "ScholarsPress") ∈ lw_tbl := lw_at lw_m1 72 rfl
theorem q429 : (Jvm.Cond.fieldLinkNest "ScholarsPress$Style" (200 : Nat) "ScholarsPress$Signs" "size" "I" "ScholarsPress") ∈ lw_tbl := lw_at lw_m1 75 rfl
theorem q431 : (Jvm.Cond.fieldLinkNest "ScholarsPress$Style" (228 : Nat) "ScholarsPress$Signs" "number" "I" "ScholarsPress") ∈ lw_tbl := lw_at lw_m1 77 rfl
theorem q452 : (Jvm.Cond.instantiable "ScholarsPress$Style" (29 : Nat)) ∈ lw_all := lw_g (lw_at lw_m1 98 rfl) rfl
theorem q454 : (Jvm.Cond.instanceMethod ({ cls := "ScholarsPress$Style", name := "<init>", desc := "()V" } : Jvm.MethodName)) ∈ lw_all := lw_g (lw_at lw_m1 100 rfl) rfl
theorem q455 : (Jvm.Cond.code ({ cls := "ScholarsPress$Style", name := "<init>", desc := "()V" } : Jvm.MethodName) prog_16_method_1_code (1 : Nat) (Option.none : Option Jvm.ClassFile.FieldType)) ∈ lw_all := lw_g (lw_at lw_m1 101 rfl) rfl
theorem q456 : (Jvm.Cond.methodLink "ScholarsPress$Style" (5 : Nat) ({ cls := "java/lang/Object", name := "<init>", desc := "()V" } : Jvm.MethodName)) ∈ lw_all := lw_g (lw_at lw_m1 102 rfl) rfl
theorem q457 : (Jvm.Cond.classLink "ScholarsPress$Style" (11 : Nat) "ScholarsPress$Names") ∈ lw_all := lw_g (lw_at lw_m1 103 rfl) rfl
theorem q459 : (Jvm.Cond.methodLinkNest "ScholarsPress$Style" (13 : Nat) ({ cls := "ScholarsPress$Names", name := "<init>", desc := "(I)V" } : Jvm.MethodName) "ScholarsPress") ∈ lw_tbl := lw_at lw_m1 105 rfl
theorem q474 : (Jvm.Cond.fieldLinkNest "ScholarsPress$Style" (260 : Nat) "ScholarsPress$Names" "many" "I" "ScholarsPress") ∈ lw_tbl := lw_at lw_m1 120 rfl
theorem q493 : (Jvm.Cond.classLink "ScholarsPress$Style" (23 : Nat) "ScholarsPress$Bytes") ∈ lw_all := lw_g (lw_at lw_m1 139 rfl) rfl
theorem q495 : (Jvm.Cond.methodLinkNest "ScholarsPress$Style" (25 : Nat) ({ cls := "ScholarsPress$Bytes", name := "<init>", desc := "(I)V" } : Jvm.MethodName) "ScholarsPress") ∈ lw_tbl := lw_at lw_m1 141 rfl
theorem q505 : (Jvm.Cond.fieldLinkNest "ScholarsPress$Style" (81 : Nat) "ScholarsPress$Bytes" "many" "I" "ScholarsPress") ∈ lw_tbl := lw_at lw_m1 151 rfl
theorem q515 : (Jvm.Cond.methodLink "ScholarsPress$Style" (77 : Nat) ({ cls := "ScholarsPress$Style", name := "clear", desc := "()V" } : Jvm.MethodName)) ∈ lw_all := lw_g (lw_at lw_m1 161 rfl) rfl
theorem q516 : (Jvm.Cond.privateMethod ({ cls := "ScholarsPress$Style", name := "clear", desc := "()V" } : Jvm.MethodName)) ∈ lw_tbl := lw_at lw_m1 162 rfl
theorem q517 : (Jvm.Cond.instanceMethod ({ cls := "ScholarsPress$Style", name := "clear", desc := "()V" } : Jvm.MethodName)) ∈ lw_all := lw_g (lw_at lw_m1 163 rfl) rfl
theorem q518 : (Jvm.Cond.code ({ cls := "ScholarsPress$Style", name := "clear", desc := "()V" } : Jvm.MethodName) prog_16_method_2_code (1 : Nat) (Option.none : Option Jvm.ClassFile.FieldType)) ∈ lw_all := lw_g (lw_at lw_m1 164 rfl) rfl
theorem q519 : (Jvm.Cond.methodLinkNest "ScholarsPress$Style" (80 : Nat) ({ cls := "ScholarsPress$Names", name := "clear", desc := "()V" } : Jvm.MethodName) "ScholarsPress") ∈ lw_tbl := lw_at lw_m1 165 rfl
theorem q520 : (Jvm.Cond.constant "ScholarsPress$Style" (100 : Nat) (300000 : Int32)) ∈ lw_all := lw_g (lw_at lw_m1 166 rfl) rfl
theorem q521 : (Jvm.Cond.constant "ScholarsPress$Style" (104 : Nat) (400000 : Int32)) ∈ lw_all := lw_g (lw_at lw_m1 167 rfl) rfl
theorem q522 : (Jvm.Cond.fieldLink "ScholarsPress$Style" (16 : Nat) "ScholarsPress$Style" "names" "LScholarsPress$Names;") ∈ lw_all := lw_g (lw_at lw_m1 168 rfl) rfl
theorem q524 : (Jvm.Cond.fieldLink "ScholarsPress$Style" (20 : Nat) "ScholarsPress$Style" "counters" "LScholarsPress$Names;") ∈ lw_all := lw_g (lw_at lw_m1 170 rfl) rfl
theorem q525 : (Jvm.Cond.fieldLink "ScholarsPress$Style" (26 : Nat) "ScholarsPress$Style" "strings" "LScholarsPress$Bytes;") ∈ lw_all := lw_g (lw_at lw_m1 171 rfl) rfl
theorem q527 : (Jvm.Cond.fieldLink "ScholarsPress$Style" (30 : Nat) "ScholarsPress$Style" "stepName" "[I") ∈ lw_all := lw_g (lw_at lw_m1 173 rfl) rfl
theorem q529 : (Jvm.Cond.fieldLink "ScholarsPress$Style" (34 : Nat) "ScholarsPress$Style" "stepJoin" "[I") ∈ lw_all := lw_g (lw_at lw_m1 175 rfl) rfl
theorem q531 : (Jvm.Cond.fieldLink "ScholarsPress$Style" (37 : Nat) "ScholarsPress$Style" "askStart" "[I") ∈ lw_all := lw_g (lw_at lw_m1 177 rfl) rfl
theorem q533 : (Jvm.Cond.fieldLink "ScholarsPress$Style" (85 : Nat) "ScholarsPress$Style" "steps" "I") ∈ lw_all := lw_g (lw_at lw_m1 179 rfl) rfl
theorem q534 : (Jvm.Cond.fieldLink "ScholarsPress$Style" (40 : Nat) "ScholarsPress$Style" "askKind" "[I") ∈ lw_all := lw_g (lw_at lw_m1 180 rfl) rfl
theorem q536 : (Jvm.Cond.fieldLink "ScholarsPress$Style" (43 : Nat) "ScholarsPress$Style" "askName" "[I") ∈ lw_all := lw_g (lw_at lw_m1 182 rfl) rfl
theorem q538 : (Jvm.Cond.fieldLink "ScholarsPress$Style" (46 : Nat) "ScholarsPress$Style" "askFrom" "[I") ∈ lw_all := lw_g (lw_at lw_m1 184 rfl) rfl
theorem q540 : (Jvm.Cond.fieldLink "ScholarsPress$Style" (49 : Nat) "ScholarsPress$Style" "askSize" "[I") ∈ lw_all := lw_g (lw_at lw_m1 186 rfl) rfl
theorem q542 : (Jvm.Cond.fieldLink "ScholarsPress$Style" (88 : Nat) "ScholarsPress$Style" "asks" "I") ∈ lw_all := lw_g (lw_at lw_m1 188 rfl) rfl
theorem q543 : (Jvm.Cond.fieldLink "ScholarsPress$Style" (52 : Nat) "ScholarsPress$Style" "stepStart" "[I") ∈ lw_all := lw_g (lw_at lw_m1 189 rfl) rfl
theorem q545 : (Jvm.Cond.fieldLink "ScholarsPress$Style" (55 : Nat) "ScholarsPress$Style" "weight" "[I") ∈ lw_all := lw_g (lw_at lw_m1 191 rfl) rfl
theorem q547 : (Jvm.Cond.fieldLink "ScholarsPress$Style" (58 : Nat) "ScholarsPress$Style" "bodyOf" "[I") ∈ lw_all := lw_g (lw_at lw_m1 193 rfl) rfl
theorem q549 : (Jvm.Cond.fieldLink "ScholarsPress$Style" (91 : Nat) "ScholarsPress$Style" "selectors" "I") ∈ lw_all := lw_g (lw_at lw_m1 195 rfl) rfl
theorem q552 : (Jvm.Cond.fieldLink "ScholarsPress$Style" (61 : Nat) "ScholarsPress$Style" "property" "[I") ∈ lw_all := lw_g (lw_at lw_m1 198 rfl) rfl
theorem q554 : (Jvm.Cond.fieldLink "ScholarsPress$Style" (64 : Nat) "ScholarsPress$Style" "value" "[I") ∈ lw_all := lw_g (lw_at lw_m1 200 rfl) rfl
theorem q556 : (Jvm.Cond.fieldLink "ScholarsPress$Style" (67 : Nat) "ScholarsPress$Style" "size" "[I") ∈ lw_all := lw_g (lw_at lw_m1 202 rfl) rfl
theorem q558 : (Jvm.Cond.fieldLink "ScholarsPress$Style" (70 : Nat) "ScholarsPress$Style" "share" "[Z") ∈ lw_all := lw_g (lw_at lw_m1 204 rfl) rfl
theorem q560 : (Jvm.Cond.fieldLink "ScholarsPress$Style" (94 : Nat) "ScholarsPress$Style" "told" "I") ∈ lw_all := lw_g (lw_at lw_m1 206 rfl) rfl
theorem q561 : (Jvm.Cond.fieldLink "ScholarsPress$Style" (74 : Nat) "ScholarsPress$Style" "bodyStart" "[I") ∈ lw_all := lw_g (lw_at lw_m1 207 rfl) rfl
theorem q563 : (Jvm.Cond.fieldLink "ScholarsPress$Style" (97 : Nat) "ScholarsPress$Style" "bodies" "I") ∈ lw_all := lw_g (lw_at lw_m1 209 rfl) rfl
theorem q564 : (Jvm.Cond.fieldLink "ScholarsPress$Style" (101 : Nat) "ScholarsPress$Style" "width" "I") ∈ lw_all := lw_g (lw_at lw_m1 210 rfl) rfl
theorem q566 : (Jvm.Cond.fieldLink "ScholarsPress$Style" (105 : Nat) "ScholarsPress$Style" "height" "I") ∈ lw_all := lw_g (lw_at lw_m1 212 rfl) rfl
theorem q568 : (Jvm.Cond.fieldLink "ScholarsPress$Style" (108 : Nat) "ScholarsPress$Style" "columns" "I") ∈ lw_all := lw_g (lw_at lw_m1 214 rfl) rfl
theorem q570 : (Jvm.Cond.fieldLink "ScholarsPress$Style" (111 : Nat) "ScholarsPress$Style" "gap" "I") ∈ lw_all := lw_g (lw_at lw_m1 216 rfl) rfl
theorem q572 : (Jvm.Cond.fieldLink "ScholarsPress$Style" (114 : Nat) "ScholarsPress$Style" "rule" "I") ∈ lw_all := lw_g (lw_at lw_m1 218 rfl) rfl
theorem q574 : (Jvm.Cond.fieldLink "ScholarsPress$Style" (117 : Nat) "ScholarsPress$Style" "lines" "I") ∈ lw_all := lw_g (lw_at lw_m1 220 rfl) rfl
theorem q576 : (Jvm.Cond.laysFinal "ScholarsPress$Style" "ScholarsPress$Style" "names" "LScholarsPress$Names;") ∈ lw_all := lw_g (lw_at lw_m1 222 rfl) rfl
theorem q577 : (Jvm.Cond.soleField "ScholarsPress$Style" "names") ∈ lw_all := lw_g (lw_at lw_m1 223 rfl) rfl
theorem q578 : (Jvm.Cond.laysFinal "ScholarsPress$Style" "ScholarsPress$Style" "counters" "LScholarsPress$Names;") ∈ lw_all := lw_g (lw_at lw_m1 224 rfl) rfl
theorem q579 : (Jvm.Cond.soleField "ScholarsPress$Style" "counters") ∈ lw_all := lw_g (lw_at lw_m1 225 rfl) rfl
theorem q580 : (Jvm.Cond.laysFinal "ScholarsPress$Style" "ScholarsPress$Style" "strings" "LScholarsPress$Bytes;") ∈ lw_all := lw_g (lw_at lw_m1 226 rfl) rfl
theorem q581 : (Jvm.Cond.soleField "ScholarsPress$Style" "strings") ∈ lw_all := lw_g (lw_at lw_m1 227 rfl) rfl
theorem q582 : (Jvm.Cond.laysFinal "ScholarsPress$Style" "ScholarsPress$Style" "stepName" "[I") ∈ lw_all := lw_g (lw_at lw_m1 228 rfl) rfl
theorem q583 : (Jvm.Cond.soleField "ScholarsPress$Style" "stepName") ∈ lw_all := lw_g (lw_at lw_m1 229 rfl) rfl
theorem q584 : (Jvm.Cond.laysFinal "ScholarsPress$Style" "ScholarsPress$Style" "stepJoin" "[I") ∈ lw_all := lw_g (lw_at lw_m1 230 rfl) rfl
theorem q585 : (Jvm.Cond.soleField "ScholarsPress$Style" "stepJoin") ∈ lw_all := lw_g (lw_at lw_m1 231 rfl) rfl
theorem q586 : (Jvm.Cond.laysFinal "ScholarsPress$Style" "ScholarsPress$Style" "askStart" "[I") ∈ lw_all := lw_g (lw_at lw_m1 232 rfl) rfl
theorem q587 : (Jvm.Cond.soleField "ScholarsPress$Style" "askStart") ∈ lw_all := lw_g (lw_at lw_m1 233 rfl) rfl
theorem q588 : (Jvm.Cond.lays "ScholarsPress$Style" "ScholarsPress$Style" "steps" "I") ∈ lw_all := lw_g (lw_at lw_m1 234 rfl) rfl
theorem q589 : (Jvm.Cond.soleField "ScholarsPress$Style" "steps") ∈ lw_all := lw_g (lw_at lw_m1 235 rfl) rfl
theorem q590 : (Jvm.Cond.laysFinal "ScholarsPress$Style" "ScholarsPress$Style" "askKind" "[I") ∈ lw_all := lw_g (lw_at lw_m1 236 rfl) rfl
theorem q591 : (Jvm.Cond.soleField "ScholarsPress$Style" "askKind") ∈ lw_all := lw_g (lw_at lw_m1 237 rfl) rfl
theorem q592 : (Jvm.Cond.laysFinal "ScholarsPress$Style" "ScholarsPress$Style" "askName" "[I") ∈ lw_all := lw_g (lw_at lw_m1 238 rfl) rfl
theorem q593 : (Jvm.Cond.soleField "ScholarsPress$Style" "askName") ∈ lw_all := lw_g (lw_at lw_m1 239 rfl) rfl
theorem q594 : (Jvm.Cond.laysFinal "ScholarsPress$Style" "ScholarsPress$Style" "askFrom" "[I") ∈ lw_all := lw_g (lw_at lw_m2 0 rfl) rfl
theorem q595 : (Jvm.Cond.soleField "ScholarsPress$Style" "askFrom") ∈ lw_all := lw_g (lw_at lw_m2 1 rfl) rfl
theorem q596 : (Jvm.Cond.laysFinal "ScholarsPress$Style" "ScholarsPress$Style" "askSize" "[I") ∈ lw_all := lw_g (lw_at lw_m2 2 rfl) rfl
theorem q597 : (Jvm.Cond.soleField "ScholarsPress$Style" "askSize") ∈ lw_all := lw_g (lw_at lw_m2 3 rfl) rfl
theorem q598 : (Jvm.Cond.lays "ScholarsPress$Style" "ScholarsPress$Style" "asks" "I") ∈ lw_all := lw_g (lw_at lw_m2 4 rfl) rfl
theorem q599 : (Jvm.Cond.soleField "ScholarsPress$Style" "asks") ∈ lw_all := lw_g (lw_at lw_m2 5 rfl) rfl
theorem q600 : (Jvm.Cond.laysFinal "ScholarsPress$Style" "ScholarsPress$Style" "stepStart" "[I") ∈ lw_all := lw_g (lw_at lw_m2 6 rfl) rfl
theorem q601 : (Jvm.Cond.soleField "ScholarsPress$Style" "stepStart") ∈ lw_all := lw_g (lw_at lw_m2 7 rfl) rfl
theorem q602 : (Jvm.Cond.laysFinal "ScholarsPress$Style" "ScholarsPress$Style" "weight" "[I") ∈ lw_all := lw_g (lw_at lw_m2 8 rfl) rfl
theorem q603 : (Jvm.Cond.soleField "ScholarsPress$Style" "weight") ∈ lw_all := lw_g (lw_at lw_m2 9 rfl) rfl
theorem q604 : (Jvm.Cond.laysFinal "ScholarsPress$Style" "ScholarsPress$Style" "bodyOf" "[I") ∈ lw_all := lw_g (lw_at lw_m2 10 rfl) rfl
theorem q605 : (Jvm.Cond.soleField "ScholarsPress$Style" "bodyOf") ∈ lw_all := lw_g (lw_at lw_m2 11 rfl) rfl
theorem q606 : (Jvm.Cond.lays "ScholarsPress$Style" "ScholarsPress$Style" "selectors" "I") ∈ lw_all := lw_g (lw_at lw_m2 12 rfl) rfl
theorem q607 : (Jvm.Cond.soleField "ScholarsPress$Style" "selectors") ∈ lw_all := lw_g (lw_at lw_m2 13 rfl) rfl
theorem q608 : (Jvm.Cond.laysFinal "ScholarsPress$Style" "ScholarsPress$Style" "property" "[I") ∈ lw_all := lw_g (lw_at lw_m2 14 rfl) rfl
theorem q609 : (Jvm.Cond.soleField "ScholarsPress$Style" "property") ∈ lw_all := lw_g (lw_at lw_m2 15 rfl) rfl
theorem q610 : (Jvm.Cond.laysFinal "ScholarsPress$Style" "ScholarsPress$Style" "value" "[I") ∈ lw_all := lw_g (lw_at lw_m2 16 rfl) rfl
theorem q611 : (Jvm.Cond.soleField "ScholarsPress$Style" "value") ∈ lw_all := lw_g (lw_at lw_m2 17 rfl) rfl
theorem q612 : (Jvm.Cond.laysFinal "ScholarsPress$Style" "ScholarsPress$Style" "size" "[I") ∈ lw_all := lw_g (lw_at lw_m2 18 rfl) rfl
theorem q613 : (Jvm.Cond.soleField "ScholarsPress$Style" "size") ∈ lw_all := lw_g (lw_at lw_m2 19 rfl) rfl
theorem q614 : (Jvm.Cond.laysFinal "ScholarsPress$Style" "ScholarsPress$Style" "share" "[Z") ∈ lw_all := lw_g (lw_at lw_m2 20 rfl) rfl
theorem q615 : (Jvm.Cond.soleField "ScholarsPress$Style" "share") ∈ lw_all := lw_g (lw_at lw_m2 21 rfl) rfl
theorem q616 : (Jvm.Cond.lays "ScholarsPress$Style" "ScholarsPress$Style" "told" "I") ∈ lw_all := lw_g (lw_at lw_m2 22 rfl) rfl
theorem q617 : (Jvm.Cond.soleField "ScholarsPress$Style" "told") ∈ lw_all := lw_g (lw_at lw_m2 23 rfl) rfl
theorem q618 : (Jvm.Cond.laysFinal "ScholarsPress$Style" "ScholarsPress$Style" "bodyStart" "[I") ∈ lw_all := lw_g (lw_at lw_m2 24 rfl) rfl
theorem q619 : (Jvm.Cond.soleField "ScholarsPress$Style" "bodyStart") ∈ lw_all := lw_g (lw_at lw_m2 25 rfl) rfl
theorem q620 : (Jvm.Cond.lays "ScholarsPress$Style" "ScholarsPress$Style" "bodies" "I") ∈ lw_all := lw_g (lw_at lw_m2 26 rfl) rfl
theorem q621 : (Jvm.Cond.soleField "ScholarsPress$Style" "bodies") ∈ lw_all := lw_g (lw_at lw_m2 27 rfl) rfl
theorem q622 : (Jvm.Cond.lays "ScholarsPress$Style" "ScholarsPress$Style" "width" "I") ∈ lw_all := lw_g (lw_at lw_m2 28 rfl) rfl
theorem q623 : (Jvm.Cond.soleField "ScholarsPress$Style" "width") ∈ lw_all := lw_g (lw_at lw_m2 29 rfl) rfl
theorem q624 : (Jvm.Cond.lays "ScholarsPress$Style" "ScholarsPress$Style" "height" "I") ∈ lw_all := lw_g (lw_at lw_m2 30 rfl) rfl
theorem q625 : (Jvm.Cond.soleField "ScholarsPress$Style" "height") ∈ lw_all := lw_g (lw_at lw_m2 31 rfl) rfl
theorem q626 : (Jvm.Cond.lays "ScholarsPress$Style" "ScholarsPress$Style" "columns" "I") ∈ lw_all := lw_g (lw_at lw_m2 32 rfl) rfl
theorem q627 : (Jvm.Cond.soleField "ScholarsPress$Style" "columns") ∈ lw_all := lw_g (lw_at lw_m2 33 rfl) rfl
theorem q628 : (Jvm.Cond.lays "ScholarsPress$Style" "ScholarsPress$Style" "gap" "I") ∈ lw_all := lw_g (lw_at lw_m2 34 rfl) rfl
theorem q629 : (Jvm.Cond.soleField "ScholarsPress$Style" "gap") ∈ lw_all := lw_g (lw_at lw_m2 35 rfl) rfl
theorem q630 : (Jvm.Cond.lays "ScholarsPress$Style" "ScholarsPress$Style" "rule" "I") ∈ lw_all := lw_g (lw_at lw_m2 36 rfl) rfl
theorem q631 : (Jvm.Cond.soleField "ScholarsPress$Style" "rule") ∈ lw_all := lw_g (lw_at lw_m2 37 rfl) rfl
theorem q632 : (Jvm.Cond.lays "ScholarsPress$Style" "ScholarsPress$Style" "lines" "I") ∈ lw_all := lw_g (lw_at lw_m2 38 rfl) rfl
theorem q633 : (Jvm.Cond.soleField "ScholarsPress$Style" "lines") ∈ lw_all := lw_g (lw_at lw_m2 39 rfl) rfl
theorem q634 : (Jvm.Cond.superclass "ScholarsPress$Style" "java/lang/Object") ∈ lw_all := lw_g (lw_at lw_m2 40 rfl) rfl
theorem q1959 : (Jvm.Cond.privateMethod ({ cls := "ScholarsPress$Style", name := "read", desc := "(LScholarsPress$Signs;)V" } : Jvm.MethodName)) ∈ lw_tbl := lw_at lw_m7 165 rfl
theorem q1960 : (Jvm.Cond.instanceMethod ({ cls := "ScholarsPress$Style", name := "read", desc := "(LScholarsPress$Signs;)V" } : Jvm.MethodName)) ∈ lw_all := lw_g (lw_at lw_m7 166 rfl) rfl
theorem q1961 : (Jvm.Cond.code ({ cls := "ScholarsPress$Style", name := "read", desc := "(LScholarsPress$Signs;)V" } : Jvm.MethodName) prog_16_method_3_code (2 : Nat) (Option.none : Option Jvm.ClassFile.FieldType)) ∈ lw_all := lw_g (lw_at lw_m7 167 rfl) rfl
theorem q1962 : (Jvm.Cond.methodLinkNest "ScholarsPress$Style" (120 : Nat) ({ cls := "ScholarsPress$Signs", name := "isEnd", desc := "()Z" } : Jvm.MethodName) "ScholarsPress") ∈ lw_tbl := lw_at lw_m7 168 rfl
theorem q1963 : (Jvm.Cond.stringRef "ScholarsPress$Style" (126 : Nat) "page") ∈ lw_tbl := lw_at lw_m7 169 rfl
theorem q1964 : (Jvm.Cond.methodLinkNest "ScholarsPress$Style" (128 : Nat) ({ cls := "ScholarsPress$Signs", name := "isName", desc := "(Ljava/lang/String;)Z" } : Jvm.MethodName) "ScholarsPress") ∈ lw_tbl := lw_at lw_m7 170 rfl
theorem q1965 : (Jvm.Cond.methodLinkNest "ScholarsPress$Style" (132 : Nat) ({ cls := "ScholarsPress$Signs", name := "next", desc := "()V" } : Jvm.MethodName) "ScholarsPress") ∈ lw_tbl := lw_at lw_m7 171 rfl
theorem q1966 : (Jvm.Cond.methodLink "ScholarsPress$Style" (135 : Nat) ({ cls := "ScholarsPress$Style", name := "page", desc := "(LScholarsPress$Signs;)V" } : Jvm.MethodName)) ∈ lw_all := lw_g (lw_at lw_m7 172 rfl) rfl
theorem q1967 : (Jvm.Cond.privateMethod ({ cls := "ScholarsPress$Style", name := "page", desc := "(LScholarsPress$Signs;)V" } : Jvm.MethodName)) ∈ lw_tbl := lw_at lw_m7 173 rfl
theorem q1968 : (Jvm.Cond.instanceMethod ({ cls := "ScholarsPress$Style", name := "page", desc := "(LScholarsPress$Signs;)V" } : Jvm.MethodName)) ∈ lw_all := lw_g (lw_at lw_m7 174 rfl) rfl
theorem q1969 : (Jvm.Cond.code ({ cls := "ScholarsPress$Style", name := "page", desc := "(LScholarsPress$Signs;)V" } : Jvm.MethodName) prog_16_method_4_code (3 : Nat) (Option.none : Option Jvm.ClassFile.FieldType)) ∈ lw_all := lw_g (lw_at lw_m7 175 rfl) rfl
theorem q1970 : (Jvm.Cond.methodLinkNest "ScholarsPress$Style" (140 : Nat) ({ cls := "ScholarsPress$Signs", name := "need", desc := "(I)V" } : Jvm.MethodName) "ScholarsPress") ∈ lw_tbl := lw_at lw_m7 176 rfl
theorem q1971 : (Jvm.Cond.methodLinkNest "ScholarsPress$Style" (143 : Nat) ({ cls := "ScholarsPress$Signs", name := "take", desc := "(I)Z" } : Jvm.MethodName) "ScholarsPress") ∈ lw_tbl := lw_at lw_m7 177 rfl
theorem q1972 : (Jvm.Cond.methodLinkNest "ScholarsPress$Style" (147 : Nat) ({ cls := "ScholarsPress$Signs", name := "needKind", desc := "(I)V" } : Jvm.MethodName) "ScholarsPress") ∈ lw_tbl := lw_at lw_m7 178 rfl
theorem q1976 : (Jvm.Cond.methodLink "ScholarsPress$Style" (150 : Nat) ({ cls := "ScholarsPress$Style", name := "pageProperty", desc := "(LScholarsPress$Signs;)I" } : Jvm.MethodName)) ∈ lw_all := lw_g (lw_at lw_m7 182 rfl) rfl
theorem q1977 : (Jvm.Cond.static ({ cls := "ScholarsPress$Style", name := "pageProperty", desc := "(LScholarsPress$Signs;)I" } : Jvm.MethodName)) ∈ lw_all := lw_g (lw_at lw_m7 183 rfl) rfl
theorem q1978 : (Jvm.Cond.code ({ cls := "ScholarsPress$Style", name := "pageProperty", desc := "(LScholarsPress$Signs;)I" } : Jvm.MethodName) prog_16_method_5_code (1 : Nat) (Option.some Jvm.ClassFile.FieldType.int)) ∈ lw_all := lw_g (lw_at lw_m7 184 rfl) rfl
theorem q1979 : (Jvm.Cond.stringRef "ScholarsPress$Style" (168 : Nat) "width") ∈ lw_tbl := lw_at lw_m7 185 rfl
theorem q1980 : (Jvm.Cond.stringRef "ScholarsPress$Style" (169 : Nat) "height") ∈ lw_tbl := lw_at lw_m7 186 rfl
theorem q1981 : (Jvm.Cond.stringRef "ScholarsPress$Style" (170 : Nat) "columns") ∈ lw_tbl := lw_at lw_m7 187 rfl
theorem q1982 : (Jvm.Cond.stringRef "ScholarsPress$Style" (171 : Nat) "gap") ∈ lw_tbl := lw_at lw_m7 188 rfl
theorem q1983 : (Jvm.Cond.stringRef "ScholarsPress$Style" (172 : Nat) "rule") ∈ lw_tbl := lw_at lw_m7 189 rfl
theorem q1984 : (Jvm.Cond.stringRef "ScholarsPress$Style" (173 : Nat) "lines") ∈ lw_tbl := lw_at lw_m7 190 rfl
theorem q1985 : (Jvm.Cond.methodLinkNest "ScholarsPress$Style" (154 : Nat) ({ cls := "ScholarsPress$Signs", name := "broken", desc := "()LScholarsPress$Broken;" } : Jvm.MethodName) "ScholarsPress") ∈ lw_tbl := lw_at lw_m7 191 rfl
theorem q1986 : (Jvm.Cond.constant "ScholarsPress$Style" (158 : Nat) (1000000 : Int32)) ∈ lw_all := lw_g (lw_at lw_m7 192 rfl) rfl
theorem q1987 : (Jvm.Cond.methodLinkNest "ScholarsPress$Style" (159 : Nat) ({ cls := "ScholarsPress$Signs", name := "needNumber", desc := "(II)I" } : Jvm.MethodName) "ScholarsPress") ∈ lw_tbl := lw_at lw_m7 193 rfl
theorem q1988 : (Jvm.Cond.constant "ScholarsPress$Style" (163 : Nat) (100000 : Int32)) ∈ lw_all := lw_g (lw_at lw_m7 194 rfl) rfl
theorem q1989 : (Jvm.Cond.stringRef "ScholarsPress$Style" (164 : Nat) "no") ∈ lw_tbl := lw_at lw_m7 195 rfl
theorem q1990 : (Jvm.Cond.stringRef "ScholarsPress$Style" (166 : Nat) "all") ∈ lw_tbl := lw_at lw_m7 196 rfl
theorem q1991 : (Jvm.Cond.methodLink "ScholarsPress$Style" (138 : Nat) ({ cls := "ScholarsPress$Style", name := "rule", desc := "(LScholarsPress$Signs;)V" } : Jvm.MethodName)) ∈ lw_all := lw_g (lw_at lw_m7 197 rfl) rfl
theorem q1992 : (Jvm.Cond.privateMethod ({ cls := "ScholarsPress$Style", name := "rule", desc := "(LScholarsPress$Signs;)V" } : Jvm.MethodName)) ∈ lw_tbl := lw_at lw_m7 198 rfl
theorem q1993 : (Jvm.Cond.instanceMethod ({ cls := "ScholarsPress$Style", name := "rule", desc := "(LScholarsPress$Signs;)V" } : Jvm.MethodName)) ∈ lw_all := lw_g (lw_at lw_m7 199 rfl) rfl
theorem q1994 : (Jvm.Cond.code ({ cls := "ScholarsPress$Style", name := "rule", desc := "(LScholarsPress$Signs;)V" } : Jvm.MethodName) prog_16_method_6_code (3 : Nat) (Option.none : Option Jvm.ClassFile.FieldType)) ∈ lw_all := lw_g (lw_at lw_m7 200 rfl) rfl
theorem q1995 : (Jvm.Cond.methodLink "ScholarsPress$Style" (174 : Nat) ({ cls := "ScholarsPress$Style", name := "selector", desc := "(LScholarsPress$Signs;)V" } : Jvm.MethodName)) ∈ lw_all := lw_g (lw_at lw_m7 201 rfl) rfl
theorem q1996 : (Jvm.Cond.privateMethod ({ cls := "ScholarsPress$Style", name := "selector", desc := "(LScholarsPress$Signs;)V" } : Jvm.MethodName)) ∈ lw_tbl := lw_at lw_m7 202 rfl
theorem q1997 : (Jvm.Cond.instanceMethod ({ cls := "ScholarsPress$Style", name := "selector", desc := "(LScholarsPress$Signs;)V" } : Jvm.MethodName)) ∈ lw_all := lw_g (lw_at lw_m7 203 rfl) rfl
theorem q1998 : (Jvm.Cond.code ({ cls := "ScholarsPress$Style", name := "selector", desc := "(LScholarsPress$Signs;)V" } : Jvm.MethodName) prog_16_method_7_code (4 : Nat) (Option.none : Option Jvm.ClassFile.FieldType)) ∈ lw_all := lw_g (lw_at lw_m7 204 rfl) rfl
theorem q1999 : (Jvm.Cond.methodLinkNest "ScholarsPress$Style" (183 : Nat) ({ cls := "ScholarsPress$Signs", name := "isByte", desc := "(I)Z" } : Jvm.MethodName) "ScholarsPress") ∈ lw_tbl := lw_at lw_m7 205 rfl
theorem q2000 : (Jvm.Cond.methodLink "ScholarsPress$Style" (186 : Nat) ({ cls := "ScholarsPress$Style", name := "step", desc := "(LScholarsPress$Signs;I)I" } : Jvm.MethodName)) ∈ lw_all := lw_g (lw_at lw_m7 206 rfl) rfl
theorem q2001 : (Jvm.Cond.privateMethod ({ cls := "ScholarsPress$Style", name := "step", desc := "(LScholarsPress$Signs;I)I" } : Jvm.MethodName)) ∈ lw_tbl := lw_at lw_m7 207 rfl
theorem q2002 : (Jvm.Cond.instanceMethod ({ cls := "ScholarsPress$Style", name := "step", desc := "(LScholarsPress$Signs;I)I" } : Jvm.MethodName)) ∈ lw_all := lw_g (lw_at lw_m7 208 rfl) rfl
theorem q2003 : (Jvm.Cond.code ({ cls := "ScholarsPress$Style", name := "step", desc := "(LScholarsPress$Signs;I)I" } : Jvm.MethodName) prog_16_method_9_code (5 : Nat) (Option.some Jvm.ClassFile.FieldType.int)) ∈ lw_all := lw_g (lw_at lw_m7 209 rfl) rfl
theorem q2004 : (Jvm.Cond.methodLinkNest "ScholarsPress$Style" (202 : Nat) ({ cls := "ScholarsPress$Names", name := "add", desc := "([BII)I" } : Jvm.MethodName) "ScholarsPress") ∈ lw_tbl := lw_at lw_m7 210 rfl
theorem q2023 : (Jvm.Cond.methodLink "ScholarsPress$Style" (206 : Nat) ({ cls := "ScholarsPress$Style", name := "field", desc := "(LScholarsPress$Signs;)V" } : Jvm.MethodName)) ∈ lw_all := lw_g (lw_at lw_m7 229 rfl) rfl
theorem q2024 : (Jvm.Cond.privateMethod ({ cls := "ScholarsPress$Style", name := "field", desc := "(LScholarsPress$Signs;)V" } : Jvm.MethodName)) ∈ lw_tbl := lw_at lw_m7 230 rfl
theorem q2025 : (Jvm.Cond.instanceMethod ({ cls := "ScholarsPress$Style", name := "field", desc := "(LScholarsPress$Signs;)V" } : Jvm.MethodName)) ∈ lw_all := lw_g (lw_at lw_m7 231 rfl) rfl
theorem q2026 : (Jvm.Cond.code ({ cls := "ScholarsPress$Style", name := "field", desc := "(LScholarsPress$Signs;)V" } : Jvm.MethodName) prog_16_method_11_code (3 : Nat) (Option.none : Option Jvm.ClassFile.FieldType)) ∈ lw_all := lw_g (lw_at lw_m7 232 rfl) rfl
theorem q2027 : (Jvm.Cond.methodLink "ScholarsPress$Style" (212 : Nat) ({ cls := "ScholarsPress$Style", name := "ask", desc := "(IIII)V" } : Jvm.MethodName)) ∈ lw_all := lw_g (lw_at lw_m7 233 rfl) rfl
theorem q2028 : (Jvm.Cond.privateMethod ({ cls := "ScholarsPress$Style", name := "ask", desc := "(IIII)V" } : Jvm.MethodName)) ∈ lw_tbl := lw_at lw_m7 234 rfl
theorem q2029 : (Jvm.Cond.instanceMethod ({ cls := "ScholarsPress$Style", name := "ask", desc := "(IIII)V" } : Jvm.MethodName)) ∈ lw_all := lw_g (lw_at lw_m7 235 rfl) rfl
theorem q2030 : (Jvm.Cond.code ({ cls := "ScholarsPress$Style", name := "ask", desc := "(IIII)V" } : Jvm.MethodName) prog_16_method_10_code (5 : Nat) (Option.none : Option Jvm.ClassFile.FieldType)) ∈ lw_all := lw_g (lw_at lw_m7 236 rfl) rfl
theorem q2031 : (Jvm.Cond.methodLinkNest "ScholarsPress$Style" (216 : Nat) ({ cls := "ScholarsPress$Bytes", name := "addAll", desc := "([BII)V" } : Jvm.MethodName) "ScholarsPress") ∈ lw_tbl := lw_at lw_m7 237 rfl
theorem q2040 : (Jvm.Cond.methodLink "ScholarsPress$Style" (209 : Nat) ({ cls := "ScholarsPress$Style", name := "place", desc := "(LScholarsPress$Signs;)V" } : Jvm.MethodName)) ∈ lw_all := lw_g (lw_at lw_m8 6 rfl) rfl
theorem q2041 : (Jvm.Cond.privateMethod ({ cls := "ScholarsPress$Style", name := "place", desc := "(LScholarsPress$Signs;)V" } : Jvm.MethodName)) ∈ lw_tbl := lw_at lw_m8 7 rfl
theorem q2042 : (Jvm.Cond.instanceMethod ({ cls := "ScholarsPress$Style", name := "place", desc := "(LScholarsPress$Signs;)V" } : Jvm.MethodName)) ∈ lw_all := lw_g (lw_at lw_m8 8 rfl) rfl
theorem q2043 : (Jvm.Cond.code ({ cls := "ScholarsPress$Style", name := "place", desc := "(LScholarsPress$Signs;)V" } : Jvm.MethodName) prog_16_method_12_code (2 : Nat) (Option.none : Option Jvm.ClassFile.FieldType)) ∈ lw_all := lw_g (lw_at lw_m8 9 rfl) rfl
theorem q2044 : (Jvm.Cond.stringRef "ScholarsPress$Style" (220 : Nat) "first") ∈ lw_tbl := lw_at lw_m8 10 rfl
theorem q2045 : (Jvm.Cond.stringRef "ScholarsPress$Style" (222 : Nat) "last") ∈ lw_tbl := lw_at lw_m8 11 rfl
theorem q2046 : (Jvm.Cond.stringRef "ScholarsPress$Style" (224 : Nat) "empty") ∈ lw_tbl := lw_at lw_m8 12 rfl
theorem q2047 : (Jvm.Cond.stringRef "ScholarsPress$Style" (226 : Nat) "nth") ∈ lw_tbl := lw_at lw_m8 13 rfl
theorem q2048 : (Jvm.Cond.stringRef "ScholarsPress$Style" (231 : Nat) "not") ∈ lw_tbl := lw_at lw_m8 14 rfl
theorem q2049 : (Jvm.Cond.methodLink "ScholarsPress$Style" (190 : Nat) ({ cls := "ScholarsPress$Style", name := "join", desc := "(LScholarsPress$Signs;)I" } : Jvm.MethodName)) ∈ lw_all := lw_g (lw_at lw_m8 15 rfl) rfl
theorem q2050 : (Jvm.Cond.privateMethod ({ cls := "ScholarsPress$Style", name := "join", desc := "(LScholarsPress$Signs;)I" } : Jvm.MethodName)) ∈ lw_tbl := lw_at lw_m8 16 rfl
theorem q2051 : (Jvm.Cond.instanceMethod ({ cls := "ScholarsPress$Style", name := "join", desc := "(LScholarsPress$Signs;)I" } : Jvm.MethodName)) ∈ lw_all := lw_g (lw_at lw_m8 17 rfl) rfl
theorem q2052 : (Jvm.Cond.code ({ cls := "ScholarsPress$Style", name := "join", desc := "(LScholarsPress$Signs;)I" } : Jvm.MethodName) prog_16_method_8_code (2 : Nat) (Option.some Jvm.ClassFile.FieldType.int)) ∈ lw_all := lw_g (lw_at lw_m8 18 rfl) rfl
theorem q2053 : (Jvm.Cond.methodLink "ScholarsPress$Style" (177 : Nat) ({ cls := "ScholarsPress$Style", name := "declaration", desc := "(LScholarsPress$Signs;)V" } : Jvm.MethodName)) ∈ lw_all := lw_g (lw_at lw_m8 19 rfl) rfl
theorem q2054 : (Jvm.Cond.privateMethod ({ cls := "ScholarsPress$Style", name := "declaration", desc := "(LScholarsPress$Signs;)V" } : Jvm.MethodName)) ∈ lw_tbl := lw_at lw_m8 20 rfl
theorem q2055 : (Jvm.Cond.instanceMethod ({ cls := "ScholarsPress$Style", name := "declaration", desc := "(LScholarsPress$Signs;)V" } : Jvm.MethodName)) ∈ lw_all := lw_g (lw_at lw_m8 21 rfl) rfl
theorem q2056 : (Jvm.Cond.code ({ cls := "ScholarsPress$Style", name := "declaration", desc := "(LScholarsPress$Signs;)V" } : Jvm.MethodName) prog_16_method_13_code (3 : Nat) (Option.none : Option Jvm.ClassFile.FieldType)) ∈ lw_all := lw_g (lw_at lw_m8 22 rfl) rfl
theorem q2057 : (Jvm.Cond.methodLink "ScholarsPress$Style" (233 : Nat) ({ cls := "ScholarsPress$Style", name := "propertyOf", desc := "(LScholarsPress$Signs;)I" } : Jvm.MethodName)) ∈ lw_all := lw_g (lw_at lw_m8 23 rfl) rfl
theorem q2058 : (Jvm.Cond.static ({ cls := "ScholarsPress$Style", name := "propertyOf", desc := "(LScholarsPress$Signs;)I" } : Jvm.MethodName)) ∈ lw_all := lw_g (lw_at lw_m8 24 rfl) rfl
theorem q2059 : (Jvm.Cond.code ({ cls := "ScholarsPress$Style", name := "propertyOf", desc := "(LScholarsPress$Signs;)I" } : Jvm.MethodName) prog_16_method_17_code (1 : Nat) (Option.some Jvm.ClassFile.FieldType.int)) ∈ lw_all := lw_g (lw_at lw_m8 25 rfl) rfl
theorem q2060 : (Jvm.Cond.stringRef "ScholarsPress$Style" (261 : Nat) "show") ∈ lw_tbl := lw_at lw_m8 26 rfl
theorem q2061 : (Jvm.Cond.stringRef "ScholarsPress$Style" (263 : Nat) "size") ∈ lw_tbl := lw_at lw_m8 27 rfl
theorem q2062 : (Jvm.Cond.stringRef "ScholarsPress$Style" (264 : Nat) "lead") ∈ lw_tbl := lw_at lw_m8 28 rfl
theorem q2063 : (Jvm.Cond.stringRef "ScholarsPress$Style" (266 : Nat) "indent") ∈ lw_tbl := lw_at lw_m8 29 rfl
theorem q2064 : (Jvm.Cond.stringRef "ScholarsPress$Style" (268 : Nat) "left") ∈ lw_tbl := lw_at lw_m8 30 rfl
theorem q2065 : (Jvm.Cond.stringRef "ScholarsPress$Style" (270 : Nat) "right") ∈ lw_tbl := lw_at lw_m8 31 rfl
theorem q2066 : (Jvm.Cond.stringRef "ScholarsPress$Style" (272 : Nat) "above") ∈ lw_tbl := lw_at lw_m8 32 rfl
theorem q2067 : (Jvm.Cond.stringRef "ScholarsPress$Style" (274 : Nat) "below") ∈ lw_tbl := lw_at lw_m8 33 rfl
theorem q2068 : (Jvm.Cond.stringRef "ScholarsPress$Style" (276 : Nat) "align") ∈ lw_tbl := lw_at lw_m8 34 rfl
theorem q2069 : (Jvm.Cond.stringRef "ScholarsPress$Style" (278 : Nat) "hyphens") ∈ lw_tbl := lw_at lw_m8 35 rfl
theorem q2070 : (Jvm.Cond.stringRef "ScholarsPress$Style" (280 : Nat) "tolerance") ∈ lw_tbl := lw_at lw_m8 36 rfl
theorem q2071 : (Jvm.Cond.stringRef "ScholarsPress$Style" (282 : Nat) "keep") ∈ lw_tbl := lw_at lw_m8 37 rfl
theorem q2072 : (Jvm.Cond.stringRef "ScholarsPress$Style" (284 : Nat) "count") ∈ lw_tbl := lw_at lw_m8 38 rfl
theorem q2073 : (Jvm.Cond.stringRef "ScholarsPress$Style" (286 : Nat) "step") ∈ lw_tbl := lw_at lw_m8 39 rfl
theorem q2074 : (Jvm.Cond.stringRef "ScholarsPress$Style" (287 : Nat) "reset") ∈ lw_tbl := lw_at lw_m8 40 rfl
theorem q2075 : (Jvm.Cond.stringRef "ScholarsPress$Style" (289 : Nat) "label") ∈ lw_tbl := lw_at lw_m8 41 rfl
theorem q2076 : (Jvm.Cond.stringRef "ScholarsPress$Style" (290 : Nat) "form") ∈ lw_tbl := lw_at lw_m8 42 rfl
theorem q2077 : (Jvm.Cond.stringRef "ScholarsPress$Style" (292 : Nat) "depth") ∈ lw_tbl := lw_at lw_m8 43 rfl
theorem q2078 : (Jvm.Cond.stringRef "ScholarsPress$Style" (294 : Nat) "head") ∈ lw_tbl := lw_at lw_m8 44 rfl
theorem q2079 : (Jvm.Cond.methodLink "ScholarsPress$Style" (236 : Nat) ({ cls := "ScholarsPress$Style", name := "size", desc := "(LScholarsPress$Signs;)V" } : Jvm.MethodName)) ∈ lw_all := lw_g (lw_at lw_m8 45 rfl) rfl
theorem q2080 : (Jvm.Cond.privateMethod ({ cls := "ScholarsPress$Style", name := "size", desc := "(LScholarsPress$Signs;)V" } : Jvm.MethodName)) ∈ lw_tbl := lw_at lw_m8 46 rfl
theorem q2081 : (Jvm.Cond.instanceMethod ({ cls := "ScholarsPress$Style", name := "size", desc := "(LScholarsPress$Signs;)V" } : Jvm.MethodName)) ∈ lw_all := lw_g (lw_at lw_m8 47 rfl) rfl
theorem q2082 : (Jvm.Cond.code ({ cls := "ScholarsPress$Style", name := "size", desc := "(LScholarsPress$Signs;)V" } : Jvm.MethodName) prog_16_method_14_code (4 : Nat) (Option.none : Option Jvm.ClassFile.FieldType)) ∈ lw_all := lw_g (lw_at lw_m8 48 rfl) rfl
theorem q2083 : (Jvm.Cond.classLink "ScholarsPress$Style" (252 : Nat) "ScholarsPress$Broken") ∈ lw_all := lw_g (lw_at lw_m8 49 rfl) rfl
theorem q2084 : (Jvm.Cond.methodLinkNest "ScholarsPress$Style" (254 : Nat) ({ cls := "ScholarsPress$Broken", name := "<init>", desc := "(I)V" } : Jvm.MethodName) "ScholarsPress") ∈ lw_tbl := lw_at lw_m8 50 rfl
theorem q2085 : (Jvm.Cond.constant "ScholarsPress$Style" (238 : Nat) (200000 : Int32)) ∈ lw_all := lw_g (lw_at lw_m8 51 rfl) rfl
theorem q2086 : (Jvm.Cond.constant "ScholarsPress$Style" (239 : Nat) (500000 : Int32)) ∈ lw_all := lw_g (lw_at lw_m8 52 rfl) rfl
theorem q2087 : (Jvm.Cond.methodLink "ScholarsPress$Style" (240 : Nat) ({ cls := "ScholarsPress$Style", name := "counter", desc := "(LScholarsPress$Signs;)V" } : Jvm.MethodName)) ∈ lw_all := lw_g (lw_at lw_m8 53 rfl) rfl
theorem q2088 : (Jvm.Cond.privateMethod ({ cls := "ScholarsPress$Style", name := "counter", desc := "(LScholarsPress$Signs;)V" } : Jvm.MethodName)) ∈ lw_tbl := lw_at lw_m8 54 rfl
theorem q2089 : (Jvm.Cond.instanceMethod ({ cls := "ScholarsPress$Style", name := "counter", desc := "(LScholarsPress$Signs;)V" } : Jvm.MethodName)) ∈ lw_all := lw_g (lw_at lw_m8 55 rfl) rfl
theorem q2090 : (Jvm.Cond.code ({ cls := "ScholarsPress$Style", name := "counter", desc := "(LScholarsPress$Signs;)V" } : Jvm.MethodName) prog_16_method_15_code (3 : Nat) (Option.none : Option Jvm.ClassFile.FieldType)) ∈ lw_all := lw_g (lw_at lw_m8 56 rfl) rfl
theorem q2091 : (Jvm.Cond.stringRef "ScholarsPress$Style" (255 : Nat) "none") ∈ lw_tbl := lw_at lw_m8 57 rfl
theorem q2092 : (Jvm.Cond.methodLinkNest "ScholarsPress$Style" (257 : Nat) ({ cls := "ScholarsPress$Names", name := "find", desc := "([BII)I" } : Jvm.MethodName) "ScholarsPress") ∈ lw_tbl := lw_at lw_m8 58 rfl
theorem q2093 : (Jvm.Cond.methodLink "ScholarsPress$Style" (243 : Nat) ({ cls := "ScholarsPress$Style", name := "label", desc := "(LScholarsPress$Signs;)V" } : Jvm.MethodName)) ∈ lw_all := lw_g (lw_at lw_m8 59 rfl) rfl
theorem q2094 : (Jvm.Cond.privateMethod ({ cls := "ScholarsPress$Style", name := "label", desc := "(LScholarsPress$Signs;)V" } : Jvm.MethodName)) ∈ lw_tbl := lw_at lw_m8 60 rfl
theorem q2095 : (Jvm.Cond.instanceMethod ({ cls := "ScholarsPress$Style", name := "label", desc := "(LScholarsPress$Signs;)V" } : Jvm.MethodName)) ∈ lw_all := lw_g (lw_at lw_m8 61 rfl) rfl
theorem q2096 : (Jvm.Cond.code ({ cls := "ScholarsPress$Style", name := "label", desc := "(LScholarsPress$Signs;)V" } : Jvm.MethodName) prog_16_method_16_code (2 : Nat) (Option.none : Option Jvm.ClassFile.FieldType)) ∈ lw_all := lw_g (lw_at lw_m8 62 rfl) rfl
theorem q2097 : (Jvm.Cond.methodLink "ScholarsPress$Style" (246 : Nat) ({ cls := "ScholarsPress$Style", name := "wordOf", desc := "(ILScholarsPress$Signs;)I" } : Jvm.MethodName)) ∈ lw_all := lw_g (lw_at lw_m8 63 rfl) rfl
theorem q2098 : (Jvm.Cond.static ({ cls := "ScholarsPress$Style", name := "wordOf", desc := "(ILScholarsPress$Signs;)I" } : Jvm.MethodName)) ∈ lw_all := lw_g (lw_at lw_m8 64 rfl) rfl
theorem q2099 : (Jvm.Cond.code ({ cls := "ScholarsPress$Style", name := "wordOf", desc := "(ILScholarsPress$Signs;)I" } : Jvm.MethodName) prog_16_method_18_code (2 : Nat) (Option.some Jvm.ClassFile.FieldType.int)) ∈ lw_all := lw_g (lw_at lw_m8 65 rfl) rfl
theorem q2100 : (Jvm.Cond.methodLink "ScholarsPress$Style" (296 : Nat) ({ cls := "ScholarsPress$Style", name := "showOf", desc := "(LScholarsPress$Signs;)I" } : Jvm.MethodName)) ∈ lw_all := lw_g (lw_at lw_m8 66 rfl) rfl
theorem q2101 : (Jvm.Cond.static ({ cls := "ScholarsPress$Style", name := "showOf", desc := "(LScholarsPress$Signs;)I" } : Jvm.MethodName)) ∈ lw_all := lw_g (lw_at lw_m8 67 rfl) rfl
theorem q2102 : (Jvm.Cond.code ({ cls := "ScholarsPress$Style", name := "showOf", desc := "(LScholarsPress$Signs;)I" } : Jvm.MethodName) prog_16_method_19_code (1 : Nat) (Option.some Jvm.ClassFile.FieldType.int)) ∈ lw_all := lw_g (lw_at lw_m8 68 rfl) rfl
theorem q2103 : (Jvm.Cond.stringRef "ScholarsPress$Style" (311 : Nat) "inline") ∈ lw_tbl := lw_at lw_m8 69 rfl
theorem q2104 : (Jvm.Cond.stringRef "ScholarsPress$Style" (313 : Nat) "block") ∈ lw_tbl := lw_at lw_m8 70 rfl
theorem q2105 : (Jvm.Cond.stringRef "ScholarsPress$Style" (315 : Nat) "note") ∈ lw_tbl := lw_at lw_m8 71 rfl
theorem q2106 : (Jvm.Cond.stringRef "ScholarsPress$Style" (317 : Nat) "float") ∈ lw_tbl := lw_at lw_m8 72 rfl
theorem q2107 : (Jvm.Cond.stringRef "ScholarsPress$Style" (319 : Nat) "table") ∈ lw_tbl := lw_at lw_m8 73 rfl
theorem q2108 : (Jvm.Cond.stringRef "ScholarsPress$Style" (321 : Nat) "row") ∈ lw_tbl := lw_at lw_m8 74 rfl
theorem q2109 : (Jvm.Cond.stringRef "ScholarsPress$Style" (323 : Nat) "cell") ∈ lw_tbl := lw_at lw_m8 75 rfl
theorem q2110 : (Jvm.Cond.stringRef "ScholarsPress$Style" (325 : Nat) "contents") ∈ lw_tbl := lw_at lw_m8 76 rfl
theorem q2111 : (Jvm.Cond.stringRef "ScholarsPress$Style" (327 : Nat) "index") ∈ lw_tbl := lw_at lw_m8 77 rfl
theorem q2112 : (Jvm.Cond.stringRef "ScholarsPress$Style" (329 : Nat) "ref") ∈ lw_tbl := lw_at lw_m8 78 rfl
theorem q2113 : (Jvm.Cond.stringRef "ScholarsPress$Style" (331 : Nat) "term") ∈ lw_tbl := lw_at lw_m8 79 rfl
theorem q2114 : (Jvm.Cond.stringRef "ScholarsPress$Style" (299 : Nat) "just") ∈ lw_tbl := lw_at lw_m8 80 rfl
theorem q2115 : (Jvm.Cond.stringRef "ScholarsPress$Style" (301 : Nat) "middle") ∈ lw_tbl := lw_at lw_m8 81 rfl
theorem q2116 : (Jvm.Cond.stringRef "ScholarsPress$Style" (303 : Nat) "arabic") ∈ lw_tbl := lw_at lw_m8 82 rfl
theorem q2117 : (Jvm.Cond.stringRef "ScholarsPress$Style" (305 : Nat) "roman") ∈ lw_tbl := lw_at lw_m8 83 rfl
theorem q2118 : (Jvm.Cond.stringRef "ScholarsPress$Style" (307 : Nat) "letter") ∈ lw_tbl := lw_at lw_m8 84 rfl
theorem q2119 : (Jvm.Cond.stringRef "ScholarsPress$Style" (309 : Nat) "yes") ∈ lw_tbl := lw_at lw_m8 85 rfl
theorem in_X3 : ∀ w ∈ wsX30, w ∈ lw_all := lw_in wsX30 [576, 578, 580, 582, 584, 586, 588, 590, 592, 594, 596, 598, 600, 602, 604, 606, 608, 610, 612, 614, 616, 618, 620, 622, 624, 626, 628, 630, 632] (by decide +kernel) (by decide +kernel)
/-! ScholarsPress$Names -/
def RX4 : String := "ScholarsPress$Names"
def TX4 : u_T := fun k => match k with
  | 0 => ("ScholarsPress$Names", "letters", "[B", true)
  | 1 => ("ScholarsPress$Names", "used", "I", false)
  | 2 => ("ScholarsPress$Names", "starts", "[I", true)
  | 3 => ("ScholarsPress$Names", "many", "I", false)
  | 4 => ("ScholarsPress$Names", "heads", "[I", true)
  | _ => ("ScholarsPress$Names", "chain", "[I", true)
def tyX4 : Nat → FieldType := fun k => match k with
  | 0 => .array .byte
  | 1 => .int
  | 2 => .array .int
  | 3 => .int
  | 4 => .array .int
  | _ => .array .int
abbrev wsX40 : List Cond := u_ws RX4 TX4 6
theorem nmX4 : ∀ a, a < 6 → ∀ b, b < 6 → a ≠ b → (TX4 a).2.1 ≠ (TX4 b).2.1 := by decide +kernel
theorem tyX4_ok : ∀ k, k < 6 → parseFieldDescriptor (TX4 k).2.2.1 = some (tyX4 k) := by decide +kernel
abbrev cX4_init : ByteArray := prog_9_method_1_code
def yX4_init : MethodName := ⟨RX4, "<init>", "(I)V"⟩
abbrev cX4_clear : ByteArray := prog_9_method_2_code
def yX4_clear : MethodName := ⟨RX4, "clear", "()V"⟩
abbrev cX4_add : ByteArray := prog_9_method_7_code
def yX4_add : MethodName := ⟨RX4, "add", "([BII)I"⟩
abbrev cX4_find : ByteArray := prog_9_method_6_code
def yX4_find : MethodName := ⟨RX4, "find", "([BII)I"⟩
abbrev cX4_slot : ByteArray := prog_9_method_3_code
def yX4_slot : MethodName := ⟨RX4, "slot", "([BII)I"⟩
abbrev cX4_is : ByteArray := prog_9_method_5_code
def yX4_is : MethodName := ⟨RX4, "is", "(I[BII)Z"⟩
abbrev cX4_length : ByteArray := prog_9_method_4_code
def yX4_length : MethodName := ⟨RX4, "length", "(I)I"⟩
abbrev cX4_of : ByteArray := prog_9_method_8_code
def yX4_of : MethodName := ⟨RX4, "of", "(LScholarsPress$Names;I)I"⟩
theorem q358 : (Jvm.Cond.initialized "ScholarsPress$Names") ∈ lw_all := lw_g (lw_at lw_m1 4 rfl) rfl
theorem q458 : (Jvm.Cond.instantiable "ScholarsPress$Names" (6 : Nat)) ∈ lw_all := lw_g (lw_at lw_m1 104 rfl) rfl
theorem q460 : (Jvm.Cond.instanceMethod ({ cls := "ScholarsPress$Names", name := "<init>", desc := "(I)V" } : Jvm.MethodName)) ∈ lw_all := lw_g (lw_at lw_m1 106 rfl) rfl
theorem q461 : (Jvm.Cond.code ({ cls := "ScholarsPress$Names", name := "<init>", desc := "(I)V" } : Jvm.MethodName) prog_9_method_1_code (2 : Nat) (Option.none : Option Jvm.ClassFile.FieldType)) ∈ lw_all := lw_g (lw_at lw_m1 107 rfl) rfl
theorem q462 : (Jvm.Cond.methodLink "ScholarsPress$Names" (3 : Nat) ({ cls := "java/lang/Object", name := "<init>", desc := "()V" } : Jvm.MethodName)) ∈ lw_all := lw_g (lw_at lw_m1 108 rfl) rfl
theorem q463 : (Jvm.Cond.methodLink "ScholarsPress$Names" (25 : Nat) ({ cls := "ScholarsPress$Names", name := "clear", desc := "()V" } : Jvm.MethodName)) ∈ lw_all := lw_g (lw_at lw_m1 109 rfl) rfl
theorem q464 : (Jvm.Cond.privateMethod ({ cls := "ScholarsPress$Names", name := "clear", desc := "()V" } : Jvm.MethodName)) ∈ lw_tbl := lw_at lw_m1 110 rfl
theorem q465 : (Jvm.Cond.instanceMethod ({ cls := "ScholarsPress$Names", name := "clear", desc := "()V" } : Jvm.MethodName)) ∈ lw_all := lw_g (lw_at lw_m1 111 rfl) rfl
theorem q466 : (Jvm.Cond.code ({ cls := "ScholarsPress$Names", name := "clear", desc := "()V" } : Jvm.MethodName) prog_9_method_2_code (2 : Nat) (Option.none : Option Jvm.ClassFile.FieldType)) ∈ lw_all := lw_g (lw_at lw_m1 112 rfl) rfl
theorem q467 : (Jvm.Cond.fieldLink "ScholarsPress$Names" (9 : Nat) "ScholarsPress$Names" "letters" "[B") ∈ lw_all := lw_g (lw_at lw_m1 113 rfl) rfl
theorem q469 : (Jvm.Cond.fieldLink "ScholarsPress$Names" (28 : Nat) "ScholarsPress$Names" "used" "I") ∈ lw_all := lw_g (lw_at lw_m1 115 rfl) rfl
theorem q470 : (Jvm.Cond.fieldLink "ScholarsPress$Names" (19 : Nat) "ScholarsPress$Names" "starts" "[I") ∈ lw_all := lw_g (lw_at lw_m1 116 rfl) rfl
theorem q472 : (Jvm.Cond.fieldLink "ScholarsPress$Names" (32 : Nat) "ScholarsPress$Names" "many" "I") ∈ lw_all := lw_g (lw_at lw_m1 118 rfl) rfl
theorem q477 : (Jvm.Cond.fieldLink "ScholarsPress$Names" (15 : Nat) "ScholarsPress$Names" "heads" "[I") ∈ lw_all := lw_g (lw_at lw_m1 123 rfl) rfl
theorem q478 : (Jvm.Cond.fieldLink "ScholarsPress$Names" (22 : Nat) "ScholarsPress$Names" "chain" "[I") ∈ lw_all := lw_g (lw_at lw_m1 124 rfl) rfl
theorem q479 : (Jvm.Cond.laysFinal "ScholarsPress$Names" "ScholarsPress$Names" "letters" "[B") ∈ lw_all := lw_g (lw_at lw_m1 125 rfl) rfl
theorem q480 : (Jvm.Cond.soleField "ScholarsPress$Names" "letters") ∈ lw_all := lw_g (lw_at lw_m1 126 rfl) rfl
theorem q481 : (Jvm.Cond.lays "ScholarsPress$Names" "ScholarsPress$Names" "used" "I") ∈ lw_all := lw_g (lw_at lw_m1 127 rfl) rfl
theorem q482 : (Jvm.Cond.soleField "ScholarsPress$Names" "used") ∈ lw_all := lw_g (lw_at lw_m1 128 rfl) rfl
theorem q483 : (Jvm.Cond.laysFinal "ScholarsPress$Names" "ScholarsPress$Names" "starts" "[I") ∈ lw_all := lw_g (lw_at lw_m1 129 rfl) rfl
theorem q484 : (Jvm.Cond.soleField "ScholarsPress$Names" "starts") ∈ lw_all := lw_g (lw_at lw_m1 130 rfl) rfl
theorem q485 : (Jvm.Cond.lays "ScholarsPress$Names" "ScholarsPress$Names" "many" "I") ∈ lw_all := lw_g (lw_at lw_m1 131 rfl) rfl
theorem q486 : (Jvm.Cond.soleField "ScholarsPress$Names" "many") ∈ lw_all := lw_g (lw_at lw_m1 132 rfl) rfl
theorem q487 : (Jvm.Cond.laysFinal "ScholarsPress$Names" "ScholarsPress$Names" "heads" "[I") ∈ lw_all := lw_g (lw_at lw_m1 133 rfl) rfl
theorem q488 : (Jvm.Cond.soleField "ScholarsPress$Names" "heads") ∈ lw_all := lw_g (lw_at lw_m1 134 rfl) rfl
theorem q489 : (Jvm.Cond.laysFinal "ScholarsPress$Names" "ScholarsPress$Names" "chain" "[I") ∈ lw_all := lw_g (lw_at lw_m1 135 rfl) rfl
theorem q490 : (Jvm.Cond.soleField "ScholarsPress$Names" "chain") ∈ lw_all := lw_g (lw_at lw_m1 136 rfl) rfl
theorem q491 : (Jvm.Cond.superclass "ScholarsPress$Names" "java/lang/Object") ∈ lw_all := lw_g (lw_at lw_m1 137 rfl) rfl
theorem q2005 : (Jvm.Cond.privateMethod ({ cls := "ScholarsPress$Names", name := "add", desc := "([BII)I" } : Jvm.MethodName)) ∈ lw_tbl := lw_at lw_m7 211 rfl
theorem q2006 : (Jvm.Cond.instanceMethod ({ cls := "ScholarsPress$Names", name := "add", desc := "([BII)I" } : Jvm.MethodName)) ∈ lw_all := lw_g (lw_at lw_m7 212 rfl) rfl
theorem q2007 : (Jvm.Cond.code ({ cls := "ScholarsPress$Names", name := "add", desc := "([BII)I" } : Jvm.MethodName) prog_9_method_7_code (7 : Nat) (Option.some Jvm.ClassFile.FieldType.int)) ∈ lw_all := lw_g (lw_at lw_m7 213 rfl) rfl
theorem q2008 : (Jvm.Cond.methodLink "ScholarsPress$Names" (47 : Nat) ({ cls := "ScholarsPress$Names", name := "find", desc := "([BII)I" } : Jvm.MethodName)) ∈ lw_all := lw_g (lw_at lw_m7 214 rfl) rfl
theorem q2009 : (Jvm.Cond.privateMethod ({ cls := "ScholarsPress$Names", name := "find", desc := "([BII)I" } : Jvm.MethodName)) ∈ lw_tbl := lw_at lw_m7 215 rfl
theorem q2010 : (Jvm.Cond.instanceMethod ({ cls := "ScholarsPress$Names", name := "find", desc := "([BII)I" } : Jvm.MethodName)) ∈ lw_all := lw_g (lw_at lw_m7 216 rfl) rfl
theorem q2011 : (Jvm.Cond.code ({ cls := "ScholarsPress$Names", name := "find", desc := "([BII)I" } : Jvm.MethodName) prog_9_method_6_code (5 : Nat) (Option.some Jvm.ClassFile.FieldType.int)) ∈ lw_all := lw_g (lw_at lw_m7 217 rfl) rfl
theorem q2012 : (Jvm.Cond.methodLink "ScholarsPress$Names" (39 : Nat) ({ cls := "ScholarsPress$Names", name := "slot", desc := "([BII)I" } : Jvm.MethodName)) ∈ lw_all := lw_g (lw_at lw_m7 218 rfl) rfl
theorem q2013 : (Jvm.Cond.static ({ cls := "ScholarsPress$Names", name := "slot", desc := "([BII)I" } : Jvm.MethodName)) ∈ lw_all := lw_g (lw_at lw_m7 219 rfl) rfl
theorem q2014 : (Jvm.Cond.code ({ cls := "ScholarsPress$Names", name := "slot", desc := "([BII)I" } : Jvm.MethodName) prog_9_method_3_code (5 : Nat) (Option.some Jvm.ClassFile.FieldType.int)) ∈ lw_all := lw_g (lw_at lw_m7 220 rfl) rfl
theorem q2015 : (Jvm.Cond.methodLink "ScholarsPress$Names" (43 : Nat) ({ cls := "ScholarsPress$Names", name := "is", desc := "(I[BII)Z" } : Jvm.MethodName)) ∈ lw_all := lw_g (lw_at lw_m7 221 rfl) rfl
theorem q2016 : (Jvm.Cond.privateMethod ({ cls := "ScholarsPress$Names", name := "is", desc := "(I[BII)Z" } : Jvm.MethodName)) ∈ lw_tbl := lw_at lw_m7 222 rfl
theorem q2017 : (Jvm.Cond.instanceMethod ({ cls := "ScholarsPress$Names", name := "is", desc := "(I[BII)Z" } : Jvm.MethodName)) ∈ lw_all := lw_g (lw_at lw_m7 223 rfl) rfl
theorem q2018 : (Jvm.Cond.code ({ cls := "ScholarsPress$Names", name := "is", desc := "(I[BII)Z" } : Jvm.MethodName) prog_9_method_5_code (6 : Nat) (Option.some Jvm.ClassFile.FieldType.boolean)) ∈ lw_all := lw_g (lw_at lw_m7 224 rfl) rfl
theorem q2019 : (Jvm.Cond.methodLink "ScholarsPress$Names" (35 : Nat) ({ cls := "ScholarsPress$Names", name := "length", desc := "(I)I" } : Jvm.MethodName)) ∈ lw_all := lw_g (lw_at lw_m7 225 rfl) rfl
theorem q2020 : (Jvm.Cond.privateMethod ({ cls := "ScholarsPress$Names", name := "length", desc := "(I)I" } : Jvm.MethodName)) ∈ lw_tbl := lw_at lw_m7 226 rfl
theorem q2021 : (Jvm.Cond.instanceMethod ({ cls := "ScholarsPress$Names", name := "length", desc := "(I)I" } : Jvm.MethodName)) ∈ lw_all := lw_g (lw_at lw_m7 227 rfl) rfl
theorem q2022 : (Jvm.Cond.code ({ cls := "ScholarsPress$Names", name := "length", desc := "(I)I" } : Jvm.MethodName) prog_9_method_4_code (2 : Nat) (Option.some Jvm.ClassFile.FieldType.int)) ∈ lw_all := lw_g (lw_at lw_m7 228 rfl) rfl
theorem q2294 : (Jvm.Cond.privateMethod ({ cls := "ScholarsPress$Names", name := "of", desc := "(LScholarsPress$Names;I)I" } : Jvm.MethodName)) ∈ lw_tbl := lw_at lw_m9 20 rfl
theorem q2295 : (Jvm.Cond.instanceMethod ({ cls := "ScholarsPress$Names", name := "of", desc := "(LScholarsPress$Names;I)I" } : Jvm.MethodName)) ∈ lw_all := lw_g (lw_at lw_m9 21 rfl) rfl
theorem q2296 : (Jvm.Cond.code ({ cls := "ScholarsPress$Names", name := "of", desc := "(LScholarsPress$Names;I)I" } : Jvm.MethodName) prog_9_method_8_code (3 : Nat) (Option.some Jvm.ClassFile.FieldType.int)) ∈ lw_all := lw_g (lw_at lw_m9 22 rfl) rfl
theorem in_X4 : ∀ w ∈ wsX40, w ∈ lw_all := lw_in wsX40 [479, 481, 483, 485, 487, 489] (by decide +kernel) (by decide +kernel)
/-! ScholarsPress$Bytes -/
def RX5 : String := "ScholarsPress$Bytes"
def TX5 : u_T := fun k => match k with
  | 0 => ("ScholarsPress$Bytes", "row", "[B", true)
  | _ => ("ScholarsPress$Bytes", "many", "I", false)
def tyX5 : Nat → FieldType := fun k => match k with
  | 0 => .array .byte
  | _ => .int
abbrev wsX50 : List Cond := u_ws RX5 TX5 2
theorem nmX5 : ∀ a, a < 2 → ∀ b, b < 2 → a ≠ b → (TX5 a).2.1 ≠ (TX5 b).2.1 := by decide +kernel
theorem tyX5_ok : ∀ k, k < 2 → parseFieldDescriptor (TX5 k).2.2.1 = some (tyX5 k) := by decide +kernel
abbrev cX5_init : ByteArray := prog_4_method_1_code
def yX5_init : MethodName := ⟨RX5, "<init>", "(I)V"⟩
abbrev cX5_addAll : ByteArray := prog_4_method_3_code
def yX5_addAll : MethodName := ⟨RX5, "addAll", "([BII)V"⟩
abbrev cX5_add : ByteArray := prog_4_method_2_code
def yX5_add : MethodName := ⟨RX5, "add", "(I)V"⟩
abbrev cX5_number : ByteArray := prog_4_method_4_code
def yX5_number : MethodName := ⟨RX5, "number", "(J)V"⟩
abbrev cX5_string : ByteArray := prog_4_method_5_code
def yX5_string : MethodName := ⟨RX5, "string", "(Ljava/lang/String;)V"⟩
theorem q359 : (Jvm.Cond.initialized "ScholarsPress$Bytes") ∈ lw_all := lw_g (lw_at lw_m1 5 rfl) rfl
theorem q494 : (Jvm.Cond.instantiable "ScholarsPress$Bytes" (2 : Nat)) ∈ lw_all := lw_g (lw_at lw_m1 140 rfl) rfl
theorem q496 : (Jvm.Cond.instanceMethod ({ cls := "ScholarsPress$Bytes", name := "<init>", desc := "(I)V" } : Jvm.MethodName)) ∈ lw_all := lw_g (lw_at lw_m1 142 rfl) rfl
theorem q497 : (Jvm.Cond.code ({ cls := "ScholarsPress$Bytes", name := "<init>", desc := "(I)V" } : Jvm.MethodName) prog_4_method_1_code (2 : Nat) (Option.none : Option Jvm.ClassFile.FieldType)) ∈ lw_all := lw_g (lw_at lw_m1 143 rfl) rfl
theorem q498 : (Jvm.Cond.methodLink "ScholarsPress$Bytes" (1 : Nat) ({ cls := "java/lang/Object", name := "<init>", desc := "()V" } : Jvm.MethodName)) ∈ lw_all := lw_g (lw_at lw_m1 144 rfl) rfl
theorem q499 : (Jvm.Cond.fieldLink "ScholarsPress$Bytes" (7 : Nat) "ScholarsPress$Bytes" "row" "[B") ∈ lw_all := lw_g (lw_at lw_m1 145 rfl) rfl
theorem q504 : (Jvm.Cond.fieldLink "ScholarsPress$Bytes" (13 : Nat) "ScholarsPress$Bytes" "many" "I") ∈ lw_all := lw_g (lw_at lw_m1 150 rfl) rfl
theorem q510 : (Jvm.Cond.laysFinal "ScholarsPress$Bytes" "ScholarsPress$Bytes" "row" "[B") ∈ lw_all := lw_g (lw_at lw_m1 156 rfl) rfl
theorem q511 : (Jvm.Cond.soleField "ScholarsPress$Bytes" "row") ∈ lw_all := lw_g (lw_at lw_m1 157 rfl) rfl
theorem q512 : (Jvm.Cond.lays "ScholarsPress$Bytes" "ScholarsPress$Bytes" "many" "I") ∈ lw_all := lw_g (lw_at lw_m1 158 rfl) rfl
theorem q513 : (Jvm.Cond.soleField "ScholarsPress$Bytes" "many") ∈ lw_all := lw_g (lw_at lw_m1 159 rfl) rfl
theorem q514 : (Jvm.Cond.superclass "ScholarsPress$Bytes" "java/lang/Object") ∈ lw_all := lw_g (lw_at lw_m1 160 rfl) rfl
theorem q2032 : (Jvm.Cond.privateMethod ({ cls := "ScholarsPress$Bytes", name := "addAll", desc := "([BII)V" } : Jvm.MethodName)) ∈ lw_tbl := lw_at lw_m7 238 rfl
theorem q2033 : (Jvm.Cond.instanceMethod ({ cls := "ScholarsPress$Bytes", name := "addAll", desc := "([BII)V" } : Jvm.MethodName)) ∈ lw_all := lw_g (lw_at lw_m7 239 rfl) rfl
theorem q2034 : (Jvm.Cond.code ({ cls := "ScholarsPress$Bytes", name := "addAll", desc := "([BII)V" } : Jvm.MethodName) prog_4_method_3_code (5 : Nat) (Option.none : Option Jvm.ClassFile.FieldType)) ∈ lw_all := lw_g (lw_at lw_m8 0 rfl) rfl
theorem q2035 : (Jvm.Cond.methodLink "ScholarsPress$Bytes" (23 : Nat) ({ cls := "ScholarsPress$Bytes", name := "add", desc := "(I)V" } : Jvm.MethodName)) ∈ lw_all := lw_g (lw_at lw_m8 1 rfl) rfl
theorem q2036 : (Jvm.Cond.privateMethod ({ cls := "ScholarsPress$Bytes", name := "add", desc := "(I)V" } : Jvm.MethodName)) ∈ lw_tbl := lw_at lw_m8 2 rfl
theorem q2037 : (Jvm.Cond.instanceMethod ({ cls := "ScholarsPress$Bytes", name := "add", desc := "(I)V" } : Jvm.MethodName)) ∈ lw_all := lw_g (lw_at lw_m8 3 rfl) rfl
theorem q2038 : (Jvm.Cond.code ({ cls := "ScholarsPress$Bytes", name := "add", desc := "(I)V" } : Jvm.MethodName) prog_4_method_2_code (2 : Nat) (Option.none : Option Jvm.ClassFile.FieldType)) ∈ lw_all := lw_g (lw_at lw_m8 4 rfl) rfl
theorem q2039 : (Jvm.Cond.methodLinkNest "ScholarsPress$Bytes" (17 : Nat) ({ cls := "ScholarsPress", name := "room", desc := "(Z)V" } : Jvm.MethodName) "ScholarsPress") ∈ lw_tbl := lw_at lw_m8 5 rfl
theorem q2439 : (Jvm.Cond.privateMethod ({ cls := "ScholarsPress$Bytes", name := "number", desc := "(J)V" } : Jvm.MethodName)) ∈ lw_tbl := lw_at lw_m9 165 rfl
theorem q2440 : (Jvm.Cond.instanceMethod ({ cls := "ScholarsPress$Bytes", name := "number", desc := "(J)V" } : Jvm.MethodName)) ∈ lw_all := lw_g (lw_at lw_m9 166 rfl) rfl
theorem q2441 : (Jvm.Cond.code ({ cls := "ScholarsPress$Bytes", name := "number", desc := "(J)V" } : Jvm.MethodName) prog_4_method_4_code (3 : Nat) (Option.none : Option Jvm.ClassFile.FieldType)) ∈ lw_all := lw_g (lw_at lw_m9 167 rfl) rfl
theorem q2442 : (Jvm.Cond.constantLong "ScholarsPress$Bytes" (27 : Nat) (9 : Int64)) ∈ lw_all := lw_g (lw_at lw_m9 168 rfl) rfl
theorem q2443 : (Jvm.Cond.constantLong "ScholarsPress$Bytes" (29 : Nat) (10 : Int64)) ∈ lw_all := lw_g (lw_at lw_m9 169 rfl) rfl
theorem q2444 : (Jvm.Cond.methodLink "ScholarsPress$Bytes" (31 : Nat) ({ cls := "ScholarsPress$Bytes", name := "number", desc := "(J)V" } : Jvm.MethodName)) ∈ lw_all := lw_g (lw_at lw_m9 170 rfl) rfl
theorem q2445 : (Jvm.Cond.constantLong "ScholarsPress$Bytes" (35 : Nat) (48 : Int64)) ∈ lw_all := lw_g (lw_at lw_m9 171 rfl) rfl
theorem q2724 : (Jvm.Cond.privateMethod ({ cls := "ScholarsPress$Bytes", name := "string", desc := "(Ljava/lang/String;)V" } : Jvm.MethodName)) ∈ lw_tbl := lw_at lw_m10 210 rfl
theorem q2725 : (Jvm.Cond.instanceMethod ({ cls := "ScholarsPress$Bytes", name := "string", desc := "(Ljava/lang/String;)V" } : Jvm.MethodName)) ∈ lw_all := lw_g (lw_at lw_m10 211 rfl) rfl
theorem q2726 : (Jvm.Cond.code ({ cls := "ScholarsPress$Bytes", name := "string", desc := "(Ljava/lang/String;)V" } : Jvm.MethodName) prog_4_method_5_code (3 : Nat) (Option.none : Option Jvm.ClassFile.FieldType)) ∈ lw_all := lw_g (lw_at lw_m10 212 rfl) rfl
theorem q2727 : (Jvm.Cond.methodLink "ScholarsPress$Bytes" (37 : Nat) ({ cls := "java/lang/String", name := "length", desc := "()I" } : Jvm.MethodName)) ∈ lw_all := lw_g (lw_at lw_m10 213 rfl) rfl
theorem q2728 : (Jvm.Cond.methodLink "ScholarsPress$Bytes" (43 : Nat) ({ cls := "java/lang/String", name := "charAt", desc := "(I)C" } : Jvm.MethodName)) ∈ lw_all := lw_g (lw_at lw_m10 214 rfl) rfl
theorem in_X5 : ∀ w ∈ wsX50, w ∈ lw_all := lw_in wsX50 [510, 512] (by decide +kernel) (by decide +kernel)
/-! ScholarsPress$Source -/
def RX6 : String := "ScholarsPress$Source"
def TX6 : u_T := fun k => match k with
  | 0 => ("ScholarsPress$Source", "text", "[B", true)
  | 1 => ("ScholarsPress$Source", "length", "I", false)
  | 2 => ("ScholarsPress$Source", "at", "I", false)
  | 3 => ("ScholarsPress$Source", "names", "LScholarsPress$Names;", true)
  | 4 => ("ScholarsPress$Source", "elements", "I", false)
  | 5 => ("ScholarsPress$Source", "kind", "[I", true)
  | 6 => ("ScholarsPress$Source", "parent", "[I", true)
  | 7 => ("ScholarsPress$Source", "from", "[I", true)
  | 8 => ("ScholarsPress$Source", "to", "[I", true)
  | 9 => ("ScholarsPress$Source", "number", "[I", true)
  | 10 => ("ScholarsPress$Source", "before", "[I", true)
  | 11 => ("ScholarsPress$Source", "inside", "[I", true)
  | 12 => ("ScholarsPress$Source", "lastInside", "[I", true)
  | 13 => ("ScholarsPress$Source", "filled", "[Z", true)
  | 14 => ("ScholarsPress$Source", "fieldStart", "[I", true)
  | 15 => ("ScholarsPress$Source", "fieldName", "[I", true)
  | 16 => ("ScholarsPress$Source", "fieldFrom", "[I", true)
  | 17 => ("ScholarsPress$Source", "fieldSize", "[I", true)
  | 18 => ("ScholarsPress$Source", "fields", "I", false)
  | 19 => ("ScholarsPress$Source", "outer", "I", false)
  | 20 => ("ScholarsPress$Source", "lastOuter", "I", false)
  | 21 => ("ScholarsPress$Source", "events", "[I", true)
  | 22 => ("ScholarsPress$Source", "starts", "[I", true)
  | 23 => ("ScholarsPress$Source", "sizes", "[I", true)
  | 24 => ("ScholarsPress$Source", "many", "I", false)
  | 25 => ("ScholarsPress$Source", "entityNames", "LScholarsPress$Names;", true)
  | 26 => ("ScholarsPress$Source", "entityFrom", "[I", true)
  | 27 => ("ScholarsPress$Source", "entitySize", "[I", true)
  | 28 => ("ScholarsPress$Source", "open", "[I", true)
  | _ => ("ScholarsPress$Source", "deep", "I", false)
def tyX6 : Nat → FieldType := fun k => match k with
  | 0 => .array .byte
  | 1 => .int
  | 2 => .int
  | 3 => .object "ScholarsPress$Names"
  | 4 => .int
  | 5 => .array .int
  | 6 => .array .int
  | 7 => .array .int
  | 8 => .array .int
  | 9 => .array .int
  | 10 => .array .int
  | 11 => .array .int
  | 12 => .array .int
  | 13 => .array .boolean
  | 14 => .array .int
  | 15 => .array .int
  | 16 => .array .int
  | 17 => .array .int
  | 18 => .int
  | 19 => .int
  | 20 => .int
  | 21 => .array .int
  | 22 => .array .int
  | 23 => .array .int
  | 24 => .int
  | 25 => .object "ScholarsPress$Names"
  | 26 => .array .int
  | 27 => .array .int
  | 28 => .array .int
  | _ => .int
abbrev wsX60 : List Cond := u_ws RX6 TX6 30
theorem nmX6 : ∀ a, a < 30 → ∀ b, b < 30 → a ≠ b → (TX6 a).2.1 ≠ (TX6 b).2.1 := by decide +kernel
theorem tyX6_ok : ∀ k, k < 30 → parseFieldDescriptor (TX6 k).2.2.1 = some (tyX6 k) := by decide +kernel
abbrev cX6_init : ByteArray := prog_15_method_1_code
def yX6_init : MethodName := ⟨RX6, "<init>", "()V"⟩
abbrev cX6_read : ByteArray := prog_15_method_2_code
def yX6_read : MethodName := ⟨RX6, "read", "(I)V"⟩
abbrev cX6_piece : ByteArray := prog_15_method_9_code
def yX6_piece : MethodName := ⟨RX6, "piece", "()V"⟩
abbrev cX6_byteAt : ByteArray := prog_15_method_4_code
def yX6_byteAt : MethodName := ⟨RX6, "byteAt", "(I)I"⟩
abbrev cX6_tag : ByteArray := prog_15_method_15_code
def yX6_tag : MethodName := ⟨RX6, "tag", "()V"⟩
abbrev cX6_comment : ByteArray := prog_15_method_16_code
def yX6_comment : MethodName := ⟨RX6, "comment", "()V"⟩
abbrev cX6_broken : ByteArray := prog_15_method_5_code
def yX6_broken : MethodName := ⟨RX6, "broken", "()LScholarsPress$Broken;"⟩
abbrev cX6_define : ByteArray := prog_15_method_17_code
def yX6_define : MethodName := ⟨RX6, "define", "()V"⟩
abbrev cX6_nameEnd : ByteArray := prog_15_method_11_code
def yX6_nameEnd : MethodName := ⟨RX6, "nameEnd", "()I"⟩
abbrev cX6_isWord : ByteArray := prog_15_method_12_code
def yX6_isWord : MethodName := ⟨RX6, "isWord", "(IILjava/lang/String;)Z"⟩
abbrev cX6_blanks : ByteArray := prog_15_method_14_code
def yX6_blanks : MethodName := ⟨RX6, "blanks", "()V"⟩
abbrev cX6_string : ByteArray := prog_15_method_18_code
def yX6_string : MethodName := ⟨RX6, "string", "()I"⟩
abbrev cX6_end : ByteArray := prog_15_method_19_code
def yX6_end : MethodName := ⟨RX6, "end", "()V"⟩
abbrev cX6_top : ByteArray := prog_15_method_6_code
def yX6_top : MethodName := ⟨RX6, "top", "()I"⟩
abbrev cX6_close : ByteArray := prog_15_method_20_code
def yX6_close : MethodName := ⟨RX6, "close", "(I)V"⟩
abbrev cX6_event : ByteArray := prog_15_method_7_code
def yX6_event : MethodName := ⟨RX6, "event", "(III)V"⟩
abbrev cX6_begin : ByteArray := prog_15_method_21_code
def yX6_begin : MethodName := ⟨RX6, "begin", "(I)V"⟩
abbrev cX6_fields : ByteArray := prog_15_method_22_code
def yX6_fields : MethodName := ⟨RX6, "fields", "(I)V"⟩
abbrev cX6_field : ByteArray := prog_15_method_23_code
def yX6_field : MethodName := ⟨RX6, "field", "(II)I"⟩
abbrev cX6_entity : ByteArray := prog_15_method_13_code
def yX6_entity : MethodName := ⟨RX6, "entity", "()V"⟩
abbrev cX6_stand : ByteArray := prog_15_method_8_code
def yX6_stand : MethodName := ⟨RX6, "stand", "(II)V"⟩
abbrev cX6_isPlace : ByteArray := prog_15_method_10_code
def yX6_isPlace : MethodName := ⟨RX6, "isPlace", "(I)Z"⟩
abbrev cX6_isField : ByteArray := prog_15_method_26_code
def yX6_isField : MethodName := ⟨RX6, "isField", "(I[BII)Z"⟩
abbrev cX6_fieldOf : ByteArray := prog_15_method_24_code
def yX6_fieldOf : MethodName := ⟨RX6, "fieldOf", "(ILjava/lang/String;)I"⟩
abbrev cX6_isName : ByteArray := prog_15_method_25_code
def yX6_isName : MethodName := ⟨RX6, "isName", "(ILjava/lang/String;)Z"⟩
abbrev cX6_byteOf : ByteArray := prog_15_method_3_code
def yX6_byteOf : MethodName := ⟨RX6, "byteOf", "(II)I"⟩
abbrev cX6_byId : ByteArray := prog_15_method_28_code
def yX6_byId : MethodName := ⟨RX6, "byId", "([BII)I"⟩
abbrev cX6_isField_2 : ByteArray := prog_15_method_27_code
def yX6_isField_2 : MethodName := ⟨RX6, "isField", "(ILjava/lang/String;)Z"⟩
theorem q360 : (Jvm.Cond.initialized "ScholarsPress$Source") ∈ lw_all := lw_g (lw_at lw_m1 6 rfl) rfl
theorem q468 : (Jvm.Cond.fieldLinkNest "ScholarsPress$Source" (222 : Nat) "ScholarsPress$Names" "letters" "[B" "ScholarsPress") ∈ lw_tbl := lw_at lw_m1 114 rfl
theorem q471 : (Jvm.Cond.fieldLinkNest "ScholarsPress$Source" (225 : Nat) "ScholarsPress$Names" "starts" "[I" "ScholarsPress") ∈ lw_tbl := lw_at lw_m1 117 rfl
theorem q475 : (Jvm.Cond.fieldLinkNest "ScholarsPress$Source" (197 : Nat) "ScholarsPress$Names" "many" "I" "ScholarsPress") ∈ lw_tbl := lw_at lw_m1 121 rfl
theorem q638 : (Jvm.Cond.instantiable "ScholarsPress$Source" (30 : Nat)) ∈ lw_all := lw_g (lw_at lw_m2 44 rfl) rfl
theorem q640 : (Jvm.Cond.instanceMethod ({ cls := "ScholarsPress$Source", name := "<init>", desc := "()V" } : Jvm.MethodName)) ∈ lw_all := lw_g (lw_at lw_m2 46 rfl) rfl
theorem q641 : (Jvm.Cond.code ({ cls := "ScholarsPress$Source", name := "<init>", desc := "()V" } : Jvm.MethodName) prog_15_method_1_code (1 : Nat) (Option.none : Option Jvm.ClassFile.FieldType)) ∈ lw_all := lw_g (lw_at lw_m2 47 rfl) rfl
theorem q642 : (Jvm.Cond.methodLink "ScholarsPress$Source" (3 : Nat) ({ cls := "java/lang/Object", name := "<init>", desc := "()V" } : Jvm.MethodName)) ∈ lw_all := lw_g (lw_at lw_m2 48 rfl) rfl
theorem q643 : (Jvm.Cond.classLink "ScholarsPress$Source" (15 : Nat) "ScholarsPress$Names") ∈ lw_all := lw_g (lw_at lw_m2 49 rfl) rfl
theorem q644 : (Jvm.Cond.methodLinkNest "ScholarsPress$Source" (17 : Nat) ({ cls := "ScholarsPress$Names", name := "<init>", desc := "(I)V" } : Jvm.MethodName) "ScholarsPress") ∈ lw_tbl := lw_at lw_m2 50 rfl
theorem q645 : (Jvm.Cond.fieldLink "ScholarsPress$Source" (9 : Nat) "ScholarsPress$Source" "text" "[B") ∈ lw_all := lw_g (lw_at lw_m2 51 rfl) rfl
theorem q649 : (Jvm.Cond.fieldLink "ScholarsPress$Source" (86 : Nat) "ScholarsPress$Source" "length" "I") ∈ lw_all := lw_g (lw_at lw_m2 55 rfl) rfl
theorem q651 : (Jvm.Cond.fieldLink "ScholarsPress$Source" (90 : Nat) "ScholarsPress$Source" "at" "I") ∈ lw_all := lw_g (lw_at lw_m2 57 rfl) rfl
theorem q652 : (Jvm.Cond.fieldLink "ScholarsPress$Source" (20 : Nat) "ScholarsPress$Source" "names" "LScholarsPress$Names;") ∈ lw_all := lw_g (lw_at lw_m2 58 rfl) rfl
theorem q655 : (Jvm.Cond.fieldLink "ScholarsPress$Source" (96 : Nat) "ScholarsPress$Source" "elements" "I") ∈ lw_all := lw_g (lw_at lw_m2 61 rfl) rfl
theorem q657 : (Jvm.Cond.fieldLink "ScholarsPress$Source" (24 : Nat) "ScholarsPress$Source" "kind" "[I") ∈ lw_all := lw_g (lw_at lw_m2 63 rfl) rfl
theorem q659 : (Jvm.Cond.fieldLink "ScholarsPress$Source" (28 : Nat) "ScholarsPress$Source" "parent" "[I") ∈ lw_all := lw_g (lw_at lw_m2 65 rfl) rfl
theorem q663 : (Jvm.Cond.fieldLink "ScholarsPress$Source" (31 : Nat) "ScholarsPress$Source" "from" "[I") ∈ lw_all := lw_g (lw_at lw_m2 69 rfl) rfl
theorem q665 : (Jvm.Cond.fieldLink "ScholarsPress$Source" (34 : Nat) "ScholarsPress$Source" "to" "[I") ∈ lw_all := lw_g (lw_at lw_m2 71 rfl) rfl
theorem q667 : (Jvm.Cond.fieldLink "ScholarsPress$Source" (37 : Nat) "ScholarsPress$Source" "number" "[I") ∈ lw_all := lw_g (lw_at lw_m2 73 rfl) rfl
theorem q669 : (Jvm.Cond.fieldLink "ScholarsPress$Source" (40 : Nat) "ScholarsPress$Source" "before" "[I") ∈ lw_all := lw_g (lw_at lw_m2 75 rfl) rfl
theorem q671 : (Jvm.Cond.fieldLink "ScholarsPress$Source" (43 : Nat) "ScholarsPress$Source" "inside" "[I") ∈ lw_all := lw_g (lw_at lw_m2 77 rfl) rfl
theorem q673 : (Jvm.Cond.fieldLink "ScholarsPress$Source" (46 : Nat) "ScholarsPress$Source" "lastInside" "[I") ∈ lw_all := lw_g (lw_at lw_m2 79 rfl) rfl
theorem q674 : (Jvm.Cond.fieldLink "ScholarsPress$Source" (49 : Nat) "ScholarsPress$Source" "filled" "[Z") ∈ lw_all := lw_g (lw_at lw_m2 80 rfl) rfl
theorem q676 : (Jvm.Cond.fieldLink "ScholarsPress$Source" (53 : Nat) "ScholarsPress$Source" "fieldStart" "[I") ∈ lw_all := lw_g (lw_at lw_m2 82 rfl) rfl
theorem q678 : (Jvm.Cond.fieldLink "ScholarsPress$Source" (56 : Nat) "ScholarsPress$Source" "fieldName" "[I") ∈ lw_all := lw_g (lw_at lw_m2 84 rfl) rfl
theorem q679 : (Jvm.Cond.fieldLink "ScholarsPress$Source" (59 : Nat) "ScholarsPress$Source" "fieldFrom" "[I") ∈ lw_all := lw_g (lw_at lw_m2 85 rfl) rfl
theorem q682 : (Jvm.Cond.fieldLink "ScholarsPress$Source" (62 : Nat) "ScholarsPress$Source" "fieldSize" "[I") ∈ lw_all := lw_g (lw_at lw_m2 88 rfl) rfl
theorem q685 : (Jvm.Cond.fieldLink "ScholarsPress$Source" (99 : Nat) "ScholarsPress$Source" "fields" "I") ∈ lw_all := lw_g (lw_at lw_m2 91 rfl) rfl
theorem q687 : (Jvm.Cond.fieldLink "ScholarsPress$Source" (102 : Nat) "ScholarsPress$Source" "outer" "I") ∈ lw_all := lw_g (lw_at lw_m2 93 rfl) rfl
theorem q689 : (Jvm.Cond.fieldLink "ScholarsPress$Source" (105 : Nat) "ScholarsPress$Source" "lastOuter" "I") ∈ lw_all := lw_g (lw_at lw_m2 95 rfl) rfl
theorem q690 : (Jvm.Cond.fieldLink "ScholarsPress$Source" (65 : Nat) "ScholarsPress$Source" "events" "[I") ∈ lw_all := lw_g (lw_at lw_m2 96 rfl) rfl
theorem q693 : (Jvm.Cond.fieldLink "ScholarsPress$Source" (68 : Nat) "ScholarsPress$Source" "starts" "[I") ∈ lw_all := lw_g (lw_at lw_m2 99 rfl) rfl
theorem q696 : (Jvm.Cond.fieldLink "ScholarsPress$Source" (71 : Nat) "ScholarsPress$Source" "sizes" "[I") ∈ lw_all := lw_g (lw_at lw_m2 102 rfl) rfl
theorem q699 : (Jvm.Cond.fieldLink "ScholarsPress$Source" (108 : Nat) "ScholarsPress$Source" "many" "I") ∈ lw_all := lw_g (lw_at lw_m2 105 rfl) rfl
theorem q702 : (Jvm.Cond.fieldLink "ScholarsPress$Source" (74 : Nat) "ScholarsPress$Source" "entityNames" "LScholarsPress$Names;") ∈ lw_all := lw_g (lw_at lw_m2 108 rfl) rfl
theorem q704 : (Jvm.Cond.fieldLink "ScholarsPress$Source" (77 : Nat) "ScholarsPress$Source" "entityFrom" "[I") ∈ lw_all := lw_g (lw_at lw_m2 110 rfl) rfl
theorem q705 : (Jvm.Cond.fieldLink "ScholarsPress$Source" (80 : Nat) "ScholarsPress$Source" "entitySize" "[I") ∈ lw_all := lw_g (lw_at lw_m2 111 rfl) rfl
theorem q706 : (Jvm.Cond.fieldLink "ScholarsPress$Source" (83 : Nat) "ScholarsPress$Source" "open" "[I") ∈ lw_all := lw_g (lw_at lw_m2 112 rfl) rfl
theorem q707 : (Jvm.Cond.fieldLink "ScholarsPress$Source" (111 : Nat) "ScholarsPress$Source" "deep" "I") ∈ lw_all := lw_g (lw_at lw_m2 113 rfl) rfl
theorem q708 : (Jvm.Cond.laysFinal "ScholarsPress$Source" "ScholarsPress$Source" "text" "[B") ∈ lw_all := lw_g (lw_at lw_m2 114 rfl) rfl
theorem q709 : (Jvm.Cond.soleField "ScholarsPress$Source" "text") ∈ lw_all := lw_g (lw_at lw_m2 115 rfl) rfl
theorem q710 : (Jvm.Cond.lays "ScholarsPress$Source" "ScholarsPress$Source" "length" "I") ∈ lw_all := lw_g (lw_at lw_m2 116 rfl) rfl
theorem q711 : (Jvm.Cond.soleField "ScholarsPress$Source" "length") ∈ lw_all := lw_g (lw_at lw_m2 117 rfl) rfl
theorem q712 : (Jvm.Cond.lays "ScholarsPress$Source" "ScholarsPress$Source" "at" "I") ∈ lw_all := lw_g (lw_at lw_m2 118 rfl) rfl
theorem q713 : (Jvm.Cond.soleField "ScholarsPress$Source" "at") ∈ lw_all := lw_g (lw_at lw_m2 119 rfl) rfl
theorem q714 : (Jvm.Cond.laysFinal "ScholarsPress$Source" "ScholarsPress$Source" "names" "LScholarsPress$Names;") ∈ lw_all := lw_g (lw_at lw_m2 120 rfl) rfl
theorem q715 : (Jvm.Cond.soleField "ScholarsPress$Source" "names") ∈ lw_all := lw_g (lw_at lw_m2 121 rfl) rfl
theorem q716 : (Jvm.Cond.lays "ScholarsPress$Source" "ScholarsPress$Source" "elements" "I") ∈ lw_all := lw_g (lw_at lw_m2 122 rfl) rfl
theorem q717 : (Jvm.Cond.soleField "ScholarsPress$Source" "elements") ∈ lw_all := lw_g (lw_at lw_m2 123 rfl) rfl
theorem q718 : (Jvm.Cond.laysFinal "ScholarsPress$Source" "ScholarsPress$Source" "kind" "[I") ∈ lw_all := lw_g (lw_at lw_m2 124 rfl) rfl
theorem q719 : (Jvm.Cond.soleField "ScholarsPress$Source" "kind") ∈ lw_all := lw_g (lw_at lw_m2 125 rfl) rfl
theorem q720 : (Jvm.Cond.laysFinal "ScholarsPress$Source" "ScholarsPress$Source" "parent" "[I") ∈ lw_all := lw_g (lw_at lw_m2 126 rfl) rfl
theorem q721 : (Jvm.Cond.soleField "ScholarsPress$Source" "parent") ∈ lw_all := lw_g (lw_at lw_m2 127 rfl) rfl
theorem q722 : (Jvm.Cond.laysFinal "ScholarsPress$Source" "ScholarsPress$Source" "from" "[I") ∈ lw_all := lw_g (lw_at lw_m2 128 rfl) rfl
theorem q723 : (Jvm.Cond.soleField "ScholarsPress$Source" "from") ∈ lw_all := lw_g (lw_at lw_m2 129 rfl) rfl
theorem q724 : (Jvm.Cond.laysFinal "ScholarsPress$Source" "ScholarsPress$Source" "to" "[I") ∈ lw_all := lw_g (lw_at lw_m2 130 rfl) rfl
theorem q725 : (Jvm.Cond.soleField "ScholarsPress$Source" "to") ∈ lw_all := lw_g (lw_at lw_m2 131 rfl) rfl
theorem q726 : (Jvm.Cond.laysFinal "ScholarsPress$Source" "ScholarsPress$Source" "number" "[I") ∈ lw_all := lw_g (lw_at lw_m2 132 rfl) rfl
theorem q727 : (Jvm.Cond.soleField "ScholarsPress$Source" "number") ∈ lw_all := lw_g (lw_at lw_m2 133 rfl) rfl
theorem q728 : (Jvm.Cond.laysFinal "ScholarsPress$Source" "ScholarsPress$Source" "before" "[I") ∈ lw_all := lw_g (lw_at lw_m2 134 rfl) rfl
theorem q729 : (Jvm.Cond.soleField "ScholarsPress$Source" "before") ∈ lw_all := lw_g (lw_at lw_m2 135 rfl) rfl
theorem q730 : (Jvm.Cond.laysFinal "ScholarsPress$Source" "ScholarsPress$Source" "inside" "[I") ∈ lw_all := lw_g (lw_at lw_m2 136 rfl) rfl
theorem q731 : (Jvm.Cond.soleField "ScholarsPress$Source" "inside") ∈ lw_all := lw_g (lw_at lw_m2 137 rfl) rfl
theorem q732 : (Jvm.Cond.laysFinal "ScholarsPress$Source" "ScholarsPress$Source" "lastInside" "[I") ∈ lw_all := lw_g (lw_at lw_m2 138 rfl) rfl
theorem q733 : (Jvm.Cond.soleField "ScholarsPress$Source" "lastInside") ∈ lw_all := lw_g (lw_at lw_m2 139 rfl) rfl
theorem q734 : (Jvm.Cond.laysFinal "ScholarsPress$Source" "ScholarsPress$Source" "filled" "[Z") ∈ lw_all := lw_g (lw_at lw_m2 140 rfl) rfl
theorem q735 : (Jvm.Cond.soleField "ScholarsPress$Source" "filled") ∈ lw_all := lw_g (lw_at lw_m2 141 rfl) rfl
theorem q736 : (Jvm.Cond.laysFinal "ScholarsPress$Source" "ScholarsPress$Source" "fieldStart" "[I") ∈ lw_all := lw_g (lw_at lw_m2 142 rfl) rfl
theorem q737 : (Jvm.Cond.soleField "ScholarsPress$Source" "fieldStart") ∈ lw_all := lw_g (lw_at lw_m2 143 rfl) rfl
theorem q738 : (Jvm.Cond.laysFinal "ScholarsPress$Source" "ScholarsPress$Source" "fieldName" "[I") ∈ lw_all := lw_g (lw_at lw_m2 144 rfl) rfl
theorem q739 : (Jvm.Cond.soleField "ScholarsPress$Source" "fieldName") ∈ lw_all := lw_g (lw_at lw_m2 145 rfl) rfl
theorem q740 : (Jvm.Cond.laysFinal "ScholarsPress$Source" "ScholarsPress$Source" "fieldFrom" "[I") ∈ lw_all := lw_g (lw_at lw_m2 146 rfl) rfl
theorem q741 : (Jvm.Cond.soleField "ScholarsPress$Source" "fieldFrom") ∈ lw_all := lw_g (lw_at lw_m2 147 rfl) rfl
theorem q742 : (Jvm.Cond.laysFinal "ScholarsPress$Source" "ScholarsPress$Source" "fieldSize" "[I") ∈ lw_all := lw_g (lw_at lw_m2 148 rfl) rfl
theorem q743 : (Jvm.Cond.soleField "ScholarsPress$Source" "fieldSize") ∈ lw_all := lw_g (lw_at lw_m2 149 rfl) rfl
theorem q744 : (Jvm.Cond.lays "ScholarsPress$Source" "ScholarsPress$Source" "fields" "I") ∈ lw_all := lw_g (lw_at lw_m2 150 rfl) rfl
theorem q745 : (Jvm.Cond.soleField "ScholarsPress$Source" "fields") ∈ lw_all := lw_g (lw_at lw_m2 151 rfl) rfl
theorem q746 : (Jvm.Cond.lays "ScholarsPress$Source" "ScholarsPress$Source" "outer" "I") ∈ lw_all := lw_g (lw_at lw_m2 152 rfl) rfl
theorem q747 : (Jvm.Cond.soleField "ScholarsPress$Source" "outer") ∈ lw_all := lw_g (lw_at lw_m2 153 rfl) rfl
theorem q748 : (Jvm.Cond.lays "ScholarsPress$Source" "ScholarsPress$Source" "lastOuter" "I") ∈ lw_all := lw_g (lw_at lw_m2 154 rfl) rfl
theorem q749 : (Jvm.Cond.soleField "ScholarsPress$Source" "lastOuter") ∈ lw_all := lw_g (lw_at lw_m2 155 rfl) rfl
theorem q750 : (Jvm.Cond.laysFinal "ScholarsPress$Source" "ScholarsPress$Source" "events" "[I") ∈ lw_all := lw_g (lw_at lw_m2 156 rfl) rfl
theorem q751 : (Jvm.Cond.soleField "ScholarsPress$Source" "events") ∈ lw_all := lw_g (lw_at lw_m2 157 rfl) rfl
theorem q752 : (Jvm.Cond.laysFinal "ScholarsPress$Source" "ScholarsPress$Source" "starts" "[I") ∈ lw_all := lw_g (lw_at lw_m2 158 rfl) rfl
theorem q753 : (Jvm.Cond.soleField "ScholarsPress$Source" "starts") ∈ lw_all := lw_g (lw_at lw_m2 159 rfl) rfl
theorem q754 : (Jvm.Cond.laysFinal "ScholarsPress$Source" "ScholarsPress$Source" "sizes" "[I") ∈ lw_all := lw_g (lw_at lw_m2 160 rfl) rfl
theorem q755 : (Jvm.Cond.soleField "ScholarsPress$Source" "sizes") ∈ lw_all := lw_g (lw_at lw_m2 161 rfl) rfl
theorem q756 : (Jvm.Cond.lays "ScholarsPress$Source" "ScholarsPress$Source" "many" "I") ∈ lw_all := lw_g (lw_at lw_m2 162 rfl) rfl
theorem q757 : (Jvm.Cond.soleField "ScholarsPress$Source" "many") ∈ lw_all := lw_g (lw_at lw_m2 163 rfl) rfl
theorem q758 : (Jvm.Cond.laysFinal "ScholarsPress$Source" "ScholarsPress$Source" "entityNames" "LScholarsPress$Names;") ∈ lw_all := lw_g (lw_at lw_m2 164 rfl) rfl
theorem q759 : (Jvm.Cond.soleField "ScholarsPress$Source" "entityNames") ∈ lw_all := lw_g (lw_at lw_m2 165 rfl) rfl
theorem q760 : (Jvm.Cond.laysFinal "ScholarsPress$Source" "ScholarsPress$Source" "entityFrom" "[I") ∈ lw_all := lw_g (lw_at lw_m2 166 rfl) rfl
theorem q761 : (Jvm.Cond.soleField "ScholarsPress$Source" "entityFrom") ∈ lw_all := lw_g (lw_at lw_m2 167 rfl) rfl
theorem q762 : (Jvm.Cond.laysFinal "ScholarsPress$Source" "ScholarsPress$Source" "entitySize" "[I") ∈ lw_all := lw_g (lw_at lw_m2 168 rfl) rfl
theorem q763 : (Jvm.Cond.soleField "ScholarsPress$Source" "entitySize") ∈ lw_all := lw_g (lw_at lw_m2 169 rfl) rfl
theorem q764 : (Jvm.Cond.laysFinal "ScholarsPress$Source" "ScholarsPress$Source" "open" "[I") ∈ lw_all := lw_g (lw_at lw_m2 170 rfl) rfl
theorem q765 : (Jvm.Cond.soleField "ScholarsPress$Source" "open") ∈ lw_all := lw_g (lw_at lw_m2 171 rfl) rfl
theorem q766 : (Jvm.Cond.lays "ScholarsPress$Source" "ScholarsPress$Source" "deep" "I") ∈ lw_all := lw_g (lw_at lw_m2 172 rfl) rfl
theorem q767 : (Jvm.Cond.soleField "ScholarsPress$Source" "deep") ∈ lw_all := lw_g (lw_at lw_m2 173 rfl) rfl
theorem q768 : (Jvm.Cond.superclass "ScholarsPress$Source" "java/lang/Object") ∈ lw_all := lw_g (lw_at lw_m2 174 rfl) rfl
theorem q2139 : (Jvm.Cond.privateMethod ({ cls := "ScholarsPress$Source", name := "read", desc := "(I)V" } : Jvm.MethodName)) ∈ lw_tbl := lw_at lw_m8 105 rfl
theorem q2140 : (Jvm.Cond.instanceMethod ({ cls := "ScholarsPress$Source", name := "read", desc := "(I)V" } : Jvm.MethodName)) ∈ lw_all := lw_g (lw_at lw_m8 106 rfl) rfl
theorem q2141 : (Jvm.Cond.code ({ cls := "ScholarsPress$Source", name := "read", desc := "(I)V" } : Jvm.MethodName) prog_15_method_2_code (2 : Nat) (Option.none : Option Jvm.ClassFile.FieldType)) ∈ lw_all := lw_g (lw_at lw_m8 107 rfl) rfl
theorem q2142 : (Jvm.Cond.methodLinkNest "ScholarsPress$Source" (93 : Nat) ({ cls := "ScholarsPress$Names", name := "clear", desc := "()V" } : Jvm.MethodName) "ScholarsPress") ∈ lw_tbl := lw_at lw_m8 108 rfl
theorem q2143 : (Jvm.Cond.methodLink "ScholarsPress$Source" (114 : Nat) ({ cls := "ScholarsPress$Source", name := "piece", desc := "()V" } : Jvm.MethodName)) ∈ lw_all := lw_g (lw_at lw_m8 109 rfl) rfl
theorem q2144 : (Jvm.Cond.privateMethod ({ cls := "ScholarsPress$Source", name := "piece", desc := "()V" } : Jvm.MethodName)) ∈ lw_tbl := lw_at lw_m8 110 rfl
theorem q2145 : (Jvm.Cond.instanceMethod ({ cls := "ScholarsPress$Source", name := "piece", desc := "()V" } : Jvm.MethodName)) ∈ lw_all := lw_g (lw_at lw_m8 111 rfl) rfl
theorem q2146 : (Jvm.Cond.code ({ cls := "ScholarsPress$Source", name := "piece", desc := "()V" } : Jvm.MethodName) prog_15_method_9_code (3 : Nat) (Option.none : Option Jvm.ClassFile.FieldType)) ∈ lw_all := lw_g (lw_at lw_m8 112 rfl) rfl
theorem q2147 : (Jvm.Cond.methodLink "ScholarsPress$Source" (128 : Nat) ({ cls := "ScholarsPress$Source", name := "byteAt", desc := "(I)I" } : Jvm.MethodName)) ∈ lw_all := lw_g (lw_at lw_m8 113 rfl) rfl
theorem q2148 : (Jvm.Cond.privateMethod ({ cls := "ScholarsPress$Source", name := "byteAt", desc := "(I)I" } : Jvm.MethodName)) ∈ lw_tbl := lw_at lw_m8 114 rfl
theorem q2149 : (Jvm.Cond.instanceMethod ({ cls := "ScholarsPress$Source", name := "byteAt", desc := "(I)I" } : Jvm.MethodName)) ∈ lw_all := lw_g (lw_at lw_m8 115 rfl) rfl
theorem q2150 : (Jvm.Cond.code ({ cls := "ScholarsPress$Source", name := "byteAt", desc := "(I)I" } : Jvm.MethodName) prog_15_method_4_code (2 : Nat) (Option.some Jvm.ClassFile.FieldType.int)) ∈ lw_all := lw_g (lw_at lw_m8 116 rfl) rfl
theorem q2151 : (Jvm.Cond.methodLink "ScholarsPress$Source" (132 : Nat) ({ cls := "ScholarsPress$Source", name := "tag", desc := "()V" } : Jvm.MethodName)) ∈ lw_all := lw_g (lw_at lw_m8 117 rfl) rfl
theorem q2152 : (Jvm.Cond.privateMethod ({ cls := "ScholarsPress$Source", name := "tag", desc := "()V" } : Jvm.MethodName)) ∈ lw_tbl := lw_at lw_m8 118 rfl
theorem q2153 : (Jvm.Cond.instanceMethod ({ cls := "ScholarsPress$Source", name := "tag", desc := "()V" } : Jvm.MethodName)) ∈ lw_all := lw_g (lw_at lw_m8 119 rfl) rfl
theorem q2154 : (Jvm.Cond.code ({ cls := "ScholarsPress$Source", name := "tag", desc := "()V" } : Jvm.MethodName) prog_15_method_15_code (3 : Nat) (Option.none : Option Jvm.ClassFile.FieldType)) ∈ lw_all := lw_g (lw_at lw_m8 120 rfl) rfl
theorem q2155 : (Jvm.Cond.methodLink "ScholarsPress$Source" (185 : Nat) ({ cls := "ScholarsPress$Source", name := "comment", desc := "()V" } : Jvm.MethodName)) ∈ lw_all := lw_g (lw_at lw_m8 121 rfl) rfl
theorem q2156 : (Jvm.Cond.privateMethod ({ cls := "ScholarsPress$Source", name := "comment", desc := "()V" } : Jvm.MethodName)) ∈ lw_tbl := lw_at lw_m8 122 rfl
theorem q2157 : (Jvm.Cond.instanceMethod ({ cls := "ScholarsPress$Source", name := "comment", desc := "()V" } : Jvm.MethodName)) ∈ lw_all := lw_g (lw_at lw_m8 123 rfl) rfl
theorem q2158 : (Jvm.Cond.code ({ cls := "ScholarsPress$Source", name := "comment", desc := "()V" } : Jvm.MethodName) prog_15_method_16_code (2 : Nat) (Option.none : Option Jvm.ClassFile.FieldType)) ∈ lw_all := lw_g (lw_at lw_m8 124 rfl) rfl
theorem q2159 : (Jvm.Cond.methodLink "ScholarsPress$Source" (142 : Nat) ({ cls := "ScholarsPress$Source", name := "broken", desc := "()LScholarsPress$Broken;" } : Jvm.MethodName)) ∈ lw_all := lw_g (lw_at lw_m8 125 rfl) rfl
theorem q2160 : (Jvm.Cond.privateMethod ({ cls := "ScholarsPress$Source", name := "broken", desc := "()LScholarsPress$Broken;" } : Jvm.MethodName)) ∈ lw_tbl := lw_at lw_m8 126 rfl
theorem q2161 : (Jvm.Cond.instanceMethod ({ cls := "ScholarsPress$Source", name := "broken", desc := "()LScholarsPress$Broken;" } : Jvm.MethodName)) ∈ lw_all := lw_g (lw_at lw_m8 127 rfl) rfl
theorem q2162 : (Jvm.Cond.code ({ cls := "ScholarsPress$Source", name := "broken", desc := "()LScholarsPress$Broken;" } : Jvm.MethodName) prog_15_method_5_code (1 : Nat) (Option.some (Jvm.ClassFile.FieldType.object "ScholarsPress$Broken"))) ∈ lw_all := lw_g (lw_at lw_m8 128 rfl) rfl
theorem q2163 : (Jvm.Cond.classLink "ScholarsPress$Source" (117 : Nat) "ScholarsPress$Broken") ∈ lw_all := lw_g (lw_at lw_m8 129 rfl) rfl
theorem q2164 : (Jvm.Cond.methodLinkNest "ScholarsPress$Source" (119 : Nat) ({ cls := "ScholarsPress$Broken", name := "<init>", desc := "(I)V" } : Jvm.MethodName) "ScholarsPress") ∈ lw_tbl := lw_at lw_m8 130 rfl
theorem q2165 : (Jvm.Cond.methodLink "ScholarsPress$Source" (188 : Nat) ({ cls := "ScholarsPress$Source", name := "define", desc := "()V" } : Jvm.MethodName)) ∈ lw_all := lw_g (lw_at lw_m8 131 rfl) rfl
theorem q2166 : (Jvm.Cond.privateMethod ({ cls := "ScholarsPress$Source", name := "define", desc := "()V" } : Jvm.MethodName)) ∈ lw_tbl := lw_at lw_m8 132 rfl
theorem q2167 : (Jvm.Cond.instanceMethod ({ cls := "ScholarsPress$Source", name := "define", desc := "()V" } : Jvm.MethodName)) ∈ lw_all := lw_g (lw_at lw_m8 133 rfl) rfl
theorem q2168 : (Jvm.Cond.code ({ cls := "ScholarsPress$Source", name := "define", desc := "()V" } : Jvm.MethodName) prog_15_method_17_code (6 : Nat) (Option.none : Option Jvm.ClassFile.FieldType)) ∈ lw_all := lw_g (lw_at lw_m8 134 rfl) rfl
theorem q2169 : (Jvm.Cond.methodLink "ScholarsPress$Source" (167 : Nat) ({ cls := "ScholarsPress$Source", name := "nameEnd", desc := "()I" } : Jvm.MethodName)) ∈ lw_all := lw_g (lw_at lw_m8 135 rfl) rfl
theorem q2170 : (Jvm.Cond.privateMethod ({ cls := "ScholarsPress$Source", name := "nameEnd", desc := "()I" } : Jvm.MethodName)) ∈ lw_tbl := lw_at lw_m8 136 rfl
theorem q2171 : (Jvm.Cond.instanceMethod ({ cls := "ScholarsPress$Source", name := "nameEnd", desc := "()I" } : Jvm.MethodName)) ∈ lw_all := lw_g (lw_at lw_m8 137 rfl) rfl
theorem q2172 : (Jvm.Cond.code ({ cls := "ScholarsPress$Source", name := "nameEnd", desc := "()I" } : Jvm.MethodName) prog_15_method_11_code (2 : Nat) (Option.some Jvm.ClassFile.FieldType.int)) ∈ lw_all := lw_g (lw_at lw_m8 138 rfl) rfl
theorem q2173 : (Jvm.Cond.methodLinkNest "ScholarsPress$Source" (153 : Nat) ({ cls := "ScholarsPress", name := "isSmall", desc := "(I)Z" } : Jvm.MethodName) "ScholarsPress") ∈ lw_tbl := lw_at lw_m8 139 rfl
theorem q2174 : (Jvm.Cond.methodLinkNest "ScholarsPress$Source" (156 : Nat) ({ cls := "ScholarsPress", name := "isDigit", desc := "(I)Z" } : Jvm.MethodName) "ScholarsPress") ∈ lw_tbl := lw_at lw_m8 140 rfl
theorem q2175 : (Jvm.Cond.stringRef "ScholarsPress$Source" (170 : Nat) "lt") ∈ lw_tbl := lw_at lw_m8 141 rfl
theorem q2176 : (Jvm.Cond.methodLink "ScholarsPress$Source" (172 : Nat) ({ cls := "ScholarsPress$Source", name := "isWord", desc := "(IILjava/lang/String;)Z" } : Jvm.MethodName)) ∈ lw_all := lw_g (lw_at lw_m8 142 rfl) rfl
theorem q2177 : (Jvm.Cond.privateMethod ({ cls := "ScholarsPress$Source", name := "isWord", desc := "(IILjava/lang/String;)Z" } : Jvm.MethodName)) ∈ lw_tbl := lw_at lw_m8 143 rfl
theorem q2178 : (Jvm.Cond.instanceMethod ({ cls := "ScholarsPress$Source", name := "isWord", desc := "(IILjava/lang/String;)Z" } : Jvm.MethodName)) ∈ lw_all := lw_g (lw_at lw_m8 144 rfl) rfl
theorem q2179 : (Jvm.Cond.code ({ cls := "ScholarsPress$Source", name := "isWord", desc := "(IILjava/lang/String;)Z" } : Jvm.MethodName) prog_15_method_12_code (5 : Nat) (Option.some Jvm.ClassFile.FieldType.boolean)) ∈ lw_all := lw_g (lw_at lw_m8 145 rfl) rfl
theorem q2180 : (Jvm.Cond.methodLink "ScholarsPress$Source" (159 : Nat) ({ cls := "java/lang/String", name := "length", desc := "()I" } : Jvm.MethodName)) ∈ lw_all := lw_g (lw_at lw_m8 146 rfl) rfl
theorem q2181 : (Jvm.Cond.methodLink "ScholarsPress$Source" (163 : Nat) ({ cls := "java/lang/String", name := "charAt", desc := "(I)C" } : Jvm.MethodName)) ∈ lw_all := lw_g (lw_at lw_m8 147 rfl) rfl
theorem q2182 : (Jvm.Cond.stringRef "ScholarsPress$Source" (176 : Nat) "amp") ∈ lw_tbl := lw_at lw_m8 148 rfl
theorem q2183 : (Jvm.Cond.methodLinkNest "ScholarsPress$Source" (178 : Nat) ({ cls := "ScholarsPress$Names", name := "find", desc := "([BII)I" } : Jvm.MethodName) "ScholarsPress") ∈ lw_tbl := lw_at lw_m8 149 rfl
theorem q2184 : (Jvm.Cond.methodLink "ScholarsPress$Source" (198 : Nat) ({ cls := "ScholarsPress$Source", name := "blanks", desc := "()V" } : Jvm.MethodName)) ∈ lw_all := lw_g (lw_at lw_m8 150 rfl) rfl
theorem q2185 : (Jvm.Cond.privateMethod ({ cls := "ScholarsPress$Source", name := "blanks", desc := "()V" } : Jvm.MethodName)) ∈ lw_tbl := lw_at lw_m8 151 rfl
theorem q2186 : (Jvm.Cond.instanceMethod ({ cls := "ScholarsPress$Source", name := "blanks", desc := "()V" } : Jvm.MethodName)) ∈ lw_all := lw_g (lw_at lw_m8 152 rfl) rfl
theorem q2187 : (Jvm.Cond.code ({ cls := "ScholarsPress$Source", name := "blanks", desc := "()V" } : Jvm.MethodName) prog_15_method_14_code (1 : Nat) (Option.none : Option Jvm.ClassFile.FieldType)) ∈ lw_all := lw_g (lw_at lw_m8 153 rfl) rfl
theorem q2188 : (Jvm.Cond.methodLinkNest "ScholarsPress$Source" (182 : Nat) ({ cls := "ScholarsPress", name := "isBlank", desc := "(I)Z" } : Jvm.MethodName) "ScholarsPress") ∈ lw_tbl := lw_at lw_m8 154 rfl
theorem q2189 : (Jvm.Cond.methodLink "ScholarsPress$Source" (201 : Nat) ({ cls := "ScholarsPress$Source", name := "string", desc := "()I" } : Jvm.MethodName)) ∈ lw_all := lw_g (lw_at lw_m8 155 rfl) rfl
theorem q2190 : (Jvm.Cond.privateMethod ({ cls := "ScholarsPress$Source", name := "string", desc := "()I" } : Jvm.MethodName)) ∈ lw_tbl := lw_at lw_m8 156 rfl
theorem q2191 : (Jvm.Cond.instanceMethod ({ cls := "ScholarsPress$Source", name := "string", desc := "()I" } : Jvm.MethodName)) ∈ lw_all := lw_g (lw_at lw_m8 157 rfl) rfl
theorem q2192 : (Jvm.Cond.code ({ cls := "ScholarsPress$Source", name := "string", desc := "()I" } : Jvm.MethodName) prog_15_method_18_code (2 : Nat) (Option.some Jvm.ClassFile.FieldType.int)) ∈ lw_all := lw_g (lw_at lw_m8 158 rfl) rfl
theorem q2193 : (Jvm.Cond.methodLinkNest "ScholarsPress$Source" (150 : Nat) ({ cls := "ScholarsPress", name := "isPlain", desc := "(I)Z" } : Jvm.MethodName) "ScholarsPress") ∈ lw_tbl := lw_at lw_m8 159 rfl
theorem q2194 : (Jvm.Cond.methodLinkNest "ScholarsPress$Source" (204 : Nat) ({ cls := "ScholarsPress$Names", name := "add", desc := "([BII)I" } : Jvm.MethodName) "ScholarsPress") ∈ lw_tbl := lw_at lw_m8 160 rfl
theorem q2195 : (Jvm.Cond.methodLink "ScholarsPress$Source" (191 : Nat) ({ cls := "ScholarsPress$Source", name := "end", desc := "()V" } : Jvm.MethodName)) ∈ lw_all := lw_g (lw_at lw_m8 161 rfl) rfl
theorem q2196 : (Jvm.Cond.privateMethod ({ cls := "ScholarsPress$Source", name := "end", desc := "()V" } : Jvm.MethodName)) ∈ lw_tbl := lw_at lw_m8 162 rfl
theorem q2197 : (Jvm.Cond.instanceMethod ({ cls := "ScholarsPress$Source", name := "end", desc := "()V" } : Jvm.MethodName)) ∈ lw_all := lw_g (lw_at lw_m8 163 rfl) rfl
theorem q2198 : (Jvm.Cond.code ({ cls := "ScholarsPress$Source", name := "end", desc := "()V" } : Jvm.MethodName) prog_15_method_19_code (4 : Nat) (Option.none : Option Jvm.ClassFile.FieldType)) ∈ lw_all := lw_g (lw_at lw_m8 164 rfl) rfl
theorem q2199 : (Jvm.Cond.methodLink "ScholarsPress$Source" (120 : Nat) ({ cls := "ScholarsPress$Source", name := "top", desc := "()I" } : Jvm.MethodName)) ∈ lw_all := lw_g (lw_at lw_m8 165 rfl) rfl
theorem q2200 : (Jvm.Cond.privateMethod ({ cls := "ScholarsPress$Source", name := "top", desc := "()I" } : Jvm.MethodName)) ∈ lw_tbl := lw_at lw_m8 166 rfl
theorem q2201 : (Jvm.Cond.instanceMethod ({ cls := "ScholarsPress$Source", name := "top", desc := "()I" } : Jvm.MethodName)) ∈ lw_all := lw_g (lw_at lw_m8 167 rfl) rfl
theorem q2202 : (Jvm.Cond.code ({ cls := "ScholarsPress$Source", name := "top", desc := "()I" } : Jvm.MethodName) prog_15_method_6_code (1 : Nat) (Option.some Jvm.ClassFile.FieldType.int)) ∈ lw_all := lw_g (lw_at lw_m8 168 rfl) rfl
theorem q2203 : (Jvm.Cond.methodLink "ScholarsPress$Source" (207 : Nat) ({ cls := "ScholarsPress$Source", name := "close", desc := "(I)V" } : Jvm.MethodName)) ∈ lw_all := lw_g (lw_at lw_m8 169 rfl) rfl
theorem q2204 : (Jvm.Cond.privateMethod ({ cls := "ScholarsPress$Source", name := "close", desc := "(I)V" } : Jvm.MethodName)) ∈ lw_tbl := lw_at lw_m8 170 rfl
theorem q2205 : (Jvm.Cond.instanceMethod ({ cls := "ScholarsPress$Source", name := "close", desc := "(I)V" } : Jvm.MethodName)) ∈ lw_all := lw_g (lw_at lw_m8 171 rfl) rfl
theorem q2206 : (Jvm.Cond.code ({ cls := "ScholarsPress$Source", name := "close", desc := "(I)V" } : Jvm.MethodName) prog_15_method_20_code (2 : Nat) (Option.none : Option Jvm.ClassFile.FieldType)) ∈ lw_all := lw_g (lw_at lw_m8 172 rfl) rfl
theorem q2207 : (Jvm.Cond.methodLink "ScholarsPress$Source" (124 : Nat) ({ cls := "ScholarsPress$Source", name := "event", desc := "(III)V" } : Jvm.MethodName)) ∈ lw_all := lw_g (lw_at lw_m8 173 rfl) rfl
theorem q2208 : (Jvm.Cond.privateMethod ({ cls := "ScholarsPress$Source", name := "event", desc := "(III)V" } : Jvm.MethodName)) ∈ lw_tbl := lw_at lw_m8 174 rfl
theorem q2209 : (Jvm.Cond.instanceMethod ({ cls := "ScholarsPress$Source", name := "event", desc := "(III)V" } : Jvm.MethodName)) ∈ lw_all := lw_g (lw_at lw_m8 175 rfl) rfl
theorem q2210 : (Jvm.Cond.code ({ cls := "ScholarsPress$Source", name := "event", desc := "(III)V" } : Jvm.MethodName) prog_15_method_7_code (4 : Nat) (Option.none : Option Jvm.ClassFile.FieldType)) ∈ lw_all := lw_g (lw_at lw_m8 176 rfl) rfl
theorem q2211 : (Jvm.Cond.methodLink "ScholarsPress$Source" (194 : Nat) ({ cls := "ScholarsPress$Source", name := "begin", desc := "(I)V" } : Jvm.MethodName)) ∈ lw_all := lw_g (lw_at lw_m8 177 rfl) rfl
theorem q2212 : (Jvm.Cond.privateMethod ({ cls := "ScholarsPress$Source", name := "begin", desc := "(I)V" } : Jvm.MethodName)) ∈ lw_tbl := lw_at lw_m8 178 rfl
theorem q2213 : (Jvm.Cond.instanceMethod ({ cls := "ScholarsPress$Source", name := "begin", desc := "(I)V" } : Jvm.MethodName)) ∈ lw_all := lw_g (lw_at lw_m8 179 rfl) rfl
theorem q2214 : (Jvm.Cond.code ({ cls := "ScholarsPress$Source", name := "begin", desc := "(I)V" } : Jvm.MethodName) prog_15_method_21_code (5 : Nat) (Option.none : Option Jvm.ClassFile.FieldType)) ∈ lw_all := lw_g (lw_at lw_m8 180 rfl) rfl
theorem q2215 : (Jvm.Cond.methodLink "ScholarsPress$Source" (210 : Nat) ({ cls := "ScholarsPress$Source", name := "fields", desc := "(I)V" } : Jvm.MethodName)) ∈ lw_all := lw_g (lw_at lw_m8 181 rfl) rfl
theorem q2216 : (Jvm.Cond.privateMethod ({ cls := "ScholarsPress$Source", name := "fields", desc := "(I)V" } : Jvm.MethodName)) ∈ lw_tbl := lw_at lw_m8 182 rfl
theorem q2217 : (Jvm.Cond.instanceMethod ({ cls := "ScholarsPress$Source", name := "fields", desc := "(I)V" } : Jvm.MethodName)) ∈ lw_all := lw_g (lw_at lw_m8 183 rfl) rfl
theorem q2218 : (Jvm.Cond.code ({ cls := "ScholarsPress$Source", name := "fields", desc := "(I)V" } : Jvm.MethodName) prog_15_method_22_code (6 : Nat) (Option.none : Option Jvm.ClassFile.FieldType)) ∈ lw_all := lw_g (lw_at lw_m8 184 rfl) rfl
theorem q2219 : (Jvm.Cond.methodLink "ScholarsPress$Source" (212 : Nat) ({ cls := "ScholarsPress$Source", name := "field", desc := "(II)I" } : Jvm.MethodName)) ∈ lw_all := lw_g (lw_at lw_m8 185 rfl) rfl
theorem q2220 : (Jvm.Cond.privateMethod ({ cls := "ScholarsPress$Source", name := "field", desc := "(II)I" } : Jvm.MethodName)) ∈ lw_tbl := lw_at lw_m8 186 rfl
theorem q2221 : (Jvm.Cond.instanceMethod ({ cls := "ScholarsPress$Source", name := "field", desc := "(II)I" } : Jvm.MethodName)) ∈ lw_all := lw_g (lw_at lw_m8 187 rfl) rfl
theorem q2222 : (Jvm.Cond.code ({ cls := "ScholarsPress$Source", name := "field", desc := "(II)I" } : Jvm.MethodName) prog_15_method_23_code (5 : Nat) (Option.some Jvm.ClassFile.FieldType.int)) ∈ lw_all := lw_g (lw_at lw_m8 188 rfl) rfl
theorem q2223 : (Jvm.Cond.methodLink "ScholarsPress$Source" (135 : Nat) ({ cls := "ScholarsPress$Source", name := "entity", desc := "()V" } : Jvm.MethodName)) ∈ lw_all := lw_g (lw_at lw_m8 189 rfl) rfl
theorem q2224 : (Jvm.Cond.privateMethod ({ cls := "ScholarsPress$Source", name := "entity", desc := "()V" } : Jvm.MethodName)) ∈ lw_tbl := lw_at lw_m8 190 rfl
theorem q2225 : (Jvm.Cond.instanceMethod ({ cls := "ScholarsPress$Source", name := "entity", desc := "()V" } : Jvm.MethodName)) ∈ lw_all := lw_g (lw_at lw_m8 191 rfl) rfl
theorem q2226 : (Jvm.Cond.code ({ cls := "ScholarsPress$Source", name := "entity", desc := "()V" } : Jvm.MethodName) prog_15_method_13_code (5 : Nat) (Option.none : Option Jvm.ClassFile.FieldType)) ∈ lw_all := lw_g (lw_at lw_m8 192 rfl) rfl
theorem q2227 : (Jvm.Cond.methodLink "ScholarsPress$Source" (146 : Nat) ({ cls := "ScholarsPress$Source", name := "stand", desc := "(II)V" } : Jvm.MethodName)) ∈ lw_all := lw_g (lw_at lw_m8 193 rfl) rfl
theorem q2228 : (Jvm.Cond.privateMethod ({ cls := "ScholarsPress$Source", name := "stand", desc := "(II)V" } : Jvm.MethodName)) ∈ lw_tbl := lw_at lw_m8 194 rfl
theorem q2229 : (Jvm.Cond.instanceMethod ({ cls := "ScholarsPress$Source", name := "stand", desc := "(II)V" } : Jvm.MethodName)) ∈ lw_all := lw_g (lw_at lw_m8 195 rfl) rfl
theorem q2230 : (Jvm.Cond.code ({ cls := "ScholarsPress$Source", name := "stand", desc := "(II)V" } : Jvm.MethodName) prog_15_method_8_code (3 : Nat) (Option.none : Option Jvm.ClassFile.FieldType)) ∈ lw_all := lw_g (lw_at lw_m8 196 rfl) rfl
theorem q2231 : (Jvm.Cond.methodLink "ScholarsPress$Source" (138 : Nat) ({ cls := "ScholarsPress$Source", name := "isPlace", desc := "(I)Z" } : Jvm.MethodName)) ∈ lw_all := lw_g (lw_at lw_m8 197 rfl) rfl
theorem q2232 : (Jvm.Cond.static ({ cls := "ScholarsPress$Source", name := "isPlace", desc := "(I)Z" } : Jvm.MethodName)) ∈ lw_all := lw_g (lw_at lw_m8 198 rfl) rfl
theorem q2233 : (Jvm.Cond.code ({ cls := "ScholarsPress$Source", name := "isPlace", desc := "(I)Z" } : Jvm.MethodName) prog_15_method_10_code (1 : Nat) (Option.some Jvm.ClassFile.FieldType.boolean)) ∈ lw_all := lw_g (lw_at lw_m8 199 rfl) rfl
theorem q2319 : (Jvm.Cond.privateMethod ({ cls := "ScholarsPress$Source", name := "isField", desc := "(I[BII)Z" } : Jvm.MethodName)) ∈ lw_tbl := lw_at lw_m9 45 rfl
theorem q2320 : (Jvm.Cond.instanceMethod ({ cls := "ScholarsPress$Source", name := "isField", desc := "(I[BII)Z" } : Jvm.MethodName)) ∈ lw_all := lw_g (lw_at lw_m9 46 rfl) rfl
theorem q2321 : (Jvm.Cond.code ({ cls := "ScholarsPress$Source", name := "isField", desc := "(I[BII)Z" } : Jvm.MethodName) prog_15_method_26_code (6 : Nat) (Option.some Jvm.ClassFile.FieldType.boolean)) ∈ lw_all := lw_g (lw_at lw_m9 47 rfl) rfl
theorem q2392 : (Jvm.Cond.privateMethod ({ cls := "ScholarsPress$Source", name := "fieldOf", desc := "(ILjava/lang/String;)I" } : Jvm.MethodName)) ∈ lw_tbl := lw_at lw_m9 118 rfl
theorem q2393 : (Jvm.Cond.instanceMethod ({ cls := "ScholarsPress$Source", name := "fieldOf", desc := "(ILjava/lang/String;)I" } : Jvm.MethodName)) ∈ lw_all := lw_g (lw_at lw_m9 119 rfl) rfl
theorem q2394 : (Jvm.Cond.code ({ cls := "ScholarsPress$Source", name := "fieldOf", desc := "(ILjava/lang/String;)I" } : Jvm.MethodName) prog_15_method_24_code (5 : Nat) (Option.some Jvm.ClassFile.FieldType.int)) ∈ lw_all := lw_g (lw_at lw_m9 120 rfl) rfl
theorem q2395 : (Jvm.Cond.methodLink "ScholarsPress$Source" (216 : Nat) ({ cls := "ScholarsPress$Source", name := "isName", desc := "(ILjava/lang/String;)Z" } : Jvm.MethodName)) ∈ lw_all := lw_g (lw_at lw_m9 121 rfl) rfl
theorem q2396 : (Jvm.Cond.privateMethod ({ cls := "ScholarsPress$Source", name := "isName", desc := "(ILjava/lang/String;)Z" } : Jvm.MethodName)) ∈ lw_tbl := lw_at lw_m9 122 rfl
theorem q2397 : (Jvm.Cond.instanceMethod ({ cls := "ScholarsPress$Source", name := "isName", desc := "(ILjava/lang/String;)Z" } : Jvm.MethodName)) ∈ lw_all := lw_g (lw_at lw_m9 123 rfl) rfl
theorem q2398 : (Jvm.Cond.code ({ cls := "ScholarsPress$Source", name := "isName", desc := "(ILjava/lang/String;)Z" } : Jvm.MethodName) prog_15_method_25_code (4 : Nat) (Option.some Jvm.ClassFile.FieldType.boolean)) ∈ lw_all := lw_g (lw_at lw_m9 124 rfl) rfl
theorem q2399 : (Jvm.Cond.methodLinkNest "ScholarsPress$Source" (220 : Nat) ({ cls := "ScholarsPress$Names", name := "length", desc := "(I)I" } : Jvm.MethodName) "ScholarsPress") ∈ lw_tbl := lw_at lw_m9 125 rfl
theorem q2460 : (Jvm.Cond.privateMethod ({ cls := "ScholarsPress$Source", name := "byteOf", desc := "(II)I" } : Jvm.MethodName)) ∈ lw_tbl := lw_at lw_m9 186 rfl
theorem q2461 : (Jvm.Cond.instanceMethod ({ cls := "ScholarsPress$Source", name := "byteOf", desc := "(II)I" } : Jvm.MethodName)) ∈ lw_all := lw_g (lw_at lw_m9 187 rfl) rfl
theorem q2462 : (Jvm.Cond.code ({ cls := "ScholarsPress$Source", name := "byteOf", desc := "(II)I" } : Jvm.MethodName) prog_15_method_3_code (3 : Nat) (Option.some Jvm.ClassFile.FieldType.int)) ∈ lw_all := lw_g (lw_at lw_m9 188 rfl) rfl
theorem q2708 : (Jvm.Cond.privateMethod ({ cls := "ScholarsPress$Source", name := "byId", desc := "([BII)I" } : Jvm.MethodName)) ∈ lw_tbl := lw_at lw_m10 194 rfl
theorem q2709 : (Jvm.Cond.instanceMethod ({ cls := "ScholarsPress$Source", name := "byId", desc := "([BII)I" } : Jvm.MethodName)) ∈ lw_all := lw_g (lw_at lw_m10 195 rfl) rfl
theorem q2710 : (Jvm.Cond.code ({ cls := "ScholarsPress$Source", name := "byId", desc := "([BII)I" } : Jvm.MethodName) prog_15_method_28_code (6 : Nat) (Option.some Jvm.ClassFile.FieldType.int)) ∈ lw_all := lw_g (lw_at lw_m10 196 rfl) rfl
theorem q2711 : (Jvm.Cond.stringRef "ScholarsPress$Source" (226 : Nat) "id") ∈ lw_tbl := lw_at lw_m10 197 rfl
theorem q2712 : (Jvm.Cond.methodLink "ScholarsPress$Source" (228 : Nat) ({ cls := "ScholarsPress$Source", name := "fieldOf", desc := "(ILjava/lang/String;)I" } : Jvm.MethodName)) ∈ lw_all := lw_g (lw_at lw_m10 198 rfl) rfl
theorem q2713 : (Jvm.Cond.methodLink "ScholarsPress$Source" (232 : Nat) ({ cls := "ScholarsPress$Source", name := "isField", desc := "(I[BII)Z" } : Jvm.MethodName)) ∈ lw_all := lw_g (lw_at lw_m10 199 rfl) rfl
theorem q2766 : (Jvm.Cond.privateMethod ({ cls := "ScholarsPress$Source", name := "isField", desc := "(ILjava/lang/String;)Z" } : Jvm.MethodName)) ∈ lw_tbl := lw_at lw_m11 12 rfl
theorem q2767 : (Jvm.Cond.instanceMethod ({ cls := "ScholarsPress$Source", name := "isField", desc := "(ILjava/lang/String;)Z" } : Jvm.MethodName)) ∈ lw_all := lw_g (lw_at lw_m11 13 rfl) rfl
theorem q2768 : (Jvm.Cond.code ({ cls := "ScholarsPress$Source", name := "isField", desc := "(ILjava/lang/String;)Z" } : Jvm.MethodName) prog_15_method_27_code (4 : Nat) (Option.some Jvm.ClassFile.FieldType.boolean)) ∈ lw_all := lw_g (lw_at lw_m11 14 rfl) rfl
theorem in_X6 : ∀ w ∈ wsX60, w ∈ lw_all := lw_in wsX60 [708, 710, 712, 714, 716, 718, 720, 722, 724, 726, 728, 730, 732, 734, 736, 738, 740, 742, 744, 746, 748, 750, 752, 754, 756, 758, 760, 762, 764, 766] (by decide +kernel) (by decide +kernel)
/-! ScholarsPress$Tree -/
def RX7 : String := "ScholarsPress$Tree"
def TX7 : u_T := fun k => match k with
  | 0 => ("ScholarsPress$Tree", "source", "LScholarsPress$Source;", false)
  | 1 => ("ScholarsPress$Tree", "style", "LScholarsPress$Style;", false)
  | 2 => ("ScholarsPress$Tree", "many", "I", false)
  | 3 => ("ScholarsPress$Tree", "nameOf", "[I", true)
  | 4 => ("ScholarsPress$Tree", "props", "[I", true)
  | 5 => ("ScholarsPress$Tree", "labelSize", "[I", true)
  | 6 => ("ScholarsPress$Tree", "shown", "[Z", true)
  | 7 => ("ScholarsPress$Tree", "inFlow", "[Z", true)
  | 8 => ("ScholarsPress$Tree", "role", "[I", true)
  | 9 => ("ScholarsPress$Tree", "counted", "[I", true)
  | 10 => ("ScholarsPress$Tree", "cells", "[I", true)
  | 11 => ("ScholarsPress$Tree", "tried", "[I", true)
  | 12 => ("ScholarsPress$Tree", "tries", "I", false)
  | 13 => ("ScholarsPress$Tree", "best", "[I", true)
  | 14 => ("ScholarsPress$Tree", "bestWeight", "[I", true)
  | 15 => ("ScholarsPress$Tree", "counters", "[I", true)
  | 16 => ("ScholarsPress$Tree", "eventAt", "[I", true)
  | 17 => ("ScholarsPress$Tree", "around", "[I", true)
  | 18 => ("ScholarsPress$Tree", "counter", "LScholarsPress$Bytes;", true)
  | 19 => ("ScholarsPress$Tree", "titled", "I", false)
  | _ => ("ScholarsPress$Tree", "blankDue", "Z", false)
def tyX7 : Nat → FieldType := fun k => match k with
  | 0 => .object "ScholarsPress$Source"
  | 1 => .object "ScholarsPress$Style"
  | 2 => .int
  | 3 => .array .int
  | 4 => .array .int
  | 5 => .array .int
  | 6 => .array .boolean
  | 7 => .array .boolean
  | 8 => .array .int
  | 9 => .array .int
  | 10 => .array .int
  | 11 => .array .int
  | 12 => .int
  | 13 => .array .int
  | 14 => .array .int
  | 15 => .array .int
  | 16 => .array .int
  | 17 => .array .int
  | 18 => .object "ScholarsPress$Bytes"
  | 19 => .int
  | _ => .boolean
abbrev wsX70 : List Cond := u_ws RX7 TX7 21
theorem nmX7 : ∀ a, a < 21 → ∀ b, b < 21 → a ≠ b → (TX7 a).2.1 ≠ (TX7 b).2.1 := by decide +kernel
theorem tyX7_ok : ∀ k, k < 21 → parseFieldDescriptor (TX7 k).2.2.1 = some (tyX7 k) := by decide +kernel
abbrev cX7_init : ByteArray := prog_18_method_1_code
def yX7_init : MethodName := ⟨RX7, "<init>", "()V"⟩
abbrev cX7_make : ByteArray := prog_18_method_2_code
def yX7_make : MethodName := ⟨RX7, "make", "(LScholarsPress$Source;LScholarsPress$Style;)V"⟩
abbrev cX7_compute : ByteArray := prog_18_method_6_code
def yX7_compute : MethodName := ⟨RX7, "compute", "(I)V"⟩
abbrev cX7_fits : ByteArray := prog_18_method_8_code
def yX7_fits : MethodName := ⟨RX7, "fits", "(II)Z"⟩
abbrev cX7_fitsFrom : ByteArray := prog_18_method_9_code
def yX7_fitsFrom : MethodName := ⟨RX7, "fitsFrom", "(III)Z"⟩
abbrev cX7_fitsStep : ByteArray := prog_18_method_10_code
def yX7_fitsStep : MethodName := ⟨RX7, "fitsStep", "(II)Z"⟩
abbrev cX7_holds : ByteArray := prog_18_method_11_code
def yX7_holds : MethodName := ⟨RX7, "holds", "(II)Z"⟩
abbrev cX7_weigh : ByteArray := prog_18_method_7_code
def yX7_weigh : MethodName := ⟨RX7, "weigh", "(I)V"⟩
abbrev cX7_inherits : ByteArray := prog_18_method_5_code
def yX7_inherits : MethodName := ⟨RX7, "inherits", "(I)Z"⟩
abbrev cX7_property : ByteArray := prog_18_method_3_code
def yX7_property : MethodName := ⟨RX7, "property", "(II)I"⟩
abbrev cX7_first : ByteArray := prog_18_method_4_code
def yX7_first : MethodName := ⟨RX7, "first", "(I)I"⟩
abbrev cX7_see : ByteArray := prog_18_method_13_code
def yX7_see : MethodName := ⟨RX7, "see", "(I)V"⟩
abbrev cX7_isInNote : ByteArray := prog_18_method_12_code
def yX7_isInNote : MethodName := ⟨RX7, "isInNote", "(I)Z"⟩
abbrev cX7_roleOf : ByteArray := prog_18_method_14_code
def yX7_roleOf : MethodName := ⟨RX7, "roleOf", "(IZZZ)I"⟩
abbrev cX7_count : ByteArray := prog_18_method_18_code
def yX7_count : MethodName := ⟨RX7, "count", "()V"⟩
abbrev cX7_order : ByteArray := prog_18_method_31_code
def yX7_order : MethodName := ⟨RX7, "order", "()V"⟩
abbrev cX7_title : ByteArray := prog_18_method_30_code
def yX7_title : MethodName := ⟨RX7, "title", "(ILScholarsPress$Bytes;)V"⟩
abbrev cX7_titleLabel : ByteArray := prog_18_method_29_code
def yX7_titleLabel : MethodName := ⟨RX7, "titleLabel", "(ILScholarsPress$Bytes;)V"⟩
abbrev cX7_labelOf : ByteArray := prog_18_method_25_code
def yX7_labelOf : MethodName := ⟨RX7, "labelOf", "(I)I"⟩
abbrev cX7_hasLabel : ByteArray := prog_18_method_24_code
def yX7_hasLabel : MethodName := ⟨RX7, "hasLabel", "(I)Z"⟩
abbrev cX7_isMute : ByteArray := prog_18_method_17_code
def yX7_isMute : MethodName := ⟨RX7, "isMute", "(I)Z"⟩
abbrev cX7_value : ByteArray := prog_18_method_23_code
def yX7_value : MethodName := ⟨RX7, "value", "(ILScholarsPress$Bytes;)V"⟩
abbrev cX7_write : ByteArray := prog_18_method_19_code
def yX7_write : MethodName := ⟨RX7, "write", "(LScholarsPress$Bytes;II)V"⟩
abbrev cX7_roman : ByteArray := prog_18_method_21_code
def yX7_roman : MethodName := ⟨RX7, "roman", "(LScholarsPress$Bytes;I)V"⟩
abbrev cX7_digit : ByteArray := prog_18_method_22_code
def yX7_digit : MethodName := ⟨RX7, "digit", "(LScholarsPress$Bytes;IIII)V"⟩
abbrev cX7_letters : ByteArray := prog_18_method_20_code
def yX7_letters : MethodName := ⟨RX7, "letters", "(LScholarsPress$Bytes;I)V"⟩
abbrev cX7_isFull : ByteArray := prog_18_method_27_code
def yX7_isFull : MethodName := ⟨RX7, "isFull", "()Z"⟩
abbrev cX7_labelByte : ByteArray := prog_18_method_26_code
def yX7_labelByte : MethodName := ⟨RX7, "labelByte", "(II)I"⟩
abbrev cX7_putTitle : ByteArray := prog_18_method_28_code
def yX7_putTitle : MethodName := ⟨RX7, "putTitle", "(LScholarsPress$Bytes;I)V"⟩
abbrev cX7_isBlock : ByteArray := prog_18_method_15_code
def yX7_isBlock : MethodName := ⟨RX7, "isBlock", "(I)Z"⟩
theorem q361 : (Jvm.Cond.initialized "ScholarsPress$Tree") ∈ lw_all := lw_g (lw_at lw_m1 7 rfl) rfl
theorem q473 : (Jvm.Cond.fieldLinkNest "ScholarsPress$Tree" (87 : Nat) "ScholarsPress$Names" "many" "I" "ScholarsPress") ∈ lw_tbl := lw_at lw_m1 119 rfl
theorem q502 : (Jvm.Cond.fieldLinkNest "ScholarsPress$Tree" (207 : Nat) "ScholarsPress$Bytes" "row" "[B" "ScholarsPress") ∈ lw_tbl := lw_at lw_m1 148 rfl
theorem q508 : (Jvm.Cond.fieldLinkNest "ScholarsPress$Tree" (261 : Nat) "ScholarsPress$Bytes" "many" "I" "ScholarsPress") ∈ lw_tbl := lw_at lw_m1 154 rfl
theorem q523 : (Jvm.Cond.fieldLinkNest "ScholarsPress$Tree" (83 : Nat) "ScholarsPress$Style" "names" "LScholarsPress$Names;" "ScholarsPress") ∈ lw_tbl := lw_at lw_m1 169 rfl
theorem q526 : (Jvm.Cond.fieldLinkNest "ScholarsPress$Tree" (204 : Nat) "ScholarsPress$Style" "strings" "LScholarsPress$Bytes;" "ScholarsPress") ∈ lw_tbl := lw_at lw_m1 172 rfl
theorem q528 : (Jvm.Cond.fieldLinkNest "ScholarsPress$Tree" (177 : Nat) "ScholarsPress$Style" "stepName" "[I" "ScholarsPress") ∈ lw_tbl := lw_at lw_m1 174 rfl
theorem q530 : (Jvm.Cond.fieldLinkNest "ScholarsPress$Tree" (171 : Nat) "ScholarsPress$Style" "stepJoin" "[I" "ScholarsPress") ∈ lw_tbl := lw_at lw_m1 176 rfl
theorem q532 : (Jvm.Cond.fieldLinkNest "ScholarsPress$Tree" (183 : Nat) "ScholarsPress$Style" "askStart" "[I" "ScholarsPress") ∈ lw_tbl := lw_at lw_m1 178 rfl
theorem q535 : (Jvm.Cond.fieldLinkNest "ScholarsPress$Tree" (195 : Nat) "ScholarsPress$Style" "askKind" "[I" "ScholarsPress") ∈ lw_tbl := lw_at lw_m1 181 rfl
theorem q537 : (Jvm.Cond.fieldLinkNest "ScholarsPress$Tree" (198 : Nat) "ScholarsPress$Style" "askName" "[I" "ScholarsPress") ∈ lw_tbl := lw_at lw_m1 183 rfl
theorem q539 : (Jvm.Cond.fieldLinkNest "ScholarsPress$Tree" (211 : Nat) "ScholarsPress$Style" "askFrom" "[I" "ScholarsPress") ∈ lw_tbl := lw_at lw_m1 185 rfl
theorem q541 : (Jvm.Cond.fieldLinkNest "ScholarsPress$Tree" (214 : Nat) "ScholarsPress$Style" "askSize" "[I" "ScholarsPress") ∈ lw_tbl := lw_at lw_m1 187 rfl
theorem q544 : (Jvm.Cond.fieldLinkNest "ScholarsPress$Tree" (158 : Nat) "ScholarsPress$Style" "stepStart" "[I" "ScholarsPress") ∈ lw_tbl := lw_at lw_m1 190 rfl
theorem q546 : (Jvm.Cond.fieldLinkNest "ScholarsPress$Tree" (155 : Nat) "ScholarsPress$Style" "weight" "[I" "ScholarsPress") ∈ lw_tbl := lw_at lw_m1 192 rfl
theorem q548 : (Jvm.Cond.fieldLinkNest "ScholarsPress$Tree" (147 : Nat) "ScholarsPress$Style" "bodyOf" "[I" "ScholarsPress") ∈ lw_tbl := lw_at lw_m1 194 rfl
theorem q550 : (Jvm.Cond.fieldLinkNest "ScholarsPress$Tree" (111 : Nat) "ScholarsPress$Style" "selectors" "I" "ScholarsPress") ∈ lw_tbl := lw_at lw_m1 196 rfl
theorem q553 : (Jvm.Cond.fieldLinkNest "ScholarsPress$Tree" (153 : Nat) "ScholarsPress$Style" "property" "[I" "ScholarsPress") ∈ lw_tbl := lw_at lw_m1 199 rfl
theorem q555 : (Jvm.Cond.fieldLinkNest "ScholarsPress$Tree" (124 : Nat) "ScholarsPress$Style" "value" "[I" "ScholarsPress") ∈ lw_tbl := lw_at lw_m1 201 rfl
theorem q557 : (Jvm.Cond.fieldLinkNest "ScholarsPress$Tree" (144 : Nat) "ScholarsPress$Style" "size" "[I" "ScholarsPress") ∈ lw_tbl := lw_at lw_m1 203 rfl
theorem q559 : (Jvm.Cond.fieldLinkNest "ScholarsPress$Tree" (135 : Nat) "ScholarsPress$Style" "share" "[Z" "ScholarsPress") ∈ lw_tbl := lw_at lw_m1 205 rfl
theorem q562 : (Jvm.Cond.fieldLinkNest "ScholarsPress$Tree" (150 : Nat) "ScholarsPress$Style" "bodyStart" "[I" "ScholarsPress") ∈ lw_tbl := lw_at lw_m1 208 rfl
theorem q653 : (Jvm.Cond.fieldLinkNest "ScholarsPress$Tree" (90 : Nat) "ScholarsPress$Source" "names" "LScholarsPress$Names;" "ScholarsPress") ∈ lw_tbl := lw_at lw_m2 59 rfl
theorem q654 : (Jvm.Cond.fieldLinkNest "ScholarsPress$Tree" (74 : Nat) "ScholarsPress$Source" "elements" "I" "ScholarsPress") ∈ lw_tbl := lw_at lw_m2 60 rfl
theorem q658 : (Jvm.Cond.fieldLinkNest "ScholarsPress$Tree" (180 : Nat) "ScholarsPress$Source" "kind" "[I" "ScholarsPress") ∈ lw_tbl := lw_at lw_m2 64 rfl
theorem q660 : (Jvm.Cond.fieldLinkNest "ScholarsPress$Tree" (121 : Nat) "ScholarsPress$Source" "parent" "[I" "ScholarsPress") ∈ lw_tbl := lw_at lw_m2 66 rfl
theorem q668 : (Jvm.Cond.fieldLinkNest "ScholarsPress$Tree" (221 : Nat) "ScholarsPress$Source" "number" "[I" "ScholarsPress") ∈ lw_tbl := lw_at lw_m2 74 rfl
theorem q670 : (Jvm.Cond.fieldLinkNest "ScholarsPress$Tree" (174 : Nat) "ScholarsPress$Source" "before" "[I" "ScholarsPress") ∈ lw_tbl := lw_at lw_m2 76 rfl
theorem q672 : (Jvm.Cond.fieldLinkNest "ScholarsPress$Tree" (192 : Nat) "ScholarsPress$Source" "inside" "[I" "ScholarsPress") ∈ lw_tbl := lw_at lw_m2 78 rfl
theorem q675 : (Jvm.Cond.fieldLinkNest "ScholarsPress$Tree" (224 : Nat) "ScholarsPress$Source" "filled" "[Z" "ScholarsPress") ∈ lw_tbl := lw_at lw_m2 81 rfl
theorem q688 : (Jvm.Cond.fieldLinkNest "ScholarsPress$Tree" (189 : Nat) "ScholarsPress$Source" "outer" "I" "ScholarsPress") ∈ lw_tbl := lw_at lw_m2 94 rfl
theorem q692 : (Jvm.Cond.fieldLinkNest "ScholarsPress$Tree" (291 : Nat) "ScholarsPress$Source" "events" "[I" "ScholarsPress") ∈ lw_tbl := lw_at lw_m2 98 rfl
theorem q695 : (Jvm.Cond.fieldLinkNest "ScholarsPress$Tree" (294 : Nat) "ScholarsPress$Source" "starts" "[I" "ScholarsPress") ∈ lw_tbl := lw_at lw_m2 101 rfl
theorem q698 : (Jvm.Cond.fieldLinkNest "ScholarsPress$Tree" (297 : Nat) "ScholarsPress$Source" "sizes" "[I" "ScholarsPress") ∈ lw_tbl := lw_at lw_m2 104 rfl
theorem q701 : (Jvm.Cond.fieldLinkNest "ScholarsPress$Tree" (303 : Nat) "ScholarsPress$Source" "many" "I" "ScholarsPress") ∈ lw_tbl := lw_at lw_m2 107 rfl
theorem q771 : (Jvm.Cond.instantiable "ScholarsPress$Tree" (21 : Nat)) ∈ lw_all := lw_g (lw_at lw_m2 177 rfl) rfl
theorem q773 : (Jvm.Cond.instanceMethod ({ cls := "ScholarsPress$Tree", name := "<init>", desc := "()V" } : Jvm.MethodName)) ∈ lw_all := lw_g (lw_at lw_m2 179 rfl) rfl
theorem q774 : (Jvm.Cond.code ({ cls := "ScholarsPress$Tree", name := "<init>", desc := "()V" } : Jvm.MethodName) prog_18_method_1_code (1 : Nat) (Option.none : Option Jvm.ClassFile.FieldType)) ∈ lw_all := lw_g (lw_at lw_m2 180 rfl) rfl
theorem q775 : (Jvm.Cond.methodLink "ScholarsPress$Tree" (3 : Nat) ({ cls := "java/lang/Object", name := "<init>", desc := "()V" } : Jvm.MethodName)) ∈ lw_all := lw_g (lw_at lw_m2 181 rfl) rfl
theorem q776 : (Jvm.Cond.classLink "ScholarsPress$Tree" (57 : Nat) "ScholarsPress$Bytes") ∈ lw_all := lw_g (lw_at lw_m2 182 rfl) rfl
theorem q777 : (Jvm.Cond.methodLinkNest "ScholarsPress$Tree" (59 : Nat) ({ cls := "ScholarsPress$Bytes", name := "<init>", desc := "(I)V" } : Jvm.MethodName) "ScholarsPress") ∈ lw_tbl := lw_at lw_m2 183 rfl
theorem q778 : (Jvm.Cond.fieldLink "ScholarsPress$Tree" (66 : Nat) "ScholarsPress$Tree" "source" "LScholarsPress$Source;") ∈ lw_all := lw_g (lw_at lw_m2 184 rfl) rfl
theorem q781 : (Jvm.Cond.fieldLink "ScholarsPress$Tree" (70 : Nat) "ScholarsPress$Tree" "style" "LScholarsPress$Style;") ∈ lw_all := lw_g (lw_at lw_m2 187 rfl) rfl
theorem q783 : (Jvm.Cond.fieldLink "ScholarsPress$Tree" (80 : Nat) "ScholarsPress$Tree" "many" "I") ∈ lw_all := lw_g (lw_at lw_m2 189 rfl) rfl
theorem q786 : (Jvm.Cond.fieldLink "ScholarsPress$Tree" (11 : Nat) "ScholarsPress$Tree" "nameOf" "[I") ∈ lw_all := lw_g (lw_at lw_m2 192 rfl) rfl
theorem q787 : (Jvm.Cond.fieldLink "ScholarsPress$Tree" (17 : Nat) "ScholarsPress$Tree" "props" "[I") ∈ lw_all := lw_g (lw_at lw_m2 193 rfl) rfl
theorem q788 : (Jvm.Cond.fieldLink "ScholarsPress$Tree" (20 : Nat) "ScholarsPress$Tree" "labelSize" "[I") ∈ lw_all := lw_g (lw_at lw_m2 194 rfl) rfl
theorem q789 : (Jvm.Cond.fieldLink "ScholarsPress$Tree" (23 : Nat) "ScholarsPress$Tree" "shown" "[Z") ∈ lw_all := lw_g (lw_at lw_m2 195 rfl) rfl
theorem q792 : (Jvm.Cond.fieldLink "ScholarsPress$Tree" (27 : Nat) "ScholarsPress$Tree" "inFlow" "[Z") ∈ lw_all := lw_g (lw_at lw_m2 198 rfl) rfl
theorem q796 : (Jvm.Cond.fieldLink "ScholarsPress$Tree" (30 : Nat) "ScholarsPress$Tree" "role" "[I") ∈ lw_all := lw_g (lw_at lw_m2 202 rfl) rfl
theorem q799 : (Jvm.Cond.fieldLink "ScholarsPress$Tree" (33 : Nat) "ScholarsPress$Tree" "counted" "[I") ∈ lw_all := lw_g (lw_at lw_m2 205 rfl) rfl
theorem q801 : (Jvm.Cond.fieldLink "ScholarsPress$Tree" (36 : Nat) "ScholarsPress$Tree" "cells" "[I") ∈ lw_all := lw_g (lw_at lw_m2 207 rfl) rfl
theorem q802 : (Jvm.Cond.fieldLink "ScholarsPress$Tree" (39 : Nat) "ScholarsPress$Tree" "tried" "[I") ∈ lw_all := lw_g (lw_at lw_m2 208 rfl) rfl
theorem q803 : (Jvm.Cond.fieldLink "ScholarsPress$Tree" (161 : Nat) "ScholarsPress$Tree" "tries" "I") ∈ lw_all := lw_g (lw_at lw_m2 209 rfl) rfl
theorem q804 : (Jvm.Cond.fieldLink "ScholarsPress$Tree" (42 : Nat) "ScholarsPress$Tree" "best" "[I") ∈ lw_all := lw_g (lw_at lw_m2 210 rfl) rfl
theorem q805 : (Jvm.Cond.fieldLink "ScholarsPress$Tree" (45 : Nat) "ScholarsPress$Tree" "bestWeight" "[I") ∈ lw_all := lw_g (lw_at lw_m2 211 rfl) rfl
theorem q806 : (Jvm.Cond.fieldLink "ScholarsPress$Tree" (48 : Nat) "ScholarsPress$Tree" "counters" "[I") ∈ lw_all := lw_g (lw_at lw_m2 212 rfl) rfl
theorem q807 : (Jvm.Cond.fieldLink "ScholarsPress$Tree" (51 : Nat) "ScholarsPress$Tree" "eventAt" "[I") ∈ lw_all := lw_g (lw_at lw_m2 213 rfl) rfl
theorem q808 : (Jvm.Cond.fieldLink "ScholarsPress$Tree" (54 : Nat) "ScholarsPress$Tree" "around" "[I") ∈ lw_all := lw_g (lw_at lw_m2 214 rfl) rfl
theorem q809 : (Jvm.Cond.fieldLink "ScholarsPress$Tree" (62 : Nat) "ScholarsPress$Tree" "counter" "LScholarsPress$Bytes;") ∈ lw_all := lw_g (lw_at lw_m2 215 rfl) rfl
theorem q811 : (Jvm.Cond.fieldLink "ScholarsPress$Tree" (265 : Nat) "ScholarsPress$Tree" "titled" "I") ∈ lw_all := lw_g (lw_at lw_m2 217 rfl) rfl
theorem q812 : (Jvm.Cond.fieldLink "ScholarsPress$Tree" (275 : Nat) "ScholarsPress$Tree" "blankDue" "Z") ∈ lw_all := lw_g (lw_at lw_m2 218 rfl) rfl
theorem q813 : (Jvm.Cond.lays "ScholarsPress$Tree" "ScholarsPress$Tree" "source" "LScholarsPress$Source;") ∈ lw_all := lw_g (lw_at lw_m2 219 rfl) rfl
theorem q814 : (Jvm.Cond.soleField "ScholarsPress$Tree" "source") ∈ lw_all := lw_g (lw_at lw_m2 220 rfl) rfl
theorem q815 : (Jvm.Cond.lays "ScholarsPress$Tree" "ScholarsPress$Tree" "style" "LScholarsPress$Style;") ∈ lw_all := lw_g (lw_at lw_m2 221 rfl) rfl
theorem q816 : (Jvm.Cond.soleField "ScholarsPress$Tree" "style") ∈ lw_all := lw_g (lw_at lw_m2 222 rfl) rfl
theorem q817 : (Jvm.Cond.lays "ScholarsPress$Tree" "ScholarsPress$Tree" "many" "I") ∈ lw_all := lw_g (lw_at lw_m2 223 rfl) rfl
theorem q818 : (Jvm.Cond.soleField "ScholarsPress$Tree" "many") ∈ lw_all := lw_g (lw_at lw_m2 224 rfl) rfl
theorem q819 : (Jvm.Cond.laysFinal "ScholarsPress$Tree" "ScholarsPress$Tree" "nameOf" "[I") ∈ lw_all := lw_g (lw_at lw_m2 225 rfl) rfl
theorem q820 : (Jvm.Cond.soleField "ScholarsPress$Tree" "nameOf") ∈ lw_all := lw_g (lw_at lw_m2 226 rfl) rfl
theorem q821 : (Jvm.Cond.laysFinal "ScholarsPress$Tree" "ScholarsPress$Tree" "props" "[I") ∈ lw_all := lw_g (lw_at lw_m2 227 rfl) rfl
theorem q822 : (Jvm.Cond.soleField "ScholarsPress$Tree" "props") ∈ lw_all := lw_g (lw_at lw_m2 228 rfl) rfl
theorem q823 : (Jvm.Cond.laysFinal "ScholarsPress$Tree" "ScholarsPress$Tree" "labelSize" "[I") ∈ lw_all := lw_g (lw_at lw_m2 229 rfl) rfl
theorem q824 : (Jvm.Cond.soleField "ScholarsPress$Tree" "labelSize") ∈ lw_all := lw_g (lw_at lw_m2 230 rfl) rfl
theorem q825 : (Jvm.Cond.laysFinal "ScholarsPress$Tree" "ScholarsPress$Tree" "shown" "[Z") ∈ lw_all := lw_g (lw_at lw_m2 231 rfl) rfl
theorem q826 : (Jvm.Cond.soleField "ScholarsPress$Tree" "shown") ∈ lw_all := lw_g (lw_at lw_m2 232 rfl) rfl
theorem q827 : (Jvm.Cond.laysFinal "ScholarsPress$Tree" "ScholarsPress$Tree" "inFlow" "[Z") ∈ lw_all := lw_g (lw_at lw_m2 233 rfl) rfl
theorem q828 : (Jvm.Cond.soleField "ScholarsPress$Tree" "inFlow") ∈ lw_all := lw_g (lw_at lw_m2 234 rfl) rfl
theorem q829 : (Jvm.Cond.laysFinal "ScholarsPress$Tree" "ScholarsPress$Tree" "role" "[I") ∈ lw_all := lw_g (lw_at lw_m2 235 rfl) rfl
theorem q830 : (Jvm.Cond.soleField "ScholarsPress$Tree" "role") ∈ lw_all := lw_g (lw_at lw_m2 236 rfl) rfl
theorem q831 : (Jvm.Cond.laysFinal "ScholarsPress$Tree" "ScholarsPress$Tree" "counted" "[I") ∈ lw_all := lw_g (lw_at lw_m2 237 rfl) rfl
theorem q832 : (Jvm.Cond.soleField "ScholarsPress$Tree" "counted") ∈ lw_all := lw_g (lw_at lw_m2 238 rfl) rfl
theorem q833 : (Jvm.Cond.laysFinal "ScholarsPress$Tree" "ScholarsPress$Tree" "cells" "[I") ∈ lw_all := lw_g (lw_at lw_m2 239 rfl) rfl
theorem q834 : (Jvm.Cond.soleField "ScholarsPress$Tree" "cells") ∈ lw_all := lw_g (lw_at lw_m3 0 rfl) rfl
theorem q835 : (Jvm.Cond.laysFinal "ScholarsPress$Tree" "ScholarsPress$Tree" "tried" "[I") ∈ lw_all := lw_g (lw_at lw_m3 1 rfl) rfl
theorem q836 : (Jvm.Cond.soleField "ScholarsPress$Tree" "tried") ∈ lw_all := lw_g (lw_at lw_m3 2 rfl) rfl
theorem q837 : (Jvm.Cond.lays "ScholarsPress$Tree" "ScholarsPress$Tree" "tries" "I") ∈ lw_all := lw_g (lw_at lw_m3 3 rfl) rfl
theorem q838 : (Jvm.Cond.soleField "ScholarsPress$Tree" "tries") ∈ lw_all := lw_g (lw_at lw_m3 4 rfl) rfl
theorem q839 : (Jvm.Cond.laysFinal "ScholarsPress$Tree" "ScholarsPress$Tree" "best" "[I") ∈ lw_all := lw_g (lw_at lw_m3 5 rfl) rfl
theorem q840 : (Jvm.Cond.soleField "ScholarsPress$Tree" "best") ∈ lw_all := lw_g (lw_at lw_m3 6 rfl) rfl
theorem q841 : (Jvm.Cond.laysFinal "ScholarsPress$Tree" "ScholarsPress$Tree" "bestWeight" "[I") ∈ lw_all := lw_g (lw_at lw_m3 7 rfl) rfl
theorem q842 : (Jvm.Cond.soleField "ScholarsPress$Tree" "bestWeight") ∈ lw_all := lw_g (lw_at lw_m3 8 rfl) rfl
theorem q843 : (Jvm.Cond.laysFinal "ScholarsPress$Tree" "ScholarsPress$Tree" "counters" "[I") ∈ lw_all := lw_g (lw_at lw_m3 9 rfl) rfl
theorem q844 : (Jvm.Cond.soleField "ScholarsPress$Tree" "counters") ∈ lw_all := lw_g (lw_at lw_m3 10 rfl) rfl
theorem q845 : (Jvm.Cond.laysFinal "ScholarsPress$Tree" "ScholarsPress$Tree" "eventAt" "[I") ∈ lw_all := lw_g (lw_at lw_m3 11 rfl) rfl
theorem q846 : (Jvm.Cond.soleField "ScholarsPress$Tree" "eventAt") ∈ lw_all := lw_g (lw_at lw_m3 12 rfl) rfl
theorem q847 : (Jvm.Cond.laysFinal "ScholarsPress$Tree" "ScholarsPress$Tree" "around" "[I") ∈ lw_all := lw_g (lw_at lw_m3 13 rfl) rfl
theorem q848 : (Jvm.Cond.soleField "ScholarsPress$Tree" "around") ∈ lw_all := lw_g (lw_at lw_m3 14 rfl) rfl
theorem q849 : (Jvm.Cond.laysFinal "ScholarsPress$Tree" "ScholarsPress$Tree" "counter" "LScholarsPress$Bytes;") ∈ lw_all := lw_g (lw_at lw_m3 15 rfl) rfl
theorem q850 : (Jvm.Cond.soleField "ScholarsPress$Tree" "counter") ∈ lw_all := lw_g (lw_at lw_m3 16 rfl) rfl
theorem q851 : (Jvm.Cond.lays "ScholarsPress$Tree" "ScholarsPress$Tree" "titled" "I") ∈ lw_all := lw_g (lw_at lw_m3 17 rfl) rfl
theorem q852 : (Jvm.Cond.soleField "ScholarsPress$Tree" "titled") ∈ lw_all := lw_g (lw_at lw_m3 18 rfl) rfl
theorem q853 : (Jvm.Cond.lays "ScholarsPress$Tree" "ScholarsPress$Tree" "blankDue" "Z") ∈ lw_all := lw_g (lw_at lw_m3 19 rfl) rfl
theorem q854 : (Jvm.Cond.soleField "ScholarsPress$Tree" "blankDue") ∈ lw_all := lw_g (lw_at lw_m3 20 rfl) rfl
theorem q855 : (Jvm.Cond.superclass "ScholarsPress$Tree" "java/lang/Object") ∈ lw_all := lw_g (lw_at lw_m3 21 rfl) rfl
theorem q2290 : (Jvm.Cond.privateMethod ({ cls := "ScholarsPress$Tree", name := "make", desc := "(LScholarsPress$Source;LScholarsPress$Style;)V" } : Jvm.MethodName)) ∈ lw_tbl := lw_at lw_m9 16 rfl
theorem q2291 : (Jvm.Cond.instanceMethod ({ cls := "ScholarsPress$Tree", name := "make", desc := "(LScholarsPress$Source;LScholarsPress$Style;)V" } : Jvm.MethodName)) ∈ lw_all := lw_g (lw_at lw_m9 17 rfl) rfl
theorem q2292 : (Jvm.Cond.code ({ cls := "ScholarsPress$Tree", name := "make", desc := "(LScholarsPress$Source;LScholarsPress$Style;)V" } : Jvm.MethodName) prog_18_method_2_code (4 : Nat) (Option.none : Option Jvm.ClassFile.FieldType)) ∈ lw_all := lw_g (lw_at lw_m9 18 rfl) rfl
theorem q2293 : (Jvm.Cond.methodLinkNest "ScholarsPress$Tree" (91 : Nat) ({ cls := "ScholarsPress$Names", name := "of", desc := "(LScholarsPress$Names;I)I" } : Jvm.MethodName) "ScholarsPress") ∈ lw_tbl := lw_at lw_m9 19 rfl
theorem q2297 : (Jvm.Cond.methodLink "ScholarsPress$Tree" (95 : Nat) ({ cls := "ScholarsPress$Tree", name := "compute", desc := "(I)V" } : Jvm.MethodName)) ∈ lw_all := lw_g (lw_at lw_m9 23 rfl) rfl
theorem q2298 : (Jvm.Cond.privateMethod ({ cls := "ScholarsPress$Tree", name := "compute", desc := "(I)V" } : Jvm.MethodName)) ∈ lw_tbl := lw_at lw_m9 24 rfl
theorem q2299 : (Jvm.Cond.instanceMethod ({ cls := "ScholarsPress$Tree", name := "compute", desc := "(I)V" } : Jvm.MethodName)) ∈ lw_all := lw_g (lw_at lw_m9 25 rfl) rfl
theorem q2300 : (Jvm.Cond.code ({ cls := "ScholarsPress$Tree", name := "compute", desc := "(I)V" } : Jvm.MethodName) prog_18_method_6_code (8 : Nat) (Option.none : Option Jvm.ClassFile.FieldType)) ∈ lw_all := lw_g (lw_at lw_m9 26 rfl) rfl
theorem q2301 : (Jvm.Cond.methodLink "ScholarsPress$Tree" (114 : Nat) ({ cls := "ScholarsPress$Tree", name := "fits", desc := "(II)Z" } : Jvm.MethodName)) ∈ lw_all := lw_g (lw_at lw_m9 27 rfl) rfl
theorem q2302 : (Jvm.Cond.privateMethod ({ cls := "ScholarsPress$Tree", name := "fits", desc := "(II)Z" } : Jvm.MethodName)) ∈ lw_tbl := lw_at lw_m9 28 rfl
theorem q2303 : (Jvm.Cond.instanceMethod ({ cls := "ScholarsPress$Tree", name := "fits", desc := "(II)Z" } : Jvm.MethodName)) ∈ lw_all := lw_g (lw_at lw_m9 29 rfl) rfl
theorem q2304 : (Jvm.Cond.code ({ cls := "ScholarsPress$Tree", name := "fits", desc := "(II)Z" } : Jvm.MethodName) prog_18_method_8_code (4 : Nat) (Option.some Jvm.ClassFile.FieldType.boolean)) ∈ lw_all := lw_g (lw_at lw_m9 30 rfl) rfl
theorem q2305 : (Jvm.Cond.methodLink "ScholarsPress$Tree" (164 : Nat) ({ cls := "ScholarsPress$Tree", name := "fitsFrom", desc := "(III)Z" } : Jvm.MethodName)) ∈ lw_all := lw_g (lw_at lw_m9 31 rfl) rfl
theorem q2306 : (Jvm.Cond.privateMethod ({ cls := "ScholarsPress$Tree", name := "fitsFrom", desc := "(III)Z" } : Jvm.MethodName)) ∈ lw_tbl := lw_at lw_m9 32 rfl
theorem q2307 : (Jvm.Cond.instanceMethod ({ cls := "ScholarsPress$Tree", name := "fitsFrom", desc := "(III)Z" } : Jvm.MethodName)) ∈ lw_all := lw_g (lw_at lw_m9 33 rfl) rfl
theorem q2308 : (Jvm.Cond.code ({ cls := "ScholarsPress$Tree", name := "fitsFrom", desc := "(III)Z" } : Jvm.MethodName) prog_18_method_9_code (6 : Nat) (Option.some Jvm.ClassFile.FieldType.boolean)) ∈ lw_all := lw_g (lw_at lw_m9 34 rfl) rfl
theorem q2309 : (Jvm.Cond.methodLink "ScholarsPress$Tree" (168 : Nat) ({ cls := "ScholarsPress$Tree", name := "fitsStep", desc := "(II)Z" } : Jvm.MethodName)) ∈ lw_all := lw_g (lw_at lw_m9 35 rfl) rfl
theorem q2310 : (Jvm.Cond.privateMethod ({ cls := "ScholarsPress$Tree", name := "fitsStep", desc := "(II)Z" } : Jvm.MethodName)) ∈ lw_tbl := lw_at lw_m9 36 rfl
theorem q2311 : (Jvm.Cond.instanceMethod ({ cls := "ScholarsPress$Tree", name := "fitsStep", desc := "(II)Z" } : Jvm.MethodName)) ∈ lw_all := lw_g (lw_at lw_m9 37 rfl) rfl
theorem q2312 : (Jvm.Cond.code ({ cls := "ScholarsPress$Tree", name := "fitsStep", desc := "(II)Z" } : Jvm.MethodName) prog_18_method_10_code (5 : Nat) (Option.some Jvm.ClassFile.FieldType.boolean)) ∈ lw_all := lw_g (lw_at lw_m9 38 rfl) rfl
theorem q2313 : (Jvm.Cond.methodLink "ScholarsPress$Tree" (186 : Nat) ({ cls := "ScholarsPress$Tree", name := "holds", desc := "(II)Z" } : Jvm.MethodName)) ∈ lw_all := lw_g (lw_at lw_m9 39 rfl) rfl
theorem q2314 : (Jvm.Cond.privateMethod ({ cls := "ScholarsPress$Tree", name := "holds", desc := "(II)Z" } : Jvm.MethodName)) ∈ lw_tbl := lw_at lw_m9 40 rfl
theorem q2315 : (Jvm.Cond.instanceMethod ({ cls := "ScholarsPress$Tree", name := "holds", desc := "(II)Z" } : Jvm.MethodName)) ∈ lw_all := lw_g (lw_at lw_m9 41 rfl) rfl
theorem q2316 : (Jvm.Cond.code ({ cls := "ScholarsPress$Tree", name := "holds", desc := "(II)Z" } : Jvm.MethodName) prog_18_method_11_code (6 : Nat) (Option.some Jvm.ClassFile.FieldType.boolean)) ∈ lw_all := lw_g (lw_at lw_m9 42 rfl) rfl
theorem q2317 : (Jvm.Cond.methodLinkNest "ScholarsPress$Tree" (201 : Nat) ({ cls := "ScholarsPress$Source", name := "field", desc := "(II)I" } : Jvm.MethodName) "ScholarsPress") ∈ lw_tbl := lw_at lw_m9 43 rfl
theorem q2318 : (Jvm.Cond.methodLinkNest "ScholarsPress$Tree" (217 : Nat) ({ cls := "ScholarsPress$Source", name := "isField", desc := "(I[BII)Z" } : Jvm.MethodName) "ScholarsPress") ∈ lw_tbl := lw_at lw_m9 44 rfl
theorem q2322 : (Jvm.Cond.methodLink "ScholarsPress$Tree" (118 : Nat) ({ cls := "ScholarsPress$Tree", name := "weigh", desc := "(I)V" } : Jvm.MethodName)) ∈ lw_all := lw_g (lw_at lw_m9 48 rfl) rfl
theorem q2323 : (Jvm.Cond.privateMethod ({ cls := "ScholarsPress$Tree", name := "weigh", desc := "(I)V" } : Jvm.MethodName)) ∈ lw_tbl := lw_at lw_m9 49 rfl
theorem q2324 : (Jvm.Cond.instanceMethod ({ cls := "ScholarsPress$Tree", name := "weigh", desc := "(I)V" } : Jvm.MethodName)) ∈ lw_all := lw_g (lw_at lw_m9 50 rfl) rfl
theorem q2325 : (Jvm.Cond.code ({ cls := "ScholarsPress$Tree", name := "weigh", desc := "(I)V" } : Jvm.MethodName) prog_18_method_7_code (5 : Nat) (Option.none : Option Jvm.ClassFile.FieldType)) ∈ lw_all := lw_g (lw_at lw_m9 51 rfl) rfl
theorem q2326 : (Jvm.Cond.methodLink "ScholarsPress$Tree" (127 : Nat) ({ cls := "ScholarsPress$Tree", name := "inherits", desc := "(I)Z" } : Jvm.MethodName)) ∈ lw_all := lw_g (lw_at lw_m9 52 rfl) rfl
theorem q2327 : (Jvm.Cond.static ({ cls := "ScholarsPress$Tree", name := "inherits", desc := "(I)Z" } : Jvm.MethodName)) ∈ lw_all := lw_g (lw_at lw_m9 53 rfl) rfl
theorem q2328 : (Jvm.Cond.code ({ cls := "ScholarsPress$Tree", name := "inherits", desc := "(I)Z" } : Jvm.MethodName) prog_18_method_5_code (1 : Nat) (Option.some Jvm.ClassFile.FieldType.boolean)) ∈ lw_all := lw_g (lw_at lw_m9 54 rfl) rfl
theorem q2329 : (Jvm.Cond.methodLink "ScholarsPress$Tree" (131 : Nat) ({ cls := "ScholarsPress$Tree", name := "property", desc := "(II)I" } : Jvm.MethodName)) ∈ lw_all := lw_g (lw_at lw_m9 55 rfl) rfl
theorem q2330 : (Jvm.Cond.privateMethod ({ cls := "ScholarsPress$Tree", name := "property", desc := "(II)I" } : Jvm.MethodName)) ∈ lw_tbl := lw_at lw_m9 56 rfl
theorem q2331 : (Jvm.Cond.instanceMethod ({ cls := "ScholarsPress$Tree", name := "property", desc := "(II)I" } : Jvm.MethodName)) ∈ lw_all := lw_g (lw_at lw_m9 57 rfl) rfl
theorem q2332 : (Jvm.Cond.code ({ cls := "ScholarsPress$Tree", name := "property", desc := "(II)I" } : Jvm.MethodName) prog_18_method_3_code (3 : Nat) (Option.some Jvm.ClassFile.FieldType.int)) ∈ lw_all := lw_g (lw_at lw_m9 58 rfl) rfl
theorem q2333 : (Jvm.Cond.methodLink "ScholarsPress$Tree" (107 : Nat) ({ cls := "ScholarsPress$Tree", name := "first", desc := "(I)I" } : Jvm.MethodName)) ∈ lw_all := lw_g (lw_at lw_m9 59 rfl) rfl
theorem q2334 : (Jvm.Cond.static ({ cls := "ScholarsPress$Tree", name := "first", desc := "(I)I" } : Jvm.MethodName)) ∈ lw_all := lw_g (lw_at lw_m9 60 rfl) rfl
theorem q2335 : (Jvm.Cond.code ({ cls := "ScholarsPress$Tree", name := "first", desc := "(I)I" } : Jvm.MethodName) prog_18_method_4_code (1 : Nat) (Option.some Jvm.ClassFile.FieldType.int)) ∈ lw_all := lw_g (lw_at lw_m9 61 rfl) rfl
theorem q2336 : (Jvm.Cond.constantLong "ScholarsPress$Tree" (138 : Nat) (100 : Int64)) ∈ lw_all := lw_g (lw_at lw_m9 62 rfl) rfl
theorem q2337 : (Jvm.Cond.constantLong "ScholarsPress$Tree" (140 : Nat) (1000 : Int64)) ∈ lw_all := lw_g (lw_at lw_m9 63 rfl) rfl
theorem q2338 : (Jvm.Cond.constantLong "ScholarsPress$Tree" (142 : Nat) (100000 : Int64)) ∈ lw_all := lw_g (lw_at lw_m9 64 rfl) rfl
theorem q2339 : (Jvm.Cond.methodLink "ScholarsPress$Tree" (98 : Nat) ({ cls := "ScholarsPress$Tree", name := "see", desc := "(I)V" } : Jvm.MethodName)) ∈ lw_all := lw_g (lw_at lw_m9 65 rfl) rfl
theorem q2340 : (Jvm.Cond.privateMethod ({ cls := "ScholarsPress$Tree", name := "see", desc := "(I)V" } : Jvm.MethodName)) ∈ lw_tbl := lw_at lw_m9 66 rfl
theorem q2341 : (Jvm.Cond.instanceMethod ({ cls := "ScholarsPress$Tree", name := "see", desc := "(I)V" } : Jvm.MethodName)) ∈ lw_all := lw_g (lw_at lw_m9 67 rfl) rfl
theorem q2342 : (Jvm.Cond.code ({ cls := "ScholarsPress$Tree", name := "see", desc := "(I)V" } : Jvm.MethodName) prog_18_method_13_code (9 : Nat) (Option.none : Option Jvm.ClassFile.FieldType)) ∈ lw_all := lw_g (lw_at lw_m9 68 rfl) rfl
theorem q2343 : (Jvm.Cond.methodLink "ScholarsPress$Tree" (227 : Nat) ({ cls := "ScholarsPress$Tree", name := "isInNote", desc := "(I)Z" } : Jvm.MethodName)) ∈ lw_all := lw_g (lw_at lw_m9 69 rfl) rfl
theorem q2344 : (Jvm.Cond.privateMethod ({ cls := "ScholarsPress$Tree", name := "isInNote", desc := "(I)Z" } : Jvm.MethodName)) ∈ lw_tbl := lw_at lw_m9 70 rfl
theorem q2345 : (Jvm.Cond.instanceMethod ({ cls := "ScholarsPress$Tree", name := "isInNote", desc := "(I)Z" } : Jvm.MethodName)) ∈ lw_all := lw_g (lw_at lw_m9 71 rfl) rfl
theorem q2346 : (Jvm.Cond.code ({ cls := "ScholarsPress$Tree", name := "isInNote", desc := "(I)Z" } : Jvm.MethodName) prog_18_method_12_code (3 : Nat) (Option.some Jvm.ClassFile.FieldType.boolean)) ∈ lw_all := lw_g (lw_at lw_m9 72 rfl) rfl
theorem q2347 : (Jvm.Cond.methodLink "ScholarsPress$Tree" (230 : Nat) ({ cls := "ScholarsPress$Tree", name := "roleOf", desc := "(IZZZ)I" } : Jvm.MethodName)) ∈ lw_all := lw_g (lw_at lw_m9 73 rfl) rfl
theorem q2348 : (Jvm.Cond.static ({ cls := "ScholarsPress$Tree", name := "roleOf", desc := "(IZZZ)I" } : Jvm.MethodName)) ∈ lw_all := lw_g (lw_at lw_m9 74 rfl) rfl
theorem q2349 : (Jvm.Cond.code ({ cls := "ScholarsPress$Tree", name := "roleOf", desc := "(IZZZ)I" } : Jvm.MethodName) prog_18_method_14_code (4 : Nat) (Option.some Jvm.ClassFile.FieldType.int)) ∈ lw_all := lw_g (lw_at lw_m9 75 rfl) rfl
theorem q2350 : (Jvm.Cond.methodLink "ScholarsPress$Tree" (101 : Nat) ({ cls := "ScholarsPress$Tree", name := "count", desc := "()V" } : Jvm.MethodName)) ∈ lw_all := lw_g (lw_at lw_m9 76 rfl) rfl
theorem q2351 : (Jvm.Cond.privateMethod ({ cls := "ScholarsPress$Tree", name := "count", desc := "()V" } : Jvm.MethodName)) ∈ lw_tbl := lw_at lw_m9 77 rfl
theorem q2352 : (Jvm.Cond.instanceMethod ({ cls := "ScholarsPress$Tree", name := "count", desc := "()V" } : Jvm.MethodName)) ∈ lw_all := lw_g (lw_at lw_m9 78 rfl) rfl
theorem q2353 : (Jvm.Cond.code ({ cls := "ScholarsPress$Tree", name := "count", desc := "()V" } : Jvm.MethodName) prog_18_method_18_code (4 : Nat) (Option.none : Option Jvm.ClassFile.FieldType)) ∈ lw_all := lw_g (lw_at lw_m9 79 rfl) rfl
theorem q2354 : (Jvm.Cond.methodLink "ScholarsPress$Tree" (104 : Nat) ({ cls := "ScholarsPress$Tree", name := "order", desc := "()V" } : Jvm.MethodName)) ∈ lw_all := lw_g (lw_at lw_m9 80 rfl) rfl
theorem q2355 : (Jvm.Cond.privateMethod ({ cls := "ScholarsPress$Tree", name := "order", desc := "()V" } : Jvm.MethodName)) ∈ lw_tbl := lw_at lw_m9 81 rfl
theorem q2356 : (Jvm.Cond.instanceMethod ({ cls := "ScholarsPress$Tree", name := "order", desc := "()V" } : Jvm.MethodName)) ∈ lw_all := lw_g (lw_at lw_m9 82 rfl) rfl
theorem q2357 : (Jvm.Cond.code ({ cls := "ScholarsPress$Tree", name := "order", desc := "()V" } : Jvm.MethodName) prog_18_method_31_code (3 : Nat) (Option.none : Option Jvm.ClassFile.FieldType)) ∈ lw_all := lw_g (lw_at lw_m9 83 rfl) rfl
theorem q2402 : (Jvm.Cond.privateMethod ({ cls := "ScholarsPress$Tree", name := "title", desc := "(ILScholarsPress$Bytes;)V" } : Jvm.MethodName)) ∈ lw_tbl := lw_at lw_m9 128 rfl
theorem q2403 : (Jvm.Cond.instanceMethod ({ cls := "ScholarsPress$Tree", name := "title", desc := "(ILScholarsPress$Bytes;)V" } : Jvm.MethodName)) ∈ lw_all := lw_g (lw_at lw_m9 129 rfl) rfl
theorem q2404 : (Jvm.Cond.code ({ cls := "ScholarsPress$Tree", name := "title", desc := "(ILScholarsPress$Bytes;)V" } : Jvm.MethodName) prog_18_method_30_code (9 : Nat) (Option.none : Option Jvm.ClassFile.FieldType)) ∈ lw_all := lw_g (lw_at lw_m9 130 rfl) rfl
theorem q2405 : (Jvm.Cond.methodLink "ScholarsPress$Tree" (288 : Nat) ({ cls := "ScholarsPress$Tree", name := "titleLabel", desc := "(ILScholarsPress$Bytes;)V" } : Jvm.MethodName)) ∈ lw_all := lw_g (lw_at lw_m9 131 rfl) rfl
theorem q2406 : (Jvm.Cond.privateMethod ({ cls := "ScholarsPress$Tree", name := "titleLabel", desc := "(ILScholarsPress$Bytes;)V" } : Jvm.MethodName)) ∈ lw_tbl := lw_at lw_m9 132 rfl
theorem q2407 : (Jvm.Cond.instanceMethod ({ cls := "ScholarsPress$Tree", name := "titleLabel", desc := "(ILScholarsPress$Bytes;)V" } : Jvm.MethodName)) ∈ lw_all := lw_g (lw_at lw_m9 133 rfl) rfl
theorem q2408 : (Jvm.Cond.code ({ cls := "ScholarsPress$Tree", name := "titleLabel", desc := "(ILScholarsPress$Bytes;)V" } : Jvm.MethodName) prog_18_method_29_code (7 : Nat) (Option.none : Option Jvm.ClassFile.FieldType)) ∈ lw_all := lw_g (lw_at lw_m9 134 rfl) rfl
theorem q2409 : (Jvm.Cond.methodLink "ScholarsPress$Tree" (279 : Nat) ({ cls := "ScholarsPress$Tree", name := "labelOf", desc := "(I)I" } : Jvm.MethodName)) ∈ lw_all := lw_g (lw_at lw_m9 135 rfl) rfl
theorem q2410 : (Jvm.Cond.privateMethod ({ cls := "ScholarsPress$Tree", name := "labelOf", desc := "(I)I" } : Jvm.MethodName)) ∈ lw_tbl := lw_at lw_m9 136 rfl
theorem q2411 : (Jvm.Cond.instanceMethod ({ cls := "ScholarsPress$Tree", name := "labelOf", desc := "(I)I" } : Jvm.MethodName)) ∈ lw_all := lw_g (lw_at lw_m9 137 rfl) rfl
theorem q2412 : (Jvm.Cond.code ({ cls := "ScholarsPress$Tree", name := "labelOf", desc := "(I)I" } : Jvm.MethodName) prog_18_method_25_code (2 : Nat) (Option.some Jvm.ClassFile.FieldType.int)) ∈ lw_all := lw_g (lw_at lw_m9 138 rfl) rfl
theorem q2413 : (Jvm.Cond.methodLink "ScholarsPress$Tree" (258 : Nat) ({ cls := "ScholarsPress$Tree", name := "hasLabel", desc := "(I)Z" } : Jvm.MethodName)) ∈ lw_all := lw_g (lw_at lw_m9 139 rfl) rfl
theorem q2414 : (Jvm.Cond.privateMethod ({ cls := "ScholarsPress$Tree", name := "hasLabel", desc := "(I)Z" } : Jvm.MethodName)) ∈ lw_tbl := lw_at lw_m9 140 rfl
theorem q2415 : (Jvm.Cond.instanceMethod ({ cls := "ScholarsPress$Tree", name := "hasLabel", desc := "(I)Z" } : Jvm.MethodName)) ∈ lw_all := lw_g (lw_at lw_m9 141 rfl) rfl
theorem q2416 : (Jvm.Cond.code ({ cls := "ScholarsPress$Tree", name := "hasLabel", desc := "(I)Z" } : Jvm.MethodName) prog_18_method_24_code (2 : Nat) (Option.some Jvm.ClassFile.FieldType.boolean)) ∈ lw_all := lw_g (lw_at lw_m9 142 rfl) rfl
theorem q2417 : (Jvm.Cond.methodLink "ScholarsPress$Tree" (255 : Nat) ({ cls := "ScholarsPress$Tree", name := "isMute", desc := "(I)Z" } : Jvm.MethodName)) ∈ lw_all := lw_g (lw_at lw_m9 143 rfl) rfl
theorem q2418 : (Jvm.Cond.privateMethod ({ cls := "ScholarsPress$Tree", name := "isMute", desc := "(I)Z" } : Jvm.MethodName)) ∈ lw_tbl := lw_at lw_m9 144 rfl
theorem q2419 : (Jvm.Cond.instanceMethod ({ cls := "ScholarsPress$Tree", name := "isMute", desc := "(I)Z" } : Jvm.MethodName)) ∈ lw_all := lw_g (lw_at lw_m9 145 rfl) rfl
theorem q2420 : (Jvm.Cond.code ({ cls := "ScholarsPress$Tree", name := "isMute", desc := "(I)Z" } : Jvm.MethodName) prog_18_method_17_code (3 : Nat) (Option.some Jvm.ClassFile.FieldType.boolean)) ∈ lw_all := lw_g (lw_at lw_m9 146 rfl) rfl
theorem q2421 : (Jvm.Cond.methodLink "ScholarsPress$Tree" (262 : Nat) ({ cls := "ScholarsPress$Tree", name := "value", desc := "(ILScholarsPress$Bytes;)V" } : Jvm.MethodName)) ∈ lw_all := lw_g (lw_at lw_m9 147 rfl) rfl
theorem q2422 : (Jvm.Cond.privateMethod ({ cls := "ScholarsPress$Tree", name := "value", desc := "(ILScholarsPress$Bytes;)V" } : Jvm.MethodName)) ∈ lw_tbl := lw_at lw_m9 148 rfl
theorem q2423 : (Jvm.Cond.instanceMethod ({ cls := "ScholarsPress$Tree", name := "value", desc := "(ILScholarsPress$Bytes;)V" } : Jvm.MethodName)) ∈ lw_all := lw_g (lw_at lw_m9 149 rfl) rfl
theorem q2424 : (Jvm.Cond.code ({ cls := "ScholarsPress$Tree", name := "value", desc := "(ILScholarsPress$Bytes;)V" } : Jvm.MethodName) prog_18_method_23_code (3 : Nat) (Option.none : Option Jvm.ClassFile.FieldType)) ∈ lw_all := lw_g (lw_at lw_m9 150 rfl) rfl
theorem q2425 : (Jvm.Cond.methodLink "ScholarsPress$Tree" (251 : Nat) ({ cls := "ScholarsPress$Tree", name := "write", desc := "(LScholarsPress$Bytes;II)V" } : Jvm.MethodName)) ∈ lw_all := lw_g (lw_at lw_m9 151 rfl) rfl
theorem q2426 : (Jvm.Cond.static ({ cls := "ScholarsPress$Tree", name := "write", desc := "(LScholarsPress$Bytes;II)V" } : Jvm.MethodName)) ∈ lw_all := lw_g (lw_at lw_m9 152 rfl) rfl
theorem q2427 : (Jvm.Cond.code ({ cls := "ScholarsPress$Tree", name := "write", desc := "(LScholarsPress$Bytes;II)V" } : Jvm.MethodName) prog_18_method_19_code (3 : Nat) (Option.none : Option Jvm.ClassFile.FieldType)) ∈ lw_all := lw_g (lw_at lw_m9 153 rfl) rfl
theorem q2428 : (Jvm.Cond.methodLink "ScholarsPress$Tree" (234 : Nat) ({ cls := "ScholarsPress$Tree", name := "roman", desc := "(LScholarsPress$Bytes;I)V" } : Jvm.MethodName)) ∈ lw_all := lw_g (lw_at lw_m9 154 rfl) rfl
theorem q2429 : (Jvm.Cond.static ({ cls := "ScholarsPress$Tree", name := "roman", desc := "(LScholarsPress$Bytes;I)V" } : Jvm.MethodName)) ∈ lw_all := lw_g (lw_at lw_m9 155 rfl) rfl
theorem q2430 : (Jvm.Cond.code ({ cls := "ScholarsPress$Tree", name := "roman", desc := "(LScholarsPress$Bytes;I)V" } : Jvm.MethodName) prog_18_method_21_code (3 : Nat) (Option.none : Option Jvm.ClassFile.FieldType)) ∈ lw_all := lw_g (lw_at lw_m9 156 rfl) rfl
theorem q2431 : (Jvm.Cond.methodLinkNest "ScholarsPress$Tree" (244 : Nat) ({ cls := "ScholarsPress$Bytes", name := "add", desc := "(I)V" } : Jvm.MethodName) "ScholarsPress") ∈ lw_tbl := lw_at lw_m9 157 rfl
theorem q2432 : (Jvm.Cond.methodLink "ScholarsPress$Tree" (247 : Nat) ({ cls := "ScholarsPress$Tree", name := "digit", desc := "(LScholarsPress$Bytes;IIII)V" } : Jvm.MethodName)) ∈ lw_all := lw_g (lw_at lw_m9 158 rfl) rfl
theorem q2433 : (Jvm.Cond.static ({ cls := "ScholarsPress$Tree", name := "digit", desc := "(LScholarsPress$Bytes;IIII)V" } : Jvm.MethodName)) ∈ lw_all := lw_g (lw_at lw_m9 159 rfl) rfl
theorem q2434 : (Jvm.Cond.code ({ cls := "ScholarsPress$Tree", name := "digit", desc := "(LScholarsPress$Bytes;IIII)V" } : Jvm.MethodName) prog_18_method_22_code (6 : Nat) (Option.none : Option Jvm.ClassFile.FieldType)) ∈ lw_all := lw_g (lw_at lw_m9 160 rfl) rfl
theorem q2435 : (Jvm.Cond.methodLink "ScholarsPress$Tree" (238 : Nat) ({ cls := "ScholarsPress$Tree", name := "letters", desc := "(LScholarsPress$Bytes;I)V" } : Jvm.MethodName)) ∈ lw_all := lw_g (lw_at lw_m9 161 rfl) rfl
theorem q2436 : (Jvm.Cond.static ({ cls := "ScholarsPress$Tree", name := "letters", desc := "(LScholarsPress$Bytes;I)V" } : Jvm.MethodName)) ∈ lw_all := lw_g (lw_at lw_m9 162 rfl) rfl
theorem q2437 : (Jvm.Cond.code ({ cls := "ScholarsPress$Tree", name := "letters", desc := "(LScholarsPress$Bytes;I)V" } : Jvm.MethodName) prog_18_method_20_code (3 : Nat) (Option.none : Option Jvm.ClassFile.FieldType)) ∈ lw_all := lw_g (lw_at lw_m9 163 rfl) rfl
theorem q2438 : (Jvm.Cond.methodLinkNest "ScholarsPress$Tree" (241 : Nat) ({ cls := "ScholarsPress$Bytes", name := "number", desc := "(J)V" } : Jvm.MethodName) "ScholarsPress") ∈ lw_tbl := lw_at lw_m9 164 rfl
theorem q2446 : (Jvm.Cond.methodLink "ScholarsPress$Tree" (268 : Nat) ({ cls := "ScholarsPress$Tree", name := "isFull", desc := "()Z" } : Jvm.MethodName)) ∈ lw_all := lw_g (lw_at lw_m9 172 rfl) rfl
theorem q2447 : (Jvm.Cond.privateMethod ({ cls := "ScholarsPress$Tree", name := "isFull", desc := "()Z" } : Jvm.MethodName)) ∈ lw_tbl := lw_at lw_m9 173 rfl
theorem q2448 : (Jvm.Cond.instanceMethod ({ cls := "ScholarsPress$Tree", name := "isFull", desc := "()Z" } : Jvm.MethodName)) ∈ lw_all := lw_g (lw_at lw_m9 174 rfl) rfl
theorem q2449 : (Jvm.Cond.code ({ cls := "ScholarsPress$Tree", name := "isFull", desc := "()Z" } : Jvm.MethodName) prog_18_method_27_code (1 : Nat) (Option.some Jvm.ClassFile.FieldType.boolean)) ∈ lw_all := lw_g (lw_at lw_m9 175 rfl) rfl
theorem q2450 : (Jvm.Cond.methodLink "ScholarsPress$Tree" (282 : Nat) ({ cls := "ScholarsPress$Tree", name := "labelByte", desc := "(II)I" } : Jvm.MethodName)) ∈ lw_all := lw_g (lw_at lw_m9 176 rfl) rfl
theorem q2451 : (Jvm.Cond.privateMethod ({ cls := "ScholarsPress$Tree", name := "labelByte", desc := "(II)I" } : Jvm.MethodName)) ∈ lw_tbl := lw_at lw_m9 177 rfl
theorem q2452 : (Jvm.Cond.instanceMethod ({ cls := "ScholarsPress$Tree", name := "labelByte", desc := "(II)I" } : Jvm.MethodName)) ∈ lw_all := lw_g (lw_at lw_m9 178 rfl) rfl
theorem q2453 : (Jvm.Cond.code ({ cls := "ScholarsPress$Tree", name := "labelByte", desc := "(II)I" } : Jvm.MethodName) prog_18_method_26_code (3 : Nat) (Option.some Jvm.ClassFile.FieldType.int)) ∈ lw_all := lw_g (lw_at lw_m9 179 rfl) rfl
theorem q2454 : (Jvm.Cond.methodLink "ScholarsPress$Tree" (285 : Nat) ({ cls := "ScholarsPress$Tree", name := "putTitle", desc := "(LScholarsPress$Bytes;I)V" } : Jvm.MethodName)) ∈ lw_all := lw_g (lw_at lw_m9 180 rfl) rfl
theorem q2455 : (Jvm.Cond.privateMethod ({ cls := "ScholarsPress$Tree", name := "putTitle", desc := "(LScholarsPress$Bytes;I)V" } : Jvm.MethodName)) ∈ lw_tbl := lw_at lw_m9 181 rfl
theorem q2456 : (Jvm.Cond.instanceMethod ({ cls := "ScholarsPress$Tree", name := "putTitle", desc := "(LScholarsPress$Bytes;I)V" } : Jvm.MethodName)) ∈ lw_all := lw_g (lw_at lw_m9 182 rfl) rfl
theorem q2457 : (Jvm.Cond.code ({ cls := "ScholarsPress$Tree", name := "putTitle", desc := "(LScholarsPress$Bytes;I)V" } : Jvm.MethodName) prog_18_method_28_code (3 : Nat) (Option.none : Option Jvm.ClassFile.FieldType)) ∈ lw_all := lw_g (lw_at lw_m9 183 rfl) rfl
theorem q2458 : (Jvm.Cond.methodLinkNest "ScholarsPress$Tree" (272 : Nat) ({ cls := "ScholarsPress", name := "isBlank", desc := "(I)Z" } : Jvm.MethodName) "ScholarsPress") ∈ lw_tbl := lw_at lw_m9 184 rfl
theorem q2459 : (Jvm.Cond.methodLinkNest "ScholarsPress$Tree" (300 : Nat) ({ cls := "ScholarsPress$Source", name := "byteOf", desc := "(II)I" } : Jvm.MethodName) "ScholarsPress") ∈ lw_tbl := lw_at lw_m9 185 rfl
theorem q2486 : (Jvm.Cond.privateMethod ({ cls := "ScholarsPress$Tree", name := "isBlock", desc := "(I)Z" } : Jvm.MethodName)) ∈ lw_tbl := lw_at lw_m9 212 rfl
theorem q2487 : (Jvm.Cond.instanceMethod ({ cls := "ScholarsPress$Tree", name := "isBlock", desc := "(I)Z" } : Jvm.MethodName)) ∈ lw_all := lw_g (lw_at lw_m9 213 rfl) rfl
theorem q2488 : (Jvm.Cond.code ({ cls := "ScholarsPress$Tree", name := "isBlock", desc := "(I)Z" } : Jvm.MethodName) prog_18_method_15_code (2 : Nat) (Option.some Jvm.ClassFile.FieldType.boolean)) ∈ lw_all := lw_g (lw_at lw_m9 214 rfl) rfl
theorem in_X7 : ∀ w ∈ wsX70, w ∈ lw_all := lw_in wsX70 [813, 815, 817, 819, 821, 823, 825, 827, 829, 831, 833, 835, 837, 839, 841, 843, 845, 847, 849, 851, 853] (by decide +kernel) (by decide +kernel)
/-! ScholarsPress$Font -/
def RX8 : String := "ScholarsPress$Font"
def TX8 : u_T := fun k => match k with
  | 0 => ("ScholarsPress$Font", "widths", "[I", true)
  | 1 => ("ScholarsPress$Font", "wide", "[Z", true)
  | 2 => ("ScholarsPress$Font", "kerns", "[I", true)
  | 3 => ("ScholarsPress$Font", "joins", "[I", true)
  | _ => ("ScholarsPress$Font", "told", "I", false)
def tyX8 : Nat → FieldType := fun k => match k with
  | 0 => .array .int
  | 1 => .array .boolean
  | 2 => .array .int
  | 3 => .array .int
  | _ => .int
abbrev wsX80 : List Cond := u_ws RX8 TX8 5
theorem nmX8 : ∀ a, a < 5 → ∀ b, b < 5 → a ≠ b → (TX8 a).2.1 ≠ (TX8 b).2.1 := by decide +kernel
theorem tyX8_ok : ∀ k, k < 5 → parseFieldDescriptor (TX8 k).2.2.1 = some (tyX8 k) := by decide +kernel
abbrev cX8_init : ByteArray := prog_7_method_1_code
def yX8_init : MethodName := ⟨RX8, "<init>", "()V"⟩
abbrev cX8_clear : ByteArray := prog_7_method_2_code
def yX8_clear : MethodName := ⟨RX8, "clear", "()V"⟩
abbrev cX8_read : ByteArray := prog_7_method_3_code
def yX8_read : MethodName := ⟨RX8, "read", "(LScholarsPress$Signs;)V"⟩
abbrev cX8_one : ByteArray := prog_7_method_5_code
def yX8_one : MethodName := ⟨RX8, "one", "(LScholarsPress$Signs;)I"⟩
abbrev cX8_two : ByteArray := prog_7_method_4_code
def yX8_two : MethodName := ⟨RX8, "two", "(LScholarsPress$Signs;)I"⟩
abbrev cX8_width : ByteArray := prog_7_method_9_code
def yX8_width : MethodName := ⟨RX8, "width", "([B[III)J"⟩
abbrev cX8_part : ByteArray := prog_7_method_7_code
def yX8_part : MethodName := ⟨RX8, "part", "(II)I"⟩
abbrev cX8_joins : ByteArray := prog_7_method_6_code
def yX8_joins : MethodName := ⟨RX8, "joins", "(II)Z"⟩
abbrev cX8_width_2 : ByteArray := prog_7_method_8_code
def yX8_width_2 : MethodName := ⟨RX8, "width", "(II)I"⟩
theorem q362 : (Jvm.Cond.initialized "ScholarsPress$Font") ∈ lw_all := lw_g (lw_at lw_m1 8 rfl) rfl
theorem q415 : (Jvm.Cond.fieldLinkNest "ScholarsPress$Font" (80 : Nat) "ScholarsPress$Signs" "text" "[B" "ScholarsPress") ∈ lw_tbl := lw_at lw_m1 61 rfl
theorem q419 : (Jvm.Cond.fieldLinkNest "ScholarsPress$Font" (74 : Nat) "ScholarsPress$Signs" "kind" "I" "ScholarsPress") ∈ lw_tbl := lw_at lw_m1 65 rfl
theorem q424 : (Jvm.Cond.fieldLinkNest "ScholarsPress$Font" (84 : Nat) "ScholarsPress$Signs" "from" "I" "ScholarsPress") ∈ lw_tbl := lw_at lw_m1 70 rfl
theorem q427 : (Jvm.Cond.fieldLinkNest "ScholarsPress$Font" (77 : Nat) "ScholarsPress$Signs" "size" "I" "ScholarsPress") ∈ lw_tbl := lw_at lw_m1 73 rfl
theorem q857 : (Jvm.Cond.instantiable "ScholarsPress$Font" (5 : Nat)) ∈ lw_all := lw_g (lw_at lw_m3 23 rfl) rfl
theorem q859 : (Jvm.Cond.instanceMethod ({ cls := "ScholarsPress$Font", name := "<init>", desc := "()V" } : Jvm.MethodName)) ∈ lw_all := lw_g (lw_at lw_m3 25 rfl) rfl
theorem q860 : (Jvm.Cond.code ({ cls := "ScholarsPress$Font", name := "<init>", desc := "()V" } : Jvm.MethodName) prog_7_method_1_code (1 : Nat) (Option.none : Option Jvm.ClassFile.FieldType)) ∈ lw_all := lw_g (lw_at lw_m3 26 rfl) rfl
theorem q861 : (Jvm.Cond.methodLink "ScholarsPress$Font" (3 : Nat) ({ cls := "java/lang/Object", name := "<init>", desc := "()V" } : Jvm.MethodName)) ∈ lw_all := lw_g (lw_at lw_m3 27 rfl) rfl
theorem q862 : (Jvm.Cond.methodLink "ScholarsPress$Font" (25 : Nat) ({ cls := "ScholarsPress$Font", name := "clear", desc := "()V" } : Jvm.MethodName)) ∈ lw_all := lw_g (lw_at lw_m3 28 rfl) rfl
theorem q863 : (Jvm.Cond.privateMethod ({ cls := "ScholarsPress$Font", name := "clear", desc := "()V" } : Jvm.MethodName)) ∈ lw_tbl := lw_at lw_m3 29 rfl
theorem q864 : (Jvm.Cond.instanceMethod ({ cls := "ScholarsPress$Font", name := "clear", desc := "()V" } : Jvm.MethodName)) ∈ lw_all := lw_g (lw_at lw_m3 30 rfl) rfl
theorem q865 : (Jvm.Cond.code ({ cls := "ScholarsPress$Font", name := "clear", desc := "()V" } : Jvm.MethodName) prog_7_method_2_code (2 : Nat) (Option.none : Option Jvm.ClassFile.FieldType)) ∈ lw_all := lw_g (lw_at lw_m3 31 rfl) rfl
theorem q866 : (Jvm.Cond.fieldLink "ScholarsPress$Font" (9 : Nat) "ScholarsPress$Font" "widths" "[I") ∈ lw_all := lw_g (lw_at lw_m3 32 rfl) rfl
theorem q867 : (Jvm.Cond.fieldLink "ScholarsPress$Font" (15 : Nat) "ScholarsPress$Font" "wide" "[Z") ∈ lw_all := lw_g (lw_at lw_m3 33 rfl) rfl
theorem q868 : (Jvm.Cond.fieldLink "ScholarsPress$Font" (19 : Nat) "ScholarsPress$Font" "kerns" "[I") ∈ lw_all := lw_g (lw_at lw_m3 34 rfl) rfl
theorem q869 : (Jvm.Cond.fieldLink "ScholarsPress$Font" (22 : Nat) "ScholarsPress$Font" "joins" "[I") ∈ lw_all := lw_g (lw_at lw_m3 35 rfl) rfl
theorem q870 : (Jvm.Cond.fieldLink "ScholarsPress$Font" (28 : Nat) "ScholarsPress$Font" "told" "I") ∈ lw_all := lw_g (lw_at lw_m3 36 rfl) rfl
theorem q872 : (Jvm.Cond.laysFinal "ScholarsPress$Font" "ScholarsPress$Font" "widths" "[I") ∈ lw_all := lw_g (lw_at lw_m3 38 rfl) rfl
theorem q873 : (Jvm.Cond.soleField "ScholarsPress$Font" "widths") ∈ lw_all := lw_g (lw_at lw_m3 39 rfl) rfl
theorem q874 : (Jvm.Cond.laysFinal "ScholarsPress$Font" "ScholarsPress$Font" "wide" "[Z") ∈ lw_all := lw_g (lw_at lw_m3 40 rfl) rfl
theorem q875 : (Jvm.Cond.soleField "ScholarsPress$Font" "wide") ∈ lw_all := lw_g (lw_at lw_m3 41 rfl) rfl
theorem q876 : (Jvm.Cond.laysFinal "ScholarsPress$Font" "ScholarsPress$Font" "kerns" "[I") ∈ lw_all := lw_g (lw_at lw_m3 42 rfl) rfl
theorem q877 : (Jvm.Cond.soleField "ScholarsPress$Font" "kerns") ∈ lw_all := lw_g (lw_at lw_m3 43 rfl) rfl
theorem q878 : (Jvm.Cond.laysFinal "ScholarsPress$Font" "ScholarsPress$Font" "joins" "[I") ∈ lw_all := lw_g (lw_at lw_m3 44 rfl) rfl
theorem q879 : (Jvm.Cond.soleField "ScholarsPress$Font" "joins") ∈ lw_all := lw_g (lw_at lw_m3 45 rfl) rfl
theorem q880 : (Jvm.Cond.lays "ScholarsPress$Font" "ScholarsPress$Font" "told" "I") ∈ lw_all := lw_g (lw_at lw_m3 46 rfl) rfl
theorem q881 : (Jvm.Cond.soleField "ScholarsPress$Font" "told") ∈ lw_all := lw_g (lw_at lw_m3 47 rfl) rfl
theorem q882 : (Jvm.Cond.superclass "ScholarsPress$Font" "java/lang/Object") ∈ lw_all := lw_g (lw_at lw_m3 48 rfl) rfl
theorem q1755 : (Jvm.Cond.privateMethod ({ cls := "ScholarsPress$Font", name := "read", desc := "(LScholarsPress$Signs;)V" } : Jvm.MethodName)) ∈ lw_tbl := lw_at lw_m6 201 rfl
theorem q1756 : (Jvm.Cond.instanceMethod ({ cls := "ScholarsPress$Font", name := "read", desc := "(LScholarsPress$Signs;)V" } : Jvm.MethodName)) ∈ lw_all := lw_g (lw_at lw_m6 202 rfl) rfl
theorem q1757 : (Jvm.Cond.code ({ cls := "ScholarsPress$Font", name := "read", desc := "(LScholarsPress$Signs;)V" } : Jvm.MethodName) prog_7_method_3_code (8 : Nat) (Option.none : Option Jvm.ClassFile.FieldType)) ∈ lw_all := lw_g (lw_at lw_m6 203 rfl) rfl
theorem q1758 : (Jvm.Cond.methodLinkNest "ScholarsPress$Font" (32 : Nat) ({ cls := "ScholarsPress$Signs", name := "isEnd", desc := "()Z" } : Jvm.MethodName) "ScholarsPress") ∈ lw_tbl := lw_at lw_m6 204 rfl
theorem q1762 : (Jvm.Cond.stringRef "ScholarsPress$Font" (38 : Nat) "width") ∈ lw_tbl := lw_at lw_m6 208 rfl
theorem q1763 : (Jvm.Cond.methodLinkNest "ScholarsPress$Font" (40 : Nat) ({ cls := "ScholarsPress$Signs", name := "isName", desc := "(Ljava/lang/String;)Z" } : Jvm.MethodName) "ScholarsPress") ∈ lw_tbl := lw_at lw_m6 209 rfl
theorem q1815 : (Jvm.Cond.methodLinkNest "ScholarsPress$Font" (44 : Nat) ({ cls := "ScholarsPress$Signs", name := "next", desc := "()V" } : Jvm.MethodName) "ScholarsPress") ∈ lw_tbl := lw_at lw_m7 21 rfl
theorem q1816 : (Jvm.Cond.methodLink "ScholarsPress$Font" (47 : Nat) ({ cls := "ScholarsPress$Font", name := "one", desc := "(LScholarsPress$Signs;)I" } : Jvm.MethodName)) ∈ lw_all := lw_g (lw_at lw_m7 22 rfl) rfl
theorem q1817 : (Jvm.Cond.static ({ cls := "ScholarsPress$Font", name := "one", desc := "(LScholarsPress$Signs;)I" } : Jvm.MethodName)) ∈ lw_all := lw_g (lw_at lw_m7 23 rfl) rfl
theorem q1818 : (Jvm.Cond.code ({ cls := "ScholarsPress$Font", name := "one", desc := "(LScholarsPress$Signs;)I" } : Jvm.MethodName) prog_7_method_5_code (2 : Nat) (Option.some Jvm.ClassFile.FieldType.int)) ∈ lw_all := lw_g (lw_at lw_m7 24 rfl) rfl
theorem q1819 : (Jvm.Cond.methodLink "ScholarsPress$Font" (57 : Nat) ({ cls := "ScholarsPress$Font", name := "two", desc := "(LScholarsPress$Signs;)I" } : Jvm.MethodName)) ∈ lw_all := lw_g (lw_at lw_m7 25 rfl) rfl
theorem q1820 : (Jvm.Cond.static ({ cls := "ScholarsPress$Font", name := "two", desc := "(LScholarsPress$Signs;)I" } : Jvm.MethodName)) ∈ lw_all := lw_g (lw_at lw_m7 26 rfl) rfl
theorem q1821 : (Jvm.Cond.code ({ cls := "ScholarsPress$Font", name := "two", desc := "(LScholarsPress$Signs;)I" } : Jvm.MethodName) prog_7_method_4_code (1 : Nat) (Option.some Jvm.ClassFile.FieldType.int)) ∈ lw_all := lw_g (lw_at lw_m7 27 rfl) rfl
theorem q1822 : (Jvm.Cond.methodLinkNest "ScholarsPress$Font" (60 : Nat) ({ cls := "ScholarsPress$Signs", name := "broken", desc := "()LScholarsPress$Broken;" } : Jvm.MethodName) "ScholarsPress") ∈ lw_tbl := lw_at lw_m7 28 rfl
theorem q1858 : (Jvm.Cond.methodLinkNest "ScholarsPress$Font" (51 : Nat) ({ cls := "ScholarsPress$Signs", name := "needNumber", desc := "(II)I" } : Jvm.MethodName) "ScholarsPress") ∈ lw_tbl := lw_at lw_m7 64 rfl
theorem q1863 : (Jvm.Cond.stringRef "ScholarsPress$Font" (55 : Nat) "kern") ∈ lw_tbl := lw_at lw_m7 69 rfl
theorem q1864 : (Jvm.Cond.methodLinkNest "ScholarsPress$Font" (64 : Nat) ({ cls := "ScholarsPress$Signs", name := "take", desc := "(I)Z" } : Jvm.MethodName) "ScholarsPress") ∈ lw_tbl := lw_at lw_m7 70 rfl
theorem q1872 : (Jvm.Cond.stringRef "ScholarsPress$Font" (68 : Nat) "join") ∈ lw_tbl := lw_at lw_m7 78 rfl
theorem q1873 : (Jvm.Cond.methodLinkNest "ScholarsPress$Font" (70 : Nat) ({ cls := "ScholarsPress$Signs", name := "need", desc := "(I)V" } : Jvm.MethodName) "ScholarsPress") ∈ lw_tbl := lw_at lw_m7 79 rfl
theorem q2650 : (Jvm.Cond.privateMethod ({ cls := "ScholarsPress$Font", name := "width", desc := "([B[III)J" } : Jvm.MethodName)) ∈ lw_tbl := lw_at lw_m10 136 rfl
theorem q2651 : (Jvm.Cond.instanceMethod ({ cls := "ScholarsPress$Font", name := "width", desc := "([B[III)J" } : Jvm.MethodName)) ∈ lw_all := lw_g (lw_at lw_m10 137 rfl) rfl
theorem q2652 : (Jvm.Cond.code ({ cls := "ScholarsPress$Font", name := "width", desc := "([B[III)J" } : Jvm.MethodName) prog_7_method_9_code (13 : Nat) (Option.some Jvm.ClassFile.FieldType.long)) ∈ lw_all := lw_g (lw_at lw_m10 138 rfl) rfl
theorem q2653 : (Jvm.Cond.methodLink "ScholarsPress$Font" (89 : Nat) ({ cls := "ScholarsPress$Font", name := "part", desc := "(II)I" } : Jvm.MethodName)) ∈ lw_all := lw_g (lw_at lw_m10 139 rfl) rfl
theorem q2654 : (Jvm.Cond.static ({ cls := "ScholarsPress$Font", name := "part", desc := "(II)I" } : Jvm.MethodName)) ∈ lw_all := lw_g (lw_at lw_m10 140 rfl) rfl
theorem q2655 : (Jvm.Cond.code ({ cls := "ScholarsPress$Font", name := "part", desc := "(II)I" } : Jvm.MethodName) prog_7_method_7_code (2 : Nat) (Option.some Jvm.ClassFile.FieldType.int)) ∈ lw_all := lw_g (lw_at lw_m10 141 rfl) rfl
theorem q2656 : (Jvm.Cond.constantLong "ScholarsPress$Font" (87 : Nat) (1000 : Int64)) ∈ lw_all := lw_g (lw_at lw_m10 142 rfl) rfl
theorem q2657 : (Jvm.Cond.methodLink "ScholarsPress$Font" (92 : Nat) ({ cls := "ScholarsPress$Font", name := "joins", desc := "(II)Z" } : Jvm.MethodName)) ∈ lw_all := lw_g (lw_at lw_m10 143 rfl) rfl
theorem q2658 : (Jvm.Cond.privateMethod ({ cls := "ScholarsPress$Font", name := "joins", desc := "(II)Z" } : Jvm.MethodName)) ∈ lw_tbl := lw_at lw_m10 144 rfl
theorem q2659 : (Jvm.Cond.instanceMethod ({ cls := "ScholarsPress$Font", name := "joins", desc := "(II)Z" } : Jvm.MethodName)) ∈ lw_all := lw_g (lw_at lw_m10 145 rfl) rfl
theorem q2660 : (Jvm.Cond.code ({ cls := "ScholarsPress$Font", name := "joins", desc := "(II)Z" } : Jvm.MethodName) prog_7_method_6_code (3 : Nat) (Option.some Jvm.ClassFile.FieldType.boolean)) ∈ lw_all := lw_g (lw_at lw_m10 146 rfl) rfl
theorem q2666 : (Jvm.Cond.privateMethod ({ cls := "ScholarsPress$Font", name := "width", desc := "(II)I" } : Jvm.MethodName)) ∈ lw_tbl := lw_at lw_m10 152 rfl
theorem q2667 : (Jvm.Cond.instanceMethod ({ cls := "ScholarsPress$Font", name := "width", desc := "(II)I" } : Jvm.MethodName)) ∈ lw_all := lw_g (lw_at lw_m10 153 rfl) rfl
theorem q2668 : (Jvm.Cond.code ({ cls := "ScholarsPress$Font", name := "width", desc := "(II)I" } : Jvm.MethodName) prog_7_method_8_code (3 : Nat) (Option.some Jvm.ClassFile.FieldType.int)) ∈ lw_all := lw_g (lw_at lw_m10 154 rfl) rfl
theorem in_X8 : ∀ w ∈ wsX80, w ∈ lw_all := lw_in wsX80 [872, 874, 876, 878, 880] (by decide +kernel) (by decide +kernel)
/-! ScholarsPress$Hyphens -/
def RX9 : String := "ScholarsPress$Hyphens"
def TX9 : u_T := fun k => match k with
  | 0 => ("ScholarsPress$Hyphens", "least", "I", false)
  | 1 => ("ScholarsPress$Hyphens", "rest", "I", false)
  | 2 => ("ScholarsPress$Hyphens", "letter", "[I", true)
  | 3 => ("ScholarsPress$Hyphens", "child", "[I", true)
  | 4 => ("ScholarsPress$Hyphens", "sibling", "[I", true)
  | 5 => ("ScholarsPress$Hyphens", "patternOf", "[I", true)
  | 6 => ("ScholarsPress$Hyphens", "nodes", "I", false)
  | 7 => ("ScholarsPress$Hyphens", "digitStart", "[I", true)
  | 8 => ("ScholarsPress$Hyphens", "digits", "[B", true)
  | 9 => ("ScholarsPress$Hyphens", "digitMany", "I", false)
  | 10 => ("ScholarsPress$Hyphens", "patterns", "I", false)
  | 11 => ("ScholarsPress$Hyphens", "letters", "[B", true)
  | 12 => ("ScholarsPress$Hyphens", "marks", "[Z", true)
  | 13 => ("ScholarsPress$Hyphens", "sizes", "[I", true)
  | 14 => ("ScholarsPress$Hyphens", "exceptions", "I", false)
  | 15 => ("ScholarsPress$Hyphens", "word", "[B", true)
  | 16 => ("ScholarsPress$Hyphens", "mark", "[Z", true)
  | 17 => ("ScholarsPress$Hyphens", "told", "[B", true)
  | _ => ("ScholarsPress$Hyphens", "greatest", "[I", true)
def tyX9 : Nat → FieldType := fun k => match k with
  | 0 => .int
  | 1 => .int
  | 2 => .array .int
  | 3 => .array .int
  | 4 => .array .int
  | 5 => .array .int
  | 6 => .int
  | 7 => .array .int
  | 8 => .array .byte
  | 9 => .int
  | 10 => .int
  | 11 => .array .byte
  | 12 => .array .boolean
  | 13 => .array .int
  | 14 => .int
  | 15 => .array .byte
  | 16 => .array .boolean
  | 17 => .array .byte
  | _ => .array .int
abbrev wsX90 : List Cond := u_ws RX9 TX9 19
theorem nmX9 : ∀ a, a < 19 → ∀ b, b < 19 → a ≠ b → (TX9 a).2.1 ≠ (TX9 b).2.1 := by decide +kernel
theorem tyX9_ok : ∀ k, k < 19 → parseFieldDescriptor (TX9 k).2.2.1 = some (tyX9 k) := by decide +kernel
abbrev cX9_init : ByteArray := prog_8_method_1_code
def yX9_init : MethodName := ⟨RX9, "<init>", "()V"⟩
abbrev cX9_clear : ByteArray := prog_8_method_2_code
def yX9_clear : MethodName := ⟨RX9, "clear", "()V"⟩
abbrev cX9_read : ByteArray := prog_8_method_3_code
def yX9_read : MethodName := ⟨RX9, "read", "([BI)V"⟩
abbrev cX9_skip : ByteArray := prog_8_method_5_code
def yX9_skip : MethodName := ⟨RX9, "skip", "([BII)I"⟩
abbrev cX9_wordEnd : ByteArray := prog_8_method_6_code
def yX9_wordEnd : MethodName := ⟨RX9, "wordEnd", "([BII)I"⟩
abbrev cX9_isEnds : ByteArray := prog_8_method_7_code
def yX9_isEnds : MethodName := ⟨RX9, "isEnds", "([BII)Z"⟩
abbrev cX9_isCount : ByteArray := prog_8_method_4_code
def yX9_isCount : MethodName := ⟨RX9, "isCount", "(I)Z"⟩
abbrev cX9_exception : ByteArray := prog_8_method_8_code
def yX9_exception : MethodName := ⟨RX9, "exception", "([BII)V"⟩
abbrev cX9_exceptionOf : ByteArray := prog_8_method_9_code
def yX9_exceptionOf : MethodName := ⟨RX9, "exceptionOf", "([BII)I"⟩
abbrev cX9_pattern : ByteArray := prog_8_method_10_code
def yX9_pattern : MethodName := ⟨RX9, "pattern", "([BII)V"⟩
abbrev cX9_step : ByteArray := prog_8_method_12_code
def yX9_step : MethodName := ⟨RX9, "step", "(II)I"⟩
abbrev cX9_find : ByteArray := prog_8_method_11_code
def yX9_find : MethodName := ⟨RX9, "find", "(II)I"⟩
abbrev cX9_places : ByteArray := prog_8_method_13_code
def yX9_places : MethodName := ⟨RX9, "places", "([BII[ZI)V"⟩
abbrev cX9_byPatterns : ByteArray := prog_8_method_14_code
def yX9_byPatterns : MethodName := ⟨RX9, "byPatterns", "([BII[ZI)V"⟩
abbrev cX9_raise : ByteArray := prog_8_method_15_code
def yX9_raise : MethodName := ⟨RX9, "raise", "(III)V"⟩
theorem q363 : (Jvm.Cond.initialized "ScholarsPress$Hyphens") ∈ lw_all := lw_g (lw_at lw_m1 9 rfl) rfl
theorem q884 : (Jvm.Cond.instantiable "ScholarsPress$Hyphens" (19 : Nat)) ∈ lw_all := lw_g (lw_at lw_m3 50 rfl) rfl
theorem q886 : (Jvm.Cond.instanceMethod ({ cls := "ScholarsPress$Hyphens", name := "<init>", desc := "()V" } : Jvm.MethodName)) ∈ lw_all := lw_g (lw_at lw_m3 52 rfl) rfl
theorem q887 : (Jvm.Cond.code ({ cls := "ScholarsPress$Hyphens", name := "<init>", desc := "()V" } : Jvm.MethodName) prog_8_method_1_code (1 : Nat) (Option.none : Option Jvm.ClassFile.FieldType)) ∈ lw_all := lw_g (lw_at lw_m3 53 rfl) rfl
theorem q888 : (Jvm.Cond.methodLink "ScholarsPress$Hyphens" (5 : Nat) ({ cls := "java/lang/Object", name := "<init>", desc := "()V" } : Jvm.MethodName)) ∈ lw_all := lw_g (lw_at lw_m3 54 rfl) rfl
theorem q889 : (Jvm.Cond.methodLink "ScholarsPress$Hyphens" (60 : Nat) ({ cls := "ScholarsPress$Hyphens", name := "clear", desc := "()V" } : Jvm.MethodName)) ∈ lw_all := lw_g (lw_at lw_m3 55 rfl) rfl
theorem q890 : (Jvm.Cond.privateMethod ({ cls := "ScholarsPress$Hyphens", name := "clear", desc := "()V" } : Jvm.MethodName)) ∈ lw_tbl := lw_at lw_m3 56 rfl
theorem q891 : (Jvm.Cond.instanceMethod ({ cls := "ScholarsPress$Hyphens", name := "clear", desc := "()V" } : Jvm.MethodName)) ∈ lw_all := lw_g (lw_at lw_m3 57 rfl) rfl
theorem q892 : (Jvm.Cond.code ({ cls := "ScholarsPress$Hyphens", name := "clear", desc := "()V" } : Jvm.MethodName) prog_8_method_2_code (1 : Nat) (Option.none : Option Jvm.ClassFile.FieldType)) ∈ lw_all := lw_g (lw_at lw_m3 58 rfl) rfl
theorem q893 : (Jvm.Cond.fieldLink "ScholarsPress$Hyphens" (11 : Nat) "ScholarsPress$Hyphens" "least" "I") ∈ lw_all := lw_g (lw_at lw_m3 59 rfl) rfl
theorem q894 : (Jvm.Cond.fieldLink "ScholarsPress$Hyphens" (15 : Nat) "ScholarsPress$Hyphens" "rest" "I") ∈ lw_all := lw_g (lw_at lw_m3 60 rfl) rfl
theorem q895 : (Jvm.Cond.fieldLink "ScholarsPress$Hyphens" (18 : Nat) "ScholarsPress$Hyphens" "letter" "[I") ∈ lw_all := lw_g (lw_at lw_m3 61 rfl) rfl
theorem q896 : (Jvm.Cond.fieldLink "ScholarsPress$Hyphens" (22 : Nat) "ScholarsPress$Hyphens" "child" "[I") ∈ lw_all := lw_g (lw_at lw_m3 62 rfl) rfl
theorem q897 : (Jvm.Cond.fieldLink "ScholarsPress$Hyphens" (25 : Nat) "ScholarsPress$Hyphens" "sibling" "[I") ∈ lw_all := lw_g (lw_at lw_m3 63 rfl) rfl
theorem q898 : (Jvm.Cond.fieldLink "ScholarsPress$Hyphens" (28 : Nat) "ScholarsPress$Hyphens" "patternOf" "[I") ∈ lw_all := lw_g (lw_at lw_m3 64 rfl) rfl
theorem q899 : (Jvm.Cond.fieldLink "ScholarsPress$Hyphens" (63 : Nat) "ScholarsPress$Hyphens" "nodes" "I") ∈ lw_all := lw_g (lw_at lw_m3 65 rfl) rfl
theorem q900 : (Jvm.Cond.fieldLink "ScholarsPress$Hyphens" (31 : Nat) "ScholarsPress$Hyphens" "digitStart" "[I") ∈ lw_all := lw_g (lw_at lw_m3 66 rfl) rfl
theorem q901 : (Jvm.Cond.fieldLink "ScholarsPress$Hyphens" (34 : Nat) "ScholarsPress$Hyphens" "digits" "[B") ∈ lw_all := lw_g (lw_at lw_m3 67 rfl) rfl
theorem q902 : (Jvm.Cond.fieldLink "ScholarsPress$Hyphens" (66 : Nat) "ScholarsPress$Hyphens" "digitMany" "I") ∈ lw_all := lw_g (lw_at lw_m3 68 rfl) rfl
theorem q903 : (Jvm.Cond.fieldLink "ScholarsPress$Hyphens" (69 : Nat) "ScholarsPress$Hyphens" "patterns" "I") ∈ lw_all := lw_g (lw_at lw_m3 69 rfl) rfl
theorem q905 : (Jvm.Cond.fieldLink "ScholarsPress$Hyphens" (38 : Nat) "ScholarsPress$Hyphens" "letters" "[B") ∈ lw_all := lw_g (lw_at lw_m3 71 rfl) rfl
theorem q906 : (Jvm.Cond.fieldLink "ScholarsPress$Hyphens" (41 : Nat) "ScholarsPress$Hyphens" "marks" "[Z") ∈ lw_all := lw_g (lw_at lw_m3 72 rfl) rfl
theorem q907 : (Jvm.Cond.fieldLink "ScholarsPress$Hyphens" (45 : Nat) "ScholarsPress$Hyphens" "sizes" "[I") ∈ lw_all := lw_g (lw_at lw_m3 73 rfl) rfl
theorem q908 : (Jvm.Cond.fieldLink "ScholarsPress$Hyphens" (72 : Nat) "ScholarsPress$Hyphens" "exceptions" "I") ∈ lw_all := lw_g (lw_at lw_m3 74 rfl) rfl
theorem q910 : (Jvm.Cond.fieldLink "ScholarsPress$Hyphens" (48 : Nat) "ScholarsPress$Hyphens" "word" "[B") ∈ lw_all := lw_g (lw_at lw_m3 76 rfl) rfl
theorem q911 : (Jvm.Cond.fieldLink "ScholarsPress$Hyphens" (51 : Nat) "ScholarsPress$Hyphens" "mark" "[Z") ∈ lw_all := lw_g (lw_at lw_m3 77 rfl) rfl
theorem q912 : (Jvm.Cond.fieldLink "ScholarsPress$Hyphens" (54 : Nat) "ScholarsPress$Hyphens" "told" "[B") ∈ lw_all := lw_g (lw_at lw_m3 78 rfl) rfl
theorem q913 : (Jvm.Cond.fieldLink "ScholarsPress$Hyphens" (57 : Nat) "ScholarsPress$Hyphens" "greatest" "[I") ∈ lw_all := lw_g (lw_at lw_m3 79 rfl) rfl
theorem q914 : (Jvm.Cond.lays "ScholarsPress$Hyphens" "ScholarsPress$Hyphens" "least" "I") ∈ lw_all := lw_g (lw_at lw_m3 80 rfl) rfl
theorem q915 : (Jvm.Cond.soleField "ScholarsPress$Hyphens" "least") ∈ lw_all := lw_g (lw_at lw_m3 81 rfl) rfl
theorem q916 : (Jvm.Cond.lays "ScholarsPress$Hyphens" "ScholarsPress$Hyphens" "rest" "I") ∈ lw_all := lw_g (lw_at lw_m3 82 rfl) rfl
theorem q917 : (Jvm.Cond.soleField "ScholarsPress$Hyphens" "rest") ∈ lw_all := lw_g (lw_at lw_m3 83 rfl) rfl
theorem q918 : (Jvm.Cond.laysFinal "ScholarsPress$Hyphens" "ScholarsPress$Hyphens" "letter" "[I") ∈ lw_all := lw_g (lw_at lw_m3 84 rfl) rfl
theorem q919 : (Jvm.Cond.soleField "ScholarsPress$Hyphens" "letter") ∈ lw_all := lw_g (lw_at lw_m3 85 rfl) rfl
theorem q920 : (Jvm.Cond.laysFinal "ScholarsPress$Hyphens" "ScholarsPress$Hyphens" "child" "[I") ∈ lw_all := lw_g (lw_at lw_m3 86 rfl) rfl
theorem q921 : (Jvm.Cond.soleField "ScholarsPress$Hyphens" "child") ∈ lw_all := lw_g (lw_at lw_m3 87 rfl) rfl
theorem q922 : (Jvm.Cond.laysFinal "ScholarsPress$Hyphens" "ScholarsPress$Hyphens" "sibling" "[I") ∈ lw_all := lw_g (lw_at lw_m3 88 rfl) rfl
theorem q923 : (Jvm.Cond.soleField "ScholarsPress$Hyphens" "sibling") ∈ lw_all := lw_g (lw_at lw_m3 89 rfl) rfl
theorem q924 : (Jvm.Cond.laysFinal "ScholarsPress$Hyphens" "ScholarsPress$Hyphens" "patternOf" "[I") ∈ lw_all := lw_g (lw_at lw_m3 90 rfl) rfl
theorem q925 : (Jvm.Cond.soleField "ScholarsPress$Hyphens" "patternOf") ∈ lw_all := lw_g (lw_at lw_m3 91 rfl) rfl
theorem q926 : (Jvm.Cond.lays "ScholarsPress$Hyphens" "ScholarsPress$Hyphens" "nodes" "I") ∈ lw_all := lw_g (lw_at lw_m3 92 rfl) rfl
theorem q927 : (Jvm.Cond.soleField "ScholarsPress$Hyphens" "nodes") ∈ lw_all := lw_g (lw_at lw_m3 93 rfl) rfl
theorem q928 : (Jvm.Cond.laysFinal "ScholarsPress$Hyphens" "ScholarsPress$Hyphens" "digitStart" "[I") ∈ lw_all := lw_g (lw_at lw_m3 94 rfl) rfl
theorem q929 : (Jvm.Cond.soleField "ScholarsPress$Hyphens" "digitStart") ∈ lw_all := lw_g (lw_at lw_m3 95 rfl) rfl
theorem q930 : (Jvm.Cond.laysFinal "ScholarsPress$Hyphens" "ScholarsPress$Hyphens" "digits" "[B") ∈ lw_all := lw_g (lw_at lw_m3 96 rfl) rfl
theorem q931 : (Jvm.Cond.soleField "ScholarsPress$Hyphens" "digits") ∈ lw_all := lw_g (lw_at lw_m3 97 rfl) rfl
theorem q932 : (Jvm.Cond.lays "ScholarsPress$Hyphens" "ScholarsPress$Hyphens" "digitMany" "I") ∈ lw_all := lw_g (lw_at lw_m3 98 rfl) rfl
theorem q933 : (Jvm.Cond.soleField "ScholarsPress$Hyphens" "digitMany") ∈ lw_all := lw_g (lw_at lw_m3 99 rfl) rfl
theorem q934 : (Jvm.Cond.lays "ScholarsPress$Hyphens" "ScholarsPress$Hyphens" "patterns" "I") ∈ lw_all := lw_g (lw_at lw_m3 100 rfl) rfl
theorem q935 : (Jvm.Cond.soleField "ScholarsPress$Hyphens" "patterns") ∈ lw_all := lw_g (lw_at lw_m3 101 rfl) rfl
theorem q936 : (Jvm.Cond.laysFinal "ScholarsPress$Hyphens" "ScholarsPress$Hyphens" "letters" "[B") ∈ lw_all := lw_g (lw_at lw_m3 102 rfl) rfl
theorem q937 : (Jvm.Cond.soleField "ScholarsPress$Hyphens" "letters") ∈ lw_all := lw_g (lw_at lw_m3 103 rfl) rfl
theorem q938 : (Jvm.Cond.laysFinal "ScholarsPress$Hyphens" "ScholarsPress$Hyphens" "marks" "[Z") ∈ lw_all := lw_g (lw_at lw_m3 104 rfl) rfl
theorem q939 : (Jvm.Cond.soleField "ScholarsPress$Hyphens" "marks") ∈ lw_all := lw_g (lw_at lw_m3 105 rfl) rfl
theorem q940 : (Jvm.Cond.laysFinal "ScholarsPress$Hyphens" "ScholarsPress$Hyphens" "sizes" "[I") ∈ lw_all := lw_g (lw_at lw_m3 106 rfl) rfl
theorem q941 : (Jvm.Cond.soleField "ScholarsPress$Hyphens" "sizes") ∈ lw_all := lw_g (lw_at lw_m3 107 rfl) rfl
theorem q942 : (Jvm.Cond.lays "ScholarsPress$Hyphens" "ScholarsPress$Hyphens" "exceptions" "I") ∈ lw_all := lw_g (lw_at lw_m3 108 rfl) rfl
theorem q943 : (Jvm.Cond.soleField "ScholarsPress$Hyphens" "exceptions") ∈ lw_all := lw_g (lw_at lw_m3 109 rfl) rfl
theorem q944 : (Jvm.Cond.laysFinal "ScholarsPress$Hyphens" "ScholarsPress$Hyphens" "word" "[B") ∈ lw_all := lw_g (lw_at lw_m3 110 rfl) rfl
theorem q945 : (Jvm.Cond.soleField "ScholarsPress$Hyphens" "word") ∈ lw_all := lw_g (lw_at lw_m3 111 rfl) rfl
theorem q946 : (Jvm.Cond.laysFinal "ScholarsPress$Hyphens" "ScholarsPress$Hyphens" "mark" "[Z") ∈ lw_all := lw_g (lw_at lw_m3 112 rfl) rfl
theorem q947 : (Jvm.Cond.soleField "ScholarsPress$Hyphens" "mark") ∈ lw_all := lw_g (lw_at lw_m3 113 rfl) rfl
theorem q948 : (Jvm.Cond.laysFinal "ScholarsPress$Hyphens" "ScholarsPress$Hyphens" "told" "[B") ∈ lw_all := lw_g (lw_at lw_m3 114 rfl) rfl
theorem q949 : (Jvm.Cond.soleField "ScholarsPress$Hyphens" "told") ∈ lw_all := lw_g (lw_at lw_m3 115 rfl) rfl
theorem q950 : (Jvm.Cond.laysFinal "ScholarsPress$Hyphens" "ScholarsPress$Hyphens" "greatest" "[I") ∈ lw_all := lw_g (lw_at lw_m3 116 rfl) rfl
theorem q951 : (Jvm.Cond.soleField "ScholarsPress$Hyphens" "greatest") ∈ lw_all := lw_g (lw_at lw_m3 117 rfl) rfl
theorem q952 : (Jvm.Cond.superclass "ScholarsPress$Hyphens" "java/lang/Object") ∈ lw_all := lw_g (lw_at lw_m3 118 rfl) rfl
theorem q1905 : (Jvm.Cond.privateMethod ({ cls := "ScholarsPress$Hyphens", name := "read", desc := "([BI)V" } : Jvm.MethodName)) ∈ lw_tbl := lw_at lw_m7 111 rfl
theorem q1906 : (Jvm.Cond.instanceMethod ({ cls := "ScholarsPress$Hyphens", name := "read", desc := "([BI)V" } : Jvm.MethodName)) ∈ lw_all := lw_g (lw_at lw_m7 112 rfl) rfl
theorem q1907 : (Jvm.Cond.code ({ cls := "ScholarsPress$Hyphens", name := "read", desc := "([BI)V" } : Jvm.MethodName) prog_8_method_3_code (5 : Nat) (Option.none : Option Jvm.ClassFile.FieldType)) ∈ lw_all := lw_g (lw_at lw_m7 113 rfl) rfl
theorem q1908 : (Jvm.Cond.methodLink "ScholarsPress$Hyphens" (75 : Nat) ({ cls := "ScholarsPress$Hyphens", name := "skip", desc := "([BII)I" } : Jvm.MethodName)) ∈ lw_all := lw_g (lw_at lw_m7 114 rfl) rfl
theorem q1909 : (Jvm.Cond.privateMethod ({ cls := "ScholarsPress$Hyphens", name := "skip", desc := "([BII)I" } : Jvm.MethodName)) ∈ lw_tbl := lw_at lw_m7 115 rfl
theorem q1910 : (Jvm.Cond.instanceMethod ({ cls := "ScholarsPress$Hyphens", name := "skip", desc := "([BII)I" } : Jvm.MethodName)) ∈ lw_all := lw_g (lw_at lw_m7 116 rfl) rfl
theorem q1911 : (Jvm.Cond.code ({ cls := "ScholarsPress$Hyphens", name := "skip", desc := "([BII)I" } : Jvm.MethodName) prog_8_method_5_code (5 : Nat) (Option.some Jvm.ClassFile.FieldType.int)) ∈ lw_all := lw_g (lw_at lw_m7 117 rfl) rfl
theorem q1912 : (Jvm.Cond.methodLinkNest "ScholarsPress$Hyphens" (102 : Nat) ({ cls := "ScholarsPress", name := "isBlank", desc := "(I)Z" } : Jvm.MethodName) "ScholarsPress") ∈ lw_tbl := lw_at lw_m7 118 rfl
theorem q1913 : (Jvm.Cond.methodLink "ScholarsPress$Hyphens" (79 : Nat) ({ cls := "ScholarsPress$Hyphens", name := "wordEnd", desc := "([BII)I" } : Jvm.MethodName)) ∈ lw_all := lw_g (lw_at lw_m7 119 rfl) rfl
theorem q1914 : (Jvm.Cond.privateMethod ({ cls := "ScholarsPress$Hyphens", name := "wordEnd", desc := "([BII)I" } : Jvm.MethodName)) ∈ lw_tbl := lw_at lw_m7 120 rfl
theorem q1915 : (Jvm.Cond.instanceMethod ({ cls := "ScholarsPress$Hyphens", name := "wordEnd", desc := "([BII)I" } : Jvm.MethodName)) ∈ lw_all := lw_g (lw_at lw_m7 121 rfl) rfl
theorem q1916 : (Jvm.Cond.code ({ cls := "ScholarsPress$Hyphens", name := "wordEnd", desc := "([BII)I" } : Jvm.MethodName) prog_8_method_6_code (5 : Nat) (Option.some Jvm.ClassFile.FieldType.int)) ∈ lw_all := lw_g (lw_at lw_m7 122 rfl) rfl
theorem q1917 : (Jvm.Cond.methodLink "ScholarsPress$Hyphens" (82 : Nat) ({ cls := "ScholarsPress$Hyphens", name := "isEnds", desc := "([BII)Z" } : Jvm.MethodName)) ∈ lw_all := lw_g (lw_at lw_m7 123 rfl) rfl
theorem q1918 : (Jvm.Cond.privateMethod ({ cls := "ScholarsPress$Hyphens", name := "isEnds", desc := "([BII)Z" } : Jvm.MethodName)) ∈ lw_tbl := lw_at lw_m7 124 rfl
theorem q1919 : (Jvm.Cond.instanceMethod ({ cls := "ScholarsPress$Hyphens", name := "isEnds", desc := "([BII)Z" } : Jvm.MethodName)) ∈ lw_all := lw_g (lw_at lw_m7 125 rfl) rfl
theorem q1920 : (Jvm.Cond.code ({ cls := "ScholarsPress$Hyphens", name := "isEnds", desc := "([BII)Z" } : Jvm.MethodName) prog_8_method_7_code (4 : Nat) (Option.some Jvm.ClassFile.FieldType.boolean)) ∈ lw_all := lw_g (lw_at lw_m7 126 rfl) rfl
theorem q1921 : (Jvm.Cond.methodLink "ScholarsPress$Hyphens" (86 : Nat) ({ cls := "ScholarsPress$Hyphens", name := "isCount", desc := "(I)Z" } : Jvm.MethodName)) ∈ lw_all := lw_g (lw_at lw_m7 127 rfl) rfl
theorem q1922 : (Jvm.Cond.static ({ cls := "ScholarsPress$Hyphens", name := "isCount", desc := "(I)Z" } : Jvm.MethodName)) ∈ lw_all := lw_g (lw_at lw_m7 128 rfl) rfl
theorem q1923 : (Jvm.Cond.code ({ cls := "ScholarsPress$Hyphens", name := "isCount", desc := "(I)Z" } : Jvm.MethodName) prog_8_method_4_code (1 : Nat) (Option.some Jvm.ClassFile.FieldType.boolean)) ∈ lw_all := lw_g (lw_at lw_m7 129 rfl) rfl
theorem q1924 : (Jvm.Cond.classLink "ScholarsPress$Hyphens" (90 : Nat) "ScholarsPress$Broken") ∈ lw_all := lw_g (lw_at lw_m7 130 rfl) rfl
theorem q1925 : (Jvm.Cond.methodLinkNest "ScholarsPress$Hyphens" (92 : Nat) ({ cls := "ScholarsPress$Broken", name := "<init>", desc := "(I)V" } : Jvm.MethodName) "ScholarsPress") ∈ lw_tbl := lw_at lw_m7 131 rfl
theorem q1926 : (Jvm.Cond.methodLink "ScholarsPress$Hyphens" (95 : Nat) ({ cls := "ScholarsPress$Hyphens", name := "exception", desc := "([BII)V" } : Jvm.MethodName)) ∈ lw_all := lw_g (lw_at lw_m7 132 rfl) rfl
theorem q1927 : (Jvm.Cond.privateMethod ({ cls := "ScholarsPress$Hyphens", name := "exception", desc := "([BII)V" } : Jvm.MethodName)) ∈ lw_tbl := lw_at lw_m7 133 rfl
theorem q1928 : (Jvm.Cond.instanceMethod ({ cls := "ScholarsPress$Hyphens", name := "exception", desc := "([BII)V" } : Jvm.MethodName)) ∈ lw_all := lw_g (lw_at lw_m7 134 rfl) rfl
theorem q1929 : (Jvm.Cond.code ({ cls := "ScholarsPress$Hyphens", name := "exception", desc := "([BII)V" } : Jvm.MethodName) prog_8_method_8_code (7 : Nat) (Option.none : Option Jvm.ClassFile.FieldType)) ∈ lw_all := lw_g (lw_at lw_m7 135 rfl) rfl
theorem q1930 : (Jvm.Cond.methodLinkNest "ScholarsPress$Hyphens" (105 : Nat) ({ cls := "ScholarsPress", name := "isSmall", desc := "(I)Z" } : Jvm.MethodName) "ScholarsPress") ∈ lw_tbl := lw_at lw_m7 136 rfl
theorem q1931 : (Jvm.Cond.methodLink "ScholarsPress$Hyphens" (108 : Nat) ({ cls := "ScholarsPress$Hyphens", name := "exceptionOf", desc := "([BII)I" } : Jvm.MethodName)) ∈ lw_all := lw_g (lw_at lw_m7 137 rfl) rfl
theorem q1932 : (Jvm.Cond.privateMethod ({ cls := "ScholarsPress$Hyphens", name := "exceptionOf", desc := "([BII)I" } : Jvm.MethodName)) ∈ lw_tbl := lw_at lw_m7 138 rfl
theorem q1933 : (Jvm.Cond.instanceMethod ({ cls := "ScholarsPress$Hyphens", name := "exceptionOf", desc := "([BII)I" } : Jvm.MethodName)) ∈ lw_all := lw_g (lw_at lw_m7 139 rfl) rfl
theorem q1934 : (Jvm.Cond.code ({ cls := "ScholarsPress$Hyphens", name := "exceptionOf", desc := "([BII)I" } : Jvm.MethodName) prog_8_method_9_code (7 : Nat) (Option.some Jvm.ClassFile.FieldType.int)) ∈ lw_all := lw_g (lw_at lw_m7 140 rfl) rfl
theorem q1935 : (Jvm.Cond.methodLinkNest "ScholarsPress$Hyphens" (111 : Nat) ({ cls := "ScholarsPress", name := "small", desc := "(I)I" } : Jvm.MethodName) "ScholarsPress") ∈ lw_tbl := lw_at lw_m7 141 rfl
theorem q1938 : (Jvm.Cond.methodLink "ScholarsPress$Hyphens" (99 : Nat) ({ cls := "ScholarsPress$Hyphens", name := "pattern", desc := "([BII)V" } : Jvm.MethodName)) ∈ lw_all := lw_g (lw_at lw_m7 144 rfl) rfl
theorem q1939 : (Jvm.Cond.privateMethod ({ cls := "ScholarsPress$Hyphens", name := "pattern", desc := "([BII)V" } : Jvm.MethodName)) ∈ lw_tbl := lw_at lw_m7 145 rfl
theorem q1940 : (Jvm.Cond.instanceMethod ({ cls := "ScholarsPress$Hyphens", name := "pattern", desc := "([BII)V" } : Jvm.MethodName)) ∈ lw_all := lw_g (lw_at lw_m7 146 rfl) rfl
theorem q1941 : (Jvm.Cond.code ({ cls := "ScholarsPress$Hyphens", name := "pattern", desc := "([BII)V" } : Jvm.MethodName) prog_8_method_10_code (12 : Nat) (Option.none : Option Jvm.ClassFile.FieldType)) ∈ lw_all := lw_g (lw_at lw_m7 147 rfl) rfl
theorem q1942 : (Jvm.Cond.methodLink "ScholarsPress$Hyphens" (115 : Nat) ({ cls := "ScholarsPress$Hyphens", name := "step", desc := "(II)I" } : Jvm.MethodName)) ∈ lw_all := lw_g (lw_at lw_m7 148 rfl) rfl
theorem q1943 : (Jvm.Cond.privateMethod ({ cls := "ScholarsPress$Hyphens", name := "step", desc := "(II)I" } : Jvm.MethodName)) ∈ lw_tbl := lw_at lw_m7 149 rfl
theorem q1944 : (Jvm.Cond.instanceMethod ({ cls := "ScholarsPress$Hyphens", name := "step", desc := "(II)I" } : Jvm.MethodName)) ∈ lw_all := lw_g (lw_at lw_m7 150 rfl) rfl
theorem q1945 : (Jvm.Cond.code ({ cls := "ScholarsPress$Hyphens", name := "step", desc := "(II)I" } : Jvm.MethodName) prog_8_method_12_code (4 : Nat) (Option.some Jvm.ClassFile.FieldType.int)) ∈ lw_all := lw_g (lw_at lw_m7 151 rfl) rfl
theorem q1946 : (Jvm.Cond.methodLink "ScholarsPress$Hyphens" (122 : Nat) ({ cls := "ScholarsPress$Hyphens", name := "find", desc := "(II)I" } : Jvm.MethodName)) ∈ lw_all := lw_g (lw_at lw_m7 152 rfl) rfl
theorem q1947 : (Jvm.Cond.privateMethod ({ cls := "ScholarsPress$Hyphens", name := "find", desc := "(II)I" } : Jvm.MethodName)) ∈ lw_tbl := lw_at lw_m7 153 rfl
theorem q1948 : (Jvm.Cond.instanceMethod ({ cls := "ScholarsPress$Hyphens", name := "find", desc := "(II)I" } : Jvm.MethodName)) ∈ lw_all := lw_g (lw_at lw_m7 154 rfl) rfl
theorem q1949 : (Jvm.Cond.code ({ cls := "ScholarsPress$Hyphens", name := "find", desc := "(II)I" } : Jvm.MethodName) prog_8_method_11_code (4 : Nat) (Option.some Jvm.ClassFile.FieldType.int)) ∈ lw_all := lw_g (lw_at lw_m7 155 rfl) rfl
theorem q1950 : (Jvm.Cond.methodLinkNest "ScholarsPress$Hyphens" (119 : Nat) ({ cls := "ScholarsPress", name := "isDigit", desc := "(I)Z" } : Jvm.MethodName) "ScholarsPress") ∈ lw_tbl := lw_at lw_m7 156 rfl
theorem q2629 : (Jvm.Cond.privateMethod ({ cls := "ScholarsPress$Hyphens", name := "places", desc := "([BII[ZI)V" } : Jvm.MethodName)) ∈ lw_tbl := lw_at lw_m10 115 rfl
theorem q2630 : (Jvm.Cond.instanceMethod ({ cls := "ScholarsPress$Hyphens", name := "places", desc := "([BII[ZI)V" } : Jvm.MethodName)) ∈ lw_all := lw_g (lw_at lw_m10 116 rfl) rfl
theorem q2631 : (Jvm.Cond.code ({ cls := "ScholarsPress$Hyphens", name := "places", desc := "([BII[ZI)V" } : Jvm.MethodName) prog_8_method_13_code (8 : Nat) (Option.none : Option Jvm.ClassFile.FieldType)) ∈ lw_all := lw_g (lw_at lw_m10 117 rfl) rfl
theorem q2632 : (Jvm.Cond.methodLink "ScholarsPress$Hyphens" (125 : Nat) ({ cls := "ScholarsPress$Hyphens", name := "byPatterns", desc := "([BII[ZI)V" } : Jvm.MethodName)) ∈ lw_all := lw_g (lw_at lw_m10 118 rfl) rfl
theorem q2633 : (Jvm.Cond.privateMethod ({ cls := "ScholarsPress$Hyphens", name := "byPatterns", desc := "([BII[ZI)V" } : Jvm.MethodName)) ∈ lw_tbl := lw_at lw_m10 119 rfl
theorem q2634 : (Jvm.Cond.instanceMethod ({ cls := "ScholarsPress$Hyphens", name := "byPatterns", desc := "([BII[ZI)V" } : Jvm.MethodName)) ∈ lw_all := lw_g (lw_at lw_m10 120 rfl) rfl
theorem q2635 : (Jvm.Cond.code ({ cls := "ScholarsPress$Hyphens", name := "byPatterns", desc := "([BII[ZI)V" } : Jvm.MethodName) prog_8_method_14_code (9 : Nat) (Option.none : Option Jvm.ClassFile.FieldType)) ∈ lw_all := lw_g (lw_at lw_m10 121 rfl) rfl
theorem q2636 : (Jvm.Cond.methodLink "ScholarsPress$Hyphens" (129 : Nat) ({ cls := "ScholarsPress$Hyphens", name := "raise", desc := "(III)V" } : Jvm.MethodName)) ∈ lw_all := lw_g (lw_at lw_m10 122 rfl) rfl
theorem q2637 : (Jvm.Cond.privateMethod ({ cls := "ScholarsPress$Hyphens", name := "raise", desc := "(III)V" } : Jvm.MethodName)) ∈ lw_tbl := lw_at lw_m10 123 rfl
theorem q2638 : (Jvm.Cond.instanceMethod ({ cls := "ScholarsPress$Hyphens", name := "raise", desc := "(III)V" } : Jvm.MethodName)) ∈ lw_all := lw_g (lw_at lw_m10 124 rfl) rfl
theorem q2639 : (Jvm.Cond.code ({ cls := "ScholarsPress$Hyphens", name := "raise", desc := "(III)V" } : Jvm.MethodName) prog_8_method_15_code (7 : Nat) (Option.none : Option Jvm.ClassFile.FieldType)) ∈ lw_all := lw_g (lw_at lw_m10 125 rfl) rfl
theorem in_X9 : ∀ w ∈ wsX90, w ∈ lw_all := lw_in wsX90 [914, 916, 918, 920, 922, 924, 926, 928, 930, 932, 934, 936, 938, 940, 942, 944, 946, 948, 950] (by decide +kernel) (by decide +kernel)
/-! ScholarsPress$Desk -/
def RX10 : String := "ScholarsPress$Desk"
def TX10 : u_T := fun k => match k with
  | 0 => ("ScholarsPress$Desk", "work", "LScholarsPress$Work;", true)
  | 1 => ("ScholarsPress$Desk", "flow", "LScholarsPress$Text;", true)
  | 2 => ("ScholarsPress$Desk", "cell", "LScholarsPress$Text;", true)
  | 3 => ("ScholarsPress$Desk", "note", "LScholarsPress$Text;", true)
  | 4 => ("ScholarsPress$Desk", "small", "LScholarsPress$Bytes;", true)
  | 5 => ("ScholarsPress$Desk", "shares", "LScholarsPress$Shares;", true)
  | 6 => ("ScholarsPress$Desk", "blocks", "[I", true)
  | 7 => ("ScholarsPress$Desk", "tableCells", "[I", true)
  | 8 => ("ScholarsPress$Desk", "tableColumns", "[I", true)
  | 9 => ("ScholarsPress$Desk", "cellLeft", "[I", true)
  | 10 => ("ScholarsPress$Desk", "line", "[I", true)
  | 11 => ("ScholarsPress$Desk", "note0", "[I", true)
  | 12 => ("ScholarsPress$Desk", "float0", "[I", true)
  | 13 => ("ScholarsPress$Desk", "cost", "[J", true)
  | 14 => ("ScholarsPress$Desk", "from", "[I", true)
  | 15 => ("ScholarsPress$Desk", "next", "[I", true)
  | 16 => ("ScholarsPress$Desk", "heads", "[I", true)
  | 17 => ("ScholarsPress$Desk", "row", "[I", true)
  | _ => ("ScholarsPress$Desk", "states", "I", false)
def tyX10 : Nat → FieldType := fun k => match k with
  | 0 => .object "ScholarsPress$Work"
  | 1 => .object "ScholarsPress$Text"
  | 2 => .object "ScholarsPress$Text"
  | 3 => .object "ScholarsPress$Text"
  | 4 => .object "ScholarsPress$Bytes"
  | 5 => .object "ScholarsPress$Shares"
  | 6 => .array .int
  | 7 => .array .int
  | 8 => .array .int
  | 9 => .array .int
  | 10 => .array .int
  | 11 => .array .int
  | 12 => .array .int
  | 13 => .array .long
  | 14 => .array .int
  | 15 => .array .int
  | 16 => .array .int
  | 17 => .array .int
  | _ => .int
abbrev wsX100 : List Cond := u_ws RX10 TX10 19
theorem nmX10 : ∀ a, a < 19 → ∀ b, b < 19 → a ≠ b → (TX10 a).2.1 ≠ (TX10 b).2.1 := by decide +kernel
theorem tyX10_ok : ∀ k, k < 19 → parseFieldDescriptor (TX10 k).2.2.1 = some (tyX10 k) := by decide +kernel
abbrev cX10_init : ByteArray := prog_5_method_1_code
def yX10_init : MethodName := ⟨RX10, "<init>", "()V"⟩
abbrev cX10_add : ByteArray := prog_5_method_2_code
def yX10_add : MethodName := ⟨RX10, "add", "()I"⟩
theorem q364 : (Jvm.Cond.initialized "ScholarsPress$Desk") ∈ lw_all := lw_g (lw_at lw_m1 10 rfl) rfl
theorem q954 : (Jvm.Cond.instantiable "ScholarsPress$Desk" (19 : Nat)) ∈ lw_all := lw_g (lw_at lw_m3 120 rfl) rfl
theorem q956 : (Jvm.Cond.instanceMethod ({ cls := "ScholarsPress$Desk", name := "<init>", desc := "()V" } : Jvm.MethodName)) ∈ lw_all := lw_g (lw_at lw_m3 122 rfl) rfl
theorem q957 : (Jvm.Cond.code ({ cls := "ScholarsPress$Desk", name := "<init>", desc := "()V" } : Jvm.MethodName) prog_5_method_1_code (1 : Nat) (Option.none : Option Jvm.ClassFile.FieldType)) ∈ lw_all := lw_g (lw_at lw_m3 123 rfl) rfl
theorem q958 : (Jvm.Cond.methodLink "ScholarsPress$Desk" (3 : Nat) ({ cls := "java/lang/Object", name := "<init>", desc := "()V" } : Jvm.MethodName)) ∈ lw_all := lw_g (lw_at lw_m3 124 rfl) rfl
theorem q959 : (Jvm.Cond.classLink "ScholarsPress$Desk" (9 : Nat) "ScholarsPress$Work") ∈ lw_all := lw_g (lw_at lw_m3 125 rfl) rfl
theorem q961 : (Jvm.Cond.methodLinkNest "ScholarsPress$Desk" (11 : Nat) ({ cls := "ScholarsPress$Work", name := "<init>", desc := "()V" } : Jvm.MethodName) "ScholarsPress") ∈ lw_tbl := lw_at lw_m3 127 rfl
theorem q979 : (Jvm.Cond.classLink "ScholarsPress$Desk" (18 : Nat) "ScholarsPress$Text") ∈ lw_all := lw_g (lw_at lw_m3 145 rfl) rfl
theorem q981 : (Jvm.Cond.methodLinkNest "ScholarsPress$Desk" (20 : Nat) ({ cls := "ScholarsPress$Text", name := "<init>", desc := "()V" } : Jvm.MethodName) "ScholarsPress") ∈ lw_tbl := lw_at lw_m3 147 rfl
theorem q1013 : (Jvm.Cond.classLink "ScholarsPress$Desk" (31 : Nat) "ScholarsPress$Bytes") ∈ lw_all := lw_g (lw_at lw_m3 179 rfl) rfl
theorem q1014 : (Jvm.Cond.methodLinkNest "ScholarsPress$Desk" (33 : Nat) ({ cls := "ScholarsPress$Bytes", name := "<init>", desc := "(I)V" } : Jvm.MethodName) "ScholarsPress") ∈ lw_tbl := lw_at lw_m3 180 rfl
theorem q1015 : (Jvm.Cond.classLink "ScholarsPress$Desk" (40 : Nat) "ScholarsPress$Shares") ∈ lw_all := lw_g (lw_at lw_m3 181 rfl) rfl
theorem q1017 : (Jvm.Cond.methodLinkNest "ScholarsPress$Desk" (42 : Nat) ({ cls := "ScholarsPress$Shares", name := "<init>", desc := "()V" } : Jvm.MethodName) "ScholarsPress") ∈ lw_tbl := lw_at lw_m3 183 rfl
theorem q1036 : (Jvm.Cond.fieldLink "ScholarsPress$Desk" (12 : Nat) "ScholarsPress$Desk" "work" "LScholarsPress$Work;") ∈ lw_all := lw_g (lw_at lw_m3 202 rfl) rfl
theorem q1038 : (Jvm.Cond.fieldLink "ScholarsPress$Desk" (21 : Nat) "ScholarsPress$Desk" "flow" "LScholarsPress$Text;") ∈ lw_all := lw_g (lw_at lw_m3 204 rfl) rfl
theorem q1040 : (Jvm.Cond.fieldLink "ScholarsPress$Desk" (25 : Nat) "ScholarsPress$Desk" "cell" "LScholarsPress$Text;") ∈ lw_all := lw_g (lw_at lw_m3 206 rfl) rfl
theorem q1042 : (Jvm.Cond.fieldLink "ScholarsPress$Desk" (28 : Nat) "ScholarsPress$Desk" "note" "LScholarsPress$Text;") ∈ lw_all := lw_g (lw_at lw_m3 208 rfl) rfl
theorem q1044 : (Jvm.Cond.fieldLink "ScholarsPress$Desk" (36 : Nat) "ScholarsPress$Desk" "small" "LScholarsPress$Bytes;") ∈ lw_all := lw_g (lw_at lw_m3 210 rfl) rfl
theorem q1047 : (Jvm.Cond.fieldLink "ScholarsPress$Desk" (43 : Nat) "ScholarsPress$Desk" "shares" "LScholarsPress$Shares;") ∈ lw_all := lw_g (lw_at lw_m3 213 rfl) rfl
theorem q1049 : (Jvm.Cond.fieldLink "ScholarsPress$Desk" (47 : Nat) "ScholarsPress$Desk" "blocks" "[I") ∈ lw_all := lw_g (lw_at lw_m3 215 rfl) rfl
theorem q1051 : (Jvm.Cond.fieldLink "ScholarsPress$Desk" (51 : Nat) "ScholarsPress$Desk" "tableCells" "[I") ∈ lw_all := lw_g (lw_at lw_m3 217 rfl) rfl
theorem q1053 : (Jvm.Cond.fieldLink "ScholarsPress$Desk" (54 : Nat) "ScholarsPress$Desk" "tableColumns" "[I") ∈ lw_all := lw_g (lw_at lw_m3 219 rfl) rfl
theorem q1055 : (Jvm.Cond.fieldLink "ScholarsPress$Desk" (57 : Nat) "ScholarsPress$Desk" "cellLeft" "[I") ∈ lw_all := lw_g (lw_at lw_m3 221 rfl) rfl
theorem q1057 : (Jvm.Cond.fieldLink "ScholarsPress$Desk" (60 : Nat) "ScholarsPress$Desk" "line" "[I") ∈ lw_all := lw_g (lw_at lw_m3 223 rfl) rfl
theorem q1059 : (Jvm.Cond.fieldLink "ScholarsPress$Desk" (63 : Nat) "ScholarsPress$Desk" "note0" "[I") ∈ lw_all := lw_g (lw_at lw_m3 225 rfl) rfl
theorem q1061 : (Jvm.Cond.fieldLink "ScholarsPress$Desk" (66 : Nat) "ScholarsPress$Desk" "float0" "[I") ∈ lw_all := lw_g (lw_at lw_m3 227 rfl) rfl
theorem q1063 : (Jvm.Cond.fieldLink "ScholarsPress$Desk" (69 : Nat) "ScholarsPress$Desk" "cost" "[J") ∈ lw_all := lw_g (lw_at lw_m3 229 rfl) rfl
theorem q1065 : (Jvm.Cond.fieldLink "ScholarsPress$Desk" (73 : Nat) "ScholarsPress$Desk" "from" "[I") ∈ lw_all := lw_g (lw_at lw_m3 231 rfl) rfl
theorem q1067 : (Jvm.Cond.fieldLink "ScholarsPress$Desk" (76 : Nat) "ScholarsPress$Desk" "next" "[I") ∈ lw_all := lw_g (lw_at lw_m3 233 rfl) rfl
theorem q1069 : (Jvm.Cond.fieldLink "ScholarsPress$Desk" (79 : Nat) "ScholarsPress$Desk" "heads" "[I") ∈ lw_all := lw_g (lw_at lw_m3 235 rfl) rfl
theorem q1071 : (Jvm.Cond.fieldLink "ScholarsPress$Desk" (82 : Nat) "ScholarsPress$Desk" "row" "[I") ∈ lw_all := lw_g (lw_at lw_m3 237 rfl) rfl
theorem q1073 : (Jvm.Cond.fieldLink "ScholarsPress$Desk" (85 : Nat) "ScholarsPress$Desk" "states" "I") ∈ lw_all := lw_g (lw_at lw_m3 239 rfl) rfl
theorem q1075 : (Jvm.Cond.laysFinal "ScholarsPress$Desk" "ScholarsPress$Desk" "work" "LScholarsPress$Work;") ∈ lw_all := lw_g (lw_at lw_m4 1 rfl) rfl
theorem q1076 : (Jvm.Cond.soleField "ScholarsPress$Desk" "work") ∈ lw_all := lw_g (lw_at lw_m4 2 rfl) rfl
theorem q1077 : (Jvm.Cond.laysFinal "ScholarsPress$Desk" "ScholarsPress$Desk" "flow" "LScholarsPress$Text;") ∈ lw_all := lw_g (lw_at lw_m4 3 rfl) rfl
theorem q1078 : (Jvm.Cond.soleField "ScholarsPress$Desk" "flow") ∈ lw_all := lw_g (lw_at lw_m4 4 rfl) rfl
theorem q1079 : (Jvm.Cond.laysFinal "ScholarsPress$Desk" "ScholarsPress$Desk" "cell" "LScholarsPress$Text;") ∈ lw_all := lw_g (lw_at lw_m4 5 rfl) rfl
theorem q1080 : (Jvm.Cond.soleField "ScholarsPress$Desk" "cell") ∈ lw_all := lw_g (lw_at lw_m4 6 rfl) rfl
theorem q1081 : (Jvm.Cond.laysFinal "ScholarsPress$Desk" "ScholarsPress$Desk" "note" "LScholarsPress$Text;") ∈ lw_all := lw_g (lw_at lw_m4 7 rfl) rfl
theorem q1082 : (Jvm.Cond.soleField "ScholarsPress$Desk" "note") ∈ lw_all := lw_g (lw_at lw_m4 8 rfl) rfl
theorem q1083 : (Jvm.Cond.laysFinal "ScholarsPress$Desk" "ScholarsPress$Desk" "small" "LScholarsPress$Bytes;") ∈ lw_all := lw_g (lw_at lw_m4 9 rfl) rfl
theorem q1084 : (Jvm.Cond.soleField "ScholarsPress$Desk" "small") ∈ lw_all := lw_g (lw_at lw_m4 10 rfl) rfl
theorem q1085 : (Jvm.Cond.laysFinal "ScholarsPress$Desk" "ScholarsPress$Desk" "shares" "LScholarsPress$Shares;") ∈ lw_all := lw_g (lw_at lw_m4 11 rfl) rfl
theorem q1086 : (Jvm.Cond.soleField "ScholarsPress$Desk" "shares") ∈ lw_all := lw_g (lw_at lw_m4 12 rfl) rfl
theorem q1087 : (Jvm.Cond.laysFinal "ScholarsPress$Desk" "ScholarsPress$Desk" "blocks" "[I") ∈ lw_all := lw_g (lw_at lw_m4 13 rfl) rfl
theorem q1088 : (Jvm.Cond.soleField "ScholarsPress$Desk" "blocks") ∈ lw_all := lw_g (lw_at lw_m4 14 rfl) rfl
theorem q1089 : (Jvm.Cond.laysFinal "ScholarsPress$Desk" "ScholarsPress$Desk" "tableCells" "[I") ∈ lw_all := lw_g (lw_at lw_m4 15 rfl) rfl
theorem q1090 : (Jvm.Cond.soleField "ScholarsPress$Desk" "tableCells") ∈ lw_all := lw_g (lw_at lw_m4 16 rfl) rfl
theorem q1091 : (Jvm.Cond.laysFinal "ScholarsPress$Desk" "ScholarsPress$Desk" "tableColumns" "[I") ∈ lw_all := lw_g (lw_at lw_m4 17 rfl) rfl
theorem q1092 : (Jvm.Cond.soleField "ScholarsPress$Desk" "tableColumns") ∈ lw_all := lw_g (lw_at lw_m4 18 rfl) rfl
theorem q1093 : (Jvm.Cond.laysFinal "ScholarsPress$Desk" "ScholarsPress$Desk" "cellLeft" "[I") ∈ lw_all := lw_g (lw_at lw_m4 19 rfl) rfl
theorem q1094 : (Jvm.Cond.soleField "ScholarsPress$Desk" "cellLeft") ∈ lw_all := lw_g (lw_at lw_m4 20 rfl) rfl
theorem q1095 : (Jvm.Cond.laysFinal "ScholarsPress$Desk" "ScholarsPress$Desk" "line" "[I") ∈ lw_all := lw_g (lw_at lw_m4 21 rfl) rfl
theorem q1096 : (Jvm.Cond.soleField "ScholarsPress$Desk" "line") ∈ lw_all := lw_g (lw_at lw_m4 22 rfl) rfl
theorem q1097 : (Jvm.Cond.laysFinal "ScholarsPress$Desk" "ScholarsPress$Desk" "note0" "[I") ∈ lw_all := lw_g (lw_at lw_m4 23 rfl) rfl
theorem q1098 : (Jvm.Cond.soleField "ScholarsPress$Desk" "note0") ∈ lw_all := lw_g (lw_at lw_m4 24 rfl) rfl
theorem q1099 : (Jvm.Cond.laysFinal "ScholarsPress$Desk" "ScholarsPress$Desk" "float0" "[I") ∈ lw_all := lw_g (lw_at lw_m4 25 rfl) rfl
theorem q1100 : (Jvm.Cond.soleField "ScholarsPress$Desk" "float0") ∈ lw_all := lw_g (lw_at lw_m4 26 rfl) rfl
theorem q1101 : (Jvm.Cond.laysFinal "ScholarsPress$Desk" "ScholarsPress$Desk" "cost" "[J") ∈ lw_all := lw_g (lw_at lw_m4 27 rfl) rfl
theorem q1102 : (Jvm.Cond.soleField "ScholarsPress$Desk" "cost") ∈ lw_all := lw_g (lw_at lw_m4 28 rfl) rfl
theorem q1103 : (Jvm.Cond.laysFinal "ScholarsPress$Desk" "ScholarsPress$Desk" "from" "[I") ∈ lw_all := lw_g (lw_at lw_m4 29 rfl) rfl
theorem q1104 : (Jvm.Cond.soleField "ScholarsPress$Desk" "from") ∈ lw_all := lw_g (lw_at lw_m4 30 rfl) rfl
theorem q1105 : (Jvm.Cond.laysFinal "ScholarsPress$Desk" "ScholarsPress$Desk" "next" "[I") ∈ lw_all := lw_g (lw_at lw_m4 31 rfl) rfl
theorem q1106 : (Jvm.Cond.soleField "ScholarsPress$Desk" "next") ∈ lw_all := lw_g (lw_at lw_m4 32 rfl) rfl
theorem q1107 : (Jvm.Cond.laysFinal "ScholarsPress$Desk" "ScholarsPress$Desk" "heads" "[I") ∈ lw_all := lw_g (lw_at lw_m4 33 rfl) rfl
theorem q1108 : (Jvm.Cond.soleField "ScholarsPress$Desk" "heads") ∈ lw_all := lw_g (lw_at lw_m4 34 rfl) rfl
theorem q1109 : (Jvm.Cond.laysFinal "ScholarsPress$Desk" "ScholarsPress$Desk" "row" "[I") ∈ lw_all := lw_g (lw_at lw_m4 35 rfl) rfl
theorem q1110 : (Jvm.Cond.soleField "ScholarsPress$Desk" "row") ∈ lw_all := lw_g (lw_at lw_m4 36 rfl) rfl
theorem q1111 : (Jvm.Cond.lays "ScholarsPress$Desk" "ScholarsPress$Desk" "states" "I") ∈ lw_all := lw_g (lw_at lw_m4 37 rfl) rfl
theorem q1112 : (Jvm.Cond.soleField "ScholarsPress$Desk" "states") ∈ lw_all := lw_g (lw_at lw_m4 38 rfl) rfl
theorem q1113 : (Jvm.Cond.superclass "ScholarsPress$Desk" "java/lang/Object") ∈ lw_all := lw_g (lw_at lw_m4 39 rfl) rfl
theorem q2986 : (Jvm.Cond.privateMethod ({ cls := "ScholarsPress$Desk", name := "add", desc := "()I" } : Jvm.MethodName)) ∈ lw_tbl := lw_at lw_m11 232 rfl
theorem q2987 : (Jvm.Cond.instanceMethod ({ cls := "ScholarsPress$Desk", name := "add", desc := "()I" } : Jvm.MethodName)) ∈ lw_all := lw_g (lw_at lw_m11 233 rfl) rfl
theorem q2988 : (Jvm.Cond.code ({ cls := "ScholarsPress$Desk", name := "add", desc := "()I" } : Jvm.MethodName) prog_5_method_2_code (1 : Nat) (Option.some Jvm.ClassFile.FieldType.int)) ∈ lw_all := lw_g (lw_at lw_m11 234 rfl) rfl
theorem q2989 : (Jvm.Cond.methodLinkNest "ScholarsPress$Desk" (89 : Nat) ({ cls := "ScholarsPress", name := "room", desc := "(Z)V" } : Jvm.MethodName) "ScholarsPress") ∈ lw_tbl := lw_at lw_m11 235 rfl
theorem in_X10 : ∀ w ∈ wsX100, w ∈ lw_all := lw_in wsX100 [1075, 1077, 1079, 1081, 1083, 1085, 1087, 1089, 1091, 1093, 1095, 1097, 1099, 1101, 1103, 1105, 1107, 1109, 1111] (by decide +kernel) (by decide +kernel)
/-! ScholarsPress$Work -/
def RX11 : String := "ScholarsPress$Work"
def TX11 : u_T := fun k => match k with
  | 0 => ("ScholarsPress$Work", "parted", "[Z", true)
  | 1 => ("ScholarsPress$Work", "least", "[J", true)
  | _ => ("ScholarsPress$Work", "from", "[I", true)
def tyX11 : Nat → FieldType := fun k => match k with
  | 0 => .array .boolean
  | 1 => .array .long
  | _ => .array .int
abbrev wsX110 : List Cond := u_ws RX11 TX11 3
theorem nmX11 : ∀ a, a < 3 → ∀ b, b < 3 → a ≠ b → (TX11 a).2.1 ≠ (TX11 b).2.1 := by decide +kernel
theorem tyX11_ok : ∀ k, k < 3 → parseFieldDescriptor (TX11 k).2.2.1 = some (tyX11 k) := by decide +kernel
abbrev cX11_init : ByteArray := prog_19_method_1_code
def yX11_init : MethodName := ⟨RX11, "<init>", "()V"⟩
theorem q365 : (Jvm.Cond.initialized "ScholarsPress$Work") ∈ lw_all := lw_g (lw_at lw_m1 11 rfl) rfl
theorem q960 : (Jvm.Cond.instantiable "ScholarsPress$Work" (3 : Nat)) ∈ lw_all := lw_g (lw_at lw_m3 126 rfl) rfl
theorem q962 : (Jvm.Cond.instanceMethod ({ cls := "ScholarsPress$Work", name := "<init>", desc := "()V" } : Jvm.MethodName)) ∈ lw_all := lw_g (lw_at lw_m3 128 rfl) rfl
theorem q963 : (Jvm.Cond.code ({ cls := "ScholarsPress$Work", name := "<init>", desc := "()V" } : Jvm.MethodName) prog_19_method_1_code (1 : Nat) (Option.none : Option Jvm.ClassFile.FieldType)) ∈ lw_all := lw_g (lw_at lw_m3 129 rfl) rfl
theorem q964 : (Jvm.Cond.methodLink "ScholarsPress$Work" (3 : Nat) ({ cls := "java/lang/Object", name := "<init>", desc := "()V" } : Jvm.MethodName)) ∈ lw_all := lw_g (lw_at lw_m3 130 rfl) rfl
theorem q965 : (Jvm.Cond.fieldLink "ScholarsPress$Work" (9 : Nat) "ScholarsPress$Work" "parted" "[Z") ∈ lw_all := lw_g (lw_at lw_m3 131 rfl) rfl
theorem q967 : (Jvm.Cond.fieldLink "ScholarsPress$Work" (15 : Nat) "ScholarsPress$Work" "least" "[J") ∈ lw_all := lw_g (lw_at lw_m3 133 rfl) rfl
theorem q969 : (Jvm.Cond.fieldLink "ScholarsPress$Work" (19 : Nat) "ScholarsPress$Work" "from" "[I") ∈ lw_all := lw_g (lw_at lw_m3 135 rfl) rfl
theorem q971 : (Jvm.Cond.laysFinal "ScholarsPress$Work" "ScholarsPress$Work" "parted" "[Z") ∈ lw_all := lw_g (lw_at lw_m3 137 rfl) rfl
theorem q972 : (Jvm.Cond.soleField "ScholarsPress$Work" "parted") ∈ lw_all := lw_g (lw_at lw_m3 138 rfl) rfl
theorem q973 : (Jvm.Cond.laysFinal "ScholarsPress$Work" "ScholarsPress$Work" "least" "[J") ∈ lw_all := lw_g (lw_at lw_m3 139 rfl) rfl
theorem q974 : (Jvm.Cond.soleField "ScholarsPress$Work" "least") ∈ lw_all := lw_g (lw_at lw_m3 140 rfl) rfl
theorem q975 : (Jvm.Cond.laysFinal "ScholarsPress$Work" "ScholarsPress$Work" "from" "[I") ∈ lw_all := lw_g (lw_at lw_m3 141 rfl) rfl
theorem q976 : (Jvm.Cond.soleField "ScholarsPress$Work" "from") ∈ lw_all := lw_g (lw_at lw_m3 142 rfl) rfl
theorem q977 : (Jvm.Cond.superclass "ScholarsPress$Work" "java/lang/Object") ∈ lw_all := lw_g (lw_at lw_m3 143 rfl) rfl
theorem in_X11 : ∀ w ∈ wsX110, w ∈ lw_all := lw_in wsX110 [971, 973, 975] (by decide +kernel) (by decide +kernel)
/-! ScholarsPress$Text -/
def RX12 : String := "ScholarsPress$Text"
def TX12 : u_T := fun k => match k with
  | 0 => ("ScholarsPress$Text", "row", "[B", true)
  | 1 => ("ScholarsPress$Text", "sizes", "[I", true)
  | 2 => ("ScholarsPress$Text", "orders", "[I", true)
  | 3 => ("ScholarsPress$Text", "many", "I", false)
  | 4 => ("ScholarsPress$Text", "blank", "Z", false)
  | 5 => ("ScholarsPress$Text", "blankSize", "I", false)
  | _ => ("ScholarsPress$Text", "some", "Z", false)
def tyX12 : Nat → FieldType := fun k => match k with
  | 0 => .array .byte
  | 1 => .array .int
  | 2 => .array .int
  | 3 => .int
  | 4 => .boolean
  | 5 => .int
  | _ => .boolean
abbrev wsX120 : List Cond := u_ws RX12 TX12 7
theorem nmX12 : ∀ a, a < 7 → ∀ b, b < 7 → a ≠ b → (TX12 a).2.1 ≠ (TX12 b).2.1 := by decide +kernel
theorem tyX12_ok : ∀ k, k < 7 → parseFieldDescriptor (TX12 k).2.2.1 = some (tyX12 k) := by decide +kernel
abbrev cX12_init : ByteArray := prog_17_method_1_code
def yX12_init : MethodName := ⟨RX12, "<init>", "()V"⟩
abbrev cX12_clear : ByteArray := prog_17_method_2_code
def yX12_clear : MethodName := ⟨RX12, "clear", "()V"⟩
abbrev cX12_put : ByteArray := prog_17_method_3_code
def yX12_put : MethodName := ⟨RX12, "put", "(III)V"⟩
theorem q366 : (Jvm.Cond.initialized "ScholarsPress$Text") ∈ lw_all := lw_g (lw_at lw_m1 12 rfl) rfl
theorem q980 : (Jvm.Cond.instantiable "ScholarsPress$Text" (7 : Nat)) ∈ lw_all := lw_g (lw_at lw_m3 146 rfl) rfl
theorem q982 : (Jvm.Cond.instanceMethod ({ cls := "ScholarsPress$Text", name := "<init>", desc := "()V" } : Jvm.MethodName)) ∈ lw_all := lw_g (lw_at lw_m3 148 rfl) rfl
theorem q983 : (Jvm.Cond.code ({ cls := "ScholarsPress$Text", name := "<init>", desc := "()V" } : Jvm.MethodName) prog_17_method_1_code (1 : Nat) (Option.none : Option Jvm.ClassFile.FieldType)) ∈ lw_all := lw_g (lw_at lw_m3 149 rfl) rfl
theorem q984 : (Jvm.Cond.methodLink "ScholarsPress$Text" (3 : Nat) ({ cls := "java/lang/Object", name := "<init>", desc := "()V" } : Jvm.MethodName)) ∈ lw_all := lw_g (lw_at lw_m3 150 rfl) rfl
theorem q985 : (Jvm.Cond.fieldLink "ScholarsPress$Text" (9 : Nat) "ScholarsPress$Text" "row" "[B") ∈ lw_all := lw_g (lw_at lw_m3 151 rfl) rfl
theorem q987 : (Jvm.Cond.fieldLink "ScholarsPress$Text" (15 : Nat) "ScholarsPress$Text" "sizes" "[I") ∈ lw_all := lw_g (lw_at lw_m3 153 rfl) rfl
theorem q989 : (Jvm.Cond.fieldLink "ScholarsPress$Text" (19 : Nat) "ScholarsPress$Text" "orders" "[I") ∈ lw_all := lw_g (lw_at lw_m3 155 rfl) rfl
theorem q991 : (Jvm.Cond.fieldLink "ScholarsPress$Text" (22 : Nat) "ScholarsPress$Text" "many" "I") ∈ lw_all := lw_g (lw_at lw_m3 157 rfl) rfl
theorem q993 : (Jvm.Cond.fieldLink "ScholarsPress$Text" (26 : Nat) "ScholarsPress$Text" "blank" "Z") ∈ lw_all := lw_g (lw_at lw_m3 159 rfl) rfl
theorem q996 : (Jvm.Cond.fieldLink "ScholarsPress$Text" (30 : Nat) "ScholarsPress$Text" "some" "Z") ∈ lw_all := lw_g (lw_at lw_m3 162 rfl) rfl
theorem q998 : (Jvm.Cond.laysFinal "ScholarsPress$Text" "ScholarsPress$Text" "row" "[B") ∈ lw_all := lw_g (lw_at lw_m3 164 rfl) rfl
theorem q999 : (Jvm.Cond.soleField "ScholarsPress$Text" "row") ∈ lw_all := lw_g (lw_at lw_m3 165 rfl) rfl
theorem q1000 : (Jvm.Cond.laysFinal "ScholarsPress$Text" "ScholarsPress$Text" "sizes" "[I") ∈ lw_all := lw_g (lw_at lw_m3 166 rfl) rfl
theorem q1001 : (Jvm.Cond.soleField "ScholarsPress$Text" "sizes") ∈ lw_all := lw_g (lw_at lw_m3 167 rfl) rfl
theorem q1002 : (Jvm.Cond.laysFinal "ScholarsPress$Text" "ScholarsPress$Text" "orders" "[I") ∈ lw_all := lw_g (lw_at lw_m3 168 rfl) rfl
theorem q1003 : (Jvm.Cond.soleField "ScholarsPress$Text" "orders") ∈ lw_all := lw_g (lw_at lw_m3 169 rfl) rfl
theorem q1004 : (Jvm.Cond.lays "ScholarsPress$Text" "ScholarsPress$Text" "many" "I") ∈ lw_all := lw_g (lw_at lw_m3 170 rfl) rfl
theorem q1005 : (Jvm.Cond.soleField "ScholarsPress$Text" "many") ∈ lw_all := lw_g (lw_at lw_m3 171 rfl) rfl
theorem q1006 : (Jvm.Cond.lays "ScholarsPress$Text" "ScholarsPress$Text" "blank" "Z") ∈ lw_all := lw_g (lw_at lw_m3 172 rfl) rfl
theorem q1007 : (Jvm.Cond.soleField "ScholarsPress$Text" "blank") ∈ lw_all := lw_g (lw_at lw_m3 173 rfl) rfl
theorem q1008 : (Jvm.Cond.lays "ScholarsPress$Text" "ScholarsPress$Text" "blankSize" "I") ∈ lw_all := lw_g (lw_at lw_m3 174 rfl) rfl
theorem q1009 : (Jvm.Cond.soleField "ScholarsPress$Text" "blankSize") ∈ lw_all := lw_g (lw_at lw_m3 175 rfl) rfl
theorem q1010 : (Jvm.Cond.lays "ScholarsPress$Text" "ScholarsPress$Text" "some" "Z") ∈ lw_all := lw_g (lw_at lw_m3 176 rfl) rfl
theorem q1011 : (Jvm.Cond.soleField "ScholarsPress$Text" "some") ∈ lw_all := lw_g (lw_at lw_m3 177 rfl) rfl
theorem q1012 : (Jvm.Cond.superclass "ScholarsPress$Text" "java/lang/Object") ∈ lw_all := lw_g (lw_at lw_m3 178 rfl) rfl
theorem q2478 : (Jvm.Cond.privateMethod ({ cls := "ScholarsPress$Text", name := "clear", desc := "()V" } : Jvm.MethodName)) ∈ lw_tbl := lw_at lw_m9 204 rfl
theorem q2479 : (Jvm.Cond.instanceMethod ({ cls := "ScholarsPress$Text", name := "clear", desc := "()V" } : Jvm.MethodName)) ∈ lw_all := lw_g (lw_at lw_m9 205 rfl) rfl
theorem q2480 : (Jvm.Cond.code ({ cls := "ScholarsPress$Text", name := "clear", desc := "()V" } : Jvm.MethodName) prog_17_method_2_code (1 : Nat) (Option.none : Option Jvm.ClassFile.FieldType)) ∈ lw_all := lw_g (lw_at lw_m9 206 rfl) rfl
theorem q2700 : (Jvm.Cond.privateMethod ({ cls := "ScholarsPress$Text", name := "put", desc := "(III)V" } : Jvm.MethodName)) ∈ lw_tbl := lw_at lw_m10 186 rfl
theorem q2701 : (Jvm.Cond.instanceMethod ({ cls := "ScholarsPress$Text", name := "put", desc := "(III)V" } : Jvm.MethodName)) ∈ lw_all := lw_g (lw_at lw_m10 187 rfl) rfl
theorem q2702 : (Jvm.Cond.code ({ cls := "ScholarsPress$Text", name := "put", desc := "(III)V" } : Jvm.MethodName) prog_17_method_3_code (4 : Nat) (Option.none : Option Jvm.ClassFile.FieldType)) ∈ lw_all := lw_g (lw_at lw_m10 188 rfl) rfl
theorem q2703 : (Jvm.Cond.methodLinkNest "ScholarsPress$Text" (33 : Nat) ({ cls := "ScholarsPress", name := "room", desc := "(Z)V" } : Jvm.MethodName) "ScholarsPress") ∈ lw_tbl := lw_at lw_m10 189 rfl
theorem in_X12 : ∀ w ∈ wsX120, w ∈ lw_all := lw_in wsX120 [998, 1000, 1002, 1004, 1006, 1008, 1010] (by decide +kernel) (by decide +kernel)
/-! ScholarsPress$Shares -/
def RX13 : String := "ScholarsPress$Shares"
def TX13 : u_T := fun k => match k with
  | 0 => ("ScholarsPress$Shares", "least", "[J", true)
  | 1 => ("ScholarsPress$Shares", "wish", "[J", true)
  | 2 => ("ScholarsPress$Shares", "width", "[I", true)
  | _ => ("ScholarsPress$Shares", "many", "I", false)
def tyX13 : Nat → FieldType := fun k => match k with
  | 0 => .array .long
  | 1 => .array .long
  | 2 => .array .int
  | _ => .int
abbrev wsX130 : List Cond := u_ws RX13 TX13 4
theorem nmX13 : ∀ a, a < 4 → ∀ b, b < 4 → a ≠ b → (TX13 a).2.1 ≠ (TX13 b).2.1 := by decide +kernel
theorem tyX13_ok : ∀ k, k < 4 → parseFieldDescriptor (TX13 k).2.2.1 = some (tyX13 k) := by decide +kernel
abbrev cX13_init : ByteArray := prog_13_method_1_code
def yX13_init : MethodName := ⟨RX13, "<init>", "()V"⟩
abbrev cX13_clear : ByteArray := prog_13_method_2_code
def yX13_clear : MethodName := ⟨RX13, "clear", "()V"⟩
abbrev cX13_cell : ByteArray := prog_13_method_3_code
def yX13_cell : MethodName := ⟨RX13, "cell", "(IJJ)V"⟩
abbrev cX13_share : ByteArray := prog_13_method_5_code
def yX13_share : MethodName := ⟨RX13, "share", "(I)V"⟩
abbrev cX13_sum : ByteArray := prog_13_method_4_code
def yX13_sum : MethodName := ⟨RX13, "sum", "([JI)J"⟩
theorem q367 : (Jvm.Cond.initialized "ScholarsPress$Shares") ∈ lw_all := lw_g (lw_at lw_m1 13 rfl) rfl
theorem q1016 : (Jvm.Cond.instantiable "ScholarsPress$Shares" (4 : Nat)) ∈ lw_all := lw_g (lw_at lw_m3 182 rfl) rfl
theorem q1018 : (Jvm.Cond.instanceMethod ({ cls := "ScholarsPress$Shares", name := "<init>", desc := "()V" } : Jvm.MethodName)) ∈ lw_all := lw_g (lw_at lw_m3 184 rfl) rfl
theorem q1019 : (Jvm.Cond.code ({ cls := "ScholarsPress$Shares", name := "<init>", desc := "()V" } : Jvm.MethodName) prog_13_method_1_code (1 : Nat) (Option.none : Option Jvm.ClassFile.FieldType)) ∈ lw_all := lw_g (lw_at lw_m3 185 rfl) rfl
theorem q1020 : (Jvm.Cond.methodLink "ScholarsPress$Shares" (3 : Nat) ({ cls := "java/lang/Object", name := "<init>", desc := "()V" } : Jvm.MethodName)) ∈ lw_all := lw_g (lw_at lw_m3 186 rfl) rfl
theorem q1021 : (Jvm.Cond.fieldLink "ScholarsPress$Shares" (9 : Nat) "ScholarsPress$Shares" "least" "[J") ∈ lw_all := lw_g (lw_at lw_m3 187 rfl) rfl
theorem q1022 : (Jvm.Cond.fieldLink "ScholarsPress$Shares" (15 : Nat) "ScholarsPress$Shares" "wish" "[J") ∈ lw_all := lw_g (lw_at lw_m3 188 rfl) rfl
theorem q1023 : (Jvm.Cond.fieldLink "ScholarsPress$Shares" (18 : Nat) "ScholarsPress$Shares" "width" "[I") ∈ lw_all := lw_g (lw_at lw_m3 189 rfl) rfl
theorem q1025 : (Jvm.Cond.fieldLink "ScholarsPress$Shares" (22 : Nat) "ScholarsPress$Shares" "many" "I") ∈ lw_all := lw_g (lw_at lw_m3 191 rfl) rfl
theorem q1027 : (Jvm.Cond.laysFinal "ScholarsPress$Shares" "ScholarsPress$Shares" "least" "[J") ∈ lw_all := lw_g (lw_at lw_m3 193 rfl) rfl
theorem q1028 : (Jvm.Cond.soleField "ScholarsPress$Shares" "least") ∈ lw_all := lw_g (lw_at lw_m3 194 rfl) rfl
theorem q1029 : (Jvm.Cond.laysFinal "ScholarsPress$Shares" "ScholarsPress$Shares" "wish" "[J") ∈ lw_all := lw_g (lw_at lw_m3 195 rfl) rfl
theorem q1030 : (Jvm.Cond.soleField "ScholarsPress$Shares" "wish") ∈ lw_all := lw_g (lw_at lw_m3 196 rfl) rfl
theorem q1031 : (Jvm.Cond.laysFinal "ScholarsPress$Shares" "ScholarsPress$Shares" "width" "[I") ∈ lw_all := lw_g (lw_at lw_m3 197 rfl) rfl
theorem q1032 : (Jvm.Cond.soleField "ScholarsPress$Shares" "width") ∈ lw_all := lw_g (lw_at lw_m3 198 rfl) rfl
theorem q1033 : (Jvm.Cond.lays "ScholarsPress$Shares" "ScholarsPress$Shares" "many" "I") ∈ lw_all := lw_g (lw_at lw_m3 199 rfl) rfl
theorem q1034 : (Jvm.Cond.soleField "ScholarsPress$Shares" "many") ∈ lw_all := lw_g (lw_at lw_m3 200 rfl) rfl
theorem q1035 : (Jvm.Cond.superclass "ScholarsPress$Shares" "java/lang/Object") ∈ lw_all := lw_g (lw_at lw_m3 201 rfl) rfl
theorem q2740 : (Jvm.Cond.privateMethod ({ cls := "ScholarsPress$Shares", name := "clear", desc := "()V" } : Jvm.MethodName)) ∈ lw_tbl := lw_at lw_m10 226 rfl
theorem q2741 : (Jvm.Cond.instanceMethod ({ cls := "ScholarsPress$Shares", name := "clear", desc := "()V" } : Jvm.MethodName)) ∈ lw_all := lw_g (lw_at lw_m10 227 rfl) rfl
theorem q2742 : (Jvm.Cond.code ({ cls := "ScholarsPress$Shares", name := "clear", desc := "()V" } : Jvm.MethodName) prog_13_method_2_code (1 : Nat) (Option.none : Option Jvm.ClassFile.FieldType)) ∈ lw_all := lw_g (lw_at lw_m10 228 rfl) rfl
theorem q2805 : (Jvm.Cond.privateMethod ({ cls := "ScholarsPress$Shares", name := "cell", desc := "(IJJ)V" } : Jvm.MethodName)) ∈ lw_tbl := lw_at lw_m11 51 rfl
theorem q2806 : (Jvm.Cond.instanceMethod ({ cls := "ScholarsPress$Shares", name := "cell", desc := "(IJJ)V" } : Jvm.MethodName)) ∈ lw_all := lw_g (lw_at lw_m11 52 rfl) rfl
theorem q2807 : (Jvm.Cond.code ({ cls := "ScholarsPress$Shares", name := "cell", desc := "(IJJ)V" } : Jvm.MethodName) prog_13_method_3_code (6 : Nat) (Option.none : Option Jvm.ClassFile.FieldType)) ∈ lw_all := lw_g (lw_at lw_m11 53 rfl) rfl
theorem q2808 : (Jvm.Cond.constantLong "ScholarsPress$Shares" (26 : Nat) (1000 : Int64)) ∈ lw_all := lw_g (lw_at lw_m11 54 rfl) rfl
theorem q2819 : (Jvm.Cond.privateMethod ({ cls := "ScholarsPress$Shares", name := "share", desc := "(I)V" } : Jvm.MethodName)) ∈ lw_tbl := lw_at lw_m11 65 rfl
theorem q2820 : (Jvm.Cond.instanceMethod ({ cls := "ScholarsPress$Shares", name := "share", desc := "(I)V" } : Jvm.MethodName)) ∈ lw_all := lw_g (lw_at lw_m11 66 rfl) rfl
theorem q2821 : (Jvm.Cond.code ({ cls := "ScholarsPress$Shares", name := "share", desc := "(I)V" } : Jvm.MethodName) prog_13_method_5_code (11 : Nat) (Option.none : Option Jvm.ClassFile.FieldType)) ∈ lw_all := lw_g (lw_at lw_m11 67 rfl) rfl
theorem q2822 : (Jvm.Cond.methodLink "ScholarsPress$Shares" (28 : Nat) ({ cls := "ScholarsPress$Shares", name := "sum", desc := "([JI)J" } : Jvm.MethodName)) ∈ lw_all := lw_g (lw_at lw_m11 68 rfl) rfl
theorem q2823 : (Jvm.Cond.static ({ cls := "ScholarsPress$Shares", name := "sum", desc := "([JI)J" } : Jvm.MethodName)) ∈ lw_all := lw_g (lw_at lw_m11 69 rfl) rfl
theorem q2824 : (Jvm.Cond.code ({ cls := "ScholarsPress$Shares", name := "sum", desc := "([JI)J" } : Jvm.MethodName) prog_13_method_4_code (5 : Nat) (Option.some Jvm.ClassFile.FieldType.long)) ∈ lw_all := lw_g (lw_at lw_m11 70 rfl) rfl
theorem in_X13 : ∀ w ∈ wsX130, w ∈ lw_all := lw_in wsX130 [1027, 1029, 1031, 1033] (by decide +kernel) (by decide +kernel)
/-! ScholarsPress$Book -/
def RX14 : String := "ScholarsPress$Book"
def TX14 : u_T := fun k => match k with
  | 0 => ("ScholarsPress$Book", "desk", "LScholarsPress$Desk;", true)
  | 1 => ("ScholarsPress$Book", "\x72", "LScholarsPress$Rows;", true)
  | 2 => ("ScholarsPress$Book", "tree", "LScholarsPress$Tree;", false)
  | 3 => ("ScholarsPress$Book", "style", "LScholarsPress$Style;", false)
  | 4 => ("ScholarsPress$Book", "font", "LScholarsPress$Font;", false)
  | 5 => ("ScholarsPress$Book", "hyphens", "LScholarsPress$Hyphens;", false)
  | 6 => ("ScholarsPress$Book", "source", "LScholarsPress$Source;", false)
  | 7 => ("ScholarsPress$Book", "before", "LScholarsPress$Book;", false)
  | 8 => ("ScholarsPress$Book", "pool", "[LScholarsPress$Paragraph;", true)
  | 9 => ("ScholarsPress$Book", "used", "I", false)
  | 10 => ("ScholarsPress$Book", "paragraphs", "[LScholarsPress$Paragraph;", true)
  | 11 => ("ScholarsPress$Book", "many", "I", false)
  | 12 => ("ScholarsPress$Book", "paragraphOf", "[I", true)
  | 13 => ("ScholarsPress$Book", "lineIn", "[I", true)
  | 14 => ("ScholarsPress$Book", "height", "[I", true)
  | 15 => ("ScholarsPress$Book", "gapAhead", "[I", true)
  | 16 => ("ScholarsPress$Book", "mayEnd", "[Z", true)
  | 17 => ("ScholarsPress$Book", "numberOf", "[I", true)
  | 18 => ("ScholarsPress$Book", "lines", "I", false)
  | 19 => ("ScholarsPress$Book", "rowCells", "[I", true)
  | 20 => ("ScholarsPress$Book", "rowCell", "[I", true)
  | 21 => ("ScholarsPress$Book", "rowLeft", "[I", true)
  | 22 => ("ScholarsPress$Book", "rowElement", "[I", true)
  | 23 => ("ScholarsPress$Book", "rows", "I", false)
  | 24 => ("ScholarsPress$Book", "items", "[I", true)
  | 25 => ("ScholarsPress$Book", "itemGap", "[I", true)
  | 26 => ("ScholarsPress$Book", "itemMany", "I", false)
  | 27 => ("ScholarsPress$Book", "order", "I", false)
  | 28 => ("ScholarsPress$Book", "lineOfByte", "[I", true)
  | 29 => ("ScholarsPress$Book", "firstByte", "[I", true)
  | 30 => ("ScholarsPress$Book", "endByte", "[I", true)
  | 31 => ("ScholarsPress$Book", "beginsIn", "[I", true)
  | 32 => ("ScholarsPress$Book", "endsIn", "[I", true)
  | 33 => ("ScholarsPress$Book", "notes", "[I", true)
  | 34 => ("ScholarsPress$Book", "noteParagraph", "[LScholarsPress$Paragraph;", true)
  | 35 => ("ScholarsPress$Book", "noteCall", "[I", true)
  | 36 => ("ScholarsPress$Book", "noteMany", "I", false)
  | 37 => ("ScholarsPress$Book", "floats", "[I", true)
  | 38 => ("ScholarsPress$Book", "floatCall", "[I", true)
  | 39 => ("ScholarsPress$Book", "floatMany", "I", false)
  | 40 => ("ScholarsPress$Book", "pageTaken", "[I", true)
  | 41 => ("ScholarsPress$Book", "beginTaken", "[I", true)
  | 42 => ("ScholarsPress$Book", "endTaken", "[I", true)
  | 43 => ("ScholarsPress$Book", "entries", "LScholarsPress$Entries;", true)
  | 44 => ("ScholarsPress$Book", "blockMany", "I", false)
  | 45 => ("ScholarsPress$Book", "gap", "I", false)
  | 46 => ("ScholarsPress$Book", "inNote", "Z", false)
  | 47 => ("ScholarsPress$Book", "inCell", "Z", false)
  | 48 => ("ScholarsPress$Book", "tableMany", "I", false)
  | 49 => ("ScholarsPress$Book", "tableRows", "I", false)
  | 50 => ("ScholarsPress$Book", "takers", "[I", true)
  | 51 => ("ScholarsPress$Book", "takenOf", "[I", true)
  | 52 => ("ScholarsPress$Book", "takenKind", "[I", true)
  | 53 => ("ScholarsPress$Book", "taken", "I", false)
  | 54 => ("ScholarsPress$Book", "noteFrom", "[I", true)
  | 55 => ("ScholarsPress$Book", "noteSum", "[J", true)
  | 56 => ("ScholarsPress$Book", "noteLineOf", "[I", true)
  | 57 => ("ScholarsPress$Book", "noteLines", "I", false)
  | 58 => ("ScholarsPress$Book", "columns", "I", false)
  | 59 => ("ScholarsPress$Book", "firstLine", "[I", true)
  | 60 => ("ScholarsPress$Book", "endLine", "[I", true)
  | 61 => ("ScholarsPress$Book", "noteBegin", "[I", true)
  | 62 => ("ScholarsPress$Book", "noteEnd", "[I", true)
  | 63 => ("ScholarsPress$Book", "floatBegin", "[I", true)
  | 64 => ("ScholarsPress$Book", "floatEnd", "[I", true)
  | 65 => ("ScholarsPress$Book", "columnOf", "[I", true)
  | _ => ("ScholarsPress$Book", "topOf", "[I", true)
def tyX14 : Nat → FieldType := fun k => match k with
  | 0 => .object "ScholarsPress$Desk"
  | 1 => .object "ScholarsPress$Rows"
  | 2 => .object "ScholarsPress$Tree"
  | 3 => .object "ScholarsPress$Style"
  | 4 => .object "ScholarsPress$Font"
  | 5 => .object "ScholarsPress$Hyphens"
  | 6 => .object "ScholarsPress$Source"
  | 7 => .object "ScholarsPress$Book"
  | 8 => .array (.object "ScholarsPress$Paragraph")
  | 9 => .int
  | 10 => .array (.object "ScholarsPress$Paragraph")
  | 11 => .int
  | 12 => .array .int
  | 13 => .array .int
  | 14 => .array .int
  | 15 => .array .int
  | 16 => .array .boolean
  | 17 => .array .int
  | 18 => .int
  | 19 => .array .int
  | 20 => .array .int
  | 21 => .array .int
  | 22 => .array .int
  | 23 => .int
  | 24 => .array .int
  | 25 => .array .int
  | 26 => .int
  | 27 => .int
  | 28 => .array .int
  | 29 => .array .int
  | 30 => .array .int
  | 31 => .array .int
  | 32 => .array .int
  | 33 => .array .int
  | 34 => .array (.object "ScholarsPress$Paragraph")
  | 35 => .array .int
  | 36 => .int
  | 37 => .array .int
  | 38 => .array .int
  | 39 => .int
  | 40 => .array .int
  | 41 => .array .int
  | 42 => .array .int
  | 43 => .object "ScholarsPress$Entries"
  | 44 => .int
  | 45 => .int
  | 46 => .boolean
  | 47 => .boolean
  | 48 => .int
  | 49 => .int
  | 50 => .array .int
  | 51 => .array .int
  | 52 => .array .int
  | 53 => .int
  | 54 => .array .int
  | 55 => .array .long
  | 56 => .array .int
  | 57 => .int
  | 58 => .int
  | 59 => .array .int
  | 60 => .array .int
  | 61 => .array .int
  | 62 => .array .int
  | 63 => .array .int
  | 64 => .array .int
  | 65 => .array .int
  | _ => .array .int
abbrev wsX140 : List Cond := u_ws RX14 TX14 67
theorem nmX14 : ∀ a, a < 67 → ∀ b, b < 67 → a ≠ b → (TX14 a).2.1 ≠ (TX14 b).2.1 := by decide +kernel
theorem tyX14_ok : ∀ k, k < 67 → parseFieldDescriptor (TX14 k).2.2.1 = some (tyX14 k) := by decide +kernel
abbrev cX14_init : ByteArray := prog_2_method_1_code
def yX14_init : MethodName := ⟨RX14, "<init>", "(LScholarsPress$Desk;)V"⟩
abbrev cX14_begin : ByteArray := prog_2_method_2_code
def yX14_begin : MethodName := ⟨RX14, "begin", "(LScholarsPress$Tree;LScholarsPress$Font;LScholarsPress$Hyphens;LScholarsPress$Book;)V"⟩
abbrev cX14_pageOf : ByteArray := prog_2_method_4_code
def yX14_pageOf : MethodName := ⟨RX14, "pageOf", "(I)I"⟩
abbrev cX14_pageAt : ByteArray := prog_2_method_58_code
def yX14_pageAt : MethodName := ⟨RX14, "pageAt", "(I)I"⟩
abbrev cX14_numberAt : ByteArray := prog_2_method_3_code
def yX14_numberAt : MethodName := ⟨RX14, "numberAt", "(I)I"⟩
abbrev cX14_lastNumber : ByteArray := prog_2_method_5_code
def yX14_lastNumber : MethodName := ⟨RX14, "lastNumber", "(I)I"⟩
abbrev cX14_gather : ByteArray := prog_2_method_20_code
def yX14_gather : MethodName := ⟨RX14, "gather", "()V"⟩
abbrev cX14_begin_2 : ByteArray := prog_2_method_24_code
def yX14_begin_2 : MethodName := ⟨RX14, "begin", "(I)V"⟩
abbrev cX14_open : ByteArray := prog_2_method_18_code
def yX14_open : MethodName := ⟨RX14, "open", "(I)V"⟩
abbrev cX14_flush : ByteArray := prog_2_method_16_code
def yX14_flush : MethodName := ⟨RX14, "flush", "()V"⟩
abbrev cX14_inset : ByteArray := prog_2_method_11_code
def yX14_inset : MethodName := ⟨RX14, "inset", "(I)I"⟩
abbrev cX14_property : ByteArray := prog_2_method_10_code
def yX14_property : MethodName := ⟨RX14, "property", "(II)I"⟩
abbrev cX14_flushAs : ByteArray := prog_2_method_17_code
def yX14_flushAs : MethodName := ⟨RX14, "flushAs", "(I)V"⟩
abbrev cX14_block : ByteArray := prog_2_method_9_code
def yX14_block : MethodName := ⟨RX14, "block", "()I"⟩
abbrev cX14_flowParagraph : ByteArray := prog_2_method_14_code
def yX14_flowParagraph : MethodName := ⟨RX14, "flowParagraph", "(LScholarsPress$Text;I)LScholarsPress$Paragraph;"⟩
abbrev cX14_paragraph : ByteArray := prog_2_method_13_code
def yX14_paragraph : MethodName := ⟨RX14, "paragraph", "(LScholarsPress$Text;I)LScholarsPress$Paragraph;"⟩
abbrev cX14_fullWidth : ByteArray := prog_2_method_12_code
def yX14_fullWidth : MethodName := ⟨RX14, "fullWidth", "(I)I"⟩
abbrev cX14_item : ByteArray := prog_2_method_15_code
def yX14_item : MethodName := ⟨RX14, "item", "(I)V"⟩
abbrev cX14_beginNote : ByteArray := prog_2_method_26_code
def yX14_beginNote : MethodName := ⟨RX14, "beginNote", "(I)V"⟩
abbrev cX14_small : ByteArray := prog_2_method_8_code
def yX14_small : MethodName := ⟨RX14, "small", "()LScholarsPress$Bytes;"⟩
abbrev cX14_open_2 : ByteArray := prog_2_method_21_code
def yX14_open_2 : MethodName := ⟨RX14, "open", "()LScholarsPress$Text;"⟩
abbrev cX14_putAll : ByteArray := prog_2_method_7_code
def yX14_putAll : MethodName := ⟨RX14, "putAll", "(LScholarsPress$Text;LScholarsPress$Bytes;IZ)V"⟩
abbrev cX14_put : ByteArray := prog_2_method_6_code
def yX14_put : MethodName := ⟨RX14, "put", "(LScholarsPress$Text;IIZ)V"⟩
abbrev cX14_linesText : ByteArray := prog_2_method_36_code
def yX14_linesText : MethodName := ⟨RX14, "linesText", "(IILScholarsPress$Bytes;)V"⟩
abbrev cX14_isTarget : ByteArray := prog_2_method_35_code
def yX14_isTarget : MethodName := ⟨RX14, "isTarget", "(I)Z"⟩
abbrev cX14_takes : ByteArray := prog_2_method_31_code
def yX14_takes : MethodName := ⟨RX14, "takes", "(III)V"⟩
abbrev cX14_label : ByteArray := prog_2_method_23_code
def yX14_label : MethodName := ⟨RX14, "label", "(I)V"⟩
abbrev cX14_contents : ByteArray := prog_2_method_38_code
def yX14_contents : MethodName := ⟨RX14, "contents", "()V"⟩
abbrev cX14_index : ByteArray := prog_2_method_39_code
def yX14_index : MethodName := ⟨RX14, "index", "()V"⟩
abbrev cX14_reference : ByteArray := prog_2_method_37_code
def yX14_reference : MethodName := ⟨RX14, "reference", "(I)V"⟩
abbrev cX14_end : ByteArray := prog_2_method_25_code
def yX14_end : MethodName := ⟨RX14, "end", "(I)V"⟩
abbrev cX14_endNote : ByteArray := prog_2_method_27_code
def yX14_endNote : MethodName := ⟨RX14, "endNote", "(I)V"⟩
abbrev cX14_endCell : ByteArray := prog_2_method_28_code
def yX14_endCell : MethodName := ⟨RX14, "endCell", "(I)V"⟩
abbrev cX14_endRow : ByteArray := prog_2_method_29_code
def yX14_endRow : MethodName := ⟨RX14, "endRow", "(I)V"⟩
abbrev cX14_endTable : ByteArray := prog_2_method_30_code
def yX14_endTable : MethodName := ⟨RX14, "endTable", "()V"⟩
abbrev cX14_shut : ByteArray := prog_2_method_19_code
def yX14_shut : MethodName := ⟨RX14, "shut", "(I)V"⟩
abbrev cX14_stand : ByteArray := prog_2_method_22_code
def yX14_stand : MethodName := ⟨RX14, "stand", "(II)V"⟩
abbrev cX14_set : ByteArray := prog_2_method_40_code
def yX14_set : MethodName := ⟨RX14, "set", "(LScholarsPress$Shapes;)V"⟩
abbrev cX14_rowLine : ByteArray := prog_2_method_43_code
def yX14_rowLine : MethodName := ⟨RX14, "rowLine", "(II)V"⟩
abbrev cX14_line : ByteArray := prog_2_method_41_code
def yX14_line : MethodName := ⟨RX14, "line", "(IIII)V"⟩
abbrev cX14_place : ByteArray := prog_2_method_44_code
def yX14_place : MethodName := ⟨RX14, "place", "(LScholarsPress$Paragraph;IZ)V"⟩
abbrev cX14_paragraphLines : ByteArray := prog_2_method_42_code
def yX14_paragraphLines : MethodName := ⟨RX14, "paragraphLines", "(II)V"⟩
abbrev cX14_breakColumns : ByteArray := prog_2_method_52_code
def yX14_breakColumns : MethodName := ⟨RX14, "breakColumns", "()V"⟩
abbrev cX14_prepareNotes : ByteArray := prog_2_method_45_code
def yX14_prepareNotes : MethodName := ⟨RX14, "prepareNotes", "()V"⟩
abbrev cX14_reach : ByteArray := prog_2_method_50_code
def yX14_reach : MethodName := ⟨RX14, "reach", "(IIIJI)V"⟩
abbrev cX14_begins : ByteArray := prog_2_method_51_code
def yX14_begins : MethodName := ⟨RX14, "begins", "(II)Z"⟩
abbrev cX14_columnsFrom : ByteArray := prog_2_method_53_code
def yX14_columnsFrom : MethodName := ⟨RX14, "columnsFrom", "(II)V"⟩
abbrev cX14_calledBy : ByteArray := prog_2_method_47_code
def yX14_calledBy : MethodName := ⟨RX14, "calledBy", "([III)I"⟩
abbrev cX14_column : ByteArray := prog_2_method_48_code
def yX14_column : MethodName := ⟨RX14, "column", "(IIJIII)Z"⟩
abbrev cX14_floatHeight : ByteArray := prog_2_method_46_code
def yX14_floatHeight : MethodName := ⟨RX14, "floatHeight", "(I)I"⟩
abbrev cX14_endsCut : ByteArray := prog_2_method_49_code
def yX14_endsCut : MethodName := ⟨RX14, "endsCut", "(I)Z"⟩
abbrev cX14_lay : ByteArray := prog_2_method_55_code
def yX14_lay : MethodName := ⟨RX14, "lay", "(I)V"⟩
abbrev cX14_addColumn : ByteArray := prog_2_method_54_code
def yX14_addColumn : MethodName := ⟨RX14, "addColumn", "(IIIIII)V"⟩
abbrev cX14_layRest : ByteArray := prog_2_method_56_code
def yX14_layRest : MethodName := ⟨RX14, "layRest", "(II)V"⟩
abbrev cX14_tops : ByteArray := prog_2_method_57_code
def yX14_tops : MethodName := ⟨RX14, "tops", "(I)V"⟩
abbrev cX14_number : ByteArray := prog_2_method_59_code
def yX14_number : MethodName := ⟨RX14, "number", "()V"⟩
abbrev cX14_isSettled : ByteArray := prog_2_method_33_code
def yX14_isSettled : MethodName := ⟨RX14, "isSettled", "()Z"⟩
abbrev cX14_wavers : ByteArray := prog_2_method_32_code
def yX14_wavers : MethodName := ⟨RX14, "wavers", "(I)Z"⟩
abbrev cX14_pages : ByteArray := prog_2_method_60_code
def yX14_pages : MethodName := ⟨RX14, "pages", "()I"⟩
abbrev cX14_wavering : ByteArray := prog_2_method_34_code
def yX14_wavering : MethodName := ⟨RX14, "wavering", "(I)I"⟩
abbrev cX14_columnOfFloat : ByteArray := prog_2_method_63_code
def yX14_columnOfFloat : MethodName := ⟨RX14, "columnOfFloat", "(I)I"⟩
abbrev cX14_floatTop : ByteArray := prog_2_method_62_code
def yX14_floatTop : MethodName := ⟨RX14, "floatTop", "(II)I"⟩
abbrev cX14_columnOfNoteLine : ByteArray := prog_2_method_64_code
def yX14_columnOfNoteLine : MethodName := ⟨RX14, "columnOfNoteLine", "(I)I"⟩
abbrev cX14_noteTop : ByteArray := prog_2_method_65_code
def yX14_noteTop : MethodName := ⟨RX14, "noteTop", "(II)J"⟩
abbrev cX14_print : ByteArray := prog_2_method_66_code
def yX14_print : MethodName := ⟨RX14, "print", "(ILScholarsPress$Bytes;)V"⟩
abbrev cX14_headOf : ByteArray := prog_2_method_61_code
def yX14_headOf : MethodName := ⟨RX14, "headOf", "(I)I"⟩
abbrev cX14_printColumn : ByteArray := prog_2_method_67_code
def yX14_printColumn : MethodName := ⟨RX14, "printColumn", "(IJLScholarsPress$Bytes;)V"⟩
abbrev cX14_printLine : ByteArray := prog_2_method_69_code
def yX14_printLine : MethodName := ⟨RX14, "printLine", "(LScholarsPress$Paragraph;IJJLScholarsPress$Bytes;)V"⟩
abbrev cX14_printRow : ByteArray := prog_2_method_68_code
def yX14_printRow : MethodName := ⟨RX14, "printRow", "(IIJLScholarsPress$Bytes;)V"⟩
theorem q368 : (Jvm.Cond.initialized "ScholarsPress$Book") ∈ lw_all := lw_g (lw_at lw_m1 14 rfl) rfl
theorem q501 : (Jvm.Cond.fieldLinkNest "ScholarsPress$Book" (260 : Nat) "ScholarsPress$Bytes" "row" "[B" "ScholarsPress") ∈ lw_tbl := lw_at lw_m1 147 rfl
theorem q507 : (Jvm.Cond.fieldLinkNest "ScholarsPress$Book" (257 : Nat) "ScholarsPress$Bytes" "many" "I" "ScholarsPress") ∈ lw_tbl := lw_at lw_m1 153 rfl
theorem q565 : (Jvm.Cond.fieldLinkNest "ScholarsPress$Book" (284 : Nat) "ScholarsPress$Style" "width" "I" "ScholarsPress") ∈ lw_tbl := lw_at lw_m1 211 rfl
theorem q567 : (Jvm.Cond.fieldLinkNest "ScholarsPress$Book" (662 : Nat) "ScholarsPress$Style" "height" "I" "ScholarsPress") ∈ lw_tbl := lw_at lw_m1 213 rfl
theorem q569 : (Jvm.Cond.fieldLinkNest "ScholarsPress$Book" (747 : Nat) "ScholarsPress$Style" "columns" "I" "ScholarsPress") ∈ lw_tbl := lw_at lw_m1 215 rfl
theorem q571 : (Jvm.Cond.fieldLinkNest "ScholarsPress$Book" (752 : Nat) "ScholarsPress$Style" "gap" "I" "ScholarsPress") ∈ lw_tbl := lw_at lw_m1 217 rfl
theorem q573 : (Jvm.Cond.fieldLinkNest "ScholarsPress$Book" (667 : Nat) "ScholarsPress$Style" "rule" "I" "ScholarsPress") ∈ lw_tbl := lw_at lw_m1 219 rfl
theorem q575 : (Jvm.Cond.fieldLinkNest "ScholarsPress$Book" (748 : Nat) "ScholarsPress$Style" "lines" "I" "ScholarsPress") ∈ lw_tbl := lw_at lw_m1 221 rfl
theorem q648 : (Jvm.Cond.fieldLinkNest "ScholarsPress$Book" (535 : Nat) "ScholarsPress$Source" "text" "[B" "ScholarsPress") ∈ lw_tbl := lw_at lw_m2 54 rfl
theorem q661 : (Jvm.Cond.fieldLinkNest "ScholarsPress$Book" (431 : Nat) "ScholarsPress$Source" "parent" "[I" "ScholarsPress") ∈ lw_tbl := lw_at lw_m2 67 rfl
theorem q681 : (Jvm.Cond.fieldLinkNest "ScholarsPress$Book" (536 : Nat) "ScholarsPress$Source" "fieldFrom" "[I" "ScholarsPress") ∈ lw_tbl := lw_at lw_m2 87 rfl
theorem q684 : (Jvm.Cond.fieldLinkNest "ScholarsPress$Book" (539 : Nat) "ScholarsPress$Source" "fieldSize" "[I" "ScholarsPress") ∈ lw_tbl := lw_at lw_m2 90 rfl
theorem q691 : (Jvm.Cond.fieldLinkNest "ScholarsPress$Book" (422 : Nat) "ScholarsPress$Source" "events" "[I" "ScholarsPress") ∈ lw_tbl := lw_at lw_m2 97 rfl
theorem q694 : (Jvm.Cond.fieldLinkNest "ScholarsPress$Book" (419 : Nat) "ScholarsPress$Source" "starts" "[I" "ScholarsPress") ∈ lw_tbl := lw_at lw_m2 100 rfl
theorem q697 : (Jvm.Cond.fieldLinkNest "ScholarsPress$Book" (445 : Nat) "ScholarsPress$Source" "sizes" "[I" "ScholarsPress") ∈ lw_tbl := lw_at lw_m2 103 rfl
theorem q700 : (Jvm.Cond.fieldLinkNest "ScholarsPress$Book" (416 : Nat) "ScholarsPress$Source" "many" "I" "ScholarsPress") ∈ lw_tbl := lw_at lw_m2 106 rfl
theorem q779 : (Jvm.Cond.fieldLinkNest "ScholarsPress$Book" (169 : Nat) "ScholarsPress$Tree" "source" "LScholarsPress$Source;" "ScholarsPress") ∈ lw_tbl := lw_at lw_m2 185 rfl
theorem q782 : (Jvm.Cond.fieldLinkNest "ScholarsPress$Book" (162 : Nat) "ScholarsPress$Tree" "style" "LScholarsPress$Style;" "ScholarsPress") ∈ lw_tbl := lw_at lw_m2 188 rfl
theorem q785 : (Jvm.Cond.fieldLinkNest "ScholarsPress$Book" (223 : Nat) "ScholarsPress$Tree" "many" "I" "ScholarsPress") ∈ lw_tbl := lw_at lw_m2 191 rfl
theorem q790 : (Jvm.Cond.fieldLinkNest "ScholarsPress$Book" (462 : Nat) "ScholarsPress$Tree" "shown" "[Z" "ScholarsPress") ∈ lw_tbl := lw_at lw_m2 196 rfl
theorem q794 : (Jvm.Cond.fieldLinkNest "ScholarsPress$Book" (476 : Nat) "ScholarsPress$Tree" "inFlow" "[Z" "ScholarsPress") ∈ lw_tbl := lw_at lw_m2 200 rfl
theorem q798 : (Jvm.Cond.fieldLinkNest "ScholarsPress$Book" (470 : Nat) "ScholarsPress$Tree" "role" "[I" "ScholarsPress") ∈ lw_tbl := lw_at lw_m2 204 rfl
theorem q810 : (Jvm.Cond.fieldLinkNest "ScholarsPress$Book" (455 : Nat) "ScholarsPress$Tree" "counter" "LScholarsPress$Bytes;" "ScholarsPress") ∈ lw_tbl := lw_at lw_m2 216 rfl
theorem q986 : (Jvm.Cond.fieldLinkNest "ScholarsPress$Book" (306 : Nat) "ScholarsPress$Text" "row" "[B" "ScholarsPress") ∈ lw_tbl := lw_at lw_m3 152 rfl
theorem q988 : (Jvm.Cond.fieldLinkNest "ScholarsPress$Book" (316 : Nat) "ScholarsPress$Text" "sizes" "[I" "ScholarsPress") ∈ lw_tbl := lw_at lw_m3 154 rfl
theorem q990 : (Jvm.Cond.fieldLinkNest "ScholarsPress$Book" (320 : Nat) "ScholarsPress$Text" "orders" "[I" "ScholarsPress") ∈ lw_tbl := lw_at lw_m3 156 rfl
theorem q992 : (Jvm.Cond.fieldLinkNest "ScholarsPress$Book" (295 : Nat) "ScholarsPress$Text" "many" "I" "ScholarsPress") ∈ lw_tbl := lw_at lw_m3 158 rfl
theorem q994 : (Jvm.Cond.fieldLinkNest "ScholarsPress$Book" (241 : Nat) "ScholarsPress$Text" "blank" "Z" "ScholarsPress") ∈ lw_tbl := lw_at lw_m3 160 rfl
theorem q995 : (Jvm.Cond.fieldLinkNest "ScholarsPress$Book" (247 : Nat) "ScholarsPress$Text" "blankSize" "I" "ScholarsPress") ∈ lw_tbl := lw_at lw_m3 161 rfl
theorem q997 : (Jvm.Cond.fieldLinkNest "ScholarsPress$Book" (250 : Nat) "ScholarsPress$Text" "some" "Z" "ScholarsPress") ∈ lw_tbl := lw_at lw_m3 163 rfl
theorem q1024 : (Jvm.Cond.fieldLinkNest "ScholarsPress$Book" (575 : Nat) "ScholarsPress$Shares" "width" "[I" "ScholarsPress") ∈ lw_tbl := lw_at lw_m3 190 rfl
theorem q1026 : (Jvm.Cond.fieldLinkNest "ScholarsPress$Book" (574 : Nat) "ScholarsPress$Shares" "many" "I" "ScholarsPress") ∈ lw_tbl := lw_at lw_m3 192 rfl
theorem q1037 : (Jvm.Cond.fieldLinkNest "ScholarsPress$Book" (359 : Nat) "ScholarsPress$Desk" "work" "LScholarsPress$Work;" "ScholarsPress") ∈ lw_tbl := lw_at lw_m3 203 rfl
theorem q1039 : (Jvm.Cond.fieldLinkNest "ScholarsPress$Book" (375 : Nat) "ScholarsPress$Desk" "flow" "LScholarsPress$Text;" "ScholarsPress") ∈ lw_tbl := lw_at lw_m3 205 rfl
theorem q1041 : (Jvm.Cond.fieldLinkNest "ScholarsPress$Book" (404 : Nat) "ScholarsPress$Desk" "cell" "LScholarsPress$Text;" "ScholarsPress") ∈ lw_tbl := lw_at lw_m3 207 rfl
theorem q1043 : (Jvm.Cond.fieldLinkNest "ScholarsPress$Book" (407 : Nat) "ScholarsPress$Desk" "note" "LScholarsPress$Text;" "ScholarsPress") ∈ lw_tbl := lw_at lw_m3 209 rfl
theorem q1045 : (Jvm.Cond.fieldLinkNest "ScholarsPress$Book" (267 : Nat) "ScholarsPress$Desk" "small" "LScholarsPress$Bytes;" "ScholarsPress") ∈ lw_tbl := lw_at lw_m3 211 rfl
theorem q1048 : (Jvm.Cond.fieldLinkNest "ScholarsPress$Book" (485 : Nat) "ScholarsPress$Desk" "shares" "LScholarsPress$Shares;" "ScholarsPress") ∈ lw_tbl := lw_at lw_m3 214 rfl
theorem q1050 : (Jvm.Cond.fieldLinkNest "ScholarsPress$Book" (273 : Nat) "ScholarsPress$Desk" "blocks" "[I" "ScholarsPress") ∈ lw_tbl := lw_at lw_m3 216 rfl
theorem q1052 : (Jvm.Cond.fieldLinkNest "ScholarsPress$Book" (550 : Nat) "ScholarsPress$Desk" "tableCells" "[I" "ScholarsPress") ∈ lw_tbl := lw_at lw_m3 218 rfl
theorem q1054 : (Jvm.Cond.fieldLinkNest "ScholarsPress$Book" (553 : Nat) "ScholarsPress$Desk" "tableColumns" "[I" "ScholarsPress") ∈ lw_tbl := lw_at lw_m3 220 rfl
theorem q1056 : (Jvm.Cond.fieldLinkNest "ScholarsPress$Book" (571 : Nat) "ScholarsPress$Desk" "cellLeft" "[I" "ScholarsPress") ∈ lw_tbl := lw_at lw_m3 222 rfl
theorem q1058 : (Jvm.Cond.fieldLinkNest "ScholarsPress$Book" (708 : Nat) "ScholarsPress$Desk" "line" "[I" "ScholarsPress") ∈ lw_tbl := lw_at lw_m3 224 rfl
theorem q1060 : (Jvm.Cond.fieldLinkNest "ScholarsPress$Book" (664 : Nat) "ScholarsPress$Desk" "note0" "[I" "ScholarsPress") ∈ lw_tbl := lw_at lw_m3 226 rfl
theorem q1062 : (Jvm.Cond.fieldLinkNest "ScholarsPress$Book" (670 : Nat) "ScholarsPress$Desk" "float0" "[I" "ScholarsPress") ∈ lw_tbl := lw_at lw_m3 228 rfl
theorem q1064 : (Jvm.Cond.fieldLinkNest "ScholarsPress$Book" (683 : Nat) "ScholarsPress$Desk" "cost" "[J" "ScholarsPress") ∈ lw_tbl := lw_at lw_m3 230 rfl
theorem q1066 : (Jvm.Cond.fieldLinkNest "ScholarsPress$Book" (699 : Nat) "ScholarsPress$Desk" "from" "[I" "ScholarsPress") ∈ lw_tbl := lw_at lw_m3 232 rfl
theorem q1068 : (Jvm.Cond.fieldLinkNest "ScholarsPress$Book" (696 : Nat) "ScholarsPress$Desk" "next" "[I" "ScholarsPress") ∈ lw_tbl := lw_at lw_m3 234 rfl
theorem q1070 : (Jvm.Cond.fieldLinkNest "ScholarsPress$Book" (693 : Nat) "ScholarsPress$Desk" "heads" "[I" "ScholarsPress") ∈ lw_tbl := lw_at lw_m3 236 rfl
theorem q1072 : (Jvm.Cond.fieldLinkNest "ScholarsPress$Book" (733 : Nat) "ScholarsPress$Desk" "row" "[I" "ScholarsPress") ∈ lw_tbl := lw_at lw_m3 238 rfl
theorem q1074 : (Jvm.Cond.fieldLinkNest "ScholarsPress$Book" (713 : Nat) "ScholarsPress$Desk" "states" "I" "ScholarsPress") ∈ lw_tbl := lw_at lw_m4 0 rfl
theorem q1116 : (Jvm.Cond.instantiable "ScholarsPress$Book" (67 : Nat)) ∈ lw_all := lw_g (lw_at lw_m4 42 rfl) rfl
theorem q1118 : (Jvm.Cond.instanceMethod ({ cls := "ScholarsPress$Book", name := "<init>", desc := "(LScholarsPress$Desk;)V" } : Jvm.MethodName)) ∈ lw_all := lw_g (lw_at lw_m4 44 rfl) rfl
theorem q1119 : (Jvm.Cond.code ({ cls := "ScholarsPress$Book", name := "<init>", desc := "(LScholarsPress$Desk;)V" } : Jvm.MethodName) prog_2_method_1_code (2 : Nat) (Option.none : Option Jvm.ClassFile.FieldType)) ∈ lw_all := lw_g (lw_at lw_m4 45 rfl) rfl
theorem q1120 : (Jvm.Cond.methodLink "ScholarsPress$Book" (3 : Nat) ({ cls := "java/lang/Object", name := "<init>", desc := "()V" } : Jvm.MethodName)) ∈ lw_all := lw_g (lw_at lw_m4 46 rfl) rfl
theorem q1121 : (Jvm.Cond.classLink "ScholarsPress$Book" (9 : Nat) "ScholarsPress$Rows") ∈ lw_all := lw_g (lw_at lw_m4 47 rfl) rfl
theorem q1123 : (Jvm.Cond.methodLinkNest "ScholarsPress$Book" (11 : Nat) ({ cls := "ScholarsPress$Rows", name := "<init>", desc := "()V" } : Jvm.MethodName) "ScholarsPress") ∈ lw_tbl := lw_at lw_m4 49 rfl
theorem q1129 : (Jvm.Cond.fieldLinkNest "ScholarsPress$Book" (307 : Nat) "ScholarsPress$Rows" "text" "[B" "ScholarsPress") ∈ lw_tbl := lw_at lw_m4 55 rfl
theorem q1132 : (Jvm.Cond.fieldLinkNest "ScholarsPress$Book" (319 : Nat) "ScholarsPress$Rows" "sizes" "[I" "ScholarsPress") ∈ lw_tbl := lw_at lw_m4 58 rfl
theorem q1135 : (Jvm.Cond.fieldLinkNest "ScholarsPress$Book" (323 : Nat) "ScholarsPress$Rows" "orders" "[I" "ScholarsPress") ∈ lw_tbl := lw_at lw_m4 61 rfl
theorem q1137 : (Jvm.Cond.fieldLinkNest "ScholarsPress$Book" (292 : Nat) "ScholarsPress$Rows" "bytes" "I" "ScholarsPress") ∈ lw_tbl := lw_at lw_m4 63 rfl
theorem q1195 : (Jvm.Cond.classLink "ScholarsPress$Book" (18 : Nat) "ScholarsPress$Paragraph") ∈ lw_all := lw_g (lw_at lw_m4 121 rfl) rfl
theorem q1197 : (Jvm.Cond.classLink "ScholarsPress$Book" (104 : Nat) "ScholarsPress$Entries") ∈ lw_all := lw_g (lw_at lw_m4 123 rfl) rfl
theorem q1199 : (Jvm.Cond.methodLinkNest "ScholarsPress$Book" (106 : Nat) ({ cls := "ScholarsPress$Entries", name := "<init>", desc := "()V" } : Jvm.MethodName) "ScholarsPress") ∈ lw_tbl := lw_at lw_m4 125 rfl
theorem q1208 : (Jvm.Cond.fieldLinkNest "ScholarsPress$Book" (580 : Nat) "ScholarsPress$Entries" "term" "[I" "ScholarsPress") ∈ lw_tbl := lw_at lw_m4 134 rfl
theorem q1211 : (Jvm.Cond.fieldLinkNest "ScholarsPress$Book" (577 : Nat) "ScholarsPress$Entries" "terms" "I" "ScholarsPress") ∈ lw_tbl := lw_at lw_m4 137 rfl
theorem q1219 : (Jvm.Cond.fieldLinkNest "ScholarsPress$Book" (625 : Nat) "ScholarsPress$Entries" "many" "I" "ScholarsPress") ∈ lw_tbl := lw_at lw_m4 145 rfl
theorem q1241 : (Jvm.Cond.fieldLink "ScholarsPress$Book" (154 : Nat) "ScholarsPress$Book" "desk" "LScholarsPress$Desk;") ∈ lw_all := lw_g (lw_at lw_m4 167 rfl) rfl
theorem q1242 : (Jvm.Cond.fieldLink "ScholarsPress$Book" (12 : Nat) "ScholarsPress$Book" "\x72" "LScholarsPress$Rows;") ∈ lw_all := lw_g (lw_at lw_m4 168 rfl) rfl
theorem q1243 : (Jvm.Cond.fieldLink "ScholarsPress$Book" (158 : Nat) "ScholarsPress$Book" "tree" "LScholarsPress$Tree;") ∈ lw_all := lw_g (lw_at lw_m4 169 rfl) rfl
theorem q1245 : (Jvm.Cond.fieldLink "ScholarsPress$Book" (168 : Nat) "ScholarsPress$Book" "style" "LScholarsPress$Style;") ∈ lw_all := lw_g (lw_at lw_m4 171 rfl) rfl
theorem q1247 : (Jvm.Cond.fieldLink "ScholarsPress$Book" (174 : Nat) "ScholarsPress$Book" "font" "LScholarsPress$Font;") ∈ lw_all := lw_g (lw_at lw_m4 173 rfl) rfl
theorem q1248 : (Jvm.Cond.fieldLink "ScholarsPress$Book" (178 : Nat) "ScholarsPress$Book" "hyphens" "LScholarsPress$Hyphens;") ∈ lw_all := lw_g (lw_at lw_m4 174 rfl) rfl
theorem q1249 : (Jvm.Cond.fieldLink "ScholarsPress$Book" (173 : Nat) "ScholarsPress$Book" "source" "LScholarsPress$Source;") ∈ lw_all := lw_g (lw_at lw_m4 175 rfl) rfl
theorem q1251 : (Jvm.Cond.fieldLink "ScholarsPress$Book" (182 : Nat) "ScholarsPress$Book" "before" "LScholarsPress$Book;") ∈ lw_all := lw_g (lw_at lw_m4 177 rfl) rfl
theorem q1252 : (Jvm.Cond.fieldLink "ScholarsPress$Book" (20 : Nat) "ScholarsPress$Book" "pool" "[LScholarsPress$Paragraph;") ∈ lw_all := lw_g (lw_at lw_m4 178 rfl) rfl
theorem q1255 : (Jvm.Cond.fieldLink "ScholarsPress$Book" (189 : Nat) "ScholarsPress$Book" "used" "I") ∈ lw_all := lw_g (lw_at lw_m4 181 rfl) rfl
theorem q1256 : (Jvm.Cond.fieldLink "ScholarsPress$Book" (24 : Nat) "ScholarsPress$Book" "paragraphs" "[LScholarsPress$Paragraph;") ∈ lw_all := lw_g (lw_at lw_m4 182 rfl) rfl
theorem q1258 : (Jvm.Cond.fieldLink "ScholarsPress$Book" (193 : Nat) "ScholarsPress$Book" "many" "I") ∈ lw_all := lw_g (lw_at lw_m4 184 rfl) rfl
theorem q1260 : (Jvm.Cond.fieldLink "ScholarsPress$Book" (27 : Nat) "ScholarsPress$Book" "paragraphOf" "[I") ∈ lw_all := lw_g (lw_at lw_m4 186 rfl) rfl
theorem q1262 : (Jvm.Cond.fieldLink "ScholarsPress$Book" (31 : Nat) "ScholarsPress$Book" "lineIn" "[I") ∈ lw_all := lw_g (lw_at lw_m4 188 rfl) rfl
theorem q1264 : (Jvm.Cond.fieldLink "ScholarsPress$Book" (34 : Nat) "ScholarsPress$Book" "height" "[I") ∈ lw_all := lw_g (lw_at lw_m4 190 rfl) rfl
theorem q1265 : (Jvm.Cond.fieldLink "ScholarsPress$Book" (37 : Nat) "ScholarsPress$Book" "gapAhead" "[I") ∈ lw_all := lw_g (lw_at lw_m4 191 rfl) rfl
theorem q1266 : (Jvm.Cond.fieldLink "ScholarsPress$Book" (40 : Nat) "ScholarsPress$Book" "mayEnd" "[Z") ∈ lw_all := lw_g (lw_at lw_m4 192 rfl) rfl
theorem q1267 : (Jvm.Cond.fieldLink "ScholarsPress$Book" (44 : Nat) "ScholarsPress$Book" "numberOf" "[I") ∈ lw_all := lw_g (lw_at lw_m4 193 rfl) rfl
theorem q1269 : (Jvm.Cond.fieldLink "ScholarsPress$Book" (196 : Nat) "ScholarsPress$Book" "lines" "I") ∈ lw_all := lw_g (lw_at lw_m4 195 rfl) rfl
theorem q1271 : (Jvm.Cond.fieldLink "ScholarsPress$Book" (47 : Nat) "ScholarsPress$Book" "rowCells" "[I") ∈ lw_all := lw_g (lw_at lw_m4 197 rfl) rfl
theorem q1272 : (Jvm.Cond.fieldLink "ScholarsPress$Book" (50 : Nat) "ScholarsPress$Book" "rowCell" "[I") ∈ lw_all := lw_g (lw_at lw_m4 198 rfl) rfl
theorem q1273 : (Jvm.Cond.fieldLink "ScholarsPress$Book" (53 : Nat) "ScholarsPress$Book" "rowLeft" "[I") ∈ lw_all := lw_g (lw_at lw_m4 199 rfl) rfl
theorem q1275 : (Jvm.Cond.fieldLink "ScholarsPress$Book" (56 : Nat) "ScholarsPress$Book" "rowElement" "[I") ∈ lw_all := lw_g (lw_at lw_m4 201 rfl) rfl
theorem q1276 : (Jvm.Cond.fieldLink "ScholarsPress$Book" (199 : Nat) "ScholarsPress$Book" "rows" "I") ∈ lw_all := lw_g (lw_at lw_m4 202 rfl) rfl
theorem q1277 : (Jvm.Cond.fieldLink "ScholarsPress$Book" (59 : Nat) "ScholarsPress$Book" "items" "[I") ∈ lw_all := lw_g (lw_at lw_m4 203 rfl) rfl
theorem q1278 : (Jvm.Cond.fieldLink "ScholarsPress$Book" (62 : Nat) "ScholarsPress$Book" "itemGap" "[I") ∈ lw_all := lw_g (lw_at lw_m4 204 rfl) rfl
theorem q1279 : (Jvm.Cond.fieldLink "ScholarsPress$Book" (202 : Nat) "ScholarsPress$Book" "itemMany" "I") ∈ lw_all := lw_g (lw_at lw_m4 205 rfl) rfl
theorem q1280 : (Jvm.Cond.fieldLink "ScholarsPress$Book" (205 : Nat) "ScholarsPress$Book" "order" "I") ∈ lw_all := lw_g (lw_at lw_m4 206 rfl) rfl
theorem q1281 : (Jvm.Cond.fieldLink "ScholarsPress$Book" (65 : Nat) "ScholarsPress$Book" "lineOfByte" "[I") ∈ lw_all := lw_g (lw_at lw_m4 207 rfl) rfl
theorem q1282 : (Jvm.Cond.fieldLink "ScholarsPress$Book" (68 : Nat) "ScholarsPress$Book" "firstByte" "[I") ∈ lw_all := lw_g (lw_at lw_m4 208 rfl) rfl
theorem q1283 : (Jvm.Cond.fieldLink "ScholarsPress$Book" (71 : Nat) "ScholarsPress$Book" "endByte" "[I") ∈ lw_all := lw_g (lw_at lw_m4 209 rfl) rfl
theorem q1284 : (Jvm.Cond.fieldLink "ScholarsPress$Book" (74 : Nat) "ScholarsPress$Book" "beginsIn" "[I") ∈ lw_all := lw_g (lw_at lw_m4 210 rfl) rfl
theorem q1286 : (Jvm.Cond.fieldLink "ScholarsPress$Book" (77 : Nat) "ScholarsPress$Book" "endsIn" "[I") ∈ lw_all := lw_g (lw_at lw_m4 212 rfl) rfl
theorem q1288 : (Jvm.Cond.fieldLink "ScholarsPress$Book" (80 : Nat) "ScholarsPress$Book" "notes" "[I") ∈ lw_all := lw_g (lw_at lw_m4 214 rfl) rfl
theorem q1290 : (Jvm.Cond.fieldLink "ScholarsPress$Book" (83 : Nat) "ScholarsPress$Book" "noteParagraph" "[LScholarsPress$Paragraph;") ∈ lw_all := lw_g (lw_at lw_m4 216 rfl) rfl
theorem q1291 : (Jvm.Cond.fieldLink "ScholarsPress$Book" (86 : Nat) "ScholarsPress$Book" "noteCall" "[I") ∈ lw_all := lw_g (lw_at lw_m4 217 rfl) rfl
theorem q1293 : (Jvm.Cond.fieldLink "ScholarsPress$Book" (208 : Nat) "ScholarsPress$Book" "noteMany" "I") ∈ lw_all := lw_g (lw_at lw_m4 219 rfl) rfl
theorem q1295 : (Jvm.Cond.fieldLink "ScholarsPress$Book" (89 : Nat) "ScholarsPress$Book" "floats" "[I") ∈ lw_all := lw_g (lw_at lw_m4 221 rfl) rfl
theorem q1297 : (Jvm.Cond.fieldLink "ScholarsPress$Book" (92 : Nat) "ScholarsPress$Book" "floatCall" "[I") ∈ lw_all := lw_g (lw_at lw_m4 223 rfl) rfl
theorem q1299 : (Jvm.Cond.fieldLink "ScholarsPress$Book" (211 : Nat) "ScholarsPress$Book" "floatMany" "I") ∈ lw_all := lw_g (lw_at lw_m4 225 rfl) rfl
theorem q1301 : (Jvm.Cond.fieldLink "ScholarsPress$Book" (95 : Nat) "ScholarsPress$Book" "pageTaken" "[I") ∈ lw_all := lw_g (lw_at lw_m4 227 rfl) rfl
theorem q1302 : (Jvm.Cond.fieldLink "ScholarsPress$Book" (98 : Nat) "ScholarsPress$Book" "beginTaken" "[I") ∈ lw_all := lw_g (lw_at lw_m4 228 rfl) rfl
theorem q1303 : (Jvm.Cond.fieldLink "ScholarsPress$Book" (101 : Nat) "ScholarsPress$Book" "endTaken" "[I") ∈ lw_all := lw_g (lw_at lw_m4 229 rfl) rfl
theorem q1304 : (Jvm.Cond.fieldLink "ScholarsPress$Book" (107 : Nat) "ScholarsPress$Book" "entries" "LScholarsPress$Entries;") ∈ lw_all := lw_g (lw_at lw_m4 230 rfl) rfl
theorem q1306 : (Jvm.Cond.fieldLink "ScholarsPress$Book" (276 : Nat) "ScholarsPress$Book" "blockMany" "I") ∈ lw_all := lw_g (lw_at lw_m4 232 rfl) rfl
theorem q1307 : (Jvm.Cond.fieldLink "ScholarsPress$Book" (372 : Nat) "ScholarsPress$Book" "gap" "I") ∈ lw_all := lw_g (lw_at lw_m4 233 rfl) rfl
theorem q1308 : (Jvm.Cond.fieldLink "ScholarsPress$Book" (410 : Nat) "ScholarsPress$Book" "inNote" "Z") ∈ lw_all := lw_g (lw_at lw_m4 234 rfl) rfl
theorem q1309 : (Jvm.Cond.fieldLink "ScholarsPress$Book" (413 : Nat) "ScholarsPress$Book" "inCell" "Z") ∈ lw_all := lw_g (lw_at lw_m4 235 rfl) rfl
theorem q1310 : (Jvm.Cond.fieldLink "ScholarsPress$Book" (479 : Nat) "ScholarsPress$Book" "tableMany" "I") ∈ lw_all := lw_g (lw_at lw_m4 236 rfl) rfl
theorem q1311 : (Jvm.Cond.fieldLink "ScholarsPress$Book" (482 : Nat) "ScholarsPress$Book" "tableRows" "I") ∈ lw_all := lw_g (lw_at lw_m4 237 rfl) rfl
theorem q1312 : (Jvm.Cond.fieldLink "ScholarsPress$Book" (111 : Nat) "ScholarsPress$Book" "takers" "[I") ∈ lw_all := lw_g (lw_at lw_m4 238 rfl) rfl
theorem q1313 : (Jvm.Cond.fieldLink "ScholarsPress$Book" (114 : Nat) "ScholarsPress$Book" "takenOf" "[I") ∈ lw_all := lw_g (lw_at lw_m4 239 rfl) rfl
theorem q1314 : (Jvm.Cond.fieldLink "ScholarsPress$Book" (117 : Nat) "ScholarsPress$Book" "takenKind" "[I") ∈ lw_all := lw_g (lw_at lw_m5 0 rfl) rfl
theorem q1315 : (Jvm.Cond.fieldLink "ScholarsPress$Book" (214 : Nat) "ScholarsPress$Book" "taken" "I") ∈ lw_all := lw_g (lw_at lw_m5 1 rfl) rfl
theorem q1316 : (Jvm.Cond.fieldLink "ScholarsPress$Book" (120 : Nat) "ScholarsPress$Book" "noteFrom" "[I") ∈ lw_all := lw_g (lw_at lw_m5 2 rfl) rfl
theorem q1318 : (Jvm.Cond.fieldLink "ScholarsPress$Book" (123 : Nat) "ScholarsPress$Book" "noteSum" "[J") ∈ lw_all := lw_g (lw_at lw_m5 4 rfl) rfl
theorem q1319 : (Jvm.Cond.fieldLink "ScholarsPress$Book" (127 : Nat) "ScholarsPress$Book" "noteLineOf" "[I") ∈ lw_all := lw_g (lw_at lw_m5 5 rfl) rfl
theorem q1320 : (Jvm.Cond.fieldLink "ScholarsPress$Book" (220 : Nat) "ScholarsPress$Book" "noteLines" "I") ∈ lw_all := lw_g (lw_at lw_m5 6 rfl) rfl
theorem q1321 : (Jvm.Cond.fieldLink "ScholarsPress$Book" (217 : Nat) "ScholarsPress$Book" "columns" "I") ∈ lw_all := lw_g (lw_at lw_m5 7 rfl) rfl
theorem q1323 : (Jvm.Cond.fieldLink "ScholarsPress$Book" (130 : Nat) "ScholarsPress$Book" "firstLine" "[I") ∈ lw_all := lw_g (lw_at lw_m5 9 rfl) rfl
theorem q1324 : (Jvm.Cond.fieldLink "ScholarsPress$Book" (133 : Nat) "ScholarsPress$Book" "endLine" "[I") ∈ lw_all := lw_g (lw_at lw_m5 10 rfl) rfl
theorem q1325 : (Jvm.Cond.fieldLink "ScholarsPress$Book" (136 : Nat) "ScholarsPress$Book" "noteBegin" "[I") ∈ lw_all := lw_g (lw_at lw_m5 11 rfl) rfl
theorem q1326 : (Jvm.Cond.fieldLink "ScholarsPress$Book" (139 : Nat) "ScholarsPress$Book" "noteEnd" "[I") ∈ lw_all := lw_g (lw_at lw_m5 12 rfl) rfl
theorem q1328 : (Jvm.Cond.fieldLink "ScholarsPress$Book" (142 : Nat) "ScholarsPress$Book" "floatBegin" "[I") ∈ lw_all := lw_g (lw_at lw_m5 14 rfl) rfl
theorem q1329 : (Jvm.Cond.fieldLink "ScholarsPress$Book" (145 : Nat) "ScholarsPress$Book" "floatEnd" "[I") ∈ lw_all := lw_g (lw_at lw_m5 15 rfl) rfl
theorem q1330 : (Jvm.Cond.fieldLink "ScholarsPress$Book" (148 : Nat) "ScholarsPress$Book" "columnOf" "[I") ∈ lw_all := lw_g (lw_at lw_m5 16 rfl) rfl
theorem q1332 : (Jvm.Cond.fieldLink "ScholarsPress$Book" (151 : Nat) "ScholarsPress$Book" "topOf" "[I") ∈ lw_all := lw_g (lw_at lw_m5 18 rfl) rfl
theorem q1334 : (Jvm.Cond.laysFinal "ScholarsPress$Book" "ScholarsPress$Book" "desk" "LScholarsPress$Desk;") ∈ lw_all := lw_g (lw_at lw_m5 20 rfl) rfl
theorem q1335 : (Jvm.Cond.soleField "ScholarsPress$Book" "desk") ∈ lw_all := lw_g (lw_at lw_m5 21 rfl) rfl
theorem q1336 : (Jvm.Cond.laysFinal "ScholarsPress$Book" "ScholarsPress$Book" "\x72" "LScholarsPress$Rows;") ∈ lw_all := lw_g (lw_at lw_m5 22 rfl) rfl
theorem q1337 : (Jvm.Cond.soleField "ScholarsPress$Book" "\x72") ∈ lw_all := lw_g (lw_at lw_m5 23 rfl) rfl
theorem q1338 : (Jvm.Cond.lays "ScholarsPress$Book" "ScholarsPress$Book" "tree" "LScholarsPress$Tree;") ∈ lw_all := lw_g (lw_at lw_m5 24 rfl) rfl
theorem q1339 : (Jvm.Cond.soleField "ScholarsPress$Book" "tree") ∈ lw_all := lw_g (lw_at lw_m5 25 rfl) rfl
theorem q1340 : (Jvm.Cond.lays "ScholarsPress$Book" "ScholarsPress$Book" "style" "LScholarsPress$Style;") ∈ lw_all := lw_g (lw_at lw_m5 26 rfl) rfl
theorem q1341 : (Jvm.Cond.soleField "ScholarsPress$Book" "style") ∈ lw_all := lw_g (lw_at lw_m5 27 rfl) rfl
theorem q1342 : (Jvm.Cond.lays "ScholarsPress$Book" "ScholarsPress$Book" "font" "LScholarsPress$Font;") ∈ lw_all := lw_g (lw_at lw_m5 28 rfl) rfl
theorem q1343 : (Jvm.Cond.soleField "ScholarsPress$Book" "font") ∈ lw_all := lw_g (lw_at lw_m5 29 rfl) rfl
theorem q1344 : (Jvm.Cond.lays "ScholarsPress$Book" "ScholarsPress$Book" "hyphens" "LScholarsPress$Hyphens;") ∈ lw_all := lw_g (lw_at lw_m5 30 rfl) rfl
theorem q1345 : (Jvm.Cond.soleField "ScholarsPress$Book" "hyphens") ∈ lw_all := lw_g (lw_at lw_m5 31 rfl) rfl
theorem q1346 : (Jvm.Cond.lays "ScholarsPress$Book" "ScholarsPress$Book" "source" "LScholarsPress$Source;") ∈ lw_all := lw_g (lw_at lw_m5 32 rfl) rfl
theorem q1347 : (Jvm.Cond.soleField "ScholarsPress$Book" "source") ∈ lw_all := lw_g (lw_at lw_m5 33 rfl) rfl
theorem q1348 : (Jvm.Cond.lays "ScholarsPress$Book" "ScholarsPress$Book" "before" "LScholarsPress$Book;") ∈ lw_all := lw_g (lw_at lw_m5 34 rfl) rfl
theorem q1349 : (Jvm.Cond.soleField "ScholarsPress$Book" "before") ∈ lw_all := lw_g (lw_at lw_m5 35 rfl) rfl
theorem q1350 : (Jvm.Cond.laysFinal "ScholarsPress$Book" "ScholarsPress$Book" "pool" "[LScholarsPress$Paragraph;") ∈ lw_all := lw_g (lw_at lw_m5 36 rfl) rfl
theorem q1351 : (Jvm.Cond.soleField "ScholarsPress$Book" "pool") ∈ lw_all := lw_g (lw_at lw_m5 37 rfl) rfl
theorem q1352 : (Jvm.Cond.lays "ScholarsPress$Book" "ScholarsPress$Book" "used" "I") ∈ lw_all := lw_g (lw_at lw_m5 38 rfl) rfl
theorem q1353 : (Jvm.Cond.soleField "ScholarsPress$Book" "used") ∈ lw_all := lw_g (lw_at lw_m5 39 rfl) rfl
theorem q1354 : (Jvm.Cond.laysFinal "ScholarsPress$Book" "ScholarsPress$Book" "paragraphs" "[LScholarsPress$Paragraph;") ∈ lw_all := lw_g (lw_at lw_m5 40 rfl) rfl
theorem q1355 : (Jvm.Cond.soleField "ScholarsPress$Book" "paragraphs") ∈ lw_all := lw_g (lw_at lw_m5 41 rfl) rfl
theorem q1356 : (Jvm.Cond.lays "ScholarsPress$Book" "ScholarsPress$Book" "many" "I") ∈ lw_all := lw_g (lw_at lw_m5 42 rfl) rfl
theorem q1357 : (Jvm.Cond.soleField "ScholarsPress$Book" "many") ∈ lw_all := lw_g (lw_at lw_m5 43 rfl) rfl
theorem q1358 : (Jvm.Cond.laysFinal "ScholarsPress$Book" "ScholarsPress$Book" "paragraphOf" "[I") ∈ lw_all := lw_g (lw_at lw_m5 44 rfl) rfl
theorem q1359 : (Jvm.Cond.soleField "ScholarsPress$Book" "paragraphOf") ∈ lw_all := lw_g (lw_at lw_m5 45 rfl) rfl
theorem q1360 : (Jvm.Cond.laysFinal "ScholarsPress$Book" "ScholarsPress$Book" "lineIn" "[I") ∈ lw_all := lw_g (lw_at lw_m5 46 rfl) rfl
theorem q1361 : (Jvm.Cond.soleField "ScholarsPress$Book" "lineIn") ∈ lw_all := lw_g (lw_at lw_m5 47 rfl) rfl
theorem q1362 : (Jvm.Cond.laysFinal "ScholarsPress$Book" "ScholarsPress$Book" "height" "[I") ∈ lw_all := lw_g (lw_at lw_m5 48 rfl) rfl
theorem q1363 : (Jvm.Cond.soleField "ScholarsPress$Book" "height") ∈ lw_all := lw_g (lw_at lw_m5 49 rfl) rfl
theorem q1364 : (Jvm.Cond.laysFinal "ScholarsPress$Book" "ScholarsPress$Book" "gapAhead" "[I") ∈ lw_all := lw_g (lw_at lw_m5 50 rfl) rfl
theorem q1365 : (Jvm.Cond.soleField "ScholarsPress$Book" "gapAhead") ∈ lw_all := lw_g (lw_at lw_m5 51 rfl) rfl
theorem q1366 : (Jvm.Cond.laysFinal "ScholarsPress$Book" "ScholarsPress$Book" "mayEnd" "[Z") ∈ lw_all := lw_g (lw_at lw_m5 52 rfl) rfl
theorem q1367 : (Jvm.Cond.soleField "ScholarsPress$Book" "mayEnd") ∈ lw_all := lw_g (lw_at lw_m5 53 rfl) rfl
theorem q1368 : (Jvm.Cond.laysFinal "ScholarsPress$Book" "ScholarsPress$Book" "numberOf" "[I") ∈ lw_all := lw_g (lw_at lw_m5 54 rfl) rfl
theorem q1369 : (Jvm.Cond.soleField "ScholarsPress$Book" "numberOf") ∈ lw_all := lw_g (lw_at lw_m5 55 rfl) rfl
theorem q1370 : (Jvm.Cond.lays "ScholarsPress$Book" "ScholarsPress$Book" "lines" "I") ∈ lw_all := lw_g (lw_at lw_m5 56 rfl) rfl
theorem q1371 : (Jvm.Cond.soleField "ScholarsPress$Book" "lines") ∈ lw_all := lw_g (lw_at lw_m5 57 rfl) rfl
theorem q1372 : (Jvm.Cond.laysFinal "ScholarsPress$Book" "ScholarsPress$Book" "rowCells" "[I") ∈ lw_all := lw_g (lw_at lw_m5 58 rfl) rfl
theorem q1373 : (Jvm.Cond.soleField "ScholarsPress$Book" "rowCells") ∈ lw_all := lw_g (lw_at lw_m5 59 rfl) rfl
theorem q1374 : (Jvm.Cond.laysFinal "ScholarsPress$Book" "ScholarsPress$Book" "rowCell" "[I") ∈ lw_all := lw_g (lw_at lw_m5 60 rfl) rfl
theorem q1375 : (Jvm.Cond.soleField "ScholarsPress$Book" "rowCell") ∈ lw_all := lw_g (lw_at lw_m5 61 rfl) rfl
theorem q1376 : (Jvm.Cond.laysFinal "ScholarsPress$Book" "ScholarsPress$Book" "rowLeft" "[I") ∈ lw_all := lw_g (lw_at lw_m5 62 rfl) rfl
theorem q1377 : (Jvm.Cond.soleField "ScholarsPress$Book" "rowLeft") ∈ lw_all := lw_g (lw_at lw_m5 63 rfl) rfl
theorem q1378 : (Jvm.Cond.laysFinal "ScholarsPress$Book" "ScholarsPress$Book" "rowElement" "[I") ∈ lw_all := lw_g (lw_at lw_m5 64 rfl) rfl
theorem q1379 : (Jvm.Cond.soleField "ScholarsPress$Book" "rowElement") ∈ lw_all := lw_g (lw_at lw_m5 65 rfl) rfl
theorem q1380 : (Jvm.Cond.lays "ScholarsPress$Book" "ScholarsPress$Book" "rows" "I") ∈ lw_all := lw_g (lw_at lw_m5 66 rfl) rfl
theorem q1381 : (Jvm.Cond.soleField "ScholarsPress$Book" "rows") ∈ lw_all := lw_g (lw_at lw_m5 67 rfl) rfl
theorem q1382 : (Jvm.Cond.laysFinal "ScholarsPress$Book" "ScholarsPress$Book" "items" "[I") ∈ lw_all := lw_g (lw_at lw_m5 68 rfl) rfl
theorem q1383 : (Jvm.Cond.soleField "ScholarsPress$Book" "items") ∈ lw_all := lw_g (lw_at lw_m5 69 rfl) rfl
theorem q1384 : (Jvm.Cond.laysFinal "ScholarsPress$Book" "ScholarsPress$Book" "itemGap" "[I") ∈ lw_all := lw_g (lw_at lw_m5 70 rfl) rfl
theorem q1385 : (Jvm.Cond.soleField "ScholarsPress$Book" "itemGap") ∈ lw_all := lw_g (lw_at lw_m5 71 rfl) rfl
theorem q1386 : (Jvm.Cond.lays "ScholarsPress$Book" "ScholarsPress$Book" "itemMany" "I") ∈ lw_all := lw_g (lw_at lw_m5 72 rfl) rfl
theorem q1387 : (Jvm.Cond.soleField "ScholarsPress$Book" "itemMany") ∈ lw_all := lw_g (lw_at lw_m5 73 rfl) rfl
theorem q1388 : (Jvm.Cond.lays "ScholarsPress$Book" "ScholarsPress$Book" "order" "I") ∈ lw_all := lw_g (lw_at lw_m5 74 rfl) rfl
theorem q1389 : (Jvm.Cond.soleField "ScholarsPress$Book" "order") ∈ lw_all := lw_g (lw_at lw_m5 75 rfl) rfl
theorem q1390 : (Jvm.Cond.laysFinal "ScholarsPress$Book" "ScholarsPress$Book" "lineOfByte" "[I") ∈ lw_all := lw_g (lw_at lw_m5 76 rfl) rfl
theorem q1391 : (Jvm.Cond.soleField "ScholarsPress$Book" "lineOfByte") ∈ lw_all := lw_g (lw_at lw_m5 77 rfl) rfl
theorem q1392 : (Jvm.Cond.laysFinal "ScholarsPress$Book" "ScholarsPress$Book" "firstByte" "[I") ∈ lw_all := lw_g (lw_at lw_m5 78 rfl) rfl
theorem q1393 : (Jvm.Cond.soleField "ScholarsPress$Book" "firstByte") ∈ lw_all := lw_g (lw_at lw_m5 79 rfl) rfl
theorem q1394 : (Jvm.Cond.laysFinal "ScholarsPress$Book" "ScholarsPress$Book" "endByte" "[I") ∈ lw_all := lw_g (lw_at lw_m5 80 rfl) rfl
theorem q1395 : (Jvm.Cond.soleField "ScholarsPress$Book" "endByte") ∈ lw_all := lw_g (lw_at lw_m5 81 rfl) rfl
theorem q1396 : (Jvm.Cond.laysFinal "ScholarsPress$Book" "ScholarsPress$Book" "beginsIn" "[I") ∈ lw_all := lw_g (lw_at lw_m5 82 rfl) rfl
theorem q1397 : (Jvm.Cond.soleField "ScholarsPress$Book" "beginsIn") ∈ lw_all := lw_g (lw_at lw_m5 83 rfl) rfl
theorem q1398 : (Jvm.Cond.laysFinal "ScholarsPress$Book" "ScholarsPress$Book" "endsIn" "[I") ∈ lw_all := lw_g (lw_at lw_m5 84 rfl) rfl
theorem q1399 : (Jvm.Cond.soleField "ScholarsPress$Book" "endsIn") ∈ lw_all := lw_g (lw_at lw_m5 85 rfl) rfl
theorem q1400 : (Jvm.Cond.laysFinal "ScholarsPress$Book" "ScholarsPress$Book" "notes" "[I") ∈ lw_all := lw_g (lw_at lw_m5 86 rfl) rfl
theorem q1401 : (Jvm.Cond.soleField "ScholarsPress$Book" "notes") ∈ lw_all := lw_g (lw_at lw_m5 87 rfl) rfl
theorem q1402 : (Jvm.Cond.laysFinal "ScholarsPress$Book" "ScholarsPress$Book" "noteParagraph" "[LScholarsPress$Paragraph;") ∈ lw_all := lw_g (lw_at lw_m5 88 rfl) rfl
theorem q1403 : (Jvm.Cond.soleField "ScholarsPress$Book" "noteParagraph") ∈ lw_all := lw_g (lw_at lw_m5 89 rfl) rfl
theorem q1404 : (Jvm.Cond.laysFinal "ScholarsPress$Book" "ScholarsPress$Book" "noteCall" "[I") ∈ lw_all := lw_g (lw_at lw_m5 90 rfl) rfl
theorem q1405 : (Jvm.Cond.soleField "ScholarsPress$Book" "noteCall") ∈ lw_all := lw_g (lw_at lw_m5 91 rfl) rfl
theorem q1406 : (Jvm.Cond.lays "ScholarsPress$Book" "ScholarsPress$Book" "noteMany" "I") ∈ lw_all := lw_g (lw_at lw_m5 92 rfl) rfl
theorem q1407 : (Jvm.Cond.soleField "ScholarsPress$Book" "noteMany") ∈ lw_all := lw_g (lw_at lw_m5 93 rfl) rfl
theorem q1408 : (Jvm.Cond.laysFinal "ScholarsPress$Book" "ScholarsPress$Book" "floats" "[I") ∈ lw_all := lw_g (lw_at lw_m5 94 rfl) rfl
theorem q1409 : (Jvm.Cond.soleField "ScholarsPress$Book" "floats") ∈ lw_all := lw_g (lw_at lw_m5 95 rfl) rfl
theorem q1410 : (Jvm.Cond.laysFinal "ScholarsPress$Book" "ScholarsPress$Book" "floatCall" "[I") ∈ lw_all := lw_g (lw_at lw_m5 96 rfl) rfl
theorem q1411 : (Jvm.Cond.soleField "ScholarsPress$Book" "floatCall") ∈ lw_all := lw_g (lw_at lw_m5 97 rfl) rfl
theorem q1412 : (Jvm.Cond.lays "ScholarsPress$Book" "ScholarsPress$Book" "floatMany" "I") ∈ lw_all := lw_g (lw_at lw_m5 98 rfl) rfl
theorem q1413 : (Jvm.Cond.soleField "ScholarsPress$Book" "floatMany") ∈ lw_all := lw_g (lw_at lw_m5 99 rfl) rfl
theorem q1414 : (Jvm.Cond.laysFinal "ScholarsPress$Book" "ScholarsPress$Book" "pageTaken" "[I") ∈ lw_all := lw_g (lw_at lw_m5 100 rfl) rfl
theorem q1415 : (Jvm.Cond.soleField "ScholarsPress$Book" "pageTaken") ∈ lw_all := lw_g (lw_at lw_m5 101 rfl) rfl
theorem q1416 : (Jvm.Cond.laysFinal "ScholarsPress$Book" "ScholarsPress$Book" "beginTaken" "[I") ∈ lw_all := lw_g (lw_at lw_m5 102 rfl) rfl
theorem q1417 : (Jvm.Cond.soleField "ScholarsPress$Book" "beginTaken") ∈ lw_all := lw_g (lw_at lw_m5 103 rfl) rfl
theorem q1418 : (Jvm.Cond.laysFinal "ScholarsPress$Book" "ScholarsPress$Book" "endTaken" "[I") ∈ lw_all := lw_g (lw_at lw_m5 104 rfl) rfl
theorem q1419 : (Jvm.Cond.soleField "ScholarsPress$Book" "endTaken") ∈ lw_all := lw_g (lw_at lw_m5 105 rfl) rfl
theorem q1420 : (Jvm.Cond.laysFinal "ScholarsPress$Book" "ScholarsPress$Book" "entries" "LScholarsPress$Entries;") ∈ lw_all := lw_g (lw_at lw_m5 106 rfl) rfl
theorem q1421 : (Jvm.Cond.soleField "ScholarsPress$Book" "entries") ∈ lw_all := lw_g (lw_at lw_m5 107 rfl) rfl
theorem q1422 : (Jvm.Cond.lays "ScholarsPress$Book" "ScholarsPress$Book" "blockMany" "I") ∈ lw_all := lw_g (lw_at lw_m5 108 rfl) rfl
theorem q1423 : (Jvm.Cond.soleField "ScholarsPress$Book" "blockMany") ∈ lw_all := lw_g (lw_at lw_m5 109 rfl) rfl
theorem q1424 : (Jvm.Cond.lays "ScholarsPress$Book" "ScholarsPress$Book" "gap" "I") ∈ lw_all := lw_g (lw_at lw_m5 110 rfl) rfl
theorem q1425 : (Jvm.Cond.soleField "ScholarsPress$Book" "gap") ∈ lw_all := lw_g (lw_at lw_m5 111 rfl) rfl
theorem q1426 : (Jvm.Cond.lays "ScholarsPress$Book" "ScholarsPress$Book" "inNote" "Z") ∈ lw_all := lw_g (lw_at lw_m5 112 rfl) rfl
theorem q1427 : (Jvm.Cond.soleField "ScholarsPress$Book" "inNote") ∈ lw_all := lw_g (lw_at lw_m5 113 rfl) rfl
theorem q1428 : (Jvm.Cond.lays "ScholarsPress$Book" "ScholarsPress$Book" "inCell" "Z") ∈ lw_all := lw_g (lw_at lw_m5 114 rfl) rfl
theorem q1429 : (Jvm.Cond.soleField "ScholarsPress$Book" "inCell") ∈ lw_all := lw_g (lw_at lw_m5 115 rfl) rfl
theorem q1430 : (Jvm.Cond.lays "ScholarsPress$Book" "ScholarsPress$Book" "tableMany" "I") ∈ lw_all := lw_g (lw_at lw_m5 116 rfl) rfl
theorem q1431 : (Jvm.Cond.soleField "ScholarsPress$Book" "tableMany") ∈ lw_all := lw_g (lw_at lw_m5 117 rfl) rfl
theorem q1432 : (Jvm.Cond.lays "ScholarsPress$Book" "ScholarsPress$Book" "tableRows" "I") ∈ lw_all := lw_g (lw_at lw_m5 118 rfl) rfl
theorem q1433 : (Jvm.Cond.soleField "ScholarsPress$Book" "tableRows") ∈ lw_all := lw_g (lw_at lw_m5 119 rfl) rfl
theorem q1434 : (Jvm.Cond.laysFinal "ScholarsPress$Book" "ScholarsPress$Book" "takers" "[I") ∈ lw_all := lw_g (lw_at lw_m5 120 rfl) rfl
theorem q1435 : (Jvm.Cond.soleField "ScholarsPress$Book" "takers") ∈ lw_all := lw_g (lw_at lw_m5 121 rfl) rfl
theorem q1436 : (Jvm.Cond.laysFinal "ScholarsPress$Book" "ScholarsPress$Book" "takenOf" "[I") ∈ lw_all := lw_g (lw_at lw_m5 122 rfl) rfl
theorem q1437 : (Jvm.Cond.soleField "ScholarsPress$Book" "takenOf") ∈ lw_all := lw_g (lw_at lw_m5 123 rfl) rfl
theorem q1438 : (Jvm.Cond.laysFinal "ScholarsPress$Book" "ScholarsPress$Book" "takenKind" "[I") ∈ lw_all := lw_g (lw_at lw_m5 124 rfl) rfl
theorem q1439 : (Jvm.Cond.soleField "ScholarsPress$Book" "takenKind") ∈ lw_all := lw_g (lw_at lw_m5 125 rfl) rfl
theorem q1440 : (Jvm.Cond.lays "ScholarsPress$Book" "ScholarsPress$Book" "taken" "I") ∈ lw_all := lw_g (lw_at lw_m5 126 rfl) rfl
theorem q1441 : (Jvm.Cond.soleField "ScholarsPress$Book" "taken") ∈ lw_all := lw_g (lw_at lw_m5 127 rfl) rfl
theorem q1442 : (Jvm.Cond.laysFinal "ScholarsPress$Book" "ScholarsPress$Book" "noteFrom" "[I") ∈ lw_all := lw_g (lw_at lw_m5 128 rfl) rfl
theorem q1443 : (Jvm.Cond.soleField "ScholarsPress$Book" "noteFrom") ∈ lw_all := lw_g (lw_at lw_m5 129 rfl) rfl
theorem q1444 : (Jvm.Cond.laysFinal "ScholarsPress$Book" "ScholarsPress$Book" "noteSum" "[J") ∈ lw_all := lw_g (lw_at lw_m5 130 rfl) rfl
theorem q1445 : (Jvm.Cond.soleField "ScholarsPress$Book" "noteSum") ∈ lw_all := lw_g (lw_at lw_m5 131 rfl) rfl
theorem q1446 : (Jvm.Cond.laysFinal "ScholarsPress$Book" "ScholarsPress$Book" "noteLineOf" "[I") ∈ lw_all := lw_g (lw_at lw_m5 132 rfl) rfl
theorem q1447 : (Jvm.Cond.soleField "ScholarsPress$Book" "noteLineOf") ∈ lw_all := lw_g (lw_at lw_m5 133 rfl) rfl
theorem q1448 : (Jvm.Cond.lays "ScholarsPress$Book" "ScholarsPress$Book" "noteLines" "I") ∈ lw_all := lw_g (lw_at lw_m5 134 rfl) rfl
theorem q1449 : (Jvm.Cond.soleField "ScholarsPress$Book" "noteLines") ∈ lw_all := lw_g (lw_at lw_m5 135 rfl) rfl
theorem q1450 : (Jvm.Cond.lays "ScholarsPress$Book" "ScholarsPress$Book" "columns" "I") ∈ lw_all := lw_g (lw_at lw_m5 136 rfl) rfl
theorem q1451 : (Jvm.Cond.soleField "ScholarsPress$Book" "columns") ∈ lw_all := lw_g (lw_at lw_m5 137 rfl) rfl
theorem q1452 : (Jvm.Cond.laysFinal "ScholarsPress$Book" "ScholarsPress$Book" "firstLine" "[I") ∈ lw_all := lw_g (lw_at lw_m5 138 rfl) rfl
theorem q1453 : (Jvm.Cond.soleField "ScholarsPress$Book" "firstLine") ∈ lw_all := lw_g (lw_at lw_m5 139 rfl) rfl
theorem q1454 : (Jvm.Cond.laysFinal "ScholarsPress$Book" "ScholarsPress$Book" "endLine" "[I") ∈ lw_all := lw_g (lw_at lw_m5 140 rfl) rfl
theorem q1455 : (Jvm.Cond.soleField "ScholarsPress$Book" "endLine") ∈ lw_all := lw_g (lw_at lw_m5 141 rfl) rfl
theorem q1456 : (Jvm.Cond.laysFinal "ScholarsPress$Book" "ScholarsPress$Book" "noteBegin" "[I") ∈ lw_all := lw_g (lw_at lw_m5 142 rfl) rfl
theorem q1457 : (Jvm.Cond.soleField "ScholarsPress$Book" "noteBegin") ∈ lw_all := lw_g (lw_at lw_m5 143 rfl) rfl
theorem q1458 : (Jvm.Cond.laysFinal "ScholarsPress$Book" "ScholarsPress$Book" "noteEnd" "[I") ∈ lw_all := lw_g (lw_at lw_m5 144 rfl) rfl
theorem q1459 : (Jvm.Cond.soleField "ScholarsPress$Book" "noteEnd") ∈ lw_all := lw_g (lw_at lw_m5 145 rfl) rfl
theorem q1460 : (Jvm.Cond.laysFinal "ScholarsPress$Book" "ScholarsPress$Book" "floatBegin" "[I") ∈ lw_all := lw_g (lw_at lw_m5 146 rfl) rfl
theorem q1461 : (Jvm.Cond.soleField "ScholarsPress$Book" "floatBegin") ∈ lw_all := lw_g (lw_at lw_m5 147 rfl) rfl
theorem q1462 : (Jvm.Cond.laysFinal "ScholarsPress$Book" "ScholarsPress$Book" "floatEnd" "[I") ∈ lw_all := lw_g (lw_at lw_m5 148 rfl) rfl
theorem q1463 : (Jvm.Cond.soleField "ScholarsPress$Book" "floatEnd") ∈ lw_all := lw_g (lw_at lw_m5 149 rfl) rfl
theorem q1464 : (Jvm.Cond.laysFinal "ScholarsPress$Book" "ScholarsPress$Book" "columnOf" "[I") ∈ lw_all := lw_g (lw_at lw_m5 150 rfl) rfl
theorem q1465 : (Jvm.Cond.soleField "ScholarsPress$Book" "columnOf") ∈ lw_all := lw_g (lw_at lw_m5 151 rfl) rfl
theorem q1466 : (Jvm.Cond.laysFinal "ScholarsPress$Book" "ScholarsPress$Book" "topOf" "[I") ∈ lw_all := lw_g (lw_at lw_m5 152 rfl) rfl
theorem q1467 : (Jvm.Cond.soleField "ScholarsPress$Book" "topOf") ∈ lw_all := lw_g (lw_at lw_m5 153 rfl) rfl
theorem q1468 : (Jvm.Cond.superclass "ScholarsPress$Book" "java/lang/Object") ∈ lw_all := lw_g (lw_at lw_m5 154 rfl) rfl
theorem q2359 : (Jvm.Cond.privateMethod ({ cls := "ScholarsPress$Book", name := "begin", desc := "(LScholarsPress$Tree;LScholarsPress$Font;LScholarsPress$Hyphens;LScholarsPress$Book;)V" } : Jvm.MethodName)) ∈ lw_tbl := lw_at lw_m9 85 rfl
theorem q2360 : (Jvm.Cond.instanceMethod ({ cls := "ScholarsPress$Book", name := "begin", desc := "(LScholarsPress$Tree;LScholarsPress$Font;LScholarsPress$Hyphens;LScholarsPress$Book;)V" } : Jvm.MethodName)) ∈ lw_all := lw_g (lw_at lw_m9 86 rfl) rfl
theorem q2361 : (Jvm.Cond.code ({ cls := "ScholarsPress$Book", name := "begin", desc := "(LScholarsPress$Tree;LScholarsPress$Font;LScholarsPress$Hyphens;LScholarsPress$Book;)V" } : Jvm.MethodName) prog_2_method_2_code (6 : Nat) (Option.none : Option Jvm.ClassFile.FieldType)) ∈ lw_all := lw_g (lw_at lw_m9 87 rfl) rfl
theorem q2362 : (Jvm.Cond.methodLinkNest "ScholarsPress$Book" (186 : Nat) ({ cls := "ScholarsPress$Rows", name := "clear", desc := "()V" } : Jvm.MethodName) "ScholarsPress") ∈ lw_tbl := lw_at lw_m9 88 rfl
theorem q2366 : (Jvm.Cond.methodLink "ScholarsPress$Book" (224 : Nat) ({ cls := "ScholarsPress$Book", name := "pageOf", desc := "(I)I" } : Jvm.MethodName)) ∈ lw_all := lw_g (lw_at lw_m9 92 rfl) rfl
theorem q2367 : (Jvm.Cond.privateMethod ({ cls := "ScholarsPress$Book", name := "pageOf", desc := "(I)I" } : Jvm.MethodName)) ∈ lw_tbl := lw_at lw_m9 93 rfl
theorem q2368 : (Jvm.Cond.instanceMethod ({ cls := "ScholarsPress$Book", name := "pageOf", desc := "(I)I" } : Jvm.MethodName)) ∈ lw_all := lw_g (lw_at lw_m9 94 rfl) rfl
theorem q2369 : (Jvm.Cond.code ({ cls := "ScholarsPress$Book", name := "pageOf", desc := "(I)I" } : Jvm.MethodName) prog_2_method_4_code (2 : Nat) (Option.some Jvm.ClassFile.FieldType.int)) ∈ lw_all := lw_g (lw_at lw_m9 95 rfl) rfl
theorem q2370 : (Jvm.Cond.methodLink "ScholarsPress$Book" (234 : Nat) ({ cls := "ScholarsPress$Book", name := "pageAt", desc := "(I)I" } : Jvm.MethodName)) ∈ lw_all := lw_g (lw_at lw_m9 96 rfl) rfl
theorem q2371 : (Jvm.Cond.privateMethod ({ cls := "ScholarsPress$Book", name := "pageAt", desc := "(I)I" } : Jvm.MethodName)) ∈ lw_tbl := lw_at lw_m9 97 rfl
theorem q2372 : (Jvm.Cond.instanceMethod ({ cls := "ScholarsPress$Book", name := "pageAt", desc := "(I)I" } : Jvm.MethodName)) ∈ lw_all := lw_g (lw_at lw_m9 98 rfl) rfl
theorem q2373 : (Jvm.Cond.code ({ cls := "ScholarsPress$Book", name := "pageAt", desc := "(I)I" } : Jvm.MethodName) prog_2_method_58_code (2 : Nat) (Option.some Jvm.ClassFile.FieldType.int)) ∈ lw_all := lw_g (lw_at lw_m9 99 rfl) rfl
theorem q2374 : (Jvm.Cond.methodLink "ScholarsPress$Book" (228 : Nat) ({ cls := "ScholarsPress$Book", name := "numberAt", desc := "(I)I" } : Jvm.MethodName)) ∈ lw_all := lw_g (lw_at lw_m9 100 rfl) rfl
theorem q2375 : (Jvm.Cond.privateMethod ({ cls := "ScholarsPress$Book", name := "numberAt", desc := "(I)I" } : Jvm.MethodName)) ∈ lw_tbl := lw_at lw_m9 101 rfl
theorem q2376 : (Jvm.Cond.instanceMethod ({ cls := "ScholarsPress$Book", name := "numberAt", desc := "(I)I" } : Jvm.MethodName)) ∈ lw_all := lw_g (lw_at lw_m9 102 rfl) rfl
theorem q2377 : (Jvm.Cond.code ({ cls := "ScholarsPress$Book", name := "numberAt", desc := "(I)I" } : Jvm.MethodName) prog_2_method_3_code (2 : Nat) (Option.some Jvm.ClassFile.FieldType.int)) ∈ lw_all := lw_g (lw_at lw_m9 103 rfl) rfl
theorem q2378 : (Jvm.Cond.methodLink "ScholarsPress$Book" (231 : Nat) ({ cls := "ScholarsPress$Book", name := "lastNumber", desc := "(I)I" } : Jvm.MethodName)) ∈ lw_all := lw_g (lw_at lw_m9 104 rfl) rfl
theorem q2379 : (Jvm.Cond.privateMethod ({ cls := "ScholarsPress$Book", name := "lastNumber", desc := "(I)I" } : Jvm.MethodName)) ∈ lw_tbl := lw_at lw_m9 105 rfl
theorem q2380 : (Jvm.Cond.instanceMethod ({ cls := "ScholarsPress$Book", name := "lastNumber", desc := "(I)I" } : Jvm.MethodName)) ∈ lw_all := lw_g (lw_at lw_m9 106 rfl) rfl
theorem q2381 : (Jvm.Cond.code ({ cls := "ScholarsPress$Book", name := "lastNumber", desc := "(I)I" } : Jvm.MethodName) prog_2_method_5_code (2 : Nat) (Option.some Jvm.ClassFile.FieldType.int)) ∈ lw_all := lw_g (lw_at lw_m9 107 rfl) rfl
theorem q2383 : (Jvm.Cond.privateMethod ({ cls := "ScholarsPress$Book", name := "gather", desc := "()V" } : Jvm.MethodName)) ∈ lw_tbl := lw_at lw_m9 109 rfl
theorem q2384 : (Jvm.Cond.instanceMethod ({ cls := "ScholarsPress$Book", name := "gather", desc := "()V" } : Jvm.MethodName)) ∈ lw_all := lw_g (lw_at lw_m9 110 rfl) rfl
theorem q2385 : (Jvm.Cond.code ({ cls := "ScholarsPress$Book", name := "gather", desc := "()V" } : Jvm.MethodName) prog_2_method_20_code (4 : Nat) (Option.none : Option Jvm.ClassFile.FieldType)) ∈ lw_all := lw_g (lw_at lw_m9 111 rfl) rfl
theorem q2386 : (Jvm.Cond.methodLinkNest "ScholarsPress$Book" (400 : Nat) ({ cls := "ScholarsPress$Entries", name := "find", desc := "(LScholarsPress$Tree;)V" } : Jvm.MethodName) "ScholarsPress") ∈ lw_tbl := lw_at lw_m9 112 rfl
theorem q2477 : (Jvm.Cond.methodLinkNest "ScholarsPress$Book" (367 : Nat) ({ cls := "ScholarsPress$Text", name := "clear", desc := "()V" } : Jvm.MethodName) "ScholarsPress") ∈ lw_tbl := lw_at lw_m9 203 rfl
theorem q2481 : (Jvm.Cond.methodLink "ScholarsPress$Book" (425 : Nat) ({ cls := "ScholarsPress$Book", name := "begin", desc := "(I)V" } : Jvm.MethodName)) ∈ lw_all := lw_g (lw_at lw_m9 207 rfl) rfl
theorem q2482 : (Jvm.Cond.privateMethod ({ cls := "ScholarsPress$Book", name := "begin", desc := "(I)V" } : Jvm.MethodName)) ∈ lw_tbl := lw_at lw_m9 208 rfl
theorem q2483 : (Jvm.Cond.instanceMethod ({ cls := "ScholarsPress$Book", name := "begin", desc := "(I)V" } : Jvm.MethodName)) ∈ lw_all := lw_g (lw_at lw_m9 209 rfl) rfl
theorem q2484 : (Jvm.Cond.code ({ cls := "ScholarsPress$Book", name := "begin", desc := "(I)V" } : Jvm.MethodName) prog_2_method_24_code (2 : Nat) (Option.none : Option Jvm.ClassFile.FieldType)) ∈ lw_all := lw_g (lw_at lw_m9 210 rfl) rfl
theorem q2485 : (Jvm.Cond.methodLinkNest "ScholarsPress$Book" (465 : Nat) ({ cls := "ScholarsPress$Tree", name := "isBlock", desc := "(I)Z" } : Jvm.MethodName) "ScholarsPress") ∈ lw_tbl := lw_at lw_m9 211 rfl
theorem q2489 : (Jvm.Cond.methodLink "ScholarsPress$Book" (468 : Nat) ({ cls := "ScholarsPress$Book", name := "open", desc := "(I)V" } : Jvm.MethodName)) ∈ lw_all := lw_g (lw_at lw_m9 215 rfl) rfl
theorem q2490 : (Jvm.Cond.privateMethod ({ cls := "ScholarsPress$Book", name := "open", desc := "(I)V" } : Jvm.MethodName)) ∈ lw_tbl := lw_at lw_m9 216 rfl
theorem q2491 : (Jvm.Cond.instanceMethod ({ cls := "ScholarsPress$Book", name := "open", desc := "(I)V" } : Jvm.MethodName)) ∈ lw_all := lw_g (lw_at lw_m9 217 rfl) rfl
theorem q2492 : (Jvm.Cond.code ({ cls := "ScholarsPress$Book", name := "open", desc := "(I)V" } : Jvm.MethodName) prog_2_method_18_code (3 : Nat) (Option.none : Option Jvm.ClassFile.FieldType)) ∈ lw_all := lw_g (lw_at lw_m9 218 rfl) rfl
theorem q2493 : (Jvm.Cond.methodLink "ScholarsPress$Book" (397 : Nat) ({ cls := "ScholarsPress$Book", name := "flush", desc := "()V" } : Jvm.MethodName)) ∈ lw_all := lw_g (lw_at lw_m9 219 rfl) rfl
theorem q2494 : (Jvm.Cond.privateMethod ({ cls := "ScholarsPress$Book", name := "flush", desc := "()V" } : Jvm.MethodName)) ∈ lw_tbl := lw_at lw_m9 220 rfl
theorem q2495 : (Jvm.Cond.instanceMethod ({ cls := "ScholarsPress$Book", name := "flush", desc := "()V" } : Jvm.MethodName)) ∈ lw_all := lw_g (lw_at lw_m9 221 rfl) rfl
theorem q2496 : (Jvm.Cond.code ({ cls := "ScholarsPress$Book", name := "flush", desc := "()V" } : Jvm.MethodName) prog_2_method_16_code (1 : Nat) (Option.none : Option Jvm.ClassFile.FieldType)) ∈ lw_all := lw_g (lw_at lw_m9 222 rfl) rfl
theorem q2497 : (Jvm.Cond.methodLink "ScholarsPress$Book" (289 : Nat) ({ cls := "ScholarsPress$Book", name := "inset", desc := "(I)I" } : Jvm.MethodName)) ∈ lw_all := lw_g (lw_at lw_m9 223 rfl) rfl
theorem q2498 : (Jvm.Cond.privateMethod ({ cls := "ScholarsPress$Book", name := "inset", desc := "(I)I" } : Jvm.MethodName)) ∈ lw_tbl := lw_at lw_m9 224 rfl
theorem q2499 : (Jvm.Cond.instanceMethod ({ cls := "ScholarsPress$Book", name := "inset", desc := "(I)I" } : Jvm.MethodName)) ∈ lw_all := lw_g (lw_at lw_m9 225 rfl) rfl
theorem q2500 : (Jvm.Cond.code ({ cls := "ScholarsPress$Book", name := "inset", desc := "(I)I" } : Jvm.MethodName) prog_2_method_11_code (4 : Nat) (Option.some Jvm.ClassFile.FieldType.int)) ∈ lw_all := lw_g (lw_at lw_m9 226 rfl) rfl
theorem q2501 : (Jvm.Cond.methodLink "ScholarsPress$Book" (283 : Nat) ({ cls := "ScholarsPress$Book", name := "property", desc := "(II)I" } : Jvm.MethodName)) ∈ lw_all := lw_g (lw_at lw_m9 227 rfl) rfl
theorem q2502 : (Jvm.Cond.privateMethod ({ cls := "ScholarsPress$Book", name := "property", desc := "(II)I" } : Jvm.MethodName)) ∈ lw_tbl := lw_at lw_m9 228 rfl
theorem q2503 : (Jvm.Cond.instanceMethod ({ cls := "ScholarsPress$Book", name := "property", desc := "(II)I" } : Jvm.MethodName)) ∈ lw_all := lw_g (lw_at lw_m9 229 rfl) rfl
theorem q2504 : (Jvm.Cond.code ({ cls := "ScholarsPress$Book", name := "property", desc := "(II)I" } : Jvm.MethodName) prog_2_method_10_code (3 : Nat) (Option.some Jvm.ClassFile.FieldType.int)) ∈ lw_all := lw_g (lw_at lw_m9 230 rfl) rfl
theorem q2505 : (Jvm.Cond.methodLinkNest "ScholarsPress$Book" (279 : Nat) ({ cls := "ScholarsPress$Tree", name := "property", desc := "(II)I" } : Jvm.MethodName) "ScholarsPress") ∈ lw_tbl := lw_at lw_m9 231 rfl
theorem q2506 : (Jvm.Cond.methodLink "ScholarsPress$Book" (379 : Nat) ({ cls := "ScholarsPress$Book", name := "flushAs", desc := "(I)V" } : Jvm.MethodName)) ∈ lw_all := lw_g (lw_at lw_m9 232 rfl) rfl
theorem q2507 : (Jvm.Cond.privateMethod ({ cls := "ScholarsPress$Book", name := "flushAs", desc := "(I)V" } : Jvm.MethodName)) ∈ lw_tbl := lw_at lw_m9 233 rfl
theorem q2508 : (Jvm.Cond.instanceMethod ({ cls := "ScholarsPress$Book", name := "flushAs", desc := "(I)V" } : Jvm.MethodName)) ∈ lw_all := lw_g (lw_at lw_m9 234 rfl) rfl
theorem q2509 : (Jvm.Cond.code ({ cls := "ScholarsPress$Book", name := "flushAs", desc := "(I)V" } : Jvm.MethodName) prog_2_method_17_code (4 : Nat) (Option.none : Option Jvm.ClassFile.FieldType)) ∈ lw_all := lw_g (lw_at lw_m9 235 rfl) rfl
theorem q2510 : (Jvm.Cond.methodLink "ScholarsPress$Book" (383 : Nat) ({ cls := "ScholarsPress$Book", name := "block", desc := "()I" } : Jvm.MethodName)) ∈ lw_all := lw_g (lw_at lw_m9 236 rfl) rfl
theorem q2511 : (Jvm.Cond.privateMethod ({ cls := "ScholarsPress$Book", name := "block", desc := "()I" } : Jvm.MethodName)) ∈ lw_tbl := lw_at lw_m9 237 rfl
theorem q2512 : (Jvm.Cond.instanceMethod ({ cls := "ScholarsPress$Book", name := "block", desc := "()I" } : Jvm.MethodName)) ∈ lw_all := lw_g (lw_at lw_m9 238 rfl) rfl
theorem q2513 : (Jvm.Cond.code ({ cls := "ScholarsPress$Book", name := "block", desc := "()I" } : Jvm.MethodName) prog_2_method_9_code (1 : Nat) (Option.some Jvm.ClassFile.FieldType.int)) ∈ lw_all := lw_g (lw_at lw_m9 239 rfl) rfl
theorem q2514 : (Jvm.Cond.methodLink "ScholarsPress$Book" (387 : Nat) ({ cls := "ScholarsPress$Book", name := "flowParagraph", desc := "(LScholarsPress$Text;I)LScholarsPress$Paragraph;" } : Jvm.MethodName)) ∈ lw_all := lw_g (lw_at lw_m10 0 rfl) rfl
theorem q2515 : (Jvm.Cond.privateMethod ({ cls := "ScholarsPress$Book", name := "flowParagraph", desc := "(LScholarsPress$Text;I)LScholarsPress$Paragraph;" } : Jvm.MethodName)) ∈ lw_tbl := lw_at lw_m10 1 rfl
theorem q2516 : (Jvm.Cond.instanceMethod ({ cls := "ScholarsPress$Book", name := "flowParagraph", desc := "(LScholarsPress$Text;I)LScholarsPress$Paragraph;" } : Jvm.MethodName)) ∈ lw_all := lw_g (lw_at lw_m10 2 rfl) rfl
theorem q2517 : (Jvm.Cond.code ({ cls := "ScholarsPress$Book", name := "flowParagraph", desc := "(LScholarsPress$Text;I)LScholarsPress$Paragraph;" } : Jvm.MethodName) prog_2_method_14_code (4 : Nat) (Option.some (Jvm.ClassFile.FieldType.object "ScholarsPress$Paragraph"))) ∈ lw_all := lw_g (lw_at lw_m10 3 rfl) rfl
theorem q2518 : (Jvm.Cond.methodLink "ScholarsPress$Book" (368 : Nat) ({ cls := "ScholarsPress$Book", name := "paragraph", desc := "(LScholarsPress$Text;I)LScholarsPress$Paragraph;" } : Jvm.MethodName)) ∈ lw_all := lw_g (lw_at lw_m10 4 rfl) rfl
theorem q2519 : (Jvm.Cond.privateMethod ({ cls := "ScholarsPress$Book", name := "paragraph", desc := "(LScholarsPress$Text;I)LScholarsPress$Paragraph;" } : Jvm.MethodName)) ∈ lw_tbl := lw_at lw_m10 5 rfl
theorem q2520 : (Jvm.Cond.instanceMethod ({ cls := "ScholarsPress$Book", name := "paragraph", desc := "(LScholarsPress$Text;I)LScholarsPress$Paragraph;" } : Jvm.MethodName)) ∈ lw_all := lw_g (lw_at lw_m10 6 rfl) rfl
theorem q2521 : (Jvm.Cond.code ({ cls := "ScholarsPress$Book", name := "paragraph", desc := "(LScholarsPress$Text;I)LScholarsPress$Paragraph;" } : Jvm.MethodName) prog_2_method_13_code (4 : Nat) (Option.some (Jvm.ClassFile.FieldType.object "ScholarsPress$Paragraph"))) ∈ lw_all := lw_g (lw_at lw_m10 7 rfl) rfl
theorem q2522 : (Jvm.Cond.methodLinkNest "ScholarsPress$Book" (296 : Nat) ({ cls := "ScholarsPress", name := "room", desc := "(Z)V" } : Jvm.MethodName) "ScholarsPress") ∈ lw_tbl := lw_at lw_m10 8 rfl
theorem q2524 : (Jvm.Cond.methodLinkNest "ScholarsPress$Book" (300 : Nat) ({ cls := "ScholarsPress$Paragraph", name := "<init>", desc := "(LScholarsPress$Rows;)V" } : Jvm.MethodName) "ScholarsPress") ∈ lw_tbl := lw_at lw_m10 10 rfl
theorem q2530 : (Jvm.Cond.fieldLinkNest "ScholarsPress$Book" (303 : Nat) "ScholarsPress$Paragraph" "textAt" "I" "ScholarsPress") ∈ lw_tbl := lw_at lw_m10 16 rfl
theorem q2533 : (Jvm.Cond.fieldLinkNest "ScholarsPress$Book" (324 : Nat) "ScholarsPress$Paragraph" "length" "I" "ScholarsPress") ∈ lw_tbl := lw_at lw_m10 19 rfl
theorem q2535 : (Jvm.Cond.fieldLinkNest "ScholarsPress$Book" (327 : Nat) "ScholarsPress$Paragraph" "element" "I" "ScholarsPress") ∈ lw_tbl := lw_at lw_m10 21 rfl
theorem q2539 : (Jvm.Cond.fieldLinkNest "ScholarsPress$Book" (393 : Nat) "ScholarsPress$Paragraph" "width" "I" "ScholarsPress") ∈ lw_tbl := lw_at lw_m10 25 rfl
theorem q2541 : (Jvm.Cond.fieldLinkNest "ScholarsPress$Book" (330 : Nat) "ScholarsPress$Paragraph" "left" "I" "ScholarsPress") ∈ lw_tbl := lw_at lw_m10 27 rfl
theorem q2544 : (Jvm.Cond.fieldLinkNest "ScholarsPress$Book" (333 : Nat) "ScholarsPress$Paragraph" "indent" "I" "ScholarsPress") ∈ lw_tbl := lw_at lw_m10 30 rfl
theorem q2546 : (Jvm.Cond.fieldLinkNest "ScholarsPress$Book" (336 : Nat) "ScholarsPress$Paragraph" "lead" "I" "ScholarsPress") ∈ lw_tbl := lw_at lw_m10 32 rfl
theorem q2548 : (Jvm.Cond.fieldLinkNest "ScholarsPress$Book" (339 : Nat) "ScholarsPress$Paragraph" "align" "I" "ScholarsPress") ∈ lw_tbl := lw_at lw_m10 34 rfl
theorem q2550 : (Jvm.Cond.fieldLinkNest "ScholarsPress$Book" (342 : Nat) "ScholarsPress$Paragraph" "tolerance" "I" "ScholarsPress") ∈ lw_tbl := lw_at lw_m10 36 rfl
theorem q2551 : (Jvm.Cond.fieldLinkNest "ScholarsPress$Book" (345 : Nat) "ScholarsPress$Paragraph" "first" "I" "ScholarsPress") ∈ lw_tbl := lw_at lw_m10 37 rfl
theorem q2552 : (Jvm.Cond.fieldLinkNest "ScholarsPress$Book" (348 : Nat) "ScholarsPress$Paragraph" "last" "I" "ScholarsPress") ∈ lw_tbl := lw_at lw_m10 38 rfl
theorem q2553 : (Jvm.Cond.fieldLinkNest "ScholarsPress$Book" (351 : Nat) "ScholarsPress$Paragraph" "keep" "Z" "ScholarsPress") ∈ lw_tbl := lw_at lw_m10 39 rfl
theorem q2554 : (Jvm.Cond.fieldLinkNest "ScholarsPress$Book" (354 : Nat) "ScholarsPress$Paragraph" "counts" "Z" "ScholarsPress") ∈ lw_tbl := lw_at lw_m10 40 rfl
theorem q2556 : (Jvm.Cond.fieldLinkNest "ScholarsPress$Book" (357 : Nat) "ScholarsPress$Paragraph" "hyphens" "Z" "ScholarsPress") ∈ lw_tbl := lw_at lw_m10 42 rfl
theorem q2563 : (Jvm.Cond.fieldLinkNest "ScholarsPress$Book" (645 : Nat) "ScholarsPress$Paragraph" "lines" "I" "ScholarsPress") ∈ lw_tbl := lw_at lw_m10 49 rfl
theorem q2611 : (Jvm.Cond.methodLink "ScholarsPress$Book" (310 : Nat) ({ cls := "java/lang/System", name := "arraycopy", desc := "(Ljava/lang/Object;ILjava/lang/Object;II)V" } : Jvm.MethodName)) ∈ lw_all := lw_g (lw_at lw_m10 97 rfl) rfl
theorem q2612 : (Jvm.Cond.methodLinkNest "ScholarsPress$Book" (363 : Nat) ({ cls := "ScholarsPress$Paragraph", name := "prepare", desc := "(LScholarsPress$Font;LScholarsPress$Hyphens;LScholarsPress$Work;)V" } : Jvm.MethodName) "ScholarsPress") ∈ lw_tbl := lw_at lw_m10 98 rfl
theorem q2669 : (Jvm.Cond.methodLink "ScholarsPress$Book" (390 : Nat) ({ cls := "ScholarsPress$Book", name := "fullWidth", desc := "(I)I" } : Jvm.MethodName)) ∈ lw_all := lw_g (lw_at lw_m10 155 rfl) rfl
theorem q2670 : (Jvm.Cond.privateMethod ({ cls := "ScholarsPress$Book", name := "fullWidth", desc := "(I)I" } : Jvm.MethodName)) ∈ lw_tbl := lw_at lw_m10 156 rfl
theorem q2671 : (Jvm.Cond.instanceMethod ({ cls := "ScholarsPress$Book", name := "fullWidth", desc := "(I)I" } : Jvm.MethodName)) ∈ lw_all := lw_g (lw_at lw_m10 157 rfl) rfl
theorem q2672 : (Jvm.Cond.code ({ cls := "ScholarsPress$Book", name := "fullWidth", desc := "(I)I" } : Jvm.MethodName) prog_2_method_12_code (3 : Nat) (Option.some Jvm.ClassFile.FieldType.int)) ∈ lw_all := lw_g (lw_at lw_m10 158 rfl) rfl
theorem q2673 : (Jvm.Cond.methodLink "ScholarsPress$Book" (394 : Nat) ({ cls := "ScholarsPress$Book", name := "item", desc := "(I)V" } : Jvm.MethodName)) ∈ lw_all := lw_g (lw_at lw_m10 159 rfl) rfl
theorem q2674 : (Jvm.Cond.privateMethod ({ cls := "ScholarsPress$Book", name := "item", desc := "(I)V" } : Jvm.MethodName)) ∈ lw_tbl := lw_at lw_m10 160 rfl
theorem q2675 : (Jvm.Cond.instanceMethod ({ cls := "ScholarsPress$Book", name := "item", desc := "(I)V" } : Jvm.MethodName)) ∈ lw_all := lw_g (lw_at lw_m10 161 rfl) rfl
theorem q2676 : (Jvm.Cond.code ({ cls := "ScholarsPress$Book", name := "item", desc := "(I)V" } : Jvm.MethodName) prog_2_method_15_code (2 : Nat) (Option.none : Option Jvm.ClassFile.FieldType)) ∈ lw_all := lw_g (lw_at lw_m10 162 rfl) rfl
theorem q2677 : (Jvm.Cond.methodLink "ScholarsPress$Book" (473 : Nat) ({ cls := "ScholarsPress$Book", name := "beginNote", desc := "(I)V" } : Jvm.MethodName)) ∈ lw_all := lw_g (lw_at lw_m10 163 rfl) rfl
theorem q2678 : (Jvm.Cond.privateMethod ({ cls := "ScholarsPress$Book", name := "beginNote", desc := "(I)V" } : Jvm.MethodName)) ∈ lw_tbl := lw_at lw_m10 164 rfl
theorem q2679 : (Jvm.Cond.instanceMethod ({ cls := "ScholarsPress$Book", name := "beginNote", desc := "(I)V" } : Jvm.MethodName)) ∈ lw_all := lw_g (lw_at lw_m10 165 rfl) rfl
theorem q2680 : (Jvm.Cond.code ({ cls := "ScholarsPress$Book", name := "beginNote", desc := "(I)V" } : Jvm.MethodName) prog_2_method_26_code (4 : Nat) (Option.none : Option Jvm.ClassFile.FieldType)) ∈ lw_all := lw_g (lw_at lw_m10 166 rfl) rfl
theorem q2681 : (Jvm.Cond.methodLink "ScholarsPress$Book" (519 : Nat) ({ cls := "ScholarsPress$Book", name := "small", desc := "()LScholarsPress$Bytes;" } : Jvm.MethodName)) ∈ lw_all := lw_g (lw_at lw_m10 167 rfl) rfl
theorem q2682 : (Jvm.Cond.privateMethod ({ cls := "ScholarsPress$Book", name := "small", desc := "()LScholarsPress$Bytes;" } : Jvm.MethodName)) ∈ lw_tbl := lw_at lw_m10 168 rfl
theorem q2683 : (Jvm.Cond.instanceMethod ({ cls := "ScholarsPress$Book", name := "small", desc := "()LScholarsPress$Bytes;" } : Jvm.MethodName)) ∈ lw_all := lw_g (lw_at lw_m10 169 rfl) rfl
theorem q2684 : (Jvm.Cond.code ({ cls := "ScholarsPress$Book", name := "small", desc := "()LScholarsPress$Bytes;" } : Jvm.MethodName) prog_2_method_8_code (1 : Nat) (Option.some (Jvm.ClassFile.FieldType.object "ScholarsPress$Bytes"))) ∈ lw_all := lw_g (lw_at lw_m10 170 rfl) rfl
theorem q2685 : (Jvm.Cond.methodLinkNest "ScholarsPress$Book" (522 : Nat) ({ cls := "ScholarsPress$Bytes", name := "number", desc := "(J)V" } : Jvm.MethodName) "ScholarsPress") ∈ lw_tbl := lw_at lw_m10 171 rfl
theorem q2686 : (Jvm.Cond.methodLink "ScholarsPress$Book" (441 : Nat) ({ cls := "ScholarsPress$Book", name := "open", desc := "()LScholarsPress$Text;" } : Jvm.MethodName)) ∈ lw_all := lw_g (lw_at lw_m10 172 rfl) rfl
theorem q2687 : (Jvm.Cond.privateMethod ({ cls := "ScholarsPress$Book", name := "open", desc := "()LScholarsPress$Text;" } : Jvm.MethodName)) ∈ lw_tbl := lw_at lw_m10 173 rfl
theorem q2688 : (Jvm.Cond.instanceMethod ({ cls := "ScholarsPress$Book", name := "open", desc := "()LScholarsPress$Text;" } : Jvm.MethodName)) ∈ lw_all := lw_g (lw_at lw_m10 174 rfl) rfl
theorem q2689 : (Jvm.Cond.code ({ cls := "ScholarsPress$Book", name := "open", desc := "()LScholarsPress$Text;" } : Jvm.MethodName) prog_2_method_21_code (1 : Nat) (Option.some (Jvm.ClassFile.FieldType.object "ScholarsPress$Text"))) ∈ lw_all := lw_g (lw_at lw_m10 175 rfl) rfl
theorem q2690 : (Jvm.Cond.methodLink "ScholarsPress$Book" (458 : Nat) ({ cls := "ScholarsPress$Book", name := "putAll", desc := "(LScholarsPress$Text;LScholarsPress$Bytes;IZ)V" } : Jvm.MethodName)) ∈ lw_all := lw_g (lw_at lw_m10 176 rfl) rfl
theorem q2691 : (Jvm.Cond.privateMethod ({ cls := "ScholarsPress$Book", name := "putAll", desc := "(LScholarsPress$Text;LScholarsPress$Bytes;IZ)V" } : Jvm.MethodName)) ∈ lw_tbl := lw_at lw_m10 177 rfl
theorem q2692 : (Jvm.Cond.instanceMethod ({ cls := "ScholarsPress$Book", name := "putAll", desc := "(LScholarsPress$Text;LScholarsPress$Bytes;IZ)V" } : Jvm.MethodName)) ∈ lw_all := lw_g (lw_at lw_m10 178 rfl) rfl
theorem q2693 : (Jvm.Cond.code ({ cls := "ScholarsPress$Book", name := "putAll", desc := "(LScholarsPress$Text;LScholarsPress$Bytes;IZ)V" } : Jvm.MethodName) prog_2_method_7_code (6 : Nat) (Option.none : Option Jvm.ClassFile.FieldType)) ∈ lw_all := lw_g (lw_at lw_m10 179 rfl) rfl
theorem q2694 : (Jvm.Cond.methodLink "ScholarsPress$Book" (264 : Nat) ({ cls := "ScholarsPress$Book", name := "put", desc := "(LScholarsPress$Text;IIZ)V" } : Jvm.MethodName)) ∈ lw_all := lw_g (lw_at lw_m10 180 rfl) rfl
theorem q2695 : (Jvm.Cond.privateMethod ({ cls := "ScholarsPress$Book", name := "put", desc := "(LScholarsPress$Text;IIZ)V" } : Jvm.MethodName)) ∈ lw_tbl := lw_at lw_m10 181 rfl
theorem q2696 : (Jvm.Cond.instanceMethod ({ cls := "ScholarsPress$Book", name := "put", desc := "(LScholarsPress$Text;IIZ)V" } : Jvm.MethodName)) ∈ lw_all := lw_g (lw_at lw_m10 182 rfl) rfl
theorem q2697 : (Jvm.Cond.code ({ cls := "ScholarsPress$Book", name := "put", desc := "(LScholarsPress$Text;IIZ)V" } : Jvm.MethodName) prog_2_method_6_code (5 : Nat) (Option.none : Option Jvm.ClassFile.FieldType)) ∈ lw_all := lw_g (lw_at lw_m10 183 rfl) rfl
theorem q2698 : (Jvm.Cond.methodLinkNest "ScholarsPress$Book" (237 : Nat) ({ cls := "ScholarsPress", name := "isBlank", desc := "(I)Z" } : Jvm.MethodName) "ScholarsPress") ∈ lw_tbl := lw_at lw_m10 184 rfl
theorem q2699 : (Jvm.Cond.methodLinkNest "ScholarsPress$Book" (253 : Nat) ({ cls := "ScholarsPress$Text", name := "put", desc := "(III)V" } : Jvm.MethodName) "ScholarsPress") ∈ lw_tbl := lw_at lw_m10 185 rfl
theorem q2704 : (Jvm.Cond.methodLinkNest "ScholarsPress$Book" (526 : Nat) ({ cls := "ScholarsPress$Bytes", name := "add", desc := "(I)V" } : Jvm.MethodName) "ScholarsPress") ∈ lw_tbl := lw_at lw_m10 190 rfl
theorem q2705 : (Jvm.Cond.stringRef "ScholarsPress$Book" (529 : Nat) "of") ∈ lw_tbl := lw_at lw_m10 191 rfl
theorem q2706 : (Jvm.Cond.methodLinkNest "ScholarsPress$Book" (531 : Nat) ({ cls := "ScholarsPress$Source", name := "fieldOf", desc := "(ILjava/lang/String;)I" } : Jvm.MethodName) "ScholarsPress") ∈ lw_tbl := lw_at lw_m10 192 rfl
theorem q2707 : (Jvm.Cond.methodLinkNest "ScholarsPress$Book" (542 : Nat) ({ cls := "ScholarsPress$Source", name := "byId", desc := "([BII)I" } : Jvm.MethodName) "ScholarsPress") ∈ lw_tbl := lw_at lw_m10 193 rfl
theorem q2714 : (Jvm.Cond.methodLink "ScholarsPress$Book" (546 : Nat) ({ cls := "ScholarsPress$Book", name := "linesText", desc := "(IILScholarsPress$Bytes;)V" } : Jvm.MethodName)) ∈ lw_all := lw_g (lw_at lw_m10 200 rfl) rfl
theorem q2715 : (Jvm.Cond.privateMethod ({ cls := "ScholarsPress$Book", name := "linesText", desc := "(IILScholarsPress$Bytes;)V" } : Jvm.MethodName)) ∈ lw_tbl := lw_at lw_m10 201 rfl
theorem q2716 : (Jvm.Cond.instanceMethod ({ cls := "ScholarsPress$Book", name := "linesText", desc := "(IILScholarsPress$Bytes;)V" } : Jvm.MethodName)) ∈ lw_all := lw_g (lw_at lw_m10 202 rfl) rfl
theorem q2717 : (Jvm.Cond.code ({ cls := "ScholarsPress$Book", name := "linesText", desc := "(IILScholarsPress$Bytes;)V" } : Jvm.MethodName) prog_2_method_36_code (4 : Nat) (Option.none : Option Jvm.ClassFile.FieldType)) ∈ lw_all := lw_g (lw_at lw_m10 203 rfl) rfl
theorem q2718 : (Jvm.Cond.methodLink "ScholarsPress$Book" (586 : Nat) ({ cls := "ScholarsPress$Book", name := "isTarget", desc := "(I)Z" } : Jvm.MethodName)) ∈ lw_all := lw_g (lw_at lw_m10 204 rfl) rfl
theorem q2719 : (Jvm.Cond.privateMethod ({ cls := "ScholarsPress$Book", name := "isTarget", desc := "(I)Z" } : Jvm.MethodName)) ∈ lw_tbl := lw_at lw_m10 205 rfl
theorem q2720 : (Jvm.Cond.instanceMethod ({ cls := "ScholarsPress$Book", name := "isTarget", desc := "(I)Z" } : Jvm.MethodName)) ∈ lw_all := lw_g (lw_at lw_m10 206 rfl) rfl
theorem q2721 : (Jvm.Cond.code ({ cls := "ScholarsPress$Book", name := "isTarget", desc := "(I)Z" } : Jvm.MethodName) prog_2_method_35_code (2 : Nat) (Option.some Jvm.ClassFile.FieldType.boolean)) ∈ lw_all := lw_g (lw_at lw_m10 207 rfl) rfl
theorem q2722 : (Jvm.Cond.stringRef "ScholarsPress$Book" (589 : Nat) "??") ∈ lw_tbl := lw_at lw_m10 208 rfl
theorem q2723 : (Jvm.Cond.methodLinkNest "ScholarsPress$Book" (591 : Nat) ({ cls := "ScholarsPress$Bytes", name := "string", desc := "(Ljava/lang/String;)V" } : Jvm.MethodName) "ScholarsPress") ∈ lw_tbl := lw_at lw_m10 209 rfl
theorem q2729 : (Jvm.Cond.methodLink "ScholarsPress$Book" (595 : Nat) ({ cls := "ScholarsPress$Book", name := "takes", desc := "(III)V" } : Jvm.MethodName)) ∈ lw_all := lw_g (lw_at lw_m10 215 rfl) rfl
theorem q2730 : (Jvm.Cond.privateMethod ({ cls := "ScholarsPress$Book", name := "takes", desc := "(III)V" } : Jvm.MethodName)) ∈ lw_tbl := lw_at lw_m10 216 rfl
theorem q2731 : (Jvm.Cond.instanceMethod ({ cls := "ScholarsPress$Book", name := "takes", desc := "(III)V" } : Jvm.MethodName)) ∈ lw_all := lw_g (lw_at lw_m10 217 rfl) rfl
theorem q2732 : (Jvm.Cond.code ({ cls := "ScholarsPress$Book", name := "takes", desc := "(III)V" } : Jvm.MethodName) prog_2_method_31_code (4 : Nat) (Option.none : Option Jvm.ClassFile.FieldType)) ∈ lw_all := lw_g (lw_at lw_m10 218 rfl) rfl
theorem q2733 : (Jvm.Cond.methodLink "ScholarsPress$Book" (492 : Nat) ({ cls := "ScholarsPress$Book", name := "label", desc := "(I)V" } : Jvm.MethodName)) ∈ lw_all := lw_g (lw_at lw_m10 219 rfl) rfl
theorem q2734 : (Jvm.Cond.privateMethod ({ cls := "ScholarsPress$Book", name := "label", desc := "(I)V" } : Jvm.MethodName)) ∈ lw_tbl := lw_at lw_m10 220 rfl
theorem q2735 : (Jvm.Cond.instanceMethod ({ cls := "ScholarsPress$Book", name := "label", desc := "(I)V" } : Jvm.MethodName)) ∈ lw_all := lw_g (lw_at lw_m10 221 rfl) rfl
theorem q2736 : (Jvm.Cond.code ({ cls := "ScholarsPress$Book", name := "label", desc := "(I)V" } : Jvm.MethodName) prog_2_method_23_code (7 : Nat) (Option.none : Option Jvm.ClassFile.FieldType)) ∈ lw_all := lw_g (lw_at lw_m10 222 rfl) rfl
theorem q2737 : (Jvm.Cond.methodLinkNest "ScholarsPress$Book" (449 : Nat) ({ cls := "ScholarsPress$Tree", name := "labelOf", desc := "(I)I" } : Jvm.MethodName) "ScholarsPress") ∈ lw_tbl := lw_at lw_m10 223 rfl
theorem q2738 : (Jvm.Cond.methodLinkNest "ScholarsPress$Book" (452 : Nat) ({ cls := "ScholarsPress$Tree", name := "labelByte", desc := "(II)I" } : Jvm.MethodName) "ScholarsPress") ∈ lw_tbl := lw_at lw_m10 224 rfl
theorem q2739 : (Jvm.Cond.methodLinkNest "ScholarsPress$Book" (489 : Nat) ({ cls := "ScholarsPress$Shares", name := "clear", desc := "()V" } : Jvm.MethodName) "ScholarsPress") ∈ lw_tbl := lw_at lw_m10 225 rfl
theorem q2743 : (Jvm.Cond.methodLink "ScholarsPress$Book" (495 : Nat) ({ cls := "ScholarsPress$Book", name := "contents", desc := "()V" } : Jvm.MethodName)) ∈ lw_all := lw_g (lw_at lw_m10 229 rfl) rfl
theorem q2744 : (Jvm.Cond.privateMethod ({ cls := "ScholarsPress$Book", name := "contents", desc := "()V" } : Jvm.MethodName)) ∈ lw_tbl := lw_at lw_m10 230 rfl
theorem q2745 : (Jvm.Cond.instanceMethod ({ cls := "ScholarsPress$Book", name := "contents", desc := "()V" } : Jvm.MethodName)) ∈ lw_all := lw_g (lw_at lw_m10 231 rfl) rfl
theorem q2746 : (Jvm.Cond.code ({ cls := "ScholarsPress$Book", name := "contents", desc := "()V" } : Jvm.MethodName) prog_2_method_38_code (5 : Nat) (Option.none : Option Jvm.ClassFile.FieldType)) ∈ lw_all := lw_g (lw_at lw_m10 232 rfl) rfl
theorem q2747 : (Jvm.Cond.methodLinkNest "ScholarsPress$Book" (617 : Nat) ({ cls := "ScholarsPress$Tree", name := "title", desc := "(ILScholarsPress$Bytes;)V" } : Jvm.MethodName) "ScholarsPress") ∈ lw_tbl := lw_at lw_m10 233 rfl
theorem q2748 : (Jvm.Cond.methodLink "ScholarsPress$Book" (498 : Nat) ({ cls := "ScholarsPress$Book", name := "index", desc := "()V" } : Jvm.MethodName)) ∈ lw_all := lw_g (lw_at lw_m10 234 rfl) rfl
theorem q2749 : (Jvm.Cond.privateMethod ({ cls := "ScholarsPress$Book", name := "index", desc := "()V" } : Jvm.MethodName)) ∈ lw_tbl := lw_at lw_m10 235 rfl
theorem q2750 : (Jvm.Cond.instanceMethod ({ cls := "ScholarsPress$Book", name := "index", desc := "()V" } : Jvm.MethodName)) ∈ lw_all := lw_g (lw_at lw_m10 236 rfl) rfl
theorem q2751 : (Jvm.Cond.code ({ cls := "ScholarsPress$Book", name := "index", desc := "()V" } : Jvm.MethodName) prog_2_method_39_code (4 : Nat) (Option.none : Option Jvm.ClassFile.FieldType)) ∈ lw_all := lw_g (lw_at lw_m10 237 rfl) rfl
theorem q2752 : (Jvm.Cond.methodLinkNest "ScholarsPress$Book" (626 : Nat) ({ cls := "ScholarsPress$Entries", name := "write", desc := "(I[ILScholarsPress$Bytes;)V" } : Jvm.MethodName) "ScholarsPress") ∈ lw_tbl := lw_at lw_m10 238 rfl
theorem q2758 : (Jvm.Cond.methodLink "ScholarsPress$Book" (501 : Nat) ({ cls := "ScholarsPress$Book", name := "reference", desc := "(I)V" } : Jvm.MethodName)) ∈ lw_all := lw_g (lw_at lw_m11 4 rfl) rfl
theorem q2759 : (Jvm.Cond.privateMethod ({ cls := "ScholarsPress$Book", name := "reference", desc := "(I)V" } : Jvm.MethodName)) ∈ lw_tbl := lw_at lw_m11 5 rfl
theorem q2760 : (Jvm.Cond.instanceMethod ({ cls := "ScholarsPress$Book", name := "reference", desc := "(I)V" } : Jvm.MethodName)) ∈ lw_all := lw_g (lw_at lw_m11 6 rfl) rfl
theorem q2761 : (Jvm.Cond.code ({ cls := "ScholarsPress$Book", name := "reference", desc := "(I)V" } : Jvm.MethodName) prog_2_method_37_code (6 : Nat) (Option.none : Option Jvm.ClassFile.FieldType)) ∈ lw_all := lw_g (lw_at lw_m11 7 rfl) rfl
theorem q2762 : (Jvm.Cond.stringRef "ScholarsPress$Book" (598 : Nat) "to") ∈ lw_tbl := lw_at lw_m11 8 rfl
theorem q2763 : (Jvm.Cond.stringRef "ScholarsPress$Book" (600 : Nat) "as") ∈ lw_tbl := lw_at lw_m11 9 rfl
theorem q2764 : (Jvm.Cond.stringRef "ScholarsPress$Book" (602 : Nat) "page") ∈ lw_tbl := lw_at lw_m11 10 rfl
theorem q2765 : (Jvm.Cond.methodLinkNest "ScholarsPress$Book" (604 : Nat) ({ cls := "ScholarsPress$Source", name := "isField", desc := "(ILjava/lang/String;)Z" } : Jvm.MethodName) "ScholarsPress") ∈ lw_tbl := lw_at lw_m11 11 rfl
theorem q2769 : (Jvm.Cond.stringRef "ScholarsPress$Book" (608 : Nat) "line") ∈ lw_tbl := lw_at lw_m11 15 rfl
theorem q2770 : (Jvm.Cond.stringRef "ScholarsPress$Book" (610 : Nat) "number") ∈ lw_tbl := lw_at lw_m11 16 rfl
theorem q2771 : (Jvm.Cond.methodLinkNest "ScholarsPress$Book" (611 : Nat) ({ cls := "ScholarsPress$Tree", name := "value", desc := "(ILScholarsPress$Bytes;)V" } : Jvm.MethodName) "ScholarsPress") ∈ lw_tbl := lw_at lw_m11 17 rfl
theorem q2772 : (Jvm.Cond.stringRef "ScholarsPress$Book" (615 : Nat) "title") ∈ lw_tbl := lw_at lw_m11 18 rfl
theorem q2773 : (Jvm.Cond.stringRef "ScholarsPress$Book" (619 : Nat) "side") ∈ lw_tbl := lw_at lw_m11 19 rfl
theorem q2774 : (Jvm.Cond.stringRef "ScholarsPress$Book" (621 : Nat) "above") ∈ lw_tbl := lw_at lw_m11 20 rfl
theorem q2775 : (Jvm.Cond.stringRef "ScholarsPress$Book" (623 : Nat) "below") ∈ lw_tbl := lw_at lw_m11 21 rfl
theorem q2776 : (Jvm.Cond.methodLink "ScholarsPress$Book" (428 : Nat) ({ cls := "ScholarsPress$Book", name := "end", desc := "(I)V" } : Jvm.MethodName)) ∈ lw_all := lw_g (lw_at lw_m11 22 rfl) rfl
theorem q2777 : (Jvm.Cond.privateMethod ({ cls := "ScholarsPress$Book", name := "end", desc := "(I)V" } : Jvm.MethodName)) ∈ lw_tbl := lw_at lw_m11 23 rfl
theorem q2778 : (Jvm.Cond.instanceMethod ({ cls := "ScholarsPress$Book", name := "end", desc := "(I)V" } : Jvm.MethodName)) ∈ lw_all := lw_g (lw_at lw_m11 24 rfl) rfl
theorem q2779 : (Jvm.Cond.code ({ cls := "ScholarsPress$Book", name := "end", desc := "(I)V" } : Jvm.MethodName) prog_2_method_25_code (2 : Nat) (Option.none : Option Jvm.ClassFile.FieldType)) ∈ lw_all := lw_g (lw_at lw_m11 25 rfl) rfl
theorem q2780 : (Jvm.Cond.methodLink "ScholarsPress$Book" (504 : Nat) ({ cls := "ScholarsPress$Book", name := "endNote", desc := "(I)V" } : Jvm.MethodName)) ∈ lw_all := lw_g (lw_at lw_m11 26 rfl) rfl
theorem q2781 : (Jvm.Cond.privateMethod ({ cls := "ScholarsPress$Book", name := "endNote", desc := "(I)V" } : Jvm.MethodName)) ∈ lw_tbl := lw_at lw_m11 27 rfl
theorem q2782 : (Jvm.Cond.instanceMethod ({ cls := "ScholarsPress$Book", name := "endNote", desc := "(I)V" } : Jvm.MethodName)) ∈ lw_all := lw_g (lw_at lw_m11 28 rfl) rfl
theorem q2783 : (Jvm.Cond.code ({ cls := "ScholarsPress$Book", name := "endNote", desc := "(I)V" } : Jvm.MethodName) prog_2_method_27_code (3 : Nat) (Option.none : Option Jvm.ClassFile.FieldType)) ∈ lw_all := lw_g (lw_at lw_m11 29 rfl) rfl
theorem q2784 : (Jvm.Cond.methodLink "ScholarsPress$Book" (507 : Nat) ({ cls := "ScholarsPress$Book", name := "endCell", desc := "(I)V" } : Jvm.MethodName)) ∈ lw_all := lw_g (lw_at lw_m11 30 rfl) rfl
theorem q2785 : (Jvm.Cond.privateMethod ({ cls := "ScholarsPress$Book", name := "endCell", desc := "(I)V" } : Jvm.MethodName)) ∈ lw_tbl := lw_at lw_m11 31 rfl
theorem q2786 : (Jvm.Cond.instanceMethod ({ cls := "ScholarsPress$Book", name := "endCell", desc := "(I)V" } : Jvm.MethodName)) ∈ lw_all := lw_g (lw_at lw_m11 32 rfl) rfl
theorem q2787 : (Jvm.Cond.code ({ cls := "ScholarsPress$Book", name := "endCell", desc := "(I)V" } : Jvm.MethodName) prog_2_method_28_code (4 : Nat) (Option.none : Option Jvm.ClassFile.FieldType)) ∈ lw_all := lw_g (lw_at lw_m11 33 rfl) rfl
theorem q2788 : (Jvm.Cond.methodLinkNest "ScholarsPress$Book" (556 : Nat) ({ cls := "ScholarsPress$Paragraph", name := "widest", desc := "()J" } : Jvm.MethodName) "ScholarsPress") ∈ lw_tbl := lw_at lw_m11 34 rfl
theorem q2796 : (Jvm.Cond.methodLinkNest "ScholarsPress$Book" (560 : Nat) ({ cls := "ScholarsPress$Paragraph", name := "whole", desc := "()J" } : Jvm.MethodName) "ScholarsPress") ∈ lw_tbl := lw_at lw_m11 42 rfl
theorem q2804 : (Jvm.Cond.methodLinkNest "ScholarsPress$Book" (563 : Nat) ({ cls := "ScholarsPress$Shares", name := "cell", desc := "(IJJ)V" } : Jvm.MethodName) "ScholarsPress") ∈ lw_tbl := lw_at lw_m11 50 rfl
theorem q2809 : (Jvm.Cond.methodLink "ScholarsPress$Book" (510 : Nat) ({ cls := "ScholarsPress$Book", name := "endRow", desc := "(I)V" } : Jvm.MethodName)) ∈ lw_all := lw_g (lw_at lw_m11 55 rfl) rfl
theorem q2810 : (Jvm.Cond.privateMethod ({ cls := "ScholarsPress$Book", name := "endRow", desc := "(I)V" } : Jvm.MethodName)) ∈ lw_tbl := lw_at lw_m11 56 rfl
theorem q2811 : (Jvm.Cond.instanceMethod ({ cls := "ScholarsPress$Book", name := "endRow", desc := "(I)V" } : Jvm.MethodName)) ∈ lw_all := lw_g (lw_at lw_m11 57 rfl) rfl
theorem q2812 : (Jvm.Cond.code ({ cls := "ScholarsPress$Book", name := "endRow", desc := "(I)V" } : Jvm.MethodName) prog_2_method_29_code (4 : Nat) (Option.none : Option Jvm.ClassFile.FieldType)) ∈ lw_all := lw_g (lw_at lw_m11 58 rfl) rfl
theorem q2813 : (Jvm.Cond.constantLong "ScholarsPress$Book" (566 : Nat) (1000 : Int64)) ∈ lw_all := lw_g (lw_at lw_m11 59 rfl) rfl
theorem q2814 : (Jvm.Cond.methodLink "ScholarsPress$Book" (513 : Nat) ({ cls := "ScholarsPress$Book", name := "endTable", desc := "()V" } : Jvm.MethodName)) ∈ lw_all := lw_g (lw_at lw_m11 60 rfl) rfl
theorem q2815 : (Jvm.Cond.privateMethod ({ cls := "ScholarsPress$Book", name := "endTable", desc := "()V" } : Jvm.MethodName)) ∈ lw_tbl := lw_at lw_m11 61 rfl
theorem q2816 : (Jvm.Cond.instanceMethod ({ cls := "ScholarsPress$Book", name := "endTable", desc := "()V" } : Jvm.MethodName)) ∈ lw_all := lw_g (lw_at lw_m11 62 rfl) rfl
theorem q2817 : (Jvm.Cond.code ({ cls := "ScholarsPress$Book", name := "endTable", desc := "()V" } : Jvm.MethodName) prog_2_method_30_code (6 : Nat) (Option.none : Option Jvm.ClassFile.FieldType)) ∈ lw_all := lw_g (lw_at lw_m11 63 rfl) rfl
theorem q2818 : (Jvm.Cond.methodLinkNest "ScholarsPress$Book" (568 : Nat) ({ cls := "ScholarsPress$Shares", name := "share", desc := "(I)V" } : Jvm.MethodName) "ScholarsPress") ∈ lw_tbl := lw_at lw_m11 64 rfl
theorem q2825 : (Jvm.Cond.methodLink "ScholarsPress$Book" (516 : Nat) ({ cls := "ScholarsPress$Book", name := "shut", desc := "(I)V" } : Jvm.MethodName)) ∈ lw_all := lw_g (lw_at lw_m11 71 rfl) rfl
theorem q2826 : (Jvm.Cond.privateMethod ({ cls := "ScholarsPress$Book", name := "shut", desc := "(I)V" } : Jvm.MethodName)) ∈ lw_tbl := lw_at lw_m11 72 rfl
theorem q2827 : (Jvm.Cond.instanceMethod ({ cls := "ScholarsPress$Book", name := "shut", desc := "(I)V" } : Jvm.MethodName)) ∈ lw_all := lw_g (lw_at lw_m11 73 rfl) rfl
theorem q2828 : (Jvm.Cond.code ({ cls := "ScholarsPress$Book", name := "shut", desc := "(I)V" } : Jvm.MethodName) prog_2_method_19_code (3 : Nat) (Option.none : Option Jvm.ClassFile.FieldType)) ∈ lw_all := lw_g (lw_at lw_m11 74 rfl) rfl
theorem q2829 : (Jvm.Cond.methodLink "ScholarsPress$Book" (434 : Nat) ({ cls := "ScholarsPress$Book", name := "stand", desc := "(II)V" } : Jvm.MethodName)) ∈ lw_all := lw_g (lw_at lw_m11 75 rfl) rfl
theorem q2830 : (Jvm.Cond.privateMethod ({ cls := "ScholarsPress$Book", name := "stand", desc := "(II)V" } : Jvm.MethodName)) ∈ lw_tbl := lw_at lw_m11 76 rfl
theorem q2831 : (Jvm.Cond.instanceMethod ({ cls := "ScholarsPress$Book", name := "stand", desc := "(II)V" } : Jvm.MethodName)) ∈ lw_all := lw_g (lw_at lw_m11 77 rfl) rfl
theorem q2832 : (Jvm.Cond.code ({ cls := "ScholarsPress$Book", name := "stand", desc := "(II)V" } : Jvm.MethodName) prog_2_method_22_code (7 : Nat) (Option.none : Option Jvm.ClassFile.FieldType)) ∈ lw_all := lw_g (lw_at lw_m11 78 rfl) rfl
theorem q2833 : (Jvm.Cond.methodLinkNest "ScholarsPress$Book" (438 : Nat) ({ cls := "ScholarsPress$Tree", name := "isMute", desc := "(I)Z" } : Jvm.MethodName) "ScholarsPress") ∈ lw_tbl := lw_at lw_m11 79 rfl
theorem q2834 : (Jvm.Cond.methodLinkNest "ScholarsPress$Book" (446 : Nat) ({ cls := "ScholarsPress$Source", name := "byteOf", desc := "(II)I" } : Jvm.MethodName) "ScholarsPress") ∈ lw_tbl := lw_at lw_m11 80 rfl
theorem q2836 : (Jvm.Cond.privateMethod ({ cls := "ScholarsPress$Book", name := "set", desc := "(LScholarsPress$Shapes;)V" } : Jvm.MethodName)) ∈ lw_tbl := lw_at lw_m11 82 rfl
theorem q2837 : (Jvm.Cond.instanceMethod ({ cls := "ScholarsPress$Book", name := "set", desc := "(LScholarsPress$Shapes;)V" } : Jvm.MethodName)) ∈ lw_all := lw_g (lw_at lw_m11 83 rfl) rfl
theorem q2838 : (Jvm.Cond.code ({ cls := "ScholarsPress$Book", name := "set", desc := "(LScholarsPress$Shapes;)V" } : Jvm.MethodName) prog_2_method_40_code (3 : Nat) (Option.none : Option Jvm.ClassFile.FieldType)) ∈ lw_all := lw_g (lw_at lw_m11 84 rfl) rfl
theorem q2839 : (Jvm.Cond.methodLinkNest "ScholarsPress$Book" (630 : Nat) ({ cls := "ScholarsPress$Shapes", name := "begin", desc := "(LScholarsPress$Book;)V" } : Jvm.MethodName) "ScholarsPress") ∈ lw_tbl := lw_at lw_m11 85 rfl
theorem q2847 : (Jvm.Cond.methodLinkNest "ScholarsPress$Book" (635 : Nat) ({ cls := "ScholarsPress$Shapes", name := "set", desc := "(LScholarsPress$Paragraph;LScholarsPress$Work;)V" } : Jvm.MethodName) "ScholarsPress") ∈ lw_tbl := lw_at lw_m11 93 rfl
theorem q2944 : (Jvm.Cond.methodLink "ScholarsPress$Book" (639 : Nat) ({ cls := "ScholarsPress$Book", name := "rowLine", desc := "(II)V" } : Jvm.MethodName)) ∈ lw_all := lw_g (lw_at lw_m11 190 rfl) rfl
theorem q2945 : (Jvm.Cond.privateMethod ({ cls := "ScholarsPress$Book", name := "rowLine", desc := "(II)V" } : Jvm.MethodName)) ∈ lw_tbl := lw_at lw_m11 191 rfl
theorem q2946 : (Jvm.Cond.instanceMethod ({ cls := "ScholarsPress$Book", name := "rowLine", desc := "(II)V" } : Jvm.MethodName)) ∈ lw_all := lw_g (lw_at lw_m11 192 rfl) rfl
theorem q2947 : (Jvm.Cond.code ({ cls := "ScholarsPress$Book", name := "rowLine", desc := "(II)V" } : Jvm.MethodName) prog_2_method_43_code (7 : Nat) (Option.none : Option Jvm.ClassFile.FieldType)) ∈ lw_all := lw_g (lw_at lw_m11 193 rfl) rfl
theorem q2948 : (Jvm.Cond.methodLink "ScholarsPress$Book" (646 : Nat) ({ cls := "ScholarsPress$Book", name := "line", desc := "(IIII)V" } : Jvm.MethodName)) ∈ lw_all := lw_g (lw_at lw_m11 194 rfl) rfl
theorem q2949 : (Jvm.Cond.privateMethod ({ cls := "ScholarsPress$Book", name := "line", desc := "(IIII)V" } : Jvm.MethodName)) ∈ lw_tbl := lw_at lw_m11 195 rfl
theorem q2950 : (Jvm.Cond.instanceMethod ({ cls := "ScholarsPress$Book", name := "line", desc := "(IIII)V" } : Jvm.MethodName)) ∈ lw_all := lw_g (lw_at lw_m11 196 rfl) rfl
theorem q2951 : (Jvm.Cond.code ({ cls := "ScholarsPress$Book", name := "line", desc := "(IIII)V" } : Jvm.MethodName) prog_2_method_41_code (5 : Nat) (Option.none : Option Jvm.ClassFile.FieldType)) ∈ lw_all := lw_g (lw_at lw_m11 197 rfl) rfl
theorem q2952 : (Jvm.Cond.methodLink "ScholarsPress$Book" (649 : Nat) ({ cls := "ScholarsPress$Book", name := "place", desc := "(LScholarsPress$Paragraph;IZ)V" } : Jvm.MethodName)) ∈ lw_all := lw_g (lw_at lw_m11 198 rfl) rfl
theorem q2953 : (Jvm.Cond.privateMethod ({ cls := "ScholarsPress$Book", name := "place", desc := "(LScholarsPress$Paragraph;IZ)V" } : Jvm.MethodName)) ∈ lw_tbl := lw_at lw_m11 199 rfl
theorem q2954 : (Jvm.Cond.instanceMethod ({ cls := "ScholarsPress$Book", name := "place", desc := "(LScholarsPress$Paragraph;IZ)V" } : Jvm.MethodName)) ∈ lw_all := lw_g (lw_at lw_m11 200 rfl) rfl
theorem q2955 : (Jvm.Cond.code ({ cls := "ScholarsPress$Book", name := "place", desc := "(LScholarsPress$Paragraph;IZ)V" } : Jvm.MethodName) prog_2_method_44_code (6 : Nat) (Option.none : Option Jvm.ClassFile.FieldType)) ∈ lw_all := lw_g (lw_at lw_m11 201 rfl) rfl
theorem q2956 : (Jvm.Cond.methodLinkNest "ScholarsPress$Book" (653 : Nat) ({ cls := "ScholarsPress$Paragraph", name := "orderOf", desc := "(I)I" } : Jvm.MethodName) "ScholarsPress") ∈ lw_tbl := lw_at lw_m11 202 rfl
theorem q2960 : (Jvm.Cond.methodLinkNest "ScholarsPress$Book" (656 : Nat) ({ cls := "ScholarsPress$Paragraph", name := "breakOf", desc := "(I)I" } : Jvm.MethodName) "ScholarsPress") ∈ lw_tbl := lw_at lw_m11 206 rfl
theorem q2961 : (Jvm.Cond.methodLinkNest "ScholarsPress$Book" (659 : Nat) ({ cls := "ScholarsPress$Paragraph", name := "nextAt", desc := "(I)I" } : Jvm.MethodName) "ScholarsPress") ∈ lw_tbl := lw_at lw_m11 207 rfl
theorem q2965 : (Jvm.Cond.methodLink "ScholarsPress$Book" (642 : Nat) ({ cls := "ScholarsPress$Book", name := "paragraphLines", desc := "(II)V" } : Jvm.MethodName)) ∈ lw_all := lw_g (lw_at lw_m11 211 rfl) rfl
theorem q2966 : (Jvm.Cond.privateMethod ({ cls := "ScholarsPress$Book", name := "paragraphLines", desc := "(II)V" } : Jvm.MethodName)) ∈ lw_tbl := lw_at lw_m11 212 rfl
theorem q2967 : (Jvm.Cond.instanceMethod ({ cls := "ScholarsPress$Book", name := "paragraphLines", desc := "(II)V" } : Jvm.MethodName)) ∈ lw_all := lw_g (lw_at lw_m11 213 rfl) rfl
theorem q2968 : (Jvm.Cond.code ({ cls := "ScholarsPress$Book", name := "paragraphLines", desc := "(II)V" } : Jvm.MethodName) prog_2_method_42_code (7 : Nat) (Option.none : Option Jvm.ClassFile.FieldType)) ∈ lw_all := lw_g (lw_at lw_m11 214 rfl) rfl
theorem q2970 : (Jvm.Cond.privateMethod ({ cls := "ScholarsPress$Book", name := "breakColumns", desc := "()V" } : Jvm.MethodName)) ∈ lw_tbl := lw_at lw_m11 216 rfl
theorem q2971 : (Jvm.Cond.instanceMethod ({ cls := "ScholarsPress$Book", name := "breakColumns", desc := "()V" } : Jvm.MethodName)) ∈ lw_all := lw_g (lw_at lw_m11 217 rfl) rfl
theorem q2972 : (Jvm.Cond.code ({ cls := "ScholarsPress$Book", name := "breakColumns", desc := "()V" } : Jvm.MethodName) prog_2_method_52_code (3 : Nat) (Option.none : Option Jvm.ClassFile.FieldType)) ∈ lw_all := lw_g (lw_at lw_m11 218 rfl) rfl
theorem q2973 : (Jvm.Cond.methodLink "ScholarsPress$Book" (710 : Nat) ({ cls := "ScholarsPress$Book", name := "prepareNotes", desc := "()V" } : Jvm.MethodName)) ∈ lw_all := lw_g (lw_at lw_m11 219 rfl) rfl
theorem q2974 : (Jvm.Cond.privateMethod ({ cls := "ScholarsPress$Book", name := "prepareNotes", desc := "()V" } : Jvm.MethodName)) ∈ lw_tbl := lw_at lw_m11 220 rfl
theorem q2975 : (Jvm.Cond.instanceMethod ({ cls := "ScholarsPress$Book", name := "prepareNotes", desc := "()V" } : Jvm.MethodName)) ∈ lw_all := lw_g (lw_at lw_m11 221 rfl) rfl
theorem q2976 : (Jvm.Cond.code ({ cls := "ScholarsPress$Book", name := "prepareNotes", desc := "()V" } : Jvm.MethodName) prog_2_method_45_code (3 : Nat) (Option.none : Option Jvm.ClassFile.FieldType)) ∈ lw_all := lw_g (lw_at lw_m11 222 rfl) rfl
theorem q2977 : (Jvm.Cond.methodLink "ScholarsPress$Book" (686 : Nat) ({ cls := "ScholarsPress$Book", name := "reach", desc := "(IIIJI)V" } : Jvm.MethodName)) ∈ lw_all := lw_g (lw_at lw_m11 223 rfl) rfl
theorem q2978 : (Jvm.Cond.privateMethod ({ cls := "ScholarsPress$Book", name := "reach", desc := "(IIIJI)V" } : Jvm.MethodName)) ∈ lw_tbl := lw_at lw_m11 224 rfl
theorem q2979 : (Jvm.Cond.instanceMethod ({ cls := "ScholarsPress$Book", name := "reach", desc := "(IIIJI)V" } : Jvm.MethodName)) ∈ lw_all := lw_g (lw_at lw_m11 225 rfl) rfl
theorem q2980 : (Jvm.Cond.code ({ cls := "ScholarsPress$Book", name := "reach", desc := "(IIIJI)V" } : Jvm.MethodName) prog_2_method_50_code (9 : Nat) (Option.none : Option Jvm.ClassFile.FieldType)) ∈ lw_all := lw_g (lw_at lw_m11 226 rfl) rfl
theorem q2981 : (Jvm.Cond.methodLink "ScholarsPress$Book" (702 : Nat) ({ cls := "ScholarsPress$Book", name := "begins", desc := "(II)Z" } : Jvm.MethodName)) ∈ lw_all := lw_g (lw_at lw_m11 227 rfl) rfl
theorem q2982 : (Jvm.Cond.privateMethod ({ cls := "ScholarsPress$Book", name := "begins", desc := "(II)Z" } : Jvm.MethodName)) ∈ lw_tbl := lw_at lw_m11 228 rfl
theorem q2983 : (Jvm.Cond.instanceMethod ({ cls := "ScholarsPress$Book", name := "begins", desc := "(II)Z" } : Jvm.MethodName)) ∈ lw_all := lw_g (lw_at lw_m11 229 rfl) rfl
theorem q2984 : (Jvm.Cond.code ({ cls := "ScholarsPress$Book", name := "begins", desc := "(II)Z" } : Jvm.MethodName) prog_2_method_51_code (5 : Nat) (Option.some Jvm.ClassFile.FieldType.boolean)) ∈ lw_all := lw_g (lw_at lw_m11 230 rfl) rfl
theorem q2985 : (Jvm.Cond.methodLinkNest "ScholarsPress$Book" (706 : Nat) ({ cls := "ScholarsPress$Desk", name := "add", desc := "()I" } : Jvm.MethodName) "ScholarsPress") ∈ lw_tbl := lw_at lw_m11 231 rfl
theorem q2990 : (Jvm.Cond.methodLink "ScholarsPress$Book" (716 : Nat) ({ cls := "ScholarsPress$Book", name := "columnsFrom", desc := "(II)V" } : Jvm.MethodName)) ∈ lw_all := lw_g (lw_at lw_m11 236 rfl) rfl
theorem q2991 : (Jvm.Cond.privateMethod ({ cls := "ScholarsPress$Book", name := "columnsFrom", desc := "(II)V" } : Jvm.MethodName)) ∈ lw_tbl := lw_at lw_m11 237 rfl
theorem q2992 : (Jvm.Cond.instanceMethod ({ cls := "ScholarsPress$Book", name := "columnsFrom", desc := "(II)V" } : Jvm.MethodName)) ∈ lw_all := lw_g (lw_at lw_m11 238 rfl) rfl
theorem q2993 : (Jvm.Cond.code ({ cls := "ScholarsPress$Book", name := "columnsFrom", desc := "(II)V" } : Jvm.MethodName) prog_2_method_53_code (10 : Nat) (Option.none : Option Jvm.ClassFile.FieldType)) ∈ lw_all := lw_g (lw_at lw_m11 239 rfl) rfl
theorem q2994 : (Jvm.Cond.methodLink "ScholarsPress$Book" (725 : Nat) ({ cls := "ScholarsPress$Book", name := "calledBy", desc := "([III)I" } : Jvm.MethodName)) ∈ lw_all := lw_g (lw_at lw_m12 0 rfl) rfl
theorem q2995 : (Jvm.Cond.static ({ cls := "ScholarsPress$Book", name := "calledBy", desc := "([III)I" } : Jvm.MethodName)) ∈ lw_all := lw_g (lw_at lw_m12 1 rfl) rfl
theorem q2996 : (Jvm.Cond.code ({ cls := "ScholarsPress$Book", name := "calledBy", desc := "([III)I" } : Jvm.MethodName) prog_2_method_47_code (4 : Nat) (Option.some Jvm.ClassFile.FieldType.int)) ∈ lw_all := lw_g (lw_at lw_m12 2 rfl) rfl
theorem q2997 : (Jvm.Cond.methodLink "ScholarsPress$Book" (729 : Nat) ({ cls := "ScholarsPress$Book", name := "column", desc := "(IIJIII)Z" } : Jvm.MethodName)) ∈ lw_all := lw_g (lw_at lw_m12 3 rfl) rfl
theorem q2998 : (Jvm.Cond.privateMethod ({ cls := "ScholarsPress$Book", name := "column", desc := "(IIJIII)Z" } : Jvm.MethodName)) ∈ lw_tbl := lw_at lw_m12 4 rfl
theorem q2999 : (Jvm.Cond.instanceMethod ({ cls := "ScholarsPress$Book", name := "column", desc := "(IIJIII)Z" } : Jvm.MethodName)) ∈ lw_all := lw_g (lw_at lw_m12 5 rfl) rfl
theorem q3000 : (Jvm.Cond.code ({ cls := "ScholarsPress$Book", name := "column", desc := "(IIJIII)Z" } : Jvm.MethodName) prog_2_method_48_code (17 : Nat) (Option.some Jvm.ClassFile.FieldType.boolean)) ∈ lw_all := lw_g (lw_at lw_m12 6 rfl) rfl
theorem q3001 : (Jvm.Cond.methodLink "ScholarsPress$Book" (673 : Nat) ({ cls := "ScholarsPress$Book", name := "floatHeight", desc := "(I)I" } : Jvm.MethodName)) ∈ lw_all := lw_g (lw_at lw_m12 7 rfl) rfl
theorem q3002 : (Jvm.Cond.privateMethod ({ cls := "ScholarsPress$Book", name := "floatHeight", desc := "(I)I" } : Jvm.MethodName)) ∈ lw_tbl := lw_at lw_m12 8 rfl
theorem q3003 : (Jvm.Cond.instanceMethod ({ cls := "ScholarsPress$Book", name := "floatHeight", desc := "(I)I" } : Jvm.MethodName)) ∈ lw_all := lw_g (lw_at lw_m12 9 rfl) rfl
theorem q3004 : (Jvm.Cond.code ({ cls := "ScholarsPress$Book", name := "floatHeight", desc := "(I)I" } : Jvm.MethodName) prog_2_method_46_code (3 : Nat) (Option.some Jvm.ClassFile.FieldType.int)) ∈ lw_all := lw_g (lw_at lw_m12 10 rfl) rfl
theorem q3005 : (Jvm.Cond.constantLong "ScholarsPress$Book" (676 : Nat) (100 : Int64)) ∈ lw_all := lw_g (lw_at lw_m12 11 rfl) rfl
theorem q3006 : (Jvm.Cond.methodLink "ScholarsPress$Book" (678 : Nat) ({ cls := "ScholarsPress$Book", name := "endsCut", desc := "(I)Z" } : Jvm.MethodName)) ∈ lw_all := lw_g (lw_at lw_m12 12 rfl) rfl
theorem q3007 : (Jvm.Cond.privateMethod ({ cls := "ScholarsPress$Book", name := "endsCut", desc := "(I)Z" } : Jvm.MethodName)) ∈ lw_tbl := lw_at lw_m12 13 rfl
theorem q3008 : (Jvm.Cond.instanceMethod ({ cls := "ScholarsPress$Book", name := "endsCut", desc := "(I)Z" } : Jvm.MethodName)) ∈ lw_all := lw_g (lw_at lw_m12 14 rfl) rfl
theorem q3009 : (Jvm.Cond.code ({ cls := "ScholarsPress$Book", name := "endsCut", desc := "(I)Z" } : Jvm.MethodName) prog_2_method_49_code (2 : Nat) (Option.some Jvm.ClassFile.FieldType.boolean)) ∈ lw_all := lw_g (lw_at lw_m12 15 rfl) rfl
theorem q3010 : (Jvm.Cond.methodLinkNest "ScholarsPress$Book" (690 : Nat) ({ cls := "ScholarsPress$Paragraph", name := "isHyphen", desc := "(I)Z" } : Jvm.MethodName) "ScholarsPress") ∈ lw_tbl := lw_at lw_m12 16 rfl
theorem q3014 : (Jvm.Cond.constantLong "ScholarsPress$Book" (681 : Nat) (400 : Int64)) ∈ lw_all := lw_g (lw_at lw_m12 20 rfl) rfl
theorem q3015 : (Jvm.Cond.classLink "ScholarsPress$Book" (719 : Nat) "java/lang/ArithmeticException") ∈ lw_all := lw_g (lw_at lw_m12 21 rfl) rfl
theorem q3016 : (Jvm.Cond.methodLink "ScholarsPress$Book" (721 : Nat) ({ cls := "java/lang/ArithmeticException", name := "<init>", desc := "()V" } : Jvm.MethodName)) ∈ lw_all := lw_g (lw_at lw_m12 22 rfl) rfl
theorem q3020 : (Jvm.Cond.methodLink "ScholarsPress$Book" (722 : Nat) ({ cls := "ScholarsPress$Book", name := "lay", desc := "(I)V" } : Jvm.MethodName)) ∈ lw_all := lw_g (lw_at lw_m12 26 rfl) rfl
theorem q3021 : (Jvm.Cond.privateMethod ({ cls := "ScholarsPress$Book", name := "lay", desc := "(I)V" } : Jvm.MethodName)) ∈ lw_tbl := lw_at lw_m12 27 rfl
theorem q3022 : (Jvm.Cond.instanceMethod ({ cls := "ScholarsPress$Book", name := "lay", desc := "(I)V" } : Jvm.MethodName)) ∈ lw_all := lw_g (lw_at lw_m12 28 rfl) rfl
theorem q3023 : (Jvm.Cond.code ({ cls := "ScholarsPress$Book", name := "lay", desc := "(I)V" } : Jvm.MethodName) prog_2_method_55_code (7 : Nat) (Option.none : Option Jvm.ClassFile.FieldType)) ∈ lw_all := lw_g (lw_at lw_m12 29 rfl) rfl
theorem q3024 : (Jvm.Cond.methodLink "ScholarsPress$Book" (735 : Nat) ({ cls := "ScholarsPress$Book", name := "addColumn", desc := "(IIIIII)V" } : Jvm.MethodName)) ∈ lw_all := lw_g (lw_at lw_m12 30 rfl) rfl
theorem q3025 : (Jvm.Cond.privateMethod ({ cls := "ScholarsPress$Book", name := "addColumn", desc := "(IIIIII)V" } : Jvm.MethodName)) ∈ lw_tbl := lw_at lw_m12 31 rfl
theorem q3026 : (Jvm.Cond.instanceMethod ({ cls := "ScholarsPress$Book", name := "addColumn", desc := "(IIIIII)V" } : Jvm.MethodName)) ∈ lw_all := lw_g (lw_at lw_m12 32 rfl) rfl
theorem q3027 : (Jvm.Cond.code ({ cls := "ScholarsPress$Book", name := "addColumn", desc := "(IIIIII)V" } : Jvm.MethodName) prog_2_method_54_code (7 : Nat) (Option.none : Option Jvm.ClassFile.FieldType)) ∈ lw_all := lw_g (lw_at lw_m12 33 rfl) rfl
theorem q3028 : (Jvm.Cond.methodLink "ScholarsPress$Book" (739 : Nat) ({ cls := "ScholarsPress$Book", name := "layRest", desc := "(II)V" } : Jvm.MethodName)) ∈ lw_all := lw_g (lw_at lw_m12 34 rfl) rfl
theorem q3029 : (Jvm.Cond.privateMethod ({ cls := "ScholarsPress$Book", name := "layRest", desc := "(II)V" } : Jvm.MethodName)) ∈ lw_tbl := lw_at lw_m12 35 rfl
theorem q3030 : (Jvm.Cond.instanceMethod ({ cls := "ScholarsPress$Book", name := "layRest", desc := "(II)V" } : Jvm.MethodName)) ∈ lw_all := lw_g (lw_at lw_m12 36 rfl) rfl
theorem q3031 : (Jvm.Cond.code ({ cls := "ScholarsPress$Book", name := "layRest", desc := "(II)V" } : Jvm.MethodName) prog_2_method_56_code (9 : Nat) (Option.none : Option Jvm.ClassFile.FieldType)) ∈ lw_all := lw_g (lw_at lw_m12 37 rfl) rfl
theorem q3032 : (Jvm.Cond.methodLink "ScholarsPress$Book" (742 : Nat) ({ cls := "ScholarsPress$Book", name := "tops", desc := "(I)V" } : Jvm.MethodName)) ∈ lw_all := lw_g (lw_at lw_m12 38 rfl) rfl
theorem q3033 : (Jvm.Cond.privateMethod ({ cls := "ScholarsPress$Book", name := "tops", desc := "(I)V" } : Jvm.MethodName)) ∈ lw_tbl := lw_at lw_m12 39 rfl
theorem q3034 : (Jvm.Cond.instanceMethod ({ cls := "ScholarsPress$Book", name := "tops", desc := "(I)V" } : Jvm.MethodName)) ∈ lw_all := lw_g (lw_at lw_m12 40 rfl) rfl
theorem q3035 : (Jvm.Cond.code ({ cls := "ScholarsPress$Book", name := "tops", desc := "(I)V" } : Jvm.MethodName) prog_2_method_57_code (5 : Nat) (Option.none : Option Jvm.ClassFile.FieldType)) ∈ lw_all := lw_g (lw_at lw_m12 41 rfl) rfl
theorem q3036 : (Jvm.Cond.methodLink "ScholarsPress$Book" (745 : Nat) ({ cls := "ScholarsPress$Book", name := "number", desc := "()V" } : Jvm.MethodName)) ∈ lw_all := lw_g (lw_at lw_m12 42 rfl) rfl
theorem q3037 : (Jvm.Cond.privateMethod ({ cls := "ScholarsPress$Book", name := "number", desc := "()V" } : Jvm.MethodName)) ∈ lw_tbl := lw_at lw_m12 43 rfl
theorem q3038 : (Jvm.Cond.instanceMethod ({ cls := "ScholarsPress$Book", name := "number", desc := "()V" } : Jvm.MethodName)) ∈ lw_all := lw_g (lw_at lw_m12 44 rfl) rfl
theorem q3039 : (Jvm.Cond.code ({ cls := "ScholarsPress$Book", name := "number", desc := "()V" } : Jvm.MethodName) prog_2_method_59_code (4 : Nat) (Option.none : Option Jvm.ClassFile.FieldType)) ∈ lw_all := lw_g (lw_at lw_m12 45 rfl) rfl
theorem q3041 : (Jvm.Cond.privateMethod ({ cls := "ScholarsPress$Book", name := "isSettled", desc := "()Z" } : Jvm.MethodName)) ∈ lw_tbl := lw_at lw_m12 47 rfl
theorem q3042 : (Jvm.Cond.instanceMethod ({ cls := "ScholarsPress$Book", name := "isSettled", desc := "()Z" } : Jvm.MethodName)) ∈ lw_all := lw_g (lw_at lw_m12 48 rfl) rfl
theorem q3043 : (Jvm.Cond.code ({ cls := "ScholarsPress$Book", name := "isSettled", desc := "()Z" } : Jvm.MethodName) prog_2_method_33_code (2 : Nat) (Option.some Jvm.ClassFile.FieldType.boolean)) ∈ lw_all := lw_g (lw_at lw_m12 49 rfl) rfl
theorem q3044 : (Jvm.Cond.methodLink "ScholarsPress$Book" (583 : Nat) ({ cls := "ScholarsPress$Book", name := "wavers", desc := "(I)Z" } : Jvm.MethodName)) ∈ lw_all := lw_g (lw_at lw_m12 50 rfl) rfl
theorem q3045 : (Jvm.Cond.privateMethod ({ cls := "ScholarsPress$Book", name := "wavers", desc := "(I)Z" } : Jvm.MethodName)) ∈ lw_tbl := lw_at lw_m12 51 rfl
theorem q3046 : (Jvm.Cond.instanceMethod ({ cls := "ScholarsPress$Book", name := "wavers", desc := "(I)Z" } : Jvm.MethodName)) ∈ lw_all := lw_g (lw_at lw_m12 52 rfl) rfl
theorem q3047 : (Jvm.Cond.code ({ cls := "ScholarsPress$Book", name := "wavers", desc := "(I)Z" } : Jvm.MethodName) prog_2_method_32_code (4 : Nat) (Option.some Jvm.ClassFile.FieldType.boolean)) ∈ lw_all := lw_g (lw_at lw_m12 53 rfl) rfl
theorem q3077 : (Jvm.Cond.privateMethod ({ cls := "ScholarsPress$Book", name := "pages", desc := "()I" } : Jvm.MethodName)) ∈ lw_tbl := lw_at lw_m12 83 rfl
theorem q3078 : (Jvm.Cond.instanceMethod ({ cls := "ScholarsPress$Book", name := "pages", desc := "()I" } : Jvm.MethodName)) ∈ lw_all := lw_g (lw_at lw_m12 84 rfl) rfl
theorem q3079 : (Jvm.Cond.code ({ cls := "ScholarsPress$Book", name := "pages", desc := "()I" } : Jvm.MethodName) prog_2_method_60_code (1 : Nat) (Option.some Jvm.ClassFile.FieldType.int)) ∈ lw_all := lw_g (lw_at lw_m12 85 rfl) rfl
theorem q3081 : (Jvm.Cond.privateMethod ({ cls := "ScholarsPress$Book", name := "wavering", desc := "(I)I" } : Jvm.MethodName)) ∈ lw_tbl := lw_at lw_m12 87 rfl
theorem q3082 : (Jvm.Cond.instanceMethod ({ cls := "ScholarsPress$Book", name := "wavering", desc := "(I)I" } : Jvm.MethodName)) ∈ lw_all := lw_g (lw_at lw_m12 88 rfl) rfl
theorem q3083 : (Jvm.Cond.code ({ cls := "ScholarsPress$Book", name := "wavering", desc := "(I)I" } : Jvm.MethodName) prog_2_method_34_code (6 : Nat) (Option.some Jvm.ClassFile.FieldType.int)) ∈ lw_all := lw_g (lw_at lw_m12 89 rfl) rfl
theorem q3189 : (Jvm.Cond.privateMethod ({ cls := "ScholarsPress$Book", name := "columnOfFloat", desc := "(I)I" } : Jvm.MethodName)) ∈ lw_tbl := lw_at lw_m12 195 rfl
theorem q3190 : (Jvm.Cond.instanceMethod ({ cls := "ScholarsPress$Book", name := "columnOfFloat", desc := "(I)I" } : Jvm.MethodName)) ∈ lw_all := lw_g (lw_at lw_m12 196 rfl) rfl
theorem q3191 : (Jvm.Cond.code ({ cls := "ScholarsPress$Book", name := "columnOfFloat", desc := "(I)I" } : Jvm.MethodName) prog_2_method_63_code (3 : Nat) (Option.some Jvm.ClassFile.FieldType.int)) ∈ lw_all := lw_g (lw_at lw_m12 197 rfl) rfl
theorem q3193 : (Jvm.Cond.privateMethod ({ cls := "ScholarsPress$Book", name := "floatTop", desc := "(II)I" } : Jvm.MethodName)) ∈ lw_tbl := lw_at lw_m12 199 rfl
theorem q3194 : (Jvm.Cond.instanceMethod ({ cls := "ScholarsPress$Book", name := "floatTop", desc := "(II)I" } : Jvm.MethodName)) ∈ lw_all := lw_g (lw_at lw_m12 200 rfl) rfl
theorem q3195 : (Jvm.Cond.code ({ cls := "ScholarsPress$Book", name := "floatTop", desc := "(II)I" } : Jvm.MethodName) prog_2_method_62_code (5 : Nat) (Option.some Jvm.ClassFile.FieldType.int)) ∈ lw_all := lw_g (lw_at lw_m12 201 rfl) rfl
theorem q3197 : (Jvm.Cond.privateMethod ({ cls := "ScholarsPress$Book", name := "columnOfNoteLine", desc := "(I)I" } : Jvm.MethodName)) ∈ lw_tbl := lw_at lw_m12 203 rfl
theorem q3198 : (Jvm.Cond.instanceMethod ({ cls := "ScholarsPress$Book", name := "columnOfNoteLine", desc := "(I)I" } : Jvm.MethodName)) ∈ lw_all := lw_g (lw_at lw_m12 204 rfl) rfl
theorem q3199 : (Jvm.Cond.code ({ cls := "ScholarsPress$Book", name := "columnOfNoteLine", desc := "(I)I" } : Jvm.MethodName) prog_2_method_64_code (3 : Nat) (Option.some Jvm.ClassFile.FieldType.int)) ∈ lw_all := lw_g (lw_at lw_m12 205 rfl) rfl
theorem q3201 : (Jvm.Cond.privateMethod ({ cls := "ScholarsPress$Book", name := "noteTop", desc := "(II)J" } : Jvm.MethodName)) ∈ lw_tbl := lw_at lw_m12 207 rfl
theorem q3202 : (Jvm.Cond.instanceMethod ({ cls := "ScholarsPress$Book", name := "noteTop", desc := "(II)J" } : Jvm.MethodName)) ∈ lw_all := lw_g (lw_at lw_m12 208 rfl) rfl
theorem q3203 : (Jvm.Cond.code ({ cls := "ScholarsPress$Book", name := "noteTop", desc := "(II)J" } : Jvm.MethodName) prog_2_method_65_code (3 : Nat) (Option.some Jvm.ClassFile.FieldType.long)) ∈ lw_all := lw_g (lw_at lw_m12 209 rfl) rfl
theorem q3219 : (Jvm.Cond.privateMethod ({ cls := "ScholarsPress$Book", name := "print", desc := "(ILScholarsPress$Bytes;)V" } : Jvm.MethodName)) ∈ lw_tbl := lw_at lw_m12 225 rfl
theorem q3220 : (Jvm.Cond.instanceMethod ({ cls := "ScholarsPress$Book", name := "print", desc := "(ILScholarsPress$Bytes;)V" } : Jvm.MethodName)) ∈ lw_all := lw_g (lw_at lw_m12 226 rfl) rfl
theorem q3221 : (Jvm.Cond.code ({ cls := "ScholarsPress$Book", name := "print", desc := "(ILScholarsPress$Bytes;)V" } : Jvm.MethodName) prog_2_method_66_code (5 : Nat) (Option.none : Option Jvm.ClassFile.FieldType)) ∈ lw_all := lw_g (lw_at lw_m12 227 rfl) rfl
theorem q3222 : (Jvm.Cond.methodLink "ScholarsPress$Book" (749 : Nat) ({ cls := "ScholarsPress$Book", name := "headOf", desc := "(I)I" } : Jvm.MethodName)) ∈ lw_all := lw_g (lw_at lw_m12 228 rfl) rfl
theorem q3223 : (Jvm.Cond.privateMethod ({ cls := "ScholarsPress$Book", name := "headOf", desc := "(I)I" } : Jvm.MethodName)) ∈ lw_tbl := lw_at lw_m12 229 rfl
theorem q3224 : (Jvm.Cond.instanceMethod ({ cls := "ScholarsPress$Book", name := "headOf", desc := "(I)I" } : Jvm.MethodName)) ∈ lw_all := lw_g (lw_at lw_m12 230 rfl) rfl
theorem q3225 : (Jvm.Cond.code ({ cls := "ScholarsPress$Book", name := "headOf", desc := "(I)I" } : Jvm.MethodName) prog_2_method_61_code (5 : Nat) (Option.some Jvm.ClassFile.FieldType.int)) ∈ lw_all := lw_g (lw_at lw_m12 231 rfl) rfl
theorem q3226 : (Jvm.Cond.methodLink "ScholarsPress$Book" (753 : Nat) ({ cls := "ScholarsPress$Book", name := "printColumn", desc := "(IJLScholarsPress$Bytes;)V" } : Jvm.MethodName)) ∈ lw_all := lw_g (lw_at lw_m12 232 rfl) rfl
theorem q3227 : (Jvm.Cond.privateMethod ({ cls := "ScholarsPress$Book", name := "printColumn", desc := "(IJLScholarsPress$Bytes;)V" } : Jvm.MethodName)) ∈ lw_tbl := lw_at lw_m12 233 rfl
theorem q3228 : (Jvm.Cond.instanceMethod ({ cls := "ScholarsPress$Book", name := "printColumn", desc := "(IJLScholarsPress$Bytes;)V" } : Jvm.MethodName)) ∈ lw_all := lw_g (lw_at lw_m12 234 rfl) rfl
theorem q3229 : (Jvm.Cond.code ({ cls := "ScholarsPress$Book", name := "printColumn", desc := "(IJLScholarsPress$Bytes;)V" } : Jvm.MethodName) prog_2_method_67_code (8 : Nat) (Option.none : Option Jvm.ClassFile.FieldType)) ∈ lw_all := lw_g (lw_at lw_m12 235 rfl) rfl
theorem q3230 : (Jvm.Cond.methodLink "ScholarsPress$Book" (757 : Nat) ({ cls := "ScholarsPress$Book", name := "printLine", desc := "(LScholarsPress$Paragraph;IJJLScholarsPress$Bytes;)V" } : Jvm.MethodName)) ∈ lw_all := lw_g (lw_at lw_m12 236 rfl) rfl
theorem q3231 : (Jvm.Cond.privateMethod ({ cls := "ScholarsPress$Book", name := "printLine", desc := "(LScholarsPress$Paragraph;IJJLScholarsPress$Bytes;)V" } : Jvm.MethodName)) ∈ lw_tbl := lw_at lw_m12 237 rfl
theorem q3232 : (Jvm.Cond.instanceMethod ({ cls := "ScholarsPress$Book", name := "printLine", desc := "(LScholarsPress$Paragraph;IJJLScholarsPress$Bytes;)V" } : Jvm.MethodName)) ∈ lw_all := lw_g (lw_at lw_m12 238 rfl) rfl
theorem q3233 : (Jvm.Cond.code ({ cls := "ScholarsPress$Book", name := "printLine", desc := "(LScholarsPress$Paragraph;IJJLScholarsPress$Bytes;)V" } : Jvm.MethodName) prog_2_method_69_code (8 : Nat) (Option.none : Option Jvm.ClassFile.FieldType)) ∈ lw_all := lw_g (lw_at lw_m12 239 rfl) rfl
theorem q3234 : (Jvm.Cond.methodLinkNest "ScholarsPress$Book" (769 : Nat) ({ cls := "ScholarsPress$Paragraph", name := "startOf", desc := "(I)I" } : Jvm.MethodName) "ScholarsPress") ∈ lw_tbl := lw_at lw_m13 0 rfl
theorem q3235 : (Jvm.Cond.methodLinkNest "ScholarsPress$Book" (772 : Nat) ({ cls := "ScholarsPress$Paragraph", name := "write", desc := "(ILScholarsPress$Bytes;)V" } : Jvm.MethodName) "ScholarsPress") ∈ lw_tbl := lw_at lw_m13 1 rfl
theorem q3242 : (Jvm.Cond.methodLink "ScholarsPress$Book" (761 : Nat) ({ cls := "ScholarsPress$Book", name := "printRow", desc := "(IIJLScholarsPress$Bytes;)V" } : Jvm.MethodName)) ∈ lw_all := lw_g (lw_at lw_m13 8 rfl) rfl
theorem q3243 : (Jvm.Cond.privateMethod ({ cls := "ScholarsPress$Book", name := "printRow", desc := "(IIJLScholarsPress$Bytes;)V" } : Jvm.MethodName)) ∈ lw_tbl := lw_at lw_m13 9 rfl
theorem q3244 : (Jvm.Cond.instanceMethod ({ cls := "ScholarsPress$Book", name := "printRow", desc := "(IIJLScholarsPress$Bytes;)V" } : Jvm.MethodName)) ∈ lw_all := lw_g (lw_at lw_m13 10 rfl) rfl
theorem q3245 : (Jvm.Cond.code ({ cls := "ScholarsPress$Book", name := "printRow", desc := "(IIJLScholarsPress$Bytes;)V" } : Jvm.MethodName) prog_2_method_68_code (10 : Nat) (Option.none : Option Jvm.ClassFile.FieldType)) ∈ lw_all := lw_g (lw_at lw_m13 11 rfl) rfl
theorem q3246 : (Jvm.Cond.methodLink "ScholarsPress$Book" (765 : Nat) ({ cls := "ScholarsPress$Book", name := "noteTop", desc := "(II)J" } : Jvm.MethodName)) ∈ lw_all := lw_g (lw_at lw_m13 12 rfl) rfl
theorem in_X14 : ∀ w ∈ wsX140, w ∈ lw_all := lw_in wsX140 [1334, 1336, 1338, 1340, 1342, 1344, 1346, 1348, 1350, 1352, 1354, 1356, 1358, 1360, 1362, 1364, 1366, 1368, 1370, 1372, 1374, 1376, 1378, 1380, 1382, 1384, 1386, 1388, 1390, 1392, 1394, 1396, 1398, 1400, 1402, 1404, 1406, 1408, 1410, 1412, 1414, 1416, 1418, 1420, 1422, 1424, 1426, 1428, 1430, 1432, 1434, 1436, 1438, 1440, 1442, 1444, 1446, 1448, 1450, 1452, 1454, 1456, 1458, 1460, 1462, 1464, 1466] (by decide +kernel) (by decide +kernel)
/-! ScholarsPress$Rows -/
def RX15 : String := "ScholarsPress$Rows"
def TX15 : u_T := fun k => match k with
  | 0 => ("ScholarsPress$Rows", "text", "[B", true)
  | 1 => ("ScholarsPress$Rows", "sizes", "[I", true)
  | 2 => ("ScholarsPress$Rows", "orders", "[I", true)
  | 3 => ("ScholarsPress$Rows", "bytes", "I", false)
  | 4 => ("ScholarsPress$Rows", "kind", "[I", true)
  | 5 => ("ScholarsPress$Rows", "endAt", "[I", true)
  | 6 => ("ScholarsPress$Rows", "nextAt", "[I", true)
  | 7 => ("ScholarsPress$Rows", "hyphenWidth", "[I", true)
  | 8 => ("ScholarsPress$Rows", "parts", "[J", true)
  | 9 => ("ScholarsPress$Rows", "glues", "[J", true)
  | 10 => ("ScholarsPress$Rows", "stretches", "[J", true)
  | 11 => ("ScholarsPress$Rows", "shrinks", "[J", true)
  | 12 => ("ScholarsPress$Rows", "breaks", "I", false)
  | 13 => ("ScholarsPress$Rows", "broken", "[I", true)
  | 14 => ("ScholarsPress$Rows", "ratios", "[I", true)
  | _ => ("ScholarsPress$Rows", "lines", "I", false)
def tyX15 : Nat → FieldType := fun k => match k with
  | 0 => .array .byte
  | 1 => .array .int
  | 2 => .array .int
  | 3 => .int
  | 4 => .array .int
  | 5 => .array .int
  | 6 => .array .int
  | 7 => .array .int
  | 8 => .array .long
  | 9 => .array .long
  | 10 => .array .long
  | 11 => .array .long
  | 12 => .int
  | 13 => .array .int
  | 14 => .array .int
  | _ => .int
abbrev wsX150 : List Cond := u_ws RX15 TX15 16
theorem nmX15 : ∀ a, a < 16 → ∀ b, b < 16 → a ≠ b → (TX15 a).2.1 ≠ (TX15 b).2.1 := by decide +kernel
theorem tyX15_ok : ∀ k, k < 16 → parseFieldDescriptor (TX15 k).2.2.1 = some (tyX15 k) := by decide +kernel
abbrev cX15_init : ByteArray := prog_11_method_1_code
def yX15_init : MethodName := ⟨RX15, "<init>", "()V"⟩
abbrev cX15_clear : ByteArray := prog_11_method_2_code
def yX15_clear : MethodName := ⟨RX15, "clear", "()V"⟩
theorem q369 : (Jvm.Cond.initialized "ScholarsPress$Rows") ∈ lw_all := lw_g (lw_at lw_m1 15 rfl) rfl
theorem q1122 : (Jvm.Cond.instantiable "ScholarsPress$Rows" (16 : Nat)) ∈ lw_all := lw_g (lw_at lw_m4 48 rfl) rfl
theorem q1124 : (Jvm.Cond.instanceMethod ({ cls := "ScholarsPress$Rows", name := "<init>", desc := "()V" } : Jvm.MethodName)) ∈ lw_all := lw_g (lw_at lw_m4 50 rfl) rfl
theorem q1125 : (Jvm.Cond.code ({ cls := "ScholarsPress$Rows", name := "<init>", desc := "()V" } : Jvm.MethodName) prog_11_method_1_code (1 : Nat) (Option.none : Option Jvm.ClassFile.FieldType)) ∈ lw_all := lw_g (lw_at lw_m4 51 rfl) rfl
theorem q1126 : (Jvm.Cond.methodLink "ScholarsPress$Rows" (3 : Nat) ({ cls := "java/lang/Object", name := "<init>", desc := "()V" } : Jvm.MethodName)) ∈ lw_all := lw_g (lw_at lw_m4 52 rfl) rfl
theorem q1127 : (Jvm.Cond.fieldLink "ScholarsPress$Rows" (9 : Nat) "ScholarsPress$Rows" "text" "[B") ∈ lw_all := lw_g (lw_at lw_m4 53 rfl) rfl
theorem q1130 : (Jvm.Cond.fieldLink "ScholarsPress$Rows" (15 : Nat) "ScholarsPress$Rows" "sizes" "[I") ∈ lw_all := lw_g (lw_at lw_m4 56 rfl) rfl
theorem q1133 : (Jvm.Cond.fieldLink "ScholarsPress$Rows" (19 : Nat) "ScholarsPress$Rows" "orders" "[I") ∈ lw_all := lw_g (lw_at lw_m4 59 rfl) rfl
theorem q1136 : (Jvm.Cond.fieldLink "ScholarsPress$Rows" (53 : Nat) "ScholarsPress$Rows" "bytes" "I") ∈ lw_all := lw_g (lw_at lw_m4 62 rfl) rfl
theorem q1138 : (Jvm.Cond.fieldLink "ScholarsPress$Rows" (22 : Nat) "ScholarsPress$Rows" "kind" "[I") ∈ lw_all := lw_g (lw_at lw_m4 64 rfl) rfl
theorem q1140 : (Jvm.Cond.fieldLink "ScholarsPress$Rows" (25 : Nat) "ScholarsPress$Rows" "endAt" "[I") ∈ lw_all := lw_g (lw_at lw_m4 66 rfl) rfl
theorem q1142 : (Jvm.Cond.fieldLink "ScholarsPress$Rows" (28 : Nat) "ScholarsPress$Rows" "nextAt" "[I") ∈ lw_all := lw_g (lw_at lw_m4 68 rfl) rfl
theorem q1144 : (Jvm.Cond.fieldLink "ScholarsPress$Rows" (31 : Nat) "ScholarsPress$Rows" "hyphenWidth" "[I") ∈ lw_all := lw_g (lw_at lw_m4 70 rfl) rfl
theorem q1146 : (Jvm.Cond.fieldLink "ScholarsPress$Rows" (34 : Nat) "ScholarsPress$Rows" "parts" "[J") ∈ lw_all := lw_g (lw_at lw_m4 72 rfl) rfl
theorem q1148 : (Jvm.Cond.fieldLink "ScholarsPress$Rows" (38 : Nat) "ScholarsPress$Rows" "glues" "[J") ∈ lw_all := lw_g (lw_at lw_m4 74 rfl) rfl
theorem q1150 : (Jvm.Cond.fieldLink "ScholarsPress$Rows" (41 : Nat) "ScholarsPress$Rows" "stretches" "[J") ∈ lw_all := lw_g (lw_at lw_m4 76 rfl) rfl
theorem q1152 : (Jvm.Cond.fieldLink "ScholarsPress$Rows" (44 : Nat) "ScholarsPress$Rows" "shrinks" "[J") ∈ lw_all := lw_g (lw_at lw_m4 78 rfl) rfl
theorem q1154 : (Jvm.Cond.fieldLink "ScholarsPress$Rows" (57 : Nat) "ScholarsPress$Rows" "breaks" "I") ∈ lw_all := lw_g (lw_at lw_m4 80 rfl) rfl
theorem q1156 : (Jvm.Cond.fieldLink "ScholarsPress$Rows" (47 : Nat) "ScholarsPress$Rows" "broken" "[I") ∈ lw_all := lw_g (lw_at lw_m4 82 rfl) rfl
theorem q1158 : (Jvm.Cond.fieldLink "ScholarsPress$Rows" (50 : Nat) "ScholarsPress$Rows" "ratios" "[I") ∈ lw_all := lw_g (lw_at lw_m4 84 rfl) rfl
theorem q1160 : (Jvm.Cond.fieldLink "ScholarsPress$Rows" (60 : Nat) "ScholarsPress$Rows" "lines" "I") ∈ lw_all := lw_g (lw_at lw_m4 86 rfl) rfl
theorem q1162 : (Jvm.Cond.laysFinal "ScholarsPress$Rows" "ScholarsPress$Rows" "text" "[B") ∈ lw_all := lw_g (lw_at lw_m4 88 rfl) rfl
theorem q1163 : (Jvm.Cond.soleField "ScholarsPress$Rows" "text") ∈ lw_all := lw_g (lw_at lw_m4 89 rfl) rfl
theorem q1164 : (Jvm.Cond.laysFinal "ScholarsPress$Rows" "ScholarsPress$Rows" "sizes" "[I") ∈ lw_all := lw_g (lw_at lw_m4 90 rfl) rfl
theorem q1165 : (Jvm.Cond.soleField "ScholarsPress$Rows" "sizes") ∈ lw_all := lw_g (lw_at lw_m4 91 rfl) rfl
theorem q1166 : (Jvm.Cond.laysFinal "ScholarsPress$Rows" "ScholarsPress$Rows" "orders" "[I") ∈ lw_all := lw_g (lw_at lw_m4 92 rfl) rfl
theorem q1167 : (Jvm.Cond.soleField "ScholarsPress$Rows" "orders") ∈ lw_all := lw_g (lw_at lw_m4 93 rfl) rfl
theorem q1168 : (Jvm.Cond.lays "ScholarsPress$Rows" "ScholarsPress$Rows" "bytes" "I") ∈ lw_all := lw_g (lw_at lw_m4 94 rfl) rfl
theorem q1169 : (Jvm.Cond.soleField "ScholarsPress$Rows" "bytes") ∈ lw_all := lw_g (lw_at lw_m4 95 rfl) rfl
theorem q1170 : (Jvm.Cond.laysFinal "ScholarsPress$Rows" "ScholarsPress$Rows" "kind" "[I") ∈ lw_all := lw_g (lw_at lw_m4 96 rfl) rfl
theorem q1171 : (Jvm.Cond.soleField "ScholarsPress$Rows" "kind") ∈ lw_all := lw_g (lw_at lw_m4 97 rfl) rfl
theorem q1172 : (Jvm.Cond.laysFinal "ScholarsPress$Rows" "ScholarsPress$Rows" "endAt" "[I") ∈ lw_all := lw_g (lw_at lw_m4 98 rfl) rfl
theorem q1173 : (Jvm.Cond.soleField "ScholarsPress$Rows" "endAt") ∈ lw_all := lw_g (lw_at lw_m4 99 rfl) rfl
theorem q1174 : (Jvm.Cond.laysFinal "ScholarsPress$Rows" "ScholarsPress$Rows" "nextAt" "[I") ∈ lw_all := lw_g (lw_at lw_m4 100 rfl) rfl
theorem q1175 : (Jvm.Cond.soleField "ScholarsPress$Rows" "nextAt") ∈ lw_all := lw_g (lw_at lw_m4 101 rfl) rfl
theorem q1176 : (Jvm.Cond.laysFinal "ScholarsPress$Rows" "ScholarsPress$Rows" "hyphenWidth" "[I") ∈ lw_all := lw_g (lw_at lw_m4 102 rfl) rfl
theorem q1177 : (Jvm.Cond.soleField "ScholarsPress$Rows" "hyphenWidth") ∈ lw_all := lw_g (lw_at lw_m4 103 rfl) rfl
theorem q1178 : (Jvm.Cond.laysFinal "ScholarsPress$Rows" "ScholarsPress$Rows" "parts" "[J") ∈ lw_all := lw_g (lw_at lw_m4 104 rfl) rfl
theorem q1179 : (Jvm.Cond.soleField "ScholarsPress$Rows" "parts") ∈ lw_all := lw_g (lw_at lw_m4 105 rfl) rfl
theorem q1180 : (Jvm.Cond.laysFinal "ScholarsPress$Rows" "ScholarsPress$Rows" "glues" "[J") ∈ lw_all := lw_g (lw_at lw_m4 106 rfl) rfl
theorem q1181 : (Jvm.Cond.soleField "ScholarsPress$Rows" "glues") ∈ lw_all := lw_g (lw_at lw_m4 107 rfl) rfl
theorem q1182 : (Jvm.Cond.laysFinal "ScholarsPress$Rows" "ScholarsPress$Rows" "stretches" "[J") ∈ lw_all := lw_g (lw_at lw_m4 108 rfl) rfl
theorem q1183 : (Jvm.Cond.soleField "ScholarsPress$Rows" "stretches") ∈ lw_all := lw_g (lw_at lw_m4 109 rfl) rfl
theorem q1184 : (Jvm.Cond.laysFinal "ScholarsPress$Rows" "ScholarsPress$Rows" "shrinks" "[J") ∈ lw_all := lw_g (lw_at lw_m4 110 rfl) rfl
theorem q1185 : (Jvm.Cond.soleField "ScholarsPress$Rows" "shrinks") ∈ lw_all := lw_g (lw_at lw_m4 111 rfl) rfl
theorem q1186 : (Jvm.Cond.lays "ScholarsPress$Rows" "ScholarsPress$Rows" "breaks" "I") ∈ lw_all := lw_g (lw_at lw_m4 112 rfl) rfl
theorem q1187 : (Jvm.Cond.soleField "ScholarsPress$Rows" "breaks") ∈ lw_all := lw_g (lw_at lw_m4 113 rfl) rfl
theorem q1188 : (Jvm.Cond.laysFinal "ScholarsPress$Rows" "ScholarsPress$Rows" "broken" "[I") ∈ lw_all := lw_g (lw_at lw_m4 114 rfl) rfl
theorem q1189 : (Jvm.Cond.soleField "ScholarsPress$Rows" "broken") ∈ lw_all := lw_g (lw_at lw_m4 115 rfl) rfl
theorem q1190 : (Jvm.Cond.laysFinal "ScholarsPress$Rows" "ScholarsPress$Rows" "ratios" "[I") ∈ lw_all := lw_g (lw_at lw_m4 116 rfl) rfl
theorem q1191 : (Jvm.Cond.soleField "ScholarsPress$Rows" "ratios") ∈ lw_all := lw_g (lw_at lw_m4 117 rfl) rfl
theorem q1192 : (Jvm.Cond.lays "ScholarsPress$Rows" "ScholarsPress$Rows" "lines" "I") ∈ lw_all := lw_g (lw_at lw_m4 118 rfl) rfl
theorem q1193 : (Jvm.Cond.soleField "ScholarsPress$Rows" "lines") ∈ lw_all := lw_g (lw_at lw_m4 119 rfl) rfl
theorem q1194 : (Jvm.Cond.superclass "ScholarsPress$Rows" "java/lang/Object") ∈ lw_all := lw_g (lw_at lw_m4 120 rfl) rfl
theorem q2363 : (Jvm.Cond.privateMethod ({ cls := "ScholarsPress$Rows", name := "clear", desc := "()V" } : Jvm.MethodName)) ∈ lw_tbl := lw_at lw_m9 89 rfl
theorem q2364 : (Jvm.Cond.instanceMethod ({ cls := "ScholarsPress$Rows", name := "clear", desc := "()V" } : Jvm.MethodName)) ∈ lw_all := lw_g (lw_at lw_m9 90 rfl) rfl
theorem q2365 : (Jvm.Cond.code ({ cls := "ScholarsPress$Rows", name := "clear", desc := "()V" } : Jvm.MethodName) prog_11_method_2_code (1 : Nat) (Option.none : Option Jvm.ClassFile.FieldType)) ∈ lw_all := lw_g (lw_at lw_m9 91 rfl) rfl
theorem in_X15 : ∀ w ∈ wsX150, w ∈ lw_all := lw_in wsX150 [1162, 1164, 1166, 1168, 1170, 1172, 1174, 1176, 1178, 1180, 1182, 1184, 1186, 1188, 1190, 1192] (by decide +kernel) (by decide +kernel)
/-! ScholarsPress$Entries -/
def RX16 : String := "ScholarsPress$Entries"
def TX16 : u_T := fun k => match k with
  | 0 => ("ScholarsPress$Entries", "tree", "LScholarsPress$Tree;", false)
  | 1 => ("ScholarsPress$Entries", "term", "[I", true)
  | 2 => ("ScholarsPress$Entries", "entryOf", "[I", true)
  | 3 => ("ScholarsPress$Entries", "terms", "I", false)
  | 4 => ("ScholarsPress$Entries", "text", "LScholarsPress$Bytes;", true)
  | 5 => ("ScholarsPress$Entries", "from", "[I", true)
  | 6 => ("ScholarsPress$Entries", "size", "[I", true)
  | 7 => ("ScholarsPress$Entries", "sorted", "[I", true)
  | 8 => ("ScholarsPress$Entries", "pages", "[I", true)
  | _ => ("ScholarsPress$Entries", "many", "I", false)
def tyX16 : Nat → FieldType := fun k => match k with
  | 0 => .object "ScholarsPress$Tree"
  | 1 => .array .int
  | 2 => .array .int
  | 3 => .int
  | 4 => .object "ScholarsPress$Bytes"
  | 5 => .array .int
  | 6 => .array .int
  | 7 => .array .int
  | 8 => .array .int
  | _ => .int
abbrev wsX160 : List Cond := u_ws RX16 TX16 10
theorem nmX16 : ∀ a, a < 10 → ∀ b, b < 10 → a ≠ b → (TX16 a).2.1 ≠ (TX16 b).2.1 := by decide +kernel
theorem tyX16_ok : ∀ k, k < 10 → parseFieldDescriptor (TX16 k).2.2.1 = some (tyX16 k) := by decide +kernel
abbrev cX16_init : ByteArray := prog_6_method_1_code
def yX16_init : MethodName := ⟨RX16, "<init>", "()V"⟩
abbrev cX16_find : ByteArray := prog_6_method_2_code
def yX16_find : MethodName := ⟨RX16, "find", "(LScholarsPress$Tree;)V"⟩
abbrev cX16_add : ByteArray := prog_6_method_3_code
def yX16_add : MethodName := ⟨RX16, "add", "(II)V"⟩
abbrev cX16_compare : ByteArray := prog_6_method_4_code
def yX16_compare : MethodName := ⟨RX16, "compare", "(II)I"⟩
abbrev cX16_sort : ByteArray := prog_6_method_5_code
def yX16_sort : MethodName := ⟨RX16, "sort", "()V"⟩
abbrev cX16_write : ByteArray := prog_6_method_6_code
def yX16_write : MethodName := ⟨RX16, "write", "(I[ILScholarsPress$Bytes;)V"⟩
theorem q370 : (Jvm.Cond.initialized "ScholarsPress$Entries") ∈ lw_all := lw_g (lw_at lw_m1 16 rfl) rfl
theorem q500 : (Jvm.Cond.fieldLinkNest "ScholarsPress$Entries" (106 : Nat) "ScholarsPress$Bytes" "row" "[B" "ScholarsPress") ∈ lw_tbl := lw_at lw_m1 146 rfl
theorem q506 : (Jvm.Cond.fieldLinkNest "ScholarsPress$Entries" (51 : Nat) "ScholarsPress$Bytes" "many" "I" "ScholarsPress") ∈ lw_tbl := lw_at lw_m1 152 rfl
theorem q646 : (Jvm.Cond.fieldLinkNest "ScholarsPress$Entries" (74 : Nat) "ScholarsPress$Source" "text" "[B" "ScholarsPress") ∈ lw_tbl := lw_at lw_m2 52 rfl
theorem q680 : (Jvm.Cond.fieldLinkNest "ScholarsPress$Entries" (77 : Nat) "ScholarsPress$Source" "fieldFrom" "[I" "ScholarsPress") ∈ lw_tbl := lw_at lw_m2 86 rfl
theorem q683 : (Jvm.Cond.fieldLinkNest "ScholarsPress$Entries" (80 : Nat) "ScholarsPress$Source" "fieldSize" "[I" "ScholarsPress") ∈ lw_tbl := lw_at lw_m2 89 rfl
theorem q780 : (Jvm.Cond.fieldLinkNest "ScholarsPress$Entries" (52 : Nat) "ScholarsPress$Tree" "source" "LScholarsPress$Source;" "ScholarsPress") ∈ lw_tbl := lw_at lw_m2 186 rfl
theorem q784 : (Jvm.Cond.fieldLinkNest "ScholarsPress$Entries" (58 : Nat) "ScholarsPress$Tree" "many" "I" "ScholarsPress") ∈ lw_tbl := lw_at lw_m2 190 rfl
theorem q793 : (Jvm.Cond.fieldLinkNest "ScholarsPress$Entries" (59 : Nat) "ScholarsPress$Tree" "inFlow" "[Z" "ScholarsPress") ∈ lw_tbl := lw_at lw_m2 199 rfl
theorem q797 : (Jvm.Cond.fieldLinkNest "ScholarsPress$Entries" (63 : Nat) "ScholarsPress$Tree" "role" "[I" "ScholarsPress") ∈ lw_tbl := lw_at lw_m2 203 rfl
theorem q1198 : (Jvm.Cond.instantiable "ScholarsPress$Entries" (10 : Nat)) ∈ lw_all := lw_g (lw_at lw_m4 124 rfl) rfl
theorem q1200 : (Jvm.Cond.instanceMethod ({ cls := "ScholarsPress$Entries", name := "<init>", desc := "()V" } : Jvm.MethodName)) ∈ lw_all := lw_g (lw_at lw_m4 126 rfl) rfl
theorem q1201 : (Jvm.Cond.code ({ cls := "ScholarsPress$Entries", name := "<init>", desc := "()V" } : Jvm.MethodName) prog_6_method_1_code (1 : Nat) (Option.none : Option Jvm.ClassFile.FieldType)) ∈ lw_all := lw_g (lw_at lw_m4 127 rfl) rfl
theorem q1202 : (Jvm.Cond.methodLink "ScholarsPress$Entries" (3 : Nat) ({ cls := "java/lang/Object", name := "<init>", desc := "()V" } : Jvm.MethodName)) ∈ lw_all := lw_g (lw_at lw_m4 128 rfl) rfl
theorem q1203 : (Jvm.Cond.classLink "ScholarsPress$Entries" (18 : Nat) "ScholarsPress$Bytes") ∈ lw_all := lw_g (lw_at lw_m4 129 rfl) rfl
theorem q1204 : (Jvm.Cond.constant "ScholarsPress$Entries" (20 : Nat) (36384 : Int32)) ∈ lw_all := lw_g (lw_at lw_m4 130 rfl) rfl
theorem q1205 : (Jvm.Cond.methodLinkNest "ScholarsPress$Entries" (21 : Nat) ({ cls := "ScholarsPress$Bytes", name := "<init>", desc := "(I)V" } : Jvm.MethodName) "ScholarsPress") ∈ lw_tbl := lw_at lw_m4 131 rfl
theorem q1206 : (Jvm.Cond.fieldLink "ScholarsPress$Entries" (40 : Nat) "ScholarsPress$Entries" "tree" "LScholarsPress$Tree;") ∈ lw_all := lw_g (lw_at lw_m4 132 rfl) rfl
theorem q1207 : (Jvm.Cond.fieldLink "ScholarsPress$Entries" (9 : Nat) "ScholarsPress$Entries" "term" "[I") ∈ lw_all := lw_g (lw_at lw_m4 133 rfl) rfl
theorem q1209 : (Jvm.Cond.fieldLink "ScholarsPress$Entries" (15 : Nat) "ScholarsPress$Entries" "entryOf" "[I") ∈ lw_all := lw_g (lw_at lw_m4 135 rfl) rfl
theorem q1210 : (Jvm.Cond.fieldLink "ScholarsPress$Entries" (44 : Nat) "ScholarsPress$Entries" "terms" "I") ∈ lw_all := lw_g (lw_at lw_m4 136 rfl) rfl
theorem q1212 : (Jvm.Cond.fieldLink "ScholarsPress$Entries" (24 : Nat) "ScholarsPress$Entries" "text" "LScholarsPress$Bytes;") ∈ lw_all := lw_g (lw_at lw_m4 138 rfl) rfl
theorem q1213 : (Jvm.Cond.fieldLink "ScholarsPress$Entries" (28 : Nat) "ScholarsPress$Entries" "from" "[I") ∈ lw_all := lw_g (lw_at lw_m4 139 rfl) rfl
theorem q1214 : (Jvm.Cond.fieldLink "ScholarsPress$Entries" (31 : Nat) "ScholarsPress$Entries" "size" "[I") ∈ lw_all := lw_g (lw_at lw_m4 140 rfl) rfl
theorem q1215 : (Jvm.Cond.fieldLink "ScholarsPress$Entries" (34 : Nat) "ScholarsPress$Entries" "sorted" "[I") ∈ lw_all := lw_g (lw_at lw_m4 141 rfl) rfl
theorem q1216 : (Jvm.Cond.fieldLink "ScholarsPress$Entries" (37 : Nat) "ScholarsPress$Entries" "pages" "[I") ∈ lw_all := lw_g (lw_at lw_m4 142 rfl) rfl
theorem q1217 : (Jvm.Cond.fieldLink "ScholarsPress$Entries" (48 : Nat) "ScholarsPress$Entries" "many" "I") ∈ lw_all := lw_g (lw_at lw_m4 143 rfl) rfl
theorem q1220 : (Jvm.Cond.lays "ScholarsPress$Entries" "ScholarsPress$Entries" "tree" "LScholarsPress$Tree;") ∈ lw_all := lw_g (lw_at lw_m4 146 rfl) rfl
theorem q1221 : (Jvm.Cond.soleField "ScholarsPress$Entries" "tree") ∈ lw_all := lw_g (lw_at lw_m4 147 rfl) rfl
theorem q1222 : (Jvm.Cond.laysFinal "ScholarsPress$Entries" "ScholarsPress$Entries" "term" "[I") ∈ lw_all := lw_g (lw_at lw_m4 148 rfl) rfl
theorem q1223 : (Jvm.Cond.soleField "ScholarsPress$Entries" "term") ∈ lw_all := lw_g (lw_at lw_m4 149 rfl) rfl
theorem q1224 : (Jvm.Cond.laysFinal "ScholarsPress$Entries" "ScholarsPress$Entries" "entryOf" "[I") ∈ lw_all := lw_g (lw_at lw_m4 150 rfl) rfl
theorem q1225 : (Jvm.Cond.soleField "ScholarsPress$Entries" "entryOf") ∈ lw_all := lw_g (lw_at lw_m4 151 rfl) rfl
theorem q1226 : (Jvm.Cond.lays "ScholarsPress$Entries" "ScholarsPress$Entries" "terms" "I") ∈ lw_all := lw_g (lw_at lw_m4 152 rfl) rfl
theorem q1227 : (Jvm.Cond.soleField "ScholarsPress$Entries" "terms") ∈ lw_all := lw_g (lw_at lw_m4 153 rfl) rfl
theorem q1228 : (Jvm.Cond.laysFinal "ScholarsPress$Entries" "ScholarsPress$Entries" "text" "LScholarsPress$Bytes;") ∈ lw_all := lw_g (lw_at lw_m4 154 rfl) rfl
theorem q1229 : (Jvm.Cond.soleField "ScholarsPress$Entries" "text") ∈ lw_all := lw_g (lw_at lw_m4 155 rfl) rfl
theorem q1230 : (Jvm.Cond.laysFinal "ScholarsPress$Entries" "ScholarsPress$Entries" "from" "[I") ∈ lw_all := lw_g (lw_at lw_m4 156 rfl) rfl
theorem q1231 : (Jvm.Cond.soleField "ScholarsPress$Entries" "from") ∈ lw_all := lw_g (lw_at lw_m4 157 rfl) rfl
theorem q1232 : (Jvm.Cond.laysFinal "ScholarsPress$Entries" "ScholarsPress$Entries" "size" "[I") ∈ lw_all := lw_g (lw_at lw_m4 158 rfl) rfl
theorem q1233 : (Jvm.Cond.soleField "ScholarsPress$Entries" "size") ∈ lw_all := lw_g (lw_at lw_m4 159 rfl) rfl
theorem q1234 : (Jvm.Cond.laysFinal "ScholarsPress$Entries" "ScholarsPress$Entries" "sorted" "[I") ∈ lw_all := lw_g (lw_at lw_m4 160 rfl) rfl
theorem q1235 : (Jvm.Cond.soleField "ScholarsPress$Entries" "sorted") ∈ lw_all := lw_g (lw_at lw_m4 161 rfl) rfl
theorem q1236 : (Jvm.Cond.laysFinal "ScholarsPress$Entries" "ScholarsPress$Entries" "pages" "[I") ∈ lw_all := lw_g (lw_at lw_m4 162 rfl) rfl
theorem q1237 : (Jvm.Cond.soleField "ScholarsPress$Entries" "pages") ∈ lw_all := lw_g (lw_at lw_m4 163 rfl) rfl
theorem q1238 : (Jvm.Cond.lays "ScholarsPress$Entries" "ScholarsPress$Entries" "many" "I") ∈ lw_all := lw_g (lw_at lw_m4 164 rfl) rfl
theorem q1239 : (Jvm.Cond.soleField "ScholarsPress$Entries" "many") ∈ lw_all := lw_g (lw_at lw_m4 165 rfl) rfl
theorem q1240 : (Jvm.Cond.superclass "ScholarsPress$Entries" "java/lang/Object") ∈ lw_all := lw_g (lw_at lw_m4 166 rfl) rfl
theorem q2387 : (Jvm.Cond.privateMethod ({ cls := "ScholarsPress$Entries", name := "find", desc := "(LScholarsPress$Tree;)V" } : Jvm.MethodName)) ∈ lw_tbl := lw_at lw_m9 113 rfl
theorem q2388 : (Jvm.Cond.instanceMethod ({ cls := "ScholarsPress$Entries", name := "find", desc := "(LScholarsPress$Tree;)V" } : Jvm.MethodName)) ∈ lw_all := lw_g (lw_at lw_m9 114 rfl) rfl
theorem q2389 : (Jvm.Cond.code ({ cls := "ScholarsPress$Entries", name := "find", desc := "(LScholarsPress$Tree;)V" } : Jvm.MethodName) prog_6_method_2_code (6 : Nat) (Option.none : Option Jvm.ClassFile.FieldType)) ∈ lw_all := lw_g (lw_at lw_m9 115 rfl) rfl
theorem q2390 : (Jvm.Cond.stringRef "ScholarsPress$Entries" (66 : Nat) "at") ∈ lw_tbl := lw_at lw_m9 116 rfl
theorem q2391 : (Jvm.Cond.methodLinkNest "ScholarsPress$Entries" (68 : Nat) ({ cls := "ScholarsPress$Source", name := "fieldOf", desc := "(ILjava/lang/String;)I" } : Jvm.MethodName) "ScholarsPress") ∈ lw_tbl := lw_at lw_m9 117 rfl
theorem q2400 : (Jvm.Cond.methodLinkNest "ScholarsPress$Entries" (83 : Nat) ({ cls := "ScholarsPress$Bytes", name := "addAll", desc := "([BII)V" } : Jvm.MethodName) "ScholarsPress") ∈ lw_tbl := lw_at lw_m9 126 rfl
theorem q2401 : (Jvm.Cond.methodLinkNest "ScholarsPress$Entries" (87 : Nat) ({ cls := "ScholarsPress$Tree", name := "title", desc := "(ILScholarsPress$Bytes;)V" } : Jvm.MethodName) "ScholarsPress") ∈ lw_tbl := lw_at lw_m9 127 rfl
theorem q2463 : (Jvm.Cond.methodLink "ScholarsPress$Entries" (91 : Nat) ({ cls := "ScholarsPress$Entries", name := "add", desc := "(II)V" } : Jvm.MethodName)) ∈ lw_all := lw_g (lw_at lw_m9 189 rfl) rfl
theorem q2464 : (Jvm.Cond.privateMethod ({ cls := "ScholarsPress$Entries", name := "add", desc := "(II)V" } : Jvm.MethodName)) ∈ lw_tbl := lw_at lw_m9 190 rfl
theorem q2465 : (Jvm.Cond.instanceMethod ({ cls := "ScholarsPress$Entries", name := "add", desc := "(II)V" } : Jvm.MethodName)) ∈ lw_all := lw_g (lw_at lw_m9 191 rfl) rfl
theorem q2466 : (Jvm.Cond.code ({ cls := "ScholarsPress$Entries", name := "add", desc := "(II)V" } : Jvm.MethodName) prog_6_method_3_code (4 : Nat) (Option.none : Option Jvm.ClassFile.FieldType)) ∈ lw_all := lw_g (lw_at lw_m9 192 rfl) rfl
theorem q2467 : (Jvm.Cond.methodLink "ScholarsPress$Entries" (98 : Nat) ({ cls := "ScholarsPress$Entries", name := "compare", desc := "(II)I" } : Jvm.MethodName)) ∈ lw_all := lw_g (lw_at lw_m9 193 rfl) rfl
theorem q2468 : (Jvm.Cond.privateMethod ({ cls := "ScholarsPress$Entries", name := "compare", desc := "(II)I" } : Jvm.MethodName)) ∈ lw_tbl := lw_at lw_m9 194 rfl
theorem q2469 : (Jvm.Cond.instanceMethod ({ cls := "ScholarsPress$Entries", name := "compare", desc := "(II)I" } : Jvm.MethodName)) ∈ lw_all := lw_g (lw_at lw_m9 195 rfl) rfl
theorem q2470 : (Jvm.Cond.code ({ cls := "ScholarsPress$Entries", name := "compare", desc := "(II)I" } : Jvm.MethodName) prog_6_method_4_code (8 : Nat) (Option.some Jvm.ClassFile.FieldType.int)) ∈ lw_all := lw_g (lw_at lw_m9 196 rfl) rfl
theorem q2471 : (Jvm.Cond.methodLinkNest "ScholarsPress$Entries" (109 : Nat) ({ cls := "ScholarsPress", name := "small", desc := "(I)I" } : Jvm.MethodName) "ScholarsPress") ∈ lw_tbl := lw_at lw_m9 197 rfl
theorem q2472 : (Jvm.Cond.methodLinkNest "ScholarsPress$Entries" (102 : Nat) ({ cls := "ScholarsPress", name := "room", desc := "(Z)V" } : Jvm.MethodName) "ScholarsPress") ∈ lw_tbl := lw_at lw_m9 198 rfl
theorem q2473 : (Jvm.Cond.methodLink "ScholarsPress$Entries" (95 : Nat) ({ cls := "ScholarsPress$Entries", name := "sort", desc := "()V" } : Jvm.MethodName)) ∈ lw_all := lw_g (lw_at lw_m9 199 rfl) rfl
theorem q2474 : (Jvm.Cond.privateMethod ({ cls := "ScholarsPress$Entries", name := "sort", desc := "()V" } : Jvm.MethodName)) ∈ lw_tbl := lw_at lw_m9 200 rfl
theorem q2475 : (Jvm.Cond.instanceMethod ({ cls := "ScholarsPress$Entries", name := "sort", desc := "()V" } : Jvm.MethodName)) ∈ lw_all := lw_g (lw_at lw_m9 201 rfl) rfl
theorem q2476 : (Jvm.Cond.code ({ cls := "ScholarsPress$Entries", name := "sort", desc := "()V" } : Jvm.MethodName) prog_6_method_5_code (3 : Nat) (Option.none : Option Jvm.ClassFile.FieldType)) ∈ lw_all := lw_g (lw_at lw_m9 202 rfl) rfl
theorem q2753 : (Jvm.Cond.privateMethod ({ cls := "ScholarsPress$Entries", name := "write", desc := "(I[ILScholarsPress$Bytes;)V" } : Jvm.MethodName)) ∈ lw_tbl := lw_at lw_m10 239 rfl
theorem q2754 : (Jvm.Cond.instanceMethod ({ cls := "ScholarsPress$Entries", name := "write", desc := "(I[ILScholarsPress$Bytes;)V" } : Jvm.MethodName)) ∈ lw_all := lw_g (lw_at lw_m11 0 rfl) rfl
theorem q2755 : (Jvm.Cond.code ({ cls := "ScholarsPress$Entries", name := "write", desc := "(I[ILScholarsPress$Bytes;)V" } : Jvm.MethodName) prog_6_method_6_code (8 : Nat) (Option.none : Option Jvm.ClassFile.FieldType)) ∈ lw_all := lw_g (lw_at lw_m11 1 rfl) rfl
theorem q2756 : (Jvm.Cond.methodLinkNest "ScholarsPress$Entries" (113 : Nat) ({ cls := "ScholarsPress$Bytes", name := "add", desc := "(I)V" } : Jvm.MethodName) "ScholarsPress") ∈ lw_tbl := lw_at lw_m11 2 rfl
theorem q2757 : (Jvm.Cond.methodLinkNest "ScholarsPress$Entries" (115 : Nat) ({ cls := "ScholarsPress$Bytes", name := "number", desc := "(J)V" } : Jvm.MethodName) "ScholarsPress") ∈ lw_tbl := lw_at lw_m11 3 rfl
theorem in_X16 : ∀ w ∈ wsX160, w ∈ lw_all := lw_in wsX160 [1220, 1222, 1224, 1226, 1228, 1230, 1232, 1234, 1236, 1238] (by decide +kernel) (by decide +kernel)
/-! ScholarsPress$Shapes -/
def RX17 : String := "ScholarsPress$Shapes"
def TX17 : u_T := fun k => match k with
  | 0 => ("ScholarsPress$Shapes", "book", "LScholarsPress$Book;", false)
  | 1 => ("ScholarsPress$Shapes", "chain", "[I", true)
  | _ => ("ScholarsPress$Shapes", "heads", "[I", true)
def tyX17 : Nat → FieldType := fun k => match k with
  | 0 => .object "ScholarsPress$Book"
  | 1 => .array .int
  | _ => .array .int
abbrev wsX170 : List Cond := u_ws RX17 TX17 3
theorem nmX17 : ∀ a, a < 3 → ∀ b, b < 3 → a ≠ b → (TX17 a).2.1 ≠ (TX17 b).2.1 := by decide +kernel
theorem tyX17_ok : ∀ k, k < 3 → parseFieldDescriptor (TX17 k).2.2.1 = some (tyX17 k) := by decide +kernel
abbrev cX17_init : ByteArray := prog_12_method_1_code
def yX17_init : MethodName := ⟨RX17, "<init>", "()V"⟩
abbrev cX17_begin : ByteArray := prog_12_method_2_code
def yX17_begin : MethodName := ⟨RX17, "begin", "(LScholarsPress$Book;)V"⟩
abbrev cX17_slot : ByteArray := prog_12_method_3_code
def yX17_slot : MethodName := ⟨RX17, "slot", "(LScholarsPress$Paragraph;)I"⟩
abbrev cX17_set : ByteArray := prog_12_method_5_code
def yX17_set : MethodName := ⟨RX17, "set", "(LScholarsPress$Paragraph;LScholarsPress$Work;)V"⟩
abbrev cX17_find : ByteArray := prog_12_method_4_code
def yX17_find : MethodName := ⟨RX17, "find", "(LScholarsPress$Paragraph;)LScholarsPress$Paragraph;"⟩
abbrev cX17_fresh : ByteArray := prog_12_method_6_code
def yX17_fresh : MethodName := ⟨RX17, "fresh", "(LScholarsPress$Book;)I"⟩
theorem q371 : (Jvm.Cond.initialized "ScholarsPress$Shapes") ∈ lw_all := lw_g (lw_at lw_m1 17 rfl) rfl
theorem q1253 : (Jvm.Cond.fieldLinkNest "ScholarsPress$Shapes" (28 : Nat) "ScholarsPress$Book" "pool" "[LScholarsPress$Paragraph;" "ScholarsPress") ∈ lw_tbl := lw_at lw_m4 179 rfl
theorem q1254 : (Jvm.Cond.fieldLinkNest "ScholarsPress$Shapes" (22 : Nat) "ScholarsPress$Book" "used" "I" "ScholarsPress") ∈ lw_tbl := lw_at lw_m4 180 rfl
theorem q1470 : (Jvm.Cond.instantiable "ScholarsPress$Shapes" (3 : Nat)) ∈ lw_all := lw_g (lw_at lw_m5 156 rfl) rfl
theorem q1472 : (Jvm.Cond.instanceMethod ({ cls := "ScholarsPress$Shapes", name := "<init>", desc := "()V" } : Jvm.MethodName)) ∈ lw_all := lw_g (lw_at lw_m5 158 rfl) rfl
theorem q1473 : (Jvm.Cond.code ({ cls := "ScholarsPress$Shapes", name := "<init>", desc := "()V" } : Jvm.MethodName) prog_12_method_1_code (1 : Nat) (Option.none : Option Jvm.ClassFile.FieldType)) ∈ lw_all := lw_g (lw_at lw_m5 159 rfl) rfl
theorem q1474 : (Jvm.Cond.methodLink "ScholarsPress$Shapes" (3 : Nat) ({ cls := "java/lang/Object", name := "<init>", desc := "()V" } : Jvm.MethodName)) ∈ lw_all := lw_g (lw_at lw_m5 160 rfl) rfl
theorem q1475 : (Jvm.Cond.fieldLink "ScholarsPress$Shapes" (18 : Nat) "ScholarsPress$Shapes" "book" "LScholarsPress$Book;") ∈ lw_all := lw_g (lw_at lw_m5 161 rfl) rfl
theorem q1476 : (Jvm.Cond.fieldLink "ScholarsPress$Shapes" (9 : Nat) "ScholarsPress$Shapes" "chain" "[I") ∈ lw_all := lw_g (lw_at lw_m5 162 rfl) rfl
theorem q1477 : (Jvm.Cond.fieldLink "ScholarsPress$Shapes" (15 : Nat) "ScholarsPress$Shapes" "heads" "[I") ∈ lw_all := lw_g (lw_at lw_m5 163 rfl) rfl
theorem q1478 : (Jvm.Cond.lays "ScholarsPress$Shapes" "ScholarsPress$Shapes" "book" "LScholarsPress$Book;") ∈ lw_all := lw_g (lw_at lw_m5 164 rfl) rfl
theorem q1479 : (Jvm.Cond.soleField "ScholarsPress$Shapes" "book") ∈ lw_all := lw_g (lw_at lw_m5 165 rfl) rfl
theorem q1480 : (Jvm.Cond.laysFinal "ScholarsPress$Shapes" "ScholarsPress$Shapes" "chain" "[I") ∈ lw_all := lw_g (lw_at lw_m5 166 rfl) rfl
theorem q1481 : (Jvm.Cond.soleField "ScholarsPress$Shapes" "chain") ∈ lw_all := lw_g (lw_at lw_m5 167 rfl) rfl
theorem q1482 : (Jvm.Cond.laysFinal "ScholarsPress$Shapes" "ScholarsPress$Shapes" "heads" "[I") ∈ lw_all := lw_g (lw_at lw_m5 168 rfl) rfl
theorem q1483 : (Jvm.Cond.soleField "ScholarsPress$Shapes" "heads") ∈ lw_all := lw_g (lw_at lw_m5 169 rfl) rfl
theorem q1484 : (Jvm.Cond.superclass "ScholarsPress$Shapes" "java/lang/Object") ∈ lw_all := lw_g (lw_at lw_m5 170 rfl) rfl
theorem q2531 : (Jvm.Cond.fieldLinkNest "ScholarsPress$Shapes" (41 : Nat) "ScholarsPress$Paragraph" "length" "I" "ScholarsPress") ∈ lw_tbl := lw_at lw_m10 17 rfl
theorem q2537 : (Jvm.Cond.fieldLinkNest "ScholarsPress$Shapes" (36 : Nat) "ScholarsPress$Paragraph" "width" "I" "ScholarsPress") ∈ lw_tbl := lw_at lw_m10 23 rfl
theorem q2840 : (Jvm.Cond.privateMethod ({ cls := "ScholarsPress$Shapes", name := "begin", desc := "(LScholarsPress$Book;)V" } : Jvm.MethodName)) ∈ lw_tbl := lw_at lw_m11 86 rfl
theorem q2841 : (Jvm.Cond.instanceMethod ({ cls := "ScholarsPress$Shapes", name := "begin", desc := "(LScholarsPress$Book;)V" } : Jvm.MethodName)) ∈ lw_all := lw_g (lw_at lw_m11 87 rfl) rfl
theorem q2842 : (Jvm.Cond.code ({ cls := "ScholarsPress$Shapes", name := "begin", desc := "(LScholarsPress$Book;)V" } : Jvm.MethodName) prog_12_method_2_code (4 : Nat) (Option.none : Option Jvm.ClassFile.FieldType)) ∈ lw_all := lw_g (lw_at lw_m11 88 rfl) rfl
theorem q2843 : (Jvm.Cond.methodLink "ScholarsPress$Shapes" (32 : Nat) ({ cls := "ScholarsPress$Shapes", name := "slot", desc := "(LScholarsPress$Paragraph;)I" } : Jvm.MethodName)) ∈ lw_all := lw_g (lw_at lw_m11 89 rfl) rfl
theorem q2844 : (Jvm.Cond.static ({ cls := "ScholarsPress$Shapes", name := "slot", desc := "(LScholarsPress$Paragraph;)I" } : Jvm.MethodName)) ∈ lw_all := lw_g (lw_at lw_m11 90 rfl) rfl
theorem q2845 : (Jvm.Cond.code ({ cls := "ScholarsPress$Shapes", name := "slot", desc := "(LScholarsPress$Paragraph;)I" } : Jvm.MethodName) prog_12_method_3_code (3 : Nat) (Option.some Jvm.ClassFile.FieldType.int)) ∈ lw_all := lw_g (lw_at lw_m11 91 rfl) rfl
theorem q2846 : (Jvm.Cond.methodLinkNest "ScholarsPress$Shapes" (44 : Nat) ({ cls := "ScholarsPress$Paragraph", name := "byteOf", desc := "(I)I" } : Jvm.MethodName) "ScholarsPress") ∈ lw_tbl := lw_at lw_m11 92 rfl
theorem q2848 : (Jvm.Cond.privateMethod ({ cls := "ScholarsPress$Shapes", name := "set", desc := "(LScholarsPress$Paragraph;LScholarsPress$Work;)V" } : Jvm.MethodName)) ∈ lw_tbl := lw_at lw_m11 94 rfl
theorem q2849 : (Jvm.Cond.instanceMethod ({ cls := "ScholarsPress$Shapes", name := "set", desc := "(LScholarsPress$Paragraph;LScholarsPress$Work;)V" } : Jvm.MethodName)) ∈ lw_all := lw_g (lw_at lw_m11 95 rfl) rfl
theorem q2850 : (Jvm.Cond.code ({ cls := "ScholarsPress$Shapes", name := "set", desc := "(LScholarsPress$Paragraph;LScholarsPress$Work;)V" } : Jvm.MethodName) prog_12_method_5_code (4 : Nat) (Option.none : Option Jvm.ClassFile.FieldType)) ∈ lw_all := lw_g (lw_at lw_m11 96 rfl) rfl
theorem q2851 : (Jvm.Cond.methodLink "ScholarsPress$Shapes" (52 : Nat) ({ cls := "ScholarsPress$Shapes", name := "find", desc := "(LScholarsPress$Paragraph;)LScholarsPress$Paragraph;" } : Jvm.MethodName)) ∈ lw_all := lw_g (lw_at lw_m11 97 rfl) rfl
theorem q2852 : (Jvm.Cond.privateMethod ({ cls := "ScholarsPress$Shapes", name := "find", desc := "(LScholarsPress$Paragraph;)LScholarsPress$Paragraph;" } : Jvm.MethodName)) ∈ lw_tbl := lw_at lw_m11 98 rfl
theorem q2853 : (Jvm.Cond.instanceMethod ({ cls := "ScholarsPress$Shapes", name := "find", desc := "(LScholarsPress$Paragraph;)LScholarsPress$Paragraph;" } : Jvm.MethodName)) ∈ lw_all := lw_g (lw_at lw_m11 99 rfl) rfl
theorem q2854 : (Jvm.Cond.code ({ cls := "ScholarsPress$Shapes", name := "find", desc := "(LScholarsPress$Paragraph;)LScholarsPress$Paragraph;" } : Jvm.MethodName) prog_12_method_4_code (3 : Nat) (Option.some (Jvm.ClassFile.FieldType.object "ScholarsPress$Paragraph"))) ∈ lw_all := lw_g (lw_at lw_m11 100 rfl) rfl
theorem q2855 : (Jvm.Cond.methodLinkNest "ScholarsPress$Shapes" (48 : Nat) ({ cls := "ScholarsPress$Paragraph", name := "isSame", desc := "(LScholarsPress$Paragraph;)Z" } : Jvm.MethodName) "ScholarsPress") ∈ lw_tbl := lw_at lw_m11 101 rfl
theorem q2867 : (Jvm.Cond.methodLinkNest "ScholarsPress$Shapes" (56 : Nat) ({ cls := "ScholarsPress$Paragraph", name := "set", desc := "(LScholarsPress$Work;)V" } : Jvm.MethodName) "ScholarsPress") ∈ lw_tbl := lw_at lw_m11 113 rfl
theorem q2940 : (Jvm.Cond.methodLinkNest "ScholarsPress$Shapes" (60 : Nat) ({ cls := "ScholarsPress$Paragraph", name := "copy", desc := "(LScholarsPress$Paragraph;)V" } : Jvm.MethodName) "ScholarsPress") ∈ lw_tbl := lw_at lw_m11 186 rfl
theorem q3050 : (Jvm.Cond.privateMethod ({ cls := "ScholarsPress$Shapes", name := "fresh", desc := "(LScholarsPress$Book;)I" } : Jvm.MethodName)) ∈ lw_tbl := lw_at lw_m12 56 rfl
theorem q3051 : (Jvm.Cond.instanceMethod ({ cls := "ScholarsPress$Shapes", name := "fresh", desc := "(LScholarsPress$Book;)I" } : Jvm.MethodName)) ∈ lw_all := lw_g (lw_at lw_m12 57 rfl) rfl
theorem q3052 : (Jvm.Cond.code ({ cls := "ScholarsPress$Shapes", name := "fresh", desc := "(LScholarsPress$Book;)I" } : Jvm.MethodName) prog_12_method_6_code (4 : Nat) (Option.some Jvm.ClassFile.FieldType.int)) ∈ lw_all := lw_g (lw_at lw_m12 58 rfl) rfl
theorem in_X17 : ∀ w ∈ wsX170, w ∈ lw_all := lw_in wsX170 [1478, 1480, 1482] (by decide +kernel) (by decide +kernel)
/-! ScholarsPressModel -/
def RX18 : String := "ScholarsPressModel"
def TX18 : u_T := fun k => match k with
  | 0 => ("ScholarsPressModel", "thrown", "I", false)
  | 1 => ("ScholarsPressModel", "place", "I", false)
  | 2 => ("ScholarsPressModel", "tape", "[B", true)
  | 3 => ("ScholarsPressModel", "taped", "I", false)
  | 4 => ("ScholarsPressModel", "letters", "LScholarsPressModel$Letters;", false)
  | 5 => ("ScholarsPressModel", "letters2", "LScholarsPressModel$Letters;", false)
  | 6 => ("ScholarsPressModel", "parting", "LScholarsPressModel$Parting;", false)
  | 7 => ("ScholarsPressModel", "parting2", "LScholarsPressModel$Parting;", false)
  | 8 => ("ScholarsPressModel", "style", "LScholarsPressModel$Style;", false)
  | 9 => ("ScholarsPressModel", "style2", "LScholarsPressModel$Style;", false)
  | 10 => ("ScholarsPressModel", "source", "LScholarsPressModel$Source;", false)
  | 11 => ("ScholarsPressModel", "source2", "LScholarsPressModel$Source;", false)
  | 12 => ("ScholarsPressModel", "joined", "[B", true)
  | 13 => ("ScholarsPressModel", "tree", "LScholarsPressModel$Tree;", true)
  | 14 => ("ScholarsPressModel", "treeIs", "Z", false)
  | 15 => ("ScholarsPressModel", "setting", "LScholarsPressModel$Setting;", false)
  | 16 => ("ScholarsPressModel", "other", "LScholarsPressModel$Setting;", false)
  | 17 => ("ScholarsPressModel", "isSet", "Z", false)
  | 18 => ("ScholarsPressModel", "out", "[B", false)
  | 19 => ("ScholarsPressModel", "outLong", "I", false)
  | 20 => ("ScholarsPressModel", "made", "[B", false)
  | 21 => ("ScholarsPressModel", "madeLong", "I", false)
  | _ => ("ScholarsPressModel", "chosen", "[I", true)
def tyX18 : Nat → FieldType := fun k => match k with
  | 0 => .int
  | 1 => .int
  | 2 => .array .byte
  | 3 => .int
  | 4 => .object "ScholarsPressModel$Letters"
  | 5 => .object "ScholarsPressModel$Letters"
  | 6 => .object "ScholarsPressModel$Parting"
  | 7 => .object "ScholarsPressModel$Parting"
  | 8 => .object "ScholarsPressModel$Style"
  | 9 => .object "ScholarsPressModel$Style"
  | 10 => .object "ScholarsPressModel$Source"
  | 11 => .object "ScholarsPressModel$Source"
  | 12 => .array .byte
  | 13 => .object "ScholarsPressModel$Tree"
  | 14 => .boolean
  | 15 => .object "ScholarsPressModel$Setting"
  | 16 => .object "ScholarsPressModel$Setting"
  | 17 => .boolean
  | 18 => .array .byte
  | 19 => .int
  | 20 => .array .byte
  | 21 => .int
  | _ => .array .int
abbrev wsX180 : List Cond := u_ws RX18 TX18 23
theorem nmX18 : ∀ a, a < 23 → ∀ b, b < 23 → a ≠ b → (TX18 a).2.1 ≠ (TX18 b).2.1 := by decide +kernel
theorem tyX18_ok : ∀ k, k < 23 → parseFieldDescriptor (TX18 k).2.2.1 = some (tyX18 k) := by decide +kernel
abbrev cX18_init : ByteArray := prog_21_method_1_code
def yX18_init : MethodName := ⟨RX18, "<init>", "()V"⟩
abbrev cX18_thrown : ByteArray := prog_21_method_2_code
def yX18_thrown : MethodName := ⟨RX18, "thrown", "()I"⟩
abbrev cX18_feed : ByteArray := prog_21_method_12_code
def yX18_feed : MethodName := ⟨RX18, "feed", "(IIIII)I"⟩
abbrev cX18_refuse : ByteArray := prog_21_method_3_code
def yX18_refuse : MethodName := ⟨RX18, "refuse", "(I)I"⟩
abbrev cX18_four : ByteArray := prog_21_method_13_code
def yX18_four : MethodName := ⟨RX18, "four", "(I)V"⟩
abbrev cX18_end : ByteArray := prog_21_method_14_code
def yX18_end : MethodName := ⟨RX18, "end", "(I)I"⟩
abbrev cX18_font : ByteArray := prog_21_method_17_code
def yX18_font : MethodName := ⟨RX18, "font", "()I"⟩
abbrev cX18_isBlank : ByteArray := prog_21_method_9_code
def yX18_isBlank : MethodName := ⟨RX18, "isBlank", "(I)Z"⟩
abbrev cX18_isSmall : ByteArray := prog_21_method_5_code
def yX18_isSmall : MethodName := ⟨RX18, "isSmall", "(I)Z"⟩
abbrev cX18_isDigit : ByteArray := prog_21_method_6_code
def yX18_isDigit : MethodName := ⟨RX18, "isDigit", "(I)Z"⟩
abbrev cX18_is : ByteArray := prog_21_method_11_code
def yX18_is : MethodName := ⟨RX18, "is", "([BIILjava/lang/String;)Z"⟩
abbrev cX18_broken : ByteArray := prog_21_method_16_code
def yX18_broken : MethodName := ⟨RX18, "broken", "(II)I"⟩
abbrev cX18_wasRead : ByteArray := prog_21_method_15_code
def yX18_wasRead : MethodName := ⟨RX18, "wasRead", "(I)V"⟩
abbrev cX18_hyphens : ByteArray := prog_21_method_18_code
def yX18_hyphens : MethodName := ⟨RX18, "hyphens", "()I"⟩
abbrev cX18_same : ByteArray := prog_21_method_10_code
def yX18_same : MethodName := ⟨RX18, "same", "([BII[BII)Z"⟩
abbrev cX18_style : ByteArray := prog_21_method_19_code
def yX18_style : MethodName := ⟨RX18, "style", "()I"⟩
abbrev cX18_source : ByteArray := prog_21_method_21_code
def yX18_source : MethodName := ⟨RX18, "source", "()I"⟩
abbrev cX18_taken : ByteArray := prog_21_method_20_code
def yX18_taken : MethodName := ⟨RX18, "taken", "()I"⟩
abbrev cX18_change : ByteArray := prog_21_method_22_code
def yX18_change : MethodName := ⟨RX18, "change", "(II)I"⟩
abbrev cX18_place : ByteArray := prog_21_method_23_code
def yX18_place : MethodName := ⟨RX18, "place", "()I"⟩
abbrev cX18_set : ByteArray := prog_21_method_24_code
def yX18_set : MethodName := ⟨RX18, "set", "(I)I"⟩
abbrev cX18_in : ByteArray := prog_21_method_4_code
def yX18_in : MethodName := ⟨RX18, "in", "(III)Z"⟩
abbrev cX18_small : ByteArray := prog_21_method_8_code
def yX18_small : MethodName := ⟨RX18, "small", "(I)I"⟩
abbrev cX18_isLetter : ByteArray := prog_21_method_7_code
def yX18_isLetter : MethodName := ⟨RX18, "isLetter", "(I)Z"⟩
abbrev cX18_element : ByteArray := prog_21_method_25_code
def yX18_element : MethodName := ⟨RX18, "element", "(II)I"⟩
abbrev cX18_count : ByteArray := prog_21_method_26_code
def yX18_count : MethodName := ⟨RX18, "count", "(I)I"⟩
abbrev cX18_line : ByteArray := prog_21_method_27_code
def yX18_line : MethodName := ⟨RX18, "line", "(II)I"⟩
abbrev cX18_spot : ByteArray := prog_21_method_28_code
def yX18_spot : MethodName := ⟨RX18, "spot", "(II)J"⟩
abbrev cX18_paragraph : ByteArray := prog_21_method_29_code
def yX18_paragraph : MethodName := ⟨RX18, "paragraph", "(II)J"⟩
abbrev cX18_judge : ByteArray := prog_21_method_30_code
def yX18_judge : MethodName := ⟨RX18, "judge", "(I)J"⟩
abbrev cX18_where : ByteArray := prog_21_method_31_code
def yX18_where : MethodName := ⟨RX18, "where", "(I)I"⟩
abbrev cX18_note : ByteArray := prog_21_method_32_code
def yX18_note : MethodName := ⟨RX18, "note", "(II)I"⟩
abbrev cX18_wavering : ByteArray := prog_21_method_33_code
def yX18_wavering : MethodName := ⟨RX18, "wavering", "(I)I"⟩
abbrev cX18_print : ByteArray := prog_21_method_39_code
def yX18_print : MethodName := ⟨RX18, "print", "(I)I"⟩
abbrev cX18_putNumber : ByteArray := prog_21_method_35_code
def yX18_putNumber : MethodName := ⟨RX18, "putNumber", "(J)V"⟩
abbrev cX18_put : ByteArray := prog_21_method_34_code
def yX18_put : MethodName := ⟨RX18, "put", "(I)V"⟩
abbrev cX18_putColumn : ByteArray := prog_21_method_38_code
def yX18_putColumn : MethodName := ⟨RX18, "putColumn", "(I)V"⟩
abbrev cX18_putRow : ByteArray := prog_21_method_37_code
def yX18_putRow : MethodName := ⟨RX18, "putRow", "(JJI)V"⟩
abbrev cX18_putLine : ByteArray := prog_21_method_36_code
def yX18_putLine : MethodName := ⟨RX18, "putLine", "(JJII)V"⟩
abbrev cX18_word : ByteArray := prog_21_method_40_code
def yX18_word : MethodName := ⟨RX18, "word", "(I)J"⟩
theorem q372 : (Jvm.Cond.initialized "ScholarsPressModel") ∈ lw_all := lw_g (lw_at lw_m1 18 rfl) rfl
theorem q3256 : (Jvm.Cond.instantiable "ScholarsPressModel" (23 : Nat)) ∈ lw_all := lw_g (lw_at lw_m13 22 rfl) rfl
theorem q3258 : (Jvm.Cond.instanceMethod ({ cls := "ScholarsPressModel", name := "<init>", desc := "()V" } : Jvm.MethodName)) ∈ lw_all := lw_g (lw_at lw_m13 24 rfl) rfl
theorem q3259 : (Jvm.Cond.code ({ cls := "ScholarsPressModel", name := "<init>", desc := "()V" } : Jvm.MethodName) prog_21_method_1_code (1 : Nat) (Option.none : Option Jvm.ClassFile.FieldType)) ∈ lw_all := lw_g (lw_at lw_m13 25 rfl) rfl
theorem q3260 : (Jvm.Cond.methodLink "ScholarsPressModel" (1 : Nat) ({ cls := "java/lang/Object", name := "<init>", desc := "()V" } : Jvm.MethodName)) ∈ lw_all := lw_g (lw_at lw_m13 26 rfl) rfl
theorem q3261 : (Jvm.Cond.classLink "ScholarsPressModel" (17 : Nat) "ScholarsPressModel$Letters") ∈ lw_all := lw_g (lw_at lw_m13 27 rfl) rfl
theorem q3263 : (Jvm.Cond.methodLink "ScholarsPressModel" (19 : Nat) ({ cls := "ScholarsPressModel$Letters", name := "<init>", desc := "()V" } : Jvm.MethodName)) ∈ lw_all := lw_g (lw_at lw_m13 29 rfl) rfl
theorem q3339 : (Jvm.Cond.classLink "ScholarsPressModel" (27 : Nat) "ScholarsPressModel$Parting") ∈ lw_all := lw_g (lw_at lw_m13 105 rfl) rfl
theorem q3341 : (Jvm.Cond.methodLinkNest "ScholarsPressModel" (29 : Nat) ({ cls := "ScholarsPressModel$Parting", name := "<init>", desc := "()V" } : Jvm.MethodName) "ScholarsPressModel") ∈ lw_tbl := lw_at lw_m13 107 rfl
theorem q3348 : (Jvm.Cond.fieldLink "ScholarsPressModel" (133 : Nat) "ScholarsPressModel$Parting" "patterns" "I") ∈ lw_all := lw_g (lw_at lw_m13 114 rfl) rfl
theorem q3350 : (Jvm.Cond.fieldLink "ScholarsPressModel" (136 : Nat) "ScholarsPressModel$Parting" "exceptions" "I") ∈ lw_all := lw_g (lw_at lw_m13 116 rfl) rfl
theorem q3390 : (Jvm.Cond.classLink "ScholarsPressModel" (37 : Nat) "ScholarsPressModel$Style") ∈ lw_all := lw_g (lw_at lw_m13 156 rfl) rfl
theorem q3392 : (Jvm.Cond.methodLink "ScholarsPressModel" (39 : Nat) ({ cls := "ScholarsPressModel$Style", name := "<init>", desc := "()V" } : Jvm.MethodName)) ∈ lw_all := lw_g (lw_at lw_m13 158 rfl) rfl
theorem q3411 : (Jvm.Cond.fieldLink "ScholarsPressModel" (144 : Nat) "ScholarsPressModel$Style" "selectors" "I") ∈ lw_all := lw_g (lw_at lw_m13 177 rfl) rfl
theorem q3510 : (Jvm.Cond.classLink "ScholarsPressModel" (47 : Nat) "ScholarsPressModel$Source") ∈ lw_all := lw_g (lw_at lw_m14 36 rfl) rfl
theorem q3512 : (Jvm.Cond.methodLinkNest "ScholarsPressModel" (49 : Nat) ({ cls := "ScholarsPressModel$Source", name := "<init>", desc := "()V" } : Jvm.MethodName) "ScholarsPressModel") ∈ lw_tbl := lw_at lw_m14 38 rfl
theorem q3519 : (Jvm.Cond.fieldLink "ScholarsPressModel" (159 : Nat) "ScholarsPressModel$Source" "text" "[B") ∈ lw_all := lw_g (lw_at lw_m14 45 rfl) rfl
theorem q3521 : (Jvm.Cond.fieldLink "ScholarsPressModel" (157 : Nat) "ScholarsPressModel$Source" "length" "I") ∈ lw_all := lw_g (lw_at lw_m14 47 rfl) rfl
theorem q3528 : (Jvm.Cond.fieldLink "ScholarsPressModel" (147 : Nat) "ScholarsPressModel$Source" "elements" "I") ∈ lw_all := lw_g (lw_at lw_m14 54 rfl) rfl
theorem q3530 : (Jvm.Cond.fieldLink "ScholarsPressModel" (212 : Nat) "ScholarsPressModel$Source" "entities" "I") ∈ lw_all := lw_g (lw_at lw_m14 56 rfl) rfl
theorem q3532 : (Jvm.Cond.fieldLink "ScholarsPressModel" (154 : Nat) "ScholarsPressModel$Source" "there" "Z") ∈ lw_all := lw_g (lw_at lw_m14 58 rfl) rfl
theorem q3543 : (Jvm.Cond.fieldLink "ScholarsPressModel" (187 : Nat) "ScholarsPressModel$Source" "from" "[I") ∈ lw_all := lw_g (lw_at lw_m14 69 rfl) rfl
theorem q3545 : (Jvm.Cond.fieldLink "ScholarsPressModel" (190 : Nat) "ScholarsPressModel$Source" "to" "[I") ∈ lw_all := lw_g (lw_at lw_m14 71 rfl) rfl
theorem q3549 : (Jvm.Cond.fieldLink "ScholarsPressModel" (184 : Nat) "ScholarsPressModel$Source" "parent" "[I") ∈ lw_all := lw_g (lw_at lw_m14 75 rfl) rfl
theorem q3555 : (Jvm.Cond.fieldLink "ScholarsPressModel" (193 : Nat) "ScholarsPressModel$Source" "fields" "[I") ∈ lw_all := lw_g (lw_at lw_m14 81 rfl) rfl
theorem q3634 : (Jvm.Cond.classLink "ScholarsPressModel" (60 : Nat) "ScholarsPressModel$Tree") ∈ lw_all := lw_g (lw_at lw_m14 160 rfl) rfl
theorem q3636 : (Jvm.Cond.methodLinkNest "ScholarsPressModel" (62 : Nat) ({ cls := "ScholarsPressModel$Tree", name := "<init>", desc := "()V" } : Jvm.MethodName) "ScholarsPressModel") ∈ lw_tbl := lw_at lw_m14 162 rfl
theorem q3648 : (Jvm.Cond.fieldLink "ScholarsPressModel" (405 : Nat) "ScholarsPressModel$Tree" "page" "[I") ∈ lw_all := lw_g (lw_at lw_m14 174 rfl) rfl
theorem q3656 : (Jvm.Cond.fieldLink "ScholarsPressModel" (200 : Nat) "ScholarsPressModel$Tree" "value" "[I") ∈ lw_all := lw_g (lw_at lw_m14 182 rfl) rfl
theorem q3658 : (Jvm.Cond.fieldLink "ScholarsPressModel" (395 : Nat) "ScholarsPressModel$Tree" "cellsIn" "[I") ∈ lw_all := lw_g (lw_at lw_m14 184 rfl) rfl
theorem q3663 : (Jvm.Cond.fieldLink "ScholarsPressModel" (196 : Nat) "ScholarsPressModel$Tree" "shown" "[Z") ∈ lw_all := lw_g (lw_at lw_m14 189 rfl) rfl
theorem q3667 : (Jvm.Cond.fieldLink "ScholarsPressModel" (206 : Nat) "ScholarsPressModel$Tree" "inFlow" "[Z") ∈ lw_all := lw_g (lw_at lw_m14 193 rfl) rfl
theorem q3753 : (Jvm.Cond.classLink "ScholarsPressModel" (67 : Nat) "ScholarsPressModel$Setting") ∈ lw_all := lw_g (lw_at lw_m15 39 rfl) rfl
theorem q3755 : (Jvm.Cond.methodLinkNest "ScholarsPressModel" (69 : Nat) ({ cls := "ScholarsPressModel$Setting", name := "<init>", desc := "()V" } : Jvm.MethodName) "ScholarsPressModel") ∈ lw_tbl := lw_at lw_m15 41 rfl
theorem q3762 : (Jvm.Cond.fieldLink "ScholarsPressModel" (321 : Nat) "ScholarsPressModel$Setting" "tree" "LScholarsPressModel$Tree;") ∈ lw_all := lw_g (lw_at lw_m15 48 rfl) rfl
theorem q3764 : (Jvm.Cond.fieldLink "ScholarsPressModel" (270 : Nat) "ScholarsPressModel$Setting" "s" "LScholarsPressModel$Source;") ∈ lw_all := lw_g (lw_at lw_m15 50 rfl) rfl
theorem q3769 : (Jvm.Cond.fieldLink "ScholarsPressModel" (388 : Nat) "ScholarsPressModel$Setting" "b" "[B") ∈ lw_all := lw_g (lw_at lw_m15 55 rfl) rfl
theorem q3774 : (Jvm.Cond.fieldLink "ScholarsPressModel" (224 : Nat) "ScholarsPressModel$Setting" "paragraphs" "I") ∈ lw_all := lw_g (lw_at lw_m15 60 rfl) rfl
theorem q3776 : (Jvm.Cond.fieldLink "ScholarsPressModel" (303 : Nat) "ScholarsPressModel$Setting" "from" "[I") ∈ lw_all := lw_g (lw_at lw_m15 62 rfl) rfl
theorem q3778 : (Jvm.Cond.fieldLink "ScholarsPressModel" (302 : Nat) "ScholarsPressModel$Setting" "to" "[I") ∈ lw_all := lw_g (lw_at lw_m15 64 rfl) rfl
theorem q3780 : (Jvm.Cond.fieldLink "ScholarsPressModel" (304 : Nat) "ScholarsPressModel$Setting" "owner" "[I") ∈ lw_all := lw_g (lw_at lw_m15 66 rfl) rfl
theorem q3784 : (Jvm.Cond.fieldLink "ScholarsPressModel" (293 : Nat) "ScholarsPressModel$Setting" "breaks" "[I") ∈ lw_all := lw_g (lw_at lw_m15 70 rfl) rfl
theorem q3787 : (Jvm.Cond.fieldLink "ScholarsPressModel" (290 : Nat) "ScholarsPressModel$Setting" "lines" "[I") ∈ lw_all := lw_g (lw_at lw_m15 73 rfl) rfl
theorem q3789 : (Jvm.Cond.fieldLink "ScholarsPressModel" (261 : Nat) "ScholarsPressModel$Setting" "lineAt" "[I") ∈ lw_all := lw_g (lw_at lw_m15 75 rfl) rfl
theorem q3791 : (Jvm.Cond.fieldLink "ScholarsPressModel" (296 : Nat) "ScholarsPressModel$Setting" "told" "[I") ∈ lw_all := lw_g (lw_at lw_m15 77 rfl) rfl
theorem q3794 : (Jvm.Cond.fieldLink "ScholarsPressModel" (299 : Nat) "ScholarsPressModel$Setting" "width" "[J") ∈ lw_all := lw_g (lw_at lw_m15 80 rfl) rfl
theorem q3796 : (Jvm.Cond.fieldLink "ScholarsPressModel" (287 : Nat) "ScholarsPressModel$Setting" "cost" "[J") ∈ lw_all := lw_g (lw_at lw_m15 82 rfl) rfl
theorem q3803 : (Jvm.Cond.fieldLink "ScholarsPressModel" (264 : Nat) "ScholarsPressModel$Setting" "lineEnd" "[I") ∈ lw_all := lw_g (lw_at lw_m15 89 rfl) rfl
theorem q3805 : (Jvm.Cond.fieldLink "ScholarsPressModel" (258 : Nat) "ScholarsPressModel$Setting" "ratio" "[I") ∈ lw_all := lw_g (lw_at lw_m15 91 rfl) rfl
theorem q3811 : (Jvm.Cond.fieldLink "ScholarsPressModel" (398 : Nat) "ScholarsPressModel$Setting" "cellOf" "[I") ∈ lw_all := lw_g (lw_at lw_m15 97 rfl) rfl
theorem q3814 : (Jvm.Cond.fieldLink "ScholarsPressModel" (267 : Nat) "ScholarsPressModel$Setting" "tableLeft" "[I") ∈ lw_all := lw_g (lw_at lw_m15 100 rfl) rfl
theorem q3820 : (Jvm.Cond.fieldLink "ScholarsPressModel" (221 : Nat) "ScholarsPressModel$Setting" "count" "I") ∈ lw_all := lw_g (lw_at lw_m15 106 rfl) rfl
theorem q3823 : (Jvm.Cond.fieldLink "ScholarsPressModel" (242 : Nat) "ScholarsPressModel$Setting" "linePar" "[I") ∈ lw_all := lw_g (lw_at lw_m15 109 rfl) rfl
theorem q3825 : (Jvm.Cond.fieldLink "ScholarsPressModel" (245 : Nat) "ScholarsPressModel$Setting" "lineNo" "[I") ∈ lw_all := lw_g (lw_at lw_m15 111 rfl) rfl
theorem q3827 : (Jvm.Cond.fieldLink "ScholarsPressModel" (273 : Nat) "ScholarsPressModel$Setting" "lineRow" "[I") ∈ lw_all := lw_g (lw_at lw_m15 113 rfl) rfl
theorem q3831 : (Jvm.Cond.fieldLink "ScholarsPressModel" (255 : Nat) "ScholarsPressModel$Setting" "lineNumber" "[I") ∈ lw_all := lw_g (lw_at lw_m15 117 rfl) rfl
theorem q3833 : (Jvm.Cond.fieldLink "ScholarsPressModel" (248 : Nat) "ScholarsPressModel$Setting" "lineColumn" "[I") ∈ lw_all := lw_g (lw_at lw_m15 119 rfl) rfl
theorem q3837 : (Jvm.Cond.fieldLink "ScholarsPressModel" (251 : Nat) "ScholarsPressModel$Setting" "lineTop" "[J") ∈ lw_all := lw_g (lw_at lw_m15 123 rfl) rfl
theorem q3839 : (Jvm.Cond.fieldLink "ScholarsPressModel" (227 : Nat) "ScholarsPressModel$Setting" "notes" "I") ∈ lw_all := lw_g (lw_at lw_m15 125 rfl) rfl
theorem q3841 : (Jvm.Cond.fieldLink "ScholarsPressModel" (230 : Nat) "ScholarsPressModel$Setting" "floats" "I") ∈ lw_all := lw_g (lw_at lw_m15 127 rfl) rfl
theorem q3843 : (Jvm.Cond.fieldLink "ScholarsPressModel" (334 : Nat) "ScholarsPressModel$Setting" "noteOf" "[I") ∈ lw_all := lw_g (lw_at lw_m15 129 rfl) rfl
theorem q3845 : (Jvm.Cond.fieldLink "ScholarsPressModel" (337 : Nat) "ScholarsPressModel$Setting" "noteLine" "[I") ∈ lw_all := lw_g (lw_at lw_m15 131 rfl) rfl
theorem q3847 : (Jvm.Cond.fieldLink "ScholarsPressModel" (340 : Nat) "ScholarsPressModel$Setting" "notePar" "[I") ∈ lw_all := lw_g (lw_at lw_m15 133 rfl) rfl
theorem q3849 : (Jvm.Cond.fieldLink "ScholarsPressModel" (343 : Nat) "ScholarsPressModel$Setting" "noteColumn" "[I") ∈ lw_all := lw_g (lw_at lw_m15 135 rfl) rfl
theorem q3851 : (Jvm.Cond.fieldLink "ScholarsPressModel" (346 : Nat) "ScholarsPressModel$Setting" "noteFirst" "[I") ∈ lw_all := lw_g (lw_at lw_m15 137 rfl) rfl
theorem q3853 : (Jvm.Cond.fieldLink "ScholarsPressModel" (352 : Nat) "ScholarsPressModel$Setting" "floatOf" "[I") ∈ lw_all := lw_g (lw_at lw_m15 139 rfl) rfl
theorem q3855 : (Jvm.Cond.fieldLink "ScholarsPressModel" (355 : Nat) "ScholarsPressModel$Setting" "floatLine" "[I") ∈ lw_all := lw_g (lw_at lw_m15 141 rfl) rfl
theorem q3857 : (Jvm.Cond.fieldLink "ScholarsPressModel" (358 : Nat) "ScholarsPressModel$Setting" "floatColumn" "[I") ∈ lw_all := lw_g (lw_at lw_m15 143 rfl) rfl
theorem q3859 : (Jvm.Cond.fieldLink "ScholarsPressModel" (349 : Nat) "ScholarsPressModel$Setting" "noteTop" "[J") ∈ lw_all := lw_g (lw_at lw_m15 145 rfl) rfl
theorem q3861 : (Jvm.Cond.fieldLink "ScholarsPressModel" (361 : Nat) "ScholarsPressModel$Setting" "floatTop" "[J") ∈ lw_all := lw_g (lw_at lw_m15 147 rfl) rfl
theorem q3864 : (Jvm.Cond.fieldLink "ScholarsPressModel" (233 : Nat) "ScholarsPressModel$Setting" "entries" "I") ∈ lw_all := lw_g (lw_at lw_m15 150 rfl) rfl
theorem q3876 : (Jvm.Cond.fieldLink "ScholarsPressModel" (328 : Nat) "ScholarsPressModel$Setting" "beginLine" "[I") ∈ lw_all := lw_g (lw_at lw_m15 162 rfl) rfl
theorem q3878 : (Jvm.Cond.fieldLink "ScholarsPressModel" (331 : Nat) "ScholarsPressModel$Setting" "endLine" "[I") ∈ lw_all := lw_g (lw_at lw_m15 164 rfl) rfl
theorem q3884 : (Jvm.Cond.fieldLink "ScholarsPressModel" (322 : Nat) "ScholarsPressModel$Setting" "newPage" "[I") ∈ lw_all := lw_g (lw_at lw_m15 170 rfl) rfl
theorem q3886 : (Jvm.Cond.fieldLink "ScholarsPressModel" (325 : Nat) "ScholarsPressModel$Setting" "newFirst" "[I") ∈ lw_all := lw_g (lw_at lw_m15 172 rfl) rfl
theorem q3890 : (Jvm.Cond.fieldLink "ScholarsPressModel" (412 : Nat) "ScholarsPressModel$Setting" "pieces" "I") ∈ lw_all := lw_g (lw_at lw_m15 176 rfl) rfl
theorem q3893 : (Jvm.Cond.fieldLink "ScholarsPressModel" (418 : Nat) "ScholarsPressModel$Setting" "pieceNote" "[I") ∈ lw_all := lw_g (lw_at lw_m15 179 rfl) rfl
theorem q3895 : (Jvm.Cond.fieldLink "ScholarsPressModel" (421 : Nat) "ScholarsPressModel$Setting" "pieceFrom" "[I") ∈ lw_all := lw_g (lw_at lw_m15 181 rfl) rfl
theorem q3897 : (Jvm.Cond.fieldLink "ScholarsPressModel" (424 : Nat) "ScholarsPressModel$Setting" "pieceTo" "[I") ∈ lw_all := lw_g (lw_at lw_m15 183 rfl) rfl
theorem q3899 : (Jvm.Cond.fieldLink "ScholarsPressModel" (415 : Nat) "ScholarsPressModel$Setting" "pieceColumn" "[I") ∈ lw_all := lw_g (lw_at lw_m15 185 rfl) rfl
theorem q3901 : (Jvm.Cond.fieldLink "ScholarsPressModel" (427 : Nat) "ScholarsPressModel$Setting" "pieceTop" "[J") ∈ lw_all := lw_g (lw_at lw_m15 187 rfl) rfl
theorem q3902 : (Jvm.Cond.fieldLink "ScholarsPressModel" (218 : Nat) "ScholarsPressModel$Setting" "columns" "I") ∈ lw_all := lw_g (lw_at lw_m15 188 rfl) rfl
theorem q3904 : (Jvm.Cond.fieldLink "ScholarsPressModel" (215 : Nat) "ScholarsPressModel$Setting" "pagesInAll" "I") ∈ lw_all := lw_g (lw_at lw_m15 190 rfl) rfl
theorem q3907 : (Jvm.Cond.fieldLink "ScholarsPressModel" (236 : Nat) "ScholarsPressModel$Setting" "wavering" "I") ∈ lw_all := lw_g (lw_at lw_m15 193 rfl) rfl
theorem q3908 : (Jvm.Cond.fieldLink "ScholarsPressModel" (239 : Nat) "ScholarsPressModel$Setting" "fresh" "I") ∈ lw_all := lw_g (lw_at lw_m15 194 rfl) rfl
theorem q3911 : (Jvm.Cond.fieldLink "ScholarsPressModel" (364 : Nat) "ScholarsPressModel$Setting" "wavers" "[Z") ∈ lw_all := lw_g (lw_at lw_m15 197 rfl) rfl
theorem q4236 : (Jvm.Cond.fieldLink "ScholarsPressModel" (87 : Nat) "ScholarsPressModel" "thrown" "I") ∈ lw_all := lw_g (lw_at lw_m17 42 rfl) rfl
theorem q4237 : (Jvm.Cond.fieldLink "ScholarsPressModel" (7 : Nat) "ScholarsPressModel" "place" "I") ∈ lw_all := lw_g (lw_at lw_m17 43 rfl) rfl
theorem q4238 : (Jvm.Cond.fieldLink "ScholarsPressModel" (13 : Nat) "ScholarsPressModel" "tape" "[B") ∈ lw_all := lw_g (lw_at lw_m17 44 rfl) rfl
theorem q4239 : (Jvm.Cond.fieldLink "ScholarsPressModel" (104 : Nat) "ScholarsPressModel" "taped" "I") ∈ lw_all := lw_g (lw_at lw_m17 45 rfl) rfl
theorem q4240 : (Jvm.Cond.fieldLink "ScholarsPressModel" (20 : Nat) "ScholarsPressModel" "letters" "LScholarsPressModel$Letters;") ∈ lw_all := lw_g (lw_at lw_m17 46 rfl) rfl
theorem q4241 : (Jvm.Cond.fieldLink "ScholarsPressModel" (24 : Nat) "ScholarsPressModel" "letters2" "LScholarsPressModel$Letters;") ∈ lw_all := lw_g (lw_at lw_m17 47 rfl) rfl
theorem q4242 : (Jvm.Cond.fieldLink "ScholarsPressModel" (30 : Nat) "ScholarsPressModel" "parting" "LScholarsPressModel$Parting;") ∈ lw_all := lw_g (lw_at lw_m17 48 rfl) rfl
theorem q4243 : (Jvm.Cond.fieldLink "ScholarsPressModel" (34 : Nat) "ScholarsPressModel" "parting2" "LScholarsPressModel$Parting;") ∈ lw_all := lw_g (lw_at lw_m17 49 rfl) rfl
theorem q4244 : (Jvm.Cond.fieldLink "ScholarsPressModel" (40 : Nat) "ScholarsPressModel" "style" "LScholarsPressModel$Style;") ∈ lw_all := lw_g (lw_at lw_m17 50 rfl) rfl
theorem q4245 : (Jvm.Cond.fieldLink "ScholarsPressModel" (44 : Nat) "ScholarsPressModel" "style2" "LScholarsPressModel$Style;") ∈ lw_all := lw_g (lw_at lw_m17 51 rfl) rfl
theorem q4246 : (Jvm.Cond.fieldLink "ScholarsPressModel" (50 : Nat) "ScholarsPressModel" "source" "LScholarsPressModel$Source;") ∈ lw_all := lw_g (lw_at lw_m17 52 rfl) rfl
theorem q4247 : (Jvm.Cond.fieldLink "ScholarsPressModel" (54 : Nat) "ScholarsPressModel" "source2" "LScholarsPressModel$Source;") ∈ lw_all := lw_g (lw_at lw_m17 53 rfl) rfl
theorem q4248 : (Jvm.Cond.fieldLink "ScholarsPressModel" (57 : Nat) "ScholarsPressModel" "joined" "[B") ∈ lw_all := lw_g (lw_at lw_m17 54 rfl) rfl
theorem q4249 : (Jvm.Cond.fieldLink "ScholarsPressModel" (63 : Nat) "ScholarsPressModel" "tree" "LScholarsPressModel$Tree;") ∈ lw_all := lw_g (lw_at lw_m17 55 rfl) rfl
theorem q4250 : (Jvm.Cond.fieldLink "ScholarsPressModel" (140 : Nat) "ScholarsPressModel" "treeIs" "Z") ∈ lw_all := lw_g (lw_at lw_m17 56 rfl) rfl
theorem q4251 : (Jvm.Cond.fieldLink "ScholarsPressModel" (70 : Nat) "ScholarsPressModel" "setting" "LScholarsPressModel$Setting;") ∈ lw_all := lw_g (lw_at lw_m17 57 rfl) rfl
theorem q4252 : (Jvm.Cond.fieldLink "ScholarsPressModel" (74 : Nat) "ScholarsPressModel" "other" "LScholarsPressModel$Setting;") ∈ lw_all := lw_g (lw_at lw_m17 58 rfl) rfl
theorem q4253 : (Jvm.Cond.fieldLink "ScholarsPressModel" (174 : Nat) "ScholarsPressModel" "isSet" "Z") ∈ lw_all := lw_g (lw_at lw_m17 59 rfl) rfl
theorem q4254 : (Jvm.Cond.fieldLink "ScholarsPressModel" (77 : Nat) "ScholarsPressModel" "out" "[B") ∈ lw_all := lw_g (lw_at lw_m17 60 rfl) rfl
theorem q4255 : (Jvm.Cond.fieldLink "ScholarsPressModel" (442 : Nat) "ScholarsPressModel" "outLong" "I") ∈ lw_all := lw_g (lw_at lw_m17 61 rfl) rfl
theorem q4256 : (Jvm.Cond.fieldLink "ScholarsPressModel" (80 : Nat) "ScholarsPressModel" "made" "[B") ∈ lw_all := lw_g (lw_at lw_m17 62 rfl) rfl
theorem q4257 : (Jvm.Cond.fieldLink "ScholarsPressModel" (367 : Nat) "ScholarsPressModel" "madeLong" "I") ∈ lw_all := lw_g (lw_at lw_m17 63 rfl) rfl
theorem q4258 : (Jvm.Cond.fieldLink "ScholarsPressModel" (83 : Nat) "ScholarsPressModel" "chosen" "[I") ∈ lw_all := lw_g (lw_at lw_m17 64 rfl) rfl
theorem q4259 : (Jvm.Cond.lays "ScholarsPressModel" "ScholarsPressModel" "thrown" "I") ∈ lw_all := lw_g (lw_at lw_m17 65 rfl) rfl
theorem q4260 : (Jvm.Cond.soleField "ScholarsPressModel" "thrown") ∈ lw_all := lw_g (lw_at lw_m17 66 rfl) rfl
theorem q4261 : (Jvm.Cond.lays "ScholarsPressModel" "ScholarsPressModel" "place" "I") ∈ lw_all := lw_g (lw_at lw_m17 67 rfl) rfl
theorem q4262 : (Jvm.Cond.soleField "ScholarsPressModel" "place") ∈ lw_all := lw_g (lw_at lw_m17 68 rfl) rfl
theorem q4263 : (Jvm.Cond.laysFinal "ScholarsPressModel" "ScholarsPressModel" "tape" "[B") ∈ lw_all := lw_g (lw_at lw_m17 69 rfl) rfl
theorem q4264 : (Jvm.Cond.soleField "ScholarsPressModel" "tape") ∈ lw_all := lw_g (lw_at lw_m17 70 rfl) rfl
theorem q4265 : (Jvm.Cond.lays "ScholarsPressModel" "ScholarsPressModel" "taped" "I") ∈ lw_all := lw_g (lw_at lw_m17 71 rfl) rfl
theorem q4266 : (Jvm.Cond.soleField "ScholarsPressModel" "taped") ∈ lw_all := lw_g (lw_at lw_m17 72 rfl) rfl
theorem q4267 : (Jvm.Cond.lays "ScholarsPressModel" "ScholarsPressModel" "letters" "LScholarsPressModel$Letters;") ∈ lw_all := lw_g (lw_at lw_m17 73 rfl) rfl
theorem q4268 : (Jvm.Cond.soleField "ScholarsPressModel" "letters") ∈ lw_all := lw_g (lw_at lw_m17 74 rfl) rfl
theorem q4269 : (Jvm.Cond.lays "ScholarsPressModel" "ScholarsPressModel" "letters2" "LScholarsPressModel$Letters;") ∈ lw_all := lw_g (lw_at lw_m17 75 rfl) rfl
theorem q4270 : (Jvm.Cond.soleField "ScholarsPressModel" "letters2") ∈ lw_all := lw_g (lw_at lw_m17 76 rfl) rfl
theorem q4271 : (Jvm.Cond.lays "ScholarsPressModel" "ScholarsPressModel" "parting" "LScholarsPressModel$Parting;") ∈ lw_all := lw_g (lw_at lw_m17 77 rfl) rfl
theorem q4272 : (Jvm.Cond.soleField "ScholarsPressModel" "parting") ∈ lw_all := lw_g (lw_at lw_m17 78 rfl) rfl
theorem q4273 : (Jvm.Cond.lays "ScholarsPressModel" "ScholarsPressModel" "parting2" "LScholarsPressModel$Parting;") ∈ lw_all := lw_g (lw_at lw_m17 79 rfl) rfl
theorem q4274 : (Jvm.Cond.soleField "ScholarsPressModel" "parting2") ∈ lw_all := lw_g (lw_at lw_m17 80 rfl) rfl
theorem q4275 : (Jvm.Cond.lays "ScholarsPressModel" "ScholarsPressModel" "style" "LScholarsPressModel$Style;") ∈ lw_all := lw_g (lw_at lw_m17 81 rfl) rfl
theorem q4276 : (Jvm.Cond.soleField "ScholarsPressModel" "style") ∈ lw_all := lw_g (lw_at lw_m17 82 rfl) rfl
theorem q4277 : (Jvm.Cond.lays "ScholarsPressModel" "ScholarsPressModel" "style2" "LScholarsPressModel$Style;") ∈ lw_all := lw_g (lw_at lw_m17 83 rfl) rfl
theorem q4278 : (Jvm.Cond.soleField "ScholarsPressModel" "style2") ∈ lw_all := lw_g (lw_at lw_m17 84 rfl) rfl
theorem q4279 : (Jvm.Cond.lays "ScholarsPressModel" "ScholarsPressModel" "source" "LScholarsPressModel$Source;") ∈ lw_all := lw_g (lw_at lw_m17 85 rfl) rfl
theorem q4280 : (Jvm.Cond.soleField "ScholarsPressModel" "source") ∈ lw_all := lw_g (lw_at lw_m17 86 rfl) rfl
theorem q4281 : (Jvm.Cond.lays "ScholarsPressModel" "ScholarsPressModel" "source2" "LScholarsPressModel$Source;") ∈ lw_all := lw_g (lw_at lw_m17 87 rfl) rfl
theorem q4282 : (Jvm.Cond.soleField "ScholarsPressModel" "source2") ∈ lw_all := lw_g (lw_at lw_m17 88 rfl) rfl
theorem q4283 : (Jvm.Cond.laysFinal "ScholarsPressModel" "ScholarsPressModel" "joined" "[B") ∈ lw_all := lw_g (lw_at lw_m17 89 rfl) rfl
theorem q4284 : (Jvm.Cond.soleField "ScholarsPressModel" "joined") ∈ lw_all := lw_g (lw_at lw_m17 90 rfl) rfl
theorem q4285 : (Jvm.Cond.laysFinal "ScholarsPressModel" "ScholarsPressModel" "tree" "LScholarsPressModel$Tree;") ∈ lw_all := lw_g (lw_at lw_m17 91 rfl) rfl
theorem q4286 : (Jvm.Cond.soleField "ScholarsPressModel" "tree") ∈ lw_all := lw_g (lw_at lw_m17 92 rfl) rfl
theorem q4287 : (Jvm.Cond.lays "ScholarsPressModel" "ScholarsPressModel" "treeIs" "Z") ∈ lw_all := lw_g (lw_at lw_m17 93 rfl) rfl
theorem q4288 : (Jvm.Cond.soleField "ScholarsPressModel" "treeIs") ∈ lw_all := lw_g (lw_at lw_m17 94 rfl) rfl
theorem q4289 : (Jvm.Cond.lays "ScholarsPressModel" "ScholarsPressModel" "setting" "LScholarsPressModel$Setting;") ∈ lw_all := lw_g (lw_at lw_m17 95 rfl) rfl
theorem q4290 : (Jvm.Cond.soleField "ScholarsPressModel" "setting") ∈ lw_all := lw_g (lw_at lw_m17 96 rfl) rfl
theorem q4291 : (Jvm.Cond.lays "ScholarsPressModel" "ScholarsPressModel" "other" "LScholarsPressModel$Setting;") ∈ lw_all := lw_g (lw_at lw_m17 97 rfl) rfl
theorem q4292 : (Jvm.Cond.soleField "ScholarsPressModel" "other") ∈ lw_all := lw_g (lw_at lw_m17 98 rfl) rfl
theorem q4293 : (Jvm.Cond.lays "ScholarsPressModel" "ScholarsPressModel" "isSet" "Z") ∈ lw_all := lw_g (lw_at lw_m17 99 rfl) rfl
theorem q4294 : (Jvm.Cond.soleField "ScholarsPressModel" "isSet") ∈ lw_all := lw_g (lw_at lw_m17 100 rfl) rfl
theorem q4295 : (Jvm.Cond.lays "ScholarsPressModel" "ScholarsPressModel" "out" "[B") ∈ lw_all := lw_g (lw_at lw_m17 101 rfl) rfl
theorem q4296 : (Jvm.Cond.soleField "ScholarsPressModel" "out") ∈ lw_all := lw_g (lw_at lw_m17 102 rfl) rfl
theorem q4297 : (Jvm.Cond.lays "ScholarsPressModel" "ScholarsPressModel" "outLong" "I") ∈ lw_all := lw_g (lw_at lw_m17 103 rfl) rfl
theorem q4298 : (Jvm.Cond.soleField "ScholarsPressModel" "outLong") ∈ lw_all := lw_g (lw_at lw_m17 104 rfl) rfl
theorem q4299 : (Jvm.Cond.lays "ScholarsPressModel" "ScholarsPressModel" "made" "[B") ∈ lw_all := lw_g (lw_at lw_m17 105 rfl) rfl
theorem q4300 : (Jvm.Cond.soleField "ScholarsPressModel" "made") ∈ lw_all := lw_g (lw_at lw_m17 106 rfl) rfl
theorem q4301 : (Jvm.Cond.lays "ScholarsPressModel" "ScholarsPressModel" "madeLong" "I") ∈ lw_all := lw_g (lw_at lw_m17 107 rfl) rfl
theorem q4302 : (Jvm.Cond.soleField "ScholarsPressModel" "madeLong") ∈ lw_all := lw_g (lw_at lw_m17 108 rfl) rfl
theorem q4303 : (Jvm.Cond.laysFinal "ScholarsPressModel" "ScholarsPressModel" "chosen" "[I") ∈ lw_all := lw_g (lw_at lw_m17 109 rfl) rfl
theorem q4304 : (Jvm.Cond.soleField "ScholarsPressModel" "chosen") ∈ lw_all := lw_g (lw_at lw_m17 110 rfl) rfl
theorem q4305 : (Jvm.Cond.superclass "ScholarsPressModel" "java/lang/Object") ∈ lw_all := lw_g (lw_at lw_m17 111 rfl) rfl
theorem q4307 : (Jvm.Cond.instanceMethod ({ cls := "ScholarsPressModel", name := "thrown", desc := "()I" } : Jvm.MethodName)) ∈ lw_all := lw_g (lw_at lw_m17 113 rfl) rfl
theorem q4308 : (Jvm.Cond.selects "ScholarsPressModel" ({ cls := "ScholarsPressModel", name := "thrown", desc := "()I" } : Jvm.MethodName) ({ cls := "ScholarsPressModel", name := "thrown", desc := "()I" } : Jvm.MethodName)) ∈ lw_all := lw_g (lw_at lw_m17 114 rfl) rfl
theorem q4309 : (Jvm.Cond.code ({ cls := "ScholarsPressModel", name := "thrown", desc := "()I" } : Jvm.MethodName) prog_21_method_2_code (1 : Nat) (Option.some Jvm.ClassFile.FieldType.int)) ∈ lw_all := lw_g (lw_at lw_m17 115 rfl) rfl
theorem q4311 : (Jvm.Cond.instanceMethod ({ cls := "ScholarsPressModel", name := "feed", desc := "(IIIII)I" } : Jvm.MethodName)) ∈ lw_all := lw_g (lw_at lw_m17 117 rfl) rfl
theorem q4312 : (Jvm.Cond.selects "ScholarsPressModel" ({ cls := "ScholarsPressModel", name := "feed", desc := "(IIIII)I" } : Jvm.MethodName) ({ cls := "ScholarsPressModel", name := "feed", desc := "(IIIII)I" } : Jvm.MethodName)) ∈ lw_all := lw_g (lw_at lw_m17 118 rfl) rfl
theorem q4313 : (Jvm.Cond.code ({ cls := "ScholarsPressModel", name := "feed", desc := "(IIIII)I" } : Jvm.MethodName) prog_21_method_12_code (6 : Nat) (Option.some Jvm.ClassFile.FieldType.int)) ∈ lw_all := lw_g (lw_at lw_m17 119 rfl) rfl
theorem q4314 : (Jvm.Cond.methodLink "ScholarsPressModel" (107 : Nat) ({ cls := "ScholarsPressModel", name := "refuse", desc := "(I)I" } : Jvm.MethodName)) ∈ lw_all := lw_g (lw_at lw_m17 120 rfl) rfl
theorem q4315 : (Jvm.Cond.privateMethod ({ cls := "ScholarsPressModel", name := "refuse", desc := "(I)I" } : Jvm.MethodName)) ∈ lw_tbl := lw_at lw_m17 121 rfl
theorem q4316 : (Jvm.Cond.instanceMethod ({ cls := "ScholarsPressModel", name := "refuse", desc := "(I)I" } : Jvm.MethodName)) ∈ lw_all := lw_g (lw_at lw_m17 122 rfl) rfl
theorem q4317 : (Jvm.Cond.code ({ cls := "ScholarsPressModel", name := "refuse", desc := "(I)I" } : Jvm.MethodName) prog_21_method_3_code (2 : Nat) (Option.some Jvm.ClassFile.FieldType.int)) ∈ lw_all := lw_g (lw_at lw_m17 123 rfl) rfl
theorem q4318 : (Jvm.Cond.methodLink "ScholarsPressModel" (111 : Nat) ({ cls := "ScholarsPressModel", name := "four", desc := "(I)V" } : Jvm.MethodName)) ∈ lw_all := lw_g (lw_at lw_m17 124 rfl) rfl
theorem q4319 : (Jvm.Cond.privateMethod ({ cls := "ScholarsPressModel", name := "four", desc := "(I)V" } : Jvm.MethodName)) ∈ lw_tbl := lw_at lw_m17 125 rfl
theorem q4320 : (Jvm.Cond.instanceMethod ({ cls := "ScholarsPressModel", name := "four", desc := "(I)V" } : Jvm.MethodName)) ∈ lw_all := lw_g (lw_at lw_m17 126 rfl) rfl
theorem q4321 : (Jvm.Cond.code ({ cls := "ScholarsPressModel", name := "four", desc := "(I)V" } : Jvm.MethodName) prog_21_method_13_code (3 : Nat) (Option.none : Option Jvm.ClassFile.FieldType)) ∈ lw_all := lw_g (lw_at lw_m17 127 rfl) rfl
theorem q4323 : (Jvm.Cond.instanceMethod ({ cls := "ScholarsPressModel", name := "end", desc := "(I)I" } : Jvm.MethodName)) ∈ lw_all := lw_g (lw_at lw_m17 129 rfl) rfl
theorem q4324 : (Jvm.Cond.selects "ScholarsPressModel" ({ cls := "ScholarsPressModel", name := "end", desc := "(I)I" } : Jvm.MethodName) ({ cls := "ScholarsPressModel", name := "end", desc := "(I)I" } : Jvm.MethodName)) ∈ lw_all := lw_g (lw_at lw_m17 130 rfl) rfl
theorem q4325 : (Jvm.Cond.code ({ cls := "ScholarsPressModel", name := "end", desc := "(I)I" } : Jvm.MethodName) prog_21_method_14_code (2 : Nat) (Option.some Jvm.ClassFile.FieldType.int)) ∈ lw_all := lw_g (lw_at lw_m17 131 rfl) rfl
theorem q4327 : (Jvm.Cond.instanceMethod ({ cls := "ScholarsPressModel", name := "font", desc := "()I" } : Jvm.MethodName)) ∈ lw_all := lw_g (lw_at lw_m17 133 rfl) rfl
theorem q4328 : (Jvm.Cond.selects "ScholarsPressModel" ({ cls := "ScholarsPressModel", name := "font", desc := "()I" } : Jvm.MethodName) ({ cls := "ScholarsPressModel", name := "font", desc := "()I" } : Jvm.MethodName)) ∈ lw_all := lw_g (lw_at lw_m17 134 rfl) rfl
theorem q4329 : (Jvm.Cond.codeWith ({ cls := "ScholarsPressModel", name := "font", desc := "()I" } : Jvm.MethodName) prog_21_method_17_code (2 : Nat) (Option.some Jvm.ClassFile.FieldType.int) [((0 : Nat), (15 : Nat), (18 : Nat), (122 : Nat))]) ∈ lw_all := lw_g (lw_at lw_m17 135 rfl) rfl
theorem q4330 : (Jvm.Cond.classLink "ScholarsPressModel" (122 : Nat) "ScholarsPressModel$Broken") ∈ lw_all := lw_g (lw_at lw_m17 136 rfl) rfl
theorem q4331 : (Jvm.Cond.methodLink "ScholarsPressModel" (118 : Nat) ({ cls := "ScholarsPressModel$Letters", name := "read", desc := "([BI)V" } : Jvm.MethodName)) ∈ lw_all := lw_g (lw_at lw_m17 137 rfl) rfl
theorem q4348 : (Jvm.Cond.static ({ cls := "ScholarsPressModel", name := "isBlank", desc := "(I)Z" } : Jvm.MethodName)) ∈ lw_all := lw_g (lw_at lw_m17 154 rfl) rfl
theorem q4349 : (Jvm.Cond.code ({ cls := "ScholarsPressModel", name := "isBlank", desc := "(I)Z" } : Jvm.MethodName) prog_21_method_9_code (1 : Nat) (Option.some Jvm.ClassFile.FieldType.boolean)) ∈ lw_all := lw_g (lw_at lw_m17 155 rfl) rfl
theorem q4351 : (Jvm.Cond.static ({ cls := "ScholarsPressModel", name := "isSmall", desc := "(I)Z" } : Jvm.MethodName)) ∈ lw_all := lw_g (lw_at lw_m17 157 rfl) rfl
theorem q4352 : (Jvm.Cond.code ({ cls := "ScholarsPressModel", name := "isSmall", desc := "(I)Z" } : Jvm.MethodName) prog_21_method_5_code (1 : Nat) (Option.some Jvm.ClassFile.FieldType.boolean)) ∈ lw_all := lw_g (lw_at lw_m17 158 rfl) rfl
theorem q4354 : (Jvm.Cond.static ({ cls := "ScholarsPressModel", name := "isDigit", desc := "(I)Z" } : Jvm.MethodName)) ∈ lw_all := lw_g (lw_at lw_m17 160 rfl) rfl
theorem q4355 : (Jvm.Cond.code ({ cls := "ScholarsPressModel", name := "isDigit", desc := "(I)Z" } : Jvm.MethodName) prog_21_method_6_code (1 : Nat) (Option.some Jvm.ClassFile.FieldType.boolean)) ∈ lw_all := lw_g (lw_at lw_m17 161 rfl) rfl
theorem q4366 : (Jvm.Cond.static ({ cls := "ScholarsPressModel", name := "is", desc := "([BIILjava/lang/String;)Z" } : Jvm.MethodName)) ∈ lw_all := lw_g (lw_at lw_m17 172 rfl) rfl
theorem q4367 : (Jvm.Cond.code ({ cls := "ScholarsPressModel", name := "is", desc := "([BIILjava/lang/String;)Z" } : Jvm.MethodName) prog_21_method_11_code (5 : Nat) (Option.some Jvm.ClassFile.FieldType.boolean)) ∈ lw_all := lw_g (lw_at lw_m17 173 rfl) rfl
theorem q4368 : (Jvm.Cond.methodLink "ScholarsPressModel" (94 : Nat) ({ cls := "java/lang/String", name := "length", desc := "()I" } : Jvm.MethodName)) ∈ lw_all := lw_g (lw_at lw_m17 174 rfl) rfl
theorem q4369 : (Jvm.Cond.methodLink "ScholarsPressModel" (100 : Nat) ({ cls := "java/lang/String", name := "charAt", desc := "(I)C" } : Jvm.MethodName)) ∈ lw_all := lw_g (lw_at lw_m17 175 rfl) rfl
theorem q4401 : (Jvm.Cond.fieldLink "ScholarsPressModel" (124 : Nat) "ScholarsPressModel$Broken" "place" "I") ∈ lw_all := lw_g (lw_at lw_m17 207 rfl) rfl
theorem q4428 : (Jvm.Cond.methodLink "ScholarsPressModel" (125 : Nat) ({ cls := "ScholarsPressModel", name := "broken", desc := "(II)I" } : Jvm.MethodName)) ∈ lw_all := lw_g (lw_at lw_m17 234 rfl) rfl
theorem q4429 : (Jvm.Cond.privateMethod ({ cls := "ScholarsPressModel", name := "broken", desc := "(II)I" } : Jvm.MethodName)) ∈ lw_tbl := lw_at lw_m17 235 rfl
theorem q4430 : (Jvm.Cond.instanceMethod ({ cls := "ScholarsPressModel", name := "broken", desc := "(II)I" } : Jvm.MethodName)) ∈ lw_all := lw_g (lw_at lw_m17 236 rfl) rfl
theorem q4431 : (Jvm.Cond.code ({ cls := "ScholarsPressModel", name := "broken", desc := "(II)I" } : Jvm.MethodName) prog_21_method_16_code (3 : Nat) (Option.some Jvm.ClassFile.FieldType.int)) ∈ lw_all := lw_g (lw_at lw_m17 237 rfl) rfl
theorem q4432 : (Jvm.Cond.methodLink "ScholarsPressModel" (115 : Nat) ({ cls := "ScholarsPressModel", name := "wasRead", desc := "(I)V" } : Jvm.MethodName)) ∈ lw_all := lw_g (lw_at lw_m17 238 rfl) rfl
theorem q4433 : (Jvm.Cond.privateMethod ({ cls := "ScholarsPressModel", name := "wasRead", desc := "(I)V" } : Jvm.MethodName)) ∈ lw_tbl := lw_at lw_m17 239 rfl
theorem q4434 : (Jvm.Cond.instanceMethod ({ cls := "ScholarsPressModel", name := "wasRead", desc := "(I)V" } : Jvm.MethodName)) ∈ lw_all := lw_g (lw_at lw_m18 0 rfl) rfl
theorem q4435 : (Jvm.Cond.code ({ cls := "ScholarsPressModel", name := "wasRead", desc := "(I)V" } : Jvm.MethodName) prog_21_method_15_code (2 : Nat) (Option.none : Option Jvm.ClassFile.FieldType)) ∈ lw_all := lw_g (lw_at lw_m18 1 rfl) rfl
theorem q4436 : (Jvm.Cond.methodLink "ScholarsPressModel" (129 : Nat) ({ cls := "ScholarsPressModel$Letters", name := "all", desc := "()I" } : Jvm.MethodName)) ∈ lw_all := lw_g (lw_at lw_m18 2 rfl) rfl
theorem q4441 : (Jvm.Cond.instanceMethod ({ cls := "ScholarsPressModel", name := "hyphens", desc := "()I" } : Jvm.MethodName)) ∈ lw_all := lw_g (lw_at lw_m18 7 rfl) rfl
theorem q4442 : (Jvm.Cond.selects "ScholarsPressModel" ({ cls := "ScholarsPressModel", name := "hyphens", desc := "()I" } : Jvm.MethodName) ({ cls := "ScholarsPressModel", name := "hyphens", desc := "()I" } : Jvm.MethodName)) ∈ lw_all := lw_g (lw_at lw_m18 8 rfl) rfl
theorem q4443 : (Jvm.Cond.codeWith ({ cls := "ScholarsPressModel", name := "hyphens", desc := "()I" } : Jvm.MethodName) prog_21_method_18_code (2 : Nat) (Option.some Jvm.ClassFile.FieldType.int) [((0 : Nat), (15 : Nat), (18 : Nat), (122 : Nat))]) ∈ lw_all := lw_g (lw_at lw_m18 9 rfl) rfl
theorem q4444 : (Jvm.Cond.methodLink "ScholarsPressModel" (132 : Nat) ({ cls := "ScholarsPressModel$Parting", name := "read", desc := "([BI)V" } : Jvm.MethodName)) ∈ lw_all := lw_g (lw_at lw_m18 10 rfl) rfl
theorem q4463 : (Jvm.Cond.static ({ cls := "ScholarsPressModel", name := "same", desc := "([BII[BII)Z" } : Jvm.MethodName)) ∈ lw_all := lw_g (lw_at lw_m18 29 rfl) rfl
theorem q4464 : (Jvm.Cond.code ({ cls := "ScholarsPressModel", name := "same", desc := "([BII[BII)Z" } : Jvm.MethodName) prog_21_method_10_code (7 : Nat) (Option.some Jvm.ClassFile.FieldType.boolean)) ∈ lw_all := lw_g (lw_at lw_m18 30 rfl) rfl
theorem q4471 : (Jvm.Cond.instanceMethod ({ cls := "ScholarsPressModel", name := "style", desc := "()I" } : Jvm.MethodName)) ∈ lw_all := lw_g (lw_at lw_m18 37 rfl) rfl
theorem q4472 : (Jvm.Cond.selects "ScholarsPressModel" ({ cls := "ScholarsPressModel", name := "style", desc := "()I" } : Jvm.MethodName) ({ cls := "ScholarsPressModel", name := "style", desc := "()I" } : Jvm.MethodName)) ∈ lw_all := lw_g (lw_at lw_m18 38 rfl) rfl
theorem q4473 : (Jvm.Cond.codeWith ({ cls := "ScholarsPressModel", name := "style", desc := "()I" } : Jvm.MethodName) prog_21_method_19_code (2 : Nat) (Option.some Jvm.ClassFile.FieldType.int) [((0 : Nat), (15 : Nat), (18 : Nat), (122 : Nat))]) ∈ lw_all := lw_g (lw_at lw_m18 39 rfl) rfl
theorem q4474 : (Jvm.Cond.methodLink "ScholarsPressModel" (139 : Nat) ({ cls := "ScholarsPressModel$Style", name := "read", desc := "([BI)V" } : Jvm.MethodName)) ∈ lw_all := lw_g (lw_at lw_m18 40 rfl) rfl
theorem q4560 : (Jvm.Cond.instanceMethod ({ cls := "ScholarsPressModel", name := "source", desc := "()I" } : Jvm.MethodName)) ∈ lw_all := lw_g (lw_at lw_m18 126 rfl) rfl
theorem q4561 : (Jvm.Cond.selects "ScholarsPressModel" ({ cls := "ScholarsPressModel", name := "source", desc := "()I" } : Jvm.MethodName) ({ cls := "ScholarsPressModel", name := "source", desc := "()I" } : Jvm.MethodName)) ∈ lw_all := lw_g (lw_at lw_m18 127 rfl) rfl
theorem q4562 : (Jvm.Cond.codeWith ({ cls := "ScholarsPressModel", name := "source", desc := "()I" } : Jvm.MethodName) prog_21_method_21_code (2 : Nat) (Option.some Jvm.ClassFile.FieldType.int) [((0 : Nat), (15 : Nat), (18 : Nat), (122 : Nat))]) ∈ lw_all := lw_g (lw_at lw_m18 128 rfl) rfl
theorem q4563 : (Jvm.Cond.methodLink "ScholarsPressModel" (150 : Nat) ({ cls := "ScholarsPressModel$Source", name := "read", desc := "([BI)V" } : Jvm.MethodName)) ∈ lw_all := lw_g (lw_at lw_m18 129 rfl) rfl
theorem q4640 : (Jvm.Cond.methodLink "ScholarsPressModel" (151 : Nat) ({ cls := "ScholarsPressModel", name := "taken", desc := "()I" } : Jvm.MethodName)) ∈ lw_all := lw_g (lw_at lw_m18 206 rfl) rfl
theorem q4641 : (Jvm.Cond.privateMethod ({ cls := "ScholarsPressModel", name := "taken", desc := "()I" } : Jvm.MethodName)) ∈ lw_tbl := lw_at lw_m18 207 rfl
theorem q4642 : (Jvm.Cond.instanceMethod ({ cls := "ScholarsPressModel", name := "taken", desc := "()I" } : Jvm.MethodName)) ∈ lw_all := lw_g (lw_at lw_m18 208 rfl) rfl
theorem q4643 : (Jvm.Cond.code ({ cls := "ScholarsPressModel", name := "taken", desc := "()I" } : Jvm.MethodName) prog_21_method_20_code (2 : Nat) (Option.some Jvm.ClassFile.FieldType.int)) ∈ lw_all := lw_g (lw_at lw_m18 209 rfl) rfl
theorem q4645 : (Jvm.Cond.instanceMethod ({ cls := "ScholarsPressModel", name := "change", desc := "(II)I" } : Jvm.MethodName)) ∈ lw_all := lw_g (lw_at lw_m18 211 rfl) rfl
theorem q4646 : (Jvm.Cond.selects "ScholarsPressModel" ({ cls := "ScholarsPressModel", name := "change", desc := "(II)I" } : Jvm.MethodName) ({ cls := "ScholarsPressModel", name := "change", desc := "(II)I" } : Jvm.MethodName)) ∈ lw_all := lw_g (lw_at lw_m18 212 rfl) rfl
theorem q4647 : (Jvm.Cond.codeWith ({ cls := "ScholarsPressModel", name := "change", desc := "(II)I" } : Jvm.MethodName) prog_21_method_22_code (5 : Nat) (Option.some Jvm.ClassFile.FieldType.int) [((196 : Nat), (208 : Nat), (211 : Nat), (122 : Nat))]) ∈ lw_all := lw_g (lw_at lw_m18 213 rfl) rfl
theorem q4649 : (Jvm.Cond.instanceMethod ({ cls := "ScholarsPressModel", name := "place", desc := "()I" } : Jvm.MethodName)) ∈ lw_all := lw_g (lw_at lw_m18 215 rfl) rfl
theorem q4650 : (Jvm.Cond.selects "ScholarsPressModel" ({ cls := "ScholarsPressModel", name := "place", desc := "()I" } : Jvm.MethodName) ({ cls := "ScholarsPressModel", name := "place", desc := "()I" } : Jvm.MethodName)) ∈ lw_all := lw_g (lw_at lw_m18 216 rfl) rfl
theorem q4651 : (Jvm.Cond.code ({ cls := "ScholarsPressModel", name := "place", desc := "()I" } : Jvm.MethodName) prog_21_method_23_code (1 : Nat) (Option.some Jvm.ClassFile.FieldType.int)) ∈ lw_all := lw_g (lw_at lw_m18 217 rfl) rfl
theorem q4653 : (Jvm.Cond.instanceMethod ({ cls := "ScholarsPressModel", name := "set", desc := "(I)I" } : Jvm.MethodName)) ∈ lw_all := lw_g (lw_at lw_m18 219 rfl) rfl
theorem q4654 : (Jvm.Cond.selects "ScholarsPressModel" ({ cls := "ScholarsPressModel", name := "set", desc := "(I)I" } : Jvm.MethodName) ({ cls := "ScholarsPressModel", name := "set", desc := "(I)I" } : Jvm.MethodName)) ∈ lw_all := lw_g (lw_at lw_m18 220 rfl) rfl
theorem q4655 : (Jvm.Cond.codeWith ({ cls := "ScholarsPressModel", name := "set", desc := "(I)I" } : Jvm.MethodName) prog_21_method_24_code (4 : Nat) (Option.some Jvm.ClassFile.FieldType.int) [((32 : Nat), (57 : Nat), (60 : Nat), (170 : Nat)), ((32 : Nat), (57 : Nat), (67 : Nat), (172 : Nat))]) ∈ lw_all := lw_g (lw_at lw_m18 221 rfl) rfl
theorem q4656 : (Jvm.Cond.classLink "ScholarsPressModel" (170 : Nat) "ScholarsPressModel$Beyond") ∈ lw_all := lw_g (lw_at lw_m18 222 rfl) rfl
theorem q4657 : (Jvm.Cond.classLink "ScholarsPressModel" (172 : Nat) "java/lang/ArithmeticException") ∈ lw_all := lw_g (lw_at lw_m18 223 rfl) rfl
theorem q4658 : (Jvm.Cond.methodLink "ScholarsPressModel" (162 : Nat) ({ cls := "ScholarsPressModel", name := "in", desc := "(III)Z" } : Jvm.MethodName)) ∈ lw_all := lw_g (lw_at lw_m18 224 rfl) rfl
theorem q4659 : (Jvm.Cond.static ({ cls := "ScholarsPressModel", name := "in", desc := "(III)Z" } : Jvm.MethodName)) ∈ lw_all := lw_g (lw_at lw_m18 225 rfl) rfl
theorem q4660 : (Jvm.Cond.code ({ cls := "ScholarsPressModel", name := "in", desc := "(III)Z" } : Jvm.MethodName) prog_21_method_4_code (3 : Nat) (Option.some Jvm.ClassFile.FieldType.boolean)) ∈ lw_all := lw_g (lw_at lw_m18 226 rfl) rfl
theorem q4661 : (Jvm.Cond.methodLink "ScholarsPressModel" (166 : Nat) ({ cls := "ScholarsPressModel$Setting", name := "make", desc := "(LScholarsPressModel$Source;LScholarsPressModel$Style;LScholarsPressModel$Letters;LScholarsPressModel$Parting;I)I" } : Jvm.MethodName)) ∈ lw_all := lw_g (lw_at lw_m18 227 rfl) rfl
theorem q4814 : (Jvm.Cond.static ({ cls := "ScholarsPressModel", name := "small", desc := "(I)I" } : Jvm.MethodName)) ∈ lw_all := lw_g (lw_at lw_m19 140 rfl) rfl
theorem q4815 : (Jvm.Cond.code ({ cls := "ScholarsPressModel", name := "small", desc := "(I)I" } : Jvm.MethodName) prog_21_method_8_code (1 : Nat) (Option.some Jvm.ClassFile.FieldType.int)) ∈ lw_all := lw_g (lw_at lw_m19 141 rfl) rfl
theorem q4951 : (Jvm.Cond.static ({ cls := "ScholarsPressModel", name := "isLetter", desc := "(I)Z" } : Jvm.MethodName)) ∈ lw_all := lw_g (lw_at lw_m20 37 rfl) rfl
theorem q4952 : (Jvm.Cond.code ({ cls := "ScholarsPressModel", name := "isLetter", desc := "(I)Z" } : Jvm.MethodName) prog_21_method_7_code (1 : Nat) (Option.some Jvm.ClassFile.FieldType.boolean)) ∈ lw_all := lw_g (lw_at lw_m20 38 rfl) rfl
theorem q4953 : (Jvm.Cond.methodLink "ScholarsPressModel" (90 : Nat) ({ cls := "ScholarsPressModel", name := "isSmall", desc := "(I)Z" } : Jvm.MethodName)) ∈ lw_all := lw_g (lw_at lw_m20 39 rfl) rfl
theorem q5134 : (Jvm.Cond.methodLink "ScholarsPressModel" (177 : Nat) ({ cls := "ScholarsPressModel$Setting", name := "compare", desc := "(LScholarsPressModel$Setting;Z)V" } : Jvm.MethodName)) ∈ lw_all := lw_g (lw_at lw_m20 220 rfl) rfl
theorem q5143 : (Jvm.Cond.instanceMethod ({ cls := "ScholarsPressModel", name := "element", desc := "(II)I" } : Jvm.MethodName)) ∈ lw_all := lw_g (lw_at lw_m20 229 rfl) rfl
theorem q5144 : (Jvm.Cond.selects "ScholarsPressModel" ({ cls := "ScholarsPressModel", name := "element", desc := "(II)I" } : Jvm.MethodName) ({ cls := "ScholarsPressModel", name := "element", desc := "(II)I" } : Jvm.MethodName)) ∈ lw_all := lw_g (lw_at lw_m20 230 rfl) rfl
theorem q5145 : (Jvm.Cond.code ({ cls := "ScholarsPressModel", name := "element", desc := "(II)I" } : Jvm.MethodName) prog_21_method_25_code (3 : Nat) (Option.some Jvm.ClassFile.FieldType.int)) ∈ lw_all := lw_g (lw_at lw_m20 231 rfl) rfl
theorem q5146 : (Jvm.Cond.methodLink "ScholarsPressModel" (181 : Nat) ({ cls := "ScholarsPressModel$Tree", name := "make", desc := "(LScholarsPressModel$Source;LScholarsPressModel$Style;)V" } : Jvm.MethodName)) ∈ lw_all := lw_g (lw_at lw_m20 232 rfl) rfl
theorem q5147 : (Jvm.Cond.methodLink "ScholarsPressModel" (203 : Nat) ({ cls := "ScholarsPressModel$Tree", name := "title", desc := "(I)I" } : Jvm.MethodName)) ∈ lw_all := lw_g (lw_at lw_m20 233 rfl) rfl
theorem q5148 : (Jvm.Cond.methodLink "ScholarsPressModel" (209 : Nat) ({ cls := "ScholarsPressModel$Tree", name := "of", desc := "(II)I" } : Jvm.MethodName)) ∈ lw_all := lw_g (lw_at lw_m20 234 rfl) rfl
theorem q5150 : (Jvm.Cond.instanceMethod ({ cls := "ScholarsPressModel", name := "count", desc := "(I)I" } : Jvm.MethodName)) ∈ lw_all := lw_g (lw_at lw_m20 236 rfl) rfl
theorem q5151 : (Jvm.Cond.selects "ScholarsPressModel" ({ cls := "ScholarsPressModel", name := "count", desc := "(I)I" } : Jvm.MethodName) ({ cls := "ScholarsPressModel", name := "count", desc := "(I)I" } : Jvm.MethodName)) ∈ lw_all := lw_g (lw_at lw_m20 237 rfl) rfl
theorem q5152 : (Jvm.Cond.code ({ cls := "ScholarsPressModel", name := "count", desc := "(I)I" } : Jvm.MethodName) prog_21_method_26_code (2 : Nat) (Option.some Jvm.ClassFile.FieldType.int)) ∈ lw_all := lw_g (lw_at lw_m20 238 rfl) rfl
theorem q5154 : (Jvm.Cond.instanceMethod ({ cls := "ScholarsPressModel", name := "line", desc := "(II)I" } : Jvm.MethodName)) ∈ lw_all := lw_g (lw_at lw_m21 0 rfl) rfl
theorem q5155 : (Jvm.Cond.selects "ScholarsPressModel" ({ cls := "ScholarsPressModel", name := "line", desc := "(II)I" } : Jvm.MethodName) ({ cls := "ScholarsPressModel", name := "line", desc := "(II)I" } : Jvm.MethodName)) ∈ lw_all := lw_g (lw_at lw_m21 1 rfl) rfl
theorem q5156 : (Jvm.Cond.code ({ cls := "ScholarsPressModel", name := "line", desc := "(II)I" } : Jvm.MethodName) prog_21_method_27_code (5 : Nat) (Option.some Jvm.ClassFile.FieldType.int)) ∈ lw_all := lw_g (lw_at lw_m21 2 rfl) rfl
theorem q5157 : (Jvm.Cond.methodLink "ScholarsPressModel" (276 : Nat) ({ cls := "ScholarsPressModel$Setting", name := "beginsAt", desc := "(II)J" } : Jvm.MethodName)) ∈ lw_all := lw_g (lw_at lw_m21 3 rfl) rfl
theorem q5166 : (Jvm.Cond.instanceMethod ({ cls := "ScholarsPressModel", name := "spot", desc := "(II)J" } : Jvm.MethodName)) ∈ lw_all := lw_g (lw_at lw_m21 12 rfl) rfl
theorem q5167 : (Jvm.Cond.selects "ScholarsPressModel" ({ cls := "ScholarsPressModel", name := "spot", desc := "(II)J" } : Jvm.MethodName) ({ cls := "ScholarsPressModel", name := "spot", desc := "(II)J" } : Jvm.MethodName)) ∈ lw_all := lw_g (lw_at lw_m21 13 rfl) rfl
theorem q5168 : (Jvm.Cond.code ({ cls := "ScholarsPressModel", name := "spot", desc := "(II)J" } : Jvm.MethodName) prog_21_method_28_code (5 : Nat) (Option.some Jvm.ClassFile.FieldType.long)) ∈ lw_all := lw_g (lw_at lw_m21 14 rfl) rfl
theorem q5169 : (Jvm.Cond.methodLink "ScholarsPressModel" (280 : Nat) ({ cls := "ScholarsPressModel$Setting", name := "words", desc := "(II)I" } : Jvm.MethodName)) ∈ lw_all := lw_g (lw_at lw_m21 15 rfl) rfl
theorem q5173 : (Jvm.Cond.methodLink "ScholarsPressModel" (283 : Nat) ({ cls := "ScholarsPressModel$Setting", name := "spot", desc := "(III)J" } : Jvm.MethodName)) ∈ lw_all := lw_g (lw_at lw_m21 19 rfl) rfl
theorem q5180 : (Jvm.Cond.instanceMethod ({ cls := "ScholarsPressModel", name := "paragraph", desc := "(II)J" } : Jvm.MethodName)) ∈ lw_all := lw_g (lw_at lw_m21 26 rfl) rfl
theorem q5181 : (Jvm.Cond.selects "ScholarsPressModel" ({ cls := "ScholarsPressModel", name := "paragraph", desc := "(II)J" } : Jvm.MethodName) ({ cls := "ScholarsPressModel", name := "paragraph", desc := "(II)J" } : Jvm.MethodName)) ∈ lw_all := lw_g (lw_at lw_m21 27 rfl) rfl
theorem q5182 : (Jvm.Cond.code ({ cls := "ScholarsPressModel", name := "paragraph", desc := "(II)J" } : Jvm.MethodName) prog_21_method_29_code (3 : Nat) (Option.some Jvm.ClassFile.FieldType.long)) ∈ lw_all := lw_g (lw_at lw_m21 28 rfl) rfl
theorem q5184 : (Jvm.Cond.instanceMethod ({ cls := "ScholarsPressModel", name := "judge", desc := "(I)J" } : Jvm.MethodName)) ∈ lw_all := lw_g (lw_at lw_m21 30 rfl) rfl
theorem q5185 : (Jvm.Cond.selects "ScholarsPressModel" ({ cls := "ScholarsPressModel", name := "judge", desc := "(I)J" } : Jvm.MethodName) ({ cls := "ScholarsPressModel", name := "judge", desc := "(I)J" } : Jvm.MethodName)) ∈ lw_all := lw_g (lw_at lw_m21 31 rfl) rfl
theorem q5186 : (Jvm.Cond.code ({ cls := "ScholarsPressModel", name := "judge", desc := "(I)J" } : Jvm.MethodName) prog_21_method_30_code (7 : Nat) (Option.some Jvm.ClassFile.FieldType.long)) ∈ lw_all := lw_g (lw_at lw_m21 32 rfl) rfl
theorem q5187 : (Jvm.Cond.methodLink "ScholarsPressModel" (307 : Nat) ({ cls := "ScholarsPressModel", name := "isBlank", desc := "(I)Z" } : Jvm.MethodName)) ∈ lw_all := lw_g (lw_at lw_m21 33 rfl) rfl
theorem q5188 : (Jvm.Cond.methodLink "ScholarsPressModel" (310 : Nat) ({ cls := "ScholarsPressModel", name := "isDigit", desc := "(I)Z" } : Jvm.MethodName)) ∈ lw_all := lw_g (lw_at lw_m21 34 rfl) rfl
theorem q5189 : (Jvm.Cond.methodLink "ScholarsPressModel" (313 : Nat) ({ cls := "ScholarsPressModel$Setting", name := "judge", desc := "(I[II)J" } : Jvm.MethodName)) ∈ lw_all := lw_g (lw_at lw_m21 35 rfl) rfl
theorem q5194 : (Jvm.Cond.instanceMethod ({ cls := "ScholarsPressModel", name := "where", desc := "(I)I" } : Jvm.MethodName)) ∈ lw_all := lw_g (lw_at lw_m21 40 rfl) rfl
theorem q5195 : (Jvm.Cond.selects "ScholarsPressModel" ({ cls := "ScholarsPressModel", name := "where", desc := "(I)I" } : Jvm.MethodName) ({ cls := "ScholarsPressModel", name := "where", desc := "(I)I" } : Jvm.MethodName)) ∈ lw_all := lw_g (lw_at lw_m21 41 rfl) rfl
theorem q5196 : (Jvm.Cond.code ({ cls := "ScholarsPressModel", name := "where", desc := "(I)I" } : Jvm.MethodName) prog_21_method_31_code (3 : Nat) (Option.some Jvm.ClassFile.FieldType.int)) ∈ lw_all := lw_g (lw_at lw_m21 42 rfl) rfl
theorem q5197 : (Jvm.Cond.methodLink "ScholarsPressModel" (317 : Nat) ({ cls := "ScholarsPressModel$Source", name := "elementOf", desc := "([BII)I" } : Jvm.MethodName)) ∈ lw_all := lw_g (lw_at lw_m21 43 rfl) rfl
theorem q5199 : (Jvm.Cond.instanceMethod ({ cls := "ScholarsPressModel", name := "note", desc := "(II)I" } : Jvm.MethodName)) ∈ lw_all := lw_g (lw_at lw_m21 45 rfl) rfl
theorem q5200 : (Jvm.Cond.selects "ScholarsPressModel" ({ cls := "ScholarsPressModel", name := "note", desc := "(II)I" } : Jvm.MethodName) ({ cls := "ScholarsPressModel", name := "note", desc := "(II)I" } : Jvm.MethodName)) ∈ lw_all := lw_g (lw_at lw_m21 46 rfl) rfl
theorem q5201 : (Jvm.Cond.code ({ cls := "ScholarsPressModel", name := "note", desc := "(II)I" } : Jvm.MethodName) prog_21_method_32_code (4 : Nat) (Option.some Jvm.ClassFile.FieldType.int)) ∈ lw_all := lw_g (lw_at lw_m21 47 rfl) rfl
theorem q5203 : (Jvm.Cond.instanceMethod ({ cls := "ScholarsPressModel", name := "wavering", desc := "(I)I" } : Jvm.MethodName)) ∈ lw_all := lw_g (lw_at lw_m21 49 rfl) rfl
theorem q5204 : (Jvm.Cond.selects "ScholarsPressModel" ({ cls := "ScholarsPressModel", name := "wavering", desc := "(I)I" } : Jvm.MethodName) ({ cls := "ScholarsPressModel", name := "wavering", desc := "(I)I" } : Jvm.MethodName)) ∈ lw_all := lw_g (lw_at lw_m21 50 rfl) rfl
theorem q5205 : (Jvm.Cond.code ({ cls := "ScholarsPressModel", name := "wavering", desc := "(I)I" } : Jvm.MethodName) prog_21_method_33_code (4 : Nat) (Option.some Jvm.ClassFile.FieldType.int)) ∈ lw_all := lw_g (lw_at lw_m21 51 rfl) rfl
theorem q5207 : (Jvm.Cond.instanceMethod ({ cls := "ScholarsPressModel", name := "print", desc := "(I)I" } : Jvm.MethodName)) ∈ lw_all := lw_g (lw_at lw_m21 53 rfl) rfl
theorem q5208 : (Jvm.Cond.selects "ScholarsPressModel" ({ cls := "ScholarsPressModel", name := "print", desc := "(I)I" } : Jvm.MethodName) ({ cls := "ScholarsPressModel", name := "print", desc := "(I)I" } : Jvm.MethodName)) ∈ lw_all := lw_g (lw_at lw_m21 54 rfl) rfl
theorem q5209 : (Jvm.Cond.code ({ cls := "ScholarsPressModel", name := "print", desc := "(I)I" } : Jvm.MethodName) prog_21_method_39_code (5 : Nat) (Option.some Jvm.ClassFile.FieldType.int)) ∈ lw_all := lw_g (lw_at lw_m21 55 rfl) rfl
theorem q5210 : (Jvm.Cond.methodLink "ScholarsPressModel" (373 : Nat) ({ cls := "ScholarsPressModel", name := "putNumber", desc := "(J)V" } : Jvm.MethodName)) ∈ lw_all := lw_g (lw_at lw_m21 56 rfl) rfl
theorem q5211 : (Jvm.Cond.privateMethod ({ cls := "ScholarsPressModel", name := "putNumber", desc := "(J)V" } : Jvm.MethodName)) ∈ lw_tbl := lw_at lw_m21 57 rfl
theorem q5212 : (Jvm.Cond.instanceMethod ({ cls := "ScholarsPressModel", name := "putNumber", desc := "(J)V" } : Jvm.MethodName)) ∈ lw_all := lw_g (lw_at lw_m21 58 rfl) rfl
theorem q5213 : (Jvm.Cond.code ({ cls := "ScholarsPressModel", name := "putNumber", desc := "(J)V" } : Jvm.MethodName) prog_21_method_35_code (3 : Nat) (Option.none : Option Jvm.ClassFile.FieldType)) ∈ lw_all := lw_g (lw_at lw_m21 59 rfl) rfl
theorem q5214 : (Jvm.Cond.methodLink "ScholarsPressModel" (370 : Nat) ({ cls := "ScholarsPressModel", name := "put", desc := "(I)V" } : Jvm.MethodName)) ∈ lw_all := lw_g (lw_at lw_m21 60 rfl) rfl
theorem q5215 : (Jvm.Cond.privateMethod ({ cls := "ScholarsPressModel", name := "put", desc := "(I)V" } : Jvm.MethodName)) ∈ lw_tbl := lw_at lw_m21 61 rfl
theorem q5216 : (Jvm.Cond.instanceMethod ({ cls := "ScholarsPressModel", name := "put", desc := "(I)V" } : Jvm.MethodName)) ∈ lw_all := lw_g (lw_at lw_m21 62 rfl) rfl
theorem q5217 : (Jvm.Cond.code ({ cls := "ScholarsPressModel", name := "put", desc := "(I)V" } : Jvm.MethodName) prog_21_method_34_code (4 : Nat) (Option.none : Option Jvm.ClassFile.FieldType)) ∈ lw_all := lw_g (lw_at lw_m21 63 rfl) rfl
theorem q5218 : (Jvm.Cond.constantLong "ScholarsPressModel" (377 : Nat) (10 : Int64)) ∈ lw_all := lw_g (lw_at lw_m21 64 rfl) rfl
theorem q5219 : (Jvm.Cond.constantLong "ScholarsPressModel" (379 : Nat) (48 : Int64)) ∈ lw_all := lw_g (lw_at lw_m21 65 rfl) rfl
theorem q5220 : (Jvm.Cond.methodLink "ScholarsPressModel" (430 : Nat) ({ cls := "ScholarsPressModel$Setting", name := "headOf", desc := "(I)I" } : Jvm.MethodName)) ∈ lw_all := lw_g (lw_at lw_m21 66 rfl) rfl
theorem q5224 : (Jvm.Cond.methodLink "ScholarsPressModel" (433 : Nat) ({ cls := "ScholarsPressModel$Tree", name := "titleByte", desc := "(I)I" } : Jvm.MethodName)) ∈ lw_all := lw_g (lw_at lw_m21 70 rfl) rfl
theorem q5225 : (Jvm.Cond.methodLink "ScholarsPressModel" (436 : Nat) ({ cls := "ScholarsPressModel$Setting", name := "pageOf", desc := "(I)I" } : Jvm.MethodName)) ∈ lw_all := lw_g (lw_at lw_m21 71 rfl) rfl
theorem q5226 : (Jvm.Cond.methodLink "ScholarsPressModel" (439 : Nat) ({ cls := "ScholarsPressModel", name := "putColumn", desc := "(I)V" } : Jvm.MethodName)) ∈ lw_all := lw_g (lw_at lw_m21 72 rfl) rfl
theorem q5227 : (Jvm.Cond.privateMethod ({ cls := "ScholarsPressModel", name := "putColumn", desc := "(I)V" } : Jvm.MethodName)) ∈ lw_tbl := lw_at lw_m21 73 rfl
theorem q5228 : (Jvm.Cond.instanceMethod ({ cls := "ScholarsPressModel", name := "putColumn", desc := "(I)V" } : Jvm.MethodName)) ∈ lw_all := lw_g (lw_at lw_m21 74 rfl) rfl
theorem q5229 : (Jvm.Cond.code ({ cls := "ScholarsPressModel", name := "putColumn", desc := "(I)V" } : Jvm.MethodName) prog_21_method_38_code (9 : Nat) (Option.none : Option Jvm.ClassFile.FieldType)) ∈ lw_all := lw_g (lw_at lw_m21 75 rfl) rfl
theorem q5230 : (Jvm.Cond.methodLink "ScholarsPressModel" (408 : Nat) ({ cls := "ScholarsPressModel", name := "putRow", desc := "(JJI)V" } : Jvm.MethodName)) ∈ lw_all := lw_g (lw_at lw_m21 76 rfl) rfl
theorem q5231 : (Jvm.Cond.privateMethod ({ cls := "ScholarsPressModel", name := "putRow", desc := "(JJI)V" } : Jvm.MethodName)) ∈ lw_tbl := lw_at lw_m21 77 rfl
theorem q5232 : (Jvm.Cond.instanceMethod ({ cls := "ScholarsPressModel", name := "putRow", desc := "(JJI)V" } : Jvm.MethodName)) ∈ lw_all := lw_g (lw_at lw_m21 78 rfl) rfl
theorem q5233 : (Jvm.Cond.code ({ cls := "ScholarsPressModel", name := "putRow", desc := "(JJI)V" } : Jvm.MethodName) prog_21_method_37_code (11 : Nat) (Option.none : Option Jvm.ClassFile.FieldType)) ∈ lw_all := lw_g (lw_at lw_m21 79 rfl) rfl
theorem q5234 : (Jvm.Cond.methodLink "ScholarsPressModel" (401 : Nat) ({ cls := "ScholarsPressModel", name := "putLine", desc := "(JJII)V" } : Jvm.MethodName)) ∈ lw_all := lw_g (lw_at lw_m21 80 rfl) rfl
theorem q5235 : (Jvm.Cond.privateMethod ({ cls := "ScholarsPressModel", name := "putLine", desc := "(JJII)V" } : Jvm.MethodName)) ∈ lw_tbl := lw_at lw_m21 81 rfl
theorem q5236 : (Jvm.Cond.instanceMethod ({ cls := "ScholarsPressModel", name := "putLine", desc := "(JJII)V" } : Jvm.MethodName)) ∈ lw_all := lw_g (lw_at lw_m21 82 rfl) rfl
theorem q5237 : (Jvm.Cond.code ({ cls := "ScholarsPressModel", name := "putLine", desc := "(JJII)V" } : Jvm.MethodName) prog_21_method_36_code (8 : Nat) (Option.none : Option Jvm.ClassFile.FieldType)) ∈ lw_all := lw_g (lw_at lw_m21 83 rfl) rfl
theorem q5238 : (Jvm.Cond.constant "ScholarsPressModel" (381 : Nat) (65536 : Int32)) ∈ lw_all := lw_g (lw_at lw_m21 84 rfl) rfl
theorem q5239 : (Jvm.Cond.methodLink "ScholarsPressModel" (382 : Nat) ({ cls := "ScholarsPressModel$Setting", name := "byteFrom", desc := "(II)I" } : Jvm.MethodName)) ∈ lw_all := lw_g (lw_at lw_m21 85 rfl) rfl
theorem q5243 : (Jvm.Cond.methodLink "ScholarsPressModel" (385 : Nat) ({ cls := "ScholarsPressModel$Setting", name := "byteTo", desc := "(II)I" } : Jvm.MethodName)) ∈ lw_all := lw_g (lw_at lw_m21 89 rfl) rfl
theorem q5244 : (Jvm.Cond.methodLink "ScholarsPressModel" (391 : Nat) ({ cls := "ScholarsPressModel$Setting", name := "endsHyphen", desc := "(II)Z" } : Jvm.MethodName)) ∈ lw_all := lw_g (lw_at lw_m21 90 rfl) rfl
theorem q5246 : (Jvm.Cond.instanceMethod ({ cls := "ScholarsPressModel", name := "word", desc := "(I)J" } : Jvm.MethodName)) ∈ lw_all := lw_g (lw_at lw_m21 92 rfl) rfl
theorem q5247 : (Jvm.Cond.selects "ScholarsPressModel" ({ cls := "ScholarsPressModel", name := "word", desc := "(I)J" } : Jvm.MethodName) ({ cls := "ScholarsPressModel", name := "word", desc := "(I)J" } : Jvm.MethodName)) ∈ lw_all := lw_g (lw_at lw_m21 93 rfl) rfl
theorem q5248 : (Jvm.Cond.code ({ cls := "ScholarsPressModel", name := "word", desc := "(I)J" } : Jvm.MethodName) prog_21_method_40_code (5 : Nat) (Option.some Jvm.ClassFile.FieldType.long)) ∈ lw_all := lw_g (lw_at lw_m21 94 rfl) rfl
theorem q5249 : (Jvm.Cond.constantLong "ScholarsPressModel" (445 : Nat) (255 : Int64)) ∈ lw_all := lw_g (lw_at lw_m21 95 rfl) rfl
theorem in_X18 : ∀ w ∈ wsX180, w ∈ lw_all := lw_in wsX180 [4259, 4261, 4263, 4265, 4267, 4269, 4271, 4273, 4275, 4277, 4279, 4281, 4283, 4285, 4287, 4289, 4291, 4293, 4295, 4297, 4299, 4301, 4303] (by decide +kernel) (by decide +kernel)
/-! ScholarsPressModel$Letters -/
def RX19 : String := "ScholarsPressModel$Letters"
def TX19 : u_T := fun k => match k with
  | 0 => ("ScholarsPressModel$Letters", "width", "[I", true)
  | 1 => ("ScholarsPressModel$Letters", "told", "[Z", true)
  | 2 => ("ScholarsPressModel$Letters", "kerns", "I", false)
  | 3 => ("ScholarsPressModel$Letters", "joins", "I", false)
  | 4 => ("ScholarsPressModel$Letters", "kernOf", "[I", true)
  | 5 => ("ScholarsPressModel$Letters", "kern", "[I", true)
  | 6 => ("ScholarsPressModel$Letters", "joinOf", "[I", true)
  | 7 => ("ScholarsPressModel$Letters", "join", "[I", true)
  | _ => ("ScholarsPressModel$Letters", "signs", "LScholarsPressModel$Signs;", true)
def tyX19 : Nat → FieldType := fun k => match k with
  | 0 => .array .int
  | 1 => .array .boolean
  | 2 => .int
  | 3 => .int
  | 4 => .array .int
  | 5 => .array .int
  | 6 => .array .int
  | 7 => .array .int
  | _ => .object "ScholarsPressModel$Signs"
abbrev wsX190 : List Cond := u_ws RX19 TX19 9
theorem nmX19 : ∀ a, a < 9 → ∀ b, b < 9 → a ≠ b → (TX19 a).2.1 ≠ (TX19 b).2.1 := by decide +kernel
theorem tyX19_ok : ∀ k, k < 9 → parseFieldDescriptor (TX19 k).2.2.1 = some (tyX19 k) := by decide +kernel
abbrev cX19_init : ByteArray := prog_24_method_1_code
def yX19_init : MethodName := ⟨RX19, "<init>", "()V"⟩
abbrev cX19_clear : ByteArray := prog_24_method_2_code
def yX19_clear : MethodName := ⟨RX19, "clear", "()V"⟩
abbrev cX19_read : ByteArray := prog_24_method_6_code
def yX19_read : MethodName := ⟨RX19, "read", "([BI)V"⟩
abbrev cX19_one : ByteArray := prog_24_method_7_code
def yX19_one : MethodName := ⟨RX19, "one", "()V"⟩
abbrev cX19_single : ByteArray := prog_24_method_4_code
def yX19_single : MethodName := ⟨RX19, "single", "()I"⟩
abbrev cX19_find : ByteArray := prog_24_method_5_code
def yX19_find : MethodName := ⟨RX19, "find", "([III)I"⟩
abbrev cX19_all : ByteArray := prog_24_method_8_code
def yX19_all : MethodName := ⟨RX19, "all", "()I"⟩
abbrev cX19_joinOf : ByteArray := prog_24_method_10_code
def yX19_joinOf : MethodName := ⟨RX19, "joinOf", "(II)I"⟩
abbrev cX19_kernOf : ByteArray := prog_24_method_9_code
def yX19_kernOf : MethodName := ⟨RX19, "kernOf", "(II)I"⟩
theorem q373 : (Jvm.Cond.initialized "ScholarsPressModel$Letters") ∈ lw_all := lw_g (lw_at lw_m1 19 rfl) rfl
theorem q3262 : (Jvm.Cond.instantiable "ScholarsPressModel$Letters" (9 : Nat)) ∈ lw_all := lw_g (lw_at lw_m13 28 rfl) rfl
theorem q3264 : (Jvm.Cond.instanceMethod ({ cls := "ScholarsPressModel$Letters", name := "<init>", desc := "()V" } : Jvm.MethodName)) ∈ lw_all := lw_g (lw_at lw_m13 30 rfl) rfl
theorem q3265 : (Jvm.Cond.code ({ cls := "ScholarsPressModel$Letters", name := "<init>", desc := "()V" } : Jvm.MethodName) prog_24_method_1_code (1 : Nat) (Option.none : Option Jvm.ClassFile.FieldType)) ∈ lw_all := lw_g (lw_at lw_m13 31 rfl) rfl
theorem q3266 : (Jvm.Cond.methodLink "ScholarsPressModel$Letters" (1 : Nat) ({ cls := "java/lang/Object", name := "<init>", desc := "()V" } : Jvm.MethodName)) ∈ lw_all := lw_g (lw_at lw_m13 32 rfl) rfl
theorem q3267 : (Jvm.Cond.classLink "ScholarsPressModel$Letters" (29 : Nat) "ScholarsPressModel$Signs") ∈ lw_all := lw_g (lw_at lw_m13 33 rfl) rfl
theorem q3269 : (Jvm.Cond.methodLinkNest "ScholarsPressModel$Letters" (31 : Nat) ({ cls := "ScholarsPressModel$Signs", name := "<init>", desc := "()V" } : Jvm.MethodName) "ScholarsPressModel") ∈ lw_tbl := lw_at lw_m13 35 rfl
theorem q3278 : (Jvm.Cond.fieldLink "ScholarsPressModel$Letters" (46 : Nat) "ScholarsPressModel$Signs" "kind" "I") ∈ lw_all := lw_g (lw_at lw_m13 44 rfl) rfl
theorem q3282 : (Jvm.Cond.fieldLink "ScholarsPressModel$Letters" (87 : Nat) "ScholarsPressModel$Signs" "from" "I") ∈ lw_all := lw_g (lw_at lw_m13 48 rfl) rfl
theorem q3306 : (Jvm.Cond.methodLink "ScholarsPressModel$Letters" (36 : Nat) ({ cls := "ScholarsPressModel$Letters", name := "clear", desc := "()V" } : Jvm.MethodName)) ∈ lw_all := lw_g (lw_at lw_m13 72 rfl) rfl
theorem q3307 : (Jvm.Cond.instanceMethod ({ cls := "ScholarsPressModel$Letters", name := "clear", desc := "()V" } : Jvm.MethodName)) ∈ lw_all := lw_g (lw_at lw_m13 73 rfl) rfl
theorem q3308 : (Jvm.Cond.selects "ScholarsPressModel$Letters" ({ cls := "ScholarsPressModel$Letters", name := "clear", desc := "()V" } : Jvm.MethodName) ({ cls := "ScholarsPressModel$Letters", name := "clear", desc := "()V" } : Jvm.MethodName)) ∈ lw_all := lw_g (lw_at lw_m13 74 rfl) rfl
theorem q3309 : (Jvm.Cond.code ({ cls := "ScholarsPressModel$Letters", name := "clear", desc := "()V" } : Jvm.MethodName) prog_24_method_2_code (2 : Nat) (Option.none : Option Jvm.ClassFile.FieldType)) ∈ lw_all := lw_g (lw_at lw_m13 75 rfl) rfl
theorem q3310 : (Jvm.Cond.fieldLink "ScholarsPressModel$Letters" (7 : Nat) "ScholarsPressModel$Letters" "width" "[I") ∈ lw_all := lw_g (lw_at lw_m13 76 rfl) rfl
theorem q3312 : (Jvm.Cond.fieldLink "ScholarsPressModel$Letters" (13 : Nat) "ScholarsPressModel$Letters" "told" "[Z") ∈ lw_all := lw_g (lw_at lw_m13 78 rfl) rfl
theorem q3313 : (Jvm.Cond.fieldLink "ScholarsPressModel$Letters" (39 : Nat) "ScholarsPressModel$Letters" "kerns" "I") ∈ lw_all := lw_g (lw_at lw_m13 79 rfl) rfl
theorem q3314 : (Jvm.Cond.fieldLink "ScholarsPressModel$Letters" (43 : Nat) "ScholarsPressModel$Letters" "joins" "I") ∈ lw_all := lw_g (lw_at lw_m13 80 rfl) rfl
theorem q3315 : (Jvm.Cond.fieldLink "ScholarsPressModel$Letters" (17 : Nat) "ScholarsPressModel$Letters" "kernOf" "[I") ∈ lw_all := lw_g (lw_at lw_m13 81 rfl) rfl
theorem q3316 : (Jvm.Cond.fieldLink "ScholarsPressModel$Letters" (20 : Nat) "ScholarsPressModel$Letters" "kern" "[I") ∈ lw_all := lw_g (lw_at lw_m13 82 rfl) rfl
theorem q3317 : (Jvm.Cond.fieldLink "ScholarsPressModel$Letters" (23 : Nat) "ScholarsPressModel$Letters" "joinOf" "[I") ∈ lw_all := lw_g (lw_at lw_m13 83 rfl) rfl
theorem q3318 : (Jvm.Cond.fieldLink "ScholarsPressModel$Letters" (26 : Nat) "ScholarsPressModel$Letters" "join" "[I") ∈ lw_all := lw_g (lw_at lw_m13 84 rfl) rfl
theorem q3319 : (Jvm.Cond.fieldLink "ScholarsPressModel$Letters" (32 : Nat) "ScholarsPressModel$Letters" "signs" "LScholarsPressModel$Signs;") ∈ lw_all := lw_g (lw_at lw_m13 85 rfl) rfl
theorem q3320 : (Jvm.Cond.laysFinal "ScholarsPressModel$Letters" "ScholarsPressModel$Letters" "width" "[I") ∈ lw_all := lw_g (lw_at lw_m13 86 rfl) rfl
theorem q3321 : (Jvm.Cond.soleField "ScholarsPressModel$Letters" "width") ∈ lw_all := lw_g (lw_at lw_m13 87 rfl) rfl
theorem q3322 : (Jvm.Cond.laysFinal "ScholarsPressModel$Letters" "ScholarsPressModel$Letters" "told" "[Z") ∈ lw_all := lw_g (lw_at lw_m13 88 rfl) rfl
theorem q3323 : (Jvm.Cond.soleField "ScholarsPressModel$Letters" "told") ∈ lw_all := lw_g (lw_at lw_m13 89 rfl) rfl
theorem q3324 : (Jvm.Cond.lays "ScholarsPressModel$Letters" "ScholarsPressModel$Letters" "kerns" "I") ∈ lw_all := lw_g (lw_at lw_m13 90 rfl) rfl
theorem q3325 : (Jvm.Cond.soleField "ScholarsPressModel$Letters" "kerns") ∈ lw_all := lw_g (lw_at lw_m13 91 rfl) rfl
theorem q3326 : (Jvm.Cond.lays "ScholarsPressModel$Letters" "ScholarsPressModel$Letters" "joins" "I") ∈ lw_all := lw_g (lw_at lw_m13 92 rfl) rfl
theorem q3327 : (Jvm.Cond.soleField "ScholarsPressModel$Letters" "joins") ∈ lw_all := lw_g (lw_at lw_m13 93 rfl) rfl
theorem q3328 : (Jvm.Cond.laysFinal "ScholarsPressModel$Letters" "ScholarsPressModel$Letters" "kernOf" "[I") ∈ lw_all := lw_g (lw_at lw_m13 94 rfl) rfl
theorem q3329 : (Jvm.Cond.soleField "ScholarsPressModel$Letters" "kernOf") ∈ lw_all := lw_g (lw_at lw_m13 95 rfl) rfl
theorem q3330 : (Jvm.Cond.laysFinal "ScholarsPressModel$Letters" "ScholarsPressModel$Letters" "kern" "[I") ∈ lw_all := lw_g (lw_at lw_m13 96 rfl) rfl
theorem q3331 : (Jvm.Cond.soleField "ScholarsPressModel$Letters" "kern") ∈ lw_all := lw_g (lw_at lw_m13 97 rfl) rfl
theorem q3332 : (Jvm.Cond.laysFinal "ScholarsPressModel$Letters" "ScholarsPressModel$Letters" "joinOf" "[I") ∈ lw_all := lw_g (lw_at lw_m13 98 rfl) rfl
theorem q3333 : (Jvm.Cond.soleField "ScholarsPressModel$Letters" "joinOf") ∈ lw_all := lw_g (lw_at lw_m13 99 rfl) rfl
theorem q3334 : (Jvm.Cond.laysFinal "ScholarsPressModel$Letters" "ScholarsPressModel$Letters" "join" "[I") ∈ lw_all := lw_g (lw_at lw_m13 100 rfl) rfl
theorem q3335 : (Jvm.Cond.soleField "ScholarsPressModel$Letters" "join") ∈ lw_all := lw_g (lw_at lw_m13 101 rfl) rfl
theorem q3336 : (Jvm.Cond.laysFinal "ScholarsPressModel$Letters" "ScholarsPressModel$Letters" "signs" "LScholarsPressModel$Signs;") ∈ lw_all := lw_g (lw_at lw_m13 102 rfl) rfl
theorem q3337 : (Jvm.Cond.soleField "ScholarsPressModel$Letters" "signs") ∈ lw_all := lw_g (lw_at lw_m13 103 rfl) rfl
theorem q3338 : (Jvm.Cond.superclass "ScholarsPressModel$Letters" "java/lang/Object") ∈ lw_all := lw_g (lw_at lw_m13 104 rfl) rfl
theorem q4332 : (Jvm.Cond.instanceMethod ({ cls := "ScholarsPressModel$Letters", name := "read", desc := "([BI)V" } : Jvm.MethodName)) ∈ lw_all := lw_g (lw_at lw_m17 138 rfl) rfl
theorem q4333 : (Jvm.Cond.selects "ScholarsPressModel$Letters" ({ cls := "ScholarsPressModel$Letters", name := "read", desc := "([BI)V" } : Jvm.MethodName) ({ cls := "ScholarsPressModel$Letters", name := "read", desc := "([BI)V" } : Jvm.MethodName)) ∈ lw_all := lw_g (lw_at lw_m17 139 rfl) rfl
theorem q4334 : (Jvm.Cond.code ({ cls := "ScholarsPressModel$Letters", name := "read", desc := "([BI)V" } : Jvm.MethodName) prog_24_method_6_code (3 : Nat) (Option.none : Option Jvm.ClassFile.FieldType)) ∈ lw_all := lw_g (lw_at lw_m17 140 rfl) rfl
theorem q4335 : (Jvm.Cond.methodLink "ScholarsPressModel$Letters" (67 : Nat) ({ cls := "ScholarsPressModel$Signs", name := "open", desc := "([BI)V" } : Jvm.MethodName)) ∈ lw_all := lw_g (lw_at lw_m17 141 rfl) rfl
theorem q4356 : (Jvm.Cond.methodLink "ScholarsPressModel$Letters" (71 : Nat) ({ cls := "ScholarsPressModel$Letters", name := "one", desc := "()V" } : Jvm.MethodName)) ∈ lw_all := lw_g (lw_at lw_m17 162 rfl) rfl
theorem q4357 : (Jvm.Cond.privateMethod ({ cls := "ScholarsPressModel$Letters", name := "one", desc := "()V" } : Jvm.MethodName)) ∈ lw_tbl := lw_at lw_m17 163 rfl
theorem q4358 : (Jvm.Cond.instanceMethod ({ cls := "ScholarsPressModel$Letters", name := "one", desc := "()V" } : Jvm.MethodName)) ∈ lw_all := lw_g (lw_at lw_m17 164 rfl) rfl
theorem q4359 : (Jvm.Cond.code ({ cls := "ScholarsPressModel$Letters", name := "one", desc := "()V" } : Jvm.MethodName) prog_24_method_7_code (7 : Nat) (Option.none : Option Jvm.ClassFile.FieldType)) ∈ lw_all := lw_g (lw_at lw_m17 165 rfl) rfl
theorem q4360 : (Jvm.Cond.stringRef "ScholarsPressModel$Letters" (74 : Nat) "width") ∈ lw_tbl := lw_at lw_m17 166 rfl
theorem q4361 : (Jvm.Cond.methodLink "ScholarsPressModel$Letters" (75 : Nat) ({ cls := "ScholarsPressModel$Signs", name := "isName", desc := "(Ljava/lang/String;)Z" } : Jvm.MethodName)) ∈ lw_all := lw_g (lw_at lw_m17 167 rfl) rfl
theorem q4370 : (Jvm.Cond.methodLink "ScholarsPressModel$Letters" (64 : Nat) ({ cls := "ScholarsPressModel$Signs", name := "next", desc := "()V" } : Jvm.MethodName)) ∈ lw_all := lw_g (lw_at lw_m17 176 rfl) rfl
theorem q4371 : (Jvm.Cond.methodLink "ScholarsPressModel$Letters" (79 : Nat) ({ cls := "ScholarsPressModel$Letters", name := "single", desc := "()I" } : Jvm.MethodName)) ∈ lw_all := lw_g (lw_at lw_m17 177 rfl) rfl
theorem q4372 : (Jvm.Cond.privateMethod ({ cls := "ScholarsPressModel$Letters", name := "single", desc := "()I" } : Jvm.MethodName)) ∈ lw_tbl := lw_at lw_m17 178 rfl
theorem q4373 : (Jvm.Cond.instanceMethod ({ cls := "ScholarsPressModel$Letters", name := "single", desc := "()I" } : Jvm.MethodName)) ∈ lw_all := lw_g (lw_at lw_m17 179 rfl) rfl
theorem q4374 : (Jvm.Cond.code ({ cls := "ScholarsPressModel$Letters", name := "single", desc := "()I" } : Jvm.MethodName) prog_24_method_4_code (2 : Nat) (Option.some Jvm.ClassFile.FieldType.int)) ∈ lw_all := lw_g (lw_at lw_m17 180 rfl) rfl
theorem q4375 : (Jvm.Cond.methodLink "ScholarsPressModel$Letters" (49 : Nat) ({ cls := "ScholarsPressModel$Signs", name := "innerEnd", desc := "()I" } : Jvm.MethodName)) ∈ lw_all := lw_g (lw_at lw_m17 181 rfl) rfl
theorem q4379 : (Jvm.Cond.methodLink "ScholarsPressModel$Letters" (53 : Nat) ({ cls := "ScholarsPressModel$Signs", name := "inner", desc := "()I" } : Jvm.MethodName)) ∈ lw_all := lw_g (lw_at lw_m17 185 rfl) rfl
theorem q4383 : (Jvm.Cond.methodLink "ScholarsPressModel$Letters" (56 : Nat) ({ cls := "ScholarsPressModel$Signs", name := "broken", desc := "()LScholarsPressModel$Broken;" } : Jvm.MethodName)) ∈ lw_all := lw_g (lw_at lw_m17 189 rfl) rfl
theorem q4406 : (Jvm.Cond.methodLink "ScholarsPressModel$Letters" (60 : Nat) ({ cls := "ScholarsPressModel$Signs", name := "byteAt", desc := "(I)I" } : Jvm.MethodName)) ∈ lw_all := lw_g (lw_at lw_m17 212 rfl) rfl
theorem q4407 : (Jvm.Cond.methodLink "ScholarsPressModel$Letters" (82 : Nat) ({ cls := "ScholarsPressModel$Signs", name := "needNumber", desc := "(II)I" } : Jvm.MethodName)) ∈ lw_all := lw_g (lw_at lw_m17 213 rfl) rfl
theorem q4412 : (Jvm.Cond.stringRef "ScholarsPressModel$Letters" (86 : Nat) "kern") ∈ lw_tbl := lw_at lw_m17 218 rfl
theorem q4413 : (Jvm.Cond.methodLink "ScholarsPressModel$Letters" (90 : Nat) ({ cls := "ScholarsPressModel$Letters", name := "find", desc := "([III)I" } : Jvm.MethodName)) ∈ lw_all := lw_g (lw_at lw_m17 219 rfl) rfl
theorem q4414 : (Jvm.Cond.static ({ cls := "ScholarsPressModel$Letters", name := "find", desc := "([III)I" } : Jvm.MethodName)) ∈ lw_all := lw_g (lw_at lw_m17 220 rfl) rfl
theorem q4415 : (Jvm.Cond.code ({ cls := "ScholarsPressModel$Letters", name := "find", desc := "([III)I" } : Jvm.MethodName) prog_24_method_5_code (4 : Nat) (Option.some Jvm.ClassFile.FieldType.int)) ∈ lw_all := lw_g (lw_at lw_m17 221 rfl) rfl
theorem q4416 : (Jvm.Cond.classLink "ScholarsPressModel$Letters" (94 : Nat) "ScholarsPressModel$Broken") ∈ lw_all := lw_g (lw_at lw_m17 222 rfl) rfl
theorem q4417 : (Jvm.Cond.methodLink "ScholarsPressModel$Letters" (96 : Nat) ({ cls := "ScholarsPressModel$Broken", name := "<init>", desc := "(I)V" } : Jvm.MethodName)) ∈ lw_all := lw_g (lw_at lw_m17 223 rfl) rfl
theorem q4418 : (Jvm.Cond.methodLink "ScholarsPressModel$Letters" (99 : Nat) ({ cls := "ScholarsPressModel$Signs", name := "isByte", desc := "(I)Z" } : Jvm.MethodName)) ∈ lw_all := lw_g (lw_at lw_m17 224 rfl) rfl
theorem q4422 : (Jvm.Cond.stringRef "ScholarsPressModel$Letters" (103 : Nat) "join") ∈ lw_tbl := lw_at lw_m17 228 rfl
theorem q4423 : (Jvm.Cond.methodLink "ScholarsPressModel$Letters" (104 : Nat) ({ cls := "ScholarsPressModel$Signs", name := "need", desc := "(I)V" } : Jvm.MethodName)) ∈ lw_all := lw_g (lw_at lw_m17 229 rfl) rfl
theorem q4437 : (Jvm.Cond.instanceMethod ({ cls := "ScholarsPressModel$Letters", name := "all", desc := "()I" } : Jvm.MethodName)) ∈ lw_all := lw_g (lw_at lw_m18 3 rfl) rfl
theorem q4438 : (Jvm.Cond.selects "ScholarsPressModel$Letters" ({ cls := "ScholarsPressModel$Letters", name := "all", desc := "()I" } : Jvm.MethodName) ({ cls := "ScholarsPressModel$Letters", name := "all", desc := "()I" } : Jvm.MethodName)) ∈ lw_all := lw_g (lw_at lw_m18 4 rfl) rfl
theorem q4439 : (Jvm.Cond.code ({ cls := "ScholarsPressModel$Letters", name := "all", desc := "()I" } : Jvm.MethodName) prog_24_method_8_code (3 : Nat) (Option.some Jvm.ClassFile.FieldType.int)) ∈ lw_all := lw_g (lw_at lw_m18 5 rfl) rfl
theorem q4975 : (Jvm.Cond.instanceMethod ({ cls := "ScholarsPressModel$Letters", name := "joinOf", desc := "(II)I" } : Jvm.MethodName)) ∈ lw_all := lw_g (lw_at lw_m20 61 rfl) rfl
theorem q4976 : (Jvm.Cond.selects "ScholarsPressModel$Letters" ({ cls := "ScholarsPressModel$Letters", name := "joinOf", desc := "(II)I" } : Jvm.MethodName) ({ cls := "ScholarsPressModel$Letters", name := "joinOf", desc := "(II)I" } : Jvm.MethodName)) ∈ lw_all := lw_g (lw_at lw_m20 62 rfl) rfl
theorem q4977 : (Jvm.Cond.code ({ cls := "ScholarsPressModel$Letters", name := "joinOf", desc := "(II)I" } : Jvm.MethodName) prog_24_method_10_code (4 : Nat) (Option.some Jvm.ClassFile.FieldType.int)) ∈ lw_all := lw_g (lw_at lw_m20 63 rfl) rfl
theorem q4979 : (Jvm.Cond.instanceMethod ({ cls := "ScholarsPressModel$Letters", name := "kernOf", desc := "(II)I" } : Jvm.MethodName)) ∈ lw_all := lw_g (lw_at lw_m20 65 rfl) rfl
theorem q4980 : (Jvm.Cond.selects "ScholarsPressModel$Letters" ({ cls := "ScholarsPressModel$Letters", name := "kernOf", desc := "(II)I" } : Jvm.MethodName) ({ cls := "ScholarsPressModel$Letters", name := "kernOf", desc := "(II)I" } : Jvm.MethodName)) ∈ lw_all := lw_g (lw_at lw_m20 66 rfl) rfl
theorem q4981 : (Jvm.Cond.code ({ cls := "ScholarsPressModel$Letters", name := "kernOf", desc := "(II)I" } : Jvm.MethodName) prog_24_method_9_code (4 : Nat) (Option.some Jvm.ClassFile.FieldType.int)) ∈ lw_all := lw_g (lw_at lw_m20 67 rfl) rfl
theorem in_X19 : ∀ w ∈ wsX190, w ∈ lw_all := lw_in wsX190 [3320, 3322, 3324, 3326, 3328, 3330, 3332, 3334, 3336] (by decide +kernel) (by decide +kernel)
/-! ScholarsPressModel$Signs -/
def RX20 : String := "ScholarsPressModel$Signs"
def TX20 : u_T := fun k => match k with
  | 0 => ("ScholarsPressModel$Signs", "text", "[B", false)
  | 1 => ("ScholarsPressModel$Signs", "length", "I", false)
  | 2 => ("ScholarsPressModel$Signs", "at", "I", false)
  | 3 => ("ScholarsPressModel$Signs", "kind", "I", false)
  | 4 => ("ScholarsPressModel$Signs", "from", "I", false)
  | 5 => ("ScholarsPressModel$Signs", "to", "I", false)
  | 6 => ("ScholarsPressModel$Signs", "number", "I", false)
  | _ => ("ScholarsPressModel$Signs", "byteOf", "I", false)
def tyX20 : Nat → FieldType := fun k => match k with
  | 0 => .array .byte
  | 1 => .int
  | 2 => .int
  | 3 => .int
  | 4 => .int
  | 5 => .int
  | 6 => .int
  | _ => .int
abbrev wsX200 : List Cond := u_ws RX20 TX20 8
theorem nmX20 : ∀ a, a < 8 → ∀ b, b < 8 → a ≠ b → (TX20 a).2.1 ≠ (TX20 b).2.1 := by decide +kernel
theorem tyX20_ok : ∀ k, k < 8 → parseFieldDescriptor (TX20 k).2.2.1 = some (tyX20 k) := by decide +kernel
abbrev cX20_init : ByteArray := prog_27_method_1_code
def yX20_init : MethodName := ⟨RX20, "<init>", "()V"⟩
abbrev cX20_open : ByteArray := prog_27_method_2_code
def yX20_open : MethodName := ⟨RX20, "open", "([BI)V"⟩
abbrev cX20_next : ByteArray := prog_27_method_4_code
def yX20_next : MethodName := ⟨RX20, "next", "()V"⟩
abbrev cX20_byteAt : ByteArray := prog_27_method_3_code
def yX20_byteAt : MethodName := ⟨RX20, "byteAt", "(I)I"⟩
abbrev cX20_isName : ByteArray := prog_27_method_9_code
def yX20_isName : MethodName := ⟨RX20, "isName", "(Ljava/lang/String;)Z"⟩
abbrev cX20_innerEnd : ByteArray := prog_27_method_6_code
def yX20_innerEnd : MethodName := ⟨RX20, "innerEnd", "()I"⟩
abbrev cX20_inner : ByteArray := prog_27_method_5_code
def yX20_inner : MethodName := ⟨RX20, "inner", "()I"⟩
abbrev cX20_broken : ByteArray := prog_27_method_7_code
def yX20_broken : MethodName := ⟨RX20, "broken", "()LScholarsPressModel$Broken;"⟩
abbrev cX20_needNumber : ByteArray := prog_27_method_12_code
def yX20_needNumber : MethodName := ⟨RX20, "needNumber", "(II)I"⟩
abbrev cX20_isByte : ByteArray := prog_27_method_8_code
def yX20_isByte : MethodName := ⟨RX20, "isByte", "(I)Z"⟩
abbrev cX20_need : ByteArray := prog_27_method_10_code
def yX20_need : MethodName := ⟨RX20, "need", "(I)V"⟩
theorem q374 : (Jvm.Cond.initialized "ScholarsPressModel$Signs") ∈ lw_all := lw_g (lw_at lw_m1 20 rfl) rfl
theorem q3268 : (Jvm.Cond.instantiable "ScholarsPressModel$Signs" (8 : Nat)) ∈ lw_all := lw_g (lw_at lw_m13 34 rfl) rfl
theorem q3270 : (Jvm.Cond.instanceMethod ({ cls := "ScholarsPressModel$Signs", name := "<init>", desc := "()V" } : Jvm.MethodName)) ∈ lw_all := lw_g (lw_at lw_m13 36 rfl) rfl
theorem q3271 : (Jvm.Cond.code ({ cls := "ScholarsPressModel$Signs", name := "<init>", desc := "()V" } : Jvm.MethodName) prog_27_method_1_code (1 : Nat) (Option.none : Option Jvm.ClassFile.FieldType)) ∈ lw_all := lw_g (lw_at lw_m13 37 rfl) rfl
theorem q3272 : (Jvm.Cond.methodLink "ScholarsPressModel$Signs" (1 : Nat) ({ cls := "java/lang/Object", name := "<init>", desc := "()V" } : Jvm.MethodName)) ∈ lw_all := lw_g (lw_at lw_m13 38 rfl) rfl
theorem q3273 : (Jvm.Cond.fieldLink "ScholarsPressModel$Signs" (7 : Nat) "ScholarsPressModel$Signs" "text" "[B") ∈ lw_all := lw_g (lw_at lw_m13 39 rfl) rfl
theorem q3275 : (Jvm.Cond.fieldLink "ScholarsPressModel$Signs" (13 : Nat) "ScholarsPressModel$Signs" "length" "I") ∈ lw_all := lw_g (lw_at lw_m13 41 rfl) rfl
theorem q3276 : (Jvm.Cond.fieldLink "ScholarsPressModel$Signs" (17 : Nat) "ScholarsPressModel$Signs" "at" "I") ∈ lw_all := lw_g (lw_at lw_m13 42 rfl) rfl
theorem q3279 : (Jvm.Cond.fieldLink "ScholarsPressModel$Signs" (39 : Nat) "ScholarsPressModel$Signs" "kind" "I") ∈ lw_all := lw_g (lw_at lw_m13 45 rfl) rfl
theorem q3280 : (Jvm.Cond.fieldLink "ScholarsPressModel$Signs" (33 : Nat) "ScholarsPressModel$Signs" "from" "I") ∈ lw_all := lw_g (lw_at lw_m13 46 rfl) rfl
theorem q3283 : (Jvm.Cond.fieldLink "ScholarsPressModel$Signs" (36 : Nat) "ScholarsPressModel$Signs" "to" "I") ∈ lw_all := lw_g (lw_at lw_m13 49 rfl) rfl
theorem q3285 : (Jvm.Cond.fieldLink "ScholarsPressModel$Signs" (51 : Nat) "ScholarsPressModel$Signs" "number" "I") ∈ lw_all := lw_g (lw_at lw_m13 51 rfl) rfl
theorem q3287 : (Jvm.Cond.fieldLink "ScholarsPressModel$Signs" (48 : Nat) "ScholarsPressModel$Signs" "byteOf" "I") ∈ lw_all := lw_g (lw_at lw_m13 53 rfl) rfl
theorem q3289 : (Jvm.Cond.lays "ScholarsPressModel$Signs" "ScholarsPressModel$Signs" "text" "[B") ∈ lw_all := lw_g (lw_at lw_m13 55 rfl) rfl
theorem q3290 : (Jvm.Cond.soleField "ScholarsPressModel$Signs" "text") ∈ lw_all := lw_g (lw_at lw_m13 56 rfl) rfl
theorem q3291 : (Jvm.Cond.lays "ScholarsPressModel$Signs" "ScholarsPressModel$Signs" "length" "I") ∈ lw_all := lw_g (lw_at lw_m13 57 rfl) rfl
theorem q3292 : (Jvm.Cond.soleField "ScholarsPressModel$Signs" "length") ∈ lw_all := lw_g (lw_at lw_m13 58 rfl) rfl
theorem q3293 : (Jvm.Cond.lays "ScholarsPressModel$Signs" "ScholarsPressModel$Signs" "at" "I") ∈ lw_all := lw_g (lw_at lw_m13 59 rfl) rfl
theorem q3294 : (Jvm.Cond.soleField "ScholarsPressModel$Signs" "at") ∈ lw_all := lw_g (lw_at lw_m13 60 rfl) rfl
theorem q3295 : (Jvm.Cond.lays "ScholarsPressModel$Signs" "ScholarsPressModel$Signs" "kind" "I") ∈ lw_all := lw_g (lw_at lw_m13 61 rfl) rfl
theorem q3296 : (Jvm.Cond.soleField "ScholarsPressModel$Signs" "kind") ∈ lw_all := lw_g (lw_at lw_m13 62 rfl) rfl
theorem q3297 : (Jvm.Cond.lays "ScholarsPressModel$Signs" "ScholarsPressModel$Signs" "from" "I") ∈ lw_all := lw_g (lw_at lw_m13 63 rfl) rfl
theorem q3298 : (Jvm.Cond.soleField "ScholarsPressModel$Signs" "from") ∈ lw_all := lw_g (lw_at lw_m13 64 rfl) rfl
theorem q3299 : (Jvm.Cond.lays "ScholarsPressModel$Signs" "ScholarsPressModel$Signs" "to" "I") ∈ lw_all := lw_g (lw_at lw_m13 65 rfl) rfl
theorem q3300 : (Jvm.Cond.soleField "ScholarsPressModel$Signs" "to") ∈ lw_all := lw_g (lw_at lw_m13 66 rfl) rfl
theorem q3301 : (Jvm.Cond.lays "ScholarsPressModel$Signs" "ScholarsPressModel$Signs" "number" "I") ∈ lw_all := lw_g (lw_at lw_m13 67 rfl) rfl
theorem q3302 : (Jvm.Cond.soleField "ScholarsPressModel$Signs" "number") ∈ lw_all := lw_g (lw_at lw_m13 68 rfl) rfl
theorem q3303 : (Jvm.Cond.lays "ScholarsPressModel$Signs" "ScholarsPressModel$Signs" "byteOf" "I") ∈ lw_all := lw_g (lw_at lw_m13 69 rfl) rfl
theorem q3304 : (Jvm.Cond.soleField "ScholarsPressModel$Signs" "byteOf") ∈ lw_all := lw_g (lw_at lw_m13 70 rfl) rfl
theorem q3305 : (Jvm.Cond.superclass "ScholarsPressModel$Signs" "java/lang/Object") ∈ lw_all := lw_g (lw_at lw_m13 71 rfl) rfl
theorem q4336 : (Jvm.Cond.instanceMethod ({ cls := "ScholarsPressModel$Signs", name := "open", desc := "([BI)V" } : Jvm.MethodName)) ∈ lw_all := lw_g (lw_at lw_m17 142 rfl) rfl
theorem q4337 : (Jvm.Cond.selects "ScholarsPressModel$Signs" ({ cls := "ScholarsPressModel$Signs", name := "open", desc := "([BI)V" } : Jvm.MethodName) ({ cls := "ScholarsPressModel$Signs", name := "open", desc := "([BI)V" } : Jvm.MethodName)) ∈ lw_all := lw_g (lw_at lw_m17 143 rfl) rfl
theorem q4338 : (Jvm.Cond.code ({ cls := "ScholarsPressModel$Signs", name := "open", desc := "([BI)V" } : Jvm.MethodName) prog_27_method_2_code (3 : Nat) (Option.none : Option Jvm.ClassFile.FieldType)) ∈ lw_all := lw_g (lw_at lw_m17 144 rfl) rfl
theorem q4339 : (Jvm.Cond.methodLink "ScholarsPressModel$Signs" (20 : Nat) ({ cls := "ScholarsPressModel$Signs", name := "next", desc := "()V" } : Jvm.MethodName)) ∈ lw_all := lw_g (lw_at lw_m17 145 rfl) rfl
theorem q4340 : (Jvm.Cond.instanceMethod ({ cls := "ScholarsPressModel$Signs", name := "next", desc := "()V" } : Jvm.MethodName)) ∈ lw_all := lw_g (lw_at lw_m17 146 rfl) rfl
theorem q4341 : (Jvm.Cond.selects "ScholarsPressModel$Signs" ({ cls := "ScholarsPressModel$Signs", name := "next", desc := "()V" } : Jvm.MethodName) ({ cls := "ScholarsPressModel$Signs", name := "next", desc := "()V" } : Jvm.MethodName)) ∈ lw_all := lw_g (lw_at lw_m17 147 rfl) rfl
theorem q4342 : (Jvm.Cond.code ({ cls := "ScholarsPressModel$Signs", name := "next", desc := "()V" } : Jvm.MethodName) prog_27_method_4_code (2 : Nat) (Option.none : Option Jvm.ClassFile.FieldType)) ∈ lw_all := lw_g (lw_at lw_m17 148 rfl) rfl
theorem q4343 : (Jvm.Cond.methodLink "ScholarsPressModel$Signs" (23 : Nat) ({ cls := "ScholarsPressModel$Signs", name := "byteAt", desc := "(I)I" } : Jvm.MethodName)) ∈ lw_all := lw_g (lw_at lw_m17 149 rfl) rfl
theorem q4344 : (Jvm.Cond.instanceMethod ({ cls := "ScholarsPressModel$Signs", name := "byteAt", desc := "(I)I" } : Jvm.MethodName)) ∈ lw_all := lw_g (lw_at lw_m17 150 rfl) rfl
theorem q4345 : (Jvm.Cond.selects "ScholarsPressModel$Signs" ({ cls := "ScholarsPressModel$Signs", name := "byteAt", desc := "(I)I" } : Jvm.MethodName) ({ cls := "ScholarsPressModel$Signs", name := "byteAt", desc := "(I)I" } : Jvm.MethodName)) ∈ lw_all := lw_g (lw_at lw_m17 151 rfl) rfl
theorem q4346 : (Jvm.Cond.code ({ cls := "ScholarsPressModel$Signs", name := "byteAt", desc := "(I)I" } : Jvm.MethodName) prog_27_method_3_code (2 : Nat) (Option.some Jvm.ClassFile.FieldType.int)) ∈ lw_all := lw_g (lw_at lw_m17 152 rfl) rfl
theorem q4347 : (Jvm.Cond.methodLinkNest "ScholarsPressModel$Signs" (27 : Nat) ({ cls := "ScholarsPressModel", name := "isBlank", desc := "(I)Z" } : Jvm.MethodName) "ScholarsPressModel") ∈ lw_tbl := lw_at lw_m17 153 rfl
theorem q4350 : (Jvm.Cond.methodLinkNest "ScholarsPressModel$Signs" (42 : Nat) ({ cls := "ScholarsPressModel", name := "isSmall", desc := "(I)Z" } : Jvm.MethodName) "ScholarsPressModel") ∈ lw_tbl := lw_at lw_m17 156 rfl
theorem q4353 : (Jvm.Cond.methodLinkNest "ScholarsPressModel$Signs" (45 : Nat) ({ cls := "ScholarsPressModel", name := "isDigit", desc := "(I)Z" } : Jvm.MethodName) "ScholarsPressModel") ∈ lw_tbl := lw_at lw_m17 159 rfl
theorem q4362 : (Jvm.Cond.instanceMethod ({ cls := "ScholarsPressModel$Signs", name := "isName", desc := "(Ljava/lang/String;)Z" } : Jvm.MethodName)) ∈ lw_all := lw_g (lw_at lw_m17 168 rfl) rfl
theorem q4363 : (Jvm.Cond.selects "ScholarsPressModel$Signs" ({ cls := "ScholarsPressModel$Signs", name := "isName", desc := "(Ljava/lang/String;)Z" } : Jvm.MethodName) ({ cls := "ScholarsPressModel$Signs", name := "isName", desc := "(Ljava/lang/String;)Z" } : Jvm.MethodName)) ∈ lw_all := lw_g (lw_at lw_m17 169 rfl) rfl
theorem q4364 : (Jvm.Cond.code ({ cls := "ScholarsPressModel$Signs", name := "isName", desc := "(Ljava/lang/String;)Z" } : Jvm.MethodName) prog_27_method_9_code (2 : Nat) (Option.some Jvm.ClassFile.FieldType.boolean)) ∈ lw_all := lw_g (lw_at lw_m17 170 rfl) rfl
theorem q4365 : (Jvm.Cond.methodLinkNest "ScholarsPressModel$Signs" (59 : Nat) ({ cls := "ScholarsPressModel", name := "is", desc := "([BIILjava/lang/String;)Z" } : Jvm.MethodName) "ScholarsPressModel") ∈ lw_tbl := lw_at lw_m17 171 rfl
theorem q4376 : (Jvm.Cond.instanceMethod ({ cls := "ScholarsPressModel$Signs", name := "innerEnd", desc := "()I" } : Jvm.MethodName)) ∈ lw_all := lw_g (lw_at lw_m17 182 rfl) rfl
theorem q4377 : (Jvm.Cond.selects "ScholarsPressModel$Signs" ({ cls := "ScholarsPressModel$Signs", name := "innerEnd", desc := "()I" } : Jvm.MethodName) ({ cls := "ScholarsPressModel$Signs", name := "innerEnd", desc := "()I" } : Jvm.MethodName)) ∈ lw_all := lw_g (lw_at lw_m17 183 rfl) rfl
theorem q4378 : (Jvm.Cond.code ({ cls := "ScholarsPressModel$Signs", name := "innerEnd", desc := "()I" } : Jvm.MethodName) prog_27_method_6_code (1 : Nat) (Option.some Jvm.ClassFile.FieldType.int)) ∈ lw_all := lw_g (lw_at lw_m17 184 rfl) rfl
theorem q4380 : (Jvm.Cond.instanceMethod ({ cls := "ScholarsPressModel$Signs", name := "inner", desc := "()I" } : Jvm.MethodName)) ∈ lw_all := lw_g (lw_at lw_m17 186 rfl) rfl
theorem q4381 : (Jvm.Cond.selects "ScholarsPressModel$Signs" ({ cls := "ScholarsPressModel$Signs", name := "inner", desc := "()I" } : Jvm.MethodName) ({ cls := "ScholarsPressModel$Signs", name := "inner", desc := "()I" } : Jvm.MethodName)) ∈ lw_all := lw_g (lw_at lw_m17 187 rfl) rfl
theorem q4382 : (Jvm.Cond.code ({ cls := "ScholarsPressModel$Signs", name := "inner", desc := "()I" } : Jvm.MethodName) prog_27_method_5_code (1 : Nat) (Option.some Jvm.ClassFile.FieldType.int)) ∈ lw_all := lw_g (lw_at lw_m17 188 rfl) rfl
theorem q4384 : (Jvm.Cond.instanceMethod ({ cls := "ScholarsPressModel$Signs", name := "broken", desc := "()LScholarsPressModel$Broken;" } : Jvm.MethodName)) ∈ lw_all := lw_g (lw_at lw_m17 190 rfl) rfl
theorem q4385 : (Jvm.Cond.selects "ScholarsPressModel$Signs" ({ cls := "ScholarsPressModel$Signs", name := "broken", desc := "()LScholarsPressModel$Broken;" } : Jvm.MethodName) ({ cls := "ScholarsPressModel$Signs", name := "broken", desc := "()LScholarsPressModel$Broken;" } : Jvm.MethodName)) ∈ lw_all := lw_g (lw_at lw_m17 191 rfl) rfl
theorem q4386 : (Jvm.Cond.code ({ cls := "ScholarsPressModel$Signs", name := "broken", desc := "()LScholarsPressModel$Broken;" } : Jvm.MethodName) prog_27_method_7_code (1 : Nat) (Option.some (Jvm.ClassFile.FieldType.object "ScholarsPressModel$Broken"))) ∈ lw_all := lw_g (lw_at lw_m17 192 rfl) rfl
theorem q4387 : (Jvm.Cond.classLink "ScholarsPressModel$Signs" (54 : Nat) "ScholarsPressModel$Broken") ∈ lw_all := lw_g (lw_at lw_m17 193 rfl) rfl
theorem q4396 : (Jvm.Cond.methodLink "ScholarsPressModel$Signs" (56 : Nat) ({ cls := "ScholarsPressModel$Broken", name := "<init>", desc := "(I)V" } : Jvm.MethodName)) ∈ lw_all := lw_g (lw_at lw_m17 202 rfl) rfl
theorem q4408 : (Jvm.Cond.instanceMethod ({ cls := "ScholarsPressModel$Signs", name := "needNumber", desc := "(II)I" } : Jvm.MethodName)) ∈ lw_all := lw_g (lw_at lw_m17 214 rfl) rfl
theorem q4409 : (Jvm.Cond.selects "ScholarsPressModel$Signs" ({ cls := "ScholarsPressModel$Signs", name := "needNumber", desc := "(II)I" } : Jvm.MethodName) ({ cls := "ScholarsPressModel$Signs", name := "needNumber", desc := "(II)I" } : Jvm.MethodName)) ∈ lw_all := lw_g (lw_at lw_m17 215 rfl) rfl
theorem q4410 : (Jvm.Cond.code ({ cls := "ScholarsPressModel$Signs", name := "needNumber", desc := "(II)I" } : Jvm.MethodName) prog_27_method_12_code (4 : Nat) (Option.some Jvm.ClassFile.FieldType.int)) ∈ lw_all := lw_g (lw_at lw_m17 216 rfl) rfl
theorem q4411 : (Jvm.Cond.methodLink "ScholarsPressModel$Signs" (66 : Nat) ({ cls := "ScholarsPressModel$Signs", name := "broken", desc := "()LScholarsPressModel$Broken;" } : Jvm.MethodName)) ∈ lw_all := lw_g (lw_at lw_m17 217 rfl) rfl
theorem q4419 : (Jvm.Cond.instanceMethod ({ cls := "ScholarsPressModel$Signs", name := "isByte", desc := "(I)Z" } : Jvm.MethodName)) ∈ lw_all := lw_g (lw_at lw_m17 225 rfl) rfl
theorem q4420 : (Jvm.Cond.selects "ScholarsPressModel$Signs" ({ cls := "ScholarsPressModel$Signs", name := "isByte", desc := "(I)Z" } : Jvm.MethodName) ({ cls := "ScholarsPressModel$Signs", name := "isByte", desc := "(I)Z" } : Jvm.MethodName)) ∈ lw_all := lw_g (lw_at lw_m17 226 rfl) rfl
theorem q4421 : (Jvm.Cond.code ({ cls := "ScholarsPressModel$Signs", name := "isByte", desc := "(I)Z" } : Jvm.MethodName) prog_27_method_8_code (2 : Nat) (Option.some Jvm.ClassFile.FieldType.boolean)) ∈ lw_all := lw_g (lw_at lw_m17 227 rfl) rfl
theorem q4424 : (Jvm.Cond.instanceMethod ({ cls := "ScholarsPressModel$Signs", name := "need", desc := "(I)V" } : Jvm.MethodName)) ∈ lw_all := lw_g (lw_at lw_m17 230 rfl) rfl
theorem q4425 : (Jvm.Cond.selects "ScholarsPressModel$Signs" ({ cls := "ScholarsPressModel$Signs", name := "need", desc := "(I)V" } : Jvm.MethodName) ({ cls := "ScholarsPressModel$Signs", name := "need", desc := "(I)V" } : Jvm.MethodName)) ∈ lw_all := lw_g (lw_at lw_m17 231 rfl) rfl
theorem q4426 : (Jvm.Cond.code ({ cls := "ScholarsPressModel$Signs", name := "need", desc := "(I)V" } : Jvm.MethodName) prog_27_method_10_code (2 : Nat) (Option.none : Option Jvm.ClassFile.FieldType)) ∈ lw_all := lw_g (lw_at lw_m17 232 rfl) rfl
theorem q4427 : (Jvm.Cond.methodLink "ScholarsPressModel$Signs" (63 : Nat) ({ cls := "ScholarsPressModel$Signs", name := "isByte", desc := "(I)Z" } : Jvm.MethodName)) ∈ lw_all := lw_g (lw_at lw_m17 233 rfl) rfl
theorem in_X20 : ∀ w ∈ wsX200, w ∈ lw_all := lw_in wsX200 [3289, 3291, 3293, 3295, 3297, 3299, 3301, 3303] (by decide +kernel) (by decide +kernel)
/-! ScholarsPressModel$Parting -/
def RX21 : String := "ScholarsPressModel$Parting"
def TX21 : u_T := fun k => match k with
  | 0 => ("ScholarsPressModel$Parting", "ahead", "I", false)
  | 1 => ("ScholarsPressModel$Parting", "behind", "I", false)
  | 2 => ("ScholarsPressModel$Parting", "patterns", "I", false)
  | 3 => ("ScholarsPressModel$Parting", "exceptions", "I", false)
  | 4 => ("ScholarsPressModel$Parting", "sign", "[B", true)
  | 5 => ("ScholarsPressModel$Parting", "signs", "[I", true)
  | 6 => ("ScholarsPressModel$Parting", "digit", "[B", true)
  | 7 => ("ScholarsPressModel$Parting", "letter", "[B", true)
  | 8 => ("ScholarsPressModel$Parting", "long_", "[I", true)
  | 9 => ("ScholarsPressModel$Parting", "mark", "[Z", true)
  | 10 => ("ScholarsPressModel$Parting", "nowSign", "[B", true)
  | 11 => ("ScholarsPressModel$Parting", "nowDigit", "[B", true)
  | 12 => ("ScholarsPressModel$Parting", "nowLong", "I", false)
  | _ => ("ScholarsPressModel$Parting", "nowMark", "[Z", true)
def tyX21 : Nat → FieldType := fun k => match k with
  | 0 => .int
  | 1 => .int
  | 2 => .int
  | 3 => .int
  | 4 => .array .byte
  | 5 => .array .int
  | 6 => .array .byte
  | 7 => .array .byte
  | 8 => .array .int
  | 9 => .array .boolean
  | 10 => .array .byte
  | 11 => .array .byte
  | 12 => .int
  | _ => .array .boolean
abbrev wsX210 : List Cond := u_ws RX21 TX21 14
theorem nmX21 : ∀ a, a < 14 → ∀ b, b < 14 → a ≠ b → (TX21 a).2.1 ≠ (TX21 b).2.1 := by decide +kernel
theorem tyX21_ok : ∀ k, k < 14 → parseFieldDescriptor (TX21 k).2.2.1 = some (tyX21 k) := by decide +kernel
abbrev cX21_init : ByteArray := prog_25_method_1_code
def yX21_init : MethodName := ⟨RX21, "<init>", "()V"⟩
abbrev cX21_read : ByteArray := prog_25_method_4_code
def yX21_read : MethodName := ⟨RX21, "read", "([BI)V"⟩
abbrev cX21_clear : ByteArray := prog_25_method_2_code
def yX21_clear : MethodName := ⟨RX21, "clear", "()V"⟩
abbrev cX21_exception : ByteArray := prog_25_method_5_code
def yX21_exception : MethodName := ⟨RX21, "exception", "([BII)V"⟩
abbrev cX21_pattern : ByteArray := prog_25_method_6_code
def yX21_pattern : MethodName := ⟨RX21, "pattern", "([BII)V"⟩
abbrev cX21_places : ByteArray := prog_25_method_7_code
def yX21_places : MethodName := ⟨RX21, "places", "([BII[Z)V"⟩
abbrev cX21_greatest : ByteArray := prog_25_method_9_code
def yX21_greatest : MethodName := ⟨RX21, "greatest", "([BIII)I"⟩
abbrev cX21_signOf : ByteArray := prog_25_method_8_code
def yX21_signOf : MethodName := ⟨RX21, "signOf", "([BIII)I"⟩
theorem q375 : (Jvm.Cond.initialized "ScholarsPressModel$Parting") ∈ lw_all := lw_g (lw_at lw_m1 21 rfl) rfl
theorem q3340 : (Jvm.Cond.instantiable "ScholarsPressModel$Parting" (14 : Nat)) ∈ lw_all := lw_g (lw_at lw_m13 106 rfl) rfl
theorem q3342 : (Jvm.Cond.instanceMethod ({ cls := "ScholarsPressModel$Parting", name := "<init>", desc := "()V" } : Jvm.MethodName)) ∈ lw_all := lw_g (lw_at lw_m13 108 rfl) rfl
theorem q3343 : (Jvm.Cond.code ({ cls := "ScholarsPressModel$Parting", name := "<init>", desc := "()V" } : Jvm.MethodName) prog_25_method_1_code (1 : Nat) (Option.none : Option Jvm.ClassFile.FieldType)) ∈ lw_all := lw_g (lw_at lw_m13 109 rfl) rfl
theorem q3344 : (Jvm.Cond.methodLink "ScholarsPressModel$Parting" (1 : Nat) ({ cls := "java/lang/Object", name := "<init>", desc := "()V" } : Jvm.MethodName)) ∈ lw_all := lw_g (lw_at lw_m13 110 rfl) rfl
theorem q3345 : (Jvm.Cond.fieldLink "ScholarsPressModel$Parting" (7 : Nat) "ScholarsPressModel$Parting" "ahead" "I") ∈ lw_all := lw_g (lw_at lw_m13 111 rfl) rfl
theorem q3346 : (Jvm.Cond.fieldLink "ScholarsPressModel$Parting" (13 : Nat) "ScholarsPressModel$Parting" "behind" "I") ∈ lw_all := lw_g (lw_at lw_m13 112 rfl) rfl
theorem q3347 : (Jvm.Cond.fieldLink "ScholarsPressModel$Parting" (46 : Nat) "ScholarsPressModel$Parting" "patterns" "I") ∈ lw_all := lw_g (lw_at lw_m13 113 rfl) rfl
theorem q3349 : (Jvm.Cond.fieldLink "ScholarsPressModel$Parting" (49 : Nat) "ScholarsPressModel$Parting" "exceptions" "I") ∈ lw_all := lw_g (lw_at lw_m13 115 rfl) rfl
theorem q3351 : (Jvm.Cond.fieldLink "ScholarsPressModel$Parting" (16 : Nat) "ScholarsPressModel$Parting" "sign" "[B") ∈ lw_all := lw_g (lw_at lw_m13 117 rfl) rfl
theorem q3352 : (Jvm.Cond.fieldLink "ScholarsPressModel$Parting" (20 : Nat) "ScholarsPressModel$Parting" "signs" "[I") ∈ lw_all := lw_g (lw_at lw_m13 118 rfl) rfl
theorem q3353 : (Jvm.Cond.fieldLink "ScholarsPressModel$Parting" (24 : Nat) "ScholarsPressModel$Parting" "digit" "[B") ∈ lw_all := lw_g (lw_at lw_m13 119 rfl) rfl
theorem q3354 : (Jvm.Cond.fieldLink "ScholarsPressModel$Parting" (27 : Nat) "ScholarsPressModel$Parting" "letter" "[B") ∈ lw_all := lw_g (lw_at lw_m13 120 rfl) rfl
theorem q3355 : (Jvm.Cond.fieldLink "ScholarsPressModel$Parting" (30 : Nat) "ScholarsPressModel$Parting" "long_" "[I") ∈ lw_all := lw_g (lw_at lw_m13 121 rfl) rfl
theorem q3356 : (Jvm.Cond.fieldLink "ScholarsPressModel$Parting" (33 : Nat) "ScholarsPressModel$Parting" "mark" "[Z") ∈ lw_all := lw_g (lw_at lw_m13 122 rfl) rfl
theorem q3357 : (Jvm.Cond.fieldLink "ScholarsPressModel$Parting" (37 : Nat) "ScholarsPressModel$Parting" "nowSign" "[B") ∈ lw_all := lw_g (lw_at lw_m13 123 rfl) rfl
theorem q3358 : (Jvm.Cond.fieldLink "ScholarsPressModel$Parting" (40 : Nat) "ScholarsPressModel$Parting" "nowDigit" "[B") ∈ lw_all := lw_g (lw_at lw_m13 124 rfl) rfl
theorem q3359 : (Jvm.Cond.fieldLink "ScholarsPressModel$Parting" (79 : Nat) "ScholarsPressModel$Parting" "nowLong" "I") ∈ lw_all := lw_g (lw_at lw_m13 125 rfl) rfl
theorem q3360 : (Jvm.Cond.fieldLink "ScholarsPressModel$Parting" (43 : Nat) "ScholarsPressModel$Parting" "nowMark" "[Z") ∈ lw_all := lw_g (lw_at lw_m13 126 rfl) rfl
theorem q3361 : (Jvm.Cond.lays "ScholarsPressModel$Parting" "ScholarsPressModel$Parting" "ahead" "I") ∈ lw_all := lw_g (lw_at lw_m13 127 rfl) rfl
theorem q3362 : (Jvm.Cond.soleField "ScholarsPressModel$Parting" "ahead") ∈ lw_all := lw_g (lw_at lw_m13 128 rfl) rfl
theorem q3363 : (Jvm.Cond.lays "ScholarsPressModel$Parting" "ScholarsPressModel$Parting" "behind" "I") ∈ lw_all := lw_g (lw_at lw_m13 129 rfl) rfl
theorem q3364 : (Jvm.Cond.soleField "ScholarsPressModel$Parting" "behind") ∈ lw_all := lw_g (lw_at lw_m13 130 rfl) rfl
theorem q3365 : (Jvm.Cond.lays "ScholarsPressModel$Parting" "ScholarsPressModel$Parting" "patterns" "I") ∈ lw_all := lw_g (lw_at lw_m13 131 rfl) rfl
theorem q3366 : (Jvm.Cond.soleField "ScholarsPressModel$Parting" "patterns") ∈ lw_all := lw_g (lw_at lw_m13 132 rfl) rfl
theorem q3367 : (Jvm.Cond.lays "ScholarsPressModel$Parting" "ScholarsPressModel$Parting" "exceptions" "I") ∈ lw_all := lw_g (lw_at lw_m13 133 rfl) rfl
theorem q3368 : (Jvm.Cond.soleField "ScholarsPressModel$Parting" "exceptions") ∈ lw_all := lw_g (lw_at lw_m13 134 rfl) rfl
theorem q3369 : (Jvm.Cond.laysFinal "ScholarsPressModel$Parting" "ScholarsPressModel$Parting" "sign" "[B") ∈ lw_all := lw_g (lw_at lw_m13 135 rfl) rfl
theorem q3370 : (Jvm.Cond.soleField "ScholarsPressModel$Parting" "sign") ∈ lw_all := lw_g (lw_at lw_m13 136 rfl) rfl
theorem q3371 : (Jvm.Cond.laysFinal "ScholarsPressModel$Parting" "ScholarsPressModel$Parting" "signs" "[I") ∈ lw_all := lw_g (lw_at lw_m13 137 rfl) rfl
theorem q3372 : (Jvm.Cond.soleField "ScholarsPressModel$Parting" "signs") ∈ lw_all := lw_g (lw_at lw_m13 138 rfl) rfl
theorem q3373 : (Jvm.Cond.laysFinal "ScholarsPressModel$Parting" "ScholarsPressModel$Parting" "digit" "[B") ∈ lw_all := lw_g (lw_at lw_m13 139 rfl) rfl
theorem q3374 : (Jvm.Cond.soleField "ScholarsPressModel$Parting" "digit") ∈ lw_all := lw_g (lw_at lw_m13 140 rfl) rfl
theorem q3375 : (Jvm.Cond.laysFinal "ScholarsPressModel$Parting" "ScholarsPressModel$Parting" "letter" "[B") ∈ lw_all := lw_g (lw_at lw_m13 141 rfl) rfl
theorem q3376 : (Jvm.Cond.soleField "ScholarsPressModel$Parting" "letter") ∈ lw_all := lw_g (lw_at lw_m13 142 rfl) rfl
theorem q3377 : (Jvm.Cond.laysFinal "ScholarsPressModel$Parting" "ScholarsPressModel$Parting" "long_" "[I") ∈ lw_all := lw_g (lw_at lw_m13 143 rfl) rfl
theorem q3378 : (Jvm.Cond.soleField "ScholarsPressModel$Parting" "long_") ∈ lw_all := lw_g (lw_at lw_m13 144 rfl) rfl
theorem q3379 : (Jvm.Cond.laysFinal "ScholarsPressModel$Parting" "ScholarsPressModel$Parting" "mark" "[Z") ∈ lw_all := lw_g (lw_at lw_m13 145 rfl) rfl
theorem q3380 : (Jvm.Cond.soleField "ScholarsPressModel$Parting" "mark") ∈ lw_all := lw_g (lw_at lw_m13 146 rfl) rfl
theorem q3381 : (Jvm.Cond.laysFinal "ScholarsPressModel$Parting" "ScholarsPressModel$Parting" "nowSign" "[B") ∈ lw_all := lw_g (lw_at lw_m13 147 rfl) rfl
theorem q3382 : (Jvm.Cond.soleField "ScholarsPressModel$Parting" "nowSign") ∈ lw_all := lw_g (lw_at lw_m13 148 rfl) rfl
theorem q3383 : (Jvm.Cond.laysFinal "ScholarsPressModel$Parting" "ScholarsPressModel$Parting" "nowDigit" "[B") ∈ lw_all := lw_g (lw_at lw_m13 149 rfl) rfl
theorem q3384 : (Jvm.Cond.soleField "ScholarsPressModel$Parting" "nowDigit") ∈ lw_all := lw_g (lw_at lw_m13 150 rfl) rfl
theorem q3385 : (Jvm.Cond.lays "ScholarsPressModel$Parting" "ScholarsPressModel$Parting" "nowLong" "I") ∈ lw_all := lw_g (lw_at lw_m13 151 rfl) rfl
theorem q3386 : (Jvm.Cond.soleField "ScholarsPressModel$Parting" "nowLong") ∈ lw_all := lw_g (lw_at lw_m13 152 rfl) rfl
theorem q3387 : (Jvm.Cond.laysFinal "ScholarsPressModel$Parting" "ScholarsPressModel$Parting" "nowMark" "[Z") ∈ lw_all := lw_g (lw_at lw_m13 153 rfl) rfl
theorem q3388 : (Jvm.Cond.soleField "ScholarsPressModel$Parting" "nowMark") ∈ lw_all := lw_g (lw_at lw_m13 154 rfl) rfl
theorem q3389 : (Jvm.Cond.superclass "ScholarsPressModel$Parting" "java/lang/Object") ∈ lw_all := lw_g (lw_at lw_m13 155 rfl) rfl
theorem q4445 : (Jvm.Cond.instanceMethod ({ cls := "ScholarsPressModel$Parting", name := "read", desc := "([BI)V" } : Jvm.MethodName)) ∈ lw_all := lw_g (lw_at lw_m18 11 rfl) rfl
theorem q4446 : (Jvm.Cond.selects "ScholarsPressModel$Parting" ({ cls := "ScholarsPressModel$Parting", name := "read", desc := "([BI)V" } : Jvm.MethodName) ({ cls := "ScholarsPressModel$Parting", name := "read", desc := "([BI)V" } : Jvm.MethodName)) ∈ lw_all := lw_g (lw_at lw_m18 12 rfl) rfl
theorem q4447 : (Jvm.Cond.code ({ cls := "ScholarsPressModel$Parting", name := "read", desc := "([BI)V" } : Jvm.MethodName) prog_25_method_4_code (7 : Nat) (Option.none : Option Jvm.ClassFile.FieldType)) ∈ lw_all := lw_g (lw_at lw_m18 13 rfl) rfl
theorem q4448 : (Jvm.Cond.methodLink "ScholarsPressModel$Parting" (52 : Nat) ({ cls := "ScholarsPressModel$Parting", name := "clear", desc := "()V" } : Jvm.MethodName)) ∈ lw_all := lw_g (lw_at lw_m18 14 rfl) rfl
theorem q4449 : (Jvm.Cond.instanceMethod ({ cls := "ScholarsPressModel$Parting", name := "clear", desc := "()V" } : Jvm.MethodName)) ∈ lw_all := lw_g (lw_at lw_m18 15 rfl) rfl
theorem q4450 : (Jvm.Cond.selects "ScholarsPressModel$Parting" ({ cls := "ScholarsPressModel$Parting", name := "clear", desc := "()V" } : Jvm.MethodName) ({ cls := "ScholarsPressModel$Parting", name := "clear", desc := "()V" } : Jvm.MethodName)) ∈ lw_all := lw_g (lw_at lw_m18 16 rfl) rfl
theorem q4451 : (Jvm.Cond.code ({ cls := "ScholarsPressModel$Parting", name := "clear", desc := "()V" } : Jvm.MethodName) prog_25_method_2_code (1 : Nat) (Option.none : Option Jvm.ClassFile.FieldType)) ∈ lw_all := lw_g (lw_at lw_m18 17 rfl) rfl
theorem q4452 : (Jvm.Cond.methodLinkNest "ScholarsPressModel$Parting" (55 : Nat) ({ cls := "ScholarsPressModel", name := "isBlank", desc := "(I)Z" } : Jvm.MethodName) "ScholarsPressModel") ∈ lw_tbl := lw_at lw_m18 18 rfl
theorem q4453 : (Jvm.Cond.classLink "ScholarsPressModel$Parting" (61 : Nat) "ScholarsPressModel$Broken") ∈ lw_all := lw_g (lw_at lw_m18 19 rfl) rfl
theorem q4454 : (Jvm.Cond.methodLink "ScholarsPressModel$Parting" (63 : Nat) ({ cls := "ScholarsPressModel$Broken", name := "<init>", desc := "(I)V" } : Jvm.MethodName)) ∈ lw_all := lw_g (lw_at lw_m18 20 rfl) rfl
theorem q4455 : (Jvm.Cond.stringRef "ScholarsPressModel$Parting" (66 : Nat) "ends") ∈ lw_tbl := lw_at lw_m18 21 rfl
theorem q4456 : (Jvm.Cond.methodLinkNest "ScholarsPressModel$Parting" (68 : Nat) ({ cls := "ScholarsPressModel", name := "is", desc := "([BIILjava/lang/String;)Z" } : Jvm.MethodName) "ScholarsPressModel") ∈ lw_tbl := lw_at lw_m18 22 rfl
theorem q4457 : (Jvm.Cond.methodLink "ScholarsPressModel$Parting" (72 : Nat) ({ cls := "ScholarsPressModel$Parting", name := "exception", desc := "([BII)V" } : Jvm.MethodName)) ∈ lw_all := lw_g (lw_at lw_m18 23 rfl) rfl
theorem q4458 : (Jvm.Cond.privateMethod ({ cls := "ScholarsPressModel$Parting", name := "exception", desc := "([BII)V" } : Jvm.MethodName)) ∈ lw_tbl := lw_at lw_m18 24 rfl
theorem q4459 : (Jvm.Cond.instanceMethod ({ cls := "ScholarsPressModel$Parting", name := "exception", desc := "([BII)V" } : Jvm.MethodName)) ∈ lw_all := lw_g (lw_at lw_m18 25 rfl) rfl
theorem q4460 : (Jvm.Cond.code ({ cls := "ScholarsPressModel$Parting", name := "exception", desc := "([BII)V" } : Jvm.MethodName) prog_25_method_5_code (6 : Nat) (Option.none : Option Jvm.ClassFile.FieldType)) ∈ lw_all := lw_g (lw_at lw_m18 26 rfl) rfl
theorem q4461 : (Jvm.Cond.methodLinkNest "ScholarsPressModel$Parting" (82 : Nat) ({ cls := "ScholarsPressModel", name := "isSmall", desc := "(I)Z" } : Jvm.MethodName) "ScholarsPressModel") ∈ lw_tbl := lw_at lw_m18 27 rfl
theorem q4462 : (Jvm.Cond.methodLinkNest "ScholarsPressModel$Parting" (85 : Nat) ({ cls := "ScholarsPressModel", name := "same", desc := "([BII[BII)Z" } : Jvm.MethodName) "ScholarsPressModel") ∈ lw_tbl := lw_at lw_m18 28 rfl
theorem q4465 : (Jvm.Cond.methodLink "ScholarsPressModel$Parting" (76 : Nat) ({ cls := "ScholarsPressModel$Parting", name := "pattern", desc := "([BII)V" } : Jvm.MethodName)) ∈ lw_all := lw_g (lw_at lw_m18 31 rfl) rfl
theorem q4466 : (Jvm.Cond.privateMethod ({ cls := "ScholarsPressModel$Parting", name := "pattern", desc := "([BII)V" } : Jvm.MethodName)) ∈ lw_tbl := lw_at lw_m18 32 rfl
theorem q4467 : (Jvm.Cond.instanceMethod ({ cls := "ScholarsPressModel$Parting", name := "pattern", desc := "([BII)V" } : Jvm.MethodName)) ∈ lw_all := lw_g (lw_at lw_m18 33 rfl) rfl
theorem q4468 : (Jvm.Cond.code ({ cls := "ScholarsPressModel$Parting", name := "pattern", desc := "([BII)V" } : Jvm.MethodName) prog_25_method_6_code (10 : Nat) (Option.none : Option Jvm.ClassFile.FieldType)) ∈ lw_all := lw_g (lw_at lw_m18 34 rfl) rfl
theorem q4469 : (Jvm.Cond.methodLinkNest "ScholarsPressModel$Parting" (89 : Nat) ({ cls := "ScholarsPressModel", name := "isDigit", desc := "(I)Z" } : Jvm.MethodName) "ScholarsPressModel") ∈ lw_tbl := lw_at lw_m18 35 rfl
theorem q4955 : (Jvm.Cond.instanceMethod ({ cls := "ScholarsPressModel$Parting", name := "places", desc := "([BII[Z)V" } : Jvm.MethodName)) ∈ lw_all := lw_g (lw_at lw_m20 41 rfl) rfl
theorem q4956 : (Jvm.Cond.selects "ScholarsPressModel$Parting" ({ cls := "ScholarsPressModel$Parting", name := "places", desc := "([BII[Z)V" } : Jvm.MethodName) ({ cls := "ScholarsPressModel$Parting", name := "places", desc := "([BII[Z)V" } : Jvm.MethodName)) ∈ lw_all := lw_g (lw_at lw_m20 42 rfl) rfl
theorem q4957 : (Jvm.Cond.code ({ cls := "ScholarsPressModel$Parting", name := "places", desc := "([BII[Z)V" } : Jvm.MethodName) prog_25_method_7_code (9 : Nat) (Option.none : Option Jvm.ClassFile.FieldType)) ∈ lw_all := lw_g (lw_at lw_m20 43 rfl) rfl
theorem q4958 : (Jvm.Cond.methodLinkNest "ScholarsPressModel$Parting" (92 : Nat) ({ cls := "ScholarsPressModel", name := "small", desc := "(I)I" } : Jvm.MethodName) "ScholarsPressModel") ∈ lw_tbl := lw_at lw_m20 44 rfl
theorem q4959 : (Jvm.Cond.methodLink "ScholarsPressModel$Parting" (96 : Nat) ({ cls := "ScholarsPressModel$Parting", name := "greatest", desc := "([BIII)I" } : Jvm.MethodName)) ∈ lw_all := lw_g (lw_at lw_m20 45 rfl) rfl
theorem q4960 : (Jvm.Cond.privateMethod ({ cls := "ScholarsPressModel$Parting", name := "greatest", desc := "([BIII)I" } : Jvm.MethodName)) ∈ lw_tbl := lw_at lw_m20 46 rfl
theorem q4961 : (Jvm.Cond.instanceMethod ({ cls := "ScholarsPressModel$Parting", name := "greatest", desc := "([BIII)I" } : Jvm.MethodName)) ∈ lw_all := lw_g (lw_at lw_m20 47 rfl) rfl
theorem q4962 : (Jvm.Cond.code ({ cls := "ScholarsPressModel$Parting", name := "greatest", desc := "([BIII)I" } : Jvm.MethodName) prog_25_method_9_code (11 : Nat) (Option.some Jvm.ClassFile.FieldType.int)) ∈ lw_all := lw_g (lw_at lw_m20 48 rfl) rfl
theorem q4963 : (Jvm.Cond.methodLink "ScholarsPressModel$Parting" (100 : Nat) ({ cls := "ScholarsPressModel$Parting", name := "signOf", desc := "([BIII)I" } : Jvm.MethodName)) ∈ lw_all := lw_g (lw_at lw_m20 49 rfl) rfl
theorem q4964 : (Jvm.Cond.static ({ cls := "ScholarsPressModel$Parting", name := "signOf", desc := "([BIII)I" } : Jvm.MethodName)) ∈ lw_all := lw_g (lw_at lw_m20 50 rfl) rfl
theorem q4965 : (Jvm.Cond.code ({ cls := "ScholarsPressModel$Parting", name := "signOf", desc := "([BIII)I" } : Jvm.MethodName) prog_25_method_8_code (4 : Nat) (Option.some Jvm.ClassFile.FieldType.int)) ∈ lw_all := lw_g (lw_at lw_m20 51 rfl) rfl
theorem in_X21 : ∀ w ∈ wsX210, w ∈ lw_all := lw_in wsX210 [3361, 3363, 3365, 3367, 3369, 3371, 3373, 3375, 3377, 3379, 3381, 3383, 3385, 3387] (by decide +kernel) (by decide +kernel)
/-! ScholarsPressModel$Style -/
def RX22 : String := "ScholarsPressModel$Style"
def TX22 : u_T := fun k => match k with
  | 0 => ("ScholarsPressModel$Style", "text", "[B", true)
  | 1 => ("ScholarsPressModel$Style", "signs", "LScholarsPressModel$Signs;", true)
  | 2 => ("ScholarsPressModel$Style", "page", "[I", true)
  | 3 => ("ScholarsPressModel$Style", "selectors", "I", false)
  | 4 => ("ScholarsPressModel$Style", "steps", "I", false)
  | 5 => ("ScholarsPressModel$Style", "tests", "I", false)
  | 6 => ("ScholarsPressModel$Style", "bodies", "I", false)
  | 7 => ("ScholarsPressModel$Style", "props", "I", false)
  | 8 => ("ScholarsPressModel$Style", "counters", "I", false)
  | 9 => ("ScholarsPressModel$Style", "selectorFrom", "[I", true)
  | 10 => ("ScholarsPressModel$Style", "selectorBody", "[I", true)
  | 11 => ("ScholarsPressModel$Style", "stepName", "[I", true)
  | 12 => ("ScholarsPressModel$Style", "stepEnd", "[I", true)
  | 13 => ("ScholarsPressModel$Style", "stepLink", "[I", true)
  | 14 => ("ScholarsPressModel$Style", "stepTests", "[I", true)
  | 15 => ("ScholarsPressModel$Style", "test", "[I", true)
  | 16 => ("ScholarsPressModel$Style", "testName", "[I", true)
  | 17 => ("ScholarsPressModel$Style", "testEnd", "[I", true)
  | 18 => ("ScholarsPressModel$Style", "testText", "[I", true)
  | 19 => ("ScholarsPressModel$Style", "testTextEnd", "[I", true)
  | 20 => ("ScholarsPressModel$Style", "testNumber", "[I", true)
  | 21 => ("ScholarsPressModel$Style", "bodyFrom", "[I", true)
  | 22 => ("ScholarsPressModel$Style", "prop", "[I", true)
  | 23 => ("ScholarsPressModel$Style", "value", "[I", true)
  | 24 => ("ScholarsPressModel$Style", "label", "[I", true)
  | 25 => ("ScholarsPressModel$Style", "labelEnd", "[I", true)
  | 26 => ("ScholarsPressModel$Style", "counter", "[I", true)
  | _ => ("ScholarsPressModel$Style", "counterEnd", "[I", true)
def tyX22 : Nat → FieldType := fun k => match k with
  | 0 => .array .byte
  | 1 => .object "ScholarsPressModel$Signs"
  | 2 => .array .int
  | 3 => .int
  | 4 => .int
  | 5 => .int
  | 6 => .int
  | 7 => .int
  | 8 => .int
  | 9 => .array .int
  | 10 => .array .int
  | 11 => .array .int
  | 12 => .array .int
  | 13 => .array .int
  | 14 => .array .int
  | 15 => .array .int
  | 16 => .array .int
  | 17 => .array .int
  | 18 => .array .int
  | 19 => .array .int
  | 20 => .array .int
  | 21 => .array .int
  | 22 => .array .int
  | 23 => .array .int
  | 24 => .array .int
  | 25 => .array .int
  | 26 => .array .int
  | _ => .array .int
abbrev wsX220 : List Cond := u_ws RX22 TX22 28
theorem nmX22 : ∀ a, a < 28 → ∀ b, b < 28 → a ≠ b → (TX22 a).2.1 ≠ (TX22 b).2.1 := by decide +kernel
theorem tyX22_ok : ∀ k, k < 28 → parseFieldDescriptor (TX22 k).2.2.1 = some (tyX22 k) := by decide +kernel
abbrev cX22_init : ByteArray := prog_29_method_1_code
def yX22_init : MethodName := ⟨RX22, "<init>", "()V"⟩
abbrev cX22_clear : ByteArray := prog_29_method_2_code
def yX22_clear : MethodName := ⟨RX22, "clear", "()V"⟩
abbrev cX22_read : ByteArray := prog_29_method_3_code
def yX22_read : MethodName := ⟨RX22, "read", "([BI)V"⟩
abbrev cX22_pageBody : ByteArray := prog_29_method_4_code
def yX22_pageBody : MethodName := ⟨RX22, "pageBody", "()V"⟩
abbrev cX22_word : ByteArray := prog_29_method_5_code
def yX22_word : MethodName := ⟨RX22, "word", "(Ljava/lang/String;)I"⟩
abbrev cX22_rule : ByteArray := prog_29_method_6_code
def yX22_rule : MethodName := ⟨RX22, "rule", "()V"⟩
abbrev cX22_selector : ByteArray := prog_29_method_7_code
def yX22_selector : MethodName := ⟨RX22, "selector", "()V"⟩
abbrev cX22_step : ByteArray := prog_29_method_8_code
def yX22_step : MethodName := ⟨RX22, "step", "(II)V"⟩
abbrev cX22_bracket : ByteArray := prog_29_method_9_code
def yX22_bracket : MethodName := ⟨RX22, "bracket", "()V"⟩
abbrev cX22_colon : ByteArray := prog_29_method_10_code
def yX22_colon : MethodName := ⟨RX22, "colon", "()V"⟩
abbrev cX22_body : ByteArray := prog_29_method_12_code
def yX22_body : MethodName := ⟨RX22, "body", "()V"⟩
abbrev cX22_numberOf : ByteArray := prog_29_method_11_code
def yX22_numberOf : MethodName := ⟨RX22, "numberOf", "(LScholarsPressModel$Signs;)I"⟩
abbrev cX22_valueOf : ByteArray := prog_29_method_13_code
def yX22_valueOf : MethodName := ⟨RX22, "valueOf", "(I)I"⟩
abbrev cX22_size : ByteArray := prog_29_method_14_code
def yX22_size : MethodName := ⟨RX22, "size", "()I"⟩
abbrev cX22_counter : ByteArray := prog_29_method_15_code
def yX22_counter : MethodName := ⟨RX22, "counter", "()I"⟩
theorem q376 : (Jvm.Cond.initialized "ScholarsPressModel$Style") ∈ lw_all := lw_g (lw_at lw_m1 22 rfl) rfl
theorem q3274 : (Jvm.Cond.fieldLink "ScholarsPressModel$Style" (209 : Nat) "ScholarsPressModel$Signs" "text" "[B") ∈ lw_all := lw_g (lw_at lw_m13 40 rfl) rfl
theorem q3277 : (Jvm.Cond.fieldLink "ScholarsPressModel$Style" (111 : Nat) "ScholarsPressModel$Signs" "kind" "I") ∈ lw_all := lw_g (lw_at lw_m13 43 rfl) rfl
theorem q3281 : (Jvm.Cond.fieldLink "ScholarsPressModel$Style" (176 : Nat) "ScholarsPressModel$Signs" "from" "I") ∈ lw_all := lw_g (lw_at lw_m13 47 rfl) rfl
theorem q3284 : (Jvm.Cond.fieldLink "ScholarsPressModel$Style" (173 : Nat) "ScholarsPressModel$Signs" "to" "I") ∈ lw_all := lw_g (lw_at lw_m13 50 rfl) rfl
theorem q3286 : (Jvm.Cond.fieldLink "ScholarsPressModel$Style" (235 : Nat) "ScholarsPressModel$Signs" "number" "I") ∈ lw_all := lw_g (lw_at lw_m13 52 rfl) rfl
theorem q3288 : (Jvm.Cond.fieldLink "ScholarsPressModel$Style" (189 : Nat) "ScholarsPressModel$Signs" "byteOf" "I") ∈ lw_all := lw_g (lw_at lw_m13 54 rfl) rfl
theorem q3391 : (Jvm.Cond.instantiable "ScholarsPressModel$Style" (28 : Nat)) ∈ lw_all := lw_g (lw_at lw_m13 157 rfl) rfl
theorem q3393 : (Jvm.Cond.instanceMethod ({ cls := "ScholarsPressModel$Style", name := "<init>", desc := "()V" } : Jvm.MethodName)) ∈ lw_all := lw_g (lw_at lw_m13 159 rfl) rfl
theorem q3394 : (Jvm.Cond.code ({ cls := "ScholarsPressModel$Style", name := "<init>", desc := "()V" } : Jvm.MethodName) prog_29_method_1_code (1 : Nat) (Option.none : Option Jvm.ClassFile.FieldType)) ∈ lw_all := lw_g (lw_at lw_m13 160 rfl) rfl
theorem q3395 : (Jvm.Cond.methodLink "ScholarsPressModel$Style" (3 : Nat) ({ cls := "java/lang/Object", name := "<init>", desc := "()V" } : Jvm.MethodName)) ∈ lw_all := lw_g (lw_at lw_m13 161 rfl) rfl
theorem q3396 : (Jvm.Cond.classLink "ScholarsPressModel$Style" (15 : Nat) "ScholarsPressModel$Signs") ∈ lw_all := lw_g (lw_at lw_m13 162 rfl) rfl
theorem q3397 : (Jvm.Cond.methodLinkNest "ScholarsPressModel$Style" (17 : Nat) ({ cls := "ScholarsPressModel$Signs", name := "<init>", desc := "()V" } : Jvm.MethodName) "ScholarsPressModel") ∈ lw_tbl := lw_at lw_m13 163 rfl
theorem q3398 : (Jvm.Cond.methodLink "ScholarsPressModel$Style" (83 : Nat) ({ cls := "ScholarsPressModel$Style", name := "clear", desc := "()V" } : Jvm.MethodName)) ∈ lw_all := lw_g (lw_at lw_m13 164 rfl) rfl
theorem q3399 : (Jvm.Cond.instanceMethod ({ cls := "ScholarsPressModel$Style", name := "clear", desc := "()V" } : Jvm.MethodName)) ∈ lw_all := lw_g (lw_at lw_m13 165 rfl) rfl
theorem q3400 : (Jvm.Cond.selects "ScholarsPressModel$Style" ({ cls := "ScholarsPressModel$Style", name := "clear", desc := "()V" } : Jvm.MethodName) ({ cls := "ScholarsPressModel$Style", name := "clear", desc := "()V" } : Jvm.MethodName)) ∈ lw_all := lw_g (lw_at lw_m13 166 rfl) rfl
theorem q3401 : (Jvm.Cond.code ({ cls := "ScholarsPressModel$Style", name := "clear", desc := "()V" } : Jvm.MethodName) prog_29_method_2_code (1 : Nat) (Option.none : Option Jvm.ClassFile.FieldType)) ∈ lw_all := lw_g (lw_at lw_m13 167 rfl) rfl
theorem q3402 : (Jvm.Cond.constant "ScholarsPressModel$Style" (86 : Nat) (300000 : Int32)) ∈ lw_all := lw_g (lw_at lw_m13 168 rfl) rfl
theorem q3403 : (Jvm.Cond.constant "ScholarsPressModel$Style" (87 : Nat) (400000 : Int32)) ∈ lw_all := lw_g (lw_at lw_m13 169 rfl) rfl
theorem q3404 : (Jvm.Cond.fieldLink "ScholarsPressModel$Style" (9 : Nat) "ScholarsPressModel$Style" "text" "[B") ∈ lw_all := lw_g (lw_at lw_m13 170 rfl) rfl
theorem q3406 : (Jvm.Cond.fieldLink "ScholarsPressModel$Style" (18 : Nat) "ScholarsPressModel$Style" "signs" "LScholarsPressModel$Signs;") ∈ lw_all := lw_g (lw_at lw_m13 172 rfl) rfl
theorem q3407 : (Jvm.Cond.fieldLink "ScholarsPressModel$Style" (22 : Nat) "ScholarsPressModel$Style" "page" "[I") ∈ lw_all := lw_g (lw_at lw_m13 173 rfl) rfl
theorem q3409 : (Jvm.Cond.fieldLink "ScholarsPressModel$Style" (88 : Nat) "ScholarsPressModel$Style" "selectors" "I") ∈ lw_all := lw_g (lw_at lw_m13 175 rfl) rfl
theorem q3412 : (Jvm.Cond.fieldLink "ScholarsPressModel$Style" (92 : Nat) "ScholarsPressModel$Style" "steps" "I") ∈ lw_all := lw_g (lw_at lw_m13 178 rfl) rfl
theorem q3413 : (Jvm.Cond.fieldLink "ScholarsPressModel$Style" (95 : Nat) "ScholarsPressModel$Style" "tests" "I") ∈ lw_all := lw_g (lw_at lw_m13 179 rfl) rfl
theorem q3414 : (Jvm.Cond.fieldLink "ScholarsPressModel$Style" (98 : Nat) "ScholarsPressModel$Style" "bodies" "I") ∈ lw_all := lw_g (lw_at lw_m13 180 rfl) rfl
theorem q3415 : (Jvm.Cond.fieldLink "ScholarsPressModel$Style" (101 : Nat) "ScholarsPressModel$Style" "props" "I") ∈ lw_all := lw_g (lw_at lw_m13 181 rfl) rfl
theorem q3416 : (Jvm.Cond.fieldLink "ScholarsPressModel$Style" (104 : Nat) "ScholarsPressModel$Style" "counters" "I") ∈ lw_all := lw_g (lw_at lw_m13 182 rfl) rfl
theorem q3417 : (Jvm.Cond.fieldLink "ScholarsPressModel$Style" (26 : Nat) "ScholarsPressModel$Style" "selectorFrom" "[I") ∈ lw_all := lw_g (lw_at lw_m13 183 rfl) rfl
theorem q3419 : (Jvm.Cond.fieldLink "ScholarsPressModel$Style" (29 : Nat) "ScholarsPressModel$Style" "selectorBody" "[I") ∈ lw_all := lw_g (lw_at lw_m13 185 rfl) rfl
theorem q3421 : (Jvm.Cond.fieldLink "ScholarsPressModel$Style" (32 : Nat) "ScholarsPressModel$Style" "stepName" "[I") ∈ lw_all := lw_g (lw_at lw_m13 187 rfl) rfl
theorem q3423 : (Jvm.Cond.fieldLink "ScholarsPressModel$Style" (35 : Nat) "ScholarsPressModel$Style" "stepEnd" "[I") ∈ lw_all := lw_g (lw_at lw_m13 189 rfl) rfl
theorem q3425 : (Jvm.Cond.fieldLink "ScholarsPressModel$Style" (38 : Nat) "ScholarsPressModel$Style" "stepLink" "[I") ∈ lw_all := lw_g (lw_at lw_m13 191 rfl) rfl
theorem q3427 : (Jvm.Cond.fieldLink "ScholarsPressModel$Style" (41 : Nat) "ScholarsPressModel$Style" "stepTests" "[I") ∈ lw_all := lw_g (lw_at lw_m13 193 rfl) rfl
theorem q3429 : (Jvm.Cond.fieldLink "ScholarsPressModel$Style" (44 : Nat) "ScholarsPressModel$Style" "test" "[I") ∈ lw_all := lw_g (lw_at lw_m13 195 rfl) rfl
theorem q3431 : (Jvm.Cond.fieldLink "ScholarsPressModel$Style" (47 : Nat) "ScholarsPressModel$Style" "testName" "[I") ∈ lw_all := lw_g (lw_at lw_m13 197 rfl) rfl
theorem q3433 : (Jvm.Cond.fieldLink "ScholarsPressModel$Style" (50 : Nat) "ScholarsPressModel$Style" "testEnd" "[I") ∈ lw_all := lw_g (lw_at lw_m13 199 rfl) rfl
theorem q3435 : (Jvm.Cond.fieldLink "ScholarsPressModel$Style" (53 : Nat) "ScholarsPressModel$Style" "testText" "[I") ∈ lw_all := lw_g (lw_at lw_m13 201 rfl) rfl
theorem q3437 : (Jvm.Cond.fieldLink "ScholarsPressModel$Style" (56 : Nat) "ScholarsPressModel$Style" "testTextEnd" "[I") ∈ lw_all := lw_g (lw_at lw_m13 203 rfl) rfl
theorem q3439 : (Jvm.Cond.fieldLink "ScholarsPressModel$Style" (59 : Nat) "ScholarsPressModel$Style" "testNumber" "[I") ∈ lw_all := lw_g (lw_at lw_m13 205 rfl) rfl
theorem q3441 : (Jvm.Cond.fieldLink "ScholarsPressModel$Style" (62 : Nat) "ScholarsPressModel$Style" "bodyFrom" "[I") ∈ lw_all := lw_g (lw_at lw_m13 207 rfl) rfl
theorem q3443 : (Jvm.Cond.fieldLink "ScholarsPressModel$Style" (65 : Nat) "ScholarsPressModel$Style" "prop" "[I") ∈ lw_all := lw_g (lw_at lw_m13 209 rfl) rfl
theorem q3445 : (Jvm.Cond.fieldLink "ScholarsPressModel$Style" (68 : Nat) "ScholarsPressModel$Style" "value" "[I") ∈ lw_all := lw_g (lw_at lw_m13 211 rfl) rfl
theorem q3447 : (Jvm.Cond.fieldLink "ScholarsPressModel$Style" (71 : Nat) "ScholarsPressModel$Style" "label" "[I") ∈ lw_all := lw_g (lw_at lw_m13 213 rfl) rfl
theorem q3449 : (Jvm.Cond.fieldLink "ScholarsPressModel$Style" (74 : Nat) "ScholarsPressModel$Style" "labelEnd" "[I") ∈ lw_all := lw_g (lw_at lw_m13 215 rfl) rfl
theorem q3451 : (Jvm.Cond.fieldLink "ScholarsPressModel$Style" (77 : Nat) "ScholarsPressModel$Style" "counter" "[I") ∈ lw_all := lw_g (lw_at lw_m13 217 rfl) rfl
theorem q3452 : (Jvm.Cond.fieldLink "ScholarsPressModel$Style" (80 : Nat) "ScholarsPressModel$Style" "counterEnd" "[I") ∈ lw_all := lw_g (lw_at lw_m13 218 rfl) rfl
theorem q3453 : (Jvm.Cond.laysFinal "ScholarsPressModel$Style" "ScholarsPressModel$Style" "text" "[B") ∈ lw_all := lw_g (lw_at lw_m13 219 rfl) rfl
theorem q3454 : (Jvm.Cond.soleField "ScholarsPressModel$Style" "text") ∈ lw_all := lw_g (lw_at lw_m13 220 rfl) rfl
theorem q3455 : (Jvm.Cond.laysFinal "ScholarsPressModel$Style" "ScholarsPressModel$Style" "signs" "LScholarsPressModel$Signs;") ∈ lw_all := lw_g (lw_at lw_m13 221 rfl) rfl
theorem q3456 : (Jvm.Cond.soleField "ScholarsPressModel$Style" "signs") ∈ lw_all := lw_g (lw_at lw_m13 222 rfl) rfl
theorem q3457 : (Jvm.Cond.laysFinal "ScholarsPressModel$Style" "ScholarsPressModel$Style" "page" "[I") ∈ lw_all := lw_g (lw_at lw_m13 223 rfl) rfl
theorem q3458 : (Jvm.Cond.soleField "ScholarsPressModel$Style" "page") ∈ lw_all := lw_g (lw_at lw_m13 224 rfl) rfl
theorem q3459 : (Jvm.Cond.lays "ScholarsPressModel$Style" "ScholarsPressModel$Style" "selectors" "I") ∈ lw_all := lw_g (lw_at lw_m13 225 rfl) rfl
theorem q3460 : (Jvm.Cond.soleField "ScholarsPressModel$Style" "selectors") ∈ lw_all := lw_g (lw_at lw_m13 226 rfl) rfl
theorem q3461 : (Jvm.Cond.lays "ScholarsPressModel$Style" "ScholarsPressModel$Style" "steps" "I") ∈ lw_all := lw_g (lw_at lw_m13 227 rfl) rfl
theorem q3462 : (Jvm.Cond.soleField "ScholarsPressModel$Style" "steps") ∈ lw_all := lw_g (lw_at lw_m13 228 rfl) rfl
theorem q3463 : (Jvm.Cond.lays "ScholarsPressModel$Style" "ScholarsPressModel$Style" "tests" "I") ∈ lw_all := lw_g (lw_at lw_m13 229 rfl) rfl
theorem q3464 : (Jvm.Cond.soleField "ScholarsPressModel$Style" "tests") ∈ lw_all := lw_g (lw_at lw_m13 230 rfl) rfl
theorem q3465 : (Jvm.Cond.lays "ScholarsPressModel$Style" "ScholarsPressModel$Style" "bodies" "I") ∈ lw_all := lw_g (lw_at lw_m13 231 rfl) rfl
theorem q3466 : (Jvm.Cond.soleField "ScholarsPressModel$Style" "bodies") ∈ lw_all := lw_g (lw_at lw_m13 232 rfl) rfl
theorem q3467 : (Jvm.Cond.lays "ScholarsPressModel$Style" "ScholarsPressModel$Style" "props" "I") ∈ lw_all := lw_g (lw_at lw_m13 233 rfl) rfl
theorem q3468 : (Jvm.Cond.soleField "ScholarsPressModel$Style" "props") ∈ lw_all := lw_g (lw_at lw_m13 234 rfl) rfl
theorem q3469 : (Jvm.Cond.lays "ScholarsPressModel$Style" "ScholarsPressModel$Style" "counters" "I") ∈ lw_all := lw_g (lw_at lw_m13 235 rfl) rfl
theorem q3470 : (Jvm.Cond.soleField "ScholarsPressModel$Style" "counters") ∈ lw_all := lw_g (lw_at lw_m13 236 rfl) rfl
theorem q3471 : (Jvm.Cond.laysFinal "ScholarsPressModel$Style" "ScholarsPressModel$Style" "selectorFrom" "[I") ∈ lw_all := lw_g (lw_at lw_m13 237 rfl) rfl
theorem q3472 : (Jvm.Cond.soleField "ScholarsPressModel$Style" "selectorFrom") ∈ lw_all := lw_g (lw_at lw_m13 238 rfl) rfl
theorem q3473 : (Jvm.Cond.laysFinal "ScholarsPressModel$Style" "ScholarsPressModel$Style" "selectorBody" "[I") ∈ lw_all := lw_g (lw_at lw_m13 239 rfl) rfl
theorem q3474 : (Jvm.Cond.soleField "ScholarsPressModel$Style" "selectorBody") ∈ lw_all := lw_g (lw_at lw_m14 0 rfl) rfl
theorem q3475 : (Jvm.Cond.laysFinal "ScholarsPressModel$Style" "ScholarsPressModel$Style" "stepName" "[I") ∈ lw_all := lw_g (lw_at lw_m14 1 rfl) rfl
theorem q3476 : (Jvm.Cond.soleField "ScholarsPressModel$Style" "stepName") ∈ lw_all := lw_g (lw_at lw_m14 2 rfl) rfl
theorem q3477 : (Jvm.Cond.laysFinal "ScholarsPressModel$Style" "ScholarsPressModel$Style" "stepEnd" "[I") ∈ lw_all := lw_g (lw_at lw_m14 3 rfl) rfl
theorem q3478 : (Jvm.Cond.soleField "ScholarsPressModel$Style" "stepEnd") ∈ lw_all := lw_g (lw_at lw_m14 4 rfl) rfl
theorem q3479 : (Jvm.Cond.laysFinal "ScholarsPressModel$Style" "ScholarsPressModel$Style" "stepLink" "[I") ∈ lw_all := lw_g (lw_at lw_m14 5 rfl) rfl
theorem q3480 : (Jvm.Cond.soleField "ScholarsPressModel$Style" "stepLink") ∈ lw_all := lw_g (lw_at lw_m14 6 rfl) rfl
theorem q3481 : (Jvm.Cond.laysFinal "ScholarsPressModel$Style" "ScholarsPressModel$Style" "stepTests" "[I") ∈ lw_all := lw_g (lw_at lw_m14 7 rfl) rfl
theorem q3482 : (Jvm.Cond.soleField "ScholarsPressModel$Style" "stepTests") ∈ lw_all := lw_g (lw_at lw_m14 8 rfl) rfl
theorem q3483 : (Jvm.Cond.laysFinal "ScholarsPressModel$Style" "ScholarsPressModel$Style" "test" "[I") ∈ lw_all := lw_g (lw_at lw_m14 9 rfl) rfl
theorem q3484 : (Jvm.Cond.soleField "ScholarsPressModel$Style" "test") ∈ lw_all := lw_g (lw_at lw_m14 10 rfl) rfl
theorem q3485 : (Jvm.Cond.laysFinal "ScholarsPressModel$Style" "ScholarsPressModel$Style" "testName" "[I") ∈ lw_all := lw_g (lw_at lw_m14 11 rfl) rfl
theorem q3486 : (Jvm.Cond.soleField "ScholarsPressModel$Style" "testName") ∈ lw_all := lw_g (lw_at lw_m14 12 rfl) rfl
theorem q3487 : (Jvm.Cond.laysFinal "ScholarsPressModel$Style" "ScholarsPressModel$Style" "testEnd" "[I") ∈ lw_all := lw_g (lw_at lw_m14 13 rfl) rfl
theorem q3488 : (Jvm.Cond.soleField "ScholarsPressModel$Style" "testEnd") ∈ lw_all := lw_g (lw_at lw_m14 14 rfl) rfl
theorem q3489 : (Jvm.Cond.laysFinal "ScholarsPressModel$Style" "ScholarsPressModel$Style" "testText" "[I") ∈ lw_all := lw_g (lw_at lw_m14 15 rfl) rfl
theorem q3490 : (Jvm.Cond.soleField "ScholarsPressModel$Style" "testText") ∈ lw_all := lw_g (lw_at lw_m14 16 rfl) rfl
theorem q3491 : (Jvm.Cond.laysFinal "ScholarsPressModel$Style" "ScholarsPressModel$Style" "testTextEnd" "[I") ∈ lw_all := lw_g (lw_at lw_m14 17 rfl) rfl
theorem q3492 : (Jvm.Cond.soleField "ScholarsPressModel$Style" "testTextEnd") ∈ lw_all := lw_g (lw_at lw_m14 18 rfl) rfl
theorem q3493 : (Jvm.Cond.laysFinal "ScholarsPressModel$Style" "ScholarsPressModel$Style" "testNumber" "[I") ∈ lw_all := lw_g (lw_at lw_m14 19 rfl) rfl
theorem q3494 : (Jvm.Cond.soleField "ScholarsPressModel$Style" "testNumber") ∈ lw_all := lw_g (lw_at lw_m14 20 rfl) rfl
theorem q3495 : (Jvm.Cond.laysFinal "ScholarsPressModel$Style" "ScholarsPressModel$Style" "bodyFrom" "[I") ∈ lw_all := lw_g (lw_at lw_m14 21 rfl) rfl
theorem q3496 : (Jvm.Cond.soleField "ScholarsPressModel$Style" "bodyFrom") ∈ lw_all := lw_g (lw_at lw_m14 22 rfl) rfl
theorem q3497 : (Jvm.Cond.laysFinal "ScholarsPressModel$Style" "ScholarsPressModel$Style" "prop" "[I") ∈ lw_all := lw_g (lw_at lw_m14 23 rfl) rfl
theorem q3498 : (Jvm.Cond.soleField "ScholarsPressModel$Style" "prop") ∈ lw_all := lw_g (lw_at lw_m14 24 rfl) rfl
theorem q3499 : (Jvm.Cond.laysFinal "ScholarsPressModel$Style" "ScholarsPressModel$Style" "value" "[I") ∈ lw_all := lw_g (lw_at lw_m14 25 rfl) rfl
theorem q3500 : (Jvm.Cond.soleField "ScholarsPressModel$Style" "value") ∈ lw_all := lw_g (lw_at lw_m14 26 rfl) rfl
theorem q3501 : (Jvm.Cond.laysFinal "ScholarsPressModel$Style" "ScholarsPressModel$Style" "label" "[I") ∈ lw_all := lw_g (lw_at lw_m14 27 rfl) rfl
theorem q3502 : (Jvm.Cond.soleField "ScholarsPressModel$Style" "label") ∈ lw_all := lw_g (lw_at lw_m14 28 rfl) rfl
theorem q3503 : (Jvm.Cond.laysFinal "ScholarsPressModel$Style" "ScholarsPressModel$Style" "labelEnd" "[I") ∈ lw_all := lw_g (lw_at lw_m14 29 rfl) rfl
theorem q3504 : (Jvm.Cond.soleField "ScholarsPressModel$Style" "labelEnd") ∈ lw_all := lw_g (lw_at lw_m14 30 rfl) rfl
theorem q3505 : (Jvm.Cond.laysFinal "ScholarsPressModel$Style" "ScholarsPressModel$Style" "counter" "[I") ∈ lw_all := lw_g (lw_at lw_m14 31 rfl) rfl
theorem q3506 : (Jvm.Cond.soleField "ScholarsPressModel$Style" "counter") ∈ lw_all := lw_g (lw_at lw_m14 32 rfl) rfl
theorem q3507 : (Jvm.Cond.laysFinal "ScholarsPressModel$Style" "ScholarsPressModel$Style" "counterEnd" "[I") ∈ lw_all := lw_g (lw_at lw_m14 33 rfl) rfl
theorem q3508 : (Jvm.Cond.soleField "ScholarsPressModel$Style" "counterEnd") ∈ lw_all := lw_g (lw_at lw_m14 34 rfl) rfl
theorem q3509 : (Jvm.Cond.superclass "ScholarsPressModel$Style" "java/lang/Object") ∈ lw_all := lw_g (lw_at lw_m14 35 rfl) rfl
theorem q4475 : (Jvm.Cond.instanceMethod ({ cls := "ScholarsPressModel$Style", name := "read", desc := "([BI)V" } : Jvm.MethodName)) ∈ lw_all := lw_g (lw_at lw_m18 41 rfl) rfl
theorem q4476 : (Jvm.Cond.selects "ScholarsPressModel$Style" ({ cls := "ScholarsPressModel$Style", name := "read", desc := "([BI)V" } : Jvm.MethodName) ({ cls := "ScholarsPressModel$Style", name := "read", desc := "([BI)V" } : Jvm.MethodName)) ∈ lw_all := lw_g (lw_at lw_m18 42 rfl) rfl
theorem q4477 : (Jvm.Cond.code ({ cls := "ScholarsPressModel$Style", name := "read", desc := "([BI)V" } : Jvm.MethodName) prog_29_method_3_code (4 : Nat) (Option.none : Option Jvm.ClassFile.FieldType)) ∈ lw_all := lw_g (lw_at lw_m18 43 rfl) rfl
theorem q4478 : (Jvm.Cond.methodLink "ScholarsPressModel$Style" (107 : Nat) ({ cls := "ScholarsPressModel$Signs", name := "open", desc := "([BI)V" } : Jvm.MethodName)) ∈ lw_all := lw_g (lw_at lw_m18 44 rfl) rfl
theorem q4479 : (Jvm.Cond.stringRef "ScholarsPressModel$Style" (114 : Nat) "page") ∈ lw_tbl := lw_at lw_m18 45 rfl
theorem q4480 : (Jvm.Cond.methodLink "ScholarsPressModel$Style" (115 : Nat) ({ cls := "ScholarsPressModel$Signs", name := "isName", desc := "(Ljava/lang/String;)Z" } : Jvm.MethodName)) ∈ lw_all := lw_g (lw_at lw_m18 46 rfl) rfl
theorem q4481 : (Jvm.Cond.methodLink "ScholarsPressModel$Style" (119 : Nat) ({ cls := "ScholarsPressModel$Signs", name := "next", desc := "()V" } : Jvm.MethodName)) ∈ lw_all := lw_g (lw_at lw_m18 47 rfl) rfl
theorem q4482 : (Jvm.Cond.methodLink "ScholarsPressModel$Style" (122 : Nat) ({ cls := "ScholarsPressModel$Style", name := "pageBody", desc := "()V" } : Jvm.MethodName)) ∈ lw_all := lw_g (lw_at lw_m18 48 rfl) rfl
theorem q4483 : (Jvm.Cond.privateMethod ({ cls := "ScholarsPressModel$Style", name := "pageBody", desc := "()V" } : Jvm.MethodName)) ∈ lw_tbl := lw_at lw_m18 49 rfl
theorem q4484 : (Jvm.Cond.instanceMethod ({ cls := "ScholarsPressModel$Style", name := "pageBody", desc := "()V" } : Jvm.MethodName)) ∈ lw_all := lw_g (lw_at lw_m18 50 rfl) rfl
theorem q4485 : (Jvm.Cond.code ({ cls := "ScholarsPressModel$Style", name := "pageBody", desc := "()V" } : Jvm.MethodName) prog_29_method_4_code (2 : Nat) (Option.none : Option Jvm.ClassFile.FieldType)) ∈ lw_all := lw_g (lw_at lw_m18 51 rfl) rfl
theorem q4486 : (Jvm.Cond.methodLink "ScholarsPressModel$Style" (128 : Nat) ({ cls := "ScholarsPressModel$Signs", name := "need", desc := "(I)V" } : Jvm.MethodName)) ∈ lw_all := lw_g (lw_at lw_m18 52 rfl) rfl
theorem q4487 : (Jvm.Cond.methodLink "ScholarsPressModel$Style" (132 : Nat) ({ cls := "ScholarsPressModel$Signs", name := "isByte", desc := "(I)Z" } : Jvm.MethodName)) ∈ lw_all := lw_g (lw_at lw_m18 53 rfl) rfl
theorem q4488 : (Jvm.Cond.stringRef "ScholarsPressModel$Style" (136 : Nat) "width") ∈ lw_tbl := lw_at lw_m18 54 rfl
theorem q4489 : (Jvm.Cond.stringRef "ScholarsPressModel$Style" (138 : Nat) "height") ∈ lw_tbl := lw_at lw_m18 55 rfl
theorem q4490 : (Jvm.Cond.stringRef "ScholarsPressModel$Style" (140 : Nat) "columns") ∈ lw_tbl := lw_at lw_m18 56 rfl
theorem q4491 : (Jvm.Cond.stringRef "ScholarsPressModel$Style" (142 : Nat) "gap") ∈ lw_tbl := lw_at lw_m18 57 rfl
theorem q4492 : (Jvm.Cond.stringRef "ScholarsPressModel$Style" (144 : Nat) "rule") ∈ lw_tbl := lw_at lw_m18 58 rfl
theorem q4493 : (Jvm.Cond.stringRef "ScholarsPressModel$Style" (145 : Nat) "lines") ∈ lw_tbl := lw_at lw_m18 59 rfl
theorem q4494 : (Jvm.Cond.methodLink "ScholarsPressModel$Style" (147 : Nat) ({ cls := "ScholarsPressModel$Signs", name := "broken", desc := "()LScholarsPressModel$Broken;" } : Jvm.MethodName)) ∈ lw_all := lw_g (lw_at lw_m18 60 rfl) rfl
theorem q4495 : (Jvm.Cond.constant "ScholarsPressModel$Style" (151 : Nat) (1000000 : Int32)) ∈ lw_all := lw_g (lw_at lw_m18 61 rfl) rfl
theorem q4496 : (Jvm.Cond.methodLink "ScholarsPressModel$Style" (152 : Nat) ({ cls := "ScholarsPressModel$Signs", name := "needNumber", desc := "(II)I" } : Jvm.MethodName)) ∈ lw_all := lw_g (lw_at lw_m18 62 rfl) rfl
theorem q4497 : (Jvm.Cond.constant "ScholarsPressModel$Style" (156 : Nat) (100000 : Int32)) ∈ lw_all := lw_g (lw_at lw_m18 63 rfl) rfl
theorem q4498 : (Jvm.Cond.stringRef "ScholarsPressModel$Style" (157 : Nat) "no page all") ∈ lw_tbl := lw_at lw_m18 64 rfl
theorem q4499 : (Jvm.Cond.methodLink "ScholarsPressModel$Style" (159 : Nat) ({ cls := "ScholarsPressModel$Style", name := "word", desc := "(Ljava/lang/String;)I" } : Jvm.MethodName)) ∈ lw_all := lw_g (lw_at lw_m18 65 rfl) rfl
theorem q4500 : (Jvm.Cond.privateMethod ({ cls := "ScholarsPressModel$Style", name := "word", desc := "(Ljava/lang/String;)I" } : Jvm.MethodName)) ∈ lw_tbl := lw_at lw_m18 66 rfl
theorem q4501 : (Jvm.Cond.instanceMethod ({ cls := "ScholarsPressModel$Style", name := "word", desc := "(Ljava/lang/String;)I" } : Jvm.MethodName)) ∈ lw_all := lw_g (lw_at lw_m18 67 rfl) rfl
theorem q4502 : (Jvm.Cond.code ({ cls := "ScholarsPressModel$Style", name := "word", desc := "(Ljava/lang/String;)I" } : Jvm.MethodName) prog_29_method_5_code (7 : Nat) (Option.some Jvm.ClassFile.FieldType.int)) ∈ lw_all := lw_g (lw_at lw_m18 68 rfl) rfl
theorem q4503 : (Jvm.Cond.methodLink "ScholarsPressModel$Style" (163 : Nat) ({ cls := "java/lang/String", name := "length", desc := "()I" } : Jvm.MethodName)) ∈ lw_all := lw_g (lw_at lw_m18 69 rfl) rfl
theorem q4504 : (Jvm.Cond.methodLink "ScholarsPressModel$Style" (169 : Nat) ({ cls := "java/lang/String", name := "charAt", desc := "(I)C" } : Jvm.MethodName)) ∈ lw_all := lw_g (lw_at lw_m18 70 rfl) rfl
theorem q4505 : (Jvm.Cond.methodLink "ScholarsPressModel$Style" (125 : Nat) ({ cls := "ScholarsPressModel$Style", name := "rule", desc := "()V" } : Jvm.MethodName)) ∈ lw_all := lw_g (lw_at lw_m18 71 rfl) rfl
theorem q4506 : (Jvm.Cond.privateMethod ({ cls := "ScholarsPressModel$Style", name := "rule", desc := "()V" } : Jvm.MethodName)) ∈ lw_tbl := lw_at lw_m18 72 rfl
theorem q4507 : (Jvm.Cond.instanceMethod ({ cls := "ScholarsPressModel$Style", name := "rule", desc := "()V" } : Jvm.MethodName)) ∈ lw_all := lw_g (lw_at lw_m18 73 rfl) rfl
theorem q4508 : (Jvm.Cond.code ({ cls := "ScholarsPressModel$Style", name := "rule", desc := "()V" } : Jvm.MethodName) prog_29_method_6_code (3 : Nat) (Option.none : Option Jvm.ClassFile.FieldType)) ∈ lw_all := lw_g (lw_at lw_m18 74 rfl) rfl
theorem q4509 : (Jvm.Cond.methodLink "ScholarsPressModel$Style" (179 : Nat) ({ cls := "ScholarsPressModel$Style", name := "selector", desc := "()V" } : Jvm.MethodName)) ∈ lw_all := lw_g (lw_at lw_m18 75 rfl) rfl
theorem q4510 : (Jvm.Cond.privateMethod ({ cls := "ScholarsPressModel$Style", name := "selector", desc := "()V" } : Jvm.MethodName)) ∈ lw_tbl := lw_at lw_m18 76 rfl
theorem q4511 : (Jvm.Cond.instanceMethod ({ cls := "ScholarsPressModel$Style", name := "selector", desc := "()V" } : Jvm.MethodName)) ∈ lw_all := lw_g (lw_at lw_m18 77 rfl) rfl
theorem q4512 : (Jvm.Cond.code ({ cls := "ScholarsPressModel$Style", name := "selector", desc := "()V" } : Jvm.MethodName) prog_29_method_7_code (3 : Nat) (Option.none : Option Jvm.ClassFile.FieldType)) ∈ lw_all := lw_g (lw_at lw_m18 78 rfl) rfl
theorem q4513 : (Jvm.Cond.methodLink "ScholarsPressModel$Style" (185 : Nat) ({ cls := "ScholarsPressModel$Style", name := "step", desc := "(II)V" } : Jvm.MethodName)) ∈ lw_all := lw_g (lw_at lw_m18 79 rfl) rfl
theorem q4514 : (Jvm.Cond.privateMethod ({ cls := "ScholarsPressModel$Style", name := "step", desc := "(II)V" } : Jvm.MethodName)) ∈ lw_tbl := lw_at lw_m18 80 rfl
theorem q4515 : (Jvm.Cond.instanceMethod ({ cls := "ScholarsPressModel$Style", name := "step", desc := "(II)V" } : Jvm.MethodName)) ∈ lw_all := lw_g (lw_at lw_m18 81 rfl) rfl
theorem q4516 : (Jvm.Cond.code ({ cls := "ScholarsPressModel$Style", name := "step", desc := "(II)V" } : Jvm.MethodName) prog_29_method_8_code (4 : Nat) (Option.none : Option Jvm.ClassFile.FieldType)) ∈ lw_all := lw_g (lw_at lw_m18 82 rfl) rfl
theorem q4517 : (Jvm.Cond.methodLink "ScholarsPressModel$Style" (192 : Nat) ({ cls := "ScholarsPressModel$Style", name := "bracket", desc := "()V" } : Jvm.MethodName)) ∈ lw_all := lw_g (lw_at lw_m18 83 rfl) rfl
theorem q4518 : (Jvm.Cond.privateMethod ({ cls := "ScholarsPressModel$Style", name := "bracket", desc := "()V" } : Jvm.MethodName)) ∈ lw_tbl := lw_at lw_m18 84 rfl
theorem q4519 : (Jvm.Cond.instanceMethod ({ cls := "ScholarsPressModel$Style", name := "bracket", desc := "()V" } : Jvm.MethodName)) ∈ lw_all := lw_g (lw_at lw_m18 85 rfl) rfl
theorem q4520 : (Jvm.Cond.code ({ cls := "ScholarsPressModel$Style", name := "bracket", desc := "()V" } : Jvm.MethodName) prog_29_method_9_code (1 : Nat) (Option.none : Option Jvm.ClassFile.FieldType)) ∈ lw_all := lw_g (lw_at lw_m18 86 rfl) rfl
theorem q4521 : (Jvm.Cond.methodLink "ScholarsPressModel$Style" (198 : Nat) ({ cls := "ScholarsPressModel$Signs", name := "inner", desc := "()I" } : Jvm.MethodName)) ∈ lw_all := lw_g (lw_at lw_m18 87 rfl) rfl
theorem q4522 : (Jvm.Cond.methodLink "ScholarsPressModel$Style" (201 : Nat) ({ cls := "ScholarsPressModel$Signs", name := "innerEnd", desc := "()I" } : Jvm.MethodName)) ∈ lw_all := lw_g (lw_at lw_m18 88 rfl) rfl
theorem q4523 : (Jvm.Cond.methodLink "ScholarsPressModel$Style" (195 : Nat) ({ cls := "ScholarsPressModel$Style", name := "colon", desc := "()V" } : Jvm.MethodName)) ∈ lw_all := lw_g (lw_at lw_m18 89 rfl) rfl
theorem q4524 : (Jvm.Cond.privateMethod ({ cls := "ScholarsPressModel$Style", name := "colon", desc := "()V" } : Jvm.MethodName)) ∈ lw_tbl := lw_at lw_m18 90 rfl
theorem q4525 : (Jvm.Cond.instanceMethod ({ cls := "ScholarsPressModel$Style", name := "colon", desc := "()V" } : Jvm.MethodName)) ∈ lw_all := lw_g (lw_at lw_m18 91 rfl) rfl
theorem q4526 : (Jvm.Cond.code ({ cls := "ScholarsPressModel$Style", name := "colon", desc := "()V" } : Jvm.MethodName) prog_29_method_10_code (2 : Nat) (Option.none : Option Jvm.ClassFile.FieldType)) ∈ lw_all := lw_g (lw_at lw_m18 92 rfl) rfl
theorem q4527 : (Jvm.Cond.stringRef "ScholarsPressModel$Style" (204 : Nat) "first last empty nth not") ∈ lw_tbl := lw_at lw_m18 93 rfl
theorem q4528 : (Jvm.Cond.constant "ScholarsPressModel$Style" (206 : Nat) (9999999 : Int32)) ∈ lw_all := lw_g (lw_at lw_m18 94 rfl) rfl
theorem q4529 : (Jvm.Cond.methodLink "ScholarsPressModel$Style" (182 : Nat) ({ cls := "ScholarsPressModel$Style", name := "body", desc := "()V" } : Jvm.MethodName)) ∈ lw_all := lw_g (lw_at lw_m18 95 rfl) rfl
theorem q4530 : (Jvm.Cond.privateMethod ({ cls := "ScholarsPressModel$Style", name := "body", desc := "()V" } : Jvm.MethodName)) ∈ lw_tbl := lw_at lw_m18 96 rfl
theorem q4531 : (Jvm.Cond.instanceMethod ({ cls := "ScholarsPressModel$Style", name := "body", desc := "()V" } : Jvm.MethodName)) ∈ lw_all := lw_g (lw_at lw_m18 97 rfl) rfl
theorem q4532 : (Jvm.Cond.code ({ cls := "ScholarsPressModel$Style", name := "body", desc := "()V" } : Jvm.MethodName) prog_29_method_12_code (2 : Nat) (Option.none : Option Jvm.ClassFile.FieldType)) ∈ lw_all := lw_g (lw_at lw_m18 98 rfl) rfl
theorem q4533 : (Jvm.Cond.methodLink "ScholarsPressModel$Style" (210 : Nat) ({ cls := "ScholarsPressModel$Style", name := "numberOf", desc := "(LScholarsPressModel$Signs;)I" } : Jvm.MethodName)) ∈ lw_all := lw_g (lw_at lw_m18 99 rfl) rfl
theorem q4534 : (Jvm.Cond.static ({ cls := "ScholarsPressModel$Style", name := "numberOf", desc := "(LScholarsPressModel$Signs;)I" } : Jvm.MethodName)) ∈ lw_all := lw_g (lw_at lw_m18 100 rfl) rfl
theorem q4535 : (Jvm.Cond.code ({ cls := "ScholarsPressModel$Style", name := "numberOf", desc := "(LScholarsPressModel$Signs;)I" } : Jvm.MethodName) prog_29_method_11_code (7 : Nat) (Option.some Jvm.ClassFile.FieldType.int)) ∈ lw_all := lw_g (lw_at lw_m18 101 rfl) rfl
theorem q4536 : (Jvm.Cond.stringRef "ScholarsPressModel$Style" (207 : Nat) "show size lead indent left right above below align hyphens tolerance first last keep count step reset label form depth head height ") ∈ lw_tbl := lw_at lw_m18 102 rfl
theorem q4537 : (Jvm.Cond.methodLink "ScholarsPressModel$Style" (214 : Nat) ({ cls := "ScholarsPressModel$Style", name := "valueOf", desc := "(I)I" } : Jvm.MethodName)) ∈ lw_all := lw_g (lw_at lw_m18 103 rfl) rfl
theorem q4538 : (Jvm.Cond.privateMethod ({ cls := "ScholarsPressModel$Style", name := "valueOf", desc := "(I)I" } : Jvm.MethodName)) ∈ lw_tbl := lw_at lw_m18 104 rfl
theorem q4539 : (Jvm.Cond.instanceMethod ({ cls := "ScholarsPressModel$Style", name := "valueOf", desc := "(I)I" } : Jvm.MethodName)) ∈ lw_all := lw_g (lw_at lw_m18 105 rfl) rfl
theorem q4540 : (Jvm.Cond.code ({ cls := "ScholarsPressModel$Style", name := "valueOf", desc := "(I)I" } : Jvm.MethodName) prog_29_method_13_code (2 : Nat) (Option.some Jvm.ClassFile.FieldType.int)) ∈ lw_all := lw_g (lw_at lw_m18 106 rfl) rfl
theorem q4541 : (Jvm.Cond.stringRef "ScholarsPressModel$Style" (218 : Nat) "inline block none note float table row cell contents index ref term") ∈ lw_tbl := lw_at lw_m18 107 rfl
theorem q4542 : (Jvm.Cond.methodLink "ScholarsPressModel$Style" (220 : Nat) ({ cls := "ScholarsPressModel$Style", name := "size", desc := "()I" } : Jvm.MethodName)) ∈ lw_all := lw_g (lw_at lw_m18 108 rfl) rfl
theorem q4543 : (Jvm.Cond.privateMethod ({ cls := "ScholarsPressModel$Style", name := "size", desc := "()I" } : Jvm.MethodName)) ∈ lw_tbl := lw_at lw_m18 109 rfl
theorem q4544 : (Jvm.Cond.instanceMethod ({ cls := "ScholarsPressModel$Style", name := "size", desc := "()I" } : Jvm.MethodName)) ∈ lw_all := lw_g (lw_at lw_m18 110 rfl) rfl
theorem q4545 : (Jvm.Cond.code ({ cls := "ScholarsPressModel$Style", name := "size", desc := "()I" } : Jvm.MethodName) prog_29_method_14_code (3 : Nat) (Option.some Jvm.ClassFile.FieldType.int)) ∈ lw_all := lw_g (lw_at lw_m18 111 rfl) rfl
theorem q4546 : (Jvm.Cond.classLink "ScholarsPressModel$Style" (238 : Nat) "ScholarsPressModel$Broken") ∈ lw_all := lw_g (lw_at lw_m18 112 rfl) rfl
theorem q4547 : (Jvm.Cond.methodLink "ScholarsPressModel$Style" (240 : Nat) ({ cls := "ScholarsPressModel$Broken", name := "<init>", desc := "(I)V" } : Jvm.MethodName)) ∈ lw_all := lw_g (lw_at lw_m18 113 rfl) rfl
theorem q4548 : (Jvm.Cond.constant "ScholarsPressModel$Style" (223 : Nat) (200000 : Int32)) ∈ lw_all := lw_g (lw_at lw_m18 114 rfl) rfl
theorem q4549 : (Jvm.Cond.constant "ScholarsPressModel$Style" (224 : Nat) (500000 : Int32)) ∈ lw_all := lw_g (lw_at lw_m18 115 rfl) rfl
theorem q4550 : (Jvm.Cond.stringRef "ScholarsPressModel$Style" (225 : Nat) "just left right middle") ∈ lw_tbl := lw_at lw_m18 116 rfl
theorem q4551 : (Jvm.Cond.stringRef "ScholarsPressModel$Style" (227 : Nat) "no yes") ∈ lw_tbl := lw_at lw_m18 117 rfl
theorem q4552 : (Jvm.Cond.methodLink "ScholarsPressModel$Style" (229 : Nat) ({ cls := "ScholarsPressModel$Style", name := "counter", desc := "()I" } : Jvm.MethodName)) ∈ lw_all := lw_g (lw_at lw_m18 118 rfl) rfl
theorem q4553 : (Jvm.Cond.privateMethod ({ cls := "ScholarsPressModel$Style", name := "counter", desc := "()I" } : Jvm.MethodName)) ∈ lw_tbl := lw_at lw_m18 119 rfl
theorem q4554 : (Jvm.Cond.instanceMethod ({ cls := "ScholarsPressModel$Style", name := "counter", desc := "()I" } : Jvm.MethodName)) ∈ lw_all := lw_g (lw_at lw_m18 120 rfl) rfl
theorem q4555 : (Jvm.Cond.code ({ cls := "ScholarsPressModel$Style", name := "counter", desc := "()I" } : Jvm.MethodName) prog_29_method_15_code (2 : Nat) (Option.some Jvm.ClassFile.FieldType.int)) ∈ lw_all := lw_g (lw_at lw_m18 121 rfl) rfl
theorem q4556 : (Jvm.Cond.stringRef "ScholarsPressModel$Style" (231 : Nat) "none") ∈ lw_tbl := lw_at lw_m18 122 rfl
theorem q4557 : (Jvm.Cond.methodLinkNest "ScholarsPressModel$Style" (242 : Nat) ({ cls := "ScholarsPressModel", name := "same", desc := "([BII[BII)Z" } : Jvm.MethodName) "ScholarsPressModel") ∈ lw_tbl := lw_at lw_m18 123 rfl
theorem q4558 : (Jvm.Cond.stringRef "ScholarsPressModel$Style" (233 : Nat) "arabic roman letter") ∈ lw_tbl := lw_at lw_m18 124 rfl
theorem in_X22 : ∀ w ∈ wsX220, w ∈ lw_all := lw_in wsX220 [3453, 3455, 3457, 3459, 3461, 3463, 3465, 3467, 3469, 3471, 3473, 3475, 3477, 3479, 3481, 3483, 3485, 3487, 3489, 3491, 3493, 3495, 3497, 3499, 3501, 3503, 3505, 3507] (by decide +kernel) (by decide +kernel)
/-! ScholarsPressModel$Source -/
def RX23 : String := "ScholarsPressModel$Source"
def TX23 : u_T := fun k => match k with
  | 0 => ("ScholarsPressModel$Source", "text", "[B", true)
  | 1 => ("ScholarsPressModel$Source", "length", "I", false)
  | 2 => ("ScholarsPressModel$Source", "items", "I", false)
  | 3 => ("ScholarsPressModel$Source", "elements", "I", false)
  | 4 => ("ScholarsPressModel$Source", "entities", "I", false)
  | 5 => ("ScholarsPressModel$Source", "there", "Z", false)
  | 6 => ("ScholarsPressModel$Source", "item", "[I", true)
  | 7 => ("ScholarsPressModel$Source", "itemA", "[I", true)
  | 8 => ("ScholarsPressModel$Source", "itemB", "[I", true)
  | 9 => ("ScholarsPressModel$Source", "from", "[I", true)
  | 10 => ("ScholarsPressModel$Source", "to", "[I", true)
  | 11 => ("ScholarsPressModel$Source", "parent", "[I", true)
  | 12 => ("ScholarsPressModel$Source", "name", "[I", true)
  | 13 => ("ScholarsPressModel$Source", "nameEnd", "[I", true)
  | 14 => ("ScholarsPressModel$Source", "fields", "[I", true)
  | 15 => ("ScholarsPressModel$Source", "begin", "[I", true)
  | 16 => ("ScholarsPressModel$Source", "end", "[I", true)
  | 17 => ("ScholarsPressModel$Source", "field", "[I", true)
  | 18 => ("ScholarsPressModel$Source", "fieldEnd", "[I", true)
  | 19 => ("ScholarsPressModel$Source", "string", "[I", true)
  | 20 => ("ScholarsPressModel$Source", "stringEnd", "[I", true)
  | 21 => ("ScholarsPressModel$Source", "entity", "[I", true)
  | 22 => ("ScholarsPressModel$Source", "entityEnd", "[I", true)
  | 23 => ("ScholarsPressModel$Source", "entityText", "[I", true)
  | 24 => ("ScholarsPressModel$Source", "entityTextEnd", "[I", true)
  | 25 => ("ScholarsPressModel$Source", "at", "I", false)
  | 26 => ("ScholarsPressModel$Source", "open", "I", false)
  | _ => ("ScholarsPressModel$Source", "depth", "I", false)
def tyX23 : Nat → FieldType := fun k => match k with
  | 0 => .array .byte
  | 1 => .int
  | 2 => .int
  | 3 => .int
  | 4 => .int
  | 5 => .boolean
  | 6 => .array .int
  | 7 => .array .int
  | 8 => .array .int
  | 9 => .array .int
  | 10 => .array .int
  | 11 => .array .int
  | 12 => .array .int
  | 13 => .array .int
  | 14 => .array .int
  | 15 => .array .int
  | 16 => .array .int
  | 17 => .array .int
  | 18 => .array .int
  | 19 => .array .int
  | 20 => .array .int
  | 21 => .array .int
  | 22 => .array .int
  | 23 => .array .int
  | 24 => .array .int
  | 25 => .int
  | 26 => .int
  | _ => .int
abbrev wsX230 : List Cond := u_ws RX23 TX23 28
theorem nmX23 : ∀ a, a < 28 → ∀ b, b < 28 → a ≠ b → (TX23 a).2.1 ≠ (TX23 b).2.1 := by decide +kernel
theorem tyX23_ok : ∀ k, k < 28 → parseFieldDescriptor (TX23 k).2.2.1 = some (tyX23 k) := by decide +kernel
abbrev cX23_init : ByteArray := prog_28_method_1_code
def yX23_init : MethodName := ⟨RX23, "<init>", "()V"⟩
abbrev cX23_read : ByteArray := prog_28_method_9_code
def yX23_read : MethodName := ⟨RX23, "read", "([BI)V"⟩
abbrev cX23_byteAt : ByteArray := prog_28_method_3_code
def yX23_byteAt : MethodName := ⟨RX23, "byteAt", "(I)I"⟩
abbrev cX23_reference : ByteArray := prog_28_method_12_code
def yX23_reference : MethodName := ⟨RX23, "reference", "()V"⟩
abbrev cX23_nameAt : ByteArray := prog_28_method_5_code
def yX23_nameAt : MethodName := ⟨RX23, "nameAt", "(I)I"⟩
abbrev cX23_find : ByteArray := prog_28_method_11_code
def yX23_find : MethodName := ⟨RX23, "find", "(II)I"⟩
abbrev cX23_need : ByteArray := prog_28_method_7_code
def yX23_need : MethodName := ⟨RX23, "need", "(II)V"⟩
abbrev cX23_add : ByteArray := prog_28_method_8_code
def yX23_add : MethodName := ⟨RX23, "add", "(III)V"⟩
abbrev cX23_tag : ByteArray := prog_28_method_13_code
def yX23_tag : MethodName := ⟨RX23, "tag", "()V"⟩
abbrev cX23_comment : ByteArray := prog_28_method_14_code
def yX23_comment : MethodName := ⟨RX23, "comment", "(I)V"⟩
abbrev cX23_tell : ByteArray := prog_28_method_15_code
def yX23_tell : MethodName := ⟨RX23, "tell", "(I)V"⟩
abbrev cX23_skip : ByteArray := prog_28_method_4_code
def yX23_skip : MethodName := ⟨RX23, "skip", "(I)I"⟩
abbrev cX23_stringAt : ByteArray := prog_28_method_6_code
def yX23_stringAt : MethodName := ⟨RX23, "stringAt", "(I)I"⟩
abbrev cX23_close : ByteArray := prog_28_method_16_code
def yX23_close : MethodName := ⟨RX23, "close", "(I)V"⟩
abbrev cX23_ended : ByteArray := prog_28_method_17_code
def yX23_ended : MethodName := ⟨RX23, "ended", "(I)V"⟩
abbrev cX23_begin : ByteArray := prog_28_method_18_code
def yX23_begin : MethodName := ⟨RX23, "begin", "(I)V"⟩
abbrev cX23_field : ByteArray := prog_28_method_19_code
def yX23_field : MethodName := ⟨RX23, "field", "(II)I"⟩
abbrev cX23_plain : ByteArray := prog_28_method_10_code
def yX23_plain : MethodName := ⟨RX23, "plain", "()V"⟩
abbrev cX23_copy : ByteArray := prog_28_method_2_code
def yX23_copy : MethodName := ⟨RX23, "copy", "(LScholarsPressModel$Source;)V"⟩
abbrev cX23_fieldOf : ByteArray := prog_28_method_20_code
def yX23_fieldOf : MethodName := ⟨RX23, "fieldOf", "(I[BII)I"⟩
abbrev cX23_fieldOf_2 : ByteArray := prog_28_method_21_code
def yX23_fieldOf_2 : MethodName := ⟨RX23, "fieldOf", "(ILjava/lang/String;)I"⟩
abbrev cX23_elementOf : ByteArray := prog_28_method_22_code
def yX23_elementOf : MethodName := ⟨RX23, "elementOf", "([BII)I"⟩
theorem q377 : (Jvm.Cond.initialized "ScholarsPressModel$Source") ∈ lw_all := lw_g (lw_at lw_m1 23 rfl) rfl
theorem q3511 : (Jvm.Cond.instantiable "ScholarsPressModel$Source" (28 : Nat)) ∈ lw_all := lw_g (lw_at lw_m14 37 rfl) rfl
theorem q3513 : (Jvm.Cond.instanceMethod ({ cls := "ScholarsPressModel$Source", name := "<init>", desc := "()V" } : Jvm.MethodName)) ∈ lw_all := lw_g (lw_at lw_m14 39 rfl) rfl
theorem q3514 : (Jvm.Cond.code ({ cls := "ScholarsPressModel$Source", name := "<init>", desc := "()V" } : Jvm.MethodName) prog_28_method_1_code (1 : Nat) (Option.none : Option Jvm.ClassFile.FieldType)) ∈ lw_all := lw_g (lw_at lw_m14 40 rfl) rfl
theorem q3515 : (Jvm.Cond.methodLink "ScholarsPressModel$Source" (3 : Nat) ({ cls := "java/lang/Object", name := "<init>", desc := "()V" } : Jvm.MethodName)) ∈ lw_all := lw_g (lw_at lw_m14 41 rfl) rfl
theorem q3516 : (Jvm.Cond.fieldLink "ScholarsPressModel$Source" (9 : Nat) "ScholarsPressModel$Source" "text" "[B") ∈ lw_all := lw_g (lw_at lw_m14 42 rfl) rfl
theorem q3520 : (Jvm.Cond.fieldLink "ScholarsPressModel$Source" (73 : Nat) "ScholarsPressModel$Source" "length" "I") ∈ lw_all := lw_g (lw_at lw_m14 46 rfl) rfl
theorem q3522 : (Jvm.Cond.fieldLink "ScholarsPressModel$Source" (77 : Nat) "ScholarsPressModel$Source" "items" "I") ∈ lw_all := lw_g (lw_at lw_m14 48 rfl) rfl
theorem q3525 : (Jvm.Cond.fieldLink "ScholarsPressModel$Source" (80 : Nat) "ScholarsPressModel$Source" "elements" "I") ∈ lw_all := lw_g (lw_at lw_m14 51 rfl) rfl
theorem q3529 : (Jvm.Cond.fieldLink "ScholarsPressModel$Source" (83 : Nat) "ScholarsPressModel$Source" "entities" "I") ∈ lw_all := lw_g (lw_at lw_m14 55 rfl) rfl
theorem q3531 : (Jvm.Cond.fieldLink "ScholarsPressModel$Source" (86 : Nat) "ScholarsPressModel$Source" "there" "Z") ∈ lw_all := lw_g (lw_at lw_m14 57 rfl) rfl
theorem q3533 : (Jvm.Cond.fieldLink "ScholarsPressModel$Source" (15 : Nat) "ScholarsPressModel$Source" "item" "[I") ∈ lw_all := lw_g (lw_at lw_m14 59 rfl) rfl
theorem q3536 : (Jvm.Cond.fieldLink "ScholarsPressModel$Source" (19 : Nat) "ScholarsPressModel$Source" "itemA" "[I") ∈ lw_all := lw_g (lw_at lw_m14 62 rfl) rfl
theorem q3539 : (Jvm.Cond.fieldLink "ScholarsPressModel$Source" (22 : Nat) "ScholarsPressModel$Source" "itemB" "[I") ∈ lw_all := lw_g (lw_at lw_m14 65 rfl) rfl
theorem q3542 : (Jvm.Cond.fieldLink "ScholarsPressModel$Source" (25 : Nat) "ScholarsPressModel$Source" "from" "[I") ∈ lw_all := lw_g (lw_at lw_m14 68 rfl) rfl
theorem q3544 : (Jvm.Cond.fieldLink "ScholarsPressModel$Source" (28 : Nat) "ScholarsPressModel$Source" "to" "[I") ∈ lw_all := lw_g (lw_at lw_m14 70 rfl) rfl
theorem q3546 : (Jvm.Cond.fieldLink "ScholarsPressModel$Source" (31 : Nat) "ScholarsPressModel$Source" "parent" "[I") ∈ lw_all := lw_g (lw_at lw_m14 72 rfl) rfl
theorem q3550 : (Jvm.Cond.fieldLink "ScholarsPressModel$Source" (34 : Nat) "ScholarsPressModel$Source" "name" "[I") ∈ lw_all := lw_g (lw_at lw_m14 76 rfl) rfl
theorem q3552 : (Jvm.Cond.fieldLink "ScholarsPressModel$Source" (37 : Nat) "ScholarsPressModel$Source" "nameEnd" "[I") ∈ lw_all := lw_g (lw_at lw_m14 78 rfl) rfl
theorem q3554 : (Jvm.Cond.fieldLink "ScholarsPressModel$Source" (40 : Nat) "ScholarsPressModel$Source" "fields" "[I") ∈ lw_all := lw_g (lw_at lw_m14 80 rfl) rfl
theorem q3556 : (Jvm.Cond.fieldLink "ScholarsPressModel$Source" (43 : Nat) "ScholarsPressModel$Source" "begin" "[I") ∈ lw_all := lw_g (lw_at lw_m14 82 rfl) rfl
theorem q3559 : (Jvm.Cond.fieldLink "ScholarsPressModel$Source" (46 : Nat) "ScholarsPressModel$Source" "end" "[I") ∈ lw_all := lw_g (lw_at lw_m14 85 rfl) rfl
theorem q3562 : (Jvm.Cond.fieldLink "ScholarsPressModel$Source" (49 : Nat) "ScholarsPressModel$Source" "field" "[I") ∈ lw_all := lw_g (lw_at lw_m14 88 rfl) rfl
theorem q3563 : (Jvm.Cond.fieldLink "ScholarsPressModel$Source" (52 : Nat) "ScholarsPressModel$Source" "fieldEnd" "[I") ∈ lw_all := lw_g (lw_at lw_m14 89 rfl) rfl
theorem q3564 : (Jvm.Cond.fieldLink "ScholarsPressModel$Source" (55 : Nat) "ScholarsPressModel$Source" "string" "[I") ∈ lw_all := lw_g (lw_at lw_m14 90 rfl) rfl
theorem q3567 : (Jvm.Cond.fieldLink "ScholarsPressModel$Source" (58 : Nat) "ScholarsPressModel$Source" "stringEnd" "[I") ∈ lw_all := lw_g (lw_at lw_m14 93 rfl) rfl
theorem q3570 : (Jvm.Cond.fieldLink "ScholarsPressModel$Source" (61 : Nat) "ScholarsPressModel$Source" "entity" "[I") ∈ lw_all := lw_g (lw_at lw_m14 96 rfl) rfl
theorem q3571 : (Jvm.Cond.fieldLink "ScholarsPressModel$Source" (64 : Nat) "ScholarsPressModel$Source" "entityEnd" "[I") ∈ lw_all := lw_g (lw_at lw_m14 97 rfl) rfl
theorem q3572 : (Jvm.Cond.fieldLink "ScholarsPressModel$Source" (67 : Nat) "ScholarsPressModel$Source" "entityText" "[I") ∈ lw_all := lw_g (lw_at lw_m14 98 rfl) rfl
theorem q3573 : (Jvm.Cond.fieldLink "ScholarsPressModel$Source" (70 : Nat) "ScholarsPressModel$Source" "entityTextEnd" "[I") ∈ lw_all := lw_g (lw_at lw_m14 99 rfl) rfl
theorem q3574 : (Jvm.Cond.fieldLink "ScholarsPressModel$Source" (109 : Nat) "ScholarsPressModel$Source" "at" "I") ∈ lw_all := lw_g (lw_at lw_m14 100 rfl) rfl
theorem q3575 : (Jvm.Cond.fieldLink "ScholarsPressModel$Source" (112 : Nat) "ScholarsPressModel$Source" "open" "I") ∈ lw_all := lw_g (lw_at lw_m14 101 rfl) rfl
theorem q3576 : (Jvm.Cond.fieldLink "ScholarsPressModel$Source" (115 : Nat) "ScholarsPressModel$Source" "depth" "I") ∈ lw_all := lw_g (lw_at lw_m14 102 rfl) rfl
theorem q3577 : (Jvm.Cond.laysFinal "ScholarsPressModel$Source" "ScholarsPressModel$Source" "text" "[B") ∈ lw_all := lw_g (lw_at lw_m14 103 rfl) rfl
theorem q3578 : (Jvm.Cond.soleField "ScholarsPressModel$Source" "text") ∈ lw_all := lw_g (lw_at lw_m14 104 rfl) rfl
theorem q3579 : (Jvm.Cond.lays "ScholarsPressModel$Source" "ScholarsPressModel$Source" "length" "I") ∈ lw_all := lw_g (lw_at lw_m14 105 rfl) rfl
theorem q3580 : (Jvm.Cond.soleField "ScholarsPressModel$Source" "length") ∈ lw_all := lw_g (lw_at lw_m14 106 rfl) rfl
theorem q3581 : (Jvm.Cond.lays "ScholarsPressModel$Source" "ScholarsPressModel$Source" "items" "I") ∈ lw_all := lw_g (lw_at lw_m14 107 rfl) rfl
theorem q3582 : (Jvm.Cond.soleField "ScholarsPressModel$Source" "items") ∈ lw_all := lw_g (lw_at lw_m14 108 rfl) rfl
theorem q3583 : (Jvm.Cond.lays "ScholarsPressModel$Source" "ScholarsPressModel$Source" "elements" "I") ∈ lw_all := lw_g (lw_at lw_m14 109 rfl) rfl
theorem q3584 : (Jvm.Cond.soleField "ScholarsPressModel$Source" "elements") ∈ lw_all := lw_g (lw_at lw_m14 110 rfl) rfl
theorem q3585 : (Jvm.Cond.lays "ScholarsPressModel$Source" "ScholarsPressModel$Source" "entities" "I") ∈ lw_all := lw_g (lw_at lw_m14 111 rfl) rfl
theorem q3586 : (Jvm.Cond.soleField "ScholarsPressModel$Source" "entities") ∈ lw_all := lw_g (lw_at lw_m14 112 rfl) rfl
theorem q3587 : (Jvm.Cond.lays "ScholarsPressModel$Source" "ScholarsPressModel$Source" "there" "Z") ∈ lw_all := lw_g (lw_at lw_m14 113 rfl) rfl
theorem q3588 : (Jvm.Cond.soleField "ScholarsPressModel$Source" "there") ∈ lw_all := lw_g (lw_at lw_m14 114 rfl) rfl
theorem q3589 : (Jvm.Cond.laysFinal "ScholarsPressModel$Source" "ScholarsPressModel$Source" "item" "[I") ∈ lw_all := lw_g (lw_at lw_m14 115 rfl) rfl
theorem q3590 : (Jvm.Cond.soleField "ScholarsPressModel$Source" "item") ∈ lw_all := lw_g (lw_at lw_m14 116 rfl) rfl
theorem q3591 : (Jvm.Cond.laysFinal "ScholarsPressModel$Source" "ScholarsPressModel$Source" "itemA" "[I") ∈ lw_all := lw_g (lw_at lw_m14 117 rfl) rfl
theorem q3592 : (Jvm.Cond.soleField "ScholarsPressModel$Source" "itemA") ∈ lw_all := lw_g (lw_at lw_m14 118 rfl) rfl
theorem q3593 : (Jvm.Cond.laysFinal "ScholarsPressModel$Source" "ScholarsPressModel$Source" "itemB" "[I") ∈ lw_all := lw_g (lw_at lw_m14 119 rfl) rfl
theorem q3594 : (Jvm.Cond.soleField "ScholarsPressModel$Source" "itemB") ∈ lw_all := lw_g (lw_at lw_m14 120 rfl) rfl
theorem q3595 : (Jvm.Cond.laysFinal "ScholarsPressModel$Source" "ScholarsPressModel$Source" "from" "[I") ∈ lw_all := lw_g (lw_at lw_m14 121 rfl) rfl
theorem q3596 : (Jvm.Cond.soleField "ScholarsPressModel$Source" "from") ∈ lw_all := lw_g (lw_at lw_m14 122 rfl) rfl
theorem q3597 : (Jvm.Cond.laysFinal "ScholarsPressModel$Source" "ScholarsPressModel$Source" "to" "[I") ∈ lw_all := lw_g (lw_at lw_m14 123 rfl) rfl
theorem q3598 : (Jvm.Cond.soleField "ScholarsPressModel$Source" "to") ∈ lw_all := lw_g (lw_at lw_m14 124 rfl) rfl
theorem q3599 : (Jvm.Cond.laysFinal "ScholarsPressModel$Source" "ScholarsPressModel$Source" "parent" "[I") ∈ lw_all := lw_g (lw_at lw_m14 125 rfl) rfl
theorem q3600 : (Jvm.Cond.soleField "ScholarsPressModel$Source" "parent") ∈ lw_all := lw_g (lw_at lw_m14 126 rfl) rfl
theorem q3601 : (Jvm.Cond.laysFinal "ScholarsPressModel$Source" "ScholarsPressModel$Source" "name" "[I") ∈ lw_all := lw_g (lw_at lw_m14 127 rfl) rfl
theorem q3602 : (Jvm.Cond.soleField "ScholarsPressModel$Source" "name") ∈ lw_all := lw_g (lw_at lw_m14 128 rfl) rfl
theorem q3603 : (Jvm.Cond.laysFinal "ScholarsPressModel$Source" "ScholarsPressModel$Source" "nameEnd" "[I") ∈ lw_all := lw_g (lw_at lw_m14 129 rfl) rfl
theorem q3604 : (Jvm.Cond.soleField "ScholarsPressModel$Source" "nameEnd") ∈ lw_all := lw_g (lw_at lw_m14 130 rfl) rfl
theorem q3605 : (Jvm.Cond.laysFinal "ScholarsPressModel$Source" "ScholarsPressModel$Source" "fields" "[I") ∈ lw_all := lw_g (lw_at lw_m14 131 rfl) rfl
theorem q3606 : (Jvm.Cond.soleField "ScholarsPressModel$Source" "fields") ∈ lw_all := lw_g (lw_at lw_m14 132 rfl) rfl
theorem q3607 : (Jvm.Cond.laysFinal "ScholarsPressModel$Source" "ScholarsPressModel$Source" "begin" "[I") ∈ lw_all := lw_g (lw_at lw_m14 133 rfl) rfl
theorem q3608 : (Jvm.Cond.soleField "ScholarsPressModel$Source" "begin") ∈ lw_all := lw_g (lw_at lw_m14 134 rfl) rfl
theorem q3609 : (Jvm.Cond.laysFinal "ScholarsPressModel$Source" "ScholarsPressModel$Source" "end" "[I") ∈ lw_all := lw_g (lw_at lw_m14 135 rfl) rfl
theorem q3610 : (Jvm.Cond.soleField "ScholarsPressModel$Source" "end") ∈ lw_all := lw_g (lw_at lw_m14 136 rfl) rfl
theorem q3611 : (Jvm.Cond.laysFinal "ScholarsPressModel$Source" "ScholarsPressModel$Source" "field" "[I") ∈ lw_all := lw_g (lw_at lw_m14 137 rfl) rfl
theorem q3612 : (Jvm.Cond.soleField "ScholarsPressModel$Source" "field") ∈ lw_all := lw_g (lw_at lw_m14 138 rfl) rfl
theorem q3613 : (Jvm.Cond.laysFinal "ScholarsPressModel$Source" "ScholarsPressModel$Source" "fieldEnd" "[I") ∈ lw_all := lw_g (lw_at lw_m14 139 rfl) rfl
theorem q3614 : (Jvm.Cond.soleField "ScholarsPressModel$Source" "fieldEnd") ∈ lw_all := lw_g (lw_at lw_m14 140 rfl) rfl
theorem q3615 : (Jvm.Cond.laysFinal "ScholarsPressModel$Source" "ScholarsPressModel$Source" "string" "[I") ∈ lw_all := lw_g (lw_at lw_m14 141 rfl) rfl
theorem q3616 : (Jvm.Cond.soleField "ScholarsPressModel$Source" "string") ∈ lw_all := lw_g (lw_at lw_m14 142 rfl) rfl
theorem q3617 : (Jvm.Cond.laysFinal "ScholarsPressModel$Source" "ScholarsPressModel$Source" "stringEnd" "[I") ∈ lw_all := lw_g (lw_at lw_m14 143 rfl) rfl
theorem q3618 : (Jvm.Cond.soleField "ScholarsPressModel$Source" "stringEnd") ∈ lw_all := lw_g (lw_at lw_m14 144 rfl) rfl
theorem q3619 : (Jvm.Cond.laysFinal "ScholarsPressModel$Source" "ScholarsPressModel$Source" "entity" "[I") ∈ lw_all := lw_g (lw_at lw_m14 145 rfl) rfl
theorem q3620 : (Jvm.Cond.soleField "ScholarsPressModel$Source" "entity") ∈ lw_all := lw_g (lw_at lw_m14 146 rfl) rfl
theorem q3621 : (Jvm.Cond.laysFinal "ScholarsPressModel$Source" "ScholarsPressModel$Source" "entityEnd" "[I") ∈ lw_all := lw_g (lw_at lw_m14 147 rfl) rfl
theorem q3622 : (Jvm.Cond.soleField "ScholarsPressModel$Source" "entityEnd") ∈ lw_all := lw_g (lw_at lw_m14 148 rfl) rfl
theorem q3623 : (Jvm.Cond.laysFinal "ScholarsPressModel$Source" "ScholarsPressModel$Source" "entityText" "[I") ∈ lw_all := lw_g (lw_at lw_m14 149 rfl) rfl
theorem q3624 : (Jvm.Cond.soleField "ScholarsPressModel$Source" "entityText") ∈ lw_all := lw_g (lw_at lw_m14 150 rfl) rfl
theorem q3625 : (Jvm.Cond.laysFinal "ScholarsPressModel$Source" "ScholarsPressModel$Source" "entityTextEnd" "[I") ∈ lw_all := lw_g (lw_at lw_m14 151 rfl) rfl
theorem q3626 : (Jvm.Cond.soleField "ScholarsPressModel$Source" "entityTextEnd") ∈ lw_all := lw_g (lw_at lw_m14 152 rfl) rfl
theorem q3627 : (Jvm.Cond.lays "ScholarsPressModel$Source" "ScholarsPressModel$Source" "at" "I") ∈ lw_all := lw_g (lw_at lw_m14 153 rfl) rfl
theorem q3628 : (Jvm.Cond.soleField "ScholarsPressModel$Source" "at") ∈ lw_all := lw_g (lw_at lw_m14 154 rfl) rfl
theorem q3629 : (Jvm.Cond.lays "ScholarsPressModel$Source" "ScholarsPressModel$Source" "open" "I") ∈ lw_all := lw_g (lw_at lw_m14 155 rfl) rfl
theorem q3630 : (Jvm.Cond.soleField "ScholarsPressModel$Source" "open") ∈ lw_all := lw_g (lw_at lw_m14 156 rfl) rfl
theorem q3631 : (Jvm.Cond.lays "ScholarsPressModel$Source" "ScholarsPressModel$Source" "depth" "I") ∈ lw_all := lw_g (lw_at lw_m14 157 rfl) rfl
theorem q3632 : (Jvm.Cond.soleField "ScholarsPressModel$Source" "depth") ∈ lw_all := lw_g (lw_at lw_m14 158 rfl) rfl
theorem q3633 : (Jvm.Cond.superclass "ScholarsPressModel$Source" "java/lang/Object") ∈ lw_all := lw_g (lw_at lw_m14 159 rfl) rfl
theorem q4564 : (Jvm.Cond.instanceMethod ({ cls := "ScholarsPressModel$Source", name := "read", desc := "([BI)V" } : Jvm.MethodName)) ∈ lw_all := lw_g (lw_at lw_m18 130 rfl) rfl
theorem q4565 : (Jvm.Cond.selects "ScholarsPressModel$Source" ({ cls := "ScholarsPressModel$Source", name := "read", desc := "([BI)V" } : Jvm.MethodName) ({ cls := "ScholarsPressModel$Source", name := "read", desc := "([BI)V" } : Jvm.MethodName)) ∈ lw_all := lw_g (lw_at lw_m18 131 rfl) rfl
theorem q4566 : (Jvm.Cond.code ({ cls := "ScholarsPressModel$Source", name := "read", desc := "([BI)V" } : Jvm.MethodName) prog_28_method_9_code (4 : Nat) (Option.none : Option Jvm.ClassFile.FieldType)) ∈ lw_all := lw_g (lw_at lw_m18 132 rfl) rfl
theorem q4567 : (Jvm.Cond.methodLink "ScholarsPressModel$Source" (90 : Nat) ({ cls := "ScholarsPressModel$Source", name := "byteAt", desc := "(I)I" } : Jvm.MethodName)) ∈ lw_all := lw_g (lw_at lw_m18 133 rfl) rfl
theorem q4568 : (Jvm.Cond.privateMethod ({ cls := "ScholarsPressModel$Source", name := "byteAt", desc := "(I)I" } : Jvm.MethodName)) ∈ lw_tbl := lw_at lw_m18 134 rfl
theorem q4569 : (Jvm.Cond.instanceMethod ({ cls := "ScholarsPressModel$Source", name := "byteAt", desc := "(I)I" } : Jvm.MethodName)) ∈ lw_all := lw_g (lw_at lw_m18 135 rfl) rfl
theorem q4570 : (Jvm.Cond.code ({ cls := "ScholarsPressModel$Source", name := "byteAt", desc := "(I)I" } : Jvm.MethodName) prog_28_method_3_code (2 : Nat) (Option.some Jvm.ClassFile.FieldType.int)) ∈ lw_all := lw_g (lw_at lw_m18 136 rfl) rfl
theorem q4571 : (Jvm.Cond.methodLink "ScholarsPressModel$Source" (118 : Nat) ({ cls := "ScholarsPressModel$Source", name := "reference", desc := "()V" } : Jvm.MethodName)) ∈ lw_all := lw_g (lw_at lw_m18 137 rfl) rfl
theorem q4572 : (Jvm.Cond.privateMethod ({ cls := "ScholarsPressModel$Source", name := "reference", desc := "()V" } : Jvm.MethodName)) ∈ lw_tbl := lw_at lw_m18 138 rfl
theorem q4573 : (Jvm.Cond.instanceMethod ({ cls := "ScholarsPressModel$Source", name := "reference", desc := "()V" } : Jvm.MethodName)) ∈ lw_all := lw_g (lw_at lw_m18 139 rfl) rfl
theorem q4574 : (Jvm.Cond.code ({ cls := "ScholarsPressModel$Source", name := "reference", desc := "()V" } : Jvm.MethodName) prog_28_method_12_code (6 : Nat) (Option.none : Option Jvm.ClassFile.FieldType)) ∈ lw_all := lw_g (lw_at lw_m18 140 rfl) rfl
theorem q4575 : (Jvm.Cond.methodLink "ScholarsPressModel$Source" (135 : Nat) ({ cls := "ScholarsPressModel$Source", name := "nameAt", desc := "(I)I" } : Jvm.MethodName)) ∈ lw_all := lw_g (lw_at lw_m18 141 rfl) rfl
theorem q4576 : (Jvm.Cond.privateMethod ({ cls := "ScholarsPressModel$Source", name := "nameAt", desc := "(I)I" } : Jvm.MethodName)) ∈ lw_tbl := lw_at lw_m18 142 rfl
theorem q4577 : (Jvm.Cond.instanceMethod ({ cls := "ScholarsPressModel$Source", name := "nameAt", desc := "(I)I" } : Jvm.MethodName)) ∈ lw_all := lw_g (lw_at lw_m18 143 rfl) rfl
theorem q4578 : (Jvm.Cond.code ({ cls := "ScholarsPressModel$Source", name := "nameAt", desc := "(I)I" } : Jvm.MethodName) prog_28_method_5_code (3 : Nat) (Option.some Jvm.ClassFile.FieldType.int)) ∈ lw_all := lw_g (lw_at lw_m18 144 rfl) rfl
theorem q4579 : (Jvm.Cond.methodLinkNest "ScholarsPressModel$Source" (98 : Nat) ({ cls := "ScholarsPressModel", name := "isSmall", desc := "(I)Z" } : Jvm.MethodName) "ScholarsPressModel") ∈ lw_tbl := lw_at lw_m18 145 rfl
theorem q4580 : (Jvm.Cond.classLink "ScholarsPressModel$Source" (101 : Nat) "ScholarsPressModel$Broken") ∈ lw_all := lw_g (lw_at lw_m18 146 rfl) rfl
theorem q4581 : (Jvm.Cond.methodLink "ScholarsPressModel$Source" (103 : Nat) ({ cls := "ScholarsPressModel$Broken", name := "<init>", desc := "(I)V" } : Jvm.MethodName)) ∈ lw_all := lw_g (lw_at lw_m18 147 rfl) rfl
theorem q4582 : (Jvm.Cond.methodLinkNest "ScholarsPressModel$Source" (106 : Nat) ({ cls := "ScholarsPressModel", name := "isDigit", desc := "(I)Z" } : Jvm.MethodName) "ScholarsPressModel") ∈ lw_tbl := lw_at lw_m18 148 rfl
theorem q4583 : (Jvm.Cond.stringRef "ScholarsPressModel$Source" (138 : Nat) "lt") ∈ lw_tbl := lw_at lw_m18 149 rfl
theorem q4584 : (Jvm.Cond.methodLinkNest "ScholarsPressModel$Source" (140 : Nat) ({ cls := "ScholarsPressModel", name := "is", desc := "([BIILjava/lang/String;)Z" } : Jvm.MethodName) "ScholarsPressModel") ∈ lw_tbl := lw_at lw_m18 150 rfl
theorem q4585 : (Jvm.Cond.stringRef "ScholarsPressModel$Source" (144 : Nat) "amp") ∈ lw_tbl := lw_at lw_m18 151 rfl
theorem q4586 : (Jvm.Cond.methodLink "ScholarsPressModel$Source" (146 : Nat) ({ cls := "ScholarsPressModel$Source", name := "find", desc := "(II)I" } : Jvm.MethodName)) ∈ lw_all := lw_g (lw_at lw_m18 152 rfl) rfl
theorem q4587 : (Jvm.Cond.privateMethod ({ cls := "ScholarsPressModel$Source", name := "find", desc := "(II)I" } : Jvm.MethodName)) ∈ lw_tbl := lw_at lw_m18 153 rfl
theorem q4588 : (Jvm.Cond.instanceMethod ({ cls := "ScholarsPressModel$Source", name := "find", desc := "(II)I" } : Jvm.MethodName)) ∈ lw_all := lw_g (lw_at lw_m18 154 rfl) rfl
theorem q4589 : (Jvm.Cond.code ({ cls := "ScholarsPressModel$Source", name := "find", desc := "(II)I" } : Jvm.MethodName) prog_28_method_11_code (4 : Nat) (Option.some Jvm.ClassFile.FieldType.int)) ∈ lw_all := lw_g (lw_at lw_m18 155 rfl) rfl
theorem q4590 : (Jvm.Cond.methodLinkNest "ScholarsPressModel$Source" (131 : Nat) ({ cls := "ScholarsPressModel", name := "same", desc := "([BII[BII)Z" } : Jvm.MethodName) "ScholarsPressModel") ∈ lw_tbl := lw_at lw_m18 156 rfl
theorem q4591 : (Jvm.Cond.methodLink "ScholarsPressModel$Source" (150 : Nat) ({ cls := "ScholarsPressModel$Source", name := "need", desc := "(II)V" } : Jvm.MethodName)) ∈ lw_all := lw_g (lw_at lw_m18 157 rfl) rfl
theorem q4592 : (Jvm.Cond.privateMethod ({ cls := "ScholarsPressModel$Source", name := "need", desc := "(II)V" } : Jvm.MethodName)) ∈ lw_tbl := lw_at lw_m18 158 rfl
theorem q4593 : (Jvm.Cond.instanceMethod ({ cls := "ScholarsPressModel$Source", name := "need", desc := "(II)V" } : Jvm.MethodName)) ∈ lw_all := lw_g (lw_at lw_m18 159 rfl) rfl
theorem q4594 : (Jvm.Cond.code ({ cls := "ScholarsPressModel$Source", name := "need", desc := "(II)V" } : Jvm.MethodName) prog_28_method_7_code (3 : Nat) (Option.none : Option Jvm.ClassFile.FieldType)) ∈ lw_all := lw_g (lw_at lw_m18 160 rfl) rfl
theorem q4595 : (Jvm.Cond.methodLink "ScholarsPressModel$Source" (127 : Nat) ({ cls := "ScholarsPressModel$Source", name := "add", desc := "(III)V" } : Jvm.MethodName)) ∈ lw_all := lw_g (lw_at lw_m18 161 rfl) rfl
theorem q4596 : (Jvm.Cond.privateMethod ({ cls := "ScholarsPressModel$Source", name := "add", desc := "(III)V" } : Jvm.MethodName)) ∈ lw_tbl := lw_at lw_m18 162 rfl
theorem q4597 : (Jvm.Cond.instanceMethod ({ cls := "ScholarsPressModel$Source", name := "add", desc := "(III)V" } : Jvm.MethodName)) ∈ lw_all := lw_g (lw_at lw_m18 163 rfl) rfl
theorem q4598 : (Jvm.Cond.code ({ cls := "ScholarsPressModel$Source", name := "add", desc := "(III)V" } : Jvm.MethodName) prog_28_method_8_code (4 : Nat) (Option.none : Option Jvm.ClassFile.FieldType)) ∈ lw_all := lw_g (lw_at lw_m18 164 rfl) rfl
theorem q4599 : (Jvm.Cond.methodLink "ScholarsPressModel$Source" (121 : Nat) ({ cls := "ScholarsPressModel$Source", name := "tag", desc := "()V" } : Jvm.MethodName)) ∈ lw_all := lw_g (lw_at lw_m18 165 rfl) rfl
theorem q4600 : (Jvm.Cond.privateMethod ({ cls := "ScholarsPressModel$Source", name := "tag", desc := "()V" } : Jvm.MethodName)) ∈ lw_tbl := lw_at lw_m18 166 rfl
theorem q4601 : (Jvm.Cond.instanceMethod ({ cls := "ScholarsPressModel$Source", name := "tag", desc := "()V" } : Jvm.MethodName)) ∈ lw_all := lw_g (lw_at lw_m18 167 rfl) rfl
theorem q4602 : (Jvm.Cond.code ({ cls := "ScholarsPressModel$Source", name := "tag", desc := "()V" } : Jvm.MethodName) prog_28_method_13_code (2 : Nat) (Option.none : Option Jvm.ClassFile.FieldType)) ∈ lw_all := lw_g (lw_at lw_m18 168 rfl) rfl
theorem q4603 : (Jvm.Cond.methodLink "ScholarsPressModel$Source" (154 : Nat) ({ cls := "ScholarsPressModel$Source", name := "comment", desc := "(I)V" } : Jvm.MethodName)) ∈ lw_all := lw_g (lw_at lw_m18 169 rfl) rfl
theorem q4604 : (Jvm.Cond.privateMethod ({ cls := "ScholarsPressModel$Source", name := "comment", desc := "(I)V" } : Jvm.MethodName)) ∈ lw_tbl := lw_at lw_m18 170 rfl
theorem q4605 : (Jvm.Cond.instanceMethod ({ cls := "ScholarsPressModel$Source", name := "comment", desc := "(I)V" } : Jvm.MethodName)) ∈ lw_all := lw_g (lw_at lw_m18 171 rfl) rfl
theorem q4606 : (Jvm.Cond.code ({ cls := "ScholarsPressModel$Source", name := "comment", desc := "(I)V" } : Jvm.MethodName) prog_28_method_14_code (3 : Nat) (Option.none : Option Jvm.ClassFile.FieldType)) ∈ lw_all := lw_g (lw_at lw_m18 172 rfl) rfl
theorem q4607 : (Jvm.Cond.methodLink "ScholarsPressModel$Source" (157 : Nat) ({ cls := "ScholarsPressModel$Source", name := "tell", desc := "(I)V" } : Jvm.MethodName)) ∈ lw_all := lw_g (lw_at lw_m18 173 rfl) rfl
theorem q4608 : (Jvm.Cond.privateMethod ({ cls := "ScholarsPressModel$Source", name := "tell", desc := "(I)V" } : Jvm.MethodName)) ∈ lw_tbl := lw_at lw_m18 174 rfl
theorem q4609 : (Jvm.Cond.instanceMethod ({ cls := "ScholarsPressModel$Source", name := "tell", desc := "(I)V" } : Jvm.MethodName)) ∈ lw_all := lw_g (lw_at lw_m18 175 rfl) rfl
theorem q4610 : (Jvm.Cond.code ({ cls := "ScholarsPressModel$Source", name := "tell", desc := "(I)V" } : Jvm.MethodName) prog_28_method_15_code (6 : Nat) (Option.none : Option Jvm.ClassFile.FieldType)) ∈ lw_all := lw_g (lw_at lw_m18 176 rfl) rfl
theorem q4611 : (Jvm.Cond.methodLink "ScholarsPressModel$Source" (165 : Nat) ({ cls := "ScholarsPressModel$Source", name := "skip", desc := "(I)I" } : Jvm.MethodName)) ∈ lw_all := lw_g (lw_at lw_m18 177 rfl) rfl
theorem q4612 : (Jvm.Cond.privateMethod ({ cls := "ScholarsPressModel$Source", name := "skip", desc := "(I)I" } : Jvm.MethodName)) ∈ lw_tbl := lw_at lw_m18 178 rfl
theorem q4613 : (Jvm.Cond.instanceMethod ({ cls := "ScholarsPressModel$Source", name := "skip", desc := "(I)I" } : Jvm.MethodName)) ∈ lw_all := lw_g (lw_at lw_m18 179 rfl) rfl
theorem q4614 : (Jvm.Cond.code ({ cls := "ScholarsPressModel$Source", name := "skip", desc := "(I)I" } : Jvm.MethodName) prog_28_method_4_code (3 : Nat) (Option.some Jvm.ClassFile.FieldType.int)) ∈ lw_all := lw_g (lw_at lw_m18 180 rfl) rfl
theorem q4615 : (Jvm.Cond.methodLinkNest "ScholarsPressModel$Source" (94 : Nat) ({ cls := "ScholarsPressModel", name := "isBlank", desc := "(I)Z" } : Jvm.MethodName) "ScholarsPressModel") ∈ lw_tbl := lw_at lw_m18 181 rfl
theorem q4616 : (Jvm.Cond.methodLink "ScholarsPressModel$Source" (168 : Nat) ({ cls := "ScholarsPressModel$Source", name := "stringAt", desc := "(I)I" } : Jvm.MethodName)) ∈ lw_all := lw_g (lw_at lw_m18 182 rfl) rfl
theorem q4617 : (Jvm.Cond.privateMethod ({ cls := "ScholarsPressModel$Source", name := "stringAt", desc := "(I)I" } : Jvm.MethodName)) ∈ lw_tbl := lw_at lw_m18 183 rfl
theorem q4618 : (Jvm.Cond.instanceMethod ({ cls := "ScholarsPressModel$Source", name := "stringAt", desc := "(I)I" } : Jvm.MethodName)) ∈ lw_all := lw_g (lw_at lw_m18 184 rfl) rfl
theorem q4619 : (Jvm.Cond.code ({ cls := "ScholarsPressModel$Source", name := "stringAt", desc := "(I)I" } : Jvm.MethodName) prog_28_method_6_code (3 : Nat) (Option.some Jvm.ClassFile.FieldType.int)) ∈ lw_all := lw_g (lw_at lw_m18 185 rfl) rfl
theorem q4620 : (Jvm.Cond.methodLink "ScholarsPressModel$Source" (160 : Nat) ({ cls := "ScholarsPressModel$Source", name := "close", desc := "(I)V" } : Jvm.MethodName)) ∈ lw_all := lw_g (lw_at lw_m18 186 rfl) rfl
theorem q4621 : (Jvm.Cond.privateMethod ({ cls := "ScholarsPressModel$Source", name := "close", desc := "(I)V" } : Jvm.MethodName)) ∈ lw_tbl := lw_at lw_m18 187 rfl
theorem q4622 : (Jvm.Cond.instanceMethod ({ cls := "ScholarsPressModel$Source", name := "close", desc := "(I)V" } : Jvm.MethodName)) ∈ lw_all := lw_g (lw_at lw_m18 188 rfl) rfl
theorem q4623 : (Jvm.Cond.code ({ cls := "ScholarsPressModel$Source", name := "close", desc := "(I)V" } : Jvm.MethodName) prog_28_method_16_code (4 : Nat) (Option.none : Option Jvm.ClassFile.FieldType)) ∈ lw_all := lw_g (lw_at lw_m18 189 rfl) rfl
theorem q4624 : (Jvm.Cond.methodLink "ScholarsPressModel$Source" (171 : Nat) ({ cls := "ScholarsPressModel$Source", name := "ended", desc := "(I)V" } : Jvm.MethodName)) ∈ lw_all := lw_g (lw_at lw_m18 190 rfl) rfl
theorem q4625 : (Jvm.Cond.privateMethod ({ cls := "ScholarsPressModel$Source", name := "ended", desc := "(I)V" } : Jvm.MethodName)) ∈ lw_tbl := lw_at lw_m18 191 rfl
theorem q4626 : (Jvm.Cond.instanceMethod ({ cls := "ScholarsPressModel$Source", name := "ended", desc := "(I)V" } : Jvm.MethodName)) ∈ lw_all := lw_g (lw_at lw_m18 192 rfl) rfl
theorem q4627 : (Jvm.Cond.code ({ cls := "ScholarsPressModel$Source", name := "ended", desc := "(I)V" } : Jvm.MethodName) prog_28_method_17_code (2 : Nat) (Option.none : Option Jvm.ClassFile.FieldType)) ∈ lw_all := lw_g (lw_at lw_m18 193 rfl) rfl
theorem q4628 : (Jvm.Cond.methodLink "ScholarsPressModel$Source" (163 : Nat) ({ cls := "ScholarsPressModel$Source", name := "begin", desc := "(I)V" } : Jvm.MethodName)) ∈ lw_all := lw_g (lw_at lw_m18 194 rfl) rfl
theorem q4629 : (Jvm.Cond.privateMethod ({ cls := "ScholarsPressModel$Source", name := "begin", desc := "(I)V" } : Jvm.MethodName)) ∈ lw_tbl := lw_at lw_m18 195 rfl
theorem q4630 : (Jvm.Cond.instanceMethod ({ cls := "ScholarsPressModel$Source", name := "begin", desc := "(I)V" } : Jvm.MethodName)) ∈ lw_all := lw_g (lw_at lw_m18 196 rfl) rfl
theorem q4631 : (Jvm.Cond.code ({ cls := "ScholarsPressModel$Source", name := "begin", desc := "(I)V" } : Jvm.MethodName) prog_28_method_18_code (7 : Nat) (Option.none : Option Jvm.ClassFile.FieldType)) ∈ lw_all := lw_g (lw_at lw_m18 197 rfl) rfl
theorem q4632 : (Jvm.Cond.methodLink "ScholarsPressModel$Source" (174 : Nat) ({ cls := "ScholarsPressModel$Source", name := "field", desc := "(II)I" } : Jvm.MethodName)) ∈ lw_all := lw_g (lw_at lw_m18 198 rfl) rfl
theorem q4633 : (Jvm.Cond.privateMethod ({ cls := "ScholarsPressModel$Source", name := "field", desc := "(II)I" } : Jvm.MethodName)) ∈ lw_tbl := lw_at lw_m18 199 rfl
theorem q4634 : (Jvm.Cond.instanceMethod ({ cls := "ScholarsPressModel$Source", name := "field", desc := "(II)I" } : Jvm.MethodName)) ∈ lw_all := lw_g (lw_at lw_m18 200 rfl) rfl
theorem q4635 : (Jvm.Cond.code ({ cls := "ScholarsPressModel$Source", name := "field", desc := "(II)I" } : Jvm.MethodName) prog_28_method_19_code (8 : Nat) (Option.some Jvm.ClassFile.FieldType.int)) ∈ lw_all := lw_g (lw_at lw_m18 201 rfl) rfl
theorem q4636 : (Jvm.Cond.methodLink "ScholarsPressModel$Source" (124 : Nat) ({ cls := "ScholarsPressModel$Source", name := "plain", desc := "()V" } : Jvm.MethodName)) ∈ lw_all := lw_g (lw_at lw_m18 202 rfl) rfl
theorem q4637 : (Jvm.Cond.privateMethod ({ cls := "ScholarsPressModel$Source", name := "plain", desc := "()V" } : Jvm.MethodName)) ∈ lw_tbl := lw_at lw_m18 203 rfl
theorem q4638 : (Jvm.Cond.instanceMethod ({ cls := "ScholarsPressModel$Source", name := "plain", desc := "()V" } : Jvm.MethodName)) ∈ lw_all := lw_g (lw_at lw_m18 204 rfl) rfl
theorem q4639 : (Jvm.Cond.code ({ cls := "ScholarsPressModel$Source", name := "plain", desc := "()V" } : Jvm.MethodName) prog_28_method_10_code (1 : Nat) (Option.none : Option Jvm.ClassFile.FieldType)) ∈ lw_all := lw_g (lw_at lw_m18 205 rfl) rfl
theorem q4670 : (Jvm.Cond.instanceMethod ({ cls := "ScholarsPressModel$Source", name := "copy", desc := "(LScholarsPressModel$Source;)V" } : Jvm.MethodName)) ∈ lw_all := lw_g (lw_at lw_m18 236 rfl) rfl
theorem q4671 : (Jvm.Cond.selects "ScholarsPressModel$Source" ({ cls := "ScholarsPressModel$Source", name := "copy", desc := "(LScholarsPressModel$Source;)V" } : Jvm.MethodName) ({ cls := "ScholarsPressModel$Source", name := "copy", desc := "(LScholarsPressModel$Source;)V" } : Jvm.MethodName)) ∈ lw_all := lw_g (lw_at lw_m18 237 rfl) rfl
theorem q4672 : (Jvm.Cond.code ({ cls := "ScholarsPressModel$Source", name := "copy", desc := "(LScholarsPressModel$Source;)V" } : Jvm.MethodName) prog_28_method_2_code (4 : Nat) (Option.none : Option Jvm.ClassFile.FieldType)) ∈ lw_all := lw_g (lw_at lw_m18 238 rfl) rfl
theorem q4691 : (Jvm.Cond.instanceMethod ({ cls := "ScholarsPressModel$Source", name := "fieldOf", desc := "(I[BII)I" } : Jvm.MethodName)) ∈ lw_all := lw_g (lw_at lw_m19 17 rfl) rfl
theorem q4692 : (Jvm.Cond.selects "ScholarsPressModel$Source" ({ cls := "ScholarsPressModel$Source", name := "fieldOf", desc := "(I[BII)I" } : Jvm.MethodName) ({ cls := "ScholarsPressModel$Source", name := "fieldOf", desc := "(I[BII)I" } : Jvm.MethodName)) ∈ lw_all := lw_g (lw_at lw_m19 18 rfl) rfl
theorem q4693 : (Jvm.Cond.code ({ cls := "ScholarsPressModel$Source", name := "fieldOf", desc := "(I[BII)I" } : Jvm.MethodName) prog_28_method_20_code (6 : Nat) (Option.some Jvm.ClassFile.FieldType.int)) ∈ lw_all := lw_g (lw_at lw_m19 19 rfl) rfl
theorem q4733 : (Jvm.Cond.instanceMethod ({ cls := "ScholarsPressModel$Source", name := "fieldOf", desc := "(ILjava/lang/String;)I" } : Jvm.MethodName)) ∈ lw_all := lw_g (lw_at lw_m19 59 rfl) rfl
theorem q4734 : (Jvm.Cond.selects "ScholarsPressModel$Source" ({ cls := "ScholarsPressModel$Source", name := "fieldOf", desc := "(ILjava/lang/String;)I" } : Jvm.MethodName) ({ cls := "ScholarsPressModel$Source", name := "fieldOf", desc := "(ILjava/lang/String;)I" } : Jvm.MethodName)) ∈ lw_all := lw_g (lw_at lw_m19 60 rfl) rfl
theorem q4735 : (Jvm.Cond.code ({ cls := "ScholarsPressModel$Source", name := "fieldOf", desc := "(ILjava/lang/String;)I" } : Jvm.MethodName) prog_28_method_21_code (4 : Nat) (Option.some Jvm.ClassFile.FieldType.int)) ∈ lw_all := lw_g (lw_at lw_m19 61 rfl) rfl
theorem q4907 : (Jvm.Cond.instanceMethod ({ cls := "ScholarsPressModel$Source", name := "elementOf", desc := "([BII)I" } : Jvm.MethodName)) ∈ lw_all := lw_g (lw_at lw_m19 233 rfl) rfl
theorem q4908 : (Jvm.Cond.selects "ScholarsPressModel$Source" ({ cls := "ScholarsPressModel$Source", name := "elementOf", desc := "([BII)I" } : Jvm.MethodName) ({ cls := "ScholarsPressModel$Source", name := "elementOf", desc := "([BII)I" } : Jvm.MethodName)) ∈ lw_all := lw_g (lw_at lw_m19 234 rfl) rfl
theorem q4909 : (Jvm.Cond.code ({ cls := "ScholarsPressModel$Source", name := "elementOf", desc := "([BII)I" } : Jvm.MethodName) prog_28_method_22_code (6 : Nat) (Option.some Jvm.ClassFile.FieldType.int)) ∈ lw_all := lw_g (lw_at lw_m19 235 rfl) rfl
theorem q4910 : (Jvm.Cond.stringRef "ScholarsPressModel$Source" (176 : Nat) "id") ∈ lw_tbl := lw_at lw_m19 236 rfl
theorem q4911 : (Jvm.Cond.methodLink "ScholarsPressModel$Source" (178 : Nat) ({ cls := "ScholarsPressModel$Source", name := "fieldOf", desc := "(ILjava/lang/String;)I" } : Jvm.MethodName)) ∈ lw_all := lw_g (lw_at lw_m19 237 rfl) rfl
theorem in_X23 : ∀ w ∈ wsX230, w ∈ lw_all := lw_in wsX230 [3577, 3579, 3581, 3583, 3585, 3587, 3589, 3591, 3593, 3595, 3597, 3599, 3601, 3603, 3605, 3607, 3609, 3611, 3613, 3615, 3617, 3619, 3621, 3623, 3625, 3627, 3629, 3631] (by decide +kernel) (by decide +kernel)
/-! ScholarsPressModel$Tree -/
def RX24 : String := "ScholarsPressModel$Tree"
def TX24 : u_T := fun k => match k with
  | 0 => ("ScholarsPressModel$Tree", "s", "LScholarsPressModel$Source;", true)
  | 1 => ("ScholarsPressModel$Tree", "styleText", "[B", true)
  | 2 => ("ScholarsPressModel$Tree", "page", "[I", true)
  | 3 => ("ScholarsPressModel$Tree", "prop", "[I", true)
  | 4 => ("ScholarsPressModel$Tree", "label", "[I", true)
  | 5 => ("ScholarsPressModel$Tree", "labelEnd", "[I", true)
  | 6 => ("ScholarsPressModel$Tree", "value", "[I", true)
  | 7 => ("ScholarsPressModel$Tree", "cellsIn", "[I", true)
  | 8 => ("ScholarsPressModel$Tree", "cellNo", "[I", true)
  | 9 => ("ScholarsPressModel$Tree", "shown", "[Z", true)
  | 10 => ("ScholarsPressModel$Tree", "inFlow", "[Z", true)
  | 11 => ("ScholarsPressModel$Tree", "note", "[Z", true)
  | 12 => ("ScholarsPressModel$Tree", "block", "[Z", true)
  | 13 => ("ScholarsPressModel$Tree", "table", "[Z", true)
  | 14 => ("ScholarsPressModel$Tree", "row", "[Z", true)
  | 15 => ("ScholarsPressModel$Tree", "cell", "[Z", true)
  | 16 => ("ScholarsPressModel$Tree", "weight", "[I", true)
  | 17 => ("ScholarsPressModel$Tree", "fits", "[Z", true)
  | 18 => ("ScholarsPressModel$Tree", "before", "[Z", true)
  | 19 => ("ScholarsPressModel$Tree", "older", "[I", true)
  | 20 => ("ScholarsPressModel$Tree", "place", "[I", true)
  | 21 => ("ScholarsPressModel$Tree", "many", "[I", true)
  | 22 => ("ScholarsPressModel$Tree", "latest", "[I", true)
  | 23 => ("ScholarsPressModel$Tree", "filled", "[Z", true)
  | 24 => ("ScholarsPressModel$Tree", "counts", "[I", true)
  | 25 => ("ScholarsPressModel$Tree", "digits", "[B", true)
  | 26 => ("ScholarsPressModel$Tree", "worth", "[I", true)
  | 27 => ("ScholarsPressModel$Tree", "title", "[B", false)
  | 28 => ("ScholarsPressModel$Tree", "titleLong", "I", false)
  | _ => ("ScholarsPressModel$Tree", "titleBlank", "Z", false)
def tyX24 : Nat → FieldType := fun k => match k with
  | 0 => .object "ScholarsPressModel$Source"
  | 1 => .array .byte
  | 2 => .array .int
  | 3 => .array .int
  | 4 => .array .int
  | 5 => .array .int
  | 6 => .array .int
  | 7 => .array .int
  | 8 => .array .int
  | 9 => .array .boolean
  | 10 => .array .boolean
  | 11 => .array .boolean
  | 12 => .array .boolean
  | 13 => .array .boolean
  | 14 => .array .boolean
  | 15 => .array .boolean
  | 16 => .array .int
  | 17 => .array .boolean
  | 18 => .array .boolean
  | 19 => .array .int
  | 20 => .array .int
  | 21 => .array .int
  | 22 => .array .int
  | 23 => .array .boolean
  | 24 => .array .int
  | 25 => .array .byte
  | 26 => .array .int
  | 27 => .array .byte
  | 28 => .int
  | _ => .boolean
abbrev wsX240 : List Cond := u_ws RX24 TX24 30
theorem nmX24 : ∀ a, a < 30 → ∀ b, b < 30 → a ≠ b → (TX24 a).2.1 ≠ (TX24 b).2.1 := by decide +kernel
theorem tyX24_ok : ∀ k, k < 30 → parseFieldDescriptor (TX24 k).2.2.1 = some (tyX24 k) := by decide +kernel
abbrev cX24_init : ByteArray := prog_30_method_1_code
def yX24_init : MethodName := ⟨RX24, "<init>", "()V"⟩
abbrev cX24_make : ByteArray := prog_30_method_6_code
def yX24_make : MethodName := ⟨RX24, "make", "(LScholarsPressModel$Source;LScholarsPressModel$Style;)V"⟩
abbrev cX24_relations : ByteArray := prog_30_method_7_code
def yX24_relations : MethodName := ⟨RX24, "relations", "()V"⟩
abbrev cX24_apply : ByteArray := prog_30_method_9_code
def yX24_apply : MethodName := ⟨RX24, "apply", "(LScholarsPressModel$Style;I)V"⟩
abbrev cX24_linked : ByteArray := prog_30_method_10_code
def yX24_linked : MethodName := ⟨RX24, "linked", "(LScholarsPressModel$Style;IIZ)Z"⟩
abbrev cX24_fitsStep : ByteArray := prog_30_method_8_code
def yX24_fitsStep : MethodName := ⟨RX24, "fitsStep", "(LScholarsPressModel$Style;II)Z"⟩
abbrev cX24_inherit : ByteArray := prog_30_method_11_code
def yX24_inherit : MethodName := ⟨RX24, "inherit", "()V"⟩
abbrev cX24_isInherited : ByteArray := prog_30_method_5_code
def yX24_isInherited : MethodName := ⟨RX24, "isInherited", "(I)Z"⟩
abbrev cX24_of : ByteArray := prog_30_method_3_code
def yX24_of : MethodName := ⟨RX24, "of", "(II)I"⟩
abbrev cX24_beginning : ByteArray := prog_30_method_4_code
def yX24_beginning : MethodName := ⟨RX24, "beginning", "(I)I"⟩
abbrev cX24_flags : ByteArray := prog_30_method_13_code
def yX24_flags : MethodName := ⟨RX24, "flags", "()V"⟩
abbrev cX24_show : ByteArray := prog_30_method_2_code
def yX24_show : MethodName := ⟨RX24, "show", "(I)I"⟩
abbrev cX24_isMute : ByteArray := prog_30_method_12_code
def yX24_isMute : MethodName := ⟨RX24, "isMute", "(I)Z"⟩
abbrev cX24_count : ByteArray := prog_30_method_14_code
def yX24_count : MethodName := ⟨RX24, "count", "()V"⟩
abbrev cX24_title : ByteArray := prog_30_method_24_code
def yX24_title : MethodName := ⟨RX24, "title", "(I)I"⟩
abbrev cX24_sayLabel : ByteArray := prog_30_method_23_code
def yX24_sayLabel : MethodName := ⟨RX24, "sayLabel", "(I)V"⟩
abbrev cX24_hasLabel : ByteArray := prog_30_method_16_code
def yX24_hasLabel : MethodName := ⟨RX24, "hasLabel", "(I)Z"⟩
abbrev cX24_form : ByteArray := prog_30_method_17_code
def yX24_form : MethodName := ⟨RX24, "form", "(II)I"⟩
abbrev cX24_roman : ByteArray := prog_30_method_19_code
def yX24_roman : MethodName := ⟨RX24, "roman", "(I)I"⟩
abbrev cX24_put : ByteArray := prog_30_method_20_code
def yX24_put : MethodName := ⟨RX24, "put", "(II)I"⟩
abbrev cX24_letters : ByteArray := prog_30_method_18_code
def yX24_letters : MethodName := ⟨RX24, "letters", "(I)I"⟩
abbrev cX24_say : ByteArray := prog_30_method_22_code
def yX24_say : MethodName := ⟨RX24, "say", "(I)V"⟩
abbrev cX24_speaks : ByteArray := prog_30_method_15_code
def yX24_speaks : MethodName := ⟨RX24, "speaks", "(I)Z"⟩
abbrev cX24_titleByte : ByteArray := prog_30_method_25_code
def yX24_titleByte : MethodName := ⟨RX24, "titleByte", "(I)I"⟩
abbrev cX24_digit : ByteArray := prog_30_method_21_code
def yX24_digit : MethodName := ⟨RX24, "digit", "(I)I"⟩
theorem q378 : (Jvm.Cond.initialized "ScholarsPressModel$Tree") ∈ lw_all := lw_g (lw_at lw_m1 24 rfl) rfl
theorem q3405 : (Jvm.Cond.fieldLink "ScholarsPressModel$Tree" (110 : Nat) "ScholarsPressModel$Style" "text" "[B") ∈ lw_all := lw_g (lw_at lw_m13 171 rfl) rfl
theorem q3408 : (Jvm.Cond.fieldLink "ScholarsPressModel$Tree" (115 : Nat) "ScholarsPressModel$Style" "page" "[I") ∈ lw_all := lw_g (lw_at lw_m13 174 rfl) rfl
theorem q3410 : (Jvm.Cond.fieldLink "ScholarsPressModel$Tree" (123 : Nat) "ScholarsPressModel$Style" "selectors" "I") ∈ lw_all := lw_g (lw_at lw_m13 176 rfl) rfl
theorem q3418 : (Jvm.Cond.fieldLink "ScholarsPressModel$Tree" (199 : Nat) "ScholarsPressModel$Style" "selectorFrom" "[I") ∈ lw_all := lw_g (lw_at lw_m13 184 rfl) rfl
theorem q3420 : (Jvm.Cond.fieldLink "ScholarsPressModel$Tree" (210 : Nat) "ScholarsPressModel$Style" "selectorBody" "[I") ∈ lw_all := lw_g (lw_at lw_m13 186 rfl) rfl
theorem q3422 : (Jvm.Cond.fieldLink "ScholarsPressModel$Tree" (151 : Nat) "ScholarsPressModel$Style" "stepName" "[I") ∈ lw_all := lw_g (lw_at lw_m13 188 rfl) rfl
theorem q3424 : (Jvm.Cond.fieldLink "ScholarsPressModel$Tree" (154 : Nat) "ScholarsPressModel$Style" "stepEnd" "[I") ∈ lw_all := lw_g (lw_at lw_m13 190 rfl) rfl
theorem q3426 : (Jvm.Cond.fieldLink "ScholarsPressModel$Tree" (220 : Nat) "ScholarsPressModel$Style" "stepLink" "[I") ∈ lw_all := lw_g (lw_at lw_m13 192 rfl) rfl
theorem q3428 : (Jvm.Cond.fieldLink "ScholarsPressModel$Tree" (168 : Nat) "ScholarsPressModel$Style" "stepTests" "[I") ∈ lw_all := lw_g (lw_at lw_m13 194 rfl) rfl
theorem q3430 : (Jvm.Cond.fieldLink "ScholarsPressModel$Tree" (171 : Nat) "ScholarsPressModel$Style" "test" "[I") ∈ lw_all := lw_g (lw_at lw_m13 196 rfl) rfl
theorem q3432 : (Jvm.Cond.fieldLink "ScholarsPressModel$Tree" (174 : Nat) "ScholarsPressModel$Style" "testName" "[I") ∈ lw_all := lw_g (lw_at lw_m13 198 rfl) rfl
theorem q3434 : (Jvm.Cond.fieldLink "ScholarsPressModel$Tree" (177 : Nat) "ScholarsPressModel$Style" "testEnd" "[I") ∈ lw_all := lw_g (lw_at lw_m13 200 rfl) rfl
theorem q3436 : (Jvm.Cond.fieldLink "ScholarsPressModel$Tree" (190 : Nat) "ScholarsPressModel$Style" "testText" "[I") ∈ lw_all := lw_g (lw_at lw_m13 202 rfl) rfl
theorem q3438 : (Jvm.Cond.fieldLink "ScholarsPressModel$Tree" (193 : Nat) "ScholarsPressModel$Style" "testTextEnd" "[I") ∈ lw_all := lw_g (lw_at lw_m13 204 rfl) rfl
theorem q3440 : (Jvm.Cond.fieldLink "ScholarsPressModel$Tree" (196 : Nat) "ScholarsPressModel$Style" "testNumber" "[I") ∈ lw_all := lw_g (lw_at lw_m13 206 rfl) rfl
theorem q3442 : (Jvm.Cond.fieldLink "ScholarsPressModel$Tree" (213 : Nat) "ScholarsPressModel$Style" "bodyFrom" "[I") ∈ lw_all := lw_g (lw_at lw_m13 208 rfl) rfl
theorem q3444 : (Jvm.Cond.fieldLink "ScholarsPressModel$Tree" (216 : Nat) "ScholarsPressModel$Style" "prop" "[I") ∈ lw_all := lw_g (lw_at lw_m13 210 rfl) rfl
theorem q3446 : (Jvm.Cond.fieldLink "ScholarsPressModel$Tree" (217 : Nat) "ScholarsPressModel$Style" "value" "[I") ∈ lw_all := lw_g (lw_at lw_m13 212 rfl) rfl
theorem q3448 : (Jvm.Cond.fieldLink "ScholarsPressModel$Tree" (218 : Nat) "ScholarsPressModel$Style" "label" "[I") ∈ lw_all := lw_g (lw_at lw_m13 214 rfl) rfl
theorem q3450 : (Jvm.Cond.fieldLink "ScholarsPressModel$Tree" (219 : Nat) "ScholarsPressModel$Style" "labelEnd" "[I") ∈ lw_all := lw_g (lw_at lw_m13 216 rfl) rfl
theorem q3518 : (Jvm.Cond.fieldLink "ScholarsPressModel$Tree" (157 : Nat) "ScholarsPressModel$Source" "text" "[B") ∈ lw_all := lw_g (lw_at lw_m14 44 rfl) rfl
theorem q3523 : (Jvm.Cond.fieldLink "ScholarsPressModel$Tree" (142 : Nat) "ScholarsPressModel$Source" "items" "I") ∈ lw_all := lw_g (lw_at lw_m14 49 rfl) rfl
theorem q3527 : (Jvm.Cond.fieldLink "ScholarsPressModel$Tree" (119 : Nat) "ScholarsPressModel$Source" "elements" "I") ∈ lw_all := lw_g (lw_at lw_m14 53 rfl) rfl
theorem q3534 : (Jvm.Cond.fieldLink "ScholarsPressModel$Tree" (145 : Nat) "ScholarsPressModel$Source" "item" "[I") ∈ lw_all := lw_g (lw_at lw_m14 60 rfl) rfl
theorem q3537 : (Jvm.Cond.fieldLink "ScholarsPressModel$Tree" (148 : Nat) "ScholarsPressModel$Source" "itemA" "[I") ∈ lw_all := lw_g (lw_at lw_m14 63 rfl) rfl
theorem q3541 : (Jvm.Cond.fieldLink "ScholarsPressModel$Tree" (289 : Nat) "ScholarsPressModel$Source" "itemB" "[I") ∈ lw_all := lw_g (lw_at lw_m14 67 rfl) rfl
theorem q3547 : (Jvm.Cond.fieldLink "ScholarsPressModel$Tree" (139 : Nat) "ScholarsPressModel$Source" "parent" "[I") ∈ lw_all := lw_g (lw_at lw_m14 73 rfl) rfl
theorem q3551 : (Jvm.Cond.fieldLink "ScholarsPressModel$Tree" (158 : Nat) "ScholarsPressModel$Source" "name" "[I") ∈ lw_all := lw_g (lw_at lw_m14 77 rfl) rfl
theorem q3553 : (Jvm.Cond.fieldLink "ScholarsPressModel$Tree" (161 : Nat) "ScholarsPressModel$Source" "nameEnd" "[I") ∈ lw_all := lw_g (lw_at lw_m14 79 rfl) rfl
theorem q3557 : (Jvm.Cond.fieldLink "ScholarsPressModel$Tree" (280 : Nat) "ScholarsPressModel$Source" "begin" "[I") ∈ lw_all := lw_g (lw_at lw_m14 83 rfl) rfl
theorem q3560 : (Jvm.Cond.fieldLink "ScholarsPressModel$Tree" (283 : Nat) "ScholarsPressModel$Source" "end" "[I") ∈ lw_all := lw_g (lw_at lw_m14 86 rfl) rfl
theorem q3565 : (Jvm.Cond.fieldLink "ScholarsPressModel$Tree" (184 : Nat) "ScholarsPressModel$Source" "string" "[I") ∈ lw_all := lw_g (lw_at lw_m14 91 rfl) rfl
theorem q3568 : (Jvm.Cond.fieldLink "ScholarsPressModel$Tree" (187 : Nat) "ScholarsPressModel$Source" "stringEnd" "[I") ∈ lw_all := lw_g (lw_at lw_m14 94 rfl) rfl
theorem q3635 : (Jvm.Cond.instantiable "ScholarsPressModel$Tree" (30 : Nat)) ∈ lw_all := lw_g (lw_at lw_m14 161 rfl) rfl
theorem q3637 : (Jvm.Cond.instanceMethod ({ cls := "ScholarsPressModel$Tree", name := "<init>", desc := "()V" } : Jvm.MethodName)) ∈ lw_all := lw_g (lw_at lw_m14 163 rfl) rfl
theorem q3638 : (Jvm.Cond.code ({ cls := "ScholarsPressModel$Tree", name := "<init>", desc := "()V" } : Jvm.MethodName) prog_30_method_1_code (1 : Nat) (Option.none : Option Jvm.ClassFile.FieldType)) ∈ lw_all := lw_g (lw_at lw_m14 164 rfl) rfl
theorem q3639 : (Jvm.Cond.methodLink "ScholarsPressModel$Tree" (3 : Nat) ({ cls := "java/lang/Object", name := "<init>", desc := "()V" } : Jvm.MethodName)) ∈ lw_all := lw_g (lw_at lw_m14 165 rfl) rfl
theorem q3640 : (Jvm.Cond.classLink "ScholarsPressModel$Tree" (9 : Nat) "ScholarsPressModel$Source") ∈ lw_all := lw_g (lw_at lw_m14 166 rfl) rfl
theorem q3641 : (Jvm.Cond.methodLinkNest "ScholarsPressModel$Tree" (11 : Nat) ({ cls := "ScholarsPressModel$Source", name := "<init>", desc := "()V" } : Jvm.MethodName) "ScholarsPressModel") ∈ lw_tbl := lw_at lw_m14 167 rfl
theorem q3642 : (Jvm.Cond.fieldLink "ScholarsPressModel$Tree" (12 : Nat) "ScholarsPressModel$Tree" "s" "LScholarsPressModel$Source;") ∈ lw_all := lw_g (lw_at lw_m14 168 rfl) rfl
theorem q3644 : (Jvm.Cond.fieldLink "ScholarsPressModel$Tree" (18 : Nat) "ScholarsPressModel$Tree" "styleText" "[B") ∈ lw_all := lw_g (lw_at lw_m14 170 rfl) rfl
theorem q3646 : (Jvm.Cond.fieldLink "ScholarsPressModel$Tree" (22 : Nat) "ScholarsPressModel$Tree" "page" "[I") ∈ lw_all := lw_g (lw_at lw_m14 172 rfl) rfl
theorem q3649 : (Jvm.Cond.fieldLink "ScholarsPressModel$Tree" (26 : Nat) "ScholarsPressModel$Tree" "prop" "[I") ∈ lw_all := lw_g (lw_at lw_m14 175 rfl) rfl
theorem q3650 : (Jvm.Cond.fieldLink "ScholarsPressModel$Tree" (29 : Nat) "ScholarsPressModel$Tree" "label" "[I") ∈ lw_all := lw_g (lw_at lw_m14 176 rfl) rfl
theorem q3652 : (Jvm.Cond.fieldLink "ScholarsPressModel$Tree" (32 : Nat) "ScholarsPressModel$Tree" "labelEnd" "[I") ∈ lw_all := lw_g (lw_at lw_m14 178 rfl) rfl
theorem q3654 : (Jvm.Cond.fieldLink "ScholarsPressModel$Tree" (35 : Nat) "ScholarsPressModel$Tree" "value" "[I") ∈ lw_all := lw_g (lw_at lw_m14 180 rfl) rfl
theorem q3657 : (Jvm.Cond.fieldLink "ScholarsPressModel$Tree" (38 : Nat) "ScholarsPressModel$Tree" "cellsIn" "[I") ∈ lw_all := lw_g (lw_at lw_m14 183 rfl) rfl
theorem q3660 : (Jvm.Cond.fieldLink "ScholarsPressModel$Tree" (41 : Nat) "ScholarsPressModel$Tree" "cellNo" "[I") ∈ lw_all := lw_g (lw_at lw_m14 186 rfl) rfl
theorem q3662 : (Jvm.Cond.fieldLink "ScholarsPressModel$Tree" (44 : Nat) "ScholarsPressModel$Tree" "shown" "[Z") ∈ lw_all := lw_g (lw_at lw_m14 188 rfl) rfl
theorem q3665 : (Jvm.Cond.fieldLink "ScholarsPressModel$Tree" (48 : Nat) "ScholarsPressModel$Tree" "inFlow" "[Z") ∈ lw_all := lw_g (lw_at lw_m14 191 rfl) rfl
theorem q3668 : (Jvm.Cond.fieldLink "ScholarsPressModel$Tree" (51 : Nat) "ScholarsPressModel$Tree" "note" "[Z") ∈ lw_all := lw_g (lw_at lw_m14 194 rfl) rfl
theorem q3670 : (Jvm.Cond.fieldLink "ScholarsPressModel$Tree" (54 : Nat) "ScholarsPressModel$Tree" "block" "[Z") ∈ lw_all := lw_g (lw_at lw_m14 196 rfl) rfl
theorem q3672 : (Jvm.Cond.fieldLink "ScholarsPressModel$Tree" (57 : Nat) "ScholarsPressModel$Tree" "table" "[Z") ∈ lw_all := lw_g (lw_at lw_m14 198 rfl) rfl
theorem q3674 : (Jvm.Cond.fieldLink "ScholarsPressModel$Tree" (60 : Nat) "ScholarsPressModel$Tree" "row" "[Z") ∈ lw_all := lw_g (lw_at lw_m14 200 rfl) rfl
theorem q3676 : (Jvm.Cond.fieldLink "ScholarsPressModel$Tree" (63 : Nat) "ScholarsPressModel$Tree" "cell" "[Z") ∈ lw_all := lw_g (lw_at lw_m14 202 rfl) rfl
theorem q3678 : (Jvm.Cond.fieldLink "ScholarsPressModel$Tree" (66 : Nat) "ScholarsPressModel$Tree" "weight" "[I") ∈ lw_all := lw_g (lw_at lw_m14 204 rfl) rfl
theorem q3679 : (Jvm.Cond.fieldLink "ScholarsPressModel$Tree" (69 : Nat) "ScholarsPressModel$Tree" "fits" "[Z") ∈ lw_all := lw_g (lw_at lw_m14 205 rfl) rfl
theorem q3680 : (Jvm.Cond.fieldLink "ScholarsPressModel$Tree" (72 : Nat) "ScholarsPressModel$Tree" "before" "[Z") ∈ lw_all := lw_g (lw_at lw_m14 206 rfl) rfl
theorem q3681 : (Jvm.Cond.fieldLink "ScholarsPressModel$Tree" (75 : Nat) "ScholarsPressModel$Tree" "older" "[I") ∈ lw_all := lw_g (lw_at lw_m14 207 rfl) rfl
theorem q3682 : (Jvm.Cond.fieldLink "ScholarsPressModel$Tree" (78 : Nat) "ScholarsPressModel$Tree" "place" "[I") ∈ lw_all := lw_g (lw_at lw_m14 208 rfl) rfl
theorem q3683 : (Jvm.Cond.fieldLink "ScholarsPressModel$Tree" (81 : Nat) "ScholarsPressModel$Tree" "many" "[I") ∈ lw_all := lw_g (lw_at lw_m14 209 rfl) rfl
theorem q3684 : (Jvm.Cond.fieldLink "ScholarsPressModel$Tree" (84 : Nat) "ScholarsPressModel$Tree" "latest" "[I") ∈ lw_all := lw_g (lw_at lw_m14 210 rfl) rfl
theorem q3685 : (Jvm.Cond.fieldLink "ScholarsPressModel$Tree" (87 : Nat) "ScholarsPressModel$Tree" "filled" "[Z") ∈ lw_all := lw_g (lw_at lw_m14 211 rfl) rfl
theorem q3686 : (Jvm.Cond.fieldLink "ScholarsPressModel$Tree" (90 : Nat) "ScholarsPressModel$Tree" "counts" "[I") ∈ lw_all := lw_g (lw_at lw_m14 212 rfl) rfl
theorem q3687 : (Jvm.Cond.fieldLink "ScholarsPressModel$Tree" (93 : Nat) "ScholarsPressModel$Tree" "digits" "[B") ∈ lw_all := lw_g (lw_at lw_m14 213 rfl) rfl
theorem q3688 : (Jvm.Cond.fieldLink "ScholarsPressModel$Tree" (96 : Nat) "ScholarsPressModel$Tree" "worth" "[I") ∈ lw_all := lw_g (lw_at lw_m14 214 rfl) rfl
theorem q3689 : (Jvm.Cond.fieldLink "ScholarsPressModel$Tree" (99 : Nat) "ScholarsPressModel$Tree" "title" "[B") ∈ lw_all := lw_g (lw_at lw_m14 215 rfl) rfl
theorem q3690 : (Jvm.Cond.fieldLink "ScholarsPressModel$Tree" (257 : Nat) "ScholarsPressModel$Tree" "titleLong" "I") ∈ lw_all := lw_g (lw_at lw_m14 216 rfl) rfl
theorem q3691 : (Jvm.Cond.fieldLink "ScholarsPressModel$Tree" (263 : Nat) "ScholarsPressModel$Tree" "titleBlank" "Z") ∈ lw_all := lw_g (lw_at lw_m14 217 rfl) rfl
theorem q3692 : (Jvm.Cond.laysFinal "ScholarsPressModel$Tree" "ScholarsPressModel$Tree" "s" "LScholarsPressModel$Source;") ∈ lw_all := lw_g (lw_at lw_m14 218 rfl) rfl
theorem q3693 : (Jvm.Cond.soleField "ScholarsPressModel$Tree" "s") ∈ lw_all := lw_g (lw_at lw_m14 219 rfl) rfl
theorem q3694 : (Jvm.Cond.laysFinal "ScholarsPressModel$Tree" "ScholarsPressModel$Tree" "styleText" "[B") ∈ lw_all := lw_g (lw_at lw_m14 220 rfl) rfl
theorem q3695 : (Jvm.Cond.soleField "ScholarsPressModel$Tree" "styleText") ∈ lw_all := lw_g (lw_at lw_m14 221 rfl) rfl
theorem q3696 : (Jvm.Cond.laysFinal "ScholarsPressModel$Tree" "ScholarsPressModel$Tree" "page" "[I") ∈ lw_all := lw_g (lw_at lw_m14 222 rfl) rfl
theorem q3697 : (Jvm.Cond.soleField "ScholarsPressModel$Tree" "page") ∈ lw_all := lw_g (lw_at lw_m14 223 rfl) rfl
theorem q3698 : (Jvm.Cond.laysFinal "ScholarsPressModel$Tree" "ScholarsPressModel$Tree" "prop" "[I") ∈ lw_all := lw_g (lw_at lw_m14 224 rfl) rfl
theorem q3699 : (Jvm.Cond.soleField "ScholarsPressModel$Tree" "prop") ∈ lw_all := lw_g (lw_at lw_m14 225 rfl) rfl
theorem q3700 : (Jvm.Cond.laysFinal "ScholarsPressModel$Tree" "ScholarsPressModel$Tree" "label" "[I") ∈ lw_all := lw_g (lw_at lw_m14 226 rfl) rfl
theorem q3701 : (Jvm.Cond.soleField "ScholarsPressModel$Tree" "label") ∈ lw_all := lw_g (lw_at lw_m14 227 rfl) rfl
theorem q3702 : (Jvm.Cond.laysFinal "ScholarsPressModel$Tree" "ScholarsPressModel$Tree" "labelEnd" "[I") ∈ lw_all := lw_g (lw_at lw_m14 228 rfl) rfl
theorem q3703 : (Jvm.Cond.soleField "ScholarsPressModel$Tree" "labelEnd") ∈ lw_all := lw_g (lw_at lw_m14 229 rfl) rfl
theorem q3704 : (Jvm.Cond.laysFinal "ScholarsPressModel$Tree" "ScholarsPressModel$Tree" "value" "[I") ∈ lw_all := lw_g (lw_at lw_m14 230 rfl) rfl
theorem q3705 : (Jvm.Cond.soleField "ScholarsPressModel$Tree" "value") ∈ lw_all := lw_g (lw_at lw_m14 231 rfl) rfl
theorem q3706 : (Jvm.Cond.laysFinal "ScholarsPressModel$Tree" "ScholarsPressModel$Tree" "cellsIn" "[I") ∈ lw_all := lw_g (lw_at lw_m14 232 rfl) rfl
theorem q3707 : (Jvm.Cond.soleField "ScholarsPressModel$Tree" "cellsIn") ∈ lw_all := lw_g (lw_at lw_m14 233 rfl) rfl
theorem q3708 : (Jvm.Cond.laysFinal "ScholarsPressModel$Tree" "ScholarsPressModel$Tree" "cellNo" "[I") ∈ lw_all := lw_g (lw_at lw_m14 234 rfl) rfl
theorem q3709 : (Jvm.Cond.soleField "ScholarsPressModel$Tree" "cellNo") ∈ lw_all := lw_g (lw_at lw_m14 235 rfl) rfl
theorem q3710 : (Jvm.Cond.laysFinal "ScholarsPressModel$Tree" "ScholarsPressModel$Tree" "shown" "[Z") ∈ lw_all := lw_g (lw_at lw_m14 236 rfl) rfl
theorem q3711 : (Jvm.Cond.soleField "ScholarsPressModel$Tree" "shown") ∈ lw_all := lw_g (lw_at lw_m14 237 rfl) rfl
theorem q3712 : (Jvm.Cond.laysFinal "ScholarsPressModel$Tree" "ScholarsPressModel$Tree" "inFlow" "[Z") ∈ lw_all := lw_g (lw_at lw_m14 238 rfl) rfl
theorem q3713 : (Jvm.Cond.soleField "ScholarsPressModel$Tree" "inFlow") ∈ lw_all := lw_g (lw_at lw_m14 239 rfl) rfl
theorem q3714 : (Jvm.Cond.laysFinal "ScholarsPressModel$Tree" "ScholarsPressModel$Tree" "note" "[Z") ∈ lw_all := lw_g (lw_at lw_m15 0 rfl) rfl
theorem q3715 : (Jvm.Cond.soleField "ScholarsPressModel$Tree" "note") ∈ lw_all := lw_g (lw_at lw_m15 1 rfl) rfl
theorem q3716 : (Jvm.Cond.laysFinal "ScholarsPressModel$Tree" "ScholarsPressModel$Tree" "block" "[Z") ∈ lw_all := lw_g (lw_at lw_m15 2 rfl) rfl
theorem q3717 : (Jvm.Cond.soleField "ScholarsPressModel$Tree" "block") ∈ lw_all := lw_g (lw_at lw_m15 3 rfl) rfl
theorem q3718 : (Jvm.Cond.laysFinal "ScholarsPressModel$Tree" "ScholarsPressModel$Tree" "table" "[Z") ∈ lw_all := lw_g (lw_at lw_m15 4 rfl) rfl
theorem q3719 : (Jvm.Cond.soleField "ScholarsPressModel$Tree" "table") ∈ lw_all := lw_g (lw_at lw_m15 5 rfl) rfl
theorem q3720 : (Jvm.Cond.laysFinal "ScholarsPressModel$Tree" "ScholarsPressModel$Tree" "row" "[Z") ∈ lw_all := lw_g (lw_at lw_m15 6 rfl) rfl
theorem q3721 : (Jvm.Cond.soleField "ScholarsPressModel$Tree" "row") ∈ lw_all := lw_g (lw_at lw_m15 7 rfl) rfl
theorem q3722 : (Jvm.Cond.laysFinal "ScholarsPressModel$Tree" "ScholarsPressModel$Tree" "cell" "[Z") ∈ lw_all := lw_g (lw_at lw_m15 8 rfl) rfl
theorem q3723 : (Jvm.Cond.soleField "ScholarsPressModel$Tree" "cell") ∈ lw_all := lw_g (lw_at lw_m15 9 rfl) rfl
theorem q3724 : (Jvm.Cond.laysFinal "ScholarsPressModel$Tree" "ScholarsPressModel$Tree" "weight" "[I") ∈ lw_all := lw_g (lw_at lw_m15 10 rfl) rfl
theorem q3725 : (Jvm.Cond.soleField "ScholarsPressModel$Tree" "weight") ∈ lw_all := lw_g (lw_at lw_m15 11 rfl) rfl
theorem q3726 : (Jvm.Cond.laysFinal "ScholarsPressModel$Tree" "ScholarsPressModel$Tree" "fits" "[Z") ∈ lw_all := lw_g (lw_at lw_m15 12 rfl) rfl
theorem q3727 : (Jvm.Cond.soleField "ScholarsPressModel$Tree" "fits") ∈ lw_all := lw_g (lw_at lw_m15 13 rfl) rfl
theorem q3728 : (Jvm.Cond.laysFinal "ScholarsPressModel$Tree" "ScholarsPressModel$Tree" "before" "[Z") ∈ lw_all := lw_g (lw_at lw_m15 14 rfl) rfl
theorem q3729 : (Jvm.Cond.soleField "ScholarsPressModel$Tree" "before") ∈ lw_all := lw_g (lw_at lw_m15 15 rfl) rfl
theorem q3730 : (Jvm.Cond.laysFinal "ScholarsPressModel$Tree" "ScholarsPressModel$Tree" "older" "[I") ∈ lw_all := lw_g (lw_at lw_m15 16 rfl) rfl
theorem q3731 : (Jvm.Cond.soleField "ScholarsPressModel$Tree" "older") ∈ lw_all := lw_g (lw_at lw_m15 17 rfl) rfl
theorem q3732 : (Jvm.Cond.laysFinal "ScholarsPressModel$Tree" "ScholarsPressModel$Tree" "place" "[I") ∈ lw_all := lw_g (lw_at lw_m15 18 rfl) rfl
theorem q3733 : (Jvm.Cond.soleField "ScholarsPressModel$Tree" "place") ∈ lw_all := lw_g (lw_at lw_m15 19 rfl) rfl
theorem q3734 : (Jvm.Cond.laysFinal "ScholarsPressModel$Tree" "ScholarsPressModel$Tree" "many" "[I") ∈ lw_all := lw_g (lw_at lw_m15 20 rfl) rfl
theorem q3735 : (Jvm.Cond.soleField "ScholarsPressModel$Tree" "many") ∈ lw_all := lw_g (lw_at lw_m15 21 rfl) rfl
theorem q3736 : (Jvm.Cond.laysFinal "ScholarsPressModel$Tree" "ScholarsPressModel$Tree" "latest" "[I") ∈ lw_all := lw_g (lw_at lw_m15 22 rfl) rfl
theorem q3737 : (Jvm.Cond.soleField "ScholarsPressModel$Tree" "latest") ∈ lw_all := lw_g (lw_at lw_m15 23 rfl) rfl
theorem q3738 : (Jvm.Cond.laysFinal "ScholarsPressModel$Tree" "ScholarsPressModel$Tree" "filled" "[Z") ∈ lw_all := lw_g (lw_at lw_m15 24 rfl) rfl
theorem q3739 : (Jvm.Cond.soleField "ScholarsPressModel$Tree" "filled") ∈ lw_all := lw_g (lw_at lw_m15 25 rfl) rfl
theorem q3740 : (Jvm.Cond.laysFinal "ScholarsPressModel$Tree" "ScholarsPressModel$Tree" "counts" "[I") ∈ lw_all := lw_g (lw_at lw_m15 26 rfl) rfl
theorem q3741 : (Jvm.Cond.soleField "ScholarsPressModel$Tree" "counts") ∈ lw_all := lw_g (lw_at lw_m15 27 rfl) rfl
theorem q3742 : (Jvm.Cond.laysFinal "ScholarsPressModel$Tree" "ScholarsPressModel$Tree" "digits" "[B") ∈ lw_all := lw_g (lw_at lw_m15 28 rfl) rfl
theorem q3743 : (Jvm.Cond.soleField "ScholarsPressModel$Tree" "digits") ∈ lw_all := lw_g (lw_at lw_m15 29 rfl) rfl
theorem q3744 : (Jvm.Cond.laysFinal "ScholarsPressModel$Tree" "ScholarsPressModel$Tree" "worth" "[I") ∈ lw_all := lw_g (lw_at lw_m15 30 rfl) rfl
theorem q3745 : (Jvm.Cond.soleField "ScholarsPressModel$Tree" "worth") ∈ lw_all := lw_g (lw_at lw_m15 31 rfl) rfl
theorem q3746 : (Jvm.Cond.lays "ScholarsPressModel$Tree" "ScholarsPressModel$Tree" "title" "[B") ∈ lw_all := lw_g (lw_at lw_m15 32 rfl) rfl
theorem q3747 : (Jvm.Cond.soleField "ScholarsPressModel$Tree" "title") ∈ lw_all := lw_g (lw_at lw_m15 33 rfl) rfl
theorem q3748 : (Jvm.Cond.lays "ScholarsPressModel$Tree" "ScholarsPressModel$Tree" "titleLong" "I") ∈ lw_all := lw_g (lw_at lw_m15 34 rfl) rfl
theorem q3749 : (Jvm.Cond.soleField "ScholarsPressModel$Tree" "titleLong") ∈ lw_all := lw_g (lw_at lw_m15 35 rfl) rfl
theorem q3750 : (Jvm.Cond.lays "ScholarsPressModel$Tree" "ScholarsPressModel$Tree" "titleBlank" "Z") ∈ lw_all := lw_g (lw_at lw_m15 36 rfl) rfl
theorem q3751 : (Jvm.Cond.soleField "ScholarsPressModel$Tree" "titleBlank") ∈ lw_all := lw_g (lw_at lw_m15 37 rfl) rfl
theorem q3752 : (Jvm.Cond.superclass "ScholarsPressModel$Tree" "java/lang/Object") ∈ lw_all := lw_g (lw_at lw_m15 38 rfl) rfl
theorem q4666 : (Jvm.Cond.instanceMethod ({ cls := "ScholarsPressModel$Tree", name := "make", desc := "(LScholarsPressModel$Source;LScholarsPressModel$Style;)V" } : Jvm.MethodName)) ∈ lw_all := lw_g (lw_at lw_m18 232 rfl) rfl
theorem q4667 : (Jvm.Cond.selects "ScholarsPressModel$Tree" ({ cls := "ScholarsPressModel$Tree", name := "make", desc := "(LScholarsPressModel$Source;LScholarsPressModel$Style;)V" } : Jvm.MethodName) ({ cls := "ScholarsPressModel$Tree", name := "make", desc := "(LScholarsPressModel$Source;LScholarsPressModel$Style;)V" } : Jvm.MethodName)) ∈ lw_all := lw_g (lw_at lw_m18 233 rfl) rfl
theorem q4668 : (Jvm.Cond.code ({ cls := "ScholarsPressModel$Tree", name := "make", desc := "(LScholarsPressModel$Source;LScholarsPressModel$Style;)V" } : Jvm.MethodName) prog_30_method_6_code (4 : Nat) (Option.none : Option Jvm.ClassFile.FieldType)) ∈ lw_all := lw_g (lw_at lw_m18 234 rfl) rfl
theorem q4669 : (Jvm.Cond.methodLink "ScholarsPressModel$Tree" (106 : Nat) ({ cls := "ScholarsPressModel$Source", name := "copy", desc := "(LScholarsPressModel$Source;)V" } : Jvm.MethodName)) ∈ lw_all := lw_g (lw_at lw_m18 235 rfl) rfl
theorem q4673 : (Jvm.Cond.methodLink "ScholarsPressModel$Tree" (116 : Nat) ({ cls := "ScholarsPressModel$Tree", name := "relations", desc := "()V" } : Jvm.MethodName)) ∈ lw_all := lw_g (lw_at lw_m18 239 rfl) rfl
theorem q4674 : (Jvm.Cond.privateMethod ({ cls := "ScholarsPressModel$Tree", name := "relations", desc := "()V" } : Jvm.MethodName)) ∈ lw_tbl := lw_at lw_m19 0 rfl
theorem q4675 : (Jvm.Cond.instanceMethod ({ cls := "ScholarsPressModel$Tree", name := "relations", desc := "()V" } : Jvm.MethodName)) ∈ lw_all := lw_g (lw_at lw_m19 1 rfl) rfl
theorem q4676 : (Jvm.Cond.code ({ cls := "ScholarsPressModel$Tree", name := "relations", desc := "()V" } : Jvm.MethodName) prog_30_method_7_code (3 : Nat) (Option.none : Option Jvm.ClassFile.FieldType)) ∈ lw_all := lw_g (lw_at lw_m19 2 rfl) rfl
theorem q4677 : (Jvm.Cond.methodLink "ScholarsPressModel$Tree" (126 : Nat) ({ cls := "ScholarsPressModel$Tree", name := "apply", desc := "(LScholarsPressModel$Style;I)V" } : Jvm.MethodName)) ∈ lw_all := lw_g (lw_at lw_m19 3 rfl) rfl
theorem q4678 : (Jvm.Cond.privateMethod ({ cls := "ScholarsPressModel$Tree", name := "apply", desc := "(LScholarsPressModel$Style;I)V" } : Jvm.MethodName)) ∈ lw_tbl := lw_at lw_m19 4 rfl
theorem q4679 : (Jvm.Cond.instanceMethod ({ cls := "ScholarsPressModel$Tree", name := "apply", desc := "(LScholarsPressModel$Style;I)V" } : Jvm.MethodName)) ∈ lw_all := lw_g (lw_at lw_m19 5 rfl) rfl
theorem q4680 : (Jvm.Cond.code ({ cls := "ScholarsPressModel$Tree", name := "apply", desc := "(LScholarsPressModel$Style;I)V" } : Jvm.MethodName) prog_30_method_9_code (8 : Nat) (Option.none : Option Jvm.ClassFile.FieldType)) ∈ lw_all := lw_g (lw_at lw_m19 6 rfl) rfl
theorem q4681 : (Jvm.Cond.methodLink "ScholarsPressModel$Tree" (202 : Nat) ({ cls := "ScholarsPressModel$Tree", name := "linked", desc := "(LScholarsPressModel$Style;IIZ)Z" } : Jvm.MethodName)) ∈ lw_all := lw_g (lw_at lw_m19 7 rfl) rfl
theorem q4682 : (Jvm.Cond.privateMethod ({ cls := "ScholarsPressModel$Tree", name := "linked", desc := "(LScholarsPressModel$Style;IIZ)Z" } : Jvm.MethodName)) ∈ lw_tbl := lw_at lw_m19 8 rfl
theorem q4683 : (Jvm.Cond.instanceMethod ({ cls := "ScholarsPressModel$Tree", name := "linked", desc := "(LScholarsPressModel$Style;IIZ)Z" } : Jvm.MethodName)) ∈ lw_all := lw_g (lw_at lw_m19 9 rfl) rfl
theorem q4684 : (Jvm.Cond.code ({ cls := "ScholarsPressModel$Tree", name := "linked", desc := "(LScholarsPressModel$Style;IIZ)Z" } : Jvm.MethodName) prog_30_method_10_code (7 : Nat) (Option.some Jvm.ClassFile.FieldType.boolean)) ∈ lw_all := lw_g (lw_at lw_m19 10 rfl) rfl
theorem q4685 : (Jvm.Cond.methodLink "ScholarsPressModel$Tree" (206 : Nat) ({ cls := "ScholarsPressModel$Tree", name := "fitsStep", desc := "(LScholarsPressModel$Style;II)Z" } : Jvm.MethodName)) ∈ lw_all := lw_g (lw_at lw_m19 11 rfl) rfl
theorem q4686 : (Jvm.Cond.privateMethod ({ cls := "ScholarsPressModel$Tree", name := "fitsStep", desc := "(LScholarsPressModel$Style;II)Z" } : Jvm.MethodName)) ∈ lw_tbl := lw_at lw_m19 12 rfl
theorem q4687 : (Jvm.Cond.instanceMethod ({ cls := "ScholarsPressModel$Tree", name := "fitsStep", desc := "(LScholarsPressModel$Style;II)Z" } : Jvm.MethodName)) ∈ lw_all := lw_g (lw_at lw_m19 13 rfl) rfl
theorem q4688 : (Jvm.Cond.code ({ cls := "ScholarsPressModel$Tree", name := "fitsStep", desc := "(LScholarsPressModel$Style;II)Z" } : Jvm.MethodName) prog_30_method_8_code (7 : Nat) (Option.some Jvm.ClassFile.FieldType.boolean)) ∈ lw_all := lw_g (lw_at lw_m19 14 rfl) rfl
theorem q4689 : (Jvm.Cond.methodLinkNest "ScholarsPressModel$Tree" (164 : Nat) ({ cls := "ScholarsPressModel", name := "same", desc := "([BII[BII)Z" } : Jvm.MethodName) "ScholarsPressModel") ∈ lw_tbl := lw_at lw_m19 15 rfl
theorem q4690 : (Jvm.Cond.methodLink "ScholarsPressModel$Tree" (180 : Nat) ({ cls := "ScholarsPressModel$Source", name := "fieldOf", desc := "(I[BII)I" } : Jvm.MethodName)) ∈ lw_all := lw_g (lw_at lw_m19 16 rfl) rfl
theorem q4694 : (Jvm.Cond.methodLink "ScholarsPressModel$Tree" (130 : Nat) ({ cls := "ScholarsPressModel$Tree", name := "inherit", desc := "()V" } : Jvm.MethodName)) ∈ lw_all := lw_g (lw_at lw_m19 20 rfl) rfl
theorem q4695 : (Jvm.Cond.privateMethod ({ cls := "ScholarsPressModel$Tree", name := "inherit", desc := "()V" } : Jvm.MethodName)) ∈ lw_tbl := lw_at lw_m19 21 rfl
theorem q4696 : (Jvm.Cond.instanceMethod ({ cls := "ScholarsPressModel$Tree", name := "inherit", desc := "()V" } : Jvm.MethodName)) ∈ lw_all := lw_g (lw_at lw_m19 22 rfl) rfl
theorem q4697 : (Jvm.Cond.code ({ cls := "ScholarsPressModel$Tree", name := "inherit", desc := "()V" } : Jvm.MethodName) prog_30_method_11_code (5 : Nat) (Option.none : Option Jvm.ClassFile.FieldType)) ∈ lw_all := lw_g (lw_at lw_m19 23 rfl) rfl
theorem q4698 : (Jvm.Cond.methodLink "ScholarsPressModel$Tree" (223 : Nat) ({ cls := "ScholarsPressModel$Tree", name := "isInherited", desc := "(I)Z" } : Jvm.MethodName)) ∈ lw_all := lw_g (lw_at lw_m19 24 rfl) rfl
theorem q4699 : (Jvm.Cond.static ({ cls := "ScholarsPressModel$Tree", name := "isInherited", desc := "(I)Z" } : Jvm.MethodName)) ∈ lw_all := lw_g (lw_at lw_m19 25 rfl) rfl
theorem q4700 : (Jvm.Cond.code ({ cls := "ScholarsPressModel$Tree", name := "isInherited", desc := "(I)Z" } : Jvm.MethodName) prog_30_method_5_code (1 : Nat) (Option.some Jvm.ClassFile.FieldType.boolean)) ∈ lw_all := lw_g (lw_at lw_m19 26 rfl) rfl
theorem q4701 : (Jvm.Cond.methodLink "ScholarsPressModel$Tree" (227 : Nat) ({ cls := "ScholarsPressModel$Tree", name := "of", desc := "(II)I" } : Jvm.MethodName)) ∈ lw_all := lw_g (lw_at lw_m19 27 rfl) rfl
theorem q4702 : (Jvm.Cond.instanceMethod ({ cls := "ScholarsPressModel$Tree", name := "of", desc := "(II)I" } : Jvm.MethodName)) ∈ lw_all := lw_g (lw_at lw_m19 28 rfl) rfl
theorem q4703 : (Jvm.Cond.selects "ScholarsPressModel$Tree" ({ cls := "ScholarsPressModel$Tree", name := "of", desc := "(II)I" } : Jvm.MethodName) ({ cls := "ScholarsPressModel$Tree", name := "of", desc := "(II)I" } : Jvm.MethodName)) ∈ lw_all := lw_g (lw_at lw_m19 29 rfl) rfl
theorem q4704 : (Jvm.Cond.code ({ cls := "ScholarsPressModel$Tree", name := "of", desc := "(II)I" } : Jvm.MethodName) prog_30_method_3_code (3 : Nat) (Option.some Jvm.ClassFile.FieldType.int)) ∈ lw_all := lw_g (lw_at lw_m19 30 rfl) rfl
theorem q4705 : (Jvm.Cond.methodLink "ScholarsPressModel$Tree" (102 : Nat) ({ cls := "ScholarsPressModel$Tree", name := "beginning", desc := "(I)I" } : Jvm.MethodName)) ∈ lw_all := lw_g (lw_at lw_m19 31 rfl) rfl
theorem q4706 : (Jvm.Cond.static ({ cls := "ScholarsPressModel$Tree", name := "beginning", desc := "(I)I" } : Jvm.MethodName)) ∈ lw_all := lw_g (lw_at lw_m19 32 rfl) rfl
theorem q4707 : (Jvm.Cond.code ({ cls := "ScholarsPressModel$Tree", name := "beginning", desc := "(I)I" } : Jvm.MethodName) prog_30_method_4_code (1 : Nat) (Option.some Jvm.ClassFile.FieldType.int)) ∈ lw_all := lw_g (lw_at lw_m19 33 rfl) rfl
theorem q4708 : (Jvm.Cond.constantLong "ScholarsPressModel$Tree" (231 : Nat) (100 : Int64)) ∈ lw_all := lw_g (lw_at lw_m19 34 rfl) rfl
theorem q4709 : (Jvm.Cond.constant "ScholarsPressModel$Tree" (233 : Nat) (100000 : Int32)) ∈ lw_all := lw_g (lw_at lw_m19 35 rfl) rfl
theorem q4710 : (Jvm.Cond.methodLink "ScholarsPressModel$Tree" (133 : Nat) ({ cls := "ScholarsPressModel$Tree", name := "flags", desc := "()V" } : Jvm.MethodName)) ∈ lw_all := lw_g (lw_at lw_m19 36 rfl) rfl
theorem q4711 : (Jvm.Cond.privateMethod ({ cls := "ScholarsPressModel$Tree", name := "flags", desc := "()V" } : Jvm.MethodName)) ∈ lw_tbl := lw_at lw_m19 37 rfl
theorem q4712 : (Jvm.Cond.instanceMethod ({ cls := "ScholarsPressModel$Tree", name := "flags", desc := "()V" } : Jvm.MethodName)) ∈ lw_all := lw_g (lw_at lw_m19 38 rfl) rfl
theorem q4713 : (Jvm.Cond.code ({ cls := "ScholarsPressModel$Tree", name := "flags", desc := "()V" } : Jvm.MethodName) prog_30_method_13_code (4 : Nat) (Option.none : Option Jvm.ClassFile.FieldType)) ∈ lw_all := lw_g (lw_at lw_m19 39 rfl) rfl
theorem q4714 : (Jvm.Cond.methodLink "ScholarsPressModel$Tree" (234 : Nat) ({ cls := "ScholarsPressModel$Tree", name := "show", desc := "(I)I" } : Jvm.MethodName)) ∈ lw_all := lw_g (lw_at lw_m19 40 rfl) rfl
theorem q4715 : (Jvm.Cond.instanceMethod ({ cls := "ScholarsPressModel$Tree", name := "show", desc := "(I)I" } : Jvm.MethodName)) ∈ lw_all := lw_g (lw_at lw_m19 41 rfl) rfl
theorem q4716 : (Jvm.Cond.selects "ScholarsPressModel$Tree" ({ cls := "ScholarsPressModel$Tree", name := "show", desc := "(I)I" } : Jvm.MethodName) ({ cls := "ScholarsPressModel$Tree", name := "show", desc := "(I)I" } : Jvm.MethodName)) ∈ lw_all := lw_g (lw_at lw_m19 42 rfl) rfl
theorem q4717 : (Jvm.Cond.code ({ cls := "ScholarsPressModel$Tree", name := "show", desc := "(I)I" } : Jvm.MethodName) prog_30_method_2_code (2 : Nat) (Option.some Jvm.ClassFile.FieldType.int)) ∈ lw_all := lw_g (lw_at lw_m19 43 rfl) rfl
theorem q4718 : (Jvm.Cond.methodLink "ScholarsPressModel$Tree" (237 : Nat) ({ cls := "ScholarsPressModel$Tree", name := "isMute", desc := "(I)Z" } : Jvm.MethodName)) ∈ lw_all := lw_g (lw_at lw_m19 44 rfl) rfl
theorem q4719 : (Jvm.Cond.privateMethod ({ cls := "ScholarsPressModel$Tree", name := "isMute", desc := "(I)Z" } : Jvm.MethodName)) ∈ lw_tbl := lw_at lw_m19 45 rfl
theorem q4720 : (Jvm.Cond.instanceMethod ({ cls := "ScholarsPressModel$Tree", name := "isMute", desc := "(I)Z" } : Jvm.MethodName)) ∈ lw_all := lw_g (lw_at lw_m19 46 rfl) rfl
theorem q4721 : (Jvm.Cond.code ({ cls := "ScholarsPressModel$Tree", name := "isMute", desc := "(I)Z" } : Jvm.MethodName) prog_30_method_12_code (2 : Nat) (Option.some Jvm.ClassFile.FieldType.boolean)) ∈ lw_all := lw_g (lw_at lw_m19 47 rfl) rfl
theorem q4722 : (Jvm.Cond.methodLink "ScholarsPressModel$Tree" (136 : Nat) ({ cls := "ScholarsPressModel$Tree", name := "count", desc := "()V" } : Jvm.MethodName)) ∈ lw_all := lw_g (lw_at lw_m19 48 rfl) rfl
theorem q4723 : (Jvm.Cond.privateMethod ({ cls := "ScholarsPressModel$Tree", name := "count", desc := "()V" } : Jvm.MethodName)) ∈ lw_tbl := lw_at lw_m19 49 rfl
theorem q4724 : (Jvm.Cond.instanceMethod ({ cls := "ScholarsPressModel$Tree", name := "count", desc := "()V" } : Jvm.MethodName)) ∈ lw_all := lw_g (lw_at lw_m19 50 rfl) rfl
theorem q4725 : (Jvm.Cond.code ({ cls := "ScholarsPressModel$Tree", name := "count", desc := "()V" } : Jvm.MethodName) prog_30_method_14_code (4 : Nat) (Option.none : Option Jvm.ClassFile.FieldType)) ∈ lw_all := lw_g (lw_at lw_m19 51 rfl) rfl
theorem q4737 : (Jvm.Cond.instanceMethod ({ cls := "ScholarsPressModel$Tree", name := "title", desc := "(I)I" } : Jvm.MethodName)) ∈ lw_all := lw_g (lw_at lw_m19 63 rfl) rfl
theorem q4738 : (Jvm.Cond.selects "ScholarsPressModel$Tree" ({ cls := "ScholarsPressModel$Tree", name := "title", desc := "(I)I" } : Jvm.MethodName) ({ cls := "ScholarsPressModel$Tree", name := "title", desc := "(I)I" } : Jvm.MethodName)) ∈ lw_all := lw_g (lw_at lw_m19 64 rfl) rfl
theorem q4739 : (Jvm.Cond.code ({ cls := "ScholarsPressModel$Tree", name := "title", desc := "(I)I" } : Jvm.MethodName) prog_30_method_24_code (5 : Nat) (Option.some Jvm.ClassFile.FieldType.int)) ∈ lw_all := lw_g (lw_at lw_m19 65 rfl) rfl
theorem q4740 : (Jvm.Cond.methodLink "ScholarsPressModel$Tree" (277 : Nat) ({ cls := "ScholarsPressModel$Tree", name := "sayLabel", desc := "(I)V" } : Jvm.MethodName)) ∈ lw_all := lw_g (lw_at lw_m19 66 rfl) rfl
theorem q4741 : (Jvm.Cond.privateMethod ({ cls := "ScholarsPressModel$Tree", name := "sayLabel", desc := "(I)V" } : Jvm.MethodName)) ∈ lw_tbl := lw_at lw_m19 67 rfl
theorem q4742 : (Jvm.Cond.instanceMethod ({ cls := "ScholarsPressModel$Tree", name := "sayLabel", desc := "(I)V" } : Jvm.MethodName)) ∈ lw_all := lw_g (lw_at lw_m19 68 rfl) rfl
theorem q4743 : (Jvm.Cond.code ({ cls := "ScholarsPressModel$Tree", name := "sayLabel", desc := "(I)V" } : Jvm.MethodName) prog_30_method_23_code (5 : Nat) (Option.none : Option Jvm.ClassFile.FieldType)) ∈ lw_all := lw_g (lw_at lw_m19 69 rfl) rfl
theorem q4744 : (Jvm.Cond.methodLink "ScholarsPressModel$Tree" (267 : Nat) ({ cls := "ScholarsPressModel$Tree", name := "hasLabel", desc := "(I)Z" } : Jvm.MethodName)) ∈ lw_all := lw_g (lw_at lw_m19 70 rfl) rfl
theorem q4745 : (Jvm.Cond.instanceMethod ({ cls := "ScholarsPressModel$Tree", name := "hasLabel", desc := "(I)Z" } : Jvm.MethodName)) ∈ lw_all := lw_g (lw_at lw_m19 71 rfl) rfl
theorem q4746 : (Jvm.Cond.selects "ScholarsPressModel$Tree" ({ cls := "ScholarsPressModel$Tree", name := "hasLabel", desc := "(I)Z" } : Jvm.MethodName) ({ cls := "ScholarsPressModel$Tree", name := "hasLabel", desc := "(I)Z" } : Jvm.MethodName)) ∈ lw_all := lw_g (lw_at lw_m19 72 rfl) rfl
theorem q4747 : (Jvm.Cond.code ({ cls := "ScholarsPressModel$Tree", name := "hasLabel", desc := "(I)Z" } : Jvm.MethodName) prog_30_method_16_code (2 : Nat) (Option.some Jvm.ClassFile.FieldType.boolean)) ∈ lw_all := lw_g (lw_at lw_m19 73 rfl) rfl
theorem q4748 : (Jvm.Cond.methodLink "ScholarsPressModel$Tree" (270 : Nat) ({ cls := "ScholarsPressModel$Tree", name := "form", desc := "(II)I" } : Jvm.MethodName)) ∈ lw_all := lw_g (lw_at lw_m19 74 rfl) rfl
theorem q4749 : (Jvm.Cond.instanceMethod ({ cls := "ScholarsPressModel$Tree", name := "form", desc := "(II)I" } : Jvm.MethodName)) ∈ lw_all := lw_g (lw_at lw_m19 75 rfl) rfl
theorem q4750 : (Jvm.Cond.selects "ScholarsPressModel$Tree" ({ cls := "ScholarsPressModel$Tree", name := "form", desc := "(II)I" } : Jvm.MethodName) ({ cls := "ScholarsPressModel$Tree", name := "form", desc := "(II)I" } : Jvm.MethodName)) ∈ lw_all := lw_g (lw_at lw_m19 76 rfl) rfl
theorem q4751 : (Jvm.Cond.code ({ cls := "ScholarsPressModel$Tree", name := "form", desc := "(II)I" } : Jvm.MethodName) prog_30_method_17_code (6 : Nat) (Option.some Jvm.ClassFile.FieldType.int)) ∈ lw_all := lw_g (lw_at lw_m19 77 rfl) rfl
theorem q4752 : (Jvm.Cond.methodLink "ScholarsPressModel$Tree" (240 : Nat) ({ cls := "ScholarsPressModel$Tree", name := "roman", desc := "(I)I" } : Jvm.MethodName)) ∈ lw_all := lw_g (lw_at lw_m19 78 rfl) rfl
theorem q4753 : (Jvm.Cond.privateMethod ({ cls := "ScholarsPressModel$Tree", name := "roman", desc := "(I)I" } : Jvm.MethodName)) ∈ lw_tbl := lw_at lw_m19 79 rfl
theorem q4754 : (Jvm.Cond.instanceMethod ({ cls := "ScholarsPressModel$Tree", name := "roman", desc := "(I)I" } : Jvm.MethodName)) ∈ lw_all := lw_g (lw_at lw_m19 80 rfl) rfl
theorem q4755 : (Jvm.Cond.code ({ cls := "ScholarsPressModel$Tree", name := "roman", desc := "(I)I" } : Jvm.MethodName) prog_30_method_19_code (11 : Nat) (Option.some Jvm.ClassFile.FieldType.int)) ∈ lw_all := lw_g (lw_at lw_m19 81 rfl) rfl
theorem q4756 : (Jvm.Cond.stringRef "ScholarsPressModel$Tree" (246 : Nat) "mdclxvi") ∈ lw_tbl := lw_at lw_m19 82 rfl
theorem q4757 : (Jvm.Cond.methodLink "ScholarsPressModel$Tree" (248 : Nat) ({ cls := "java/lang/String", name := "charAt", desc := "(I)C" } : Jvm.MethodName)) ∈ lw_all := lw_g (lw_at lw_m19 83 rfl) rfl
theorem q4758 : (Jvm.Cond.methodLink "ScholarsPressModel$Tree" (254 : Nat) ({ cls := "ScholarsPressModel$Tree", name := "put", desc := "(II)I" } : Jvm.MethodName)) ∈ lw_all := lw_g (lw_at lw_m19 84 rfl) rfl
theorem q4759 : (Jvm.Cond.privateMethod ({ cls := "ScholarsPressModel$Tree", name := "put", desc := "(II)I" } : Jvm.MethodName)) ∈ lw_tbl := lw_at lw_m19 85 rfl
theorem q4760 : (Jvm.Cond.instanceMethod ({ cls := "ScholarsPressModel$Tree", name := "put", desc := "(II)I" } : Jvm.MethodName)) ∈ lw_all := lw_g (lw_at lw_m19 86 rfl) rfl
theorem q4761 : (Jvm.Cond.code ({ cls := "ScholarsPressModel$Tree", name := "put", desc := "(II)I" } : Jvm.MethodName) prog_30_method_20_code (3 : Nat) (Option.some Jvm.ClassFile.FieldType.int)) ∈ lw_all := lw_g (lw_at lw_m19 87 rfl) rfl
theorem q4762 : (Jvm.Cond.methodLink "ScholarsPressModel$Tree" (243 : Nat) ({ cls := "ScholarsPressModel$Tree", name := "letters", desc := "(I)I" } : Jvm.MethodName)) ∈ lw_all := lw_g (lw_at lw_m19 88 rfl) rfl
theorem q4763 : (Jvm.Cond.privateMethod ({ cls := "ScholarsPressModel$Tree", name := "letters", desc := "(I)I" } : Jvm.MethodName)) ∈ lw_tbl := lw_at lw_m19 89 rfl
theorem q4764 : (Jvm.Cond.instanceMethod ({ cls := "ScholarsPressModel$Tree", name := "letters", desc := "(I)I" } : Jvm.MethodName)) ∈ lw_all := lw_g (lw_at lw_m19 90 rfl) rfl
theorem q4765 : (Jvm.Cond.code ({ cls := "ScholarsPressModel$Tree", name := "letters", desc := "(I)I" } : Jvm.MethodName) prog_30_method_18_code (5 : Nat) (Option.some Jvm.ClassFile.FieldType.int)) ∈ lw_all := lw_g (lw_at lw_m19 91 rfl) rfl
theorem q4766 : (Jvm.Cond.methodLink "ScholarsPressModel$Tree" (273 : Nat) ({ cls := "ScholarsPressModel$Tree", name := "say", desc := "(I)V" } : Jvm.MethodName)) ∈ lw_all := lw_g (lw_at lw_m19 92 rfl) rfl
theorem q4767 : (Jvm.Cond.privateMethod ({ cls := "ScholarsPressModel$Tree", name := "say", desc := "(I)V" } : Jvm.MethodName)) ∈ lw_tbl := lw_at lw_m19 93 rfl
theorem q4768 : (Jvm.Cond.instanceMethod ({ cls := "ScholarsPressModel$Tree", name := "say", desc := "(I)V" } : Jvm.MethodName)) ∈ lw_all := lw_g (lw_at lw_m19 94 rfl) rfl
theorem q4769 : (Jvm.Cond.code ({ cls := "ScholarsPressModel$Tree", name := "say", desc := "(I)V" } : Jvm.MethodName) prog_30_method_22_code (2 : Nat) (Option.none : Option Jvm.ClassFile.FieldType)) ∈ lw_all := lw_g (lw_at lw_m19 95 rfl) rfl
theorem q4770 : (Jvm.Cond.methodLinkNest "ScholarsPressModel$Tree" (260 : Nat) ({ cls := "ScholarsPressModel", name := "isBlank", desc := "(I)Z" } : Jvm.MethodName) "ScholarsPressModel") ∈ lw_tbl := lw_at lw_m19 96 rfl
theorem q4771 : (Jvm.Cond.methodLink "ScholarsPressModel$Tree" (286 : Nat) ({ cls := "ScholarsPressModel$Tree", name := "speaks", desc := "(I)Z" } : Jvm.MethodName)) ∈ lw_all := lw_g (lw_at lw_m19 97 rfl) rfl
theorem q4772 : (Jvm.Cond.instanceMethod ({ cls := "ScholarsPressModel$Tree", name := "speaks", desc := "(I)Z" } : Jvm.MethodName)) ∈ lw_all := lw_g (lw_at lw_m19 98 rfl) rfl
theorem q4773 : (Jvm.Cond.selects "ScholarsPressModel$Tree" ({ cls := "ScholarsPressModel$Tree", name := "speaks", desc := "(I)Z" } : Jvm.MethodName) ({ cls := "ScholarsPressModel$Tree", name := "speaks", desc := "(I)Z" } : Jvm.MethodName)) ∈ lw_all := lw_g (lw_at lw_m19 99 rfl) rfl
theorem q4774 : (Jvm.Cond.code ({ cls := "ScholarsPressModel$Tree", name := "speaks", desc := "(I)Z" } : Jvm.MethodName) prog_30_method_15_code (2 : Nat) (Option.some Jvm.ClassFile.FieldType.boolean)) ∈ lw_all := lw_g (lw_at lw_m19 100 rfl) rfl
theorem q4776 : (Jvm.Cond.instanceMethod ({ cls := "ScholarsPressModel$Tree", name := "titleByte", desc := "(I)I" } : Jvm.MethodName)) ∈ lw_all := lw_g (lw_at lw_m19 102 rfl) rfl
theorem q4777 : (Jvm.Cond.selects "ScholarsPressModel$Tree" ({ cls := "ScholarsPressModel$Tree", name := "titleByte", desc := "(I)I" } : Jvm.MethodName) ({ cls := "ScholarsPressModel$Tree", name := "titleByte", desc := "(I)I" } : Jvm.MethodName)) ∈ lw_all := lw_g (lw_at lw_m19 103 rfl) rfl
theorem q4778 : (Jvm.Cond.code ({ cls := "ScholarsPressModel$Tree", name := "titleByte", desc := "(I)I" } : Jvm.MethodName) prog_30_method_25_code (2 : Nat) (Option.some Jvm.ClassFile.FieldType.int)) ∈ lw_all := lw_g (lw_at lw_m19 104 rfl) rfl
theorem q4880 : (Jvm.Cond.instanceMethod ({ cls := "ScholarsPressModel$Tree", name := "digit", desc := "(I)I" } : Jvm.MethodName)) ∈ lw_all := lw_g (lw_at lw_m19 206 rfl) rfl
theorem q4881 : (Jvm.Cond.selects "ScholarsPressModel$Tree" ({ cls := "ScholarsPressModel$Tree", name := "digit", desc := "(I)I" } : Jvm.MethodName) ({ cls := "ScholarsPressModel$Tree", name := "digit", desc := "(I)I" } : Jvm.MethodName)) ∈ lw_all := lw_g (lw_at lw_m19 207 rfl) rfl
theorem q4882 : (Jvm.Cond.code ({ cls := "ScholarsPressModel$Tree", name := "digit", desc := "(I)I" } : Jvm.MethodName) prog_30_method_21_code (2 : Nat) (Option.some Jvm.ClassFile.FieldType.int)) ∈ lw_all := lw_g (lw_at lw_m19 208 rfl) rfl
theorem in_X24 : ∀ w ∈ wsX240, w ∈ lw_all := lw_in wsX240 [3692, 3694, 3696, 3698, 3700, 3702, 3704, 3706, 3708, 3710, 3712, 3714, 3716, 3718, 3720, 3722, 3724, 3726, 3728, 3730, 3732, 3734, 3736, 3738, 3740, 3742, 3744, 3746, 3748, 3750] (by decide +kernel) (by decide +kernel)
/-! ScholarsPressModel$Setting -/
def RX25 : String := "ScholarsPressModel$Setting"
def TX25 : u_T := fun k => match k with
  | 0 => ("ScholarsPressModel$Setting", "tree", "LScholarsPressModel$Tree;", true)
  | 1 => ("ScholarsPressModel$Setting", "s", "LScholarsPressModel$Source;", false)
  | 2 => ("ScholarsPressModel$Setting", "letters", "LScholarsPressModel$Letters;", false)
  | 3 => ("ScholarsPressModel$Setting", "parting", "LScholarsPressModel$Parting;", false)
  | 4 => ("ScholarsPressModel$Setting", "bytes", "I", false)
  | 5 => ("ScholarsPressModel$Setting", "b", "[B", true)
  | 6 => ("ScholarsPressModel$Setting", "size", "[I", true)
  | 7 => ("ScholarsPressModel$Setting", "seq", "[I", true)
  | 8 => ("ScholarsPressModel$Setting", "seqs", "I", false)
  | 9 => ("ScholarsPressModel$Setting", "paragraphs", "I", false)
  | 10 => ("ScholarsPressModel$Setting", "from", "[I", true)
  | 11 => ("ScholarsPressModel$Setting", "to", "[I", true)
  | 12 => ("ScholarsPressModel$Setting", "owner", "[I", true)
  | 13 => ("ScholarsPressModel$Setting", "kind", "[I", true)
  | 14 => ("ScholarsPressModel$Setting", "left", "[I", true)
  | 15 => ("ScholarsPressModel$Setting", "breaks", "[I", true)
  | 16 => ("ScholarsPressModel$Setting", "breakAt", "[I", true)
  | 17 => ("ScholarsPressModel$Setting", "lines", "[I", true)
  | 18 => ("ScholarsPressModel$Setting", "lineAt", "[I", true)
  | 19 => ("ScholarsPressModel$Setting", "told", "[I", true)
  | 20 => ("ScholarsPressModel$Setting", "indent", "[I", true)
  | 21 => ("ScholarsPressModel$Setting", "width", "[J", true)
  | 22 => ("ScholarsPressModel$Setting", "cost", "[J", true)
  | 23 => ("ScholarsPressModel$Setting", "type", "[I", true)
  | 24 => ("ScholarsPressModel$Setting", "pos", "[I", true)
  | 25 => ("ScholarsPressModel$Setting", "part", "[J", true)
  | 26 => ("ScholarsPressModel$Setting", "glue", "[J", true)
  | 27 => ("ScholarsPressModel$Setting", "hyph", "[J", true)
  | 28 => ("ScholarsPressModel$Setting", "lineEnd", "[I", true)
  | 29 => ("ScholarsPressModel$Setting", "ratio", "[I", true)
  | 30 => ("ScholarsPressModel$Setting", "flows", "I", false)
  | 31 => ("ScholarsPressModel$Setting", "flowKind", "[I", true)
  | 32 => ("ScholarsPressModel$Setting", "flowOf", "[I", true)
  | 33 => ("ScholarsPressModel$Setting", "flowGap", "[I", true)
  | 34 => ("ScholarsPressModel$Setting", "cellOf", "[I", true)
  | 35 => ("ScholarsPressModel$Setting", "rowHeight", "[I", true)
  | 36 => ("ScholarsPressModel$Setting", "tableLeft", "[I", true)
  | 37 => ("ScholarsPressModel$Setting", "tableColumns", "[I", true)
  | 38 => ("ScholarsPressModel$Setting", "rowHas", "[Z", true)
  | 39 => ("ScholarsPressModel$Setting", "columnWidth", "[J", true)
  | 40 => ("ScholarsPressModel$Setting", "least", "[J", true)
  | 41 => ("ScholarsPressModel$Setting", "wish", "[J", true)
  | 42 => ("ScholarsPressModel$Setting", "count", "I", false)
  | 43 => ("ScholarsPressModel$Setting", "linePar", "[I", true)
  | 44 => ("ScholarsPressModel$Setting", "lineNo", "[I", true)
  | 45 => ("ScholarsPressModel$Setting", "lineRow", "[I", true)
  | 46 => ("ScholarsPressModel$Setting", "lineHeight", "[I", true)
  | 47 => ("ScholarsPressModel$Setting", "lineGap", "[I", true)
  | 48 => ("ScholarsPressModel$Setting", "lineNumber", "[I", true)
  | 49 => ("ScholarsPressModel$Setting", "lineColumn", "[I", true)
  | 50 => ("ScholarsPressModel$Setting", "lineFlow", "[I", true)
  | 51 => ("ScholarsPressModel$Setting", "mayEnd", "[Z", true)
  | 52 => ("ScholarsPressModel$Setting", "lineTop", "[J", true)
  | 53 => ("ScholarsPressModel$Setting", "notes", "I", false)
  | 54 => ("ScholarsPressModel$Setting", "floats", "I", false)
  | 55 => ("ScholarsPressModel$Setting", "noteOf", "[I", true)
  | 56 => ("ScholarsPressModel$Setting", "noteLine", "[I", true)
  | 57 => ("ScholarsPressModel$Setting", "notePar", "[I", true)
  | 58 => ("ScholarsPressModel$Setting", "noteColumn", "[I", true)
  | 59 => ("ScholarsPressModel$Setting", "noteFirst", "[I", true)
  | 60 => ("ScholarsPressModel$Setting", "floatOf", "[I", true)
  | 61 => ("ScholarsPressModel$Setting", "floatLine", "[I", true)
  | 62 => ("ScholarsPressModel$Setting", "floatColumn", "[I", true)
  | 63 => ("ScholarsPressModel$Setting", "noteTop", "[J", true)
  | 64 => ("ScholarsPressModel$Setting", "floatTop", "[J", true)
  | 65 => ("ScholarsPressModel$Setting", "noteNumber", "[I", true)
  | 66 => ("ScholarsPressModel$Setting", "entries", "I", false)
  | 67 => ("ScholarsPressModel$Setting", "entryFrom", "[I", true)
  | 68 => ("ScholarsPressModel$Setting", "entryTo", "[I", true)
  | 69 => ("ScholarsPressModel$Setting", "termEntry", "[I", true)
  | 70 => ("ScholarsPressModel$Setting", "entryOrder", "[I", true)
  | 71 => ("ScholarsPressModel$Setting", "entryTitle", "[Z", true)
  | 72 => ("ScholarsPressModel$Setting", "titles", "[B", true)
  | 73 => ("ScholarsPressModel$Setting", "titled", "I", false)
  | 74 => ("ScholarsPressModel$Setting", "pages", "[I", true)
  | 75 => ("ScholarsPressModel$Setting", "seqBegin", "[I", true)
  | 76 => ("ScholarsPressModel$Setting", "seqEnd", "[I", true)
  | 77 => ("ScholarsPressModel$Setting", "beginLine", "[I", true)
  | 78 => ("ScholarsPressModel$Setting", "endLine", "[I", true)
  | 79 => ("ScholarsPressModel$Setting", "lineOfSeq", "[I", true)
  | 80 => ("ScholarsPressModel$Setting", "page", "[I", true)
  | 81 => ("ScholarsPressModel$Setting", "first", "[I", true)
  | 82 => ("ScholarsPressModel$Setting", "last", "[I", true)
  | 83 => ("ScholarsPressModel$Setting", "newPage", "[I", true)
  | 84 => ("ScholarsPressModel$Setting", "newFirst", "[I", true)
  | 85 => ("ScholarsPressModel$Setting", "newLast", "[I", true)
  | 86 => ("ScholarsPressModel$Setting", "use", "[I", true)
  | 87 => ("ScholarsPressModel$Setting", "useOf", "[I", true)
  | 88 => ("ScholarsPressModel$Setting", "pieces", "I", false)
  | 89 => ("ScholarsPressModel$Setting", "pieceNote", "[I", true)
  | 90 => ("ScholarsPressModel$Setting", "pieceFrom", "[I", true)
  | 91 => ("ScholarsPressModel$Setting", "pieceTo", "[I", true)
  | 92 => ("ScholarsPressModel$Setting", "pieceColumn", "[I", true)
  | 93 => ("ScholarsPressModel$Setting", "pieceTop", "[J", true)
  | 94 => ("ScholarsPressModel$Setting", "columns", "I", false)
  | 95 => ("ScholarsPressModel$Setting", "pagesInAll", "I", false)
  | 96 => ("ScholarsPressModel$Setting", "wavering", "I", false)
  | 97 => ("ScholarsPressModel$Setting", "fresh", "I", false)
  | 98 => ("ScholarsPressModel$Setting", "rounds", "I", false)
  | 99 => ("ScholarsPressModel$Setting", "wavers", "[Z", true)
  | 100 => ("ScholarsPressModel$Setting", "parFrom", "I", false)
  | 101 => ("ScholarsPressModel$Setting", "blankSize", "I", false)
  | 102 => ("ScholarsPressModel$Setting", "marks", "[Z", true)
  | 103 => ("ScholarsPressModel$Setting", "gap", "I", false)
  | 104 => ("ScholarsPressModel$Setting", "sumPart", "[J", true)
  | 105 => ("ScholarsPressModel$Setting", "sumGlue", "[J", true)
  | 106 => ("ScholarsPressModel$Setting", "sumStretch", "[J", true)
  | 107 => ("ScholarsPressModel$Setting", "sumShrink", "[J", true)
  | 108 => ("ScholarsPressModel$Setting", "best", "[J", true)
  | 109 => ("ScholarsPressModel$Setting", "reached", "[Z", true)
  | 110 => ("ScholarsPressModel$Setting", "bestFrom", "[I", true)
  | 111 => ("ScholarsPressModel$Setting", "bestClass", "[I", true)
  | 112 => ("ScholarsPressModel$Setting", "n", "J", false)
  | 113 => ("ScholarsPressModel$Setting", "l", "J", false)
  | 114 => ("ScholarsPressModel$Setting", "a", "J", false)
  | 115 => ("ScholarsPressModel$Setting", "z", "J", false)
  | 116 => ("ScholarsPressModel$Setting", "itsCost", "J", false)
  | 117 => ("ScholarsPressModel$Setting", "\x72", "I", false)
  | 118 => ("ScholarsPressModel$Setting", "bad", "I", false)
  | 119 => ("ScholarsPressModel$Setting", "itsClass", "I", false)
  | 120 => ("ScholarsPressModel$Setting", "tooLong", "Z", false)
  | 121 => ("ScholarsPressModel$Setting", "parLine", "[I", true)
  | 122 => ("ScholarsPressModel$Setting", "high", "[J", true)
  | 123 => ("ScholarsPressModel$Setting", "notesTo", "[I", true)
  | 124 => ("ScholarsPressModel$Setting", "floatsTo", "[I", true)
  | 125 => ("ScholarsPressModel$Setting", "head", "[I", true)
  | 126 => ("ScholarsPressModel$Setting", "states", "I", false)
  | 127 => ("ScholarsPressModel$Setting", "stateLine", "[I", false)
  | 128 => ("ScholarsPressModel$Setting", "stateFloat", "[I", false)
  | 129 => ("ScholarsPressModel$Setting", "stateRest", "[I", false)
  | 130 => ("ScholarsPressModel$Setting", "statePrev", "[I", false)
  | 131 => ("ScholarsPressModel$Setting", "stateNext", "[I", false)
  | 132 => ("ScholarsPressModel$Setting", "stateCost", "[J", false)
  | 133 => ("ScholarsPressModel$Setting", "toFloat", "I", false)
  | 134 => ("ScholarsPressModel$Setting", "toRest", "I", false)
  | 135 => ("ScholarsPressModel$Setting", "placedRest", "I", false)
  | 136 => ("ScholarsPressModel$Setting", "placedLast", "I", false)
  | 137 => ("ScholarsPressModel$Setting", "filled", "J", false)
  | 138 => ("ScholarsPressModel$Setting", "way", "[I", true)
  | 139 => ("ScholarsPressModel$Setting", "spans", "[Z", true)
  | _ => ("ScholarsPressModel$Setting", "newSpans", "[Z", true)
def tyX25 : Nat → FieldType := fun k => match k with
  | 0 => .object "ScholarsPressModel$Tree"
  | 1 => .object "ScholarsPressModel$Source"
  | 2 => .object "ScholarsPressModel$Letters"
  | 3 => .object "ScholarsPressModel$Parting"
  | 4 => .int
  | 5 => .array .byte
  | 6 => .array .int
  | 7 => .array .int
  | 8 => .int
  | 9 => .int
  | 10 => .array .int
  | 11 => .array .int
  | 12 => .array .int
  | 13 => .array .int
  | 14 => .array .int
  | 15 => .array .int
  | 16 => .array .int
  | 17 => .array .int
  | 18 => .array .int
  | 19 => .array .int
  | 20 => .array .int
  | 21 => .array .long
  | 22 => .array .long
  | 23 => .array .int
  | 24 => .array .int
  | 25 => .array .long
  | 26 => .array .long
  | 27 => .array .long
  | 28 => .array .int
  | 29 => .array .int
  | 30 => .int
  | 31 => .array .int
  | 32 => .array .int
  | 33 => .array .int
  | 34 => .array .int
  | 35 => .array .int
  | 36 => .array .int
  | 37 => .array .int
  | 38 => .array .boolean
  | 39 => .array .long
  | 40 => .array .long
  | 41 => .array .long
  | 42 => .int
  | 43 => .array .int
  | 44 => .array .int
  | 45 => .array .int
  | 46 => .array .int
  | 47 => .array .int
  | 48 => .array .int
  | 49 => .array .int
  | 50 => .array .int
  | 51 => .array .boolean
  | 52 => .array .long
  | 53 => .int
  | 54 => .int
  | 55 => .array .int
  | 56 => .array .int
  | 57 => .array .int
  | 58 => .array .int
  | 59 => .array .int
  | 60 => .array .int
  | 61 => .array .int
  | 62 => .array .int
  | 63 => .array .long
  | 64 => .array .long
  | 65 => .array .int
  | 66 => .int
  | 67 => .array .int
  | 68 => .array .int
  | 69 => .array .int
  | 70 => .array .int
  | 71 => .array .boolean
  | 72 => .array .byte
  | 73 => .int
  | 74 => .array .int
  | 75 => .array .int
  | 76 => .array .int
  | 77 => .array .int
  | 78 => .array .int
  | 79 => .array .int
  | 80 => .array .int
  | 81 => .array .int
  | 82 => .array .int
  | 83 => .array .int
  | 84 => .array .int
  | 85 => .array .int
  | 86 => .array .int
  | 87 => .array .int
  | 88 => .int
  | 89 => .array .int
  | 90 => .array .int
  | 91 => .array .int
  | 92 => .array .int
  | 93 => .array .long
  | 94 => .int
  | 95 => .int
  | 96 => .int
  | 97 => .int
  | 98 => .int
  | 99 => .array .boolean
  | 100 => .int
  | 101 => .int
  | 102 => .array .boolean
  | 103 => .int
  | 104 => .array .long
  | 105 => .array .long
  | 106 => .array .long
  | 107 => .array .long
  | 108 => .array .long
  | 109 => .array .boolean
  | 110 => .array .int
  | 111 => .array .int
  | 112 => .long
  | 113 => .long
  | 114 => .long
  | 115 => .long
  | 116 => .long
  | 117 => .int
  | 118 => .int
  | 119 => .int
  | 120 => .boolean
  | 121 => .array .int
  | 122 => .array .long
  | 123 => .array .int
  | 124 => .array .int
  | 125 => .array .int
  | 126 => .int
  | 127 => .array .int
  | 128 => .array .int
  | 129 => .array .int
  | 130 => .array .int
  | 131 => .array .int
  | 132 => .array .long
  | 133 => .int
  | 134 => .int
  | 135 => .int
  | 136 => .int
  | 137 => .long
  | 138 => .array .int
  | 139 => .array .boolean
  | _ => .array .boolean
abbrev wsX250 : List Cond := u_ws RX25 TX25 141
theorem nmX25 : ∀ a, a < 141 → ∀ b, b < 141 → a ≠ b → (TX25 a).2.1 ≠ (TX25 b).2.1 := by decide +kernel
theorem tyX25_ok : ∀ k, k < 141 → parseFieldDescriptor (TX25 k).2.2.1 = some (tyX25 k) := by decide +kernel
abbrev cX25_init : ByteArray := prog_26_method_1_code
def yX25_init : MethodName := ⟨RX25, "<init>", "()V"⟩
abbrev cX25_make : ByteArray := prog_26_method_2_code
def yX25_make : MethodName := ⟨RX25, "make", "(LScholarsPressModel$Source;LScholarsPressModel$Style;LScholarsPressModel$Letters;LScholarsPressModel$Parting;I)I"⟩
abbrev cX25_findEntries : ByteArray := prog_26_method_9_code
def yX25_findEntries : MethodName := ⟨RX25, "findEntries", "()V"⟩
abbrev cX25_entryLong : ByteArray := prog_26_method_6_code
def yX25_entryLong : MethodName := ⟨RX25, "entryLong", "(I)I"⟩
abbrev cX25_sameEntry : ByteArray := prog_26_method_7_code
def yX25_sameEntry : MethodName := ⟨RX25, "sameEntry", "(II)Z"⟩
abbrev cX25_entryByte : ByteArray := prog_26_method_5_code
def yX25_entryByte : MethodName := ⟨RX25, "entryByte", "(II)I"⟩
abbrev cX25_isBefore : ByteArray := prog_26_method_8_code
def yX25_isBefore : MethodName := ⟨RX25, "isBefore", "(II)Z"⟩
abbrev cX25_round : ByteArray := prog_26_method_3_code
def yX25_round : MethodName := ⟨RX25, "round", "()V"⟩
abbrev cX25_build : ByteArray := prog_26_method_26_code
def yX25_build : MethodName := ⟨RX25, "build", "()V"⟩
abbrev cX25_begin : ByteArray := prog_26_method_11_code
def yX25_begin : MethodName := ⟨RX25, "begin", "()V"⟩
abbrev cX25_opens : ByteArray := prog_26_method_27_code
def yX25_opens : MethodName := ⟨RX25, "opens", "(I)Z"⟩
abbrev cX25_blockOf : ByteArray := prog_26_method_18_code
def yX25_blockOf : MethodName := ⟨RX25, "blockOf", "(I)I"⟩
abbrev cX25_flowEnds : ByteArray := prog_26_method_17_code
def yX25_flowEnds : MethodName := ⟨RX25, "flowEnds", "(I)V"⟩
abbrev cX25_leftOf : ByteArray := prog_26_method_14_code
def yX25_leftOf : MethodName := ⟨RX25, "leftOf", "(I)I"⟩
abbrev cX25_widthOf : ByteArray := prog_26_method_15_code
def yX25_widthOf : MethodName := ⟨RX25, "widthOf", "(II)J"⟩
abbrev cX25_ended : ByteArray := prog_26_method_13_code
def yX25_ended : MethodName := ⟨RX25, "ended", "(IIIJ)I"⟩
abbrev cX25_addFlow : ByteArray := prog_26_method_16_code
def yX25_addFlow : MethodName := ⟨RX25, "addFlow", "(II)V"⟩
abbrev cX25_contents : ByteArray := prog_26_method_29_code
def yX25_contents : MethodName := ⟨RX25, "contents", "(I)V"⟩
abbrev cX25_emit : ByteArray := prog_26_method_12_code
def yX25_emit : MethodName := ⟨RX25, "emit", "(IIZ)V"⟩
abbrev cX25_add : ByteArray := prog_26_method_10_code
def yX25_add : MethodName := ⟨RX25, "add", "(III)V"⟩
abbrev cX25_digits : ByteArray := prog_26_method_20_code
def yX25_digits : MethodName := ⟨RX25, "digits", "(IIZ)V"⟩
abbrev cX25_index : ByteArray := prog_26_method_30_code
def yX25_index : MethodName := ⟨RX25, "index", "(I)V"⟩
abbrev cX25_pagesOf : ByteArray := prog_26_method_31_code
def yX25_pagesOf : MethodName := ⟨RX25, "pagesOf", "(I)I"⟩
abbrev cX25_label : ByteArray := prog_26_method_19_code
def yX25_label : MethodName := ⟨RX25, "label", "(IZ)V"⟩
abbrev cX25_reference : ByteArray := prog_26_method_25_code
def yX25_reference : MethodName := ⟨RX25, "reference", "(IZ)V"⟩
abbrev cX25_target : ByteArray := prog_26_method_22_code
def yX25_target : MethodName := ⟨RX25, "target", "(ILjava/lang/String;)I"⟩
abbrev cX25_unknown : ByteArray := prog_26_method_23_code
def yX25_unknown : MethodName := ⟨RX25, "unknown", "(IZ)V"⟩
abbrev cX25_says : ByteArray := prog_26_method_24_code
def yX25_says : MethodName := ⟨RX25, "says", "(ILjava/lang/String;)Z"⟩
abbrev cX25_closes : ByteArray := prog_26_method_28_code
def yX25_closes : MethodName := ⟨RX25, "closes", "(I)V"⟩
abbrev cX25_text : ByteArray := prog_26_method_21_code
def yX25_text : MethodName := ⟨RX25, "text", "(IIZ)V"⟩
abbrev cX25_note : ByteArray := prog_26_method_32_code
def yX25_note : MethodName := ⟨RX25, "note", "(I)V"⟩
abbrev cX25_part : ByteArray := prog_26_method_35_code
def yX25_part : MethodName := ⟨RX25, "part", "(I)V"⟩
abbrev cX25_breaksAt : ByteArray := prog_26_method_34_code
def yX25_breaksAt : MethodName := ⟨RX25, "breaksAt", "(IIIII)V"⟩
abbrev cX25_wide : ByteArray := prog_26_method_33_code
def yX25_wide : MethodName := ⟨RX25, "wide", "(II)J"⟩
abbrev cX25_breakAt : ByteArray := prog_26_method_4_code
def yX25_breakAt : MethodName := ⟨RX25, "breakAt", "(I)I"⟩
abbrev cX25_tables : ByteArray := prog_26_method_36_code
def yX25_tables : MethodName := ⟨RX25, "tables", "()V"⟩
abbrev cX25_table : ByteArray := prog_26_method_37_code
def yX25_table : MethodName := ⟨RX25, "table", "(I)V"⟩
abbrev cX25_breakUp : ByteArray := prog_26_method_46_code
def yX25_breakUp : MethodName := ⟨RX25, "breakUp", "(I)V"⟩
abbrev cX25_sums : ByteArray := prog_26_method_38_code
def yX25_sums : MethodName := ⟨RX25, "sums", "(I)V"⟩
abbrev cX25_tryAll : ByteArray := prog_26_method_45_code
def yX25_tryAll : MethodName := ⟨RX25, "tryAll", "(II)Z"⟩
abbrev cX25_measure : ByteArray := prog_26_method_42_code
def yX25_measure : MethodName := ⟨RX25, "measure", "(III)V"⟩
abbrev cX25_typeOf : ByteArray := prog_26_method_39_code
def yX25_typeOf : MethodName := ⟨RX25, "typeOf", "(II)I"⟩
abbrev cX25_lineWidth : ByteArray := prog_26_method_41_code
def yX25_lineWidth : MethodName := ⟨RX25, "lineWidth", "(IZ)J"⟩
abbrev cX25_isParted : ByteArray := prog_26_method_40_code
def yX25_isParted : MethodName := ⟨RX25, "isParted", "(II)Z"⟩
abbrev cX25_isAllowed : ByteArray := prog_26_method_44_code
def yX25_isAllowed : MethodName := ⟨RX25, "isAllowed", "(I)Z"⟩
abbrev cX25_comesFirst : ByteArray := prog_26_method_43_code
def yX25_comesFirst : MethodName := ⟨RX25, "comesFirst", "(IIII)Z"⟩
abbrev cX25_flow : ByteArray := prog_26_method_56_code
def yX25_flow : MethodName := ⟨RX25, "flow", "()V"⟩
abbrev cX25_addLine : ByteArray := prog_26_method_55_code
def yX25_addLine : MethodName := ⟨RX25, "addLine", "(IIIIIZ)V"⟩
abbrev cX25_findLines : ByteArray := prog_26_method_57_code
def yX25_findLines : MethodName := ⟨RX25, "findLines", "()V"⟩
abbrev cX25_byteTo : ByteArray := prog_26_method_53_code
def yX25_byteTo : MethodName := ⟨RX25, "byteTo", "(II)I"⟩
abbrev cX25_layOut : ByteArray := prog_26_method_66_code
def yX25_layOut : MethodName := ⟨RX25, "layOut", "()V"⟩
abbrev cX25_state : ByteArray := prog_26_method_62_code
def yX25_state : MethodName := ⟨RX25, "state", "(IIIJI)I"⟩
abbrev cX25_longer : ByteArray := prog_26_method_61_code
def yX25_longer : MethodName := ⟨RX25, "longer", "([I)[I"⟩
abbrev cX25_fits : ByteArray := prog_26_method_63_code
def yX25_fits : MethodName := ⟨RX25, "fits", "(II)Z"⟩
abbrev cX25_leadOf : ByteArray := prog_26_method_58_code
def yX25_leadOf : MethodName := ⟨RX25, "leadOf", "(I)I"⟩
abbrev cX25_linesOf : ByteArray := prog_26_method_59_code
def yX25_linesOf : MethodName := ⟨RX25, "linesOf", "(I)I"⟩
abbrev cX25_floatHigh : ByteArray := prog_26_method_60_code
def yX25_floatHigh : MethodName := ⟨RX25, "floatHigh", "(I)J"⟩
abbrev cX25_endsHyphen : ByteArray := prog_26_method_54_code
def yX25_endsHyphen : MethodName := ⟨RX25, "endsHyphen", "(II)Z"⟩
abbrev cX25_relax : ByteArray := prog_26_method_65_code
def yX25_relax : MethodName := ⟨RX25, "relax", "(IIJ)V"⟩
abbrev cX25_columnsFirst : ByteArray := prog_26_method_64_code
def yX25_columnsFirst : MethodName := ⟨RX25, "columnsFirst", "(II)Z"⟩
abbrev cX25_place : ByteArray := prog_26_method_70_code
def yX25_place : MethodName := ⟨RX25, "place", "(I)V"⟩
abbrev cX25_piece : ByteArray := prog_26_method_67_code
def yX25_piece : MethodName := ⟨RX25, "piece", "(III)V"⟩
abbrev cX25_foot : ByteArray := prog_26_method_68_code
def yX25_foot : MethodName := ⟨RX25, "foot", "(I)V"⟩
abbrev cX25_next : ByteArray := prog_26_method_69_code
def yX25_next : MethodName := ⟨RX25, "next", "()V"⟩
abbrev cX25_number : ByteArray := prog_26_method_72_code
def yX25_number : MethodName := ⟨RX25, "number", "()V"⟩
abbrev cX25_pageOf : ByteArray := prog_26_method_71_code
def yX25_pageOf : MethodName := ⟨RX25, "pageOf", "(I)I"⟩
abbrev cX25_findWavering : ByteArray := prog_26_method_73_code
def yX25_findWavering : MethodName := ⟨RX25, "findWavering", "()V"⟩
abbrev cX25_compare : ByteArray := prog_26_method_75_code
def yX25_compare : MethodName := ⟨RX25, "compare", "(LScholarsPressModel$Setting;Z)V"⟩
abbrev cX25_samePar : ByteArray := prog_26_method_74_code
def yX25_samePar : MethodName := ⟨RX25, "samePar", "(ILScholarsPressModel$Setting;I)Z"⟩
abbrev cX25_beginsAt : ByteArray := prog_26_method_49_code
def yX25_beginsAt : MethodName := ⟨RX25, "beginsAt", "(II)J"⟩
abbrev cX25_lineStart : ByteArray := prog_26_method_48_code
def yX25_lineStart : MethodName := ⟨RX25, "lineStart", "(II)I"⟩
abbrev cX25_words : ByteArray := prog_26_method_51_code
def yX25_words : MethodName := ⟨RX25, "words", "(II)I"⟩
abbrev cX25_spot : ByteArray := prog_26_method_50_code
def yX25_spot : MethodName := ⟨RX25, "spot", "(III)J"⟩
abbrev cX25_judge : ByteArray := prog_26_method_47_code
def yX25_judge : MethodName := ⟨RX25, "judge", "(I[II)J"⟩
abbrev cX25_headOf : ByteArray := prog_26_method_76_code
def yX25_headOf : MethodName := ⟨RX25, "headOf", "(I)I"⟩
abbrev cX25_byteFrom : ByteArray := prog_26_method_52_code
def yX25_byteFrom : MethodName := ⟨RX25, "byteFrom", "(II)I"⟩
theorem q379 : (Jvm.Cond.initialized "ScholarsPressModel$Setting") ∈ lw_all := lw_g (lw_at lw_m1 25 rfl) rfl
theorem q3311 : (Jvm.Cond.fieldLink "ScholarsPressModel$Setting" (672 : Nat) "ScholarsPressModel$Letters" "width" "[I") ∈ lw_all := lw_g (lw_at lw_m13 77 rfl) rfl
theorem q3517 : (Jvm.Cond.fieldLink "ScholarsPressModel$Setting" (399 : Nat) "ScholarsPressModel$Source" "text" "[B") ∈ lw_all := lw_g (lw_at lw_m14 43 rfl) rfl
theorem q3524 : (Jvm.Cond.fieldLink "ScholarsPressModel$Setting" (598 : Nat) "ScholarsPressModel$Source" "items" "I") ∈ lw_all := lw_g (lw_at lw_m14 50 rfl) rfl
theorem q3526 : (Jvm.Cond.fieldLink "ScholarsPressModel$Setting" (351 : Nat) "ScholarsPressModel$Source" "elements" "I") ∈ lw_all := lw_g (lw_at lw_m14 52 rfl) rfl
theorem q3535 : (Jvm.Cond.fieldLink "ScholarsPressModel$Setting" (541 : Nat) "ScholarsPressModel$Source" "item" "[I") ∈ lw_all := lw_g (lw_at lw_m14 61 rfl) rfl
theorem q3538 : (Jvm.Cond.fieldLink "ScholarsPressModel$Setting" (544 : Nat) "ScholarsPressModel$Source" "itemA" "[I") ∈ lw_all := lw_g (lw_at lw_m14 64 rfl) rfl
theorem q3540 : (Jvm.Cond.fieldLink "ScholarsPressModel$Setting" (547 : Nat) "ScholarsPressModel$Source" "itemB" "[I") ∈ lw_all := lw_g (lw_at lw_m14 66 rfl) rfl
theorem q3548 : (Jvm.Cond.fieldLink "ScholarsPressModel$Setting" (486 : Nat) "ScholarsPressModel$Source" "parent" "[I") ∈ lw_all := lw_g (lw_at lw_m14 74 rfl) rfl
theorem q3558 : (Jvm.Cond.fieldLink "ScholarsPressModel$Setting" (656 : Nat) "ScholarsPressModel$Source" "begin" "[I") ∈ lw_all := lw_g (lw_at lw_m14 84 rfl) rfl
theorem q3561 : (Jvm.Cond.fieldLink "ScholarsPressModel$Setting" (604 : Nat) "ScholarsPressModel$Source" "end" "[I") ∈ lw_all := lw_g (lw_at lw_m14 87 rfl) rfl
theorem q3566 : (Jvm.Cond.fieldLink "ScholarsPressModel$Setting" (435 : Nat) "ScholarsPressModel$Source" "string" "[I") ∈ lw_all := lw_g (lw_at lw_m14 92 rfl) rfl
theorem q3569 : (Jvm.Cond.fieldLink "ScholarsPressModel$Setting" (438 : Nat) "ScholarsPressModel$Source" "stringEnd" "[I") ∈ lw_all := lw_g (lw_at lw_m14 95 rfl) rfl
theorem q3643 : (Jvm.Cond.fieldLink "ScholarsPressModel$Setting" (338 : Nat) "ScholarsPressModel$Tree" "s" "LScholarsPressModel$Source;") ∈ lw_all := lw_g (lw_at lw_m14 169 rfl) rfl
theorem q3645 : (Jvm.Cond.fieldLink "ScholarsPressModel$Setting" (528 : Nat) "ScholarsPressModel$Tree" "styleText" "[B") ∈ lw_all := lw_g (lw_at lw_m14 171 rfl) rfl
theorem q3647 : (Jvm.Cond.fieldLink "ScholarsPressModel$Setting" (489 : Nat) "ScholarsPressModel$Tree" "page" "[I") ∈ lw_all := lw_g (lw_at lw_m14 173 rfl) rfl
theorem q3651 : (Jvm.Cond.fieldLink "ScholarsPressModel$Setting" (522 : Nat) "ScholarsPressModel$Tree" "label" "[I") ∈ lw_all := lw_g (lw_at lw_m14 177 rfl) rfl
theorem q3653 : (Jvm.Cond.fieldLink "ScholarsPressModel$Setting" (525 : Nat) "ScholarsPressModel$Tree" "labelEnd" "[I") ∈ lw_all := lw_g (lw_at lw_m14 179 rfl) rfl
theorem q3655 : (Jvm.Cond.fieldLink "ScholarsPressModel$Setting" (516 : Nat) "ScholarsPressModel$Tree" "value" "[I") ∈ lw_all := lw_g (lw_at lw_m14 181 rfl) rfl
theorem q3659 : (Jvm.Cond.fieldLink "ScholarsPressModel$Setting" (692 : Nat) "ScholarsPressModel$Tree" "cellsIn" "[I") ∈ lw_all := lw_g (lw_at lw_m14 185 rfl) rfl
theorem q3661 : (Jvm.Cond.fieldLink "ScholarsPressModel$Setting" (649 : Nat) "ScholarsPressModel$Tree" "cellNo" "[I") ∈ lw_all := lw_g (lw_at lw_m14 187 rfl) rfl
theorem q3664 : (Jvm.Cond.fieldLink "ScholarsPressModel$Setting" (601 : Nat) "ScholarsPressModel$Tree" "shown" "[Z") ∈ lw_all := lw_g (lw_at lw_m14 190 rfl) rfl
theorem q3666 : (Jvm.Cond.fieldLink "ScholarsPressModel$Setting" (423 : Nat) "ScholarsPressModel$Tree" "inFlow" "[Z") ∈ lw_all := lw_g (lw_at lw_m14 192 rfl) rfl
theorem q3669 : (Jvm.Cond.fieldLink "ScholarsPressModel$Setting" (641 : Nat) "ScholarsPressModel$Tree" "note" "[Z") ∈ lw_all := lw_g (lw_at lw_m14 195 rfl) rfl
theorem q3671 : (Jvm.Cond.fieldLink "ScholarsPressModel$Setting" (483 : Nat) "ScholarsPressModel$Tree" "block" "[Z") ∈ lw_all := lw_g (lw_at lw_m14 197 rfl) rfl
theorem q3673 : (Jvm.Cond.fieldLink "ScholarsPressModel$Setting" (646 : Nat) "ScholarsPressModel$Tree" "table" "[Z") ∈ lw_all := lw_g (lw_at lw_m14 199 rfl) rfl
theorem q3675 : (Jvm.Cond.fieldLink "ScholarsPressModel$Setting" (635 : Nat) "ScholarsPressModel$Tree" "row" "[Z") ∈ lw_all := lw_g (lw_at lw_m14 201 rfl) rfl
theorem q3677 : (Jvm.Cond.fieldLink "ScholarsPressModel$Setting" (638 : Nat) "ScholarsPressModel$Tree" "cell" "[Z") ∈ lw_all := lw_g (lw_at lw_m14 203 rfl) rfl
theorem q3754 : (Jvm.Cond.instantiable "ScholarsPressModel$Setting" (141 : Nat)) ∈ lw_all := lw_g (lw_at lw_m15 40 rfl) rfl
theorem q3756 : (Jvm.Cond.instanceMethod ({ cls := "ScholarsPressModel$Setting", name := "<init>", desc := "()V" } : Jvm.MethodName)) ∈ lw_all := lw_g (lw_at lw_m15 42 rfl) rfl
theorem q3757 : (Jvm.Cond.code ({ cls := "ScholarsPressModel$Setting", name := "<init>", desc := "()V" } : Jvm.MethodName) prog_26_method_1_code (1 : Nat) (Option.none : Option Jvm.ClassFile.FieldType)) ∈ lw_all := lw_g (lw_at lw_m15 43 rfl) rfl
theorem q3758 : (Jvm.Cond.methodLink "ScholarsPressModel$Setting" (5 : Nat) ({ cls := "java/lang/Object", name := "<init>", desc := "()V" } : Jvm.MethodName)) ∈ lw_all := lw_g (lw_at lw_m15 44 rfl) rfl
theorem q3759 : (Jvm.Cond.classLink "ScholarsPressModel$Setting" (11 : Nat) "ScholarsPressModel$Tree") ∈ lw_all := lw_g (lw_at lw_m15 45 rfl) rfl
theorem q3760 : (Jvm.Cond.methodLinkNest "ScholarsPressModel$Setting" (13 : Nat) ({ cls := "ScholarsPressModel$Tree", name := "<init>", desc := "()V" } : Jvm.MethodName) "ScholarsPressModel") ∈ lw_tbl := lw_at lw_m15 46 rfl
theorem q3761 : (Jvm.Cond.fieldLink "ScholarsPressModel$Setting" (14 : Nat) "ScholarsPressModel$Setting" "tree" "LScholarsPressModel$Tree;") ∈ lw_all := lw_g (lw_at lw_m15 47 rfl) rfl
theorem q3763 : (Jvm.Cond.fieldLink "ScholarsPressModel$Setting" (342 : Nat) "ScholarsPressModel$Setting" "s" "LScholarsPressModel$Source;") ∈ lw_all := lw_g (lw_at lw_m15 49 rfl) rfl
theorem q3765 : (Jvm.Cond.fieldLink "ScholarsPressModel$Setting" (343 : Nat) "ScholarsPressModel$Setting" "letters" "LScholarsPressModel$Letters;") ∈ lw_all := lw_g (lw_at lw_m15 51 rfl) rfl
theorem q3766 : (Jvm.Cond.fieldLink "ScholarsPressModel$Setting" (347 : Nat) "ScholarsPressModel$Setting" "parting" "LScholarsPressModel$Parting;") ∈ lw_all := lw_g (lw_at lw_m15 52 rfl) rfl
theorem q3767 : (Jvm.Cond.fieldLink "ScholarsPressModel$Setting" (457 : Nat) "ScholarsPressModel$Setting" "bytes" "I") ∈ lw_all := lw_g (lw_at lw_m15 53 rfl) rfl
theorem q3768 : (Jvm.Cond.fieldLink "ScholarsPressModel$Setting" (18 : Nat) "ScholarsPressModel$Setting" "b" "[B") ∈ lw_all := lw_g (lw_at lw_m15 54 rfl) rfl
theorem q3770 : (Jvm.Cond.fieldLink "ScholarsPressModel$Setting" (22 : Nat) "ScholarsPressModel$Setting" "size" "[I") ∈ lw_all := lw_g (lw_at lw_m15 56 rfl) rfl
theorem q3771 : (Jvm.Cond.fieldLink "ScholarsPressModel$Setting" (26 : Nat) "ScholarsPressModel$Setting" "seq" "[I") ∈ lw_all := lw_g (lw_at lw_m15 57 rfl) rfl
theorem q3772 : (Jvm.Cond.fieldLink "ScholarsPressModel$Setting" (474 : Nat) "ScholarsPressModel$Setting" "seqs" "I") ∈ lw_all := lw_g (lw_at lw_m15 58 rfl) rfl
theorem q3773 : (Jvm.Cond.fieldLink "ScholarsPressModel$Setting" (372 : Nat) "ScholarsPressModel$Setting" "paragraphs" "I") ∈ lw_all := lw_g (lw_at lw_m15 59 rfl) rfl
theorem q3775 : (Jvm.Cond.fieldLink "ScholarsPressModel$Setting" (29 : Nat) "ScholarsPressModel$Setting" "from" "[I") ∈ lw_all := lw_g (lw_at lw_m15 61 rfl) rfl
theorem q3777 : (Jvm.Cond.fieldLink "ScholarsPressModel$Setting" (32 : Nat) "ScholarsPressModel$Setting" "to" "[I") ∈ lw_all := lw_g (lw_at lw_m15 63 rfl) rfl
theorem q3779 : (Jvm.Cond.fieldLink "ScholarsPressModel$Setting" (35 : Nat) "ScholarsPressModel$Setting" "owner" "[I") ∈ lw_all := lw_g (lw_at lw_m15 65 rfl) rfl
theorem q3781 : (Jvm.Cond.fieldLink "ScholarsPressModel$Setting" (38 : Nat) "ScholarsPressModel$Setting" "kind" "[I") ∈ lw_all := lw_g (lw_at lw_m15 67 rfl) rfl
theorem q3782 : (Jvm.Cond.fieldLink "ScholarsPressModel$Setting" (41 : Nat) "ScholarsPressModel$Setting" "left" "[I") ∈ lw_all := lw_g (lw_at lw_m15 68 rfl) rfl
theorem q3783 : (Jvm.Cond.fieldLink "ScholarsPressModel$Setting" (44 : Nat) "ScholarsPressModel$Setting" "breaks" "[I") ∈ lw_all := lw_g (lw_at lw_m15 69 rfl) rfl
theorem q3785 : (Jvm.Cond.fieldLink "ScholarsPressModel$Setting" (47 : Nat) "ScholarsPressModel$Setting" "breakAt" "[I") ∈ lw_all := lw_g (lw_at lw_m15 71 rfl) rfl
theorem q3786 : (Jvm.Cond.fieldLink "ScholarsPressModel$Setting" (50 : Nat) "ScholarsPressModel$Setting" "lines" "[I") ∈ lw_all := lw_g (lw_at lw_m15 72 rfl) rfl
theorem q3788 : (Jvm.Cond.fieldLink "ScholarsPressModel$Setting" (53 : Nat) "ScholarsPressModel$Setting" "lineAt" "[I") ∈ lw_all := lw_g (lw_at lw_m15 74 rfl) rfl
theorem q3790 : (Jvm.Cond.fieldLink "ScholarsPressModel$Setting" (56 : Nat) "ScholarsPressModel$Setting" "told" "[I") ∈ lw_all := lw_g (lw_at lw_m15 76 rfl) rfl
theorem q3792 : (Jvm.Cond.fieldLink "ScholarsPressModel$Setting" (59 : Nat) "ScholarsPressModel$Setting" "indent" "[I") ∈ lw_all := lw_g (lw_at lw_m15 78 rfl) rfl
theorem q3793 : (Jvm.Cond.fieldLink "ScholarsPressModel$Setting" (62 : Nat) "ScholarsPressModel$Setting" "width" "[J") ∈ lw_all := lw_g (lw_at lw_m15 79 rfl) rfl
theorem q3795 : (Jvm.Cond.fieldLink "ScholarsPressModel$Setting" (66 : Nat) "ScholarsPressModel$Setting" "cost" "[J") ∈ lw_all := lw_g (lw_at lw_m15 81 rfl) rfl
theorem q3797 : (Jvm.Cond.fieldLink "ScholarsPressModel$Setting" (69 : Nat) "ScholarsPressModel$Setting" "type" "[I") ∈ lw_all := lw_g (lw_at lw_m15 83 rfl) rfl
theorem q3798 : (Jvm.Cond.fieldLink "ScholarsPressModel$Setting" (72 : Nat) "ScholarsPressModel$Setting" "pos" "[I") ∈ lw_all := lw_g (lw_at lw_m15 84 rfl) rfl
theorem q3799 : (Jvm.Cond.fieldLink "ScholarsPressModel$Setting" (75 : Nat) "ScholarsPressModel$Setting" "part" "[J") ∈ lw_all := lw_g (lw_at lw_m15 85 rfl) rfl
theorem q3800 : (Jvm.Cond.fieldLink "ScholarsPressModel$Setting" (78 : Nat) "ScholarsPressModel$Setting" "glue" "[J") ∈ lw_all := lw_g (lw_at lw_m15 86 rfl) rfl
theorem q3801 : (Jvm.Cond.fieldLink "ScholarsPressModel$Setting" (81 : Nat) "ScholarsPressModel$Setting" "hyph" "[J") ∈ lw_all := lw_g (lw_at lw_m15 87 rfl) rfl
theorem q3802 : (Jvm.Cond.fieldLink "ScholarsPressModel$Setting" (84 : Nat) "ScholarsPressModel$Setting" "lineEnd" "[I") ∈ lw_all := lw_g (lw_at lw_m15 88 rfl) rfl
theorem q3804 : (Jvm.Cond.fieldLink "ScholarsPressModel$Setting" (87 : Nat) "ScholarsPressModel$Setting" "ratio" "[I") ∈ lw_all := lw_g (lw_at lw_m15 90 rfl) rfl
theorem q3806 : (Jvm.Cond.fieldLink "ScholarsPressModel$Setting" (492 : Nat) "ScholarsPressModel$Setting" "flows" "I") ∈ lw_all := lw_g (lw_at lw_m15 92 rfl) rfl
theorem q3807 : (Jvm.Cond.fieldLink "ScholarsPressModel$Setting" (90 : Nat) "ScholarsPressModel$Setting" "flowKind" "[I") ∈ lw_all := lw_g (lw_at lw_m15 93 rfl) rfl
theorem q3808 : (Jvm.Cond.fieldLink "ScholarsPressModel$Setting" (93 : Nat) "ScholarsPressModel$Setting" "flowOf" "[I") ∈ lw_all := lw_g (lw_at lw_m15 94 rfl) rfl
theorem q3809 : (Jvm.Cond.fieldLink "ScholarsPressModel$Setting" (96 : Nat) "ScholarsPressModel$Setting" "flowGap" "[I") ∈ lw_all := lw_g (lw_at lw_m15 95 rfl) rfl
theorem q3810 : (Jvm.Cond.fieldLink "ScholarsPressModel$Setting" (99 : Nat) "ScholarsPressModel$Setting" "cellOf" "[I") ∈ lw_all := lw_g (lw_at lw_m15 96 rfl) rfl
theorem q3812 : (Jvm.Cond.fieldLink "ScholarsPressModel$Setting" (102 : Nat) "ScholarsPressModel$Setting" "rowHeight" "[I") ∈ lw_all := lw_g (lw_at lw_m15 98 rfl) rfl
theorem q3813 : (Jvm.Cond.fieldLink "ScholarsPressModel$Setting" (105 : Nat) "ScholarsPressModel$Setting" "tableLeft" "[I") ∈ lw_all := lw_g (lw_at lw_m15 99 rfl) rfl
theorem q3815 : (Jvm.Cond.fieldLink "ScholarsPressModel$Setting" (108 : Nat) "ScholarsPressModel$Setting" "tableColumns" "[I") ∈ lw_all := lw_g (lw_at lw_m15 101 rfl) rfl
theorem q3816 : (Jvm.Cond.fieldLink "ScholarsPressModel$Setting" (111 : Nat) "ScholarsPressModel$Setting" "rowHas" "[Z") ∈ lw_all := lw_g (lw_at lw_m15 102 rfl) rfl
theorem q3817 : (Jvm.Cond.fieldLink "ScholarsPressModel$Setting" (115 : Nat) "ScholarsPressModel$Setting" "columnWidth" "[J") ∈ lw_all := lw_g (lw_at lw_m15 103 rfl) rfl
theorem q3818 : (Jvm.Cond.fieldLink "ScholarsPressModel$Setting" (118 : Nat) "ScholarsPressModel$Setting" "least" "[J") ∈ lw_all := lw_g (lw_at lw_m15 104 rfl) rfl
theorem q3819 : (Jvm.Cond.fieldLink "ScholarsPressModel$Setting" (121 : Nat) "ScholarsPressModel$Setting" "wish" "[J") ∈ lw_all := lw_g (lw_at lw_m15 105 rfl) rfl
theorem q3821 : (Jvm.Cond.fieldLink "ScholarsPressModel$Setting" (783 : Nat) "ScholarsPressModel$Setting" "count" "I") ∈ lw_all := lw_g (lw_at lw_m15 107 rfl) rfl
theorem q3822 : (Jvm.Cond.fieldLink "ScholarsPressModel$Setting" (124 : Nat) "ScholarsPressModel$Setting" "linePar" "[I") ∈ lw_all := lw_g (lw_at lw_m15 108 rfl) rfl
theorem q3824 : (Jvm.Cond.fieldLink "ScholarsPressModel$Setting" (127 : Nat) "ScholarsPressModel$Setting" "lineNo" "[I") ∈ lw_all := lw_g (lw_at lw_m15 110 rfl) rfl
theorem q3826 : (Jvm.Cond.fieldLink "ScholarsPressModel$Setting" (130 : Nat) "ScholarsPressModel$Setting" "lineRow" "[I") ∈ lw_all := lw_g (lw_at lw_m15 112 rfl) rfl
theorem q3828 : (Jvm.Cond.fieldLink "ScholarsPressModel$Setting" (133 : Nat) "ScholarsPressModel$Setting" "lineHeight" "[I") ∈ lw_all := lw_g (lw_at lw_m15 114 rfl) rfl
theorem q3829 : (Jvm.Cond.fieldLink "ScholarsPressModel$Setting" (136 : Nat) "ScholarsPressModel$Setting" "lineGap" "[I") ∈ lw_all := lw_g (lw_at lw_m15 115 rfl) rfl
theorem q3830 : (Jvm.Cond.fieldLink "ScholarsPressModel$Setting" (139 : Nat) "ScholarsPressModel$Setting" "lineNumber" "[I") ∈ lw_all := lw_g (lw_at lw_m15 116 rfl) rfl
theorem q3832 : (Jvm.Cond.fieldLink "ScholarsPressModel$Setting" (142 : Nat) "ScholarsPressModel$Setting" "lineColumn" "[I") ∈ lw_all := lw_g (lw_at lw_m15 118 rfl) rfl
theorem q3834 : (Jvm.Cond.fieldLink "ScholarsPressModel$Setting" (145 : Nat) "ScholarsPressModel$Setting" "lineFlow" "[I") ∈ lw_all := lw_g (lw_at lw_m15 120 rfl) rfl
theorem q3835 : (Jvm.Cond.fieldLink "ScholarsPressModel$Setting" (148 : Nat) "ScholarsPressModel$Setting" "mayEnd" "[Z") ∈ lw_all := lw_g (lw_at lw_m15 121 rfl) rfl
theorem q3836 : (Jvm.Cond.fieldLink "ScholarsPressModel$Setting" (151 : Nat) "ScholarsPressModel$Setting" "lineTop" "[J") ∈ lw_all := lw_g (lw_at lw_m15 122 rfl) rfl
theorem q3838 : (Jvm.Cond.fieldLink "ScholarsPressModel$Setting" (592 : Nat) "ScholarsPressModel$Setting" "notes" "I") ∈ lw_all := lw_g (lw_at lw_m15 124 rfl) rfl
theorem q3840 : (Jvm.Cond.fieldLink "ScholarsPressModel$Setting" (595 : Nat) "ScholarsPressModel$Setting" "floats" "I") ∈ lw_all := lw_g (lw_at lw_m15 126 rfl) rfl
theorem q3842 : (Jvm.Cond.fieldLink "ScholarsPressModel$Setting" (154 : Nat) "ScholarsPressModel$Setting" "noteOf" "[I") ∈ lw_all := lw_g (lw_at lw_m15 128 rfl) rfl
theorem q3844 : (Jvm.Cond.fieldLink "ScholarsPressModel$Setting" (157 : Nat) "ScholarsPressModel$Setting" "noteLine" "[I") ∈ lw_all := lw_g (lw_at lw_m15 130 rfl) rfl
theorem q3846 : (Jvm.Cond.fieldLink "ScholarsPressModel$Setting" (160 : Nat) "ScholarsPressModel$Setting" "notePar" "[I") ∈ lw_all := lw_g (lw_at lw_m15 132 rfl) rfl
theorem q3848 : (Jvm.Cond.fieldLink "ScholarsPressModel$Setting" (163 : Nat) "ScholarsPressModel$Setting" "noteColumn" "[I") ∈ lw_all := lw_g (lw_at lw_m15 134 rfl) rfl
theorem q3850 : (Jvm.Cond.fieldLink "ScholarsPressModel$Setting" (166 : Nat) "ScholarsPressModel$Setting" "noteFirst" "[I") ∈ lw_all := lw_g (lw_at lw_m15 136 rfl) rfl
theorem q3852 : (Jvm.Cond.fieldLink "ScholarsPressModel$Setting" (169 : Nat) "ScholarsPressModel$Setting" "floatOf" "[I") ∈ lw_all := lw_g (lw_at lw_m15 138 rfl) rfl
theorem q3854 : (Jvm.Cond.fieldLink "ScholarsPressModel$Setting" (172 : Nat) "ScholarsPressModel$Setting" "floatLine" "[I") ∈ lw_all := lw_g (lw_at lw_m15 140 rfl) rfl
theorem q3856 : (Jvm.Cond.fieldLink "ScholarsPressModel$Setting" (175 : Nat) "ScholarsPressModel$Setting" "floatColumn" "[I") ∈ lw_all := lw_g (lw_at lw_m15 142 rfl) rfl
theorem q3858 : (Jvm.Cond.fieldLink "ScholarsPressModel$Setting" (178 : Nat) "ScholarsPressModel$Setting" "noteTop" "[J") ∈ lw_all := lw_g (lw_at lw_m15 144 rfl) rfl
theorem q3860 : (Jvm.Cond.fieldLink "ScholarsPressModel$Setting" (181 : Nat) "ScholarsPressModel$Setting" "floatTop" "[J") ∈ lw_all := lw_g (lw_at lw_m15 146 rfl) rfl
theorem q3862 : (Jvm.Cond.fieldLink "ScholarsPressModel$Setting" (184 : Nat) "ScholarsPressModel$Setting" "noteNumber" "[I") ∈ lw_all := lw_g (lw_at lw_m15 148 rfl) rfl
theorem q3863 : (Jvm.Cond.fieldLink "ScholarsPressModel$Setting" (417 : Nat) "ScholarsPressModel$Setting" "entries" "I") ∈ lw_all := lw_g (lw_at lw_m15 149 rfl) rfl
theorem q3865 : (Jvm.Cond.fieldLink "ScholarsPressModel$Setting" (187 : Nat) "ScholarsPressModel$Setting" "entryFrom" "[I") ∈ lw_all := lw_g (lw_at lw_m15 151 rfl) rfl
theorem q3866 : (Jvm.Cond.fieldLink "ScholarsPressModel$Setting" (190 : Nat) "ScholarsPressModel$Setting" "entryTo" "[I") ∈ lw_all := lw_g (lw_at lw_m15 152 rfl) rfl
theorem q3867 : (Jvm.Cond.fieldLink "ScholarsPressModel$Setting" (193 : Nat) "ScholarsPressModel$Setting" "termEntry" "[I") ∈ lw_all := lw_g (lw_at lw_m15 153 rfl) rfl
theorem q3868 : (Jvm.Cond.fieldLink "ScholarsPressModel$Setting" (196 : Nat) "ScholarsPressModel$Setting" "entryOrder" "[I") ∈ lw_all := lw_g (lw_at lw_m15 154 rfl) rfl
theorem q3869 : (Jvm.Cond.fieldLink "ScholarsPressModel$Setting" (199 : Nat) "ScholarsPressModel$Setting" "entryTitle" "[Z") ∈ lw_all := lw_g (lw_at lw_m15 155 rfl) rfl
theorem q3870 : (Jvm.Cond.fieldLink "ScholarsPressModel$Setting" (202 : Nat) "ScholarsPressModel$Setting" "titles" "[B") ∈ lw_all := lw_g (lw_at lw_m15 156 rfl) rfl
theorem q3871 : (Jvm.Cond.fieldLink "ScholarsPressModel$Setting" (420 : Nat) "ScholarsPressModel$Setting" "titled" "I") ∈ lw_all := lw_g (lw_at lw_m15 157 rfl) rfl
theorem q3872 : (Jvm.Cond.fieldLink "ScholarsPressModel$Setting" (205 : Nat) "ScholarsPressModel$Setting" "pages" "[I") ∈ lw_all := lw_g (lw_at lw_m15 158 rfl) rfl
theorem q3873 : (Jvm.Cond.fieldLink "ScholarsPressModel$Setting" (208 : Nat) "ScholarsPressModel$Setting" "seqBegin" "[I") ∈ lw_all := lw_g (lw_at lw_m15 159 rfl) rfl
theorem q3874 : (Jvm.Cond.fieldLink "ScholarsPressModel$Setting" (211 : Nat) "ScholarsPressModel$Setting" "seqEnd" "[I") ∈ lw_all := lw_g (lw_at lw_m15 160 rfl) rfl
theorem q3875 : (Jvm.Cond.fieldLink "ScholarsPressModel$Setting" (214 : Nat) "ScholarsPressModel$Setting" "beginLine" "[I") ∈ lw_all := lw_g (lw_at lw_m15 161 rfl) rfl
theorem q3877 : (Jvm.Cond.fieldLink "ScholarsPressModel$Setting" (217 : Nat) "ScholarsPressModel$Setting" "endLine" "[I") ∈ lw_all := lw_g (lw_at lw_m15 163 rfl) rfl
theorem q3879 : (Jvm.Cond.fieldLink "ScholarsPressModel$Setting" (220 : Nat) "ScholarsPressModel$Setting" "lineOfSeq" "[I") ∈ lw_all := lw_g (lw_at lw_m15 165 rfl) rfl
theorem q3880 : (Jvm.Cond.fieldLink "ScholarsPressModel$Setting" (223 : Nat) "ScholarsPressModel$Setting" "page" "[I") ∈ lw_all := lw_g (lw_at lw_m15 166 rfl) rfl
theorem q3881 : (Jvm.Cond.fieldLink "ScholarsPressModel$Setting" (226 : Nat) "ScholarsPressModel$Setting" "first" "[I") ∈ lw_all := lw_g (lw_at lw_m15 167 rfl) rfl
theorem q3882 : (Jvm.Cond.fieldLink "ScholarsPressModel$Setting" (229 : Nat) "ScholarsPressModel$Setting" "last" "[I") ∈ lw_all := lw_g (lw_at lw_m15 168 rfl) rfl
theorem q3883 : (Jvm.Cond.fieldLink "ScholarsPressModel$Setting" (232 : Nat) "ScholarsPressModel$Setting" "newPage" "[I") ∈ lw_all := lw_g (lw_at lw_m15 169 rfl) rfl
theorem q3885 : (Jvm.Cond.fieldLink "ScholarsPressModel$Setting" (235 : Nat) "ScholarsPressModel$Setting" "newFirst" "[I") ∈ lw_all := lw_g (lw_at lw_m15 171 rfl) rfl
theorem q3887 : (Jvm.Cond.fieldLink "ScholarsPressModel$Setting" (238 : Nat) "ScholarsPressModel$Setting" "newLast" "[I") ∈ lw_all := lw_g (lw_at lw_m15 173 rfl) rfl
theorem q3888 : (Jvm.Cond.fieldLink "ScholarsPressModel$Setting" (241 : Nat) "ScholarsPressModel$Setting" "use" "[I") ∈ lw_all := lw_g (lw_at lw_m15 174 rfl) rfl
theorem q3889 : (Jvm.Cond.fieldLink "ScholarsPressModel$Setting" (244 : Nat) "ScholarsPressModel$Setting" "useOf" "[I") ∈ lw_all := lw_g (lw_at lw_m15 175 rfl) rfl
theorem q3891 : (Jvm.Cond.fieldLink "ScholarsPressModel$Setting" (835 : Nat) "ScholarsPressModel$Setting" "pieces" "I") ∈ lw_all := lw_g (lw_at lw_m15 177 rfl) rfl
theorem q3892 : (Jvm.Cond.fieldLink "ScholarsPressModel$Setting" (247 : Nat) "ScholarsPressModel$Setting" "pieceNote" "[I") ∈ lw_all := lw_g (lw_at lw_m15 178 rfl) rfl
theorem q3894 : (Jvm.Cond.fieldLink "ScholarsPressModel$Setting" (250 : Nat) "ScholarsPressModel$Setting" "pieceFrom" "[I") ∈ lw_all := lw_g (lw_at lw_m15 180 rfl) rfl
theorem q3896 : (Jvm.Cond.fieldLink "ScholarsPressModel$Setting" (253 : Nat) "ScholarsPressModel$Setting" "pieceTo" "[I") ∈ lw_all := lw_g (lw_at lw_m15 182 rfl) rfl
theorem q3898 : (Jvm.Cond.fieldLink "ScholarsPressModel$Setting" (256 : Nat) "ScholarsPressModel$Setting" "pieceColumn" "[I") ∈ lw_all := lw_g (lw_at lw_m15 184 rfl) rfl
theorem q3900 : (Jvm.Cond.fieldLink "ScholarsPressModel$Setting" (259 : Nat) "ScholarsPressModel$Setting" "pieceTop" "[J") ∈ lw_all := lw_g (lw_at lw_m15 186 rfl) rfl
theorem q3903 : (Jvm.Cond.fieldLink "ScholarsPressModel$Setting" (832 : Nat) "ScholarsPressModel$Setting" "columns" "I") ∈ lw_all := lw_g (lw_at lw_m15 189 rfl) rfl
theorem q3905 : (Jvm.Cond.fieldLink "ScholarsPressModel$Setting" (868 : Nat) "ScholarsPressModel$Setting" "pagesInAll" "I") ∈ lw_all := lw_g (lw_at lw_m15 191 rfl) rfl
theorem q3906 : (Jvm.Cond.fieldLink "ScholarsPressModel$Setting" (366 : Nat) "ScholarsPressModel$Setting" "wavering" "I") ∈ lw_all := lw_g (lw_at lw_m15 192 rfl) rfl
theorem q3909 : (Jvm.Cond.fieldLink "ScholarsPressModel$Setting" (871 : Nat) "ScholarsPressModel$Setting" "fresh" "I") ∈ lw_all := lw_g (lw_at lw_m15 195 rfl) rfl
theorem q3910 : (Jvm.Cond.fieldLink "ScholarsPressModel$Setting" (262 : Nat) "ScholarsPressModel$Setting" "wavers" "[Z") ∈ lw_all := lw_g (lw_at lw_m15 196 rfl) rfl
theorem q3912 : (Jvm.Cond.fieldLink "ScholarsPressModel$Setting" (460 : Nat) "ScholarsPressModel$Setting" "parFrom" "I") ∈ lw_all := lw_g (lw_at lw_m15 198 rfl) rfl
theorem q3913 : (Jvm.Cond.fieldLink "ScholarsPressModel$Setting" (463 : Nat) "ScholarsPressModel$Setting" "blankSize" "I") ∈ lw_all := lw_g (lw_at lw_m15 199 rfl) rfl
theorem q3914 : (Jvm.Cond.fieldLink "ScholarsPressModel$Setting" (265 : Nat) "ScholarsPressModel$Setting" "marks" "[Z") ∈ lw_all := lw_g (lw_at lw_m15 200 rfl) rfl
theorem q3915 : (Jvm.Cond.fieldLink "ScholarsPressModel$Setting" (495 : Nat) "ScholarsPressModel$Setting" "gap" "I") ∈ lw_all := lw_g (lw_at lw_m15 201 rfl) rfl
theorem q3916 : (Jvm.Cond.fieldLink "ScholarsPressModel$Setting" (268 : Nat) "ScholarsPressModel$Setting" "sumPart" "[J") ∈ lw_all := lw_g (lw_at lw_m15 202 rfl) rfl
theorem q3917 : (Jvm.Cond.fieldLink "ScholarsPressModel$Setting" (271 : Nat) "ScholarsPressModel$Setting" "sumGlue" "[J") ∈ lw_all := lw_g (lw_at lw_m15 203 rfl) rfl
theorem q3918 : (Jvm.Cond.fieldLink "ScholarsPressModel$Setting" (274 : Nat) "ScholarsPressModel$Setting" "sumStretch" "[J") ∈ lw_all := lw_g (lw_at lw_m15 204 rfl) rfl
theorem q3919 : (Jvm.Cond.fieldLink "ScholarsPressModel$Setting" (277 : Nat) "ScholarsPressModel$Setting" "sumShrink" "[J") ∈ lw_all := lw_g (lw_at lw_m15 205 rfl) rfl
theorem q3920 : (Jvm.Cond.fieldLink "ScholarsPressModel$Setting" (280 : Nat) "ScholarsPressModel$Setting" "best" "[J") ∈ lw_all := lw_g (lw_at lw_m15 206 rfl) rfl
theorem q3921 : (Jvm.Cond.fieldLink "ScholarsPressModel$Setting" (283 : Nat) "ScholarsPressModel$Setting" "reached" "[Z") ∈ lw_all := lw_g (lw_at lw_m15 207 rfl) rfl
theorem q3922 : (Jvm.Cond.fieldLink "ScholarsPressModel$Setting" (286 : Nat) "ScholarsPressModel$Setting" "bestFrom" "[I") ∈ lw_all := lw_g (lw_at lw_m15 208 rfl) rfl
theorem q3923 : (Jvm.Cond.fieldLink "ScholarsPressModel$Setting" (289 : Nat) "ScholarsPressModel$Setting" "bestClass" "[I") ∈ lw_all := lw_g (lw_at lw_m15 209 rfl) rfl
theorem q3924 : (Jvm.Cond.fieldLink "ScholarsPressModel$Setting" (702 : Nat) "ScholarsPressModel$Setting" "n" "J") ∈ lw_all := lw_g (lw_at lw_m15 210 rfl) rfl
theorem q3925 : (Jvm.Cond.fieldLink "ScholarsPressModel$Setting" (710 : Nat) "ScholarsPressModel$Setting" "l" "J") ∈ lw_all := lw_g (lw_at lw_m15 211 rfl) rfl
theorem q3926 : (Jvm.Cond.fieldLink "ScholarsPressModel$Setting" (713 : Nat) "ScholarsPressModel$Setting" "a" "J") ∈ lw_all := lw_g (lw_at lw_m15 212 rfl) rfl
theorem q3927 : (Jvm.Cond.fieldLink "ScholarsPressModel$Setting" (716 : Nat) "ScholarsPressModel$Setting" "z" "J") ∈ lw_all := lw_g (lw_at lw_m15 213 rfl) rfl
theorem q3928 : (Jvm.Cond.fieldLink "ScholarsPressModel$Setting" (749 : Nat) "ScholarsPressModel$Setting" "itsCost" "J") ∈ lw_all := lw_g (lw_at lw_m15 214 rfl) rfl
theorem q3929 : (Jvm.Cond.fieldLink "ScholarsPressModel$Setting" (728 : Nat) "ScholarsPressModel$Setting" "\x72" "I") ∈ lw_all := lw_g (lw_at lw_m15 215 rfl) rfl
theorem q3930 : (Jvm.Cond.fieldLink "ScholarsPressModel$Setting" (737 : Nat) "ScholarsPressModel$Setting" "bad" "I") ∈ lw_all := lw_g (lw_at lw_m15 216 rfl) rfl
theorem q3931 : (Jvm.Cond.fieldLink "ScholarsPressModel$Setting" (740 : Nat) "ScholarsPressModel$Setting" "itsClass" "I") ∈ lw_all := lw_g (lw_at lw_m15 217 rfl) rfl
theorem q3932 : (Jvm.Cond.fieldLink "ScholarsPressModel$Setting" (719 : Nat) "ScholarsPressModel$Setting" "tooLong" "Z") ∈ lw_all := lw_g (lw_at lw_m15 218 rfl) rfl
theorem q3933 : (Jvm.Cond.fieldLink "ScholarsPressModel$Setting" (292 : Nat) "ScholarsPressModel$Setting" "parLine" "[I") ∈ lw_all := lw_g (lw_at lw_m15 219 rfl) rfl
theorem q3934 : (Jvm.Cond.fieldLink "ScholarsPressModel$Setting" (295 : Nat) "ScholarsPressModel$Setting" "high" "[J") ∈ lw_all := lw_g (lw_at lw_m15 220 rfl) rfl
theorem q3935 : (Jvm.Cond.fieldLink "ScholarsPressModel$Setting" (298 : Nat) "ScholarsPressModel$Setting" "notesTo" "[I") ∈ lw_all := lw_g (lw_at lw_m15 221 rfl) rfl
theorem q3936 : (Jvm.Cond.fieldLink "ScholarsPressModel$Setting" (301 : Nat) "ScholarsPressModel$Setting" "floatsTo" "[I") ∈ lw_all := lw_g (lw_at lw_m15 222 rfl) rfl
theorem q3937 : (Jvm.Cond.fieldLink "ScholarsPressModel$Setting" (304 : Nat) "ScholarsPressModel$Setting" "head" "[I") ∈ lw_all := lw_g (lw_at lw_m15 223 rfl) rfl
theorem q3938 : (Jvm.Cond.fieldLink "ScholarsPressModel$Setting" (793 : Nat) "ScholarsPressModel$Setting" "states" "I") ∈ lw_all := lw_g (lw_at lw_m15 224 rfl) rfl
theorem q3939 : (Jvm.Cond.fieldLink "ScholarsPressModel$Setting" (307 : Nat) "ScholarsPressModel$Setting" "stateLine" "[I") ∈ lw_all := lw_g (lw_at lw_m15 225 rfl) rfl
theorem q3940 : (Jvm.Cond.fieldLink "ScholarsPressModel$Setting" (310 : Nat) "ScholarsPressModel$Setting" "stateFloat" "[I") ∈ lw_all := lw_g (lw_at lw_m15 226 rfl) rfl
theorem q3941 : (Jvm.Cond.fieldLink "ScholarsPressModel$Setting" (313 : Nat) "ScholarsPressModel$Setting" "stateRest" "[I") ∈ lw_all := lw_g (lw_at lw_m15 227 rfl) rfl
theorem q3942 : (Jvm.Cond.fieldLink "ScholarsPressModel$Setting" (316 : Nat) "ScholarsPressModel$Setting" "statePrev" "[I") ∈ lw_all := lw_g (lw_at lw_m15 228 rfl) rfl
theorem q3943 : (Jvm.Cond.fieldLink "ScholarsPressModel$Setting" (319 : Nat) "ScholarsPressModel$Setting" "stateNext" "[I") ∈ lw_all := lw_g (lw_at lw_m15 229 rfl) rfl
theorem q3944 : (Jvm.Cond.fieldLink "ScholarsPressModel$Setting" (322 : Nat) "ScholarsPressModel$Setting" "stateCost" "[J") ∈ lw_all := lw_g (lw_at lw_m15 230 rfl) rfl
theorem q3945 : (Jvm.Cond.fieldLink "ScholarsPressModel$Setting" (812 : Nat) "ScholarsPressModel$Setting" "toFloat" "I") ∈ lw_all := lw_g (lw_at lw_m15 231 rfl) rfl
theorem q3946 : (Jvm.Cond.fieldLink "ScholarsPressModel$Setting" (819 : Nat) "ScholarsPressModel$Setting" "toRest" "I") ∈ lw_all := lw_g (lw_at lw_m15 232 rfl) rfl
theorem q3947 : (Jvm.Cond.fieldLink "ScholarsPressModel$Setting" (800 : Nat) "ScholarsPressModel$Setting" "placedRest" "I") ∈ lw_all := lw_g (lw_at lw_m15 233 rfl) rfl
theorem q3948 : (Jvm.Cond.fieldLink "ScholarsPressModel$Setting" (803 : Nat) "ScholarsPressModel$Setting" "placedLast" "I") ∈ lw_all := lw_g (lw_at lw_m15 234 rfl) rfl
theorem q3949 : (Jvm.Cond.fieldLink "ScholarsPressModel$Setting" (822 : Nat) "ScholarsPressModel$Setting" "filled" "J") ∈ lw_all := lw_g (lw_at lw_m15 235 rfl) rfl
theorem q3950 : (Jvm.Cond.fieldLink "ScholarsPressModel$Setting" (325 : Nat) "ScholarsPressModel$Setting" "way" "[I") ∈ lw_all := lw_g (lw_at lw_m15 236 rfl) rfl
theorem q3951 : (Jvm.Cond.fieldLink "ScholarsPressModel$Setting" (328 : Nat) "ScholarsPressModel$Setting" "spans" "[Z") ∈ lw_all := lw_g (lw_at lw_m15 237 rfl) rfl
theorem q3952 : (Jvm.Cond.fieldLink "ScholarsPressModel$Setting" (331 : Nat) "ScholarsPressModel$Setting" "newSpans" "[Z") ∈ lw_all := lw_g (lw_at lw_m15 238 rfl) rfl
theorem q3953 : (Jvm.Cond.laysFinal "ScholarsPressModel$Setting" "ScholarsPressModel$Setting" "tree" "LScholarsPressModel$Tree;") ∈ lw_all := lw_g (lw_at lw_m15 239 rfl) rfl
theorem q3954 : (Jvm.Cond.soleField "ScholarsPressModel$Setting" "tree") ∈ lw_all := lw_g (lw_at lw_m16 0 rfl) rfl
theorem q3955 : (Jvm.Cond.lays "ScholarsPressModel$Setting" "ScholarsPressModel$Setting" "s" "LScholarsPressModel$Source;") ∈ lw_all := lw_g (lw_at lw_m16 1 rfl) rfl
theorem q3956 : (Jvm.Cond.soleField "ScholarsPressModel$Setting" "s") ∈ lw_all := lw_g (lw_at lw_m16 2 rfl) rfl
theorem q3957 : (Jvm.Cond.lays "ScholarsPressModel$Setting" "ScholarsPressModel$Setting" "letters" "LScholarsPressModel$Letters;") ∈ lw_all := lw_g (lw_at lw_m16 3 rfl) rfl
theorem q3958 : (Jvm.Cond.soleField "ScholarsPressModel$Setting" "letters") ∈ lw_all := lw_g (lw_at lw_m16 4 rfl) rfl
theorem q3959 : (Jvm.Cond.lays "ScholarsPressModel$Setting" "ScholarsPressModel$Setting" "parting" "LScholarsPressModel$Parting;") ∈ lw_all := lw_g (lw_at lw_m16 5 rfl) rfl
theorem q3960 : (Jvm.Cond.soleField "ScholarsPressModel$Setting" "parting") ∈ lw_all := lw_g (lw_at lw_m16 6 rfl) rfl
theorem q3961 : (Jvm.Cond.lays "ScholarsPressModel$Setting" "ScholarsPressModel$Setting" "bytes" "I") ∈ lw_all := lw_g (lw_at lw_m16 7 rfl) rfl
theorem q3962 : (Jvm.Cond.soleField "ScholarsPressModel$Setting" "bytes") ∈ lw_all := lw_g (lw_at lw_m16 8 rfl) rfl
theorem q3963 : (Jvm.Cond.laysFinal "ScholarsPressModel$Setting" "ScholarsPressModel$Setting" "b" "[B") ∈ lw_all := lw_g (lw_at lw_m16 9 rfl) rfl
theorem q3964 : (Jvm.Cond.soleField "ScholarsPressModel$Setting" "b") ∈ lw_all := lw_g (lw_at lw_m16 10 rfl) rfl
theorem q3965 : (Jvm.Cond.laysFinal "ScholarsPressModel$Setting" "ScholarsPressModel$Setting" "size" "[I") ∈ lw_all := lw_g (lw_at lw_m16 11 rfl) rfl
theorem q3966 : (Jvm.Cond.soleField "ScholarsPressModel$Setting" "size") ∈ lw_all := lw_g (lw_at lw_m16 12 rfl) rfl
theorem q3967 : (Jvm.Cond.laysFinal "ScholarsPressModel$Setting" "ScholarsPressModel$Setting" "seq" "[I") ∈ lw_all := lw_g (lw_at lw_m16 13 rfl) rfl
theorem q3968 : (Jvm.Cond.soleField "ScholarsPressModel$Setting" "seq") ∈ lw_all := lw_g (lw_at lw_m16 14 rfl) rfl
theorem q3969 : (Jvm.Cond.lays "ScholarsPressModel$Setting" "ScholarsPressModel$Setting" "seqs" "I") ∈ lw_all := lw_g (lw_at lw_m16 15 rfl) rfl
theorem q3970 : (Jvm.Cond.soleField "ScholarsPressModel$Setting" "seqs") ∈ lw_all := lw_g (lw_at lw_m16 16 rfl) rfl
theorem q3971 : (Jvm.Cond.lays "ScholarsPressModel$Setting" "ScholarsPressModel$Setting" "paragraphs" "I") ∈ lw_all := lw_g (lw_at lw_m16 17 rfl) rfl
theorem q3972 : (Jvm.Cond.soleField "ScholarsPressModel$Setting" "paragraphs") ∈ lw_all := lw_g (lw_at lw_m16 18 rfl) rfl
theorem q3973 : (Jvm.Cond.laysFinal "ScholarsPressModel$Setting" "ScholarsPressModel$Setting" "from" "[I") ∈ lw_all := lw_g (lw_at lw_m16 19 rfl) rfl
theorem q3974 : (Jvm.Cond.soleField "ScholarsPressModel$Setting" "from") ∈ lw_all := lw_g (lw_at lw_m16 20 rfl) rfl
theorem q3975 : (Jvm.Cond.laysFinal "ScholarsPressModel$Setting" "ScholarsPressModel$Setting" "to" "[I") ∈ lw_all := lw_g (lw_at lw_m16 21 rfl) rfl
theorem q3976 : (Jvm.Cond.soleField "ScholarsPressModel$Setting" "to") ∈ lw_all := lw_g (lw_at lw_m16 22 rfl) rfl
theorem q3977 : (Jvm.Cond.laysFinal "ScholarsPressModel$Setting" "ScholarsPressModel$Setting" "owner" "[I") ∈ lw_all := lw_g (lw_at lw_m16 23 rfl) rfl
theorem q3978 : (Jvm.Cond.soleField "ScholarsPressModel$Setting" "owner") ∈ lw_all := lw_g (lw_at lw_m16 24 rfl) rfl
theorem q3979 : (Jvm.Cond.laysFinal "ScholarsPressModel$Setting" "ScholarsPressModel$Setting" "kind" "[I") ∈ lw_all := lw_g (lw_at lw_m16 25 rfl) rfl
theorem q3980 : (Jvm.Cond.soleField "ScholarsPressModel$Setting" "kind") ∈ lw_all := lw_g (lw_at lw_m16 26 rfl) rfl
theorem q3981 : (Jvm.Cond.laysFinal "ScholarsPressModel$Setting" "ScholarsPressModel$Setting" "left" "[I") ∈ lw_all := lw_g (lw_at lw_m16 27 rfl) rfl
theorem q3982 : (Jvm.Cond.soleField "ScholarsPressModel$Setting" "left") ∈ lw_all := lw_g (lw_at lw_m16 28 rfl) rfl
theorem q3983 : (Jvm.Cond.laysFinal "ScholarsPressModel$Setting" "ScholarsPressModel$Setting" "breaks" "[I") ∈ lw_all := lw_g (lw_at lw_m16 29 rfl) rfl
theorem q3984 : (Jvm.Cond.soleField "ScholarsPressModel$Setting" "breaks") ∈ lw_all := lw_g (lw_at lw_m16 30 rfl) rfl
theorem q3985 : (Jvm.Cond.laysFinal "ScholarsPressModel$Setting" "ScholarsPressModel$Setting" "breakAt" "[I") ∈ lw_all := lw_g (lw_at lw_m16 31 rfl) rfl
theorem q3986 : (Jvm.Cond.soleField "ScholarsPressModel$Setting" "breakAt") ∈ lw_all := lw_g (lw_at lw_m16 32 rfl) rfl
theorem q3987 : (Jvm.Cond.laysFinal "ScholarsPressModel$Setting" "ScholarsPressModel$Setting" "lines" "[I") ∈ lw_all := lw_g (lw_at lw_m16 33 rfl) rfl
theorem q3988 : (Jvm.Cond.soleField "ScholarsPressModel$Setting" "lines") ∈ lw_all := lw_g (lw_at lw_m16 34 rfl) rfl
theorem q3989 : (Jvm.Cond.laysFinal "ScholarsPressModel$Setting" "ScholarsPressModel$Setting" "lineAt" "[I") ∈ lw_all := lw_g (lw_at lw_m16 35 rfl) rfl
theorem q3990 : (Jvm.Cond.soleField "ScholarsPressModel$Setting" "lineAt") ∈ lw_all := lw_g (lw_at lw_m16 36 rfl) rfl
theorem q3991 : (Jvm.Cond.laysFinal "ScholarsPressModel$Setting" "ScholarsPressModel$Setting" "told" "[I") ∈ lw_all := lw_g (lw_at lw_m16 37 rfl) rfl
theorem q3992 : (Jvm.Cond.soleField "ScholarsPressModel$Setting" "told") ∈ lw_all := lw_g (lw_at lw_m16 38 rfl) rfl
theorem q3993 : (Jvm.Cond.laysFinal "ScholarsPressModel$Setting" "ScholarsPressModel$Setting" "indent" "[I") ∈ lw_all := lw_g (lw_at lw_m16 39 rfl) rfl
theorem q3994 : (Jvm.Cond.soleField "ScholarsPressModel$Setting" "indent") ∈ lw_all := lw_g (lw_at lw_m16 40 rfl) rfl
theorem q3995 : (Jvm.Cond.laysFinal "ScholarsPressModel$Setting" "ScholarsPressModel$Setting" "width" "[J") ∈ lw_all := lw_g (lw_at lw_m16 41 rfl) rfl
theorem q3996 : (Jvm.Cond.soleField "ScholarsPressModel$Setting" "width") ∈ lw_all := lw_g (lw_at lw_m16 42 rfl) rfl
theorem q3997 : (Jvm.Cond.laysFinal "ScholarsPressModel$Setting" "ScholarsPressModel$Setting" "cost" "[J") ∈ lw_all := lw_g (lw_at lw_m16 43 rfl) rfl
theorem q3998 : (Jvm.Cond.soleField "ScholarsPressModel$Setting" "cost") ∈ lw_all := lw_g (lw_at lw_m16 44 rfl) rfl
theorem q3999 : (Jvm.Cond.laysFinal "ScholarsPressModel$Setting" "ScholarsPressModel$Setting" "type" "[I") ∈ lw_all := lw_g (lw_at lw_m16 45 rfl) rfl
theorem q4000 : (Jvm.Cond.soleField "ScholarsPressModel$Setting" "type") ∈ lw_all := lw_g (lw_at lw_m16 46 rfl) rfl
theorem q4001 : (Jvm.Cond.laysFinal "ScholarsPressModel$Setting" "ScholarsPressModel$Setting" "pos" "[I") ∈ lw_all := lw_g (lw_at lw_m16 47 rfl) rfl
theorem q4002 : (Jvm.Cond.soleField "ScholarsPressModel$Setting" "pos") ∈ lw_all := lw_g (lw_at lw_m16 48 rfl) rfl
theorem q4003 : (Jvm.Cond.laysFinal "ScholarsPressModel$Setting" "ScholarsPressModel$Setting" "part" "[J") ∈ lw_all := lw_g (lw_at lw_m16 49 rfl) rfl
theorem q4004 : (Jvm.Cond.soleField "ScholarsPressModel$Setting" "part") ∈ lw_all := lw_g (lw_at lw_m16 50 rfl) rfl
theorem q4005 : (Jvm.Cond.laysFinal "ScholarsPressModel$Setting" "ScholarsPressModel$Setting" "glue" "[J") ∈ lw_all := lw_g (lw_at lw_m16 51 rfl) rfl
theorem q4006 : (Jvm.Cond.soleField "ScholarsPressModel$Setting" "glue") ∈ lw_all := lw_g (lw_at lw_m16 52 rfl) rfl
theorem q4007 : (Jvm.Cond.laysFinal "ScholarsPressModel$Setting" "ScholarsPressModel$Setting" "hyph" "[J") ∈ lw_all := lw_g (lw_at lw_m16 53 rfl) rfl
theorem q4008 : (Jvm.Cond.soleField "ScholarsPressModel$Setting" "hyph") ∈ lw_all := lw_g (lw_at lw_m16 54 rfl) rfl
theorem q4009 : (Jvm.Cond.laysFinal "ScholarsPressModel$Setting" "ScholarsPressModel$Setting" "lineEnd" "[I") ∈ lw_all := lw_g (lw_at lw_m16 55 rfl) rfl
theorem q4010 : (Jvm.Cond.soleField "ScholarsPressModel$Setting" "lineEnd") ∈ lw_all := lw_g (lw_at lw_m16 56 rfl) rfl
theorem q4011 : (Jvm.Cond.laysFinal "ScholarsPressModel$Setting" "ScholarsPressModel$Setting" "ratio" "[I") ∈ lw_all := lw_g (lw_at lw_m16 57 rfl) rfl
theorem q4012 : (Jvm.Cond.soleField "ScholarsPressModel$Setting" "ratio") ∈ lw_all := lw_g (lw_at lw_m16 58 rfl) rfl
theorem q4013 : (Jvm.Cond.lays "ScholarsPressModel$Setting" "ScholarsPressModel$Setting" "flows" "I") ∈ lw_all := lw_g (lw_at lw_m16 59 rfl) rfl
theorem q4014 : (Jvm.Cond.soleField "ScholarsPressModel$Setting" "flows") ∈ lw_all := lw_g (lw_at lw_m16 60 rfl) rfl
theorem q4015 : (Jvm.Cond.laysFinal "ScholarsPressModel$Setting" "ScholarsPressModel$Setting" "flowKind" "[I") ∈ lw_all := lw_g (lw_at lw_m16 61 rfl) rfl
theorem q4016 : (Jvm.Cond.soleField "ScholarsPressModel$Setting" "flowKind") ∈ lw_all := lw_g (lw_at lw_m16 62 rfl) rfl
theorem q4017 : (Jvm.Cond.laysFinal "ScholarsPressModel$Setting" "ScholarsPressModel$Setting" "flowOf" "[I") ∈ lw_all := lw_g (lw_at lw_m16 63 rfl) rfl
theorem q4018 : (Jvm.Cond.soleField "ScholarsPressModel$Setting" "flowOf") ∈ lw_all := lw_g (lw_at lw_m16 64 rfl) rfl
theorem q4019 : (Jvm.Cond.laysFinal "ScholarsPressModel$Setting" "ScholarsPressModel$Setting" "flowGap" "[I") ∈ lw_all := lw_g (lw_at lw_m16 65 rfl) rfl
theorem q4020 : (Jvm.Cond.soleField "ScholarsPressModel$Setting" "flowGap") ∈ lw_all := lw_g (lw_at lw_m16 66 rfl) rfl
theorem q4021 : (Jvm.Cond.laysFinal "ScholarsPressModel$Setting" "ScholarsPressModel$Setting" "cellOf" "[I") ∈ lw_all := lw_g (lw_at lw_m16 67 rfl) rfl
theorem q4022 : (Jvm.Cond.soleField "ScholarsPressModel$Setting" "cellOf") ∈ lw_all := lw_g (lw_at lw_m16 68 rfl) rfl
theorem q4023 : (Jvm.Cond.laysFinal "ScholarsPressModel$Setting" "ScholarsPressModel$Setting" "rowHeight" "[I") ∈ lw_all := lw_g (lw_at lw_m16 69 rfl) rfl
theorem q4024 : (Jvm.Cond.soleField "ScholarsPressModel$Setting" "rowHeight") ∈ lw_all := lw_g (lw_at lw_m16 70 rfl) rfl
theorem q4025 : (Jvm.Cond.laysFinal "ScholarsPressModel$Setting" "ScholarsPressModel$Setting" "tableLeft" "[I") ∈ lw_all := lw_g (lw_at lw_m16 71 rfl) rfl
theorem q4026 : (Jvm.Cond.soleField "ScholarsPressModel$Setting" "tableLeft") ∈ lw_all := lw_g (lw_at lw_m16 72 rfl) rfl
theorem q4027 : (Jvm.Cond.laysFinal "ScholarsPressModel$Setting" "ScholarsPressModel$Setting" "tableColumns" "[I") ∈ lw_all := lw_g (lw_at lw_m16 73 rfl) rfl
theorem q4028 : (Jvm.Cond.soleField "ScholarsPressModel$Setting" "tableColumns") ∈ lw_all := lw_g (lw_at lw_m16 74 rfl) rfl
theorem q4029 : (Jvm.Cond.laysFinal "ScholarsPressModel$Setting" "ScholarsPressModel$Setting" "rowHas" "[Z") ∈ lw_all := lw_g (lw_at lw_m16 75 rfl) rfl
theorem q4030 : (Jvm.Cond.soleField "ScholarsPressModel$Setting" "rowHas") ∈ lw_all := lw_g (lw_at lw_m16 76 rfl) rfl
theorem q4031 : (Jvm.Cond.laysFinal "ScholarsPressModel$Setting" "ScholarsPressModel$Setting" "columnWidth" "[J") ∈ lw_all := lw_g (lw_at lw_m16 77 rfl) rfl
theorem q4032 : (Jvm.Cond.soleField "ScholarsPressModel$Setting" "columnWidth") ∈ lw_all := lw_g (lw_at lw_m16 78 rfl) rfl
theorem q4033 : (Jvm.Cond.laysFinal "ScholarsPressModel$Setting" "ScholarsPressModel$Setting" "least" "[J") ∈ lw_all := lw_g (lw_at lw_m16 79 rfl) rfl
theorem q4034 : (Jvm.Cond.soleField "ScholarsPressModel$Setting" "least") ∈ lw_all := lw_g (lw_at lw_m16 80 rfl) rfl
theorem q4035 : (Jvm.Cond.laysFinal "ScholarsPressModel$Setting" "ScholarsPressModel$Setting" "wish" "[J") ∈ lw_all := lw_g (lw_at lw_m16 81 rfl) rfl
theorem q4036 : (Jvm.Cond.soleField "ScholarsPressModel$Setting" "wish") ∈ lw_all := lw_g (lw_at lw_m16 82 rfl) rfl
theorem q4037 : (Jvm.Cond.lays "ScholarsPressModel$Setting" "ScholarsPressModel$Setting" "count" "I") ∈ lw_all := lw_g (lw_at lw_m16 83 rfl) rfl
theorem q4038 : (Jvm.Cond.soleField "ScholarsPressModel$Setting" "count") ∈ lw_all := lw_g (lw_at lw_m16 84 rfl) rfl
theorem q4039 : (Jvm.Cond.laysFinal "ScholarsPressModel$Setting" "ScholarsPressModel$Setting" "linePar" "[I") ∈ lw_all := lw_g (lw_at lw_m16 85 rfl) rfl
theorem q4040 : (Jvm.Cond.soleField "ScholarsPressModel$Setting" "linePar") ∈ lw_all := lw_g (lw_at lw_m16 86 rfl) rfl
theorem q4041 : (Jvm.Cond.laysFinal "ScholarsPressModel$Setting" "ScholarsPressModel$Setting" "lineNo" "[I") ∈ lw_all := lw_g (lw_at lw_m16 87 rfl) rfl
theorem q4042 : (Jvm.Cond.soleField "ScholarsPressModel$Setting" "lineNo") ∈ lw_all := lw_g (lw_at lw_m16 88 rfl) rfl
theorem q4043 : (Jvm.Cond.laysFinal "ScholarsPressModel$Setting" "ScholarsPressModel$Setting" "lineRow" "[I") ∈ lw_all := lw_g (lw_at lw_m16 89 rfl) rfl
theorem q4044 : (Jvm.Cond.soleField "ScholarsPressModel$Setting" "lineRow") ∈ lw_all := lw_g (lw_at lw_m16 90 rfl) rfl
theorem q4045 : (Jvm.Cond.laysFinal "ScholarsPressModel$Setting" "ScholarsPressModel$Setting" "lineHeight" "[I") ∈ lw_all := lw_g (lw_at lw_m16 91 rfl) rfl
theorem q4046 : (Jvm.Cond.soleField "ScholarsPressModel$Setting" "lineHeight") ∈ lw_all := lw_g (lw_at lw_m16 92 rfl) rfl
theorem q4047 : (Jvm.Cond.laysFinal "ScholarsPressModel$Setting" "ScholarsPressModel$Setting" "lineGap" "[I") ∈ lw_all := lw_g (lw_at lw_m16 93 rfl) rfl
theorem q4048 : (Jvm.Cond.soleField "ScholarsPressModel$Setting" "lineGap") ∈ lw_all := lw_g (lw_at lw_m16 94 rfl) rfl
theorem q4049 : (Jvm.Cond.laysFinal "ScholarsPressModel$Setting" "ScholarsPressModel$Setting" "lineNumber" "[I") ∈ lw_all := lw_g (lw_at lw_m16 95 rfl) rfl
theorem q4050 : (Jvm.Cond.soleField "ScholarsPressModel$Setting" "lineNumber") ∈ lw_all := lw_g (lw_at lw_m16 96 rfl) rfl
theorem q4051 : (Jvm.Cond.laysFinal "ScholarsPressModel$Setting" "ScholarsPressModel$Setting" "lineColumn" "[I") ∈ lw_all := lw_g (lw_at lw_m16 97 rfl) rfl
theorem q4052 : (Jvm.Cond.soleField "ScholarsPressModel$Setting" "lineColumn") ∈ lw_all := lw_g (lw_at lw_m16 98 rfl) rfl
theorem q4053 : (Jvm.Cond.laysFinal "ScholarsPressModel$Setting" "ScholarsPressModel$Setting" "lineFlow" "[I") ∈ lw_all := lw_g (lw_at lw_m16 99 rfl) rfl
theorem q4054 : (Jvm.Cond.soleField "ScholarsPressModel$Setting" "lineFlow") ∈ lw_all := lw_g (lw_at lw_m16 100 rfl) rfl
theorem q4055 : (Jvm.Cond.laysFinal "ScholarsPressModel$Setting" "ScholarsPressModel$Setting" "mayEnd" "[Z") ∈ lw_all := lw_g (lw_at lw_m16 101 rfl) rfl
theorem q4056 : (Jvm.Cond.soleField "ScholarsPressModel$Setting" "mayEnd") ∈ lw_all := lw_g (lw_at lw_m16 102 rfl) rfl
theorem q4057 : (Jvm.Cond.laysFinal "ScholarsPressModel$Setting" "ScholarsPressModel$Setting" "lineTop" "[J") ∈ lw_all := lw_g (lw_at lw_m16 103 rfl) rfl
theorem q4058 : (Jvm.Cond.soleField "ScholarsPressModel$Setting" "lineTop") ∈ lw_all := lw_g (lw_at lw_m16 104 rfl) rfl
theorem q4059 : (Jvm.Cond.lays "ScholarsPressModel$Setting" "ScholarsPressModel$Setting" "notes" "I") ∈ lw_all := lw_g (lw_at lw_m16 105 rfl) rfl
theorem q4060 : (Jvm.Cond.soleField "ScholarsPressModel$Setting" "notes") ∈ lw_all := lw_g (lw_at lw_m16 106 rfl) rfl
theorem q4061 : (Jvm.Cond.lays "ScholarsPressModel$Setting" "ScholarsPressModel$Setting" "floats" "I") ∈ lw_all := lw_g (lw_at lw_m16 107 rfl) rfl
theorem q4062 : (Jvm.Cond.soleField "ScholarsPressModel$Setting" "floats") ∈ lw_all := lw_g (lw_at lw_m16 108 rfl) rfl
theorem q4063 : (Jvm.Cond.laysFinal "ScholarsPressModel$Setting" "ScholarsPressModel$Setting" "noteOf" "[I") ∈ lw_all := lw_g (lw_at lw_m16 109 rfl) rfl
theorem q4064 : (Jvm.Cond.soleField "ScholarsPressModel$Setting" "noteOf") ∈ lw_all := lw_g (lw_at lw_m16 110 rfl) rfl
theorem q4065 : (Jvm.Cond.laysFinal "ScholarsPressModel$Setting" "ScholarsPressModel$Setting" "noteLine" "[I") ∈ lw_all := lw_g (lw_at lw_m16 111 rfl) rfl
theorem q4066 : (Jvm.Cond.soleField "ScholarsPressModel$Setting" "noteLine") ∈ lw_all := lw_g (lw_at lw_m16 112 rfl) rfl
theorem q4067 : (Jvm.Cond.laysFinal "ScholarsPressModel$Setting" "ScholarsPressModel$Setting" "notePar" "[I") ∈ lw_all := lw_g (lw_at lw_m16 113 rfl) rfl
theorem q4068 : (Jvm.Cond.soleField "ScholarsPressModel$Setting" "notePar") ∈ lw_all := lw_g (lw_at lw_m16 114 rfl) rfl
theorem q4069 : (Jvm.Cond.laysFinal "ScholarsPressModel$Setting" "ScholarsPressModel$Setting" "noteColumn" "[I") ∈ lw_all := lw_g (lw_at lw_m16 115 rfl) rfl
theorem q4070 : (Jvm.Cond.soleField "ScholarsPressModel$Setting" "noteColumn") ∈ lw_all := lw_g (lw_at lw_m16 116 rfl) rfl
theorem q4071 : (Jvm.Cond.laysFinal "ScholarsPressModel$Setting" "ScholarsPressModel$Setting" "noteFirst" "[I") ∈ lw_all := lw_g (lw_at lw_m16 117 rfl) rfl
theorem q4072 : (Jvm.Cond.soleField "ScholarsPressModel$Setting" "noteFirst") ∈ lw_all := lw_g (lw_at lw_m16 118 rfl) rfl
theorem q4073 : (Jvm.Cond.laysFinal "ScholarsPressModel$Setting" "ScholarsPressModel$Setting" "floatOf" "[I") ∈ lw_all := lw_g (lw_at lw_m16 119 rfl) rfl
theorem q4074 : (Jvm.Cond.soleField "ScholarsPressModel$Setting" "floatOf") ∈ lw_all := lw_g (lw_at lw_m16 120 rfl) rfl
theorem q4075 : (Jvm.Cond.laysFinal "ScholarsPressModel$Setting" "ScholarsPressModel$Setting" "floatLine" "[I") ∈ lw_all := lw_g (lw_at lw_m16 121 rfl) rfl
theorem q4076 : (Jvm.Cond.soleField "ScholarsPressModel$Setting" "floatLine") ∈ lw_all := lw_g (lw_at lw_m16 122 rfl) rfl
theorem q4077 : (Jvm.Cond.laysFinal "ScholarsPressModel$Setting" "ScholarsPressModel$Setting" "floatColumn" "[I") ∈ lw_all := lw_g (lw_at lw_m16 123 rfl) rfl
theorem q4078 : (Jvm.Cond.soleField "ScholarsPressModel$Setting" "floatColumn") ∈ lw_all := lw_g (lw_at lw_m16 124 rfl) rfl
theorem q4079 : (Jvm.Cond.laysFinal "ScholarsPressModel$Setting" "ScholarsPressModel$Setting" "noteTop" "[J") ∈ lw_all := lw_g (lw_at lw_m16 125 rfl) rfl
theorem q4080 : (Jvm.Cond.soleField "ScholarsPressModel$Setting" "noteTop") ∈ lw_all := lw_g (lw_at lw_m16 126 rfl) rfl
theorem q4081 : (Jvm.Cond.laysFinal "ScholarsPressModel$Setting" "ScholarsPressModel$Setting" "floatTop" "[J") ∈ lw_all := lw_g (lw_at lw_m16 127 rfl) rfl
theorem q4082 : (Jvm.Cond.soleField "ScholarsPressModel$Setting" "floatTop") ∈ lw_all := lw_g (lw_at lw_m16 128 rfl) rfl
theorem q4083 : (Jvm.Cond.laysFinal "ScholarsPressModel$Setting" "ScholarsPressModel$Setting" "noteNumber" "[I") ∈ lw_all := lw_g (lw_at lw_m16 129 rfl) rfl
theorem q4084 : (Jvm.Cond.soleField "ScholarsPressModel$Setting" "noteNumber") ∈ lw_all := lw_g (lw_at lw_m16 130 rfl) rfl
theorem q4085 : (Jvm.Cond.lays "ScholarsPressModel$Setting" "ScholarsPressModel$Setting" "entries" "I") ∈ lw_all := lw_g (lw_at lw_m16 131 rfl) rfl
theorem q4086 : (Jvm.Cond.soleField "ScholarsPressModel$Setting" "entries") ∈ lw_all := lw_g (lw_at lw_m16 132 rfl) rfl
theorem q4087 : (Jvm.Cond.laysFinal "ScholarsPressModel$Setting" "ScholarsPressModel$Setting" "entryFrom" "[I") ∈ lw_all := lw_g (lw_at lw_m16 133 rfl) rfl
theorem q4088 : (Jvm.Cond.soleField "ScholarsPressModel$Setting" "entryFrom") ∈ lw_all := lw_g (lw_at lw_m16 134 rfl) rfl
theorem q4089 : (Jvm.Cond.laysFinal "ScholarsPressModel$Setting" "ScholarsPressModel$Setting" "entryTo" "[I") ∈ lw_all := lw_g (lw_at lw_m16 135 rfl) rfl
theorem q4090 : (Jvm.Cond.soleField "ScholarsPressModel$Setting" "entryTo") ∈ lw_all := lw_g (lw_at lw_m16 136 rfl) rfl
theorem q4091 : (Jvm.Cond.laysFinal "ScholarsPressModel$Setting" "ScholarsPressModel$Setting" "termEntry" "[I") ∈ lw_all := lw_g (lw_at lw_m16 137 rfl) rfl
theorem q4092 : (Jvm.Cond.soleField "ScholarsPressModel$Setting" "termEntry") ∈ lw_all := lw_g (lw_at lw_m16 138 rfl) rfl
theorem q4093 : (Jvm.Cond.laysFinal "ScholarsPressModel$Setting" "ScholarsPressModel$Setting" "entryOrder" "[I") ∈ lw_all := lw_g (lw_at lw_m16 139 rfl) rfl
theorem q4094 : (Jvm.Cond.soleField "ScholarsPressModel$Setting" "entryOrder") ∈ lw_all := lw_g (lw_at lw_m16 140 rfl) rfl
theorem q4095 : (Jvm.Cond.laysFinal "ScholarsPressModel$Setting" "ScholarsPressModel$Setting" "entryTitle" "[Z") ∈ lw_all := lw_g (lw_at lw_m16 141 rfl) rfl
theorem q4096 : (Jvm.Cond.soleField "ScholarsPressModel$Setting" "entryTitle") ∈ lw_all := lw_g (lw_at lw_m16 142 rfl) rfl
theorem q4097 : (Jvm.Cond.laysFinal "ScholarsPressModel$Setting" "ScholarsPressModel$Setting" "titles" "[B") ∈ lw_all := lw_g (lw_at lw_m16 143 rfl) rfl
theorem q4098 : (Jvm.Cond.soleField "ScholarsPressModel$Setting" "titles") ∈ lw_all := lw_g (lw_at lw_m16 144 rfl) rfl
theorem q4099 : (Jvm.Cond.lays "ScholarsPressModel$Setting" "ScholarsPressModel$Setting" "titled" "I") ∈ lw_all := lw_g (lw_at lw_m16 145 rfl) rfl
theorem q4100 : (Jvm.Cond.soleField "ScholarsPressModel$Setting" "titled") ∈ lw_all := lw_g (lw_at lw_m16 146 rfl) rfl
theorem q4101 : (Jvm.Cond.laysFinal "ScholarsPressModel$Setting" "ScholarsPressModel$Setting" "pages" "[I") ∈ lw_all := lw_g (lw_at lw_m16 147 rfl) rfl
theorem q4102 : (Jvm.Cond.soleField "ScholarsPressModel$Setting" "pages") ∈ lw_all := lw_g (lw_at lw_m16 148 rfl) rfl
theorem q4103 : (Jvm.Cond.laysFinal "ScholarsPressModel$Setting" "ScholarsPressModel$Setting" "seqBegin" "[I") ∈ lw_all := lw_g (lw_at lw_m16 149 rfl) rfl
theorem q4104 : (Jvm.Cond.soleField "ScholarsPressModel$Setting" "seqBegin") ∈ lw_all := lw_g (lw_at lw_m16 150 rfl) rfl
theorem q4105 : (Jvm.Cond.laysFinal "ScholarsPressModel$Setting" "ScholarsPressModel$Setting" "seqEnd" "[I") ∈ lw_all := lw_g (lw_at lw_m16 151 rfl) rfl
theorem q4106 : (Jvm.Cond.soleField "ScholarsPressModel$Setting" "seqEnd") ∈ lw_all := lw_g (lw_at lw_m16 152 rfl) rfl
theorem q4107 : (Jvm.Cond.laysFinal "ScholarsPressModel$Setting" "ScholarsPressModel$Setting" "beginLine" "[I") ∈ lw_all := lw_g (lw_at lw_m16 153 rfl) rfl
theorem q4108 : (Jvm.Cond.soleField "ScholarsPressModel$Setting" "beginLine") ∈ lw_all := lw_g (lw_at lw_m16 154 rfl) rfl
theorem q4109 : (Jvm.Cond.laysFinal "ScholarsPressModel$Setting" "ScholarsPressModel$Setting" "endLine" "[I") ∈ lw_all := lw_g (lw_at lw_m16 155 rfl) rfl
theorem q4110 : (Jvm.Cond.soleField "ScholarsPressModel$Setting" "endLine") ∈ lw_all := lw_g (lw_at lw_m16 156 rfl) rfl
theorem q4111 : (Jvm.Cond.laysFinal "ScholarsPressModel$Setting" "ScholarsPressModel$Setting" "lineOfSeq" "[I") ∈ lw_all := lw_g (lw_at lw_m16 157 rfl) rfl
theorem q4112 : (Jvm.Cond.soleField "ScholarsPressModel$Setting" "lineOfSeq") ∈ lw_all := lw_g (lw_at lw_m16 158 rfl) rfl
theorem q4113 : (Jvm.Cond.laysFinal "ScholarsPressModel$Setting" "ScholarsPressModel$Setting" "page" "[I") ∈ lw_all := lw_g (lw_at lw_m16 159 rfl) rfl
theorem q4114 : (Jvm.Cond.soleField "ScholarsPressModel$Setting" "page") ∈ lw_all := lw_g (lw_at lw_m16 160 rfl) rfl
theorem q4115 : (Jvm.Cond.laysFinal "ScholarsPressModel$Setting" "ScholarsPressModel$Setting" "first" "[I") ∈ lw_all := lw_g (lw_at lw_m16 161 rfl) rfl
theorem q4116 : (Jvm.Cond.soleField "ScholarsPressModel$Setting" "first") ∈ lw_all := lw_g (lw_at lw_m16 162 rfl) rfl
theorem q4117 : (Jvm.Cond.laysFinal "ScholarsPressModel$Setting" "ScholarsPressModel$Setting" "last" "[I") ∈ lw_all := lw_g (lw_at lw_m16 163 rfl) rfl
theorem q4118 : (Jvm.Cond.soleField "ScholarsPressModel$Setting" "last") ∈ lw_all := lw_g (lw_at lw_m16 164 rfl) rfl
theorem q4119 : (Jvm.Cond.laysFinal "ScholarsPressModel$Setting" "ScholarsPressModel$Setting" "newPage" "[I") ∈ lw_all := lw_g (lw_at lw_m16 165 rfl) rfl
theorem q4120 : (Jvm.Cond.soleField "ScholarsPressModel$Setting" "newPage") ∈ lw_all := lw_g (lw_at lw_m16 166 rfl) rfl
theorem q4121 : (Jvm.Cond.laysFinal "ScholarsPressModel$Setting" "ScholarsPressModel$Setting" "newFirst" "[I") ∈ lw_all := lw_g (lw_at lw_m16 167 rfl) rfl
theorem q4122 : (Jvm.Cond.soleField "ScholarsPressModel$Setting" "newFirst") ∈ lw_all := lw_g (lw_at lw_m16 168 rfl) rfl
theorem q4123 : (Jvm.Cond.laysFinal "ScholarsPressModel$Setting" "ScholarsPressModel$Setting" "newLast" "[I") ∈ lw_all := lw_g (lw_at lw_m16 169 rfl) rfl
theorem q4124 : (Jvm.Cond.soleField "ScholarsPressModel$Setting" "newLast") ∈ lw_all := lw_g (lw_at lw_m16 170 rfl) rfl
theorem q4125 : (Jvm.Cond.laysFinal "ScholarsPressModel$Setting" "ScholarsPressModel$Setting" "use" "[I") ∈ lw_all := lw_g (lw_at lw_m16 171 rfl) rfl
theorem q4126 : (Jvm.Cond.soleField "ScholarsPressModel$Setting" "use") ∈ lw_all := lw_g (lw_at lw_m16 172 rfl) rfl
theorem q4127 : (Jvm.Cond.laysFinal "ScholarsPressModel$Setting" "ScholarsPressModel$Setting" "useOf" "[I") ∈ lw_all := lw_g (lw_at lw_m16 173 rfl) rfl
theorem q4128 : (Jvm.Cond.soleField "ScholarsPressModel$Setting" "useOf") ∈ lw_all := lw_g (lw_at lw_m16 174 rfl) rfl
theorem q4129 : (Jvm.Cond.lays "ScholarsPressModel$Setting" "ScholarsPressModel$Setting" "pieces" "I") ∈ lw_all := lw_g (lw_at lw_m16 175 rfl) rfl
theorem q4130 : (Jvm.Cond.soleField "ScholarsPressModel$Setting" "pieces") ∈ lw_all := lw_g (lw_at lw_m16 176 rfl) rfl
theorem q4131 : (Jvm.Cond.laysFinal "ScholarsPressModel$Setting" "ScholarsPressModel$Setting" "pieceNote" "[I") ∈ lw_all := lw_g (lw_at lw_m16 177 rfl) rfl
theorem q4132 : (Jvm.Cond.soleField "ScholarsPressModel$Setting" "pieceNote") ∈ lw_all := lw_g (lw_at lw_m16 178 rfl) rfl
theorem q4133 : (Jvm.Cond.laysFinal "ScholarsPressModel$Setting" "ScholarsPressModel$Setting" "pieceFrom" "[I") ∈ lw_all := lw_g (lw_at lw_m16 179 rfl) rfl
theorem q4134 : (Jvm.Cond.soleField "ScholarsPressModel$Setting" "pieceFrom") ∈ lw_all := lw_g (lw_at lw_m16 180 rfl) rfl
theorem q4135 : (Jvm.Cond.laysFinal "ScholarsPressModel$Setting" "ScholarsPressModel$Setting" "pieceTo" "[I") ∈ lw_all := lw_g (lw_at lw_m16 181 rfl) rfl
theorem q4136 : (Jvm.Cond.soleField "ScholarsPressModel$Setting" "pieceTo") ∈ lw_all := lw_g (lw_at lw_m16 182 rfl) rfl
theorem q4137 : (Jvm.Cond.laysFinal "ScholarsPressModel$Setting" "ScholarsPressModel$Setting" "pieceColumn" "[I") ∈ lw_all := lw_g (lw_at lw_m16 183 rfl) rfl
theorem q4138 : (Jvm.Cond.soleField "ScholarsPressModel$Setting" "pieceColumn") ∈ lw_all := lw_g (lw_at lw_m16 184 rfl) rfl
theorem q4139 : (Jvm.Cond.laysFinal "ScholarsPressModel$Setting" "ScholarsPressModel$Setting" "pieceTop" "[J") ∈ lw_all := lw_g (lw_at lw_m16 185 rfl) rfl
theorem q4140 : (Jvm.Cond.soleField "ScholarsPressModel$Setting" "pieceTop") ∈ lw_all := lw_g (lw_at lw_m16 186 rfl) rfl
theorem q4141 : (Jvm.Cond.lays "ScholarsPressModel$Setting" "ScholarsPressModel$Setting" "columns" "I") ∈ lw_all := lw_g (lw_at lw_m16 187 rfl) rfl
theorem q4142 : (Jvm.Cond.soleField "ScholarsPressModel$Setting" "columns") ∈ lw_all := lw_g (lw_at lw_m16 188 rfl) rfl
theorem q4143 : (Jvm.Cond.lays "ScholarsPressModel$Setting" "ScholarsPressModel$Setting" "pagesInAll" "I") ∈ lw_all := lw_g (lw_at lw_m16 189 rfl) rfl
theorem q4144 : (Jvm.Cond.soleField "ScholarsPressModel$Setting" "pagesInAll") ∈ lw_all := lw_g (lw_at lw_m16 190 rfl) rfl
theorem q4145 : (Jvm.Cond.lays "ScholarsPressModel$Setting" "ScholarsPressModel$Setting" "wavering" "I") ∈ lw_all := lw_g (lw_at lw_m16 191 rfl) rfl
theorem q4146 : (Jvm.Cond.soleField "ScholarsPressModel$Setting" "wavering") ∈ lw_all := lw_g (lw_at lw_m16 192 rfl) rfl
theorem q4147 : (Jvm.Cond.lays "ScholarsPressModel$Setting" "ScholarsPressModel$Setting" "fresh" "I") ∈ lw_all := lw_g (lw_at lw_m16 193 rfl) rfl
theorem q4148 : (Jvm.Cond.soleField "ScholarsPressModel$Setting" "fresh") ∈ lw_all := lw_g (lw_at lw_m16 194 rfl) rfl
theorem q4149 : (Jvm.Cond.lays "ScholarsPressModel$Setting" "ScholarsPressModel$Setting" "rounds" "I") ∈ lw_all := lw_g (lw_at lw_m16 195 rfl) rfl
theorem q4150 : (Jvm.Cond.soleField "ScholarsPressModel$Setting" "rounds") ∈ lw_all := lw_g (lw_at lw_m16 196 rfl) rfl
theorem q4151 : (Jvm.Cond.laysFinal "ScholarsPressModel$Setting" "ScholarsPressModel$Setting" "wavers" "[Z") ∈ lw_all := lw_g (lw_at lw_m16 197 rfl) rfl
theorem q4152 : (Jvm.Cond.soleField "ScholarsPressModel$Setting" "wavers") ∈ lw_all := lw_g (lw_at lw_m16 198 rfl) rfl
theorem q4153 : (Jvm.Cond.lays "ScholarsPressModel$Setting" "ScholarsPressModel$Setting" "parFrom" "I") ∈ lw_all := lw_g (lw_at lw_m16 199 rfl) rfl
theorem q4154 : (Jvm.Cond.soleField "ScholarsPressModel$Setting" "parFrom") ∈ lw_all := lw_g (lw_at lw_m16 200 rfl) rfl
theorem q4155 : (Jvm.Cond.lays "ScholarsPressModel$Setting" "ScholarsPressModel$Setting" "blankSize" "I") ∈ lw_all := lw_g (lw_at lw_m16 201 rfl) rfl
theorem q4156 : (Jvm.Cond.soleField "ScholarsPressModel$Setting" "blankSize") ∈ lw_all := lw_g (lw_at lw_m16 202 rfl) rfl
theorem q4157 : (Jvm.Cond.laysFinal "ScholarsPressModel$Setting" "ScholarsPressModel$Setting" "marks" "[Z") ∈ lw_all := lw_g (lw_at lw_m16 203 rfl) rfl
theorem q4158 : (Jvm.Cond.soleField "ScholarsPressModel$Setting" "marks") ∈ lw_all := lw_g (lw_at lw_m16 204 rfl) rfl
theorem q4159 : (Jvm.Cond.lays "ScholarsPressModel$Setting" "ScholarsPressModel$Setting" "gap" "I") ∈ lw_all := lw_g (lw_at lw_m16 205 rfl) rfl
theorem q4160 : (Jvm.Cond.soleField "ScholarsPressModel$Setting" "gap") ∈ lw_all := lw_g (lw_at lw_m16 206 rfl) rfl
theorem q4161 : (Jvm.Cond.laysFinal "ScholarsPressModel$Setting" "ScholarsPressModel$Setting" "sumPart" "[J") ∈ lw_all := lw_g (lw_at lw_m16 207 rfl) rfl
theorem q4162 : (Jvm.Cond.soleField "ScholarsPressModel$Setting" "sumPart") ∈ lw_all := lw_g (lw_at lw_m16 208 rfl) rfl
theorem q4163 : (Jvm.Cond.laysFinal "ScholarsPressModel$Setting" "ScholarsPressModel$Setting" "sumGlue" "[J") ∈ lw_all := lw_g (lw_at lw_m16 209 rfl) rfl
theorem q4164 : (Jvm.Cond.soleField "ScholarsPressModel$Setting" "sumGlue") ∈ lw_all := lw_g (lw_at lw_m16 210 rfl) rfl
theorem q4165 : (Jvm.Cond.laysFinal "ScholarsPressModel$Setting" "ScholarsPressModel$Setting" "sumStretch" "[J") ∈ lw_all := lw_g (lw_at lw_m16 211 rfl) rfl
theorem q4166 : (Jvm.Cond.soleField "ScholarsPressModel$Setting" "sumStretch") ∈ lw_all := lw_g (lw_at lw_m16 212 rfl) rfl
theorem q4167 : (Jvm.Cond.laysFinal "ScholarsPressModel$Setting" "ScholarsPressModel$Setting" "sumShrink" "[J") ∈ lw_all := lw_g (lw_at lw_m16 213 rfl) rfl
theorem q4168 : (Jvm.Cond.soleField "ScholarsPressModel$Setting" "sumShrink") ∈ lw_all := lw_g (lw_at lw_m16 214 rfl) rfl
theorem q4169 : (Jvm.Cond.laysFinal "ScholarsPressModel$Setting" "ScholarsPressModel$Setting" "best" "[J") ∈ lw_all := lw_g (lw_at lw_m16 215 rfl) rfl
theorem q4170 : (Jvm.Cond.soleField "ScholarsPressModel$Setting" "best") ∈ lw_all := lw_g (lw_at lw_m16 216 rfl) rfl
theorem q4171 : (Jvm.Cond.laysFinal "ScholarsPressModel$Setting" "ScholarsPressModel$Setting" "reached" "[Z") ∈ lw_all := lw_g (lw_at lw_m16 217 rfl) rfl
theorem q4172 : (Jvm.Cond.soleField "ScholarsPressModel$Setting" "reached") ∈ lw_all := lw_g (lw_at lw_m16 218 rfl) rfl
theorem q4173 : (Jvm.Cond.laysFinal "ScholarsPressModel$Setting" "ScholarsPressModel$Setting" "bestFrom" "[I") ∈ lw_all := lw_g (lw_at lw_m16 219 rfl) rfl
theorem q4174 : (Jvm.Cond.soleField "ScholarsPressModel$Setting" "bestFrom") ∈ lw_all := lw_g (lw_at lw_m16 220 rfl) rfl
theorem q4175 : (Jvm.Cond.laysFinal "ScholarsPressModel$Setting" "ScholarsPressModel$Setting" "bestClass" "[I") ∈ lw_all := lw_g (lw_at lw_m16 221 rfl) rfl
theorem q4176 : (Jvm.Cond.soleField "ScholarsPressModel$Setting" "bestClass") ∈ lw_all := lw_g (lw_at lw_m16 222 rfl) rfl
theorem q4177 : (Jvm.Cond.lays "ScholarsPressModel$Setting" "ScholarsPressModel$Setting" "n" "J") ∈ lw_all := lw_g (lw_at lw_m16 223 rfl) rfl
theorem q4178 : (Jvm.Cond.soleField "ScholarsPressModel$Setting" "n") ∈ lw_all := lw_g (lw_at lw_m16 224 rfl) rfl
theorem q4179 : (Jvm.Cond.lays "ScholarsPressModel$Setting" "ScholarsPressModel$Setting" "l" "J") ∈ lw_all := lw_g (lw_at lw_m16 225 rfl) rfl
theorem q4180 : (Jvm.Cond.soleField "ScholarsPressModel$Setting" "l") ∈ lw_all := lw_g (lw_at lw_m16 226 rfl) rfl
theorem q4181 : (Jvm.Cond.lays "ScholarsPressModel$Setting" "ScholarsPressModel$Setting" "a" "J") ∈ lw_all := lw_g (lw_at lw_m16 227 rfl) rfl
theorem q4182 : (Jvm.Cond.soleField "ScholarsPressModel$Setting" "a") ∈ lw_all := lw_g (lw_at lw_m16 228 rfl) rfl
theorem q4183 : (Jvm.Cond.lays "ScholarsPressModel$Setting" "ScholarsPressModel$Setting" "z" "J") ∈ lw_all := lw_g (lw_at lw_m16 229 rfl) rfl
theorem q4184 : (Jvm.Cond.soleField "ScholarsPressModel$Setting" "z") ∈ lw_all := lw_g (lw_at lw_m16 230 rfl) rfl
theorem q4185 : (Jvm.Cond.lays "ScholarsPressModel$Setting" "ScholarsPressModel$Setting" "itsCost" "J") ∈ lw_all := lw_g (lw_at lw_m16 231 rfl) rfl
theorem q4186 : (Jvm.Cond.soleField "ScholarsPressModel$Setting" "itsCost") ∈ lw_all := lw_g (lw_at lw_m16 232 rfl) rfl
theorem q4187 : (Jvm.Cond.lays "ScholarsPressModel$Setting" "ScholarsPressModel$Setting" "\x72" "I") ∈ lw_all := lw_g (lw_at lw_m16 233 rfl) rfl
theorem q4188 : (Jvm.Cond.soleField "ScholarsPressModel$Setting" "\x72") ∈ lw_all := lw_g (lw_at lw_m16 234 rfl) rfl
theorem q4189 : (Jvm.Cond.lays "ScholarsPressModel$Setting" "ScholarsPressModel$Setting" "bad" "I") ∈ lw_all := lw_g (lw_at lw_m16 235 rfl) rfl
theorem q4190 : (Jvm.Cond.soleField "ScholarsPressModel$Setting" "bad") ∈ lw_all := lw_g (lw_at lw_m16 236 rfl) rfl
theorem q4191 : (Jvm.Cond.lays "ScholarsPressModel$Setting" "ScholarsPressModel$Setting" "itsClass" "I") ∈ lw_all := lw_g (lw_at lw_m16 237 rfl) rfl
theorem q4192 : (Jvm.Cond.soleField "ScholarsPressModel$Setting" "itsClass") ∈ lw_all := lw_g (lw_at lw_m16 238 rfl) rfl
theorem q4193 : (Jvm.Cond.lays "ScholarsPressModel$Setting" "ScholarsPressModel$Setting" "tooLong" "Z") ∈ lw_all := lw_g (lw_at lw_m16 239 rfl) rfl
theorem q4194 : (Jvm.Cond.soleField "ScholarsPressModel$Setting" "tooLong") ∈ lw_all := lw_g (lw_at lw_m17 0 rfl) rfl
theorem q4195 : (Jvm.Cond.laysFinal "ScholarsPressModel$Setting" "ScholarsPressModel$Setting" "parLine" "[I") ∈ lw_all := lw_g (lw_at lw_m17 1 rfl) rfl
theorem q4196 : (Jvm.Cond.soleField "ScholarsPressModel$Setting" "parLine") ∈ lw_all := lw_g (lw_at lw_m17 2 rfl) rfl
theorem q4197 : (Jvm.Cond.laysFinal "ScholarsPressModel$Setting" "ScholarsPressModel$Setting" "high" "[J") ∈ lw_all := lw_g (lw_at lw_m17 3 rfl) rfl
theorem q4198 : (Jvm.Cond.soleField "ScholarsPressModel$Setting" "high") ∈ lw_all := lw_g (lw_at lw_m17 4 rfl) rfl
theorem q4199 : (Jvm.Cond.laysFinal "ScholarsPressModel$Setting" "ScholarsPressModel$Setting" "notesTo" "[I") ∈ lw_all := lw_g (lw_at lw_m17 5 rfl) rfl
theorem q4200 : (Jvm.Cond.soleField "ScholarsPressModel$Setting" "notesTo") ∈ lw_all := lw_g (lw_at lw_m17 6 rfl) rfl
theorem q4201 : (Jvm.Cond.laysFinal "ScholarsPressModel$Setting" "ScholarsPressModel$Setting" "floatsTo" "[I") ∈ lw_all := lw_g (lw_at lw_m17 7 rfl) rfl
theorem q4202 : (Jvm.Cond.soleField "ScholarsPressModel$Setting" "floatsTo") ∈ lw_all := lw_g (lw_at lw_m17 8 rfl) rfl
theorem q4203 : (Jvm.Cond.laysFinal "ScholarsPressModel$Setting" "ScholarsPressModel$Setting" "head" "[I") ∈ lw_all := lw_g (lw_at lw_m17 9 rfl) rfl
theorem q4204 : (Jvm.Cond.soleField "ScholarsPressModel$Setting" "head") ∈ lw_all := lw_g (lw_at lw_m17 10 rfl) rfl
theorem q4205 : (Jvm.Cond.lays "ScholarsPressModel$Setting" "ScholarsPressModel$Setting" "states" "I") ∈ lw_all := lw_g (lw_at lw_m17 11 rfl) rfl
theorem q4206 : (Jvm.Cond.soleField "ScholarsPressModel$Setting" "states") ∈ lw_all := lw_g (lw_at lw_m17 12 rfl) rfl
theorem q4207 : (Jvm.Cond.lays "ScholarsPressModel$Setting" "ScholarsPressModel$Setting" "stateLine" "[I") ∈ lw_all := lw_g (lw_at lw_m17 13 rfl) rfl
theorem q4208 : (Jvm.Cond.soleField "ScholarsPressModel$Setting" "stateLine") ∈ lw_all := lw_g (lw_at lw_m17 14 rfl) rfl
theorem q4209 : (Jvm.Cond.lays "ScholarsPressModel$Setting" "ScholarsPressModel$Setting" "stateFloat" "[I") ∈ lw_all := lw_g (lw_at lw_m17 15 rfl) rfl
theorem q4210 : (Jvm.Cond.soleField "ScholarsPressModel$Setting" "stateFloat") ∈ lw_all := lw_g (lw_at lw_m17 16 rfl) rfl
theorem q4211 : (Jvm.Cond.lays "ScholarsPressModel$Setting" "ScholarsPressModel$Setting" "stateRest" "[I") ∈ lw_all := lw_g (lw_at lw_m17 17 rfl) rfl
theorem q4212 : (Jvm.Cond.soleField "ScholarsPressModel$Setting" "stateRest") ∈ lw_all := lw_g (lw_at lw_m17 18 rfl) rfl
theorem q4213 : (Jvm.Cond.lays "ScholarsPressModel$Setting" "ScholarsPressModel$Setting" "statePrev" "[I") ∈ lw_all := lw_g (lw_at lw_m17 19 rfl) rfl
theorem q4214 : (Jvm.Cond.soleField "ScholarsPressModel$Setting" "statePrev") ∈ lw_all := lw_g (lw_at lw_m17 20 rfl) rfl
theorem q4215 : (Jvm.Cond.lays "ScholarsPressModel$Setting" "ScholarsPressModel$Setting" "stateNext" "[I") ∈ lw_all := lw_g (lw_at lw_m17 21 rfl) rfl
theorem q4216 : (Jvm.Cond.soleField "ScholarsPressModel$Setting" "stateNext") ∈ lw_all := lw_g (lw_at lw_m17 22 rfl) rfl
theorem q4217 : (Jvm.Cond.lays "ScholarsPressModel$Setting" "ScholarsPressModel$Setting" "stateCost" "[J") ∈ lw_all := lw_g (lw_at lw_m17 23 rfl) rfl
theorem q4218 : (Jvm.Cond.soleField "ScholarsPressModel$Setting" "stateCost") ∈ lw_all := lw_g (lw_at lw_m17 24 rfl) rfl
theorem q4219 : (Jvm.Cond.lays "ScholarsPressModel$Setting" "ScholarsPressModel$Setting" "toFloat" "I") ∈ lw_all := lw_g (lw_at lw_m17 25 rfl) rfl
theorem q4220 : (Jvm.Cond.soleField "ScholarsPressModel$Setting" "toFloat") ∈ lw_all := lw_g (lw_at lw_m17 26 rfl) rfl
theorem q4221 : (Jvm.Cond.lays "ScholarsPressModel$Setting" "ScholarsPressModel$Setting" "toRest" "I") ∈ lw_all := lw_g (lw_at lw_m17 27 rfl) rfl
theorem q4222 : (Jvm.Cond.soleField "ScholarsPressModel$Setting" "toRest") ∈ lw_all := lw_g (lw_at lw_m17 28 rfl) rfl
theorem q4223 : (Jvm.Cond.lays "ScholarsPressModel$Setting" "ScholarsPressModel$Setting" "placedRest" "I") ∈ lw_all := lw_g (lw_at lw_m17 29 rfl) rfl
theorem q4224 : (Jvm.Cond.soleField "ScholarsPressModel$Setting" "placedRest") ∈ lw_all := lw_g (lw_at lw_m17 30 rfl) rfl
theorem q4225 : (Jvm.Cond.lays "ScholarsPressModel$Setting" "ScholarsPressModel$Setting" "placedLast" "I") ∈ lw_all := lw_g (lw_at lw_m17 31 rfl) rfl
theorem q4226 : (Jvm.Cond.soleField "ScholarsPressModel$Setting" "placedLast") ∈ lw_all := lw_g (lw_at lw_m17 32 rfl) rfl
theorem q4227 : (Jvm.Cond.lays "ScholarsPressModel$Setting" "ScholarsPressModel$Setting" "filled" "J") ∈ lw_all := lw_g (lw_at lw_m17 33 rfl) rfl
theorem q4228 : (Jvm.Cond.soleField "ScholarsPressModel$Setting" "filled") ∈ lw_all := lw_g (lw_at lw_m17 34 rfl) rfl
theorem q4229 : (Jvm.Cond.laysFinal "ScholarsPressModel$Setting" "ScholarsPressModel$Setting" "way" "[I") ∈ lw_all := lw_g (lw_at lw_m17 35 rfl) rfl
theorem q4230 : (Jvm.Cond.soleField "ScholarsPressModel$Setting" "way") ∈ lw_all := lw_g (lw_at lw_m17 36 rfl) rfl
theorem q4231 : (Jvm.Cond.laysFinal "ScholarsPressModel$Setting" "ScholarsPressModel$Setting" "spans" "[Z") ∈ lw_all := lw_g (lw_at lw_m17 37 rfl) rfl
theorem q4232 : (Jvm.Cond.soleField "ScholarsPressModel$Setting" "spans") ∈ lw_all := lw_g (lw_at lw_m17 38 rfl) rfl
theorem q4233 : (Jvm.Cond.laysFinal "ScholarsPressModel$Setting" "ScholarsPressModel$Setting" "newSpans" "[Z") ∈ lw_all := lw_g (lw_at lw_m17 39 rfl) rfl
theorem q4234 : (Jvm.Cond.soleField "ScholarsPressModel$Setting" "newSpans") ∈ lw_all := lw_g (lw_at lw_m17 40 rfl) rfl
theorem q4235 : (Jvm.Cond.superclass "ScholarsPressModel$Setting" "java/lang/Object") ∈ lw_all := lw_g (lw_at lw_m17 41 rfl) rfl
theorem q4662 : (Jvm.Cond.instanceMethod ({ cls := "ScholarsPressModel$Setting", name := "make", desc := "(LScholarsPressModel$Source;LScholarsPressModel$Style;LScholarsPressModel$Letters;LScholarsPressModel$Parting;I)I" } : Jvm.MethodName)) ∈ lw_all := lw_g (lw_at lw_m18 228 rfl) rfl
theorem q4663 : (Jvm.Cond.selects "ScholarsPressModel$Setting" ({ cls := "ScholarsPressModel$Setting", name := "make", desc := "(LScholarsPressModel$Source;LScholarsPressModel$Style;LScholarsPressModel$Letters;LScholarsPressModel$Parting;I)I" } : Jvm.MethodName) ({ cls := "ScholarsPressModel$Setting", name := "make", desc := "(LScholarsPressModel$Source;LScholarsPressModel$Style;LScholarsPressModel$Letters;LScholarsPressModel$Parting;I)I" } : Jvm.MethodName)) ∈ lw_all := lw_g (lw_at lw_m18 229 rfl) rfl
theorem q4664 : (Jvm.Cond.code ({ cls := "ScholarsPressModel$Setting", name := "make", desc := "(LScholarsPressModel$Source;LScholarsPressModel$Style;LScholarsPressModel$Letters;LScholarsPressModel$Parting;I)I" } : Jvm.MethodName) prog_26_method_2_code (8 : Nat) (Option.some Jvm.ClassFile.FieldType.int)) ∈ lw_all := lw_g (lw_at lw_m18 230 rfl) rfl
theorem q4665 : (Jvm.Cond.methodLink "ScholarsPressModel$Setting" (334 : Nat) ({ cls := "ScholarsPressModel$Tree", name := "make", desc := "(LScholarsPressModel$Source;LScholarsPressModel$Style;)V" } : Jvm.MethodName)) ∈ lw_all := lw_g (lw_at lw_m18 231 rfl) rfl
theorem q4726 : (Jvm.Cond.methodLink "ScholarsPressModel$Setting" (357 : Nat) ({ cls := "ScholarsPressModel$Setting", name := "findEntries", desc := "()V" } : Jvm.MethodName)) ∈ lw_all := lw_g (lw_at lw_m19 52 rfl) rfl
theorem q4727 : (Jvm.Cond.privateMethod ({ cls := "ScholarsPressModel$Setting", name := "findEntries", desc := "()V" } : Jvm.MethodName)) ∈ lw_tbl := lw_at lw_m19 53 rfl
theorem q4728 : (Jvm.Cond.instanceMethod ({ cls := "ScholarsPressModel$Setting", name := "findEntries", desc := "()V" } : Jvm.MethodName)) ∈ lw_all := lw_g (lw_at lw_m19 54 rfl) rfl
theorem q4729 : (Jvm.Cond.code ({ cls := "ScholarsPressModel$Setting", name := "findEntries", desc := "()V" } : Jvm.MethodName) prog_26_method_9_code (7 : Nat) (Option.none : Option Jvm.ClassFile.FieldType)) ∈ lw_all := lw_g (lw_at lw_m19 55 rfl) rfl
theorem q4730 : (Jvm.Cond.methodLink "ScholarsPressModel$Setting" (426 : Nat) ({ cls := "ScholarsPressModel$Tree", name := "show", desc := "(I)I" } : Jvm.MethodName)) ∈ lw_all := lw_g (lw_at lw_m19 56 rfl) rfl
theorem q4731 : (Jvm.Cond.stringRef "ScholarsPressModel$Setting" (429 : Nat) "at") ∈ lw_tbl := lw_at lw_m19 57 rfl
theorem q4732 : (Jvm.Cond.methodLink "ScholarsPressModel$Setting" (431 : Nat) ({ cls := "ScholarsPressModel$Source", name := "fieldOf", desc := "(ILjava/lang/String;)I" } : Jvm.MethodName)) ∈ lw_all := lw_g (lw_at lw_m19 58 rfl) rfl
theorem q4736 : (Jvm.Cond.methodLink "ScholarsPressModel$Setting" (441 : Nat) ({ cls := "ScholarsPressModel$Tree", name := "title", desc := "(I)I" } : Jvm.MethodName)) ∈ lw_all := lw_g (lw_at lw_m19 62 rfl) rfl
theorem q4775 : (Jvm.Cond.methodLink "ScholarsPressModel$Setting" (444 : Nat) ({ cls := "ScholarsPressModel$Tree", name := "titleByte", desc := "(I)I" } : Jvm.MethodName)) ∈ lw_all := lw_g (lw_at lw_m19 101 rfl) rfl
theorem q4779 : (Jvm.Cond.methodLink "ScholarsPressModel$Setting" (402 : Nat) ({ cls := "ScholarsPressModel$Setting", name := "entryLong", desc := "(I)I" } : Jvm.MethodName)) ∈ lw_all := lw_g (lw_at lw_m19 105 rfl) rfl
theorem q4780 : (Jvm.Cond.privateMethod ({ cls := "ScholarsPressModel$Setting", name := "entryLong", desc := "(I)I" } : Jvm.MethodName)) ∈ lw_tbl := lw_at lw_m19 106 rfl
theorem q4781 : (Jvm.Cond.instanceMethod ({ cls := "ScholarsPressModel$Setting", name := "entryLong", desc := "(I)I" } : Jvm.MethodName)) ∈ lw_all := lw_g (lw_at lw_m19 107 rfl) rfl
theorem q4782 : (Jvm.Cond.code ({ cls := "ScholarsPressModel$Setting", name := "entryLong", desc := "(I)I" } : Jvm.MethodName) prog_26_method_6_code (2 : Nat) (Option.some Jvm.ClassFile.FieldType.int)) ∈ lw_all := lw_g (lw_at lw_m19 108 rfl) rfl
theorem q4783 : (Jvm.Cond.methodLink "ScholarsPressModel$Setting" (447 : Nat) ({ cls := "ScholarsPressModel$Setting", name := "sameEntry", desc := "(II)Z" } : Jvm.MethodName)) ∈ lw_all := lw_g (lw_at lw_m19 109 rfl) rfl
theorem q4784 : (Jvm.Cond.privateMethod ({ cls := "ScholarsPressModel$Setting", name := "sameEntry", desc := "(II)Z" } : Jvm.MethodName)) ∈ lw_tbl := lw_at lw_m19 110 rfl
theorem q4785 : (Jvm.Cond.instanceMethod ({ cls := "ScholarsPressModel$Setting", name := "sameEntry", desc := "(II)Z" } : Jvm.MethodName)) ∈ lw_all := lw_g (lw_at lw_m19 111 rfl) rfl
theorem q4786 : (Jvm.Cond.code ({ cls := "ScholarsPressModel$Setting", name := "sameEntry", desc := "(II)Z" } : Jvm.MethodName) prog_26_method_7_code (4 : Nat) (Option.some Jvm.ClassFile.FieldType.boolean)) ∈ lw_all := lw_g (lw_at lw_m19 112 rfl) rfl
theorem q4787 : (Jvm.Cond.methodLink "ScholarsPressModel$Setting" (405 : Nat) ({ cls := "ScholarsPressModel$Setting", name := "entryByte", desc := "(II)I" } : Jvm.MethodName)) ∈ lw_all := lw_g (lw_at lw_m19 113 rfl) rfl
theorem q4788 : (Jvm.Cond.privateMethod ({ cls := "ScholarsPressModel$Setting", name := "entryByte", desc := "(II)I" } : Jvm.MethodName)) ∈ lw_tbl := lw_at lw_m19 114 rfl
theorem q4789 : (Jvm.Cond.instanceMethod ({ cls := "ScholarsPressModel$Setting", name := "entryByte", desc := "(II)I" } : Jvm.MethodName)) ∈ lw_all := lw_g (lw_at lw_m19 115 rfl) rfl
theorem q4790 : (Jvm.Cond.code ({ cls := "ScholarsPressModel$Setting", name := "entryByte", desc := "(II)I" } : Jvm.MethodName) prog_26_method_5_code (3 : Nat) (Option.some Jvm.ClassFile.FieldType.int)) ∈ lw_all := lw_g (lw_at lw_m19 116 rfl) rfl
theorem q4791 : (Jvm.Cond.classLink "ScholarsPressModel$Setting" (451 : Nat) "ScholarsPressModel$Beyond") ∈ lw_all := lw_g (lw_at lw_m19 117 rfl) rfl
theorem q4800 : (Jvm.Cond.methodLinkNest "ScholarsPressModel$Setting" (453 : Nat) ({ cls := "ScholarsPressModel$Beyond", name := "<init>", desc := "()V" } : Jvm.MethodName) "ScholarsPressModel") ∈ lw_tbl := lw_at lw_m19 126 rfl
theorem q4806 : (Jvm.Cond.methodLink "ScholarsPressModel$Setting" (454 : Nat) ({ cls := "ScholarsPressModel$Setting", name := "isBefore", desc := "(II)Z" } : Jvm.MethodName)) ∈ lw_all := lw_g (lw_at lw_m19 132 rfl) rfl
theorem q4807 : (Jvm.Cond.privateMethod ({ cls := "ScholarsPressModel$Setting", name := "isBefore", desc := "(II)Z" } : Jvm.MethodName)) ∈ lw_tbl := lw_at lw_m19 133 rfl
theorem q4808 : (Jvm.Cond.instanceMethod ({ cls := "ScholarsPressModel$Setting", name := "isBefore", desc := "(II)Z" } : Jvm.MethodName)) ∈ lw_all := lw_g (lw_at lw_m19 134 rfl) rfl
theorem q4809 : (Jvm.Cond.code ({ cls := "ScholarsPressModel$Setting", name := "isBefore", desc := "(II)Z" } : Jvm.MethodName) prog_26_method_8_code (7 : Nat) (Option.some Jvm.ClassFile.FieldType.boolean)) ∈ lw_all := lw_g (lw_at lw_m19 135 rfl) rfl
theorem q4810 : (Jvm.Cond.methodLink "ScholarsPressModel$Setting" (409 : Nat) ({ cls := "java/lang/Math", name := "min", desc := "(II)I" } : Jvm.MethodName)) ∈ lw_all := lw_g (lw_at lw_m19 136 rfl) rfl
theorem q4813 : (Jvm.Cond.methodLinkNest "ScholarsPressModel$Setting" (414 : Nat) ({ cls := "ScholarsPressModel", name := "small", desc := "(I)I" } : Jvm.MethodName) "ScholarsPressModel") ∈ lw_tbl := lw_at lw_m19 139 rfl
theorem q4816 : (Jvm.Cond.methodLink "ScholarsPressModel$Setting" (360 : Nat) ({ cls := "ScholarsPressModel$Setting", name := "round", desc := "()V" } : Jvm.MethodName)) ∈ lw_all := lw_g (lw_at lw_m19 142 rfl) rfl
theorem q4817 : (Jvm.Cond.privateMethod ({ cls := "ScholarsPressModel$Setting", name := "round", desc := "()V" } : Jvm.MethodName)) ∈ lw_tbl := lw_at lw_m19 143 rfl
theorem q4818 : (Jvm.Cond.instanceMethod ({ cls := "ScholarsPressModel$Setting", name := "round", desc := "()V" } : Jvm.MethodName)) ∈ lw_all := lw_g (lw_at lw_m19 144 rfl) rfl
theorem q4819 : (Jvm.Cond.code ({ cls := "ScholarsPressModel$Setting", name := "round", desc := "()V" } : Jvm.MethodName) prog_26_method_3_code (2 : Nat) (Option.none : Option Jvm.ClassFile.FieldType)) ∈ lw_all := lw_g (lw_at lw_m19 145 rfl) rfl
theorem q4820 : (Jvm.Cond.methodLink "ScholarsPressModel$Setting" (369 : Nat) ({ cls := "ScholarsPressModel$Setting", name := "build", desc := "()V" } : Jvm.MethodName)) ∈ lw_all := lw_g (lw_at lw_m19 146 rfl) rfl
theorem q4821 : (Jvm.Cond.privateMethod ({ cls := "ScholarsPressModel$Setting", name := "build", desc := "()V" } : Jvm.MethodName)) ∈ lw_tbl := lw_at lw_m19 147 rfl
theorem q4822 : (Jvm.Cond.instanceMethod ({ cls := "ScholarsPressModel$Setting", name := "build", desc := "()V" } : Jvm.MethodName)) ∈ lw_all := lw_g (lw_at lw_m19 148 rfl) rfl
theorem q4823 : (Jvm.Cond.code ({ cls := "ScholarsPressModel$Setting", name := "build", desc := "()V" } : Jvm.MethodName) prog_26_method_26_code (4 : Nat) (Option.none : Option Jvm.ClassFile.FieldType)) ∈ lw_all := lw_g (lw_at lw_m19 149 rfl) rfl
theorem q4824 : (Jvm.Cond.methodLink "ScholarsPressModel$Setting" (480 : Nat) ({ cls := "ScholarsPressModel$Setting", name := "begin", desc := "()V" } : Jvm.MethodName)) ∈ lw_all := lw_g (lw_at lw_m19 150 rfl) rfl
theorem q4825 : (Jvm.Cond.privateMethod ({ cls := "ScholarsPressModel$Setting", name := "begin", desc := "()V" } : Jvm.MethodName)) ∈ lw_tbl := lw_at lw_m19 151 rfl
theorem q4826 : (Jvm.Cond.instanceMethod ({ cls := "ScholarsPressModel$Setting", name := "begin", desc := "()V" } : Jvm.MethodName)) ∈ lw_all := lw_g (lw_at lw_m19 152 rfl) rfl
theorem q4827 : (Jvm.Cond.code ({ cls := "ScholarsPressModel$Setting", name := "begin", desc := "()V" } : Jvm.MethodName) prog_26_method_11_code (1 : Nat) (Option.none : Option Jvm.ClassFile.FieldType)) ∈ lw_all := lw_g (lw_at lw_m19 153 rfl) rfl
theorem q4828 : (Jvm.Cond.methodLink "ScholarsPressModel$Setting" (607 : Nat) ({ cls := "ScholarsPressModel$Setting", name := "opens", desc := "(I)Z" } : Jvm.MethodName)) ∈ lw_all := lw_g (lw_at lw_m19 154 rfl) rfl
theorem q4829 : (Jvm.Cond.privateMethod ({ cls := "ScholarsPressModel$Setting", name := "opens", desc := "(I)Z" } : Jvm.MethodName)) ∈ lw_tbl := lw_at lw_m19 155 rfl
theorem q4830 : (Jvm.Cond.instanceMethod ({ cls := "ScholarsPressModel$Setting", name := "opens", desc := "(I)Z" } : Jvm.MethodName)) ∈ lw_all := lw_g (lw_at lw_m19 156 rfl) rfl
theorem q4831 : (Jvm.Cond.code ({ cls := "ScholarsPressModel$Setting", name := "opens", desc := "(I)Z" } : Jvm.MethodName) prog_26_method_27_code (2 : Nat) (Option.some Jvm.ClassFile.FieldType.boolean)) ∈ lw_all := lw_g (lw_at lw_m19 157 rfl) rfl
theorem q4832 : (Jvm.Cond.methodLink "ScholarsPressModel$Setting" (621 : Nat) ({ cls := "ScholarsPressModel$Setting", name := "blockOf", desc := "(I)I" } : Jvm.MethodName)) ∈ lw_all := lw_g (lw_at lw_m19 158 rfl) rfl
theorem q4833 : (Jvm.Cond.privateMethod ({ cls := "ScholarsPressModel$Setting", name := "blockOf", desc := "(I)I" } : Jvm.MethodName)) ∈ lw_tbl := lw_at lw_m19 159 rfl
theorem q4834 : (Jvm.Cond.instanceMethod ({ cls := "ScholarsPressModel$Setting", name := "blockOf", desc := "(I)I" } : Jvm.MethodName)) ∈ lw_all := lw_g (lw_at lw_m19 160 rfl) rfl
theorem q4835 : (Jvm.Cond.code ({ cls := "ScholarsPressModel$Setting", name := "blockOf", desc := "(I)I" } : Jvm.MethodName) prog_26_method_18_code (3 : Nat) (Option.some Jvm.ClassFile.FieldType.int)) ∈ lw_all := lw_g (lw_at lw_m19 161 rfl) rfl
theorem q4836 : (Jvm.Cond.methodLink "ScholarsPressModel$Setting" (615 : Nat) ({ cls := "ScholarsPressModel$Setting", name := "flowEnds", desc := "(I)V" } : Jvm.MethodName)) ∈ lw_all := lw_g (lw_at lw_m19 162 rfl) rfl
theorem q4837 : (Jvm.Cond.privateMethod ({ cls := "ScholarsPressModel$Setting", name := "flowEnds", desc := "(I)V" } : Jvm.MethodName)) ∈ lw_tbl := lw_at lw_m19 163 rfl
theorem q4838 : (Jvm.Cond.instanceMethod ({ cls := "ScholarsPressModel$Setting", name := "flowEnds", desc := "(I)V" } : Jvm.MethodName)) ∈ lw_all := lw_g (lw_at lw_m19 164 rfl) rfl
theorem q4839 : (Jvm.Cond.code ({ cls := "ScholarsPressModel$Setting", name := "flowEnds", desc := "(I)V" } : Jvm.MethodName) prog_26_method_17_code (3 : Nat) (Option.none : Option Jvm.ClassFile.FieldType)) ∈ lw_all := lw_g (lw_at lw_m19 165 rfl) rfl
theorem q4840 : (Jvm.Cond.methodLink "ScholarsPressModel$Setting" (498 : Nat) ({ cls := "ScholarsPressModel$Setting", name := "leftOf", desc := "(I)I" } : Jvm.MethodName)) ∈ lw_all := lw_g (lw_at lw_m19 166 rfl) rfl
theorem q4841 : (Jvm.Cond.privateMethod ({ cls := "ScholarsPressModel$Setting", name := "leftOf", desc := "(I)I" } : Jvm.MethodName)) ∈ lw_tbl := lw_at lw_m19 167 rfl
theorem q4842 : (Jvm.Cond.instanceMethod ({ cls := "ScholarsPressModel$Setting", name := "leftOf", desc := "(I)I" } : Jvm.MethodName)) ∈ lw_all := lw_g (lw_at lw_m19 168 rfl) rfl
theorem q4843 : (Jvm.Cond.code ({ cls := "ScholarsPressModel$Setting", name := "leftOf", desc := "(I)I" } : Jvm.MethodName) prog_26_method_14_code (4 : Nat) (Option.some Jvm.ClassFile.FieldType.int)) ∈ lw_all := lw_g (lw_at lw_m19 169 rfl) rfl
theorem q4844 : (Jvm.Cond.methodLink "ScholarsPressModel$Setting" (477 : Nat) ({ cls := "ScholarsPressModel$Tree", name := "of", desc := "(II)I" } : Jvm.MethodName)) ∈ lw_all := lw_g (lw_at lw_m19 170 rfl) rfl
theorem q4845 : (Jvm.Cond.methodLink "ScholarsPressModel$Setting" (501 : Nat) ({ cls := "ScholarsPressModel$Setting", name := "widthOf", desc := "(II)J" } : Jvm.MethodName)) ∈ lw_all := lw_g (lw_at lw_m19 171 rfl) rfl
theorem q4846 : (Jvm.Cond.privateMethod ({ cls := "ScholarsPressModel$Setting", name := "widthOf", desc := "(II)J" } : Jvm.MethodName)) ∈ lw_tbl := lw_at lw_m19 172 rfl
theorem q4847 : (Jvm.Cond.instanceMethod ({ cls := "ScholarsPressModel$Setting", name := "widthOf", desc := "(II)J" } : Jvm.MethodName)) ∈ lw_all := lw_g (lw_at lw_m19 173 rfl) rfl
theorem q4848 : (Jvm.Cond.code ({ cls := "ScholarsPressModel$Setting", name := "widthOf", desc := "(II)J" } : Jvm.MethodName) prog_26_method_15_code (6 : Nat) (Option.some Jvm.ClassFile.FieldType.long)) ∈ lw_all := lw_g (lw_at lw_m19 174 rfl) rfl
theorem q4849 : (Jvm.Cond.constantLong "ScholarsPressModel$Setting" (490 : Nat) (1000 : Int64)) ∈ lw_all := lw_g (lw_at lw_m19 175 rfl) rfl
theorem q4850 : (Jvm.Cond.methodLink "ScholarsPressModel$Setting" (505 : Nat) ({ cls := "ScholarsPressModel$Setting", name := "ended", desc := "(IIIJ)I" } : Jvm.MethodName)) ∈ lw_all := lw_g (lw_at lw_m19 176 rfl) rfl
theorem q4851 : (Jvm.Cond.privateMethod ({ cls := "ScholarsPressModel$Setting", name := "ended", desc := "(IIIJ)I" } : Jvm.MethodName)) ∈ lw_tbl := lw_at lw_m19 177 rfl
theorem q4852 : (Jvm.Cond.instanceMethod ({ cls := "ScholarsPressModel$Setting", name := "ended", desc := "(IIIJ)I" } : Jvm.MethodName)) ∈ lw_all := lw_g (lw_at lw_m19 178 rfl) rfl
theorem q4853 : (Jvm.Cond.code ({ cls := "ScholarsPressModel$Setting", name := "ended", desc := "(IIIJ)I" } : Jvm.MethodName) prog_26_method_13_code (7 : Nat) (Option.some Jvm.ClassFile.FieldType.int)) ∈ lw_all := lw_g (lw_at lw_m19 179 rfl) rfl
theorem q4854 : (Jvm.Cond.methodLink "ScholarsPressModel$Setting" (509 : Nat) ({ cls := "ScholarsPressModel$Setting", name := "addFlow", desc := "(II)V" } : Jvm.MethodName)) ∈ lw_all := lw_g (lw_at lw_m19 180 rfl) rfl
theorem q4855 : (Jvm.Cond.privateMethod ({ cls := "ScholarsPressModel$Setting", name := "addFlow", desc := "(II)V" } : Jvm.MethodName)) ∈ lw_tbl := lw_at lw_m19 181 rfl
theorem q4856 : (Jvm.Cond.instanceMethod ({ cls := "ScholarsPressModel$Setting", name := "addFlow", desc := "(II)V" } : Jvm.MethodName)) ∈ lw_all := lw_g (lw_at lw_m19 182 rfl) rfl
theorem q4857 : (Jvm.Cond.code ({ cls := "ScholarsPressModel$Setting", name := "addFlow", desc := "(II)V" } : Jvm.MethodName) prog_26_method_16_code (3 : Nat) (Option.none : Option Jvm.ClassFile.FieldType)) ∈ lw_all := lw_g (lw_at lw_m19 183 rfl) rfl
theorem q4858 : (Jvm.Cond.methodLink "ScholarsPressModel$Setting" (624 : Nat) ({ cls := "java/lang/Math", name := "max", desc := "(II)I" } : Jvm.MethodName)) ∈ lw_all := lw_g (lw_at lw_m19 184 rfl) rfl
theorem q4861 : (Jvm.Cond.methodLink "ScholarsPressModel$Setting" (627 : Nat) ({ cls := "ScholarsPressModel$Setting", name := "contents", desc := "(I)V" } : Jvm.MethodName)) ∈ lw_all := lw_g (lw_at lw_m19 187 rfl) rfl
theorem q4862 : (Jvm.Cond.privateMethod ({ cls := "ScholarsPressModel$Setting", name := "contents", desc := "(I)V" } : Jvm.MethodName)) ∈ lw_tbl := lw_at lw_m19 188 rfl
theorem q4863 : (Jvm.Cond.instanceMethod ({ cls := "ScholarsPressModel$Setting", name := "contents", desc := "(I)V" } : Jvm.MethodName)) ∈ lw_all := lw_g (lw_at lw_m19 189 rfl) rfl
theorem q4864 : (Jvm.Cond.code ({ cls := "ScholarsPressModel$Setting", name := "contents", desc := "(I)V" } : Jvm.MethodName) prog_26_method_29_code (7 : Nat) (Option.none : Option Jvm.ClassFile.FieldType)) ∈ lw_all := lw_g (lw_at lw_m19 190 rfl) rfl
theorem q4865 : (Jvm.Cond.methodLink "ScholarsPressModel$Setting" (531 : Nat) ({ cls := "ScholarsPressModel$Setting", name := "emit", desc := "(IIZ)V" } : Jvm.MethodName)) ∈ lw_all := lw_g (lw_at lw_m19 191 rfl) rfl
theorem q4866 : (Jvm.Cond.privateMethod ({ cls := "ScholarsPressModel$Setting", name := "emit", desc := "(IIZ)V" } : Jvm.MethodName)) ∈ lw_tbl := lw_at lw_m19 192 rfl
theorem q4867 : (Jvm.Cond.instanceMethod ({ cls := "ScholarsPressModel$Setting", name := "emit", desc := "(IIZ)V" } : Jvm.MethodName)) ∈ lw_all := lw_g (lw_at lw_m19 193 rfl) rfl
theorem q4868 : (Jvm.Cond.code ({ cls := "ScholarsPressModel$Setting", name := "emit", desc := "(IIZ)V" } : Jvm.MethodName) prog_26_method_12_code (4 : Nat) (Option.none : Option Jvm.ClassFile.FieldType)) ∈ lw_all := lw_g (lw_at lw_m19 194 rfl) rfl
theorem q4869 : (Jvm.Cond.methodLinkNest "ScholarsPressModel$Setting" (466 : Nat) ({ cls := "ScholarsPressModel", name := "isBlank", desc := "(I)Z" } : Jvm.MethodName) "ScholarsPressModel") ∈ lw_tbl := lw_at lw_m19 195 rfl
theorem q4870 : (Jvm.Cond.methodLink "ScholarsPressModel$Setting" (470 : Nat) ({ cls := "ScholarsPressModel$Setting", name := "add", desc := "(III)V" } : Jvm.MethodName)) ∈ lw_all := lw_g (lw_at lw_m19 196 rfl) rfl
theorem q4871 : (Jvm.Cond.privateMethod ({ cls := "ScholarsPressModel$Setting", name := "add", desc := "(III)V" } : Jvm.MethodName)) ∈ lw_tbl := lw_at lw_m19 197 rfl
theorem q4872 : (Jvm.Cond.instanceMethod ({ cls := "ScholarsPressModel$Setting", name := "add", desc := "(III)V" } : Jvm.MethodName)) ∈ lw_all := lw_g (lw_at lw_m19 198 rfl) rfl
theorem q4873 : (Jvm.Cond.code ({ cls := "ScholarsPressModel$Setting", name := "add", desc := "(III)V" } : Jvm.MethodName) prog_26_method_10_code (4 : Nat) (Option.none : Option Jvm.ClassFile.FieldType)) ∈ lw_all := lw_g (lw_at lw_m19 199 rfl) rfl
theorem q4874 : (Jvm.Cond.methodLink "ScholarsPressModel$Setting" (573 : Nat) ({ cls := "ScholarsPressModel$Setting", name := "digits", desc := "(IIZ)V" } : Jvm.MethodName)) ∈ lw_all := lw_g (lw_at lw_m19 200 rfl) rfl
theorem q4875 : (Jvm.Cond.privateMethod ({ cls := "ScholarsPressModel$Setting", name := "digits", desc := "(IIZ)V" } : Jvm.MethodName)) ∈ lw_tbl := lw_at lw_m19 201 rfl
theorem q4876 : (Jvm.Cond.instanceMethod ({ cls := "ScholarsPressModel$Setting", name := "digits", desc := "(IIZ)V" } : Jvm.MethodName)) ∈ lw_all := lw_g (lw_at lw_m19 202 rfl) rfl
theorem q4877 : (Jvm.Cond.code ({ cls := "ScholarsPressModel$Setting", name := "digits", desc := "(IIZ)V" } : Jvm.MethodName) prog_26_method_20_code (6 : Nat) (Option.none : Option Jvm.ClassFile.FieldType)) ∈ lw_all := lw_g (lw_at lw_m19 203 rfl) rfl
theorem q4878 : (Jvm.Cond.methodLink "ScholarsPressModel$Setting" (519 : Nat) ({ cls := "ScholarsPressModel$Tree", name := "form", desc := "(II)I" } : Jvm.MethodName)) ∈ lw_all := lw_g (lw_at lw_m19 204 rfl) rfl
theorem q4879 : (Jvm.Cond.methodLink "ScholarsPressModel$Setting" (535 : Nat) ({ cls := "ScholarsPressModel$Tree", name := "digit", desc := "(I)I" } : Jvm.MethodName)) ∈ lw_all := lw_g (lw_at lw_m19 205 rfl) rfl
theorem q4883 : (Jvm.Cond.methodLink "ScholarsPressModel$Setting" (630 : Nat) ({ cls := "ScholarsPressModel$Setting", name := "index", desc := "(I)V" } : Jvm.MethodName)) ∈ lw_all := lw_g (lw_at lw_m19 209 rfl) rfl
theorem q4884 : (Jvm.Cond.privateMethod ({ cls := "ScholarsPressModel$Setting", name := "index", desc := "(I)V" } : Jvm.MethodName)) ∈ lw_tbl := lw_at lw_m19 210 rfl
theorem q4885 : (Jvm.Cond.instanceMethod ({ cls := "ScholarsPressModel$Setting", name := "index", desc := "(I)V" } : Jvm.MethodName)) ∈ lw_all := lw_g (lw_at lw_m19 211 rfl) rfl
theorem q4886 : (Jvm.Cond.code ({ cls := "ScholarsPressModel$Setting", name := "index", desc := "(I)V" } : Jvm.MethodName) prog_26_method_30_code (8 : Nat) (Option.none : Option Jvm.ClassFile.FieldType)) ∈ lw_all := lw_g (lw_at lw_m19 212 rfl) rfl
theorem q4887 : (Jvm.Cond.methodLink "ScholarsPressModel$Setting" (652 : Nat) ({ cls := "ScholarsPressModel$Setting", name := "pagesOf", desc := "(I)I" } : Jvm.MethodName)) ∈ lw_all := lw_g (lw_at lw_m19 213 rfl) rfl
theorem q4888 : (Jvm.Cond.privateMethod ({ cls := "ScholarsPressModel$Setting", name := "pagesOf", desc := "(I)I" } : Jvm.MethodName)) ∈ lw_tbl := lw_at lw_m19 214 rfl
theorem q4889 : (Jvm.Cond.instanceMethod ({ cls := "ScholarsPressModel$Setting", name := "pagesOf", desc := "(I)I" } : Jvm.MethodName)) ∈ lw_all := lw_g (lw_at lw_m19 215 rfl) rfl
theorem q4890 : (Jvm.Cond.code ({ cls := "ScholarsPressModel$Setting", name := "pagesOf", desc := "(I)I" } : Jvm.MethodName) prog_26_method_31_code (6 : Nat) (Option.some Jvm.ClassFile.FieldType.int)) ∈ lw_all := lw_g (lw_at lw_m19 216 rfl) rfl
theorem q4891 : (Jvm.Cond.methodLink "ScholarsPressModel$Setting" (633 : Nat) ({ cls := "ScholarsPressModel$Setting", name := "label", desc := "(IZ)V" } : Jvm.MethodName)) ∈ lw_all := lw_g (lw_at lw_m19 217 rfl) rfl
theorem q4892 : (Jvm.Cond.privateMethod ({ cls := "ScholarsPressModel$Setting", name := "label", desc := "(IZ)V" } : Jvm.MethodName)) ∈ lw_tbl := lw_at lw_m19 218 rfl
theorem q4893 : (Jvm.Cond.instanceMethod ({ cls := "ScholarsPressModel$Setting", name := "label", desc := "(IZ)V" } : Jvm.MethodName)) ∈ lw_all := lw_g (lw_at lw_m19 219 rfl) rfl
theorem q4894 : (Jvm.Cond.code ({ cls := "ScholarsPressModel$Setting", name := "label", desc := "(IZ)V" } : Jvm.MethodName) prog_26_method_19_code (6 : Nat) (Option.none : Option Jvm.ClassFile.FieldType)) ∈ lw_all := lw_g (lw_at lw_m19 220 rfl) rfl
theorem q4895 : (Jvm.Cond.methodLink "ScholarsPressModel$Setting" (513 : Nat) ({ cls := "ScholarsPressModel$Tree", name := "hasLabel", desc := "(I)Z" } : Jvm.MethodName)) ∈ lw_all := lw_g (lw_at lw_m19 221 rfl) rfl
theorem q4896 : (Jvm.Cond.methodLink "ScholarsPressModel$Setting" (643 : Nat) ({ cls := "ScholarsPressModel$Setting", name := "reference", desc := "(IZ)V" } : Jvm.MethodName)) ∈ lw_all := lw_g (lw_at lw_m19 222 rfl) rfl
theorem q4897 : (Jvm.Cond.privateMethod ({ cls := "ScholarsPressModel$Setting", name := "reference", desc := "(IZ)V" } : Jvm.MethodName)) ∈ lw_tbl := lw_at lw_m19 223 rfl
theorem q4898 : (Jvm.Cond.instanceMethod ({ cls := "ScholarsPressModel$Setting", name := "reference", desc := "(IZ)V" } : Jvm.MethodName)) ∈ lw_all := lw_g (lw_at lw_m19 224 rfl) rfl
theorem q4899 : (Jvm.Cond.code ({ cls := "ScholarsPressModel$Setting", name := "reference", desc := "(IZ)V" } : Jvm.MethodName) prog_26_method_25_code (8 : Nat) (Option.none : Option Jvm.ClassFile.FieldType)) ∈ lw_all := lw_g (lw_at lw_m19 225 rfl) rfl
theorem q4900 : (Jvm.Cond.stringRef "ScholarsPressModel$Setting" (558 : Nat) "as") ∈ lw_tbl := lw_at lw_m19 226 rfl
theorem q4901 : (Jvm.Cond.stringRef "ScholarsPressModel$Setting" (560 : Nat) "to") ∈ lw_tbl := lw_at lw_m19 227 rfl
theorem q4902 : (Jvm.Cond.methodLink "ScholarsPressModel$Setting" (561 : Nat) ({ cls := "ScholarsPressModel$Setting", name := "target", desc := "(ILjava/lang/String;)I" } : Jvm.MethodName)) ∈ lw_all := lw_g (lw_at lw_m19 228 rfl) rfl
theorem q4903 : (Jvm.Cond.privateMethod ({ cls := "ScholarsPressModel$Setting", name := "target", desc := "(ILjava/lang/String;)I" } : Jvm.MethodName)) ∈ lw_tbl := lw_at lw_m19 229 rfl
theorem q4904 : (Jvm.Cond.instanceMethod ({ cls := "ScholarsPressModel$Setting", name := "target", desc := "(ILjava/lang/String;)I" } : Jvm.MethodName)) ∈ lw_all := lw_g (lw_at lw_m19 230 rfl) rfl
theorem q4905 : (Jvm.Cond.code ({ cls := "ScholarsPressModel$Setting", name := "target", desc := "(ILjava/lang/String;)I" } : Jvm.MethodName) prog_26_method_22_code (5 : Nat) (Option.some Jvm.ClassFile.FieldType.int)) ∈ lw_all := lw_g (lw_at lw_m19 231 rfl) rfl
theorem q4906 : (Jvm.Cond.methodLink "ScholarsPressModel$Setting" (550 : Nat) ({ cls := "ScholarsPressModel$Source", name := "elementOf", desc := "([BII)I" } : Jvm.MethodName)) ∈ lw_all := lw_g (lw_at lw_m19 232 rfl) rfl
theorem q4912 : (Jvm.Cond.methodLink "ScholarsPressModel$Setting" (564 : Nat) ({ cls := "ScholarsPressModel$Setting", name := "unknown", desc := "(IZ)V" } : Jvm.MethodName)) ∈ lw_all := lw_g (lw_at lw_m19 238 rfl) rfl
theorem q4913 : (Jvm.Cond.privateMethod ({ cls := "ScholarsPressModel$Setting", name := "unknown", desc := "(IZ)V" } : Jvm.MethodName)) ∈ lw_tbl := lw_at lw_m19 239 rfl
theorem q4914 : (Jvm.Cond.instanceMethod ({ cls := "ScholarsPressModel$Setting", name := "unknown", desc := "(IZ)V" } : Jvm.MethodName)) ∈ lw_all := lw_g (lw_at lw_m20 0 rfl) rfl
theorem q4915 : (Jvm.Cond.code ({ cls := "ScholarsPressModel$Setting", name := "unknown", desc := "(IZ)V" } : Jvm.MethodName) prog_26_method_23_code (3 : Nat) (Option.none : Option Jvm.ClassFile.FieldType)) ∈ lw_all := lw_g (lw_at lw_m20 1 rfl) rfl
theorem q4916 : (Jvm.Cond.stringRef "ScholarsPressModel$Setting" (568 : Nat) "page") ∈ lw_tbl := lw_at lw_m20 2 rfl
theorem q4917 : (Jvm.Cond.methodLink "ScholarsPressModel$Setting" (569 : Nat) ({ cls := "ScholarsPressModel$Setting", name := "says", desc := "(ILjava/lang/String;)Z" } : Jvm.MethodName)) ∈ lw_all := lw_g (lw_at lw_m20 3 rfl) rfl
theorem q4918 : (Jvm.Cond.privateMethod ({ cls := "ScholarsPressModel$Setting", name := "says", desc := "(ILjava/lang/String;)Z" } : Jvm.MethodName)) ∈ lw_tbl := lw_at lw_m20 4 rfl
theorem q4919 : (Jvm.Cond.instanceMethod ({ cls := "ScholarsPressModel$Setting", name := "says", desc := "(ILjava/lang/String;)Z" } : Jvm.MethodName)) ∈ lw_all := lw_g (lw_at lw_m20 5 rfl) rfl
theorem q4920 : (Jvm.Cond.code ({ cls := "ScholarsPressModel$Setting", name := "says", desc := "(ILjava/lang/String;)Z" } : Jvm.MethodName) prog_26_method_24_code (3 : Nat) (Option.some Jvm.ClassFile.FieldType.boolean)) ∈ lw_all := lw_g (lw_at lw_m20 6 rfl) rfl
theorem q4921 : (Jvm.Cond.methodLinkNest "ScholarsPressModel$Setting" (554 : Nat) ({ cls := "ScholarsPressModel", name := "is", desc := "([BIILjava/lang/String;)Z" } : Jvm.MethodName) "ScholarsPressModel") ∈ lw_tbl := lw_at lw_m20 7 rfl
theorem q4922 : (Jvm.Cond.stringRef "ScholarsPressModel$Setting" (576 : Nat) "line") ∈ lw_tbl := lw_at lw_m20 8 rfl
theorem q4923 : (Jvm.Cond.stringRef "ScholarsPressModel$Setting" (578 : Nat) "number") ∈ lw_tbl := lw_at lw_m20 9 rfl
theorem q4924 : (Jvm.Cond.stringRef "ScholarsPressModel$Setting" (579 : Nat) "title") ∈ lw_tbl := lw_at lw_m20 10 rfl
theorem q4925 : (Jvm.Cond.stringRef "ScholarsPressModel$Setting" (580 : Nat) "side") ∈ lw_tbl := lw_at lw_m20 11 rfl
theorem q4926 : (Jvm.Cond.stringRef "ScholarsPressModel$Setting" (582 : Nat) "above") ∈ lw_tbl := lw_at lw_m20 12 rfl
theorem q4927 : (Jvm.Cond.stringRef "ScholarsPressModel$Setting" (584 : Nat) "below") ∈ lw_tbl := lw_at lw_m20 13 rfl
theorem q4928 : (Jvm.Cond.methodLink "ScholarsPressModel$Setting" (586 : Nat) ({ cls := "java/lang/String", name := "charAt", desc := "(I)C" } : Jvm.MethodName)) ∈ lw_all := lw_g (lw_at lw_m20 14 rfl) rfl
theorem q4929 : (Jvm.Cond.methodLink "ScholarsPressModel$Setting" (610 : Nat) ({ cls := "ScholarsPressModel$Setting", name := "closes", desc := "(I)V" } : Jvm.MethodName)) ∈ lw_all := lw_g (lw_at lw_m20 15 rfl) rfl
theorem q4930 : (Jvm.Cond.privateMethod ({ cls := "ScholarsPressModel$Setting", name := "closes", desc := "(I)V" } : Jvm.MethodName)) ∈ lw_tbl := lw_at lw_m20 16 rfl
theorem q4931 : (Jvm.Cond.instanceMethod ({ cls := "ScholarsPressModel$Setting", name := "closes", desc := "(I)V" } : Jvm.MethodName)) ∈ lw_all := lw_g (lw_at lw_m20 17 rfl) rfl
theorem q4932 : (Jvm.Cond.code ({ cls := "ScholarsPressModel$Setting", name := "closes", desc := "(I)V" } : Jvm.MethodName) prog_26_method_28_code (4 : Nat) (Option.none : Option Jvm.ClassFile.FieldType)) ∈ lw_all := lw_g (lw_at lw_m20 18 rfl) rfl
theorem q4933 : (Jvm.Cond.methodLink "ScholarsPressModel$Setting" (613 : Nat) ({ cls := "ScholarsPressModel$Setting", name := "text", desc := "(IIZ)V" } : Jvm.MethodName)) ∈ lw_all := lw_g (lw_at lw_m20 19 rfl) rfl
theorem q4934 : (Jvm.Cond.privateMethod ({ cls := "ScholarsPressModel$Setting", name := "text", desc := "(IIZ)V" } : Jvm.MethodName)) ∈ lw_tbl := lw_at lw_m20 20 rfl
theorem q4935 : (Jvm.Cond.instanceMethod ({ cls := "ScholarsPressModel$Setting", name := "text", desc := "(IIZ)V" } : Jvm.MethodName)) ∈ lw_all := lw_g (lw_at lw_m20 21 rfl) rfl
theorem q4936 : (Jvm.Cond.code ({ cls := "ScholarsPressModel$Setting", name := "text", desc := "(IIZ)V" } : Jvm.MethodName) prog_26_method_21_code (6 : Nat) (Option.none : Option Jvm.ClassFile.FieldType)) ∈ lw_all := lw_g (lw_at lw_m20 22 rfl) rfl
theorem q4937 : (Jvm.Cond.methodLink "ScholarsPressModel$Setting" (538 : Nat) ({ cls := "ScholarsPressModel$Tree", name := "speaks", desc := "(I)Z" } : Jvm.MethodName)) ∈ lw_all := lw_g (lw_at lw_m20 23 rfl) rfl
theorem q4938 : (Jvm.Cond.methodLink "ScholarsPressModel$Setting" (618 : Nat) ({ cls := "ScholarsPressModel$Setting", name := "note", desc := "(I)V" } : Jvm.MethodName)) ∈ lw_all := lw_g (lw_at lw_m20 24 rfl) rfl
theorem q4939 : (Jvm.Cond.privateMethod ({ cls := "ScholarsPressModel$Setting", name := "note", desc := "(I)V" } : Jvm.MethodName)) ∈ lw_tbl := lw_at lw_m20 25 rfl
theorem q4940 : (Jvm.Cond.instanceMethod ({ cls := "ScholarsPressModel$Setting", name := "note", desc := "(I)V" } : Jvm.MethodName)) ∈ lw_all := lw_g (lw_at lw_m20 26 rfl) rfl
theorem q4941 : (Jvm.Cond.code ({ cls := "ScholarsPressModel$Setting", name := "note", desc := "(I)V" } : Jvm.MethodName) prog_26_method_32_code (7 : Nat) (Option.none : Option Jvm.ClassFile.FieldType)) ∈ lw_all := lw_g (lw_at lw_m20 27 rfl) rfl
theorem q4942 : (Jvm.Cond.stringRef "ScholarsPressModel$Setting" (655 : Nat) "of") ∈ lw_tbl := lw_at lw_m20 28 rfl
theorem q4943 : (Jvm.Cond.methodLink "ScholarsPressModel$Setting" (658 : Nat) ({ cls := "java/lang/Math", name := "max", desc := "(JJ)J" } : Jvm.MethodName)) ∈ lw_all := lw_g (lw_at lw_m20 29 rfl) rfl
theorem q4946 : (Jvm.Cond.methodLink "ScholarsPressModel$Setting" (375 : Nat) ({ cls := "ScholarsPressModel$Setting", name := "part", desc := "(I)V" } : Jvm.MethodName)) ∈ lw_all := lw_g (lw_at lw_m20 32 rfl) rfl
theorem q4947 : (Jvm.Cond.privateMethod ({ cls := "ScholarsPressModel$Setting", name := "part", desc := "(I)V" } : Jvm.MethodName)) ∈ lw_tbl := lw_at lw_m20 33 rfl
theorem q4948 : (Jvm.Cond.instanceMethod ({ cls := "ScholarsPressModel$Setting", name := "part", desc := "(I)V" } : Jvm.MethodName)) ∈ lw_all := lw_g (lw_at lw_m20 34 rfl) rfl
theorem q4949 : (Jvm.Cond.code ({ cls := "ScholarsPressModel$Setting", name := "part", desc := "(I)V" } : Jvm.MethodName) prog_26_method_35_code (6 : Nat) (Option.none : Option Jvm.ClassFile.FieldType)) ∈ lw_all := lw_g (lw_at lw_m20 35 rfl) rfl
theorem q4950 : (Jvm.Cond.methodLinkNest "ScholarsPressModel$Setting" (677 : Nat) ({ cls := "ScholarsPressModel", name := "isLetter", desc := "(I)Z" } : Jvm.MethodName) "ScholarsPressModel") ∈ lw_tbl := lw_at lw_m20 36 rfl
theorem q4954 : (Jvm.Cond.methodLink "ScholarsPressModel$Setting" (680 : Nat) ({ cls := "ScholarsPressModel$Parting", name := "places", desc := "([BII[Z)V" } : Jvm.MethodName)) ∈ lw_all := lw_g (lw_at lw_m20 40 rfl) rfl
theorem q4966 : (Jvm.Cond.methodLink "ScholarsPressModel$Setting" (686 : Nat) ({ cls := "ScholarsPressModel$Setting", name := "breaksAt", desc := "(IIIII)V" } : Jvm.MethodName)) ∈ lw_all := lw_g (lw_at lw_m20 52 rfl) rfl
theorem q4967 : (Jvm.Cond.privateMethod ({ cls := "ScholarsPressModel$Setting", name := "breaksAt", desc := "(IIIII)V" } : Jvm.MethodName)) ∈ lw_tbl := lw_at lw_m20 53 rfl
theorem q4968 : (Jvm.Cond.instanceMethod ({ cls := "ScholarsPressModel$Setting", name := "breaksAt", desc := "(IIIII)V" } : Jvm.MethodName)) ∈ lw_all := lw_g (lw_at lw_m20 54 rfl) rfl
theorem q4969 : (Jvm.Cond.code ({ cls := "ScholarsPressModel$Setting", name := "breaksAt", desc := "(IIIII)V" } : Jvm.MethodName) prog_26_method_34_code (7 : Nat) (Option.none : Option Jvm.ClassFile.FieldType)) ∈ lw_all := lw_g (lw_at lw_m20 55 rfl) rfl
theorem q4970 : (Jvm.Cond.methodLink "ScholarsPressModel$Setting" (674 : Nat) ({ cls := "ScholarsPressModel$Setting", name := "wide", desc := "(II)J" } : Jvm.MethodName)) ∈ lw_all := lw_g (lw_at lw_m20 56 rfl) rfl
theorem q4971 : (Jvm.Cond.privateMethod ({ cls := "ScholarsPressModel$Setting", name := "wide", desc := "(II)J" } : Jvm.MethodName)) ∈ lw_tbl := lw_at lw_m20 57 rfl
theorem q4972 : (Jvm.Cond.instanceMethod ({ cls := "ScholarsPressModel$Setting", name := "wide", desc := "(II)J" } : Jvm.MethodName)) ∈ lw_all := lw_g (lw_at lw_m20 58 rfl) rfl
theorem q4973 : (Jvm.Cond.code ({ cls := "ScholarsPressModel$Setting", name := "wide", desc := "(II)J" } : Jvm.MethodName) prog_26_method_33_code (14 : Nat) (Option.some Jvm.ClassFile.FieldType.long)) ∈ lw_all := lw_g (lw_at lw_m20 59 rfl) rfl
theorem q4974 : (Jvm.Cond.methodLink "ScholarsPressModel$Setting" (661 : Nat) ({ cls := "ScholarsPressModel$Letters", name := "joinOf", desc := "(II)I" } : Jvm.MethodName)) ∈ lw_all := lw_g (lw_at lw_m20 60 rfl) rfl
theorem q4978 : (Jvm.Cond.methodLink "ScholarsPressModel$Setting" (666 : Nat) ({ cls := "ScholarsPressModel$Letters", name := "kernOf", desc := "(II)I" } : Jvm.MethodName)) ∈ lw_all := lw_g (lw_at lw_m20 64 rfl) rfl
theorem q4982 : (Jvm.Cond.methodLink "ScholarsPressModel$Setting" (669 : Nat) ({ cls := "java/lang/Math", name := "abs", desc := "(I)I" } : Jvm.MethodName)) ∈ lw_all := lw_g (lw_at lw_m20 68 rfl) rfl
theorem q4985 : (Jvm.Cond.methodLink "ScholarsPressModel$Setting" (378 : Nat) ({ cls := "ScholarsPressModel$Setting", name := "breakAt", desc := "(I)I" } : Jvm.MethodName)) ∈ lw_all := lw_g (lw_at lw_m20 71 rfl) rfl
theorem q4986 : (Jvm.Cond.privateMethod ({ cls := "ScholarsPressModel$Setting", name := "breakAt", desc := "(I)I" } : Jvm.MethodName)) ∈ lw_tbl := lw_at lw_m20 72 rfl
theorem q4987 : (Jvm.Cond.instanceMethod ({ cls := "ScholarsPressModel$Setting", name := "breakAt", desc := "(I)I" } : Jvm.MethodName)) ∈ lw_all := lw_g (lw_at lw_m20 73 rfl) rfl
theorem q4988 : (Jvm.Cond.code ({ cls := "ScholarsPressModel$Setting", name := "breakAt", desc := "(I)I" } : Jvm.MethodName) prog_26_method_4_code (2 : Nat) (Option.some Jvm.ClassFile.FieldType.int)) ∈ lw_all := lw_g (lw_at lw_m20 74 rfl) rfl
theorem q4989 : (Jvm.Cond.methodLink "ScholarsPressModel$Setting" (381 : Nat) ({ cls := "ScholarsPressModel$Setting", name := "tables", desc := "()V" } : Jvm.MethodName)) ∈ lw_all := lw_g (lw_at lw_m20 75 rfl) rfl
theorem q4990 : (Jvm.Cond.privateMethod ({ cls := "ScholarsPressModel$Setting", name := "tables", desc := "()V" } : Jvm.MethodName)) ∈ lw_tbl := lw_at lw_m20 76 rfl
theorem q4991 : (Jvm.Cond.instanceMethod ({ cls := "ScholarsPressModel$Setting", name := "tables", desc := "()V" } : Jvm.MethodName)) ∈ lw_all := lw_g (lw_at lw_m20 77 rfl) rfl
theorem q4992 : (Jvm.Cond.code ({ cls := "ScholarsPressModel$Setting", name := "tables", desc := "()V" } : Jvm.MethodName) prog_26_method_36_code (2 : Nat) (Option.none : Option Jvm.ClassFile.FieldType)) ∈ lw_all := lw_g (lw_at lw_m20 78 rfl) rfl
theorem q4993 : (Jvm.Cond.methodLink "ScholarsPressModel$Setting" (690 : Nat) ({ cls := "ScholarsPressModel$Setting", name := "table", desc := "(I)V" } : Jvm.MethodName)) ∈ lw_all := lw_g (lw_at lw_m20 79 rfl) rfl
theorem q4994 : (Jvm.Cond.privateMethod ({ cls := "ScholarsPressModel$Setting", name := "table", desc := "(I)V" } : Jvm.MethodName)) ∈ lw_tbl := lw_at lw_m20 80 rfl
theorem q4995 : (Jvm.Cond.instanceMethod ({ cls := "ScholarsPressModel$Setting", name := "table", desc := "(I)V" } : Jvm.MethodName)) ∈ lw_all := lw_g (lw_at lw_m20 81 rfl) rfl
theorem q4996 : (Jvm.Cond.code ({ cls := "ScholarsPressModel$Setting", name := "table", desc := "(I)V" } : Jvm.MethodName) prog_26_method_37_code (16 : Nat) (Option.none : Option Jvm.ClassFile.FieldType)) ∈ lw_all := lw_g (lw_at lw_m20 82 rfl) rfl
theorem q4997 : (Jvm.Cond.methodLink "ScholarsPressModel$Setting" (384 : Nat) ({ cls := "ScholarsPressModel$Setting", name := "breakUp", desc := "(I)V" } : Jvm.MethodName)) ∈ lw_all := lw_g (lw_at lw_m20 83 rfl) rfl
theorem q4998 : (Jvm.Cond.privateMethod ({ cls := "ScholarsPressModel$Setting", name := "breakUp", desc := "(I)V" } : Jvm.MethodName)) ∈ lw_tbl := lw_at lw_m20 84 rfl
theorem q4999 : (Jvm.Cond.instanceMethod ({ cls := "ScholarsPressModel$Setting", name := "breakUp", desc := "(I)V" } : Jvm.MethodName)) ∈ lw_all := lw_g (lw_at lw_m20 85 rfl) rfl
theorem q5000 : (Jvm.Cond.code ({ cls := "ScholarsPressModel$Setting", name := "breakUp", desc := "(I)V" } : Jvm.MethodName) prog_26_method_46_code (10 : Nat) (Option.none : Option Jvm.ClassFile.FieldType)) ∈ lw_all := lw_g (lw_at lw_m20 86 rfl) rfl
theorem q5001 : (Jvm.Cond.methodLink "ScholarsPressModel$Setting" (769 : Nat) ({ cls := "ScholarsPressModel$Setting", name := "sums", desc := "(I)V" } : Jvm.MethodName)) ∈ lw_all := lw_g (lw_at lw_m20 87 rfl) rfl
theorem q5002 : (Jvm.Cond.privateMethod ({ cls := "ScholarsPressModel$Setting", name := "sums", desc := "(I)V" } : Jvm.MethodName)) ∈ lw_tbl := lw_at lw_m20 88 rfl
theorem q5003 : (Jvm.Cond.instanceMethod ({ cls := "ScholarsPressModel$Setting", name := "sums", desc := "(I)V" } : Jvm.MethodName)) ∈ lw_all := lw_g (lw_at lw_m20 89 rfl) rfl
theorem q5004 : (Jvm.Cond.code ({ cls := "ScholarsPressModel$Setting", name := "sums", desc := "(I)V" } : Jvm.MethodName) prog_26_method_38_code (4 : Nat) (Option.none : Option Jvm.ClassFile.FieldType)) ∈ lw_all := lw_g (lw_at lw_m20 90 rfl) rfl
theorem q5005 : (Jvm.Cond.constantLong "ScholarsPressModel$Setting" (695 : Nat) (2 : Int64)) ∈ lw_all := lw_g (lw_at lw_m20 91 rfl) rfl
theorem q5006 : (Jvm.Cond.constantLong "ScholarsPressModel$Setting" (697 : Nat) (3 : Int64)) ∈ lw_all := lw_g (lw_at lw_m20 92 rfl) rfl
theorem q5007 : (Jvm.Cond.methodLink "ScholarsPressModel$Setting" (772 : Nat) ({ cls := "ScholarsPressModel$Setting", name := "tryAll", desc := "(II)Z" } : Jvm.MethodName)) ∈ lw_all := lw_g (lw_at lw_m20 93 rfl) rfl
theorem q5008 : (Jvm.Cond.privateMethod ({ cls := "ScholarsPressModel$Setting", name := "tryAll", desc := "(II)Z" } : Jvm.MethodName)) ∈ lw_tbl := lw_at lw_m20 94 rfl
theorem q5009 : (Jvm.Cond.instanceMethod ({ cls := "ScholarsPressModel$Setting", name := "tryAll", desc := "(II)Z" } : Jvm.MethodName)) ∈ lw_all := lw_g (lw_at lw_m20 95 rfl) rfl
theorem q5010 : (Jvm.Cond.code ({ cls := "ScholarsPressModel$Setting", name := "tryAll", desc := "(II)Z" } : Jvm.MethodName) prog_26_method_45_code (12 : Nat) (Option.some Jvm.ClassFile.FieldType.boolean)) ∈ lw_all := lw_g (lw_at lw_m20 96 rfl) rfl
theorem q5011 : (Jvm.Cond.methodLink "ScholarsPressModel$Setting" (759 : Nat) ({ cls := "ScholarsPressModel$Setting", name := "measure", desc := "(III)V" } : Jvm.MethodName)) ∈ lw_all := lw_g (lw_at lw_m20 97 rfl) rfl
theorem q5012 : (Jvm.Cond.privateMethod ({ cls := "ScholarsPressModel$Setting", name := "measure", desc := "(III)V" } : Jvm.MethodName)) ∈ lw_tbl := lw_at lw_m20 98 rfl
theorem q5013 : (Jvm.Cond.instanceMethod ({ cls := "ScholarsPressModel$Setting", name := "measure", desc := "(III)V" } : Jvm.MethodName)) ∈ lw_all := lw_g (lw_at lw_m20 99 rfl) rfl
theorem q5014 : (Jvm.Cond.code ({ cls := "ScholarsPressModel$Setting", name := "measure", desc := "(III)V" } : Jvm.MethodName) prog_26_method_42_code (8 : Nat) (Option.none : Option Jvm.ClassFile.FieldType)) ∈ lw_all := lw_g (lw_at lw_m20 100 rfl) rfl
theorem q5015 : (Jvm.Cond.methodLink "ScholarsPressModel$Setting" (699 : Nat) ({ cls := "ScholarsPressModel$Setting", name := "typeOf", desc := "(II)I" } : Jvm.MethodName)) ∈ lw_all := lw_g (lw_at lw_m20 101 rfl) rfl
theorem q5016 : (Jvm.Cond.privateMethod ({ cls := "ScholarsPressModel$Setting", name := "typeOf", desc := "(II)I" } : Jvm.MethodName)) ∈ lw_tbl := lw_at lw_m20 102 rfl
theorem q5017 : (Jvm.Cond.instanceMethod ({ cls := "ScholarsPressModel$Setting", name := "typeOf", desc := "(II)I" } : Jvm.MethodName)) ∈ lw_all := lw_g (lw_at lw_m20 103 rfl) rfl
theorem q5018 : (Jvm.Cond.code ({ cls := "ScholarsPressModel$Setting", name := "typeOf", desc := "(II)I" } : Jvm.MethodName) prog_26_method_39_code (3 : Nat) (Option.some Jvm.ClassFile.FieldType.int)) ∈ lw_all := lw_g (lw_at lw_m20 104 rfl) rfl
theorem q5019 : (Jvm.Cond.methodLink "ScholarsPressModel$Setting" (706 : Nat) ({ cls := "ScholarsPressModel$Setting", name := "lineWidth", desc := "(IZ)J" } : Jvm.MethodName)) ∈ lw_all := lw_g (lw_at lw_m20 105 rfl) rfl
theorem q5020 : (Jvm.Cond.privateMethod ({ cls := "ScholarsPressModel$Setting", name := "lineWidth", desc := "(IZ)J" } : Jvm.MethodName)) ∈ lw_tbl := lw_at lw_m20 106 rfl
theorem q5021 : (Jvm.Cond.instanceMethod ({ cls := "ScholarsPressModel$Setting", name := "lineWidth", desc := "(IZ)J" } : Jvm.MethodName)) ∈ lw_all := lw_g (lw_at lw_m20 107 rfl) rfl
theorem q5022 : (Jvm.Cond.code ({ cls := "ScholarsPressModel$Setting", name := "lineWidth", desc := "(IZ)J" } : Jvm.MethodName) prog_26_method_41_code (3 : Nat) (Option.some Jvm.ClassFile.FieldType.long)) ∈ lw_all := lw_g (lw_at lw_m20 108 rfl) rfl
theorem q5023 : (Jvm.Cond.constant "ScholarsPressModel$Setting" (723 : Nat) (100000 : Int32)) ∈ lw_all := lw_g (lw_at lw_m20 109 rfl) rfl
theorem q5024 : (Jvm.Cond.constantLong "ScholarsPressModel$Setting" (724 : Nat) (100000 : Int64)) ∈ lw_all := lw_g (lw_at lw_m20 110 rfl) rfl
theorem q5025 : (Jvm.Cond.methodLink "ScholarsPressModel$Setting" (726 : Nat) ({ cls := "java/lang/Math", name := "min", desc := "(JJ)J" } : Jvm.MethodName)) ∈ lw_all := lw_g (lw_at lw_m20 111 rfl) rfl
theorem q5028 : (Jvm.Cond.constantLong "ScholarsPressModel$Setting" (731 : Nat) (10000 : Int64)) ∈ lw_all := lw_g (lw_at lw_m20 114 rfl) rfl
theorem q5029 : (Jvm.Cond.constantLong "ScholarsPressModel$Setting" (733 : Nat) (100 : Int64)) ∈ lw_all := lw_g (lw_at lw_m20 115 rfl) rfl
theorem q5030 : (Jvm.Cond.constantLong "ScholarsPressModel$Setting" (735 : Nat) (1000000000 : Int64)) ∈ lw_all := lw_g (lw_at lw_m20 116 rfl) rfl
theorem q5031 : (Jvm.Cond.constantLong "ScholarsPressModel$Setting" (743 : Nat) (10 : Int64)) ∈ lw_all := lw_g (lw_at lw_m20 117 rfl) rfl
theorem q5032 : (Jvm.Cond.constantLong "ScholarsPressModel$Setting" (745 : Nat) (2500 : Int64)) ∈ lw_all := lw_g (lw_at lw_m20 118 rfl) rfl
theorem q5033 : (Jvm.Cond.constantLong "ScholarsPressModel$Setting" (747 : Nat) (900 : Int64)) ∈ lw_all := lw_g (lw_at lw_m20 119 rfl) rfl
theorem q5034 : (Jvm.Cond.methodLink "ScholarsPressModel$Setting" (752 : Nat) ({ cls := "ScholarsPressModel$Setting", name := "isParted", desc := "(II)Z" } : Jvm.MethodName)) ∈ lw_all := lw_g (lw_at lw_m20 120 rfl) rfl
theorem q5035 : (Jvm.Cond.privateMethod ({ cls := "ScholarsPressModel$Setting", name := "isParted", desc := "(II)Z" } : Jvm.MethodName)) ∈ lw_tbl := lw_at lw_m20 121 rfl
theorem q5036 : (Jvm.Cond.instanceMethod ({ cls := "ScholarsPressModel$Setting", name := "isParted", desc := "(II)Z" } : Jvm.MethodName)) ∈ lw_all := lw_g (lw_at lw_m20 122 rfl) rfl
theorem q5037 : (Jvm.Cond.code ({ cls := "ScholarsPressModel$Setting", name := "isParted", desc := "(II)Z" } : Jvm.MethodName) prog_26_method_40_code (3 : Nat) (Option.some Jvm.ClassFile.FieldType.boolean)) ∈ lw_all := lw_g (lw_at lw_m20 123 rfl) rfl
theorem q5038 : (Jvm.Cond.constantLong "ScholarsPressModel$Setting" (755 : Nat) (3000 : Int64)) ∈ lw_all := lw_g (lw_at lw_m20 124 rfl) rfl
theorem q5039 : (Jvm.Cond.constantLong "ScholarsPressModel$Setting" (757 : Nat) (5000 : Int64)) ∈ lw_all := lw_g (lw_at lw_m20 125 rfl) rfl
theorem q5040 : (Jvm.Cond.methodLink "ScholarsPressModel$Setting" (762 : Nat) ({ cls := "ScholarsPressModel$Setting", name := "isAllowed", desc := "(I)Z" } : Jvm.MethodName)) ∈ lw_all := lw_g (lw_at lw_m20 126 rfl) rfl
theorem q5041 : (Jvm.Cond.privateMethod ({ cls := "ScholarsPressModel$Setting", name := "isAllowed", desc := "(I)Z" } : Jvm.MethodName)) ∈ lw_tbl := lw_at lw_m20 127 rfl
theorem q5042 : (Jvm.Cond.instanceMethod ({ cls := "ScholarsPressModel$Setting", name := "isAllowed", desc := "(I)Z" } : Jvm.MethodName)) ∈ lw_all := lw_g (lw_at lw_m20 128 rfl) rfl
theorem q5043 : (Jvm.Cond.code ({ cls := "ScholarsPressModel$Setting", name := "isAllowed", desc := "(I)Z" } : Jvm.MethodName) prog_26_method_44_code (2 : Nat) (Option.some Jvm.ClassFile.FieldType.boolean)) ∈ lw_all := lw_g (lw_at lw_m20 129 rfl) rfl
theorem q5044 : (Jvm.Cond.methodLink "ScholarsPressModel$Setting" (765 : Nat) ({ cls := "ScholarsPressModel$Setting", name := "comesFirst", desc := "(IIII)Z" } : Jvm.MethodName)) ∈ lw_all := lw_g (lw_at lw_m20 130 rfl) rfl
theorem q5045 : (Jvm.Cond.privateMethod ({ cls := "ScholarsPressModel$Setting", name := "comesFirst", desc := "(IIII)Z" } : Jvm.MethodName)) ∈ lw_tbl := lw_at lw_m20 131 rfl
theorem q5046 : (Jvm.Cond.instanceMethod ({ cls := "ScholarsPressModel$Setting", name := "comesFirst", desc := "(IIII)Z" } : Jvm.MethodName)) ∈ lw_all := lw_g (lw_at lw_m20 132 rfl) rfl
theorem q5047 : (Jvm.Cond.code ({ cls := "ScholarsPressModel$Setting", name := "comesFirst", desc := "(IIII)Z" } : Jvm.MethodName) prog_26_method_43_code (8 : Nat) (Option.some Jvm.ClassFile.FieldType.boolean)) ∈ lw_all := lw_g (lw_at lw_m20 133 rfl) rfl
theorem q5048 : (Jvm.Cond.methodLink "ScholarsPressModel$Setting" (387 : Nat) ({ cls := "ScholarsPressModel$Setting", name := "flow", desc := "()V" } : Jvm.MethodName)) ∈ lw_all := lw_g (lw_at lw_m20 134 rfl) rfl
theorem q5049 : (Jvm.Cond.privateMethod ({ cls := "ScholarsPressModel$Setting", name := "flow", desc := "()V" } : Jvm.MethodName)) ∈ lw_tbl := lw_at lw_m20 135 rfl
theorem q5050 : (Jvm.Cond.instanceMethod ({ cls := "ScholarsPressModel$Setting", name := "flow", desc := "()V" } : Jvm.MethodName)) ∈ lw_all := lw_g (lw_at lw_m20 136 rfl) rfl
theorem q5051 : (Jvm.Cond.code ({ cls := "ScholarsPressModel$Setting", name := "flow", desc := "()V" } : Jvm.MethodName) prog_26_method_56_code (6 : Nat) (Option.none : Option Jvm.ClassFile.FieldType)) ∈ lw_all := lw_g (lw_at lw_m20 137 rfl) rfl
theorem q5052 : (Jvm.Cond.methodLink "ScholarsPressModel$Setting" (786 : Nat) ({ cls := "ScholarsPressModel$Setting", name := "addLine", desc := "(IIIIIZ)V" } : Jvm.MethodName)) ∈ lw_all := lw_g (lw_at lw_m20 138 rfl) rfl
theorem q5053 : (Jvm.Cond.privateMethod ({ cls := "ScholarsPressModel$Setting", name := "addLine", desc := "(IIIIIZ)V" } : Jvm.MethodName)) ∈ lw_tbl := lw_at lw_m20 139 rfl
theorem q5054 : (Jvm.Cond.instanceMethod ({ cls := "ScholarsPressModel$Setting", name := "addLine", desc := "(IIIIIZ)V" } : Jvm.MethodName)) ∈ lw_all := lw_g (lw_at lw_m20 140 rfl) rfl
theorem q5055 : (Jvm.Cond.code ({ cls := "ScholarsPressModel$Setting", name := "addLine", desc := "(IIIIIZ)V" } : Jvm.MethodName) prog_26_method_55_code (7 : Nat) (Option.none : Option Jvm.ClassFile.FieldType)) ∈ lw_all := lw_g (lw_at lw_m20 141 rfl) rfl
theorem q5056 : (Jvm.Cond.methodLink "ScholarsPressModel$Setting" (390 : Nat) ({ cls := "ScholarsPressModel$Setting", name := "findLines", desc := "()V" } : Jvm.MethodName)) ∈ lw_all := lw_g (lw_at lw_m20 142 rfl) rfl
theorem q5057 : (Jvm.Cond.privateMethod ({ cls := "ScholarsPressModel$Setting", name := "findLines", desc := "()V" } : Jvm.MethodName)) ∈ lw_tbl := lw_at lw_m20 143 rfl
theorem q5058 : (Jvm.Cond.instanceMethod ({ cls := "ScholarsPressModel$Setting", name := "findLines", desc := "()V" } : Jvm.MethodName)) ∈ lw_all := lw_g (lw_at lw_m20 144 rfl) rfl
theorem q5059 : (Jvm.Cond.code ({ cls := "ScholarsPressModel$Setting", name := "findLines", desc := "()V" } : Jvm.MethodName) prog_26_method_57_code (4 : Nat) (Option.none : Option Jvm.ClassFile.FieldType)) ∈ lw_all := lw_g (lw_at lw_m20 145 rfl) rfl
theorem q5060 : (Jvm.Cond.methodLink "ScholarsPressModel$Setting" (790 : Nat) ({ cls := "ScholarsPressModel$Setting", name := "byteTo", desc := "(II)I" } : Jvm.MethodName)) ∈ lw_all := lw_g (lw_at lw_m20 146 rfl) rfl
theorem q5061 : (Jvm.Cond.instanceMethod ({ cls := "ScholarsPressModel$Setting", name := "byteTo", desc := "(II)I" } : Jvm.MethodName)) ∈ lw_all := lw_g (lw_at lw_m20 147 rfl) rfl
theorem q5062 : (Jvm.Cond.selects "ScholarsPressModel$Setting" ({ cls := "ScholarsPressModel$Setting", name := "byteTo", desc := "(II)I" } : Jvm.MethodName) ({ cls := "ScholarsPressModel$Setting", name := "byteTo", desc := "(II)I" } : Jvm.MethodName)) ∈ lw_all := lw_g (lw_at lw_m20 148 rfl) rfl
theorem q5063 : (Jvm.Cond.code ({ cls := "ScholarsPressModel$Setting", name := "byteTo", desc := "(II)I" } : Jvm.MethodName) prog_26_method_53_code (3 : Nat) (Option.some Jvm.ClassFile.FieldType.int)) ∈ lw_all := lw_g (lw_at lw_m20 149 rfl) rfl
theorem q5064 : (Jvm.Cond.methodLink "ScholarsPressModel$Setting" (393 : Nat) ({ cls := "ScholarsPressModel$Setting", name := "layOut", desc := "()V" } : Jvm.MethodName)) ∈ lw_all := lw_g (lw_at lw_m20 150 rfl) rfl
theorem q5065 : (Jvm.Cond.privateMethod ({ cls := "ScholarsPressModel$Setting", name := "layOut", desc := "()V" } : Jvm.MethodName)) ∈ lw_tbl := lw_at lw_m20 151 rfl
theorem q5066 : (Jvm.Cond.instanceMethod ({ cls := "ScholarsPressModel$Setting", name := "layOut", desc := "()V" } : Jvm.MethodName)) ∈ lw_all := lw_g (lw_at lw_m20 152 rfl) rfl
theorem q5067 : (Jvm.Cond.code ({ cls := "ScholarsPressModel$Setting", name := "layOut", desc := "()V" } : Jvm.MethodName) prog_26_method_66_code (9 : Nat) (Option.none : Option Jvm.ClassFile.FieldType)) ∈ lw_all := lw_g (lw_at lw_m20 153 rfl) rfl
theorem q5068 : (Jvm.Cond.methodLink "ScholarsPressModel$Setting" (828 : Nat) ({ cls := "ScholarsPressModel$Setting", name := "state", desc := "(IIIJI)I" } : Jvm.MethodName)) ∈ lw_all := lw_g (lw_at lw_m20 154 rfl) rfl
theorem q5069 : (Jvm.Cond.privateMethod ({ cls := "ScholarsPressModel$Setting", name := "state", desc := "(IIIJI)I" } : Jvm.MethodName)) ∈ lw_tbl := lw_at lw_m20 155 rfl
theorem q5070 : (Jvm.Cond.instanceMethod ({ cls := "ScholarsPressModel$Setting", name := "state", desc := "(IIIJI)I" } : Jvm.MethodName)) ∈ lw_all := lw_g (lw_at lw_m20 156 rfl) rfl
theorem q5071 : (Jvm.Cond.code ({ cls := "ScholarsPressModel$Setting", name := "state", desc := "(IIIJI)I" } : Jvm.MethodName) prog_26_method_62_code (9 : Nat) (Option.some Jvm.ClassFile.FieldType.int)) ∈ lw_all := lw_g (lw_at lw_m20 157 rfl) rfl
theorem q5072 : (Jvm.Cond.methodLink "ScholarsPressModel$Setting" (796 : Nat) ({ cls := "ScholarsPressModel$Setting", name := "longer", desc := "([I)[I" } : Jvm.MethodName)) ∈ lw_all := lw_g (lw_at lw_m20 158 rfl) rfl
theorem q5073 : (Jvm.Cond.static ({ cls := "ScholarsPressModel$Setting", name := "longer", desc := "([I)[I" } : Jvm.MethodName)) ∈ lw_all := lw_g (lw_at lw_m20 159 rfl) rfl
theorem q5074 : (Jvm.Cond.code ({ cls := "ScholarsPressModel$Setting", name := "longer", desc := "([I)[I" } : Jvm.MethodName) prog_26_method_61_code (3 : Nat) (Option.some (Jvm.ClassFile.FieldType.array Jvm.ClassFile.FieldType.int))) ∈ lw_all := lw_g (lw_at lw_m20 160 rfl) rfl
theorem q5075 : (Jvm.Cond.methodLink "ScholarsPressModel$Setting" (838 : Nat) ({ cls := "ScholarsPressModel$Setting", name := "fits", desc := "(II)Z" } : Jvm.MethodName)) ∈ lw_all := lw_g (lw_at lw_m20 161 rfl) rfl
theorem q5076 : (Jvm.Cond.privateMethod ({ cls := "ScholarsPressModel$Setting", name := "fits", desc := "(II)Z" } : Jvm.MethodName)) ∈ lw_tbl := lw_at lw_m20 162 rfl
theorem q5077 : (Jvm.Cond.instanceMethod ({ cls := "ScholarsPressModel$Setting", name := "fits", desc := "(II)Z" } : Jvm.MethodName)) ∈ lw_all := lw_g (lw_at lw_m20 163 rfl) rfl
theorem q5078 : (Jvm.Cond.code ({ cls := "ScholarsPressModel$Setting", name := "fits", desc := "(II)Z" } : Jvm.MethodName) prog_26_method_63_code (12 : Nat) (Option.some Jvm.ClassFile.FieldType.boolean)) ∈ lw_all := lw_g (lw_at lw_m20 164 rfl) rfl
theorem q5079 : (Jvm.Cond.methodLink "ScholarsPressModel$Setting" (806 : Nat) ({ cls := "ScholarsPressModel$Setting", name := "leadOf", desc := "(I)I" } : Jvm.MethodName)) ∈ lw_all := lw_g (lw_at lw_m20 165 rfl) rfl
theorem q5080 : (Jvm.Cond.privateMethod ({ cls := "ScholarsPressModel$Setting", name := "leadOf", desc := "(I)I" } : Jvm.MethodName)) ∈ lw_tbl := lw_at lw_m20 166 rfl
theorem q5081 : (Jvm.Cond.instanceMethod ({ cls := "ScholarsPressModel$Setting", name := "leadOf", desc := "(I)I" } : Jvm.MethodName)) ∈ lw_all := lw_g (lw_at lw_m20 167 rfl) rfl
theorem q5082 : (Jvm.Cond.code ({ cls := "ScholarsPressModel$Setting", name := "leadOf", desc := "(I)I" } : Jvm.MethodName) prog_26_method_58_code (2 : Nat) (Option.some Jvm.ClassFile.FieldType.int)) ∈ lw_all := lw_g (lw_at lw_m20 168 rfl) rfl
theorem q5083 : (Jvm.Cond.methodLink "ScholarsPressModel$Setting" (809 : Nat) ({ cls := "ScholarsPressModel$Setting", name := "linesOf", desc := "(I)I" } : Jvm.MethodName)) ∈ lw_all := lw_g (lw_at lw_m20 169 rfl) rfl
theorem q5084 : (Jvm.Cond.privateMethod ({ cls := "ScholarsPressModel$Setting", name := "linesOf", desc := "(I)I" } : Jvm.MethodName)) ∈ lw_tbl := lw_at lw_m20 170 rfl
theorem q5085 : (Jvm.Cond.instanceMethod ({ cls := "ScholarsPressModel$Setting", name := "linesOf", desc := "(I)I" } : Jvm.MethodName)) ∈ lw_all := lw_g (lw_at lw_m20 171 rfl) rfl
theorem q5086 : (Jvm.Cond.code ({ cls := "ScholarsPressModel$Setting", name := "linesOf", desc := "(I)I" } : Jvm.MethodName) prog_26_method_59_code (2 : Nat) (Option.some Jvm.ClassFile.FieldType.int)) ∈ lw_all := lw_g (lw_at lw_m20 172 rfl) rfl
theorem q5087 : (Jvm.Cond.methodLink "ScholarsPressModel$Setting" (815 : Nat) ({ cls := "ScholarsPressModel$Setting", name := "floatHigh", desc := "(I)J" } : Jvm.MethodName)) ∈ lw_all := lw_g (lw_at lw_m20 173 rfl) rfl
theorem q5088 : (Jvm.Cond.privateMethod ({ cls := "ScholarsPressModel$Setting", name := "floatHigh", desc := "(I)J" } : Jvm.MethodName)) ∈ lw_tbl := lw_at lw_m20 174 rfl
theorem q5089 : (Jvm.Cond.instanceMethod ({ cls := "ScholarsPressModel$Setting", name := "floatHigh", desc := "(I)J" } : Jvm.MethodName)) ∈ lw_all := lw_g (lw_at lw_m20 175 rfl) rfl
theorem q5090 : (Jvm.Cond.code ({ cls := "ScholarsPressModel$Setting", name := "floatHigh", desc := "(I)J" } : Jvm.MethodName) prog_26_method_60_code (2 : Nat) (Option.some Jvm.ClassFile.FieldType.long)) ∈ lw_all := lw_g (lw_at lw_m20 176 rfl) rfl
theorem q5091 : (Jvm.Cond.methodLink "ScholarsPressModel$Setting" (841 : Nat) ({ cls := "ScholarsPressModel$Setting", name := "endsHyphen", desc := "(II)Z" } : Jvm.MethodName)) ∈ lw_all := lw_g (lw_at lw_m20 177 rfl) rfl
theorem q5092 : (Jvm.Cond.instanceMethod ({ cls := "ScholarsPressModel$Setting", name := "endsHyphen", desc := "(II)Z" } : Jvm.MethodName)) ∈ lw_all := lw_g (lw_at lw_m20 178 rfl) rfl
theorem q5093 : (Jvm.Cond.selects "ScholarsPressModel$Setting" ({ cls := "ScholarsPressModel$Setting", name := "endsHyphen", desc := "(II)Z" } : Jvm.MethodName) ({ cls := "ScholarsPressModel$Setting", name := "endsHyphen", desc := "(II)Z" } : Jvm.MethodName)) ∈ lw_all := lw_g (lw_at lw_m20 179 rfl) rfl
theorem q5094 : (Jvm.Cond.code ({ cls := "ScholarsPressModel$Setting", name := "endsHyphen", desc := "(II)Z" } : Jvm.MethodName) prog_26_method_54_code (3 : Nat) (Option.some Jvm.ClassFile.FieldType.boolean)) ∈ lw_all := lw_g (lw_at lw_m20 180 rfl) rfl
theorem q5095 : (Jvm.Cond.constantLong "ScholarsPressModel$Setting" (844 : Nat) (400 : Int64)) ∈ lw_all := lw_g (lw_at lw_m20 181 rfl) rfl
theorem q5096 : (Jvm.Cond.methodLink "ScholarsPressModel$Setting" (846 : Nat) ({ cls := "ScholarsPressModel$Setting", name := "relax", desc := "(IIJ)V" } : Jvm.MethodName)) ∈ lw_all := lw_g (lw_at lw_m20 182 rfl) rfl
theorem q5097 : (Jvm.Cond.privateMethod ({ cls := "ScholarsPressModel$Setting", name := "relax", desc := "(IIJ)V" } : Jvm.MethodName)) ∈ lw_tbl := lw_at lw_m20 183 rfl
theorem q5098 : (Jvm.Cond.instanceMethod ({ cls := "ScholarsPressModel$Setting", name := "relax", desc := "(IIJ)V" } : Jvm.MethodName)) ∈ lw_all := lw_g (lw_at lw_m20 184 rfl) rfl
theorem q5099 : (Jvm.Cond.code ({ cls := "ScholarsPressModel$Setting", name := "relax", desc := "(IIJ)V" } : Jvm.MethodName) prog_26_method_65_code (8 : Nat) (Option.none : Option Jvm.ClassFile.FieldType)) ∈ lw_all := lw_g (lw_at lw_m20 185 rfl) rfl
theorem q5100 : (Jvm.Cond.methodLink "ScholarsPressModel$Setting" (825 : Nat) ({ cls := "ScholarsPressModel$Setting", name := "columnsFirst", desc := "(II)Z" } : Jvm.MethodName)) ∈ lw_all := lw_g (lw_at lw_m20 186 rfl) rfl
theorem q5101 : (Jvm.Cond.privateMethod ({ cls := "ScholarsPressModel$Setting", name := "columnsFirst", desc := "(II)Z" } : Jvm.MethodName)) ∈ lw_tbl := lw_at lw_m20 187 rfl
theorem q5102 : (Jvm.Cond.instanceMethod ({ cls := "ScholarsPressModel$Setting", name := "columnsFirst", desc := "(II)Z" } : Jvm.MethodName)) ∈ lw_all := lw_g (lw_at lw_m20 188 rfl) rfl
theorem q5103 : (Jvm.Cond.code ({ cls := "ScholarsPressModel$Setting", name := "columnsFirst", desc := "(II)Z" } : Jvm.MethodName) prog_26_method_64_code (7 : Nat) (Option.some Jvm.ClassFile.FieldType.boolean)) ∈ lw_all := lw_g (lw_at lw_m20 189 rfl) rfl
theorem q5104 : (Jvm.Cond.classLink "ScholarsPressModel$Setting" (850 : Nat) "java/lang/ArithmeticException") ∈ lw_all := lw_g (lw_at lw_m20 190 rfl) rfl
theorem q5105 : (Jvm.Cond.methodLink "ScholarsPressModel$Setting" (852 : Nat) ({ cls := "java/lang/ArithmeticException", name := "<init>", desc := "()V" } : Jvm.MethodName)) ∈ lw_all := lw_g (lw_at lw_m20 191 rfl) rfl
theorem q5106 : (Jvm.Cond.methodLink "ScholarsPressModel$Setting" (853 : Nat) ({ cls := "ScholarsPressModel$Setting", name := "place", desc := "(I)V" } : Jvm.MethodName)) ∈ lw_all := lw_g (lw_at lw_m20 192 rfl) rfl
theorem q5107 : (Jvm.Cond.privateMethod ({ cls := "ScholarsPressModel$Setting", name := "place", desc := "(I)V" } : Jvm.MethodName)) ∈ lw_tbl := lw_at lw_m20 193 rfl
theorem q5108 : (Jvm.Cond.instanceMethod ({ cls := "ScholarsPressModel$Setting", name := "place", desc := "(I)V" } : Jvm.MethodName)) ∈ lw_all := lw_g (lw_at lw_m20 194 rfl) rfl
theorem q5109 : (Jvm.Cond.code ({ cls := "ScholarsPressModel$Setting", name := "place", desc := "(I)V" } : Jvm.MethodName) prog_26_method_70_code (15 : Nat) (Option.none : Option Jvm.ClassFile.FieldType)) ∈ lw_all := lw_g (lw_at lw_m20 195 rfl) rfl
theorem q5110 : (Jvm.Cond.methodLink "ScholarsPressModel$Setting" (856 : Nat) ({ cls := "ScholarsPressModel$Setting", name := "piece", desc := "(III)V" } : Jvm.MethodName)) ∈ lw_all := lw_g (lw_at lw_m20 196 rfl) rfl
theorem q5111 : (Jvm.Cond.privateMethod ({ cls := "ScholarsPressModel$Setting", name := "piece", desc := "(III)V" } : Jvm.MethodName)) ∈ lw_tbl := lw_at lw_m20 197 rfl
theorem q5112 : (Jvm.Cond.instanceMethod ({ cls := "ScholarsPressModel$Setting", name := "piece", desc := "(III)V" } : Jvm.MethodName)) ∈ lw_all := lw_g (lw_at lw_m20 198 rfl) rfl
theorem q5113 : (Jvm.Cond.code ({ cls := "ScholarsPressModel$Setting", name := "piece", desc := "(III)V" } : Jvm.MethodName) prog_26_method_67_code (4 : Nat) (Option.none : Option Jvm.ClassFile.FieldType)) ∈ lw_all := lw_g (lw_at lw_m20 199 rfl) rfl
theorem q5114 : (Jvm.Cond.methodLink "ScholarsPressModel$Setting" (859 : Nat) ({ cls := "ScholarsPressModel$Setting", name := "foot", desc := "(I)V" } : Jvm.MethodName)) ∈ lw_all := lw_g (lw_at lw_m20 200 rfl) rfl
theorem q5115 : (Jvm.Cond.privateMethod ({ cls := "ScholarsPressModel$Setting", name := "foot", desc := "(I)V" } : Jvm.MethodName)) ∈ lw_tbl := lw_at lw_m20 201 rfl
theorem q5116 : (Jvm.Cond.instanceMethod ({ cls := "ScholarsPressModel$Setting", name := "foot", desc := "(I)V" } : Jvm.MethodName)) ∈ lw_all := lw_g (lw_at lw_m20 202 rfl) rfl
theorem q5117 : (Jvm.Cond.code ({ cls := "ScholarsPressModel$Setting", name := "foot", desc := "(I)V" } : Jvm.MethodName) prog_26_method_68_code (7 : Nat) (Option.none : Option Jvm.ClassFile.FieldType)) ∈ lw_all := lw_g (lw_at lw_m20 203 rfl) rfl
theorem q5118 : (Jvm.Cond.methodLink "ScholarsPressModel$Setting" (862 : Nat) ({ cls := "ScholarsPressModel$Setting", name := "next", desc := "()V" } : Jvm.MethodName)) ∈ lw_all := lw_g (lw_at lw_m20 204 rfl) rfl
theorem q5119 : (Jvm.Cond.privateMethod ({ cls := "ScholarsPressModel$Setting", name := "next", desc := "()V" } : Jvm.MethodName)) ∈ lw_tbl := lw_at lw_m20 205 rfl
theorem q5120 : (Jvm.Cond.instanceMethod ({ cls := "ScholarsPressModel$Setting", name := "next", desc := "()V" } : Jvm.MethodName)) ∈ lw_all := lw_g (lw_at lw_m20 206 rfl) rfl
theorem q5121 : (Jvm.Cond.code ({ cls := "ScholarsPressModel$Setting", name := "next", desc := "()V" } : Jvm.MethodName) prog_26_method_69_code (1 : Nat) (Option.none : Option Jvm.ClassFile.FieldType)) ∈ lw_all := lw_g (lw_at lw_m20 207 rfl) rfl
theorem q5122 : (Jvm.Cond.methodLink "ScholarsPressModel$Setting" (396 : Nat) ({ cls := "ScholarsPressModel$Setting", name := "number", desc := "()V" } : Jvm.MethodName)) ∈ lw_all := lw_g (lw_at lw_m20 208 rfl) rfl
theorem q5123 : (Jvm.Cond.privateMethod ({ cls := "ScholarsPressModel$Setting", name := "number", desc := "()V" } : Jvm.MethodName)) ∈ lw_tbl := lw_at lw_m20 209 rfl
theorem q5124 : (Jvm.Cond.instanceMethod ({ cls := "ScholarsPressModel$Setting", name := "number", desc := "()V" } : Jvm.MethodName)) ∈ lw_all := lw_g (lw_at lw_m20 210 rfl) rfl
theorem q5125 : (Jvm.Cond.code ({ cls := "ScholarsPressModel$Setting", name := "number", desc := "()V" } : Jvm.MethodName) prog_26_method_72_code (6 : Nat) (Option.none : Option Jvm.ClassFile.FieldType)) ∈ lw_all := lw_g (lw_at lw_m20 211 rfl) rfl
theorem q5126 : (Jvm.Cond.methodLink "ScholarsPressModel$Setting" (865 : Nat) ({ cls := "ScholarsPressModel$Setting", name := "pageOf", desc := "(I)I" } : Jvm.MethodName)) ∈ lw_all := lw_g (lw_at lw_m20 212 rfl) rfl
theorem q5127 : (Jvm.Cond.instanceMethod ({ cls := "ScholarsPressModel$Setting", name := "pageOf", desc := "(I)I" } : Jvm.MethodName)) ∈ lw_all := lw_g (lw_at lw_m20 213 rfl) rfl
theorem q5128 : (Jvm.Cond.selects "ScholarsPressModel$Setting" ({ cls := "ScholarsPressModel$Setting", name := "pageOf", desc := "(I)I" } : Jvm.MethodName) ({ cls := "ScholarsPressModel$Setting", name := "pageOf", desc := "(I)I" } : Jvm.MethodName)) ∈ lw_all := lw_g (lw_at lw_m20 214 rfl) rfl
theorem q5129 : (Jvm.Cond.code ({ cls := "ScholarsPressModel$Setting", name := "pageOf", desc := "(I)I" } : Jvm.MethodName) prog_26_method_71_code (2 : Nat) (Option.some Jvm.ClassFile.FieldType.int)) ∈ lw_all := lw_g (lw_at lw_m20 215 rfl) rfl
theorem q5130 : (Jvm.Cond.methodLink "ScholarsPressModel$Setting" (363 : Nat) ({ cls := "ScholarsPressModel$Setting", name := "findWavering", desc := "()V" } : Jvm.MethodName)) ∈ lw_all := lw_g (lw_at lw_m20 216 rfl) rfl
theorem q5131 : (Jvm.Cond.privateMethod ({ cls := "ScholarsPressModel$Setting", name := "findWavering", desc := "()V" } : Jvm.MethodName)) ∈ lw_tbl := lw_at lw_m20 217 rfl
theorem q5132 : (Jvm.Cond.instanceMethod ({ cls := "ScholarsPressModel$Setting", name := "findWavering", desc := "()V" } : Jvm.MethodName)) ∈ lw_all := lw_g (lw_at lw_m20 218 rfl) rfl
theorem q5133 : (Jvm.Cond.code ({ cls := "ScholarsPressModel$Setting", name := "findWavering", desc := "()V" } : Jvm.MethodName) prog_26_method_73_code (5 : Nat) (Option.none : Option Jvm.ClassFile.FieldType)) ∈ lw_all := lw_g (lw_at lw_m20 219 rfl) rfl
theorem q5135 : (Jvm.Cond.instanceMethod ({ cls := "ScholarsPressModel$Setting", name := "compare", desc := "(LScholarsPressModel$Setting;Z)V" } : Jvm.MethodName)) ∈ lw_all := lw_g (lw_at lw_m20 221 rfl) rfl
theorem q5136 : (Jvm.Cond.selects "ScholarsPressModel$Setting" ({ cls := "ScholarsPressModel$Setting", name := "compare", desc := "(LScholarsPressModel$Setting;Z)V" } : Jvm.MethodName) ({ cls := "ScholarsPressModel$Setting", name := "compare", desc := "(LScholarsPressModel$Setting;Z)V" } : Jvm.MethodName)) ∈ lw_all := lw_g (lw_at lw_m20 222 rfl) rfl
theorem q5137 : (Jvm.Cond.code ({ cls := "ScholarsPressModel$Setting", name := "compare", desc := "(LScholarsPressModel$Setting;Z)V" } : Jvm.MethodName) prog_26_method_75_code (6 : Nat) (Option.none : Option Jvm.ClassFile.FieldType)) ∈ lw_all := lw_g (lw_at lw_m20 223 rfl) rfl
theorem q5138 : (Jvm.Cond.methodLink "ScholarsPressModel$Setting" (874 : Nat) ({ cls := "ScholarsPressModel$Setting", name := "samePar", desc := "(ILScholarsPressModel$Setting;I)Z" } : Jvm.MethodName)) ∈ lw_all := lw_g (lw_at lw_m20 224 rfl) rfl
theorem q5139 : (Jvm.Cond.privateMethod ({ cls := "ScholarsPressModel$Setting", name := "samePar", desc := "(ILScholarsPressModel$Setting;I)Z" } : Jvm.MethodName)) ∈ lw_tbl := lw_at lw_m20 225 rfl
theorem q5140 : (Jvm.Cond.instanceMethod ({ cls := "ScholarsPressModel$Setting", name := "samePar", desc := "(ILScholarsPressModel$Setting;I)Z" } : Jvm.MethodName)) ∈ lw_all := lw_g (lw_at lw_m20 226 rfl) rfl
theorem q5141 : (Jvm.Cond.code ({ cls := "ScholarsPressModel$Setting", name := "samePar", desc := "(ILScholarsPressModel$Setting;I)Z" } : Jvm.MethodName) prog_26_method_74_code (7 : Nat) (Option.some Jvm.ClassFile.FieldType.boolean)) ∈ lw_all := lw_g (lw_at lw_m20 227 rfl) rfl
theorem q5158 : (Jvm.Cond.instanceMethod ({ cls := "ScholarsPressModel$Setting", name := "beginsAt", desc := "(II)J" } : Jvm.MethodName)) ∈ lw_all := lw_g (lw_at lw_m21 4 rfl) rfl
theorem q5159 : (Jvm.Cond.selects "ScholarsPressModel$Setting" ({ cls := "ScholarsPressModel$Setting", name := "beginsAt", desc := "(II)J" } : Jvm.MethodName) ({ cls := "ScholarsPressModel$Setting", name := "beginsAt", desc := "(II)J" } : Jvm.MethodName)) ∈ lw_all := lw_g (lw_at lw_m21 5 rfl) rfl
theorem q5160 : (Jvm.Cond.code ({ cls := "ScholarsPressModel$Setting", name := "beginsAt", desc := "(II)J" } : Jvm.MethodName) prog_26_method_49_code (7 : Nat) (Option.some Jvm.ClassFile.FieldType.long)) ∈ lw_all := lw_g (lw_at lw_m21 6 rfl) rfl
theorem q5161 : (Jvm.Cond.methodLink "ScholarsPressModel$Setting" (777 : Nat) ({ cls := "ScholarsPressModel$Setting", name := "lineStart", desc := "(II)I" } : Jvm.MethodName)) ∈ lw_all := lw_g (lw_at lw_m21 7 rfl) rfl
theorem q5162 : (Jvm.Cond.instanceMethod ({ cls := "ScholarsPressModel$Setting", name := "lineStart", desc := "(II)I" } : Jvm.MethodName)) ∈ lw_all := lw_g (lw_at lw_m21 8 rfl) rfl
theorem q5163 : (Jvm.Cond.selects "ScholarsPressModel$Setting" ({ cls := "ScholarsPressModel$Setting", name := "lineStart", desc := "(II)I" } : Jvm.MethodName) ({ cls := "ScholarsPressModel$Setting", name := "lineStart", desc := "(II)I" } : Jvm.MethodName)) ∈ lw_all := lw_g (lw_at lw_m21 9 rfl) rfl
theorem q5164 : (Jvm.Cond.code ({ cls := "ScholarsPressModel$Setting", name := "lineStart", desc := "(II)I" } : Jvm.MethodName) prog_26_method_48_code (3 : Nat) (Option.some Jvm.ClassFile.FieldType.int)) ∈ lw_all := lw_g (lw_at lw_m21 10 rfl) rfl
theorem q5170 : (Jvm.Cond.instanceMethod ({ cls := "ScholarsPressModel$Setting", name := "words", desc := "(II)I" } : Jvm.MethodName)) ∈ lw_all := lw_g (lw_at lw_m21 16 rfl) rfl
theorem q5171 : (Jvm.Cond.selects "ScholarsPressModel$Setting" ({ cls := "ScholarsPressModel$Setting", name := "words", desc := "(II)I" } : Jvm.MethodName) ({ cls := "ScholarsPressModel$Setting", name := "words", desc := "(II)I" } : Jvm.MethodName)) ∈ lw_all := lw_g (lw_at lw_m21 17 rfl) rfl
theorem q5172 : (Jvm.Cond.code ({ cls := "ScholarsPressModel$Setting", name := "words", desc := "(II)I" } : Jvm.MethodName) prog_26_method_51_code (5 : Nat) (Option.some Jvm.ClassFile.FieldType.int)) ∈ lw_all := lw_g (lw_at lw_m21 18 rfl) rfl
theorem q5174 : (Jvm.Cond.instanceMethod ({ cls := "ScholarsPressModel$Setting", name := "spot", desc := "(III)J" } : Jvm.MethodName)) ∈ lw_all := lw_g (lw_at lw_m21 20 rfl) rfl
theorem q5175 : (Jvm.Cond.selects "ScholarsPressModel$Setting" ({ cls := "ScholarsPressModel$Setting", name := "spot", desc := "(III)J" } : Jvm.MethodName) ({ cls := "ScholarsPressModel$Setting", name := "spot", desc := "(III)J" } : Jvm.MethodName)) ∈ lw_all := lw_g (lw_at lw_m21 21 rfl) rfl
theorem q5176 : (Jvm.Cond.code ({ cls := "ScholarsPressModel$Setting", name := "spot", desc := "(III)J" } : Jvm.MethodName) prog_26_method_50_code (18 : Nat) (Option.some Jvm.ClassFile.FieldType.long)) ∈ lw_all := lw_g (lw_at lw_m21 22 rfl) rfl
theorem q5177 : (Jvm.Cond.methodLink "ScholarsPressModel$Setting" (780 : Nat) ({ cls := "ScholarsPressModel$Setting", name := "beginsAt", desc := "(II)J" } : Jvm.MethodName)) ∈ lw_all := lw_g (lw_at lw_m21 23 rfl) rfl
theorem q5178 : (Jvm.Cond.constantLong "ScholarsPressModel$Setting" (775 : Nat) (-1 : Int64)) ∈ lw_all := lw_g (lw_at lw_m21 24 rfl) rfl
theorem q5190 : (Jvm.Cond.instanceMethod ({ cls := "ScholarsPressModel$Setting", name := "judge", desc := "(I[II)J" } : Jvm.MethodName)) ∈ lw_all := lw_g (lw_at lw_m21 36 rfl) rfl
theorem q5191 : (Jvm.Cond.selects "ScholarsPressModel$Setting" ({ cls := "ScholarsPressModel$Setting", name := "judge", desc := "(I[II)J" } : Jvm.MethodName) ({ cls := "ScholarsPressModel$Setting", name := "judge", desc := "(I[II)J" } : Jvm.MethodName)) ∈ lw_all := lw_g (lw_at lw_m21 37 rfl) rfl
theorem q5192 : (Jvm.Cond.code ({ cls := "ScholarsPressModel$Setting", name := "judge", desc := "(I[II)J" } : Jvm.MethodName) prog_26_method_47_code (10 : Nat) (Option.some Jvm.ClassFile.FieldType.long)) ∈ lw_all := lw_g (lw_at lw_m21 38 rfl) rfl
theorem q5221 : (Jvm.Cond.instanceMethod ({ cls := "ScholarsPressModel$Setting", name := "headOf", desc := "(I)I" } : Jvm.MethodName)) ∈ lw_all := lw_g (lw_at lw_m21 67 rfl) rfl
theorem q5222 : (Jvm.Cond.selects "ScholarsPressModel$Setting" ({ cls := "ScholarsPressModel$Setting", name := "headOf", desc := "(I)I" } : Jvm.MethodName) ({ cls := "ScholarsPressModel$Setting", name := "headOf", desc := "(I)I" } : Jvm.MethodName)) ∈ lw_all := lw_g (lw_at lw_m21 68 rfl) rfl
theorem q5223 : (Jvm.Cond.code ({ cls := "ScholarsPressModel$Setting", name := "headOf", desc := "(I)I" } : Jvm.MethodName) prog_26_method_76_code (4 : Nat) (Option.some Jvm.ClassFile.FieldType.int)) ∈ lw_all := lw_g (lw_at lw_m21 69 rfl) rfl
theorem q5240 : (Jvm.Cond.instanceMethod ({ cls := "ScholarsPressModel$Setting", name := "byteFrom", desc := "(II)I" } : Jvm.MethodName)) ∈ lw_all := lw_g (lw_at lw_m21 86 rfl) rfl
theorem q5241 : (Jvm.Cond.selects "ScholarsPressModel$Setting" ({ cls := "ScholarsPressModel$Setting", name := "byteFrom", desc := "(II)I" } : Jvm.MethodName) ({ cls := "ScholarsPressModel$Setting", name := "byteFrom", desc := "(II)I" } : Jvm.MethodName)) ∈ lw_all := lw_g (lw_at lw_m21 87 rfl) rfl
theorem q5242 : (Jvm.Cond.code ({ cls := "ScholarsPressModel$Setting", name := "byteFrom", desc := "(II)I" } : Jvm.MethodName) prog_26_method_52_code (5 : Nat) (Option.some Jvm.ClassFile.FieldType.int)) ∈ lw_all := lw_g (lw_at lw_m21 88 rfl) rfl
theorem in_X25 : ∀ w ∈ wsX250, w ∈ lw_all := lw_in wsX250 [3953, 3955, 3957, 3959, 3961, 3963, 3965, 3967, 3969, 3971, 3973, 3975, 3977, 3979, 3981, 3983, 3985, 3987, 3989, 3991, 3993, 3995, 3997, 3999, 4001, 4003, 4005, 4007, 4009, 4011, 4013, 4015, 4017, 4019, 4021, 4023, 4025, 4027, 4029, 4031, 4033, 4035, 4037, 4039, 4041, 4043, 4045, 4047, 4049, 4051, 4053, 4055, 4057, 4059, 4061, 4063, 4065, 4067, 4069, 4071, 4073, 4075, 4077, 4079, 4081, 4083, 4085, 4087, 4089, 4091, 4093, 4095, 4097, 4099, 4101, 4103, 4105, 4107, 4109, 4111, 4113, 4115, 4117, 4119, 4121, 4123, 4125, 4127, 4129, 4131, 4133, 4135, 4137, 4139, 4141, 4143, 4145, 4147, 4149, 4151, 4153, 4155, 4157, 4159, 4161, 4163, 4165, 4167, 4169, 4171, 4173, 4175, 4177, 4179, 4181, 4183, 4185, 4187, 4189, 4191, 4193, 4195, 4197, 4199, 4201, 4203, 4205, 4207, 4209, 4211, 4213, 4215, 4217, 4219, 4221, 4223, 4225, 4227, 4229, 4231, 4233] (by decide +kernel) (by decide +kernel)
/-! ScholarsPress$Broken -/
def RX26 : String := "ScholarsPress$Broken"
def TX26 : u_T := fun k => match k with
  | 0 => ("java/lang/Throwable", "cause", "Ljava/lang/Throwable;", false)
  | 1 => ("java/lang/Throwable", "stackTrace", "[Ljava/lang/StackTraceElement;", false)
  | 2 => ("java/lang/Throwable", "suppressedExceptions", "Ljava/util/List;", false)
  | 3 => ("java/lang/Throwable", "detailMessage", "Ljava/lang/String;", false)
  | 4 => ("java/lang/Throwable", "backtrace", "Ljava/lang/Object;", false)
  | 5 => ("java/lang/Throwable", "depth", "I", false)
  | _ => ("ScholarsPress$Broken", "place", "I", true)
def tyX26 : Nat → FieldType := fun k => match k with
  | 0 => .object "java/lang/Throwable"
  | 1 => .array (.object "java/lang/StackTraceElement")
  | 2 => .object "java/util/List"
  | 3 => .object "java/lang/String"
  | 4 => .object "java/lang/Object"
  | 5 => .int
  | _ => .int
abbrev wsX260 : List Cond := u_ws RX26 TX26 7
theorem nmX26 : ∀ a, a < 7 → ∀ b, b < 7 → a ≠ b → (TX26 a).2.1 ≠ (TX26 b).2.1 := by decide +kernel
theorem tyX26_ok : ∀ k, k < 7 → parseFieldDescriptor (TX26 k).2.2.1 = some (tyX26 k) := by decide +kernel
abbrev cX26_init : ByteArray := prog_3_method_1_code
def yX26_init : MethodName := ⟨RX26, "<init>", "(I)V"⟩
theorem q391 : (Jvm.Cond.initialized "ScholarsPress$Broken") ∈ lw_all := lw_g (lw_at lw_m1 37 rfl) rfl
theorem q1589 : (Jvm.Cond.selects "ScholarsPress$Broken" ({ cls := "java/lang/Throwable", name := "fillInStackTrace", desc := "()Ljava/lang/Throwable;" } : Jvm.MethodName) ({ cls := "java/lang/Throwable", name := "fillInStackTrace", desc := "()Ljava/lang/Throwable;" } : Jvm.MethodName)) ∈ lw_all := lw_g (lw_at lw_m6 35 rfl) rfl
theorem q1827 : (Jvm.Cond.instantiable "ScholarsPress$Broken" (7 : Nat)) ∈ lw_all := lw_g (lw_at lw_m7 33 rfl) rfl
theorem q1828 : (Jvm.Cond.castable "ScholarsPress$Broken" "ScholarsPress$Broken") ∈ lw_tbl := lw_at lw_m7 34 rfl
theorem q1831 : (Jvm.Cond.selects "ScholarsPress$Broken" ({ cls := "java/lang/Throwable", name := "fillInStackTrace", desc := "(I)Ljava/lang/Throwable;" } : Jvm.MethodName) ({ cls := "java/lang/Throwable", name := "fillInStackTrace", desc := "(I)Ljava/lang/Throwable;" } : Jvm.MethodName)) ∈ lw_all := lw_g (lw_at lw_m7 37 rfl) rfl
theorem q1832 : (Jvm.Cond.lays "ScholarsPress$Broken" "java/lang/Throwable" "cause" "Ljava/lang/Throwable;") ∈ lw_all := lw_g (lw_at lw_m7 38 rfl) rfl
theorem q1833 : (Jvm.Cond.lays "ScholarsPress$Broken" "java/lang/Throwable" "stackTrace" "[Ljava/lang/StackTraceElement;") ∈ lw_all := lw_g (lw_at lw_m7 39 rfl) rfl
theorem q1834 : (Jvm.Cond.lays "ScholarsPress$Broken" "java/lang/Throwable" "suppressedExceptions" "Ljava/util/List;") ∈ lw_all := lw_g (lw_at lw_m7 40 rfl) rfl
theorem q1835 : (Jvm.Cond.lays "ScholarsPress$Broken" "java/lang/Throwable" "detailMessage" "Ljava/lang/String;") ∈ lw_all := lw_g (lw_at lw_m7 41 rfl) rfl
theorem q1836 : (Jvm.Cond.lays "ScholarsPress$Broken" "java/lang/Throwable" "backtrace" "Ljava/lang/Object;") ∈ lw_all := lw_g (lw_at lw_m7 42 rfl) rfl
theorem q1838 : (Jvm.Cond.instanceMethod ({ cls := "ScholarsPress$Broken", name := "<init>", desc := "(I)V" } : Jvm.MethodName)) ∈ lw_all := lw_g (lw_at lw_m7 44 rfl) rfl
theorem q1839 : (Jvm.Cond.code ({ cls := "ScholarsPress$Broken", name := "<init>", desc := "(I)V" } : Jvm.MethodName) prog_3_method_1_code (2 : Nat) (Option.none : Option Jvm.ClassFile.FieldType)) ∈ lw_all := lw_g (lw_at lw_m7 45 rfl) rfl
theorem q1840 : (Jvm.Cond.methodLink "ScholarsPress$Broken" (1 : Nat) ({ cls := "java/lang/UnsupportedOperationException", name := "<init>", desc := "(Ljava/lang/String;Ljava/lang/Throwable;)V" } : Jvm.MethodName)) ∈ lw_all := lw_g (lw_at lw_m7 46 rfl) rfl
theorem q1852 : (Jvm.Cond.fieldLink "ScholarsPress$Broken" (7 : Nat) "ScholarsPress$Broken" "place" "I") ∈ lw_all := lw_g (lw_at lw_m7 58 rfl) rfl
theorem q1854 : (Jvm.Cond.laysFinal "ScholarsPress$Broken" "ScholarsPress$Broken" "place" "I") ∈ lw_all := lw_g (lw_at lw_m7 60 rfl) rfl
theorem q1855 : (Jvm.Cond.soleField "ScholarsPress$Broken" "place") ∈ lw_all := lw_g (lw_at lw_m7 61 rfl) rfl
theorem q1856 : (Jvm.Cond.lays "ScholarsPress$Broken" "java/lang/Throwable" "depth" "I") ∈ lw_all := lw_g (lw_at lw_m7 62 rfl) rfl
theorem q1857 : (Jvm.Cond.superclass "ScholarsPress$Broken" "java/lang/UnsupportedOperationException") ∈ lw_all := lw_g (lw_at lw_m7 63 rfl) rfl
theorem q5252 : (Jvm.Cond.castable "ScholarsPress$Broken" "java/lang/UnsupportedOperationException") ∈ lw_tbl := lw_at lw_m21 98 rfl
theorem in_X26 : ∀ w ∈ wsX260, w ∈ lw_all := lw_in wsX260 [1832, 1833, 1834, 1835, 1836, 1856, 1854] (by decide +kernel) (by decide +kernel)
/-! ScholarsPressModel$Broken -/
def RX27 : String := "ScholarsPressModel$Broken"
def TX27 : u_T := fun k => match k with
  | 0 => ("java/lang/Throwable", "cause", "Ljava/lang/Throwable;", false)
  | 1 => ("java/lang/Throwable", "stackTrace", "[Ljava/lang/StackTraceElement;", false)
  | 2 => ("java/lang/Throwable", "suppressedExceptions", "Ljava/util/List;", false)
  | 3 => ("java/lang/Throwable", "detailMessage", "Ljava/lang/String;", false)
  | 4 => ("java/lang/Throwable", "backtrace", "Ljava/lang/Object;", false)
  | 5 => ("java/lang/Throwable", "depth", "I", false)
  | _ => ("ScholarsPressModel$Broken", "place", "I", true)
def tyX27 : Nat → FieldType := fun k => match k with
  | 0 => .object "java/lang/Throwable"
  | 1 => .array (.object "java/lang/StackTraceElement")
  | 2 => .object "java/util/List"
  | 3 => .object "java/lang/String"
  | 4 => .object "java/lang/Object"
  | 5 => .int
  | _ => .int
abbrev wsX270 : List Cond := u_ws RX27 TX27 7
theorem nmX27 : ∀ a, a < 7 → ∀ b, b < 7 → a ≠ b → (TX27 a).2.1 ≠ (TX27 b).2.1 := by decide +kernel
theorem tyX27_ok : ∀ k, k < 7 → parseFieldDescriptor (TX27 k).2.2.1 = some (tyX27 k) := by decide +kernel
abbrev cX27_init : ByteArray := prog_23_method_1_code
def yX27_init : MethodName := ⟨RX27, "<init>", "(I)V"⟩
theorem q392 : (Jvm.Cond.initialized "ScholarsPressModel$Broken") ∈ lw_all := lw_g (lw_at lw_m1 38 rfl) rfl
theorem q1591 : (Jvm.Cond.selects "ScholarsPressModel$Broken" ({ cls := "java/lang/Throwable", name := "fillInStackTrace", desc := "()Ljava/lang/Throwable;" } : Jvm.MethodName) ({ cls := "java/lang/Throwable", name := "fillInStackTrace", desc := "()Ljava/lang/Throwable;" } : Jvm.MethodName)) ∈ lw_all := lw_g (lw_at lw_m6 37 rfl) rfl
theorem q4388 : (Jvm.Cond.instantiable "ScholarsPressModel$Broken" (7 : Nat)) ∈ lw_all := lw_g (lw_at lw_m17 194 rfl) rfl
theorem q4389 : (Jvm.Cond.castable "ScholarsPressModel$Broken" "ScholarsPressModel$Broken") ∈ lw_tbl := lw_at lw_m17 195 rfl
theorem q4390 : (Jvm.Cond.selects "ScholarsPressModel$Broken" ({ cls := "java/lang/Throwable", name := "fillInStackTrace", desc := "(I)Ljava/lang/Throwable;" } : Jvm.MethodName) ({ cls := "java/lang/Throwable", name := "fillInStackTrace", desc := "(I)Ljava/lang/Throwable;" } : Jvm.MethodName)) ∈ lw_all := lw_g (lw_at lw_m17 196 rfl) rfl
theorem q4391 : (Jvm.Cond.lays "ScholarsPressModel$Broken" "java/lang/Throwable" "cause" "Ljava/lang/Throwable;") ∈ lw_all := lw_g (lw_at lw_m17 197 rfl) rfl
theorem q4392 : (Jvm.Cond.lays "ScholarsPressModel$Broken" "java/lang/Throwable" "stackTrace" "[Ljava/lang/StackTraceElement;") ∈ lw_all := lw_g (lw_at lw_m17 198 rfl) rfl
theorem q4393 : (Jvm.Cond.lays "ScholarsPressModel$Broken" "java/lang/Throwable" "suppressedExceptions" "Ljava/util/List;") ∈ lw_all := lw_g (lw_at lw_m17 199 rfl) rfl
theorem q4394 : (Jvm.Cond.lays "ScholarsPressModel$Broken" "java/lang/Throwable" "detailMessage" "Ljava/lang/String;") ∈ lw_all := lw_g (lw_at lw_m17 200 rfl) rfl
theorem q4395 : (Jvm.Cond.lays "ScholarsPressModel$Broken" "java/lang/Throwable" "backtrace" "Ljava/lang/Object;") ∈ lw_all := lw_g (lw_at lw_m17 201 rfl) rfl
theorem q4397 : (Jvm.Cond.instanceMethod ({ cls := "ScholarsPressModel$Broken", name := "<init>", desc := "(I)V" } : Jvm.MethodName)) ∈ lw_all := lw_g (lw_at lw_m17 203 rfl) rfl
theorem q4398 : (Jvm.Cond.code ({ cls := "ScholarsPressModel$Broken", name := "<init>", desc := "(I)V" } : Jvm.MethodName) prog_23_method_1_code (2 : Nat) (Option.none : Option Jvm.ClassFile.FieldType)) ∈ lw_all := lw_g (lw_at lw_m17 204 rfl) rfl
theorem q4399 : (Jvm.Cond.methodLink "ScholarsPressModel$Broken" (1 : Nat) ({ cls := "java/lang/RuntimeException", name := "<init>", desc := "()V" } : Jvm.MethodName)) ∈ lw_all := lw_g (lw_at lw_m17 205 rfl) rfl
theorem q4400 : (Jvm.Cond.fieldLink "ScholarsPressModel$Broken" (7 : Nat) "ScholarsPressModel$Broken" "place" "I") ∈ lw_all := lw_g (lw_at lw_m17 206 rfl) rfl
theorem q4402 : (Jvm.Cond.laysFinal "ScholarsPressModel$Broken" "ScholarsPressModel$Broken" "place" "I") ∈ lw_all := lw_g (lw_at lw_m17 208 rfl) rfl
theorem q4403 : (Jvm.Cond.soleField "ScholarsPressModel$Broken" "place") ∈ lw_all := lw_g (lw_at lw_m17 209 rfl) rfl
theorem q4404 : (Jvm.Cond.lays "ScholarsPressModel$Broken" "java/lang/Throwable" "depth" "I") ∈ lw_all := lw_g (lw_at lw_m17 210 rfl) rfl
theorem q4405 : (Jvm.Cond.superclass "ScholarsPressModel$Broken" "java/lang/RuntimeException") ∈ lw_all := lw_g (lw_at lw_m17 211 rfl) rfl
theorem in_X27 : ∀ w ∈ wsX270, w ∈ lw_all := lw_in wsX270 [4391, 4392, 4393, 4394, 4395, 4404, 4402] (by decide +kernel) (by decide +kernel)
/-! ScholarsPress$Paragraph -/
def RX28 : String := "ScholarsPress$Paragraph"
def TX28 : u_T := fun k => match k with
  | 0 => ("ScholarsPress$Paragraph", "\x72", "LScholarsPress$Rows;", true)
  | 1 => ("ScholarsPress$Paragraph", "textAt", "I", false)
  | 2 => ("ScholarsPress$Paragraph", "length", "I", false)
  | 3 => ("ScholarsPress$Paragraph", "element", "I", false)
  | 4 => ("ScholarsPress$Paragraph", "width", "I", false)
  | 5 => ("ScholarsPress$Paragraph", "left", "I", false)
  | 6 => ("ScholarsPress$Paragraph", "indent", "I", false)
  | 7 => ("ScholarsPress$Paragraph", "lead", "I", false)
  | 8 => ("ScholarsPress$Paragraph", "align", "I", false)
  | 9 => ("ScholarsPress$Paragraph", "tolerance", "I", false)
  | 10 => ("ScholarsPress$Paragraph", "first", "I", false)
  | 11 => ("ScholarsPress$Paragraph", "last", "I", false)
  | 12 => ("ScholarsPress$Paragraph", "keep", "Z", false)
  | 13 => ("ScholarsPress$Paragraph", "counts", "Z", false)
  | 14 => ("ScholarsPress$Paragraph", "hyphens", "Z", false)
  | 15 => ("ScholarsPress$Paragraph", "breakAt", "I", false)
  | 16 => ("ScholarsPress$Paragraph", "many", "I", false)
  | 17 => ("ScholarsPress$Paragraph", "lineAt", "I", false)
  | 18 => ("ScholarsPress$Paragraph", "lines", "I", false)
  | 19 => ("ScholarsPress$Paragraph", "cost", "J", false)
  | _ => ("ScholarsPress$Paragraph", "told", "I", false)
def tyX28 : Nat → FieldType := fun k => match k with
  | 0 => .object "ScholarsPress$Rows"
  | 1 => .int
  | 2 => .int
  | 3 => .int
  | 4 => .int
  | 5 => .int
  | 6 => .int
  | 7 => .int
  | 8 => .int
  | 9 => .int
  | 10 => .int
  | 11 => .int
  | 12 => .boolean
  | 13 => .boolean
  | 14 => .boolean
  | 15 => .int
  | 16 => .int
  | 17 => .int
  | 18 => .int
  | 19 => .long
  | _ => .int
abbrev wsX280 : List Cond := u_ws RX28 TX28 21
theorem nmX28 : ∀ a, a < 21 → ∀ b, b < 21 → a ≠ b → (TX28 a).2.1 ≠ (TX28 b).2.1 := by decide +kernel
theorem tyX28_ok : ∀ k, k < 21 → parseFieldDescriptor (TX28 k).2.2.1 = some (tyX28 k) := by decide +kernel
abbrev cX28_init : ByteArray := prog_10_method_1_code
def yX28_init : MethodName := ⟨RX28, "<init>", "(LScholarsPress$Rows;)V"⟩
abbrev cX28_prepare : ByteArray := prog_10_method_12_code
def yX28_prepare : MethodName := ⟨RX28, "prepare", "(LScholarsPress$Font;LScholarsPress$Hyphens;LScholarsPress$Work;)V"⟩
abbrev cX28_findPlaces : ByteArray := prog_10_method_14_code
def yX28_findPlaces : MethodName := ⟨RX28, "findPlaces", "(LScholarsPress$Hyphens;[Z)V"⟩
abbrev cX28_byteOf : ByteArray := prog_10_method_2_code
def yX28_byteOf : MethodName := ⟨RX28, "byteOf", "(I)I"⟩
abbrev cX28_add : ByteArray := prog_10_method_13_code
def yX28_add : MethodName := ⟨RX28, "add", "(III)V"⟩
abbrev cX28_measure : ByteArray := prog_10_method_15_code
def yX28_measure : MethodName := ⟨RX28, "measure", "(LScholarsPress$Font;)V"⟩
abbrev cX28_sizeOf : ByteArray := prog_10_method_3_code
def yX28_sizeOf : MethodName := ⟨RX28, "sizeOf", "(I)I"⟩
abbrev cX28_widest : ByteArray := prog_10_method_19_code
def yX28_widest : MethodName := ⟨RX28, "widest", "()J"⟩
abbrev cX28_parts : ByteArray := prog_10_method_8_code
def yX28_parts : MethodName := ⟨RX28, "parts", "(I)J"⟩
abbrev cX28_whole : ByteArray := prog_10_method_20_code
def yX28_whole : MethodName := ⟨RX28, "whole", "()J"⟩
abbrev cX28_glues : ByteArray := prog_10_method_9_code
def yX28_glues : MethodName := ⟨RX28, "glues", "(I)J"⟩
abbrev cX28_isSame : ByteArray := prog_10_method_11_code
def yX28_isSame : MethodName := ⟨RX28, "isSame", "(LScholarsPress$Paragraph;)Z"⟩
abbrev cX28_kind : ByteArray := prog_10_method_5_code
def yX28_kind : MethodName := ⟨RX28, "kind", "(I)I"⟩
abbrev cX28_endAt : ByteArray := prog_10_method_6_code
def yX28_endAt : MethodName := ⟨RX28, "endAt", "(I)I"⟩
abbrev cX28_set : ByteArray := prog_10_method_26_code
def yX28_set : MethodName := ⟨RX28, "set", "(LScholarsPress$Work;)V"⟩
abbrev cX28_search : ByteArray := prog_10_method_27_code
def yX28_search : MethodName := ⟨RX28, "search", "(LScholarsPress$Work;)Z"⟩
abbrev cX28_ratio : ByteArray := prog_10_method_21_code
def yX28_ratio : MethodName := ⟨RX28, "ratio", "(II)I"⟩
abbrev cX28_natural : ByteArray := prog_10_method_17_code
def yX28_natural : MethodName := ⟨RX28, "natural", "(II)J"⟩
abbrev cX28_between : ByteArray := prog_10_method_16_code
def yX28_between : MethodName := ⟨RX28, "between", "([JII)J"⟩
abbrev cX28_widthOf : ByteArray := prog_10_method_18_code
def yX28_widthOf : MethodName := ⟨RX28, "widthOf", "(I)I"⟩
abbrev cX28_badness : ByteArray := prog_10_method_22_code
def yX28_badness : MethodName := ⟨RX28, "badness", "(I)I"⟩
abbrev cX28_reach : ByteArray := prog_10_method_28_code
def yX28_reach : MethodName := ⟨RX28, "reach", "(LScholarsPress$Work;III)V"⟩
abbrev cX28_classOf : ByteArray := prog_10_method_23_code
def yX28_classOf : MethodName := ⟨RX28, "classOf", "(I)I"⟩
abbrev cX28_costOf : ByteArray := prog_10_method_25_code
def yX28_costOf : MethodName := ⟨RX28, "costOf", "(IIII)J"⟩
abbrev cX28_cuts : ByteArray := prog_10_method_24_code
def yX28_cuts : MethodName := ⟨RX28, "cuts", "(I)Z"⟩
abbrev cX28_take : ByteArray := prog_10_method_29_code
def yX28_take : MethodName := ⟨RX28, "take", "(LScholarsPress$Work;IIJ)V"⟩
abbrev cX28_isEarlier : ByteArray := prog_10_method_30_code
def yX28_isEarlier : MethodName := ⟨RX28, "isEarlier", "(LScholarsPress$Work;II)Z"⟩
abbrev cX28_collect : ByteArray := prog_10_method_31_code
def yX28_collect : MethodName := ⟨RX28, "collect", "(LScholarsPress$Work;)V"⟩
abbrev cX28_begin : ByteArray := prog_10_method_32_code
def yX28_begin : MethodName := ⟨RX28, "begin", "(I)V"⟩
abbrev cX28_breakOf : ByteArray := prog_10_method_10_code
def yX28_breakOf : MethodName := ⟨RX28, "breakOf", "(I)I"⟩
abbrev cX28_copy : ByteArray := prog_10_method_33_code
def yX28_copy : MethodName := ⟨RX28, "copy", "(LScholarsPress$Paragraph;)V"⟩
abbrev cX28_orderOf : ByteArray := prog_10_method_4_code
def yX28_orderOf : MethodName := ⟨RX28, "orderOf", "(I)I"⟩
abbrev cX28_nextAt : ByteArray := prog_10_method_7_code
def yX28_nextAt : MethodName := ⟨RX28, "nextAt", "(I)I"⟩
abbrev cX28_isHyphen : ByteArray := prog_10_method_41_code
def yX28_isHyphen : MethodName := ⟨RX28, "isHyphen", "(I)Z"⟩
abbrev cX28_ratioOf : ByteArray := prog_10_method_36_code
def yX28_ratioOf : MethodName := ⟨RX28, "ratioOf", "(I)I"⟩
abbrev cX28_ratioAt : ByteArray := prog_10_method_35_code
def yX28_ratioAt : MethodName := ⟨RX28, "ratioAt", "(I)I"⟩
abbrev cX28_startOf : ByteArray := prog_10_method_37_code
def yX28_startOf : MethodName := ⟨RX28, "startOf", "(I)I"⟩
abbrev cX28_spot : ByteArray := prog_10_method_39_code
def yX28_spot : MethodName := ⟨RX28, "spot", "(II)J"⟩
abbrev cX28_moved : ByteArray := prog_10_method_38_code
def yX28_moved : MethodName := ⟨RX28, "moved", "(II)J"⟩
abbrev cX28_judge : ByteArray := prog_10_method_34_code
def yX28_judge : MethodName := ⟨RX28, "judge", "([II)J"⟩
abbrev cX28_write : ByteArray := prog_10_method_40_code
def yX28_write : MethodName := ⟨RX28, "write", "(ILScholarsPress$Bytes;)V"⟩
theorem q396 : (Jvm.Cond.initialized "ScholarsPress$Paragraph") ∈ lw_all := lw_g (lw_at lw_m1 42 rfl) rfl
theorem q966 : (Jvm.Cond.fieldLinkNest "ScholarsPress$Paragraph" (96 : Nat) "ScholarsPress$Work" "parted" "[Z" "ScholarsPress") ∈ lw_tbl := lw_at lw_m3 132 rfl
theorem q968 : (Jvm.Cond.fieldLinkNest "ScholarsPress$Paragraph" (219 : Nat) "ScholarsPress$Work" "least" "[J" "ScholarsPress") ∈ lw_tbl := lw_at lw_m3 134 rfl
theorem q970 : (Jvm.Cond.fieldLinkNest "ScholarsPress$Paragraph" (201 : Nat) "ScholarsPress$Work" "from" "[I" "ScholarsPress") ∈ lw_tbl := lw_at lw_m3 136 rfl
theorem q1128 : (Jvm.Cond.fieldLinkNest "ScholarsPress$Paragraph" (15 : Nat) "ScholarsPress$Rows" "text" "[B" "ScholarsPress") ∈ lw_tbl := lw_at lw_m4 54 rfl
theorem q1131 : (Jvm.Cond.fieldLinkNest "ScholarsPress$Paragraph" (25 : Nat) "ScholarsPress$Rows" "sizes" "[I" "ScholarsPress") ∈ lw_tbl := lw_at lw_m4 57 rfl
theorem q1134 : (Jvm.Cond.fieldLinkNest "ScholarsPress$Paragraph" (29 : Nat) "ScholarsPress$Rows" "orders" "[I" "ScholarsPress") ∈ lw_tbl := lw_at lw_m4 60 rfl
theorem q1139 : (Jvm.Cond.fieldLinkNest "ScholarsPress$Paragraph" (32 : Nat) "ScholarsPress$Rows" "kind" "[I" "ScholarsPress") ∈ lw_tbl := lw_at lw_m4 65 rfl
theorem q1141 : (Jvm.Cond.fieldLinkNest "ScholarsPress$Paragraph" (38 : Nat) "ScholarsPress$Rows" "endAt" "[I" "ScholarsPress") ∈ lw_tbl := lw_at lw_m4 67 rfl
theorem q1143 : (Jvm.Cond.fieldLinkNest "ScholarsPress$Paragraph" (41 : Nat) "ScholarsPress$Rows" "nextAt" "[I" "ScholarsPress") ∈ lw_tbl := lw_at lw_m4 69 rfl
theorem q1145 : (Jvm.Cond.fieldLinkNest "ScholarsPress$Paragraph" (139 : Nat) "ScholarsPress$Rows" "hyphenWidth" "[I" "ScholarsPress") ∈ lw_tbl := lw_at lw_m4 71 rfl
theorem q1147 : (Jvm.Cond.fieldLinkNest "ScholarsPress$Paragraph" (44 : Nat) "ScholarsPress$Rows" "parts" "[J" "ScholarsPress") ∈ lw_tbl := lw_at lw_m4 73 rfl
theorem q1149 : (Jvm.Cond.fieldLinkNest "ScholarsPress$Paragraph" (48 : Nat) "ScholarsPress$Rows" "glues" "[J" "ScholarsPress") ∈ lw_tbl := lw_at lw_m4 75 rfl
theorem q1151 : (Jvm.Cond.fieldLinkNest "ScholarsPress$Paragraph" (128 : Nat) "ScholarsPress$Rows" "stretches" "[J" "ScholarsPress") ∈ lw_tbl := lw_at lw_m4 77 rfl
theorem q1153 : (Jvm.Cond.fieldLinkNest "ScholarsPress$Paragraph" (131 : Nat) "ScholarsPress$Rows" "shrinks" "[J" "ScholarsPress") ∈ lw_tbl := lw_at lw_m4 79 rfl
theorem q1155 : (Jvm.Cond.fieldLinkNest "ScholarsPress$Paragraph" (89 : Nat) "ScholarsPress$Rows" "breaks" "I" "ScholarsPress") ∈ lw_tbl := lw_at lw_m4 81 rfl
theorem q1157 : (Jvm.Cond.fieldLinkNest "ScholarsPress$Paragraph" (51 : Nat) "ScholarsPress$Rows" "broken" "[I" "ScholarsPress") ∈ lw_tbl := lw_at lw_m4 83 rfl
theorem q1159 : (Jvm.Cond.fieldLinkNest "ScholarsPress$Paragraph" (234 : Nat) "ScholarsPress$Rows" "ratios" "[I" "ScholarsPress") ∈ lw_tbl := lw_at lw_m4 85 rfl
theorem q1161 : (Jvm.Cond.fieldLinkNest "ScholarsPress$Paragraph" (243 : Nat) "ScholarsPress$Rows" "lines" "I" "ScholarsPress") ∈ lw_tbl := lw_at lw_m4 87 rfl
theorem q2523 : (Jvm.Cond.instantiable "ScholarsPress$Paragraph" (21 : Nat)) ∈ lw_all := lw_g (lw_at lw_m10 9 rfl) rfl
theorem q2525 : (Jvm.Cond.instanceMethod ({ cls := "ScholarsPress$Paragraph", name := "<init>", desc := "(LScholarsPress$Rows;)V" } : Jvm.MethodName)) ∈ lw_all := lw_g (lw_at lw_m10 11 rfl) rfl
theorem q2526 : (Jvm.Cond.code ({ cls := "ScholarsPress$Paragraph", name := "<init>", desc := "(LScholarsPress$Rows;)V" } : Jvm.MethodName) prog_10_method_1_code (2 : Nat) (Option.none : Option Jvm.ClassFile.FieldType)) ∈ lw_all := lw_g (lw_at lw_m10 12 rfl) rfl
theorem q2527 : (Jvm.Cond.methodLink "ScholarsPress$Paragraph" (3 : Nat) ({ cls := "java/lang/Object", name := "<init>", desc := "()V" } : Jvm.MethodName)) ∈ lw_all := lw_g (lw_at lw_m10 13 rfl) rfl
theorem q2528 : (Jvm.Cond.fieldLink "ScholarsPress$Paragraph" (9 : Nat) "ScholarsPress$Paragraph" "\x72" "LScholarsPress$Rows;") ∈ lw_all := lw_g (lw_at lw_m10 14 rfl) rfl
theorem q2529 : (Jvm.Cond.fieldLink "ScholarsPress$Paragraph" (21 : Nat) "ScholarsPress$Paragraph" "textAt" "I") ∈ lw_all := lw_g (lw_at lw_m10 15 rfl) rfl
theorem q2532 : (Jvm.Cond.fieldLink "ScholarsPress$Paragraph" (57 : Nat) "ScholarsPress$Paragraph" "length" "I") ∈ lw_all := lw_g (lw_at lw_m10 18 rfl) rfl
theorem q2538 : (Jvm.Cond.fieldLink "ScholarsPress$Paragraph" (60 : Nat) "ScholarsPress$Paragraph" "width" "I") ∈ lw_all := lw_g (lw_at lw_m10 24 rfl) rfl
theorem q2542 : (Jvm.Cond.fieldLink "ScholarsPress$Paragraph" (249 : Nat) "ScholarsPress$Paragraph" "left" "I") ∈ lw_all := lw_g (lw_at lw_m10 28 rfl) rfl
theorem q2543 : (Jvm.Cond.fieldLink "ScholarsPress$Paragraph" (66 : Nat) "ScholarsPress$Paragraph" "indent" "I") ∈ lw_all := lw_g (lw_at lw_m10 29 rfl) rfl
theorem q2545 : (Jvm.Cond.fieldLink "ScholarsPress$Paragraph" (63 : Nat) "ScholarsPress$Paragraph" "lead" "I") ∈ lw_all := lw_g (lw_at lw_m10 31 rfl) rfl
theorem q2547 : (Jvm.Cond.fieldLink "ScholarsPress$Paragraph" (69 : Nat) "ScholarsPress$Paragraph" "align" "I") ∈ lw_all := lw_g (lw_at lw_m10 33 rfl) rfl
theorem q2549 : (Jvm.Cond.fieldLink "ScholarsPress$Paragraph" (72 : Nat) "ScholarsPress$Paragraph" "tolerance" "I") ∈ lw_all := lw_g (lw_at lw_m10 35 rfl) rfl
theorem q2555 : (Jvm.Cond.fieldLink "ScholarsPress$Paragraph" (92 : Nat) "ScholarsPress$Paragraph" "hyphens" "Z") ∈ lw_all := lw_g (lw_at lw_m10 41 rfl) rfl
theorem q2557 : (Jvm.Cond.fieldLink "ScholarsPress$Paragraph" (35 : Nat) "ScholarsPress$Paragraph" "breakAt" "I") ∈ lw_all := lw_g (lw_at lw_m10 43 rfl) rfl
theorem q2558 : (Jvm.Cond.fieldLink "ScholarsPress$Paragraph" (75 : Nat) "ScholarsPress$Paragraph" "many" "I") ∈ lw_all := lw_g (lw_at lw_m10 44 rfl) rfl
theorem q2560 : (Jvm.Cond.fieldLink "ScholarsPress$Paragraph" (54 : Nat) "ScholarsPress$Paragraph" "lineAt" "I") ∈ lw_all := lw_g (lw_at lw_m10 46 rfl) rfl
theorem q2561 : (Jvm.Cond.fieldLink "ScholarsPress$Paragraph" (240 : Nat) "ScholarsPress$Paragraph" "lines" "I") ∈ lw_all := lw_g (lw_at lw_m10 47 rfl) rfl
theorem q2564 : (Jvm.Cond.fieldLink "ScholarsPress$Paragraph" (226 : Nat) "ScholarsPress$Paragraph" "cost" "J") ∈ lw_all := lw_g (lw_at lw_m10 50 rfl) rfl
theorem q2566 : (Jvm.Cond.fieldLink "ScholarsPress$Paragraph" (190 : Nat) "ScholarsPress$Paragraph" "told" "I") ∈ lw_all := lw_g (lw_at lw_m10 52 rfl) rfl
theorem q2568 : (Jvm.Cond.laysFinal "ScholarsPress$Paragraph" "ScholarsPress$Paragraph" "\x72" "LScholarsPress$Rows;") ∈ lw_all := lw_g (lw_at lw_m10 54 rfl) rfl
theorem q2569 : (Jvm.Cond.soleField "ScholarsPress$Paragraph" "\x72") ∈ lw_all := lw_g (lw_at lw_m10 55 rfl) rfl
theorem q2570 : (Jvm.Cond.lays "ScholarsPress$Paragraph" "ScholarsPress$Paragraph" "textAt" "I") ∈ lw_all := lw_g (lw_at lw_m10 56 rfl) rfl
theorem q2571 : (Jvm.Cond.soleField "ScholarsPress$Paragraph" "textAt") ∈ lw_all := lw_g (lw_at lw_m10 57 rfl) rfl
theorem q2572 : (Jvm.Cond.lays "ScholarsPress$Paragraph" "ScholarsPress$Paragraph" "length" "I") ∈ lw_all := lw_g (lw_at lw_m10 58 rfl) rfl
theorem q2573 : (Jvm.Cond.soleField "ScholarsPress$Paragraph" "length") ∈ lw_all := lw_g (lw_at lw_m10 59 rfl) rfl
theorem q2574 : (Jvm.Cond.lays "ScholarsPress$Paragraph" "ScholarsPress$Paragraph" "element" "I") ∈ lw_all := lw_g (lw_at lw_m10 60 rfl) rfl
theorem q2575 : (Jvm.Cond.soleField "ScholarsPress$Paragraph" "element") ∈ lw_all := lw_g (lw_at lw_m10 61 rfl) rfl
theorem q2576 : (Jvm.Cond.lays "ScholarsPress$Paragraph" "ScholarsPress$Paragraph" "width" "I") ∈ lw_all := lw_g (lw_at lw_m10 62 rfl) rfl
theorem q2577 : (Jvm.Cond.soleField "ScholarsPress$Paragraph" "width") ∈ lw_all := lw_g (lw_at lw_m10 63 rfl) rfl
theorem q2578 : (Jvm.Cond.lays "ScholarsPress$Paragraph" "ScholarsPress$Paragraph" "left" "I") ∈ lw_all := lw_g (lw_at lw_m10 64 rfl) rfl
theorem q2579 : (Jvm.Cond.soleField "ScholarsPress$Paragraph" "left") ∈ lw_all := lw_g (lw_at lw_m10 65 rfl) rfl
theorem q2580 : (Jvm.Cond.lays "ScholarsPress$Paragraph" "ScholarsPress$Paragraph" "indent" "I") ∈ lw_all := lw_g (lw_at lw_m10 66 rfl) rfl
theorem q2581 : (Jvm.Cond.soleField "ScholarsPress$Paragraph" "indent") ∈ lw_all := lw_g (lw_at lw_m10 67 rfl) rfl
theorem q2582 : (Jvm.Cond.lays "ScholarsPress$Paragraph" "ScholarsPress$Paragraph" "lead" "I") ∈ lw_all := lw_g (lw_at lw_m10 68 rfl) rfl
theorem q2583 : (Jvm.Cond.soleField "ScholarsPress$Paragraph" "lead") ∈ lw_all := lw_g (lw_at lw_m10 69 rfl) rfl
theorem q2584 : (Jvm.Cond.lays "ScholarsPress$Paragraph" "ScholarsPress$Paragraph" "align" "I") ∈ lw_all := lw_g (lw_at lw_m10 70 rfl) rfl
theorem q2585 : (Jvm.Cond.soleField "ScholarsPress$Paragraph" "align") ∈ lw_all := lw_g (lw_at lw_m10 71 rfl) rfl
theorem q2586 : (Jvm.Cond.lays "ScholarsPress$Paragraph" "ScholarsPress$Paragraph" "tolerance" "I") ∈ lw_all := lw_g (lw_at lw_m10 72 rfl) rfl
theorem q2587 : (Jvm.Cond.soleField "ScholarsPress$Paragraph" "tolerance") ∈ lw_all := lw_g (lw_at lw_m10 73 rfl) rfl
theorem q2588 : (Jvm.Cond.lays "ScholarsPress$Paragraph" "ScholarsPress$Paragraph" "first" "I") ∈ lw_all := lw_g (lw_at lw_m10 74 rfl) rfl
theorem q2589 : (Jvm.Cond.soleField "ScholarsPress$Paragraph" "first") ∈ lw_all := lw_g (lw_at lw_m10 75 rfl) rfl
theorem q2590 : (Jvm.Cond.lays "ScholarsPress$Paragraph" "ScholarsPress$Paragraph" "last" "I") ∈ lw_all := lw_g (lw_at lw_m10 76 rfl) rfl
theorem q2591 : (Jvm.Cond.soleField "ScholarsPress$Paragraph" "last") ∈ lw_all := lw_g (lw_at lw_m10 77 rfl) rfl
theorem q2592 : (Jvm.Cond.lays "ScholarsPress$Paragraph" "ScholarsPress$Paragraph" "keep" "Z") ∈ lw_all := lw_g (lw_at lw_m10 78 rfl) rfl
theorem q2593 : (Jvm.Cond.soleField "ScholarsPress$Paragraph" "keep") ∈ lw_all := lw_g (lw_at lw_m10 79 rfl) rfl
theorem q2594 : (Jvm.Cond.lays "ScholarsPress$Paragraph" "ScholarsPress$Paragraph" "counts" "Z") ∈ lw_all := lw_g (lw_at lw_m10 80 rfl) rfl
theorem q2595 : (Jvm.Cond.soleField "ScholarsPress$Paragraph" "counts") ∈ lw_all := lw_g (lw_at lw_m10 81 rfl) rfl
theorem q2596 : (Jvm.Cond.lays "ScholarsPress$Paragraph" "ScholarsPress$Paragraph" "hyphens" "Z") ∈ lw_all := lw_g (lw_at lw_m10 82 rfl) rfl
theorem q2597 : (Jvm.Cond.soleField "ScholarsPress$Paragraph" "hyphens") ∈ lw_all := lw_g (lw_at lw_m10 83 rfl) rfl
theorem q2598 : (Jvm.Cond.lays "ScholarsPress$Paragraph" "ScholarsPress$Paragraph" "breakAt" "I") ∈ lw_all := lw_g (lw_at lw_m10 84 rfl) rfl
theorem q2599 : (Jvm.Cond.soleField "ScholarsPress$Paragraph" "breakAt") ∈ lw_all := lw_g (lw_at lw_m10 85 rfl) rfl
theorem q2600 : (Jvm.Cond.lays "ScholarsPress$Paragraph" "ScholarsPress$Paragraph" "many" "I") ∈ lw_all := lw_g (lw_at lw_m10 86 rfl) rfl
theorem q2601 : (Jvm.Cond.soleField "ScholarsPress$Paragraph" "many") ∈ lw_all := lw_g (lw_at lw_m10 87 rfl) rfl
theorem q2602 : (Jvm.Cond.lays "ScholarsPress$Paragraph" "ScholarsPress$Paragraph" "lineAt" "I") ∈ lw_all := lw_g (lw_at lw_m10 88 rfl) rfl
theorem q2603 : (Jvm.Cond.soleField "ScholarsPress$Paragraph" "lineAt") ∈ lw_all := lw_g (lw_at lw_m10 89 rfl) rfl
theorem q2604 : (Jvm.Cond.lays "ScholarsPress$Paragraph" "ScholarsPress$Paragraph" "lines" "I") ∈ lw_all := lw_g (lw_at lw_m10 90 rfl) rfl
theorem q2605 : (Jvm.Cond.soleField "ScholarsPress$Paragraph" "lines") ∈ lw_all := lw_g (lw_at lw_m10 91 rfl) rfl
theorem q2606 : (Jvm.Cond.lays "ScholarsPress$Paragraph" "ScholarsPress$Paragraph" "cost" "J") ∈ lw_all := lw_g (lw_at lw_m10 92 rfl) rfl
theorem q2607 : (Jvm.Cond.soleField "ScholarsPress$Paragraph" "cost") ∈ lw_all := lw_g (lw_at lw_m10 93 rfl) rfl
theorem q2608 : (Jvm.Cond.lays "ScholarsPress$Paragraph" "ScholarsPress$Paragraph" "told" "I") ∈ lw_all := lw_g (lw_at lw_m10 94 rfl) rfl
theorem q2609 : (Jvm.Cond.soleField "ScholarsPress$Paragraph" "told") ∈ lw_all := lw_g (lw_at lw_m10 95 rfl) rfl
theorem q2610 : (Jvm.Cond.superclass "ScholarsPress$Paragraph" "java/lang/Object") ∈ lw_all := lw_g (lw_at lw_m10 96 rfl) rfl
theorem q2613 : (Jvm.Cond.privateMethod ({ cls := "ScholarsPress$Paragraph", name := "prepare", desc := "(LScholarsPress$Font;LScholarsPress$Hyphens;LScholarsPress$Work;)V" } : Jvm.MethodName)) ∈ lw_tbl := lw_at lw_m10 99 rfl
theorem q2614 : (Jvm.Cond.instanceMethod ({ cls := "ScholarsPress$Paragraph", name := "prepare", desc := "(LScholarsPress$Font;LScholarsPress$Hyphens;LScholarsPress$Work;)V" } : Jvm.MethodName)) ∈ lw_all := lw_g (lw_at lw_m10 100 rfl) rfl
theorem q2615 : (Jvm.Cond.code ({ cls := "ScholarsPress$Paragraph", name := "prepare", desc := "(LScholarsPress$Font;LScholarsPress$Hyphens;LScholarsPress$Work;)V" } : Jvm.MethodName) prog_10_method_12_code (5 : Nat) (Option.none : Option Jvm.ClassFile.FieldType)) ∈ lw_all := lw_g (lw_at lw_m10 101 rfl) rfl
theorem q2616 : (Jvm.Cond.methodLink "ScholarsPress$Paragraph" (102 : Nat) ({ cls := "ScholarsPress$Paragraph", name := "findPlaces", desc := "(LScholarsPress$Hyphens;[Z)V" } : Jvm.MethodName)) ∈ lw_all := lw_g (lw_at lw_m10 102 rfl) rfl
theorem q2617 : (Jvm.Cond.privateMethod ({ cls := "ScholarsPress$Paragraph", name := "findPlaces", desc := "(LScholarsPress$Hyphens;[Z)V" } : Jvm.MethodName)) ∈ lw_tbl := lw_at lw_m10 103 rfl
theorem q2618 : (Jvm.Cond.instanceMethod ({ cls := "ScholarsPress$Paragraph", name := "findPlaces", desc := "(LScholarsPress$Hyphens;[Z)V" } : Jvm.MethodName)) ∈ lw_all := lw_g (lw_at lw_m10 104 rfl) rfl
theorem q2619 : (Jvm.Cond.code ({ cls := "ScholarsPress$Paragraph", name := "findPlaces", desc := "(LScholarsPress$Hyphens;[Z)V" } : Jvm.MethodName) prog_10_method_14_code (5 : Nat) (Option.none : Option Jvm.ClassFile.FieldType)) ∈ lw_all := lw_g (lw_at lw_m10 105 rfl) rfl
theorem q2620 : (Jvm.Cond.methodLink "ScholarsPress$Paragraph" (78 : Nat) ({ cls := "ScholarsPress$Paragraph", name := "byteOf", desc := "(I)I" } : Jvm.MethodName)) ∈ lw_all := lw_g (lw_at lw_m10 106 rfl) rfl
theorem q2621 : (Jvm.Cond.privateMethod ({ cls := "ScholarsPress$Paragraph", name := "byteOf", desc := "(I)I" } : Jvm.MethodName)) ∈ lw_tbl := lw_at lw_m10 107 rfl
theorem q2622 : (Jvm.Cond.instanceMethod ({ cls := "ScholarsPress$Paragraph", name := "byteOf", desc := "(I)I" } : Jvm.MethodName)) ∈ lw_all := lw_g (lw_at lw_m10 108 rfl) rfl
theorem q2623 : (Jvm.Cond.code ({ cls := "ScholarsPress$Paragraph", name := "byteOf", desc := "(I)I" } : Jvm.MethodName) prog_10_method_2_code (2 : Nat) (Option.some Jvm.ClassFile.FieldType.int)) ∈ lw_all := lw_g (lw_at lw_m10 109 rfl) rfl
theorem q2624 : (Jvm.Cond.methodLinkNest "ScholarsPress$Paragraph" (118 : Nat) ({ cls := "ScholarsPress", name := "isLetter", desc := "(I)Z" } : Jvm.MethodName) "ScholarsPress") ∈ lw_tbl := lw_at lw_m10 110 rfl
theorem q2628 : (Jvm.Cond.methodLinkNest "ScholarsPress$Paragraph" (122 : Nat) ({ cls := "ScholarsPress$Hyphens", name := "places", desc := "([BII[ZI)V" } : Jvm.MethodName) "ScholarsPress") ∈ lw_tbl := lw_at lw_m10 114 rfl
theorem q2640 : (Jvm.Cond.methodLink "ScholarsPress$Paragraph" (106 : Nat) ({ cls := "ScholarsPress$Paragraph", name := "add", desc := "(III)V" } : Jvm.MethodName)) ∈ lw_all := lw_g (lw_at lw_m10 126 rfl) rfl
theorem q2641 : (Jvm.Cond.privateMethod ({ cls := "ScholarsPress$Paragraph", name := "add", desc := "(III)V" } : Jvm.MethodName)) ∈ lw_tbl := lw_at lw_m10 127 rfl
theorem q2642 : (Jvm.Cond.instanceMethod ({ cls := "ScholarsPress$Paragraph", name := "add", desc := "(III)V" } : Jvm.MethodName)) ∈ lw_all := lw_g (lw_at lw_m10 128 rfl) rfl
theorem q2643 : (Jvm.Cond.code ({ cls := "ScholarsPress$Paragraph", name := "add", desc := "(III)V" } : Jvm.MethodName) prog_10_method_13_code (4 : Nat) (Option.none : Option Jvm.ClassFile.FieldType)) ∈ lw_all := lw_g (lw_at lw_m10 129 rfl) rfl
theorem q2644 : (Jvm.Cond.methodLinkNest "ScholarsPress$Paragraph" (114 : Nat) ({ cls := "ScholarsPress", name := "room", desc := "(Z)V" } : Jvm.MethodName) "ScholarsPress") ∈ lw_tbl := lw_at lw_m10 130 rfl
theorem q2645 : (Jvm.Cond.methodLink "ScholarsPress$Paragraph" (110 : Nat) ({ cls := "ScholarsPress$Paragraph", name := "measure", desc := "(LScholarsPress$Font;)V" } : Jvm.MethodName)) ∈ lw_all := lw_g (lw_at lw_m10 131 rfl) rfl
theorem q2646 : (Jvm.Cond.privateMethod ({ cls := "ScholarsPress$Paragraph", name := "measure", desc := "(LScholarsPress$Font;)V" } : Jvm.MethodName)) ∈ lw_tbl := lw_at lw_m10 132 rfl
theorem q2647 : (Jvm.Cond.instanceMethod ({ cls := "ScholarsPress$Paragraph", name := "measure", desc := "(LScholarsPress$Font;)V" } : Jvm.MethodName)) ∈ lw_all := lw_g (lw_at lw_m10 133 rfl) rfl
theorem q2648 : (Jvm.Cond.code ({ cls := "ScholarsPress$Paragraph", name := "measure", desc := "(LScholarsPress$Font;)V" } : Jvm.MethodName) prog_10_method_15_code (5 : Nat) (Option.none : Option Jvm.ClassFile.FieldType)) ∈ lw_all := lw_g (lw_at lw_m10 134 rfl) rfl
theorem q2649 : (Jvm.Cond.methodLinkNest "ScholarsPress$Paragraph" (134 : Nat) ({ cls := "ScholarsPress$Font", name := "width", desc := "([B[III)J" } : Jvm.MethodName) "ScholarsPress") ∈ lw_tbl := lw_at lw_m10 135 rfl
theorem q2661 : (Jvm.Cond.methodLink "ScholarsPress$Paragraph" (82 : Nat) ({ cls := "ScholarsPress$Paragraph", name := "sizeOf", desc := "(I)I" } : Jvm.MethodName)) ∈ lw_all := lw_g (lw_at lw_m10 147 rfl) rfl
theorem q2662 : (Jvm.Cond.privateMethod ({ cls := "ScholarsPress$Paragraph", name := "sizeOf", desc := "(I)I" } : Jvm.MethodName)) ∈ lw_tbl := lw_at lw_m10 148 rfl
theorem q2663 : (Jvm.Cond.instanceMethod ({ cls := "ScholarsPress$Paragraph", name := "sizeOf", desc := "(I)I" } : Jvm.MethodName)) ∈ lw_all := lw_g (lw_at lw_m10 149 rfl) rfl
theorem q2664 : (Jvm.Cond.code ({ cls := "ScholarsPress$Paragraph", name := "sizeOf", desc := "(I)I" } : Jvm.MethodName) prog_10_method_3_code (2 : Nat) (Option.some Jvm.ClassFile.FieldType.int)) ∈ lw_all := lw_g (lw_at lw_m10 150 rfl) rfl
theorem q2665 : (Jvm.Cond.methodLinkNest "ScholarsPress$Paragraph" (142 : Nat) ({ cls := "ScholarsPress$Font", name := "width", desc := "(II)I" } : Jvm.MethodName) "ScholarsPress") ∈ lw_tbl := lw_at lw_m10 151 rfl
theorem q2789 : (Jvm.Cond.privateMethod ({ cls := "ScholarsPress$Paragraph", name := "widest", desc := "()J" } : Jvm.MethodName)) ∈ lw_tbl := lw_at lw_m11 35 rfl
theorem q2790 : (Jvm.Cond.instanceMethod ({ cls := "ScholarsPress$Paragraph", name := "widest", desc := "()J" } : Jvm.MethodName)) ∈ lw_all := lw_g (lw_at lw_m11 36 rfl) rfl
theorem q2791 : (Jvm.Cond.code ({ cls := "ScholarsPress$Paragraph", name := "widest", desc := "()J" } : Jvm.MethodName) prog_10_method_19_code (6 : Nat) (Option.some Jvm.ClassFile.FieldType.long)) ∈ lw_all := lw_g (lw_at lw_m11 37 rfl) rfl
theorem q2792 : (Jvm.Cond.methodLink "ScholarsPress$Paragraph" (145 : Nat) ({ cls := "ScholarsPress$Paragraph", name := "parts", desc := "(I)J" } : Jvm.MethodName)) ∈ lw_all := lw_g (lw_at lw_m11 38 rfl) rfl
theorem q2793 : (Jvm.Cond.privateMethod ({ cls := "ScholarsPress$Paragraph", name := "parts", desc := "(I)J" } : Jvm.MethodName)) ∈ lw_tbl := lw_at lw_m11 39 rfl
theorem q2794 : (Jvm.Cond.instanceMethod ({ cls := "ScholarsPress$Paragraph", name := "parts", desc := "(I)J" } : Jvm.MethodName)) ∈ lw_all := lw_g (lw_at lw_m11 40 rfl) rfl
theorem q2795 : (Jvm.Cond.code ({ cls := "ScholarsPress$Paragraph", name := "parts", desc := "(I)J" } : Jvm.MethodName) prog_10_method_8_code (2 : Nat) (Option.some Jvm.ClassFile.FieldType.long)) ∈ lw_all := lw_g (lw_at lw_m11 41 rfl) rfl
theorem q2797 : (Jvm.Cond.privateMethod ({ cls := "ScholarsPress$Paragraph", name := "whole", desc := "()J" } : Jvm.MethodName)) ∈ lw_tbl := lw_at lw_m11 43 rfl
theorem q2798 : (Jvm.Cond.instanceMethod ({ cls := "ScholarsPress$Paragraph", name := "whole", desc := "()J" } : Jvm.MethodName)) ∈ lw_all := lw_g (lw_at lw_m11 44 rfl) rfl
theorem q2799 : (Jvm.Cond.code ({ cls := "ScholarsPress$Paragraph", name := "whole", desc := "()J" } : Jvm.MethodName) prog_10_method_20_code (1 : Nat) (Option.some Jvm.ClassFile.FieldType.long)) ∈ lw_all := lw_g (lw_at lw_m11 45 rfl) rfl
theorem q2800 : (Jvm.Cond.methodLink "ScholarsPress$Paragraph" (152 : Nat) ({ cls := "ScholarsPress$Paragraph", name := "glues", desc := "(I)J" } : Jvm.MethodName)) ∈ lw_all := lw_g (lw_at lw_m11 46 rfl) rfl
theorem q2801 : (Jvm.Cond.privateMethod ({ cls := "ScholarsPress$Paragraph", name := "glues", desc := "(I)J" } : Jvm.MethodName)) ∈ lw_tbl := lw_at lw_m11 47 rfl
theorem q2802 : (Jvm.Cond.instanceMethod ({ cls := "ScholarsPress$Paragraph", name := "glues", desc := "(I)J" } : Jvm.MethodName)) ∈ lw_all := lw_g (lw_at lw_m11 48 rfl) rfl
theorem q2803 : (Jvm.Cond.code ({ cls := "ScholarsPress$Paragraph", name := "glues", desc := "(I)J" } : Jvm.MethodName) prog_10_method_9_code (2 : Nat) (Option.some Jvm.ClassFile.FieldType.long)) ∈ lw_all := lw_g (lw_at lw_m11 49 rfl) rfl
theorem q2856 : (Jvm.Cond.privateMethod ({ cls := "ScholarsPress$Paragraph", name := "isSame", desc := "(LScholarsPress$Paragraph;)Z" } : Jvm.MethodName)) ∈ lw_tbl := lw_at lw_m11 102 rfl
theorem q2857 : (Jvm.Cond.instanceMethod ({ cls := "ScholarsPress$Paragraph", name := "isSame", desc := "(LScholarsPress$Paragraph;)Z" } : Jvm.MethodName)) ∈ lw_all := lw_g (lw_at lw_m11 103 rfl) rfl
theorem q2858 : (Jvm.Cond.code ({ cls := "ScholarsPress$Paragraph", name := "isSame", desc := "(LScholarsPress$Paragraph;)Z" } : Jvm.MethodName) prog_10_method_11_code (3 : Nat) (Option.some Jvm.ClassFile.FieldType.boolean)) ∈ lw_all := lw_g (lw_at lw_m11 104 rfl) rfl
theorem q2859 : (Jvm.Cond.methodLink "ScholarsPress$Paragraph" (85 : Nat) ({ cls := "ScholarsPress$Paragraph", name := "kind", desc := "(I)I" } : Jvm.MethodName)) ∈ lw_all := lw_g (lw_at lw_m11 105 rfl) rfl
theorem q2860 : (Jvm.Cond.privateMethod ({ cls := "ScholarsPress$Paragraph", name := "kind", desc := "(I)I" } : Jvm.MethodName)) ∈ lw_tbl := lw_at lw_m11 106 rfl
theorem q2861 : (Jvm.Cond.instanceMethod ({ cls := "ScholarsPress$Paragraph", name := "kind", desc := "(I)I" } : Jvm.MethodName)) ∈ lw_all := lw_g (lw_at lw_m11 107 rfl) rfl
theorem q2862 : (Jvm.Cond.code ({ cls := "ScholarsPress$Paragraph", name := "kind", desc := "(I)I" } : Jvm.MethodName) prog_10_method_5_code (2 : Nat) (Option.some Jvm.ClassFile.FieldType.int)) ∈ lw_all := lw_g (lw_at lw_m11 108 rfl) rfl
theorem q2863 : (Jvm.Cond.methodLink "ScholarsPress$Paragraph" (87 : Nat) ({ cls := "ScholarsPress$Paragraph", name := "endAt", desc := "(I)I" } : Jvm.MethodName)) ∈ lw_all := lw_g (lw_at lw_m11 109 rfl) rfl
theorem q2864 : (Jvm.Cond.privateMethod ({ cls := "ScholarsPress$Paragraph", name := "endAt", desc := "(I)I" } : Jvm.MethodName)) ∈ lw_tbl := lw_at lw_m11 110 rfl
theorem q2865 : (Jvm.Cond.instanceMethod ({ cls := "ScholarsPress$Paragraph", name := "endAt", desc := "(I)I" } : Jvm.MethodName)) ∈ lw_all := lw_g (lw_at lw_m11 111 rfl) rfl
theorem q2866 : (Jvm.Cond.code ({ cls := "ScholarsPress$Paragraph", name := "endAt", desc := "(I)I" } : Jvm.MethodName) prog_10_method_6_code (2 : Nat) (Option.some Jvm.ClassFile.FieldType.int)) ∈ lw_all := lw_g (lw_at lw_m11 112 rfl) rfl
theorem q2868 : (Jvm.Cond.privateMethod ({ cls := "ScholarsPress$Paragraph", name := "set", desc := "(LScholarsPress$Work;)V" } : Jvm.MethodName)) ∈ lw_tbl := lw_at lw_m11 114 rfl
theorem q2869 : (Jvm.Cond.instanceMethod ({ cls := "ScholarsPress$Paragraph", name := "set", desc := "(LScholarsPress$Work;)V" } : Jvm.MethodName)) ∈ lw_all := lw_g (lw_at lw_m11 115 rfl) rfl
theorem q2870 : (Jvm.Cond.code ({ cls := "ScholarsPress$Paragraph", name := "set", desc := "(LScholarsPress$Work;)V" } : Jvm.MethodName) prog_10_method_26_code (3 : Nat) (Option.none : Option Jvm.ClassFile.FieldType)) ∈ lw_all := lw_g (lw_at lw_m11 116 rfl) rfl
theorem q2871 : (Jvm.Cond.methodLink "ScholarsPress$Paragraph" (193 : Nat) ({ cls := "ScholarsPress$Paragraph", name := "search", desc := "(LScholarsPress$Work;)Z" } : Jvm.MethodName)) ∈ lw_all := lw_g (lw_at lw_m11 117 rfl) rfl
theorem q2872 : (Jvm.Cond.privateMethod ({ cls := "ScholarsPress$Paragraph", name := "search", desc := "(LScholarsPress$Work;)Z" } : Jvm.MethodName)) ∈ lw_tbl := lw_at lw_m11 118 rfl
theorem q2873 : (Jvm.Cond.instanceMethod ({ cls := "ScholarsPress$Paragraph", name := "search", desc := "(LScholarsPress$Work;)Z" } : Jvm.MethodName)) ∈ lw_all := lw_g (lw_at lw_m11 119 rfl) rfl
theorem q2874 : (Jvm.Cond.code ({ cls := "ScholarsPress$Paragraph", name := "search", desc := "(LScholarsPress$Work;)Z" } : Jvm.MethodName) prog_10_method_27_code (6 : Nat) (Option.some Jvm.ClassFile.FieldType.boolean)) ∈ lw_all := lw_g (lw_at lw_m11 120 rfl) rfl
theorem q2875 : (Jvm.Cond.methodLink "ScholarsPress$Paragraph" (204 : Nat) ({ cls := "ScholarsPress$Paragraph", name := "ratio", desc := "(II)I" } : Jvm.MethodName)) ∈ lw_all := lw_g (lw_at lw_m11 121 rfl) rfl
theorem q2876 : (Jvm.Cond.privateMethod ({ cls := "ScholarsPress$Paragraph", name := "ratio", desc := "(II)I" } : Jvm.MethodName)) ∈ lw_tbl := lw_at lw_m11 122 rfl
theorem q2877 : (Jvm.Cond.instanceMethod ({ cls := "ScholarsPress$Paragraph", name := "ratio", desc := "(II)I" } : Jvm.MethodName)) ∈ lw_all := lw_g (lw_at lw_m11 123 rfl) rfl
theorem q2878 : (Jvm.Cond.code ({ cls := "ScholarsPress$Paragraph", name := "ratio", desc := "(II)I" } : Jvm.MethodName) prog_10_method_21_code (11 : Nat) (Option.some Jvm.ClassFile.FieldType.int)) ∈ lw_all := lw_g (lw_at lw_m11 124 rfl) rfl
theorem q2879 : (Jvm.Cond.methodLink "ScholarsPress$Paragraph" (154 : Nat) ({ cls := "ScholarsPress$Paragraph", name := "natural", desc := "(II)J" } : Jvm.MethodName)) ∈ lw_all := lw_g (lw_at lw_m11 125 rfl) rfl
theorem q2880 : (Jvm.Cond.privateMethod ({ cls := "ScholarsPress$Paragraph", name := "natural", desc := "(II)J" } : Jvm.MethodName)) ∈ lw_tbl := lw_at lw_m11 126 rfl
theorem q2881 : (Jvm.Cond.instanceMethod ({ cls := "ScholarsPress$Paragraph", name := "natural", desc := "(II)J" } : Jvm.MethodName)) ∈ lw_all := lw_g (lw_at lw_m11 127 rfl) rfl
theorem q2882 : (Jvm.Cond.code ({ cls := "ScholarsPress$Paragraph", name := "natural", desc := "(II)J" } : Jvm.MethodName) prog_10_method_17_code (3 : Nat) (Option.some Jvm.ClassFile.FieldType.long)) ∈ lw_all := lw_g (lw_at lw_m11 128 rfl) rfl
theorem q2883 : (Jvm.Cond.methodLink "ScholarsPress$Paragraph" (148 : Nat) ({ cls := "ScholarsPress$Paragraph", name := "between", desc := "([JII)J" } : Jvm.MethodName)) ∈ lw_all := lw_g (lw_at lw_m11 129 rfl) rfl
theorem q2884 : (Jvm.Cond.privateMethod ({ cls := "ScholarsPress$Paragraph", name := "between", desc := "([JII)J" } : Jvm.MethodName)) ∈ lw_tbl := lw_at lw_m11 130 rfl
theorem q2885 : (Jvm.Cond.instanceMethod ({ cls := "ScholarsPress$Paragraph", name := "between", desc := "([JII)J" } : Jvm.MethodName)) ∈ lw_all := lw_g (lw_at lw_m11 131 rfl) rfl
theorem q2886 : (Jvm.Cond.code ({ cls := "ScholarsPress$Paragraph", name := "between", desc := "([JII)J" } : Jvm.MethodName) prog_10_method_16_code (4 : Nat) (Option.some Jvm.ClassFile.FieldType.long)) ∈ lw_all := lw_g (lw_at lw_m11 132 rfl) rfl
theorem q2887 : (Jvm.Cond.methodLink "ScholarsPress$Paragraph" (158 : Nat) ({ cls := "ScholarsPress$Paragraph", name := "widthOf", desc := "(I)I" } : Jvm.MethodName)) ∈ lw_all := lw_g (lw_at lw_m11 133 rfl) rfl
theorem q2888 : (Jvm.Cond.privateMethod ({ cls := "ScholarsPress$Paragraph", name := "widthOf", desc := "(I)I" } : Jvm.MethodName)) ∈ lw_tbl := lw_at lw_m11 134 rfl
theorem q2889 : (Jvm.Cond.instanceMethod ({ cls := "ScholarsPress$Paragraph", name := "widthOf", desc := "(I)I" } : Jvm.MethodName)) ∈ lw_all := lw_g (lw_at lw_m11 135 rfl) rfl
theorem q2890 : (Jvm.Cond.code ({ cls := "ScholarsPress$Paragraph", name := "widthOf", desc := "(I)I" } : Jvm.MethodName) prog_10_method_18_code (3 : Nat) (Option.some Jvm.ClassFile.FieldType.int)) ∈ lw_all := lw_g (lw_at lw_m11 136 rfl) rfl
theorem q2891 : (Jvm.Cond.constant "ScholarsPress$Paragraph" (161 : Nat) (100000 : Int32)) ∈ lw_all := lw_g (lw_at lw_m11 137 rfl) rfl
theorem q2892 : (Jvm.Cond.constantLong "ScholarsPress$Paragraph" (162 : Nat) (1000 : Int64)) ∈ lw_all := lw_g (lw_at lw_m11 138 rfl) rfl
theorem q2893 : (Jvm.Cond.constantLong "ScholarsPress$Paragraph" (164 : Nat) (100000 : Int64)) ∈ lw_all := lw_g (lw_at lw_m11 139 rfl) rfl
theorem q2894 : (Jvm.Cond.constant "ScholarsPress$Paragraph" (166 : Nat) (-1000000 : Int32)) ∈ lw_all := lw_g (lw_at lw_m11 140 rfl) rfl
theorem q2895 : (Jvm.Cond.methodLink "ScholarsPress$Paragraph" (173 : Nat) ({ cls := "ScholarsPress$Paragraph", name := "badness", desc := "(I)I" } : Jvm.MethodName)) ∈ lw_all := lw_g (lw_at lw_m11 141 rfl) rfl
theorem q2896 : (Jvm.Cond.static ({ cls := "ScholarsPress$Paragraph", name := "badness", desc := "(I)I" } : Jvm.MethodName)) ∈ lw_all := lw_g (lw_at lw_m11 142 rfl) rfl
theorem q2897 : (Jvm.Cond.code ({ cls := "ScholarsPress$Paragraph", name := "badness", desc := "(I)I" } : Jvm.MethodName) prog_10_method_22_code (5 : Nat) (Option.some Jvm.ClassFile.FieldType.int)) ∈ lw_all := lw_g (lw_at lw_m11 143 rfl) rfl
theorem q2898 : (Jvm.Cond.constantLong "ScholarsPress$Paragraph" (167 : Nat) (100 : Int64)) ∈ lw_all := lw_g (lw_at lw_m11 144 rfl) rfl
theorem q2899 : (Jvm.Cond.constantLong "ScholarsPress$Paragraph" (169 : Nat) (1000000000 : Int64)) ∈ lw_all := lw_g (lw_at lw_m11 145 rfl) rfl
theorem q2900 : (Jvm.Cond.constantLong "ScholarsPress$Paragraph" (171 : Nat) (10000 : Int64)) ∈ lw_all := lw_g (lw_at lw_m11 146 rfl) rfl
theorem q2901 : (Jvm.Cond.methodLink "ScholarsPress$Paragraph" (207 : Nat) ({ cls := "ScholarsPress$Paragraph", name := "reach", desc := "(LScholarsPress$Work;III)V" } : Jvm.MethodName)) ∈ lw_all := lw_g (lw_at lw_m11 147 rfl) rfl
theorem q2902 : (Jvm.Cond.privateMethod ({ cls := "ScholarsPress$Paragraph", name := "reach", desc := "(LScholarsPress$Work;III)V" } : Jvm.MethodName)) ∈ lw_tbl := lw_at lw_m11 148 rfl
theorem q2903 : (Jvm.Cond.instanceMethod ({ cls := "ScholarsPress$Paragraph", name := "reach", desc := "(LScholarsPress$Work;III)V" } : Jvm.MethodName)) ∈ lw_all := lw_g (lw_at lw_m11 149 rfl) rfl
theorem q2904 : (Jvm.Cond.code ({ cls := "ScholarsPress$Paragraph", name := "reach", desc := "(LScholarsPress$Work;III)V" } : Jvm.MethodName) prog_10_method_28_code (8 : Nat) (Option.none : Option Jvm.ClassFile.FieldType)) ∈ lw_all := lw_g (lw_at lw_m11 150 rfl) rfl
theorem q2905 : (Jvm.Cond.methodLink "ScholarsPress$Paragraph" (187 : Nat) ({ cls := "ScholarsPress$Paragraph", name := "classOf", desc := "(I)I" } : Jvm.MethodName)) ∈ lw_all := lw_g (lw_at lw_m11 151 rfl) rfl
theorem q2906 : (Jvm.Cond.static ({ cls := "ScholarsPress$Paragraph", name := "classOf", desc := "(I)I" } : Jvm.MethodName)) ∈ lw_all := lw_g (lw_at lw_m11 152 rfl) rfl
theorem q2907 : (Jvm.Cond.code ({ cls := "ScholarsPress$Paragraph", name := "classOf", desc := "(I)I" } : Jvm.MethodName) prog_10_method_23_code (1 : Nat) (Option.some Jvm.ClassFile.FieldType.int)) ∈ lw_all := lw_g (lw_at lw_m11 153 rfl) rfl
theorem q2908 : (Jvm.Cond.methodLink "ScholarsPress$Paragraph" (211 : Nat) ({ cls := "ScholarsPress$Paragraph", name := "costOf", desc := "(IIII)J" } : Jvm.MethodName)) ∈ lw_all := lw_g (lw_at lw_m11 154 rfl) rfl
theorem q2909 : (Jvm.Cond.privateMethod ({ cls := "ScholarsPress$Paragraph", name := "costOf", desc := "(IIII)J" } : Jvm.MethodName)) ∈ lw_tbl := lw_at lw_m11 155 rfl
theorem q2910 : (Jvm.Cond.instanceMethod ({ cls := "ScholarsPress$Paragraph", name := "costOf", desc := "(IIII)J" } : Jvm.MethodName)) ∈ lw_all := lw_g (lw_at lw_m11 156 rfl) rfl
theorem q2911 : (Jvm.Cond.code ({ cls := "ScholarsPress$Paragraph", name := "costOf", desc := "(IIII)J" } : Jvm.MethodName) prog_10_method_25_code (11 : Nat) (Option.some Jvm.ClassFile.FieldType.long)) ∈ lw_all := lw_g (lw_at lw_m11 157 rfl) rfl
theorem q2912 : (Jvm.Cond.constantLong "ScholarsPress$Paragraph" (176 : Nat) (2500 : Int64)) ∈ lw_all := lw_g (lw_at lw_m11 158 rfl) rfl
theorem q2913 : (Jvm.Cond.constantLong "ScholarsPress$Paragraph" (178 : Nat) (900 : Int64)) ∈ lw_all := lw_g (lw_at lw_m11 159 rfl) rfl
theorem q2914 : (Jvm.Cond.methodLink "ScholarsPress$Paragraph" (180 : Nat) ({ cls := "ScholarsPress$Paragraph", name := "cuts", desc := "(I)Z" } : Jvm.MethodName)) ∈ lw_all := lw_g (lw_at lw_m11 160 rfl) rfl
theorem q2915 : (Jvm.Cond.privateMethod ({ cls := "ScholarsPress$Paragraph", name := "cuts", desc := "(I)Z" } : Jvm.MethodName)) ∈ lw_tbl := lw_at lw_m11 161 rfl
theorem q2916 : (Jvm.Cond.instanceMethod ({ cls := "ScholarsPress$Paragraph", name := "cuts", desc := "(I)Z" } : Jvm.MethodName)) ∈ lw_all := lw_g (lw_at lw_m11 162 rfl) rfl
theorem q2917 : (Jvm.Cond.code ({ cls := "ScholarsPress$Paragraph", name := "cuts", desc := "(I)Z" } : Jvm.MethodName) prog_10_method_24_code (2 : Nat) (Option.some Jvm.ClassFile.FieldType.boolean)) ∈ lw_all := lw_g (lw_at lw_m11 163 rfl) rfl
theorem q2918 : (Jvm.Cond.constantLong "ScholarsPress$Paragraph" (183 : Nat) (3000 : Int64)) ∈ lw_all := lw_g (lw_at lw_m11 164 rfl) rfl
theorem q2919 : (Jvm.Cond.constantLong "ScholarsPress$Paragraph" (185 : Nat) (5000 : Int64)) ∈ lw_all := lw_g (lw_at lw_m11 165 rfl) rfl
theorem q2920 : (Jvm.Cond.methodLink "ScholarsPress$Paragraph" (215 : Nat) ({ cls := "ScholarsPress$Paragraph", name := "take", desc := "(LScholarsPress$Work;IIJ)V" } : Jvm.MethodName)) ∈ lw_all := lw_g (lw_at lw_m11 166 rfl) rfl
theorem q2921 : (Jvm.Cond.privateMethod ({ cls := "ScholarsPress$Paragraph", name := "take", desc := "(LScholarsPress$Work;IIJ)V" } : Jvm.MethodName)) ∈ lw_tbl := lw_at lw_m11 167 rfl
theorem q2922 : (Jvm.Cond.instanceMethod ({ cls := "ScholarsPress$Paragraph", name := "take", desc := "(LScholarsPress$Work;IIJ)V" } : Jvm.MethodName)) ∈ lw_all := lw_g (lw_at lw_m11 168 rfl) rfl
theorem q2923 : (Jvm.Cond.code ({ cls := "ScholarsPress$Paragraph", name := "take", desc := "(LScholarsPress$Work;IIJ)V" } : Jvm.MethodName) prog_10_method_29_code (6 : Nat) (Option.none : Option Jvm.ClassFile.FieldType)) ∈ lw_all := lw_g (lw_at lw_m11 169 rfl) rfl
theorem q2924 : (Jvm.Cond.methodLink "ScholarsPress$Paragraph" (222 : Nat) ({ cls := "ScholarsPress$Paragraph", name := "isEarlier", desc := "(LScholarsPress$Work;II)Z" } : Jvm.MethodName)) ∈ lw_all := lw_g (lw_at lw_m11 170 rfl) rfl
theorem q2925 : (Jvm.Cond.privateMethod ({ cls := "ScholarsPress$Paragraph", name := "isEarlier", desc := "(LScholarsPress$Work;II)Z" } : Jvm.MethodName)) ∈ lw_tbl := lw_at lw_m11 171 rfl
theorem q2926 : (Jvm.Cond.instanceMethod ({ cls := "ScholarsPress$Paragraph", name := "isEarlier", desc := "(LScholarsPress$Work;II)Z" } : Jvm.MethodName)) ∈ lw_all := lw_g (lw_at lw_m11 172 rfl) rfl
theorem q2927 : (Jvm.Cond.code ({ cls := "ScholarsPress$Paragraph", name := "isEarlier", desc := "(LScholarsPress$Work;II)Z" } : Jvm.MethodName) prog_10_method_30_code (6 : Nat) (Option.some Jvm.ClassFile.FieldType.boolean)) ∈ lw_all := lw_g (lw_at lw_m11 173 rfl) rfl
theorem q2928 : (Jvm.Cond.methodLink "ScholarsPress$Paragraph" (197 : Nat) ({ cls := "ScholarsPress$Paragraph", name := "collect", desc := "(LScholarsPress$Work;)V" } : Jvm.MethodName)) ∈ lw_all := lw_g (lw_at lw_m11 174 rfl) rfl
theorem q2929 : (Jvm.Cond.privateMethod ({ cls := "ScholarsPress$Paragraph", name := "collect", desc := "(LScholarsPress$Work;)V" } : Jvm.MethodName)) ∈ lw_tbl := lw_at lw_m11 175 rfl
theorem q2930 : (Jvm.Cond.instanceMethod ({ cls := "ScholarsPress$Paragraph", name := "collect", desc := "(LScholarsPress$Work;)V" } : Jvm.MethodName)) ∈ lw_all := lw_g (lw_at lw_m11 176 rfl) rfl
theorem q2931 : (Jvm.Cond.code ({ cls := "ScholarsPress$Paragraph", name := "collect", desc := "(LScholarsPress$Work;)V" } : Jvm.MethodName) prog_10_method_31_code (6 : Nat) (Option.none : Option Jvm.ClassFile.FieldType)) ∈ lw_all := lw_g (lw_at lw_m11 177 rfl) rfl
theorem q2932 : (Jvm.Cond.methodLink "ScholarsPress$Paragraph" (230 : Nat) ({ cls := "ScholarsPress$Paragraph", name := "begin", desc := "(I)V" } : Jvm.MethodName)) ∈ lw_all := lw_g (lw_at lw_m11 178 rfl) rfl
theorem q2933 : (Jvm.Cond.privateMethod ({ cls := "ScholarsPress$Paragraph", name := "begin", desc := "(I)V" } : Jvm.MethodName)) ∈ lw_tbl := lw_at lw_m11 179 rfl
theorem q2934 : (Jvm.Cond.instanceMethod ({ cls := "ScholarsPress$Paragraph", name := "begin", desc := "(I)V" } : Jvm.MethodName)) ∈ lw_all := lw_g (lw_at lw_m11 180 rfl) rfl
theorem q2935 : (Jvm.Cond.code ({ cls := "ScholarsPress$Paragraph", name := "begin", desc := "(I)V" } : Jvm.MethodName) prog_10_method_32_code (2 : Nat) (Option.none : Option Jvm.ClassFile.FieldType)) ∈ lw_all := lw_g (lw_at lw_m11 181 rfl) rfl
theorem q2936 : (Jvm.Cond.methodLink "ScholarsPress$Paragraph" (237 : Nat) ({ cls := "ScholarsPress$Paragraph", name := "breakOf", desc := "(I)I" } : Jvm.MethodName)) ∈ lw_all := lw_g (lw_at lw_m11 182 rfl) rfl
theorem q2937 : (Jvm.Cond.privateMethod ({ cls := "ScholarsPress$Paragraph", name := "breakOf", desc := "(I)I" } : Jvm.MethodName)) ∈ lw_tbl := lw_at lw_m11 183 rfl
theorem q2938 : (Jvm.Cond.instanceMethod ({ cls := "ScholarsPress$Paragraph", name := "breakOf", desc := "(I)I" } : Jvm.MethodName)) ∈ lw_all := lw_g (lw_at lw_m11 184 rfl) rfl
theorem q2939 : (Jvm.Cond.code ({ cls := "ScholarsPress$Paragraph", name := "breakOf", desc := "(I)I" } : Jvm.MethodName) prog_10_method_10_code (2 : Nat) (Option.some Jvm.ClassFile.FieldType.int)) ∈ lw_all := lw_g (lw_at lw_m11 185 rfl) rfl
theorem q2941 : (Jvm.Cond.privateMethod ({ cls := "ScholarsPress$Paragraph", name := "copy", desc := "(LScholarsPress$Paragraph;)V" } : Jvm.MethodName)) ∈ lw_tbl := lw_at lw_m11 187 rfl
theorem q2942 : (Jvm.Cond.instanceMethod ({ cls := "ScholarsPress$Paragraph", name := "copy", desc := "(LScholarsPress$Paragraph;)V" } : Jvm.MethodName)) ∈ lw_all := lw_g (lw_at lw_m11 188 rfl) rfl
theorem q2943 : (Jvm.Cond.code ({ cls := "ScholarsPress$Paragraph", name := "copy", desc := "(LScholarsPress$Paragraph;)V" } : Jvm.MethodName) prog_10_method_33_code (3 : Nat) (Option.none : Option Jvm.ClassFile.FieldType)) ∈ lw_all := lw_g (lw_at lw_m11 189 rfl) rfl
theorem q2957 : (Jvm.Cond.privateMethod ({ cls := "ScholarsPress$Paragraph", name := "orderOf", desc := "(I)I" } : Jvm.MethodName)) ∈ lw_tbl := lw_at lw_m11 203 rfl
theorem q2958 : (Jvm.Cond.instanceMethod ({ cls := "ScholarsPress$Paragraph", name := "orderOf", desc := "(I)I" } : Jvm.MethodName)) ∈ lw_all := lw_g (lw_at lw_m11 204 rfl) rfl
theorem q2959 : (Jvm.Cond.code ({ cls := "ScholarsPress$Paragraph", name := "orderOf", desc := "(I)I" } : Jvm.MethodName) prog_10_method_4_code (2 : Nat) (Option.some Jvm.ClassFile.FieldType.int)) ∈ lw_all := lw_g (lw_at lw_m11 205 rfl) rfl
theorem q2962 : (Jvm.Cond.privateMethod ({ cls := "ScholarsPress$Paragraph", name := "nextAt", desc := "(I)I" } : Jvm.MethodName)) ∈ lw_tbl := lw_at lw_m11 208 rfl
theorem q2963 : (Jvm.Cond.instanceMethod ({ cls := "ScholarsPress$Paragraph", name := "nextAt", desc := "(I)I" } : Jvm.MethodName)) ∈ lw_all := lw_g (lw_at lw_m11 209 rfl) rfl
theorem q2964 : (Jvm.Cond.code ({ cls := "ScholarsPress$Paragraph", name := "nextAt", desc := "(I)I" } : Jvm.MethodName) prog_10_method_7_code (2 : Nat) (Option.some Jvm.ClassFile.FieldType.int)) ∈ lw_all := lw_g (lw_at lw_m11 210 rfl) rfl
theorem q3011 : (Jvm.Cond.privateMethod ({ cls := "ScholarsPress$Paragraph", name := "isHyphen", desc := "(I)Z" } : Jvm.MethodName)) ∈ lw_tbl := lw_at lw_m12 17 rfl
theorem q3012 : (Jvm.Cond.instanceMethod ({ cls := "ScholarsPress$Paragraph", name := "isHyphen", desc := "(I)Z" } : Jvm.MethodName)) ∈ lw_all := lw_g (lw_at lw_m12 18 rfl) rfl
theorem q3013 : (Jvm.Cond.code ({ cls := "ScholarsPress$Paragraph", name := "isHyphen", desc := "(I)Z" } : Jvm.MethodName) prog_10_method_41_code (2 : Nat) (Option.some Jvm.ClassFile.FieldType.boolean)) ∈ lw_all := lw_g (lw_at lw_m12 19 rfl) rfl
theorem q3096 : (Jvm.Cond.privateMethod ({ cls := "ScholarsPress$Paragraph", name := "ratioOf", desc := "(I)I" } : Jvm.MethodName)) ∈ lw_tbl := lw_at lw_m12 102 rfl
theorem q3097 : (Jvm.Cond.instanceMethod ({ cls := "ScholarsPress$Paragraph", name := "ratioOf", desc := "(I)I" } : Jvm.MethodName)) ∈ lw_all := lw_g (lw_at lw_m12 103 rfl) rfl
theorem q3098 : (Jvm.Cond.code ({ cls := "ScholarsPress$Paragraph", name := "ratioOf", desc := "(I)I" } : Jvm.MethodName) prog_10_method_36_code (2 : Nat) (Option.some Jvm.ClassFile.FieldType.int)) ∈ lw_all := lw_g (lw_at lw_m12 104 rfl) rfl
theorem q3099 : (Jvm.Cond.methodLink "ScholarsPress$Paragraph" (246 : Nat) ({ cls := "ScholarsPress$Paragraph", name := "ratioAt", desc := "(I)I" } : Jvm.MethodName)) ∈ lw_all := lw_g (lw_at lw_m12 105 rfl) rfl
theorem q3100 : (Jvm.Cond.privateMethod ({ cls := "ScholarsPress$Paragraph", name := "ratioAt", desc := "(I)I" } : Jvm.MethodName)) ∈ lw_tbl := lw_at lw_m12 106 rfl
theorem q3101 : (Jvm.Cond.instanceMethod ({ cls := "ScholarsPress$Paragraph", name := "ratioAt", desc := "(I)I" } : Jvm.MethodName)) ∈ lw_all := lw_g (lw_at lw_m12 107 rfl) rfl
theorem q3102 : (Jvm.Cond.code ({ cls := "ScholarsPress$Paragraph", name := "ratioAt", desc := "(I)I" } : Jvm.MethodName) prog_10_method_35_code (2 : Nat) (Option.some Jvm.ClassFile.FieldType.int)) ∈ lw_all := lw_g (lw_at lw_m12 108 rfl) rfl
theorem q3105 : (Jvm.Cond.privateMethod ({ cls := "ScholarsPress$Paragraph", name := "startOf", desc := "(I)I" } : Jvm.MethodName)) ∈ lw_tbl := lw_at lw_m12 111 rfl
theorem q3106 : (Jvm.Cond.instanceMethod ({ cls := "ScholarsPress$Paragraph", name := "startOf", desc := "(I)I" } : Jvm.MethodName)) ∈ lw_all := lw_g (lw_at lw_m12 112 rfl) rfl
theorem q3107 : (Jvm.Cond.code ({ cls := "ScholarsPress$Paragraph", name := "startOf", desc := "(I)I" } : Jvm.MethodName) prog_10_method_37_code (6 : Nat) (Option.some Jvm.ClassFile.FieldType.int)) ∈ lw_all := lw_g (lw_at lw_m12 113 rfl) rfl
theorem q3108 : (Jvm.Cond.constantLong "ScholarsPress$Paragraph" (252 : Nat) (2 : Int64)) ∈ lw_all := lw_g (lw_at lw_m12 114 rfl) rfl
theorem q3117 : (Jvm.Cond.privateMethod ({ cls := "ScholarsPress$Paragraph", name := "spot", desc := "(II)J" } : Jvm.MethodName)) ∈ lw_tbl := lw_at lw_m12 123 rfl
theorem q3118 : (Jvm.Cond.instanceMethod ({ cls := "ScholarsPress$Paragraph", name := "spot", desc := "(II)J" } : Jvm.MethodName)) ∈ lw_all := lw_g (lw_at lw_m12 124 rfl) rfl
theorem q3119 : (Jvm.Cond.code ({ cls := "ScholarsPress$Paragraph", name := "spot", desc := "(II)J" } : Jvm.MethodName) prog_10_method_39_code (6 : Nat) (Option.some Jvm.ClassFile.FieldType.long)) ∈ lw_all := lw_g (lw_at lw_m12 125 rfl) rfl
theorem q3120 : (Jvm.Cond.methodLink "ScholarsPress$Paragraph" (254 : Nat) ({ cls := "ScholarsPress$Paragraph", name := "startOf", desc := "(I)I" } : Jvm.MethodName)) ∈ lw_all := lw_g (lw_at lw_m12 126 rfl) rfl
theorem q3121 : (Jvm.Cond.methodLink "ScholarsPress$Paragraph" (257 : Nat) ({ cls := "ScholarsPress$Paragraph", name := "moved", desc := "(II)J" } : Jvm.MethodName)) ∈ lw_all := lw_g (lw_at lw_m12 127 rfl) rfl
theorem q3122 : (Jvm.Cond.privateMethod ({ cls := "ScholarsPress$Paragraph", name := "moved", desc := "(II)J" } : Jvm.MethodName)) ∈ lw_tbl := lw_at lw_m12 128 rfl
theorem q3123 : (Jvm.Cond.instanceMethod ({ cls := "ScholarsPress$Paragraph", name := "moved", desc := "(II)J" } : Jvm.MethodName)) ∈ lw_all := lw_g (lw_at lw_m12 129 rfl) rfl
theorem q3124 : (Jvm.Cond.code ({ cls := "ScholarsPress$Paragraph", name := "moved", desc := "(II)J" } : Jvm.MethodName) prog_10_method_38_code (11 : Nat) (Option.some Jvm.ClassFile.FieldType.long)) ∈ lw_all := lw_g (lw_at lw_m12 130 rfl) rfl
theorem q3125 : (Jvm.Cond.constantLong "ScholarsPress$Paragraph" (244 : Nat) (-1 : Int64)) ∈ lw_all := lw_g (lw_at lw_m12 131 rfl) rfl
theorem q3144 : (Jvm.Cond.privateMethod ({ cls := "ScholarsPress$Paragraph", name := "judge", desc := "([II)J" } : Jvm.MethodName)) ∈ lw_tbl := lw_at lw_m12 150 rfl
theorem q3145 : (Jvm.Cond.instanceMethod ({ cls := "ScholarsPress$Paragraph", name := "judge", desc := "([II)J" } : Jvm.MethodName)) ∈ lw_all := lw_g (lw_at lw_m12 151 rfl) rfl
theorem q3146 : (Jvm.Cond.code ({ cls := "ScholarsPress$Paragraph", name := "judge", desc := "([II)J" } : Jvm.MethodName) prog_10_method_34_code (10 : Nat) (Option.some Jvm.ClassFile.FieldType.long)) ∈ lw_all := lw_g (lw_at lw_m12 152 rfl) rfl
theorem q3236 : (Jvm.Cond.privateMethod ({ cls := "ScholarsPress$Paragraph", name := "write", desc := "(ILScholarsPress$Bytes;)V" } : Jvm.MethodName)) ∈ lw_tbl := lw_at lw_m13 2 rfl
theorem q3237 : (Jvm.Cond.instanceMethod ({ cls := "ScholarsPress$Paragraph", name := "write", desc := "(ILScholarsPress$Bytes;)V" } : Jvm.MethodName)) ∈ lw_all := lw_g (lw_at lw_m13 3 rfl) rfl
theorem q3238 : (Jvm.Cond.code ({ cls := "ScholarsPress$Paragraph", name := "write", desc := "(ILScholarsPress$Bytes;)V" } : Jvm.MethodName) prog_10_method_40_code (5 : Nat) (Option.none : Option Jvm.ClassFile.FieldType)) ∈ lw_all := lw_g (lw_at lw_m13 4 rfl) rfl
theorem q3239 : (Jvm.Cond.methodLink "ScholarsPress$Paragraph" (260 : Nat) ({ cls := "ScholarsPress$Paragraph", name := "nextAt", desc := "(I)I" } : Jvm.MethodName)) ∈ lw_all := lw_g (lw_at lw_m13 5 rfl) rfl
theorem q3240 : (Jvm.Cond.methodLinkNest "ScholarsPress$Paragraph" (262 : Nat) ({ cls := "ScholarsPress$Bytes", name := "addAll", desc := "([BII)V" } : Jvm.MethodName) "ScholarsPress") ∈ lw_tbl := lw_at lw_m13 6 rfl
theorem q3241 : (Jvm.Cond.methodLinkNest "ScholarsPress$Paragraph" (268 : Nat) ({ cls := "ScholarsPress$Bytes", name := "add", desc := "(I)V" } : Jvm.MethodName) "ScholarsPress") ∈ lw_tbl := lw_at lw_m13 7 rfl
theorem in_X28 : ∀ w ∈ wsX280, w ∈ lw_all := lw_in wsX280 [2568, 2570, 2572, 2574, 2576, 2578, 2580, 2582, 2584, 2586, 2588, 2590, 2592, 2594, 2596, 2598, 2600, 2602, 2604, 2606, 2608] (by decide +kernel) (by decide +kernel)
/-! ScholarsPressModel$Beyond -/
def RX29 : String := "ScholarsPressModel$Beyond"
def TX29 : u_T := fun k => match k with
  | 0 => ("java/lang/Throwable", "cause", "Ljava/lang/Throwable;", false)
  | 1 => ("java/lang/Throwable", "stackTrace", "[Ljava/lang/StackTraceElement;", false)
  | 2 => ("java/lang/Throwable", "suppressedExceptions", "Ljava/util/List;", false)
  | 3 => ("java/lang/Throwable", "detailMessage", "Ljava/lang/String;", false)
  | 4 => ("java/lang/Throwable", "backtrace", "Ljava/lang/Object;", false)
  | _ => ("java/lang/Throwable", "depth", "I", false)
def tyX29 : Nat → FieldType := fun k => match k with
  | 0 => .object "java/lang/Throwable"
  | 1 => .array (.object "java/lang/StackTraceElement")
  | 2 => .object "java/util/List"
  | 3 => .object "java/lang/String"
  | 4 => .object "java/lang/Object"
  | _ => .int
abbrev wsX290 : List Cond := u_ws RX29 TX29 6
theorem nmX29 : ∀ a, a < 6 → ∀ b, b < 6 → a ≠ b → (TX29 a).2.1 ≠ (TX29 b).2.1 := by decide +kernel
theorem tyX29_ok : ∀ k, k < 6 → parseFieldDescriptor (TX29 k).2.2.1 = some (tyX29 k) := by decide +kernel
abbrev cX29_init : ByteArray := prog_22_method_1_code
def yX29_init : MethodName := ⟨RX29, "<init>", "()V"⟩
theorem q397 : (Jvm.Cond.initialized "ScholarsPressModel$Beyond") ∈ lw_all := lw_g (lw_at lw_m1 43 rfl) rfl
theorem q1590 : (Jvm.Cond.selects "ScholarsPressModel$Beyond" ({ cls := "java/lang/Throwable", name := "fillInStackTrace", desc := "()Ljava/lang/Throwable;" } : Jvm.MethodName) ({ cls := "java/lang/Throwable", name := "fillInStackTrace", desc := "()Ljava/lang/Throwable;" } : Jvm.MethodName)) ∈ lw_all := lw_g (lw_at lw_m6 36 rfl) rfl
theorem q4792 : (Jvm.Cond.instantiable "ScholarsPressModel$Beyond" (6 : Nat)) ∈ lw_all := lw_g (lw_at lw_m19 118 rfl) rfl
theorem q4793 : (Jvm.Cond.castable "ScholarsPressModel$Beyond" "ScholarsPressModel$Beyond") ∈ lw_tbl := lw_at lw_m19 119 rfl
theorem q4794 : (Jvm.Cond.selects "ScholarsPressModel$Beyond" ({ cls := "java/lang/Throwable", name := "fillInStackTrace", desc := "(I)Ljava/lang/Throwable;" } : Jvm.MethodName) ({ cls := "java/lang/Throwable", name := "fillInStackTrace", desc := "(I)Ljava/lang/Throwable;" } : Jvm.MethodName)) ∈ lw_all := lw_g (lw_at lw_m19 120 rfl) rfl
theorem q4795 : (Jvm.Cond.lays "ScholarsPressModel$Beyond" "java/lang/Throwable" "cause" "Ljava/lang/Throwable;") ∈ lw_all := lw_g (lw_at lw_m19 121 rfl) rfl
theorem q4796 : (Jvm.Cond.lays "ScholarsPressModel$Beyond" "java/lang/Throwable" "stackTrace" "[Ljava/lang/StackTraceElement;") ∈ lw_all := lw_g (lw_at lw_m19 122 rfl) rfl
theorem q4797 : (Jvm.Cond.lays "ScholarsPressModel$Beyond" "java/lang/Throwable" "suppressedExceptions" "Ljava/util/List;") ∈ lw_all := lw_g (lw_at lw_m19 123 rfl) rfl
theorem q4798 : (Jvm.Cond.lays "ScholarsPressModel$Beyond" "java/lang/Throwable" "detailMessage" "Ljava/lang/String;") ∈ lw_all := lw_g (lw_at lw_m19 124 rfl) rfl
theorem q4799 : (Jvm.Cond.lays "ScholarsPressModel$Beyond" "java/lang/Throwable" "backtrace" "Ljava/lang/Object;") ∈ lw_all := lw_g (lw_at lw_m19 125 rfl) rfl
theorem q4801 : (Jvm.Cond.instanceMethod ({ cls := "ScholarsPressModel$Beyond", name := "<init>", desc := "()V" } : Jvm.MethodName)) ∈ lw_all := lw_g (lw_at lw_m19 127 rfl) rfl
theorem q4802 : (Jvm.Cond.code ({ cls := "ScholarsPressModel$Beyond", name := "<init>", desc := "()V" } : Jvm.MethodName) prog_22_method_1_code (1 : Nat) (Option.none : Option Jvm.ClassFile.FieldType)) ∈ lw_all := lw_g (lw_at lw_m19 128 rfl) rfl
theorem q4803 : (Jvm.Cond.methodLink "ScholarsPressModel$Beyond" (1 : Nat) ({ cls := "java/lang/RuntimeException", name := "<init>", desc := "()V" } : Jvm.MethodName)) ∈ lw_all := lw_g (lw_at lw_m19 129 rfl) rfl
theorem q4804 : (Jvm.Cond.lays "ScholarsPressModel$Beyond" "java/lang/Throwable" "depth" "I") ∈ lw_all := lw_g (lw_at lw_m19 130 rfl) rfl
theorem q4805 : (Jvm.Cond.superclass "ScholarsPressModel$Beyond" "java/lang/RuntimeException") ∈ lw_all := lw_g (lw_at lw_m19 131 rfl) rfl
theorem in_X29 : ∀ w ∈ wsX290, w ∈ lw_all := lw_in wsX290 [4795, 4796, 4797, 4798, 4799, 4804] (by decide +kernel) (by decide +kernel)
/-! the law's own entry -/
abbrev cL_law : ByteArray := code
theorem q393 : (Jvm.Cond.initialized "java/lang/System") ∈ lw_all := lw_g (lw_at lw_m1 39 rfl) rfl
theorem q2132 : (Jvm.Cond.static ({ cls := "java/lang/System", name := "arraycopy", desc := "(Ljava/lang/Object;ILjava/lang/Object;II)V" } : Jvm.MethodName)) ∈ lw_all := lw_g (lw_at lw_m8 98 rfl) rfl
theorem q2133 : (Jvm.Cond.native ({ cls := "java/lang/System", name := "arraycopy", desc := "(Ljava/lang/Object;ILjava/lang/Object;II)V" } : Jvm.MethodName)) ∈ lw_all := lw_g (lw_at lw_m8 99 rfl) rfl
theorem q449 : (Jvm.Cond.arrayClass Jvm.ClassFile.FieldType.byte) ∈ lw_all := lw_g (lw_at lw_m1 95 rfl) rfl
theorem q451 : (Jvm.Cond.arrayOver (Jvm.ClassFile.FieldType.object "ScholarsPress$Style")) ∈ lw_tbl := lw_at lw_m1 97 rfl
theorem q492 : (Jvm.Cond.arrayClass Jvm.ClassFile.FieldType.int) ∈ lw_all := lw_g (lw_at lw_m1 138 rfl) rfl
theorem q635 : (Jvm.Cond.arrayClass Jvm.ClassFile.FieldType.boolean) ∈ lw_all := lw_g (lw_at lw_m2 41 rfl) rfl
theorem q637 : (Jvm.Cond.arrayOver (Jvm.ClassFile.FieldType.object "ScholarsPress$Source")) ∈ lw_tbl := lw_at lw_m2 43 rfl
theorem q770 : (Jvm.Cond.arrayOver (Jvm.ClassFile.FieldType.object "ScholarsPress$Tree")) ∈ lw_tbl := lw_at lw_m2 176 rfl
theorem q978 : (Jvm.Cond.arrayClass Jvm.ClassFile.FieldType.long) ∈ lw_all := lw_g (lw_at lw_m3 144 rfl) rfl
theorem q1115 : (Jvm.Cond.arrayOver (Jvm.ClassFile.FieldType.object "ScholarsPress$Book")) ∈ lw_tbl := lw_at lw_m4 41 rfl
theorem q1196 : (Jvm.Cond.arrayOver (Jvm.ClassFile.FieldType.object "ScholarsPress$Paragraph")) ∈ lw_tbl := lw_at lw_m4 122 rfl

