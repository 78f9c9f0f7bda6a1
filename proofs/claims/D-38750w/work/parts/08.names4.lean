-- X3.PebblegateLaw_Out.lean.txt
/-! PebblegateLaw$Out -/
set_option maxRecDepth 100000
def RX3 : String := "PebblegateLaw$Out"
def TX3 : u_T := fun k => match k with
  | 0 => ("PebblegateLaw$Out", "n", "J", false)
  | _ => ("PebblegateLaw$Out", "s", "Ljava/lang/String;", false)
def tyX3 : Nat → FieldType := fun k => match k with
  | 0 => .long
  | _ => .object "java/lang/String"
abbrev wsX30 : List Cond := u_ws RX3 TX3 2
theorem nmX3 : ∀ a, a < 2 → ∀ b, b < 2 → a ≠ b → (TX3 a).2.1 ≠ (TX3 b).2.1 := by decide +kernel
theorem tyX3_ok : ∀ k, k < 2 → parseFieldDescriptor (TX3 k).2.2.1 = some (tyX3 k) := by decide +kernel
abbrev cX3_init : ByteArray := prog_6_method_1_code
def yX3_init : MethodName := ⟨RX3, "<init>", "()V"⟩
theorem dX3_init_0 : decode cX3_init 0 = .ok (.aload_n 0, 1) := by decide +kernel
theorem dX3_init_1 : decode cX3_init 1 = .ok (.invokespecial 1, 3) := by decide +kernel
theorem dX3_init_4 : decode cX3_init 4 = .ok (.return_, 1) := by decide +kernel
theorem q79 : (Jvm.Cond.initialized "PebblegateLaw$Out") ∈ lw_all := lw_g (lw_at lw_m1 8 rfl) rfl
theorem q272 : (Jvm.Cond.selects "PebblegateLaw$Out" ({ cls := "java/lang/Object", name := "getClass", desc := "()Ljava/lang/Class;" } : Jvm.MethodName) ({ cls := "java/lang/Object", name := "getClass", desc := "()Ljava/lang/Class;" } : Jvm.MethodName)) ∈ lw_all := lw_g (lw_at lw_m1 201 rfl) rfl
theorem q1450 : (Jvm.Cond.instantiable "PebblegateLaw$Out" (2 : Nat)) ∈ lw_all := lw_g (lw_at lw_m6 179 rfl) rfl
theorem q1452 : (Jvm.Cond.instanceMethod ({ cls := "PebblegateLaw$Out", name := "<init>", desc := "()V" } : Jvm.MethodName)) ∈ lw_all := lw_g (lw_at lw_m6 181 rfl) rfl
theorem q1453 : (Jvm.Cond.code ({ cls := "PebblegateLaw$Out", name := "<init>", desc := "()V" } : Jvm.MethodName) prog_6_method_1_code (1 : Nat) (Option.none : Option Jvm.ClassFile.FieldType)) ∈ lw_all := lw_g (lw_at lw_m6 182 rfl) rfl
theorem q1454 : (Jvm.Cond.methodLink "PebblegateLaw$Out" (1 : Nat) ({ cls := "java/lang/Object", name := "<init>", desc := "()V" } : Jvm.MethodName)) ∈ lw_all := lw_g (lw_at lw_m6 183 rfl) rfl
theorem q1457 : (Jvm.Cond.lays "PebblegateLaw$Out" "PebblegateLaw$Out" "n" "J") ∈ lw_all := lw_g (lw_at lw_m6 186 rfl) rfl
theorem q1458 : (Jvm.Cond.soleField "PebblegateLaw$Out" "n") ∈ lw_all := lw_g (lw_at lw_m6 187 rfl) rfl
theorem q1459 : (Jvm.Cond.lays "PebblegateLaw$Out" "PebblegateLaw$Out" "s" "Ljava/lang/String;") ∈ lw_all := lw_g (lw_at lw_m6 188 rfl) rfl
theorem q1460 : (Jvm.Cond.soleField "PebblegateLaw$Out" "s") ∈ lw_all := lw_g (lw_at lw_m6 189 rfl) rfl
theorem q1461 : (Jvm.Cond.superclass "PebblegateLaw$Out" "java/lang/Object") ∈ lw_all := lw_g (lw_at lw_m6 190 rfl) rfl
theorem q2197 : (Jvm.Cond.castable "PebblegateLaw$Out" "java/lang/Object") ∈ lw_tbl := lw_at lw_m9 206 rfl
theorem in_X3 : ∀ w ∈ wsX30, w ∈ lw_all := lw_in wsX30 [1457, 1459] (by decide +kernel) (by decide +kernel)

-- J5.java_lang_Throwable.lean.txt
/-! java/lang/Throwable -/
set_option maxRecDepth 100000
def RJ5 : String := "java/lang/Throwable"
def TJ5 : u_T := fun k => match k with
  | 0 => ("java/lang/Throwable", "cause", "Ljava/lang/Throwable;", false)
  | 1 => ("java/lang/Throwable", "stackTrace", "[Ljava/lang/StackTraceElement;", false)
  | 2 => ("java/lang/Throwable", "suppressedExceptions", "Ljava/util/List;", false)
  | 3 => ("java/lang/Throwable", "detailMessage", "Ljava/lang/String;", false)
  | _ => ("java/lang/Throwable", "backtrace", "Ljava/lang/Object;", false)
def tyJ5 : Nat → FieldType := fun k => match k with
  | 0 => .object "java/lang/Throwable"
  | 1 => .array (.object "java/lang/StackTraceElement")
  | 2 => .object "java/util/List"
  | 3 => .object "java/lang/String"
  | _ => .object "java/lang/Object"
abbrev wsJ50 : List Cond := u_ws RJ5 TJ5 5
theorem nmJ5 : ∀ a, a < 5 → ∀ b, b < 5 → a ≠ b → (TJ5 a).2.1 ≠ (TJ5 b).2.1 := by decide +kernel
theorem tyJ5_ok : ∀ k, k < 5 → parseFieldDescriptor (TJ5 k).2.2.1 = some (tyJ5 k) := by decide +kernel
abbrev cJ5_init : ByteArray := prog_30_method_1_code
def yJ5_init : MethodName := ⟨RJ5, "<init>", "()V"⟩
abbrev cJ5_init_2 : ByteArray := prog_30_method_2_code
def yJ5_init_2 : MethodName := ⟨RJ5, "<init>", "(Ljava/lang/String;)V"⟩
theorem q80 : (Jvm.Cond.initialized "java/lang/Throwable") ∈ lw_all := lw_g (lw_at lw_m1 9 rfl) rfl
theorem q810 : (Jvm.Cond.declares ({ cls := "java/lang/Throwable", name := "<init>", desc := "()V" } : Jvm.MethodName)) ∈ lw_tbl := lw_at lw_m4 19 rfl
theorem q811 : (Jvm.Cond.declares ({ cls := "java/lang/Throwable", name := "<init>", desc := "(Ljava/lang/String;)V" } : Jvm.MethodName)) ∈ lw_tbl := lw_at lw_m4 20 rfl
theorem q815 : (Jvm.Cond.lays "java/lang/Throwable" "java/lang/Throwable" "cause" "Ljava/lang/Throwable;") ∈ lw_all := lw_g (lw_at lw_m4 24 rfl) rfl
theorem q817 : (Jvm.Cond.lays "java/lang/Throwable" "java/lang/Throwable" "stackTrace" "[Ljava/lang/StackTraceElement;") ∈ lw_all := lw_g (lw_at lw_m4 26 rfl) rfl
theorem q819 : (Jvm.Cond.lays "java/lang/Throwable" "java/lang/Throwable" "suppressedExceptions" "Ljava/util/List;") ∈ lw_all := lw_g (lw_at lw_m4 28 rfl) rfl
theorem q821 : (Jvm.Cond.lays "java/lang/Throwable" "java/lang/Throwable" "detailMessage" "Ljava/lang/String;") ∈ lw_all := lw_g (lw_at lw_m4 30 rfl) rfl
theorem q823 : (Jvm.Cond.lays "java/lang/Throwable" "java/lang/Throwable" "backtrace" "Ljava/lang/Object;") ∈ lw_all := lw_g (lw_at lw_m4 32 rfl) rfl
theorem q824 : (Jvm.Cond.fieldLink "java/lang/Throwable" (198 : Nat) "java/lang/Throwable" "backtrace" "Ljava/lang/Object;") ∈ lw_all := lw_g (lw_at lw_m4 33 rfl) rfl
theorem q825 : (Jvm.Cond.superclass "java/lang/Throwable" "java/lang/Object") ∈ lw_all := lw_g (lw_at lw_m4 34 rfl) rfl
theorem q826 : (Jvm.Cond.instanceMethod ({ cls := "java/lang/Throwable", name := "<init>", desc := "()V" } : Jvm.MethodName)) ∈ lw_all := lw_g (lw_at lw_m4 35 rfl) rfl
theorem q827 : (Jvm.Cond.code ({ cls := "java/lang/Throwable", name := "<init>", desc := "()V" } : Jvm.MethodName) prog_30_method_1_code (1 : Nat) (Option.none : Option Jvm.ClassFile.FieldType)) ∈ lw_all := lw_g (lw_at lw_m4 36 rfl) rfl
theorem q828 : (Jvm.Cond.methodLink "java/lang/Throwable" (1 : Nat) ({ cls := "java/lang/Object", name := "<init>", desc := "()V" } : Jvm.MethodName)) ∈ lw_all := lw_g (lw_at lw_m4 37 rfl) rfl
theorem q829 : (Jvm.Cond.fieldLink "java/lang/Throwable" (13 : Nat) "java/lang/Throwable" "UNASSIGNED_STACK" "[Ljava/lang/StackTraceElement;") ∈ lw_all := lw_g (lw_at lw_m4 38 rfl) rfl
theorem q830 : (Jvm.Cond.laysStatic "java/lang/Throwable" "UNASSIGNED_STACK" "[Ljava/lang/StackTraceElement;") ∈ lw_tbl := lw_at lw_m4 39 rfl
theorem q831 : (Jvm.Cond.fieldLink "java/lang/Throwable" (20 : Nat) "java/lang/Throwable" "SUPPRESSED_SENTINEL" "Ljava/util/List;") ∈ lw_all := lw_g (lw_at lw_m4 40 rfl) rfl
theorem q832 : (Jvm.Cond.laysStatic "java/lang/Throwable" "SUPPRESSED_SENTINEL" "Ljava/util/List;") ∈ lw_tbl := lw_at lw_m4 41 rfl
theorem q833 : (Jvm.Cond.methodLink "java/lang/Throwable" (27 : Nat) ({ cls := "java/lang/Throwable", name := "fillInStackTrace", desc := "()Ljava/lang/Throwable;" } : Jvm.MethodName)) ∈ lw_all := lw_g (lw_at lw_m4 42 rfl) rfl
theorem q834 : (Jvm.Cond.instanceMethod ({ cls := "java/lang/Throwable", name := "fillInStackTrace", desc := "()Ljava/lang/Throwable;" } : Jvm.MethodName)) ∈ lw_all := lw_g (lw_at lw_m4 43 rfl) rfl
theorem q835 : (Jvm.Cond.sameMethod "java/lang/Throwable" "java/lang/Throwable" "fillInStackTrace" "()Ljava/lang/Throwable;") ∈ lw_all := lw_g (lw_at lw_m4 44 rfl) rfl
theorem q838 : (Jvm.Cond.codeSync ({ cls := "java/lang/Throwable", name := "fillInStackTrace", desc := "()Ljava/lang/Throwable;" } : Jvm.MethodName) prog_30_method_18_code (1 : Nat) (Option.some (Jvm.ClassFile.FieldType.object "java/lang/Throwable"))) ∈ lw_all := lw_g (lw_at lw_m4 47 rfl) rfl
theorem q839 : (Jvm.Cond.methodLink "java/lang/Throwable" (202 : Nat) ({ cls := "java/lang/Throwable", name := "fillInStackTrace", desc := "(I)Ljava/lang/Throwable;" } : Jvm.MethodName)) ∈ lw_all := lw_g (lw_at lw_m4 48 rfl) rfl
theorem q840 : (Jvm.Cond.privateMethod ({ cls := "java/lang/Throwable", name := "fillInStackTrace", desc := "(I)Ljava/lang/Throwable;" } : Jvm.MethodName)) ∈ lw_tbl := lw_at lw_m4 49 rfl
theorem q841 : (Jvm.Cond.instanceMethod ({ cls := "java/lang/Throwable", name := "fillInStackTrace", desc := "(I)Ljava/lang/Throwable;" } : Jvm.MethodName)) ∈ lw_all := lw_g (lw_at lw_m4 50 rfl) rfl
theorem q842 : (Jvm.Cond.instantiable "java/lang/Throwable" (6 : Nat)) ∈ lw_all := lw_g (lw_at lw_m4 51 rfl) rfl
theorem q843 : (Jvm.Cond.native ({ cls := "java/lang/Throwable", name := "fillInStackTrace", desc := "(I)Ljava/lang/Throwable;" } : Jvm.MethodName)) ∈ lw_all := lw_g (lw_at lw_m4 52 rfl) rfl
theorem q860 : (Jvm.Cond.instanceMethod ({ cls := "java/lang/Throwable", name := "<init>", desc := "(Ljava/lang/String;)V" } : Jvm.MethodName)) ∈ lw_all := lw_g (lw_at lw_m4 69 rfl) rfl
theorem q861 : (Jvm.Cond.code ({ cls := "java/lang/Throwable", name := "<init>", desc := "(Ljava/lang/String;)V" } : Jvm.MethodName) prog_30_method_2_code (2 : Nat) (Option.none : Option Jvm.ClassFile.FieldType)) ∈ lw_all := lw_g (lw_at lw_m4 70 rfl) rfl
theorem q862 : (Jvm.Cond.fieldLink "java/lang/Throwable" (198 : Nat) "java/lang/Throwable" "backtrace" "Ljava/lang/Object;") ∈ lw_all := lw_g (lw_at lw_m4 71 rfl) rfl
theorem q863 : (Jvm.Cond.fieldLink "java/lang/Throwable" (31 : Nat) "java/lang/Throwable" "detailMessage" "Ljava/lang/String;") ∈ lw_all := lw_g (lw_at lw_m4 72 rfl) rfl
theorem q864 : (Jvm.Cond.fieldLink "java/lang/Throwable" (7 : Nat) "java/lang/Throwable" "cause" "Ljava/lang/Throwable;") ∈ lw_all := lw_g (lw_at lw_m4 73 rfl) rfl
theorem q865 : (Jvm.Cond.fieldLink "java/lang/Throwable" (17 : Nat) "java/lang/Throwable" "stackTrace" "[Ljava/lang/StackTraceElement;") ∈ lw_all := lw_g (lw_at lw_m4 74 rfl) rfl
theorem q866 : (Jvm.Cond.fieldLink "java/lang/Throwable" (24 : Nat) "java/lang/Throwable" "suppressedExceptions" "Ljava/util/List;") ∈ lw_all := lw_g (lw_at lw_m4 75 rfl) rfl
theorem q867 : (Jvm.Cond.soleField "java/lang/Throwable" "backtrace") ∈ lw_all := lw_g (lw_at lw_m4 76 rfl) rfl
theorem q868 : (Jvm.Cond.soleField "java/lang/Throwable" "detailMessage") ∈ lw_all := lw_g (lw_at lw_m4 77 rfl) rfl
theorem q869 : (Jvm.Cond.soleField "java/lang/Throwable" "cause") ∈ lw_all := lw_g (lw_at lw_m4 78 rfl) rfl
theorem q870 : (Jvm.Cond.soleField "java/lang/Throwable" "stackTrace") ∈ lw_all := lw_g (lw_at lw_m4 79 rfl) rfl
theorem q872 : (Jvm.Cond.soleField "java/lang/Throwable" "depth") ∈ lw_all := lw_g (lw_at lw_m4 81 rfl) rfl
theorem q873 : (Jvm.Cond.soleField "java/lang/Throwable" "suppressedExceptions") ∈ lw_all := lw_g (lw_at lw_m4 82 rfl) rfl
theorem q2188 : (Jvm.Cond.sameMethod "java/lang/Throwable" "java/lang/Throwable" "fillInStackTrace" "(I)Ljava/lang/Throwable;") ∈ lw_all := lw_g (lw_at lw_m9 197 rfl) rfl
theorem q2212 : (Jvm.Cond.castable "java/lang/Throwable" "java/lang/Object") ∈ lw_tbl := lw_at lw_m9 221 rfl
theorem in_J5 : ∀ w ∈ wsJ50, w ∈ lw_all := lw_in wsJ50 [815, 817, 819, 821, 823] (by decide +kernel) (by decide +kernel)

-- J6.java_lang_Exception.lean.txt
/-! java/lang/Exception -/
set_option maxRecDepth 100000
def RJ6 : String := "java/lang/Exception"
abbrev cJ6_init : ByteArray := prog_15_method_2_code
def yJ6_init : MethodName := ⟨RJ6, "<init>", "(Ljava/lang/String;)V"⟩
abbrev cJ6_init_2 : ByteArray := prog_15_method_1_code
def yJ6_init_2 : MethodName := ⟨RJ6, "<init>", "()V"⟩
theorem q81 : (Jvm.Cond.initialized "java/lang/Exception") ∈ lw_all := lw_g (lw_at lw_m1 10 rfl) rfl
theorem q808 : (Jvm.Cond.declares ({ cls := "java/lang/Exception", name := "<init>", desc := "()V" } : Jvm.MethodName)) ∈ lw_tbl := lw_at lw_m4 17 rfl
theorem q809 : (Jvm.Cond.declares ({ cls := "java/lang/Exception", name := "<init>", desc := "(Ljava/lang/String;)V" } : Jvm.MethodName)) ∈ lw_tbl := lw_at lw_m4 18 rfl
theorem q857 : (Jvm.Cond.instanceMethod ({ cls := "java/lang/Exception", name := "<init>", desc := "(Ljava/lang/String;)V" } : Jvm.MethodName)) ∈ lw_all := lw_g (lw_at lw_m4 66 rfl) rfl
theorem q858 : (Jvm.Cond.code ({ cls := "java/lang/Exception", name := "<init>", desc := "(Ljava/lang/String;)V" } : Jvm.MethodName) prog_15_method_2_code (2 : Nat) (Option.none : Option Jvm.ClassFile.FieldType)) ∈ lw_all := lw_g (lw_at lw_m4 67 rfl) rfl
theorem q859 : (Jvm.Cond.methodLink "java/lang/Exception" (7 : Nat) ({ cls := "java/lang/Throwable", name := "<init>", desc := "(Ljava/lang/String;)V" } : Jvm.MethodName)) ∈ lw_all := lw_g (lw_at lw_m4 68 rfl) rfl
theorem q1484 : (Jvm.Cond.instanceMethod ({ cls := "java/lang/Exception", name := "<init>", desc := "()V" } : Jvm.MethodName)) ∈ lw_all := lw_g (lw_at lw_m6 213 rfl) rfl
theorem q1485 : (Jvm.Cond.code ({ cls := "java/lang/Exception", name := "<init>", desc := "()V" } : Jvm.MethodName) prog_15_method_1_code (1 : Nat) (Option.none : Option Jvm.ClassFile.FieldType)) ∈ lw_all := lw_g (lw_at lw_m6 214 rfl) rfl
theorem q1486 : (Jvm.Cond.methodLink "java/lang/Exception" (1 : Nat) ({ cls := "java/lang/Throwable", name := "<init>", desc := "()V" } : Jvm.MethodName)) ∈ lw_all := lw_g (lw_at lw_m6 215 rfl) rfl

-- J7.java_lang_RuntimeException.lean.txt
/-! java/lang/RuntimeException -/
set_option maxRecDepth 100000
def RJ7 : String := "java/lang/RuntimeException"
abbrev cJ7_init : ByteArray := prog_24_method_2_code
def yJ7_init : MethodName := ⟨RJ7, "<init>", "(Ljava/lang/String;)V"⟩
abbrev cJ7_init_2 : ByteArray := prog_24_method_1_code
def yJ7_init_2 : MethodName := ⟨RJ7, "<init>", "()V"⟩
theorem q82 : (Jvm.Cond.initialized "java/lang/RuntimeException") ∈ lw_all := lw_g (lw_at lw_m1 11 rfl) rfl
theorem q806 : (Jvm.Cond.declares ({ cls := "java/lang/RuntimeException", name := "<init>", desc := "()V" } : Jvm.MethodName)) ∈ lw_tbl := lw_at lw_m4 15 rfl
theorem q807 : (Jvm.Cond.declares ({ cls := "java/lang/RuntimeException", name := "<init>", desc := "(Ljava/lang/String;)V" } : Jvm.MethodName)) ∈ lw_tbl := lw_at lw_m4 16 rfl
theorem q854 : (Jvm.Cond.instanceMethod ({ cls := "java/lang/RuntimeException", name := "<init>", desc := "(Ljava/lang/String;)V" } : Jvm.MethodName)) ∈ lw_all := lw_g (lw_at lw_m4 63 rfl) rfl
theorem q855 : (Jvm.Cond.code ({ cls := "java/lang/RuntimeException", name := "<init>", desc := "(Ljava/lang/String;)V" } : Jvm.MethodName) prog_24_method_2_code (2 : Nat) (Option.none : Option Jvm.ClassFile.FieldType)) ∈ lw_all := lw_g (lw_at lw_m4 64 rfl) rfl
theorem q856 : (Jvm.Cond.methodLink "java/lang/RuntimeException" (7 : Nat) ({ cls := "java/lang/Exception", name := "<init>", desc := "(Ljava/lang/String;)V" } : Jvm.MethodName)) ∈ lw_all := lw_g (lw_at lw_m4 65 rfl) rfl
theorem q1481 : (Jvm.Cond.instanceMethod ({ cls := "java/lang/RuntimeException", name := "<init>", desc := "()V" } : Jvm.MethodName)) ∈ lw_all := lw_g (lw_at lw_m6 210 rfl) rfl
theorem q1482 : (Jvm.Cond.code ({ cls := "java/lang/RuntimeException", name := "<init>", desc := "()V" } : Jvm.MethodName) prog_24_method_1_code (1 : Nat) (Option.none : Option Jvm.ClassFile.FieldType)) ∈ lw_all := lw_g (lw_at lw_m6 211 rfl) rfl
theorem q1483 : (Jvm.Cond.methodLink "java/lang/RuntimeException" (1 : Nat) ({ cls := "java/lang/Exception", name := "<init>", desc := "()V" } : Jvm.MethodName)) ∈ lw_all := lw_g (lw_at lw_m6 212 rfl) rfl

-- J8.java_lang_IllegalArgumentException.lean.txt
/-! java/lang/IllegalArgumentException -/
set_option maxRecDepth 100000
def RJ8 : String := "java/lang/IllegalArgumentException"
def TJ8 : u_T := fun k => match k with
  | 0 => ("java/lang/Throwable", "cause", "Ljava/lang/Throwable;", false)
  | 1 => ("java/lang/Throwable", "stackTrace", "[Ljava/lang/StackTraceElement;", false)
  | 2 => ("java/lang/Throwable", "suppressedExceptions", "Ljava/util/List;", false)
  | 3 => ("java/lang/Throwable", "detailMessage", "Ljava/lang/String;", false)
  | 4 => ("java/lang/Throwable", "backtrace", "Ljava/lang/Object;", false)
  | _ => ("java/lang/Throwable", "depth", "I", false)
def tyJ8 : Nat → FieldType := fun k => match k with
  | 0 => .object "java/lang/Throwable"
  | 1 => .array (.object "java/lang/StackTraceElement")
  | 2 => .object "java/util/List"
  | 3 => .object "java/lang/String"
  | 4 => .object "java/lang/Object"
  | _ => .int
abbrev wsJ80 : List Cond := u_ws RJ8 TJ8 6
theorem nmJ8 : ∀ a, a < 6 → ∀ b, b < 6 → a ≠ b → (TJ8 a).2.1 ≠ (TJ8 b).2.1 := by decide +kernel
theorem tyJ8_ok : ∀ k, k < 6 → parseFieldDescriptor (TJ8 k).2.2.1 = some (tyJ8 k) := by decide +kernel
abbrev cJ8_init : ByteArray := prog_16_method_2_code
def yJ8_init : MethodName := ⟨RJ8, "<init>", "(Ljava/lang/String;)V"⟩
abbrev cJ8_init_2 : ByteArray := prog_16_method_1_code
def yJ8_init_2 : MethodName := ⟨RJ8, "<init>", "()V"⟩
theorem q83 : (Jvm.Cond.initialized "java/lang/IllegalArgumentException") ∈ lw_all := lw_g (lw_at lw_m1 12 rfl) rfl
theorem q275 : (Jvm.Cond.selects "java/lang/IllegalArgumentException" ({ cls := "java/lang/Object", name := "getClass", desc := "()Ljava/lang/Class;" } : Jvm.MethodName) ({ cls := "java/lang/Object", name := "getClass", desc := "()Ljava/lang/Class;" } : Jvm.MethodName)) ∈ lw_all := lw_g (lw_at lw_m1 204 rfl) rfl
theorem q804 : (Jvm.Cond.instantiable "java/lang/IllegalArgumentException" (6 : Nat)) ∈ lw_all := lw_g (lw_at lw_m4 13 rfl) rfl
theorem q805 : (Jvm.Cond.castable "java/lang/IllegalArgumentException" "java/lang/IllegalArgumentException") ∈ lw_tbl := lw_at lw_m4 14 rfl
theorem q812 : (Jvm.Cond.selects "java/lang/IllegalArgumentException" ({ cls := "java/lang/Throwable", name := "fillInStackTrace", desc := "(I)Ljava/lang/Throwable;" } : Jvm.MethodName) ({ cls := "java/lang/Throwable", name := "fillInStackTrace", desc := "(I)Ljava/lang/Throwable;" } : Jvm.MethodName)) ∈ lw_all := lw_g (lw_at lw_m4 21 rfl) rfl
theorem q813 : (Jvm.Cond.selects "java/lang/IllegalArgumentException" ({ cls := "java/lang/Throwable", name := "fillInStackTrace", desc := "()Ljava/lang/Throwable;" } : Jvm.MethodName) ({ cls := "java/lang/Throwable", name := "fillInStackTrace", desc := "()Ljava/lang/Throwable;" } : Jvm.MethodName)) ∈ lw_all := lw_g (lw_at lw_m4 22 rfl) rfl
theorem q814 : (Jvm.Cond.lays "java/lang/IllegalArgumentException" "java/lang/Throwable" "cause" "Ljava/lang/Throwable;") ∈ lw_all := lw_g (lw_at lw_m4 23 rfl) rfl
theorem q816 : (Jvm.Cond.lays "java/lang/IllegalArgumentException" "java/lang/Throwable" "stackTrace" "[Ljava/lang/StackTraceElement;") ∈ lw_all := lw_g (lw_at lw_m4 25 rfl) rfl
theorem q818 : (Jvm.Cond.lays "java/lang/IllegalArgumentException" "java/lang/Throwable" "suppressedExceptions" "Ljava/util/List;") ∈ lw_all := lw_g (lw_at lw_m4 27 rfl) rfl
theorem q820 : (Jvm.Cond.lays "java/lang/IllegalArgumentException" "java/lang/Throwable" "detailMessage" "Ljava/lang/String;") ∈ lw_all := lw_g (lw_at lw_m4 29 rfl) rfl
theorem q822 : (Jvm.Cond.lays "java/lang/IllegalArgumentException" "java/lang/Throwable" "backtrace" "Ljava/lang/Object;") ∈ lw_all := lw_g (lw_at lw_m4 31 rfl) rfl
theorem q851 : (Jvm.Cond.instanceMethod ({ cls := "java/lang/IllegalArgumentException", name := "<init>", desc := "(Ljava/lang/String;)V" } : Jvm.MethodName)) ∈ lw_all := lw_g (lw_at lw_m4 60 rfl) rfl
theorem q852 : (Jvm.Cond.code ({ cls := "java/lang/IllegalArgumentException", name := "<init>", desc := "(Ljava/lang/String;)V" } : Jvm.MethodName) prog_16_method_2_code (2 : Nat) (Option.none : Option Jvm.ClassFile.FieldType)) ∈ lw_all := lw_g (lw_at lw_m4 61 rfl) rfl
theorem q853 : (Jvm.Cond.methodLink "java/lang/IllegalArgumentException" (7 : Nat) ({ cls := "java/lang/RuntimeException", name := "<init>", desc := "(Ljava/lang/String;)V" } : Jvm.MethodName)) ∈ lw_all := lw_g (lw_at lw_m4 62 rfl) rfl
theorem q871 : (Jvm.Cond.lays "java/lang/IllegalArgumentException" "java/lang/Throwable" "depth" "I") ∈ lw_all := lw_g (lw_at lw_m4 80 rfl) rfl
theorem q874 : (Jvm.Cond.superclass "java/lang/IllegalArgumentException" "java/lang/RuntimeException") ∈ lw_all := lw_g (lw_at lw_m4 83 rfl) rfl
theorem q1478 : (Jvm.Cond.instanceMethod ({ cls := "java/lang/IllegalArgumentException", name := "<init>", desc := "()V" } : Jvm.MethodName)) ∈ lw_all := lw_g (lw_at lw_m6 207 rfl) rfl
theorem q1479 : (Jvm.Cond.code ({ cls := "java/lang/IllegalArgumentException", name := "<init>", desc := "()V" } : Jvm.MethodName) prog_16_method_1_code (1 : Nat) (Option.none : Option Jvm.ClassFile.FieldType)) ∈ lw_all := lw_g (lw_at lw_m6 208 rfl) rfl
theorem q1480 : (Jvm.Cond.methodLink "java/lang/IllegalArgumentException" (1 : Nat) ({ cls := "java/lang/RuntimeException", name := "<init>", desc := "()V" } : Jvm.MethodName)) ∈ lw_all := lw_g (lw_at lw_m6 209 rfl) rfl
theorem q2198 : (Jvm.Cond.castable "java/lang/IllegalArgumentException" "java/lang/Object") ∈ lw_tbl := lw_at lw_m9 207 rfl
theorem in_J8 : ∀ w ∈ wsJ80, w ∈ lw_all := lw_in wsJ80 [814, 816, 818, 820, 822, 871] (by decide +kernel) (by decide +kernel)

-- X4.Pebblegate_Step.lean.txt
/-! Pebblegate$Step -/
set_option maxRecDepth 100000
def RX4 : String := "Pebblegate$Step"
def TX4 : u_T := fun k => match k with
  | 0 => ("Pebblegate$Step", "take", "[I", true)
  | _ => ("Pebblegate$Step", "lay", "[I", true)
def tyX4 : Nat → FieldType := fun k => match k with
  | 0 => .array .int
  | _ => .array .int
abbrev wsX40 : List Cond := u_ws RX4 TX4 2
theorem nmX4 : ∀ a, a < 2 → ∀ b, b < 2 → a ≠ b → (TX4 a).2.1 ≠ (TX4 b).2.1 := by decide +kernel
theorem tyX4_ok : ∀ k, k < 2 → parseFieldDescriptor (TX4 k).2.2.1 = some (tyX4 k) := by decide +kernel
abbrev cX4_init : ByteArray := prog_3_method_1_code
def yX4_init : MethodName := ⟨RX4, "<init>", "(I)V"⟩
def dkwX4_init_0 : List UInt8 := [42, 183, 0, 3, 42, 27, 188, 10, 181, 0, 9, 42, 27, 188, 10, 181, 0, 15, 177]
abbrev dktX4_init_0 : List UInt8 := dkwX4_init_0 ++ []
theorem dksX4_init_0 : cX4_init.data.toList.drop 0 = dktX4_init_0 := by decide +kernel
theorem dX4_init_0 : decode cX4_init 0 = .ok (.aload_n 0, 1) := dk_42 (dk_at dksX4_init_0 0 rfl rfl)
theorem dX4_init_1 : decode cX4_init 1 = .ok (.invokespecial 3, 3) := dk_183 0 3 (dk_at dksX4_init_0 1 rfl rfl)
theorem dX4_init_4 : decode cX4_init 4 = .ok (.aload_n 0, 1) := dk_42 (dk_at dksX4_init_0 4 rfl rfl)
theorem dX4_init_5 : decode cX4_init 5 = .ok (.iload_n 1, 1) := dk_27 (dk_at dksX4_init_0 5 rfl rfl)
theorem dX4_init_6 : decode cX4_init 6 = .ok (.newarray .int, 2) := dk_188_10 (dk_at dksX4_init_0 6 rfl rfl)
theorem dX4_init_8 : decode cX4_init 8 = .ok (.putfield 9, 3) := dk_181 0 9 (dk_at dksX4_init_0 8 rfl rfl)
theorem dX4_init_11 : decode cX4_init 11 = .ok (.aload_n 0, 1) := dk_42 (dk_at dksX4_init_0 11 rfl rfl)
theorem dX4_init_12 : decode cX4_init 12 = .ok (.iload_n 1, 1) := dk_27 (dk_at dksX4_init_0 12 rfl rfl)
theorem dX4_init_13 : decode cX4_init 13 = .ok (.newarray .int, 2) := dk_188_10 (dk_at dksX4_init_0 13 rfl rfl)
theorem dX4_init_15 : decode cX4_init 15 = .ok (.putfield 15, 3) := dk_181 0 15 (dk_at dksX4_init_0 15 rfl rfl)
theorem dX4_init_18 : decode cX4_init 18 = .ok (.return_, 1) := dk_177 (dk_at dksX4_init_0 18 rfl rfl)
abbrev cX4_isOther : ByteArray := prog_3_method_6_code
def yX4_isOther : MethodName := ⟨RX4, "isOther", "()Z"⟩
def dkwX4_isOther_1 : List UInt8 := [159, 0, 5, 4, 172, 132, 1, 1, 167, 255, 227, 3, 172]
abbrev dktX4_isOther_1 : List UInt8 := dkwX4_isOther_1 ++ []
def dkwX4_isOther_0 : List UInt8 := [3, 60, 27, 42, 180, 0, 9, 190, 162, 0, 26, 42, 180, 0, 9, 27, 46, 42, 180, 0, 15, 27, 46]
abbrev dktX4_isOther_0 : List UInt8 := dkwX4_isOther_0 ++ dktX4_isOther_1
theorem dksX4_isOther_0 : cX4_isOther.data.toList.drop 0 = dktX4_isOther_0 := by decide +kernel
theorem dksX4_isOther_1 : cX4_isOther.data.toList.drop 23 = dktX4_isOther_1 := dk_seg dksX4_isOther_0 23 rfl rfl
theorem dX4_isOther_0 : decode cX4_isOther 0 = .ok (.iconst 0, 1) := dk_3 (dk_at dksX4_isOther_0 0 rfl rfl)
theorem dX4_isOther_1 : decode cX4_isOther 1 = .ok (.istore_n 1, 1) := dk_60 (dk_at dksX4_isOther_0 1 rfl rfl)
theorem dX4_isOther_2 : decode cX4_isOther 2 = .ok (.iload_n 1, 1) := dk_27 (dk_at dksX4_isOther_0 2 rfl rfl)
theorem dX4_isOther_3 : decode cX4_isOther 3 = .ok (.aload_n 0, 1) := dk_42 (dk_at dksX4_isOther_0 3 rfl rfl)
theorem dX4_isOther_4 : decode cX4_isOther 4 = .ok (.getfield 9, 3) := dk_180 0 9 (dk_at dksX4_isOther_0 4 rfl rfl)
theorem dX4_isOther_7 : decode cX4_isOther 7 = .ok (.arraylength, 1) := dk_190 (dk_at dksX4_isOther_0 7 rfl rfl)
theorem dX4_isOther_8 : decode cX4_isOther 8 = .ok (.if_icmp .ge 26, 3) := dk_162 0 26 (dk_at dksX4_isOther_0 8 rfl rfl)
theorem dX4_isOther_11 : decode cX4_isOther 11 = .ok (.aload_n 0, 1) := dk_42 (dk_at dksX4_isOther_0 11 rfl rfl)
theorem dX4_isOther_12 : decode cX4_isOther 12 = .ok (.getfield 9, 3) := dk_180 0 9 (dk_at dksX4_isOther_0 12 rfl rfl)
theorem dX4_isOther_15 : decode cX4_isOther 15 = .ok (.iload_n 1, 1) := dk_27 (dk_at dksX4_isOther_0 15 rfl rfl)
theorem dX4_isOther_16 : decode cX4_isOther 16 = .ok (.iaload, 1) := dk_46 (dk_at dksX4_isOther_0 16 rfl rfl)
theorem dX4_isOther_17 : decode cX4_isOther 17 = .ok (.aload_n 0, 1) := dk_42 (dk_at dksX4_isOther_0 17 rfl rfl)
theorem dX4_isOther_18 : decode cX4_isOther 18 = .ok (.getfield 15, 3) := dk_180 0 15 (dk_at dksX4_isOther_0 18 rfl rfl)
theorem dX4_isOther_21 : decode cX4_isOther 21 = .ok (.iload_n 1, 1) := dk_27 (dk_at dksX4_isOther_0 21 rfl rfl)
theorem dX4_isOther_22 : decode cX4_isOther 22 = .ok (.iaload, 1) := dk_46 (dk_at dksX4_isOther_0 22 rfl rfl)
theorem dX4_isOther_23 : decode cX4_isOther 23 = .ok (.if_icmp .eq 5, 3) := dk_159 0 5 (dk_at dksX4_isOther_1 0 rfl rfl)
theorem dX4_isOther_26 : decode cX4_isOther 26 = .ok (.iconst 1, 1) := dk_4 (dk_at dksX4_isOther_1 3 rfl rfl)
theorem dX4_isOther_27 : decode cX4_isOther 27 = .ok (.ireturn, 1) := dk_172 (dk_at dksX4_isOther_1 4 rfl rfl)
theorem dX4_isOther_28 : decode cX4_isOther 28 = .ok (.iinc 1 1, 3) := dk_132 1 1 (dk_at dksX4_isOther_1 5 rfl rfl)
theorem dX4_isOther_31 : decode cX4_isOther 31 = .ok (.goto (-29), 3) := dk_167 255 227 (dk_at dksX4_isOther_1 8 rfl rfl)
theorem dX4_isOther_34 : decode cX4_isOther 34 = .ok (.iconst 0, 1) := dk_3 (dk_at dksX4_isOther_1 11 rfl rfl)
theorem dX4_isOther_35 : decode cX4_isOther 35 = .ok (.ireturn, 1) := dk_172 (dk_at dksX4_isOther_1 12 rfl rfl)
abbrev cX4_turned : ByteArray := prog_3_method_3_code
def yX4_turned : MethodName := ⟨RX4, "turned", "()LPebblegate$Step;"⟩
def dkwX4_turned_0 : List UInt8 := [187, 0, 10, 89, 42, 180, 0, 15, 42, 180, 0, 9, 183, 0, 18, 176]
abbrev dktX4_turned_0 : List UInt8 := dkwX4_turned_0 ++ []
theorem dksX4_turned_0 : cX4_turned.data.toList.drop 0 = dktX4_turned_0 := by decide +kernel
theorem dX4_turned_0 : decode cX4_turned 0 = .ok (.new 10, 3) := dk_187 0 10 (dk_at dksX4_turned_0 0 rfl rfl)
theorem dX4_turned_3 : decode cX4_turned 3 = .ok (.dup, 1) := dk_89 (dk_at dksX4_turned_0 3 rfl rfl)
theorem dX4_turned_4 : decode cX4_turned 4 = .ok (.aload_n 0, 1) := dk_42 (dk_at dksX4_turned_0 4 rfl rfl)
theorem dX4_turned_5 : decode cX4_turned 5 = .ok (.getfield 15, 3) := dk_180 0 15 (dk_at dksX4_turned_0 5 rfl rfl)
theorem dX4_turned_8 : decode cX4_turned 8 = .ok (.aload_n 0, 1) := dk_42 (dk_at dksX4_turned_0 8 rfl rfl)
theorem dX4_turned_9 : decode cX4_turned 9 = .ok (.getfield 9, 3) := dk_180 0 9 (dk_at dksX4_turned_0 9 rfl rfl)
theorem dX4_turned_12 : decode cX4_turned 12 = .ok (.invokespecial 18, 3) := dk_183 0 18 (dk_at dksX4_turned_0 12 rfl rfl)
theorem dX4_turned_15 : decode cX4_turned 15 = .ok (.areturn, 1) := dk_176 (dk_at dksX4_turned_0 15 rfl rfl)
abbrev cX4_init_2 : ByteArray := prog_3_method_2_code
def yX4_init_2 : MethodName := ⟨RX4, "<init>", "([I[I)V"⟩
def dkwX4_init_2_0 : List UInt8 := [42, 183, 0, 3, 42, 43, 181, 0, 9, 42, 44, 181, 0, 15, 177]
abbrev dktX4_init_2_0 : List UInt8 := dkwX4_init_2_0 ++ []
theorem dksX4_init_2_0 : cX4_init_2.data.toList.drop 0 = dktX4_init_2_0 := by decide +kernel
theorem dX4_init_2_0 : decode cX4_init_2 0 = .ok (.aload_n 0, 1) := dk_42 (dk_at dksX4_init_2_0 0 rfl rfl)
theorem dX4_init_2_1 : decode cX4_init_2 1 = .ok (.invokespecial 3, 3) := dk_183 0 3 (dk_at dksX4_init_2_0 1 rfl rfl)
theorem dX4_init_2_4 : decode cX4_init_2 4 = .ok (.aload_n 0, 1) := dk_42 (dk_at dksX4_init_2_0 4 rfl rfl)
theorem dX4_init_2_5 : decode cX4_init_2 5 = .ok (.aload_n 1, 1) := dk_43 (dk_at dksX4_init_2_0 5 rfl rfl)
theorem dX4_init_2_6 : decode cX4_init_2 6 = .ok (.putfield 9, 3) := dk_181 0 9 (dk_at dksX4_init_2_0 6 rfl rfl)
theorem dX4_init_2_9 : decode cX4_init_2 9 = .ok (.aload_n 0, 1) := dk_42 (dk_at dksX4_init_2_0 9 rfl rfl)
theorem dX4_init_2_10 : decode cX4_init_2 10 = .ok (.aload_n 2, 1) := dk_44 (dk_at dksX4_init_2_0 10 rfl rfl)
theorem dX4_init_2_11 : decode cX4_init_2 11 = .ok (.putfield 15, 3) := dk_181 0 15 (dk_at dksX4_init_2_0 11 rfl rfl)
theorem dX4_init_2_14 : decode cX4_init_2 14 = .ok (.return_, 1) := dk_177 (dk_at dksX4_init_2_0 14 rfl rfl)
abbrev cX4_can : ByteArray := prog_3_method_4_code
def yX4_can : MethodName := ⟨RX4, "can", "([I)Z"⟩
def dkwX4_can_1 : List UInt8 := [172, 132, 2, 1, 167, 255, 230, 4, 172]
abbrev dktX4_can_1 : List UInt8 := dkwX4_can_1 ++ []
def dkwX4_can_0 : List UInt8 := [3, 61, 28, 42, 180, 0, 9, 190, 162, 0, 23, 43, 28, 46, 42, 180, 0, 9, 28, 46, 162, 0, 5, 3]
abbrev dktX4_can_0 : List UInt8 := dkwX4_can_0 ++ dktX4_can_1
theorem dksX4_can_0 : cX4_can.data.toList.drop 0 = dktX4_can_0 := by decide +kernel
theorem dksX4_can_1 : cX4_can.data.toList.drop 24 = dktX4_can_1 := dk_seg dksX4_can_0 24 rfl rfl
theorem dX4_can_0 : decode cX4_can 0 = .ok (.iconst 0, 1) := dk_3 (dk_at dksX4_can_0 0 rfl rfl)
theorem dX4_can_1 : decode cX4_can 1 = .ok (.istore_n 2, 1) := dk_61 (dk_at dksX4_can_0 1 rfl rfl)
theorem dX4_can_2 : decode cX4_can 2 = .ok (.iload_n 2, 1) := dk_28 (dk_at dksX4_can_0 2 rfl rfl)
theorem dX4_can_3 : decode cX4_can 3 = .ok (.aload_n 0, 1) := dk_42 (dk_at dksX4_can_0 3 rfl rfl)
theorem dX4_can_4 : decode cX4_can 4 = .ok (.getfield 9, 3) := dk_180 0 9 (dk_at dksX4_can_0 4 rfl rfl)
theorem dX4_can_7 : decode cX4_can 7 = .ok (.arraylength, 1) := dk_190 (dk_at dksX4_can_0 7 rfl rfl)
theorem dX4_can_8 : decode cX4_can 8 = .ok (.if_icmp .ge 23, 3) := dk_162 0 23 (dk_at dksX4_can_0 8 rfl rfl)
theorem dX4_can_11 : decode cX4_can 11 = .ok (.aload_n 1, 1) := dk_43 (dk_at dksX4_can_0 11 rfl rfl)
theorem dX4_can_12 : decode cX4_can 12 = .ok (.iload_n 2, 1) := dk_28 (dk_at dksX4_can_0 12 rfl rfl)
theorem dX4_can_13 : decode cX4_can 13 = .ok (.iaload, 1) := dk_46 (dk_at dksX4_can_0 13 rfl rfl)
theorem dX4_can_14 : decode cX4_can 14 = .ok (.aload_n 0, 1) := dk_42 (dk_at dksX4_can_0 14 rfl rfl)
theorem dX4_can_15 : decode cX4_can 15 = .ok (.getfield 9, 3) := dk_180 0 9 (dk_at dksX4_can_0 15 rfl rfl)
theorem dX4_can_18 : decode cX4_can 18 = .ok (.iload_n 2, 1) := dk_28 (dk_at dksX4_can_0 18 rfl rfl)
theorem dX4_can_19 : decode cX4_can 19 = .ok (.iaload, 1) := dk_46 (dk_at dksX4_can_0 19 rfl rfl)
theorem dX4_can_20 : decode cX4_can 20 = .ok (.if_icmp .ge 5, 3) := dk_162 0 5 (dk_at dksX4_can_0 20 rfl rfl)
theorem dX4_can_23 : decode cX4_can 23 = .ok (.iconst 0, 1) := dk_3 (dk_at dksX4_can_0 23 rfl rfl)
theorem dX4_can_24 : decode cX4_can 24 = .ok (.ireturn, 1) := dk_172 (dk_at dksX4_can_1 0 rfl rfl)
theorem dX4_can_25 : decode cX4_can 25 = .ok (.iinc 2 1, 3) := dk_132 2 1 (dk_at dksX4_can_1 1 rfl rfl)
theorem dX4_can_28 : decode cX4_can 28 = .ok (.goto (-26), 3) := dk_167 255 230 (dk_at dksX4_can_1 4 rfl rfl)
theorem dX4_can_31 : decode cX4_can 31 = .ok (.iconst 1, 1) := dk_4 (dk_at dksX4_can_1 7 rfl rfl)
theorem dX4_can_32 : decode cX4_can 32 = .ok (.ireturn, 1) := dk_172 (dk_at dksX4_can_1 8 rfl rfl)
abbrev cX4_go : ByteArray := prog_3_method_5_code
def yX4_go : MethodName := ⟨RX4, "go", "([I)[I"⟩
def dkwX4_go_2 : List UInt8 := [132, 3, 1, 167, 255, 214, 44, 176]
abbrev dktX4_go_2 : List UInt8 := dkwX4_go_2 ++ []
def dkwX4_go_1 : List UInt8 := [18, 21, 167, 0, 20, 43, 29, 46, 42, 180, 0, 9, 29, 46, 100, 42, 180, 0, 15, 29, 46, 96, 79]
abbrev dktX4_go_1 : List UInt8 := dkwX4_go_1 ++ dktX4_go_2
def dkwX4_go_0 : List UInt8 := [43, 190, 188, 10, 77, 3, 62, 29, 44, 190, 162, 0, 42, 44, 29, 43, 29, 46, 18, 21, 160, 0, 8]
abbrev dktX4_go_0 : List UInt8 := dkwX4_go_0 ++ dktX4_go_1
theorem dksX4_go_0 : cX4_go.data.toList.drop 0 = dktX4_go_0 := by decide +kernel
theorem dksX4_go_1 : cX4_go.data.toList.drop 23 = dktX4_go_1 := dk_seg dksX4_go_0 23 rfl rfl
theorem dksX4_go_2 : cX4_go.data.toList.drop 46 = dktX4_go_2 := dk_seg dksX4_go_1 23 rfl rfl
theorem dX4_go_0 : decode cX4_go 0 = .ok (.aload_n 1, 1) := dk_43 (dk_at dksX4_go_0 0 rfl rfl)
theorem dX4_go_1 : decode cX4_go 1 = .ok (.arraylength, 1) := dk_190 (dk_at dksX4_go_0 1 rfl rfl)
theorem dX4_go_2 : decode cX4_go 2 = .ok (.newarray .int, 2) := dk_188_10 (dk_at dksX4_go_0 2 rfl rfl)
theorem dX4_go_4 : decode cX4_go 4 = .ok (.astore_n 2, 1) := dk_77 (dk_at dksX4_go_0 4 rfl rfl)
theorem dX4_go_5 : decode cX4_go 5 = .ok (.iconst 0, 1) := dk_3 (dk_at dksX4_go_0 5 rfl rfl)
theorem dX4_go_6 : decode cX4_go 6 = .ok (.istore_n 3, 1) := dk_62 (dk_at dksX4_go_0 6 rfl rfl)
theorem dX4_go_7 : decode cX4_go 7 = .ok (.iload_n 3, 1) := dk_29 (dk_at dksX4_go_0 7 rfl rfl)
theorem dX4_go_8 : decode cX4_go 8 = .ok (.aload_n 2, 1) := dk_44 (dk_at dksX4_go_0 8 rfl rfl)
theorem dX4_go_9 : decode cX4_go 9 = .ok (.arraylength, 1) := dk_190 (dk_at dksX4_go_0 9 rfl rfl)
theorem dX4_go_10 : decode cX4_go 10 = .ok (.if_icmp .ge 42, 3) := dk_162 0 42 (dk_at dksX4_go_0 10 rfl rfl)
theorem dX4_go_13 : decode cX4_go 13 = .ok (.aload_n 2, 1) := dk_44 (dk_at dksX4_go_0 13 rfl rfl)
theorem dX4_go_14 : decode cX4_go 14 = .ok (.iload_n 3, 1) := dk_29 (dk_at dksX4_go_0 14 rfl rfl)
theorem dX4_go_15 : decode cX4_go 15 = .ok (.aload_n 1, 1) := dk_43 (dk_at dksX4_go_0 15 rfl rfl)
theorem dX4_go_16 : decode cX4_go 16 = .ok (.iload_n 3, 1) := dk_29 (dk_at dksX4_go_0 16 rfl rfl)
theorem dX4_go_17 : decode cX4_go 17 = .ok (.iaload, 1) := dk_46 (dk_at dksX4_go_0 17 rfl rfl)
theorem dX4_go_18 : decode cX4_go 18 = .ok (.ldc 21, 2) := dk_18 21 (dk_at dksX4_go_0 18 rfl rfl)
theorem dX4_go_20 : decode cX4_go 20 = .ok (.if_icmp .ne 8, 3) := dk_160 0 8 (dk_at dksX4_go_0 20 rfl rfl)
theorem dX4_go_23 : decode cX4_go 23 = .ok (.ldc 21, 2) := dk_18 21 (dk_at dksX4_go_1 0 rfl rfl)
theorem dX4_go_25 : decode cX4_go 25 = .ok (.goto 20, 3) := dk_167 0 20 (dk_at dksX4_go_1 2 rfl rfl)
theorem dX4_go_28 : decode cX4_go 28 = .ok (.aload_n 1, 1) := dk_43 (dk_at dksX4_go_1 5 rfl rfl)
theorem dX4_go_29 : decode cX4_go 29 = .ok (.iload_n 3, 1) := dk_29 (dk_at dksX4_go_1 6 rfl rfl)
theorem dX4_go_30 : decode cX4_go 30 = .ok (.iaload, 1) := dk_46 (dk_at dksX4_go_1 7 rfl rfl)
theorem dX4_go_31 : decode cX4_go 31 = .ok (.aload_n 0, 1) := dk_42 (dk_at dksX4_go_1 8 rfl rfl)
theorem dX4_go_32 : decode cX4_go 32 = .ok (.getfield 9, 3) := dk_180 0 9 (dk_at dksX4_go_1 9 rfl rfl)
theorem dX4_go_35 : decode cX4_go 35 = .ok (.iload_n 3, 1) := dk_29 (dk_at dksX4_go_1 12 rfl rfl)
theorem dX4_go_36 : decode cX4_go 36 = .ok (.iaload, 1) := dk_46 (dk_at dksX4_go_1 13 rfl rfl)
theorem dX4_go_37 : decode cX4_go 37 = .ok (.isub, 1) := dk_100 (dk_at dksX4_go_1 14 rfl rfl)
theorem dX4_go_38 : decode cX4_go 38 = .ok (.aload_n 0, 1) := dk_42 (dk_at dksX4_go_1 15 rfl rfl)
theorem dX4_go_39 : decode cX4_go 39 = .ok (.getfield 15, 3) := dk_180 0 15 (dk_at dksX4_go_1 16 rfl rfl)
theorem dX4_go_42 : decode cX4_go 42 = .ok (.iload_n 3, 1) := dk_29 (dk_at dksX4_go_1 19 rfl rfl)
theorem dX4_go_43 : decode cX4_go 43 = .ok (.iaload, 1) := dk_46 (dk_at dksX4_go_1 20 rfl rfl)
theorem dX4_go_44 : decode cX4_go 44 = .ok (.iadd, 1) := dk_96 (dk_at dksX4_go_1 21 rfl rfl)
theorem dX4_go_45 : decode cX4_go 45 = .ok (.iastore, 1) := dk_79 (dk_at dksX4_go_1 22 rfl rfl)
theorem dX4_go_46 : decode cX4_go 46 = .ok (.iinc 3 1, 3) := dk_132 3 1 (dk_at dksX4_go_2 0 rfl rfl)
theorem dX4_go_49 : decode cX4_go 49 = .ok (.goto (-42), 3) := dk_167 255 214 (dk_at dksX4_go_2 3 rfl rfl)
theorem dX4_go_52 : decode cX4_go 52 = .ok (.aload_n 2, 1) := dk_44 (dk_at dksX4_go_2 6 rfl rfl)
theorem dX4_go_53 : decode cX4_go 53 = .ok (.areturn, 1) := dk_176 (dk_at dksX4_go_2 7 rfl rfl)
abbrev cX4_touched : ByteArray := prog_3_method_7_code
def yX4_touched : MethodName := ⟨RX4, "touched", "()Ljava/util/BitSet;"⟩
def dkwX4_touched_1 : List UInt8 := [46, 42, 180, 0, 15, 28, 46, 96, 158, 0, 8, 43, 28, 182, 0, 25, 132, 2, 1, 167, 255, 223, 43, 176]
abbrev dktX4_touched_1 : List UInt8 := dkwX4_touched_1 ++ []
def dkwX4_touched_0 : List UInt8 := [187, 0, 22, 89, 183, 0, 24, 76, 3, 61, 28, 42, 180, 0, 9, 190, 162, 0, 30, 42, 180, 0, 9, 28]
abbrev dktX4_touched_0 : List UInt8 := dkwX4_touched_0 ++ dktX4_touched_1
theorem dksX4_touched_0 : cX4_touched.data.toList.drop 0 = dktX4_touched_0 := by decide +kernel
theorem dksX4_touched_1 : cX4_touched.data.toList.drop 24 = dktX4_touched_1 := dk_seg dksX4_touched_0 24 rfl rfl
theorem dX4_touched_0 : decode cX4_touched 0 = .ok (.new 22, 3) := dk_187 0 22 (dk_at dksX4_touched_0 0 rfl rfl)
theorem dX4_touched_3 : decode cX4_touched 3 = .ok (.dup, 1) := dk_89 (dk_at dksX4_touched_0 3 rfl rfl)
theorem dX4_touched_4 : decode cX4_touched 4 = .ok (.invokespecial 24, 3) := dk_183 0 24 (dk_at dksX4_touched_0 4 rfl rfl)
theorem dX4_touched_7 : decode cX4_touched 7 = .ok (.astore_n 1, 1) := dk_76 (dk_at dksX4_touched_0 7 rfl rfl)
theorem dX4_touched_8 : decode cX4_touched 8 = .ok (.iconst 0, 1) := dk_3 (dk_at dksX4_touched_0 8 rfl rfl)
theorem dX4_touched_9 : decode cX4_touched 9 = .ok (.istore_n 2, 1) := dk_61 (dk_at dksX4_touched_0 9 rfl rfl)
theorem dX4_touched_10 : decode cX4_touched 10 = .ok (.iload_n 2, 1) := dk_28 (dk_at dksX4_touched_0 10 rfl rfl)
theorem dX4_touched_11 : decode cX4_touched 11 = .ok (.aload_n 0, 1) := dk_42 (dk_at dksX4_touched_0 11 rfl rfl)
theorem dX4_touched_12 : decode cX4_touched 12 = .ok (.getfield 9, 3) := dk_180 0 9 (dk_at dksX4_touched_0 12 rfl rfl)
theorem dX4_touched_15 : decode cX4_touched 15 = .ok (.arraylength, 1) := dk_190 (dk_at dksX4_touched_0 15 rfl rfl)
theorem dX4_touched_16 : decode cX4_touched 16 = .ok (.if_icmp .ge 30, 3) := dk_162 0 30 (dk_at dksX4_touched_0 16 rfl rfl)
theorem dX4_touched_19 : decode cX4_touched 19 = .ok (.aload_n 0, 1) := dk_42 (dk_at dksX4_touched_0 19 rfl rfl)
theorem dX4_touched_20 : decode cX4_touched 20 = .ok (.getfield 9, 3) := dk_180 0 9 (dk_at dksX4_touched_0 20 rfl rfl)
theorem dX4_touched_23 : decode cX4_touched 23 = .ok (.iload_n 2, 1) := dk_28 (dk_at dksX4_touched_0 23 rfl rfl)
theorem dX4_touched_24 : decode cX4_touched 24 = .ok (.iaload, 1) := dk_46 (dk_at dksX4_touched_1 0 rfl rfl)
theorem dX4_touched_25 : decode cX4_touched 25 = .ok (.aload_n 0, 1) := dk_42 (dk_at dksX4_touched_1 1 rfl rfl)
theorem dX4_touched_26 : decode cX4_touched 26 = .ok (.getfield 15, 3) := dk_180 0 15 (dk_at dksX4_touched_1 2 rfl rfl)
theorem dX4_touched_29 : decode cX4_touched 29 = .ok (.iload_n 2, 1) := dk_28 (dk_at dksX4_touched_1 5 rfl rfl)
theorem dX4_touched_30 : decode cX4_touched 30 = .ok (.iaload, 1) := dk_46 (dk_at dksX4_touched_1 6 rfl rfl)
theorem dX4_touched_31 : decode cX4_touched 31 = .ok (.iadd, 1) := dk_96 (dk_at dksX4_touched_1 7 rfl rfl)
theorem dX4_touched_32 : decode cX4_touched 32 = .ok (.ifCond .le 8, 3) := dk_158 0 8 (dk_at dksX4_touched_1 8 rfl rfl)
theorem dX4_touched_35 : decode cX4_touched 35 = .ok (.aload_n 1, 1) := dk_43 (dk_at dksX4_touched_1 11 rfl rfl)
theorem dX4_touched_36 : decode cX4_touched 36 = .ok (.iload_n 2, 1) := dk_28 (dk_at dksX4_touched_1 12 rfl rfl)
theorem dX4_touched_37 : decode cX4_touched 37 = .ok (.invokevirtual 25, 3) := dk_182 0 25 (dk_at dksX4_touched_1 13 rfl rfl)
theorem dX4_touched_40 : decode cX4_touched 40 = .ok (.iinc 2 1, 3) := dk_132 2 1 (dk_at dksX4_touched_1 16 rfl rfl)
theorem dX4_touched_43 : decode cX4_touched 43 = .ok (.goto (-33), 3) := dk_167 255 223 (dk_at dksX4_touched_1 19 rfl rfl)
theorem dX4_touched_46 : decode cX4_touched 46 = .ok (.aload_n 1, 1) := dk_43 (dk_at dksX4_touched_1 22 rfl rfl)
theorem dX4_touched_47 : decode cX4_touched 47 = .ok (.areturn, 1) := dk_176 (dk_at dksX4_touched_1 23 rfl rfl)
theorem q84 : (Jvm.Cond.initialized "Pebblegate$Step") ∈ lw_all := lw_g (lw_at lw_m1 13 rfl) rfl
theorem q222 : (Jvm.Cond.instantiable "Pebblegate$Step" (2 : Nat)) ∈ lw_all := lw_g (lw_at lw_m1 151 rfl) rfl
theorem q224 : (Jvm.Cond.instanceMethod ({ cls := "Pebblegate$Step", name := "<init>", desc := "(I)V" } : Jvm.MethodName)) ∈ lw_all := lw_g (lw_at lw_m1 153 rfl) rfl
theorem q225 : (Jvm.Cond.code ({ cls := "Pebblegate$Step", name := "<init>", desc := "(I)V" } : Jvm.MethodName) prog_3_method_1_code (2 : Nat) (Option.none : Option Jvm.ClassFile.FieldType)) ∈ lw_all := lw_g (lw_at lw_m1 154 rfl) rfl
theorem q226 : (Jvm.Cond.methodLink "Pebblegate$Step" (3 : Nat) ({ cls := "java/lang/Object", name := "<init>", desc := "()V" } : Jvm.MethodName)) ∈ lw_all := lw_g (lw_at lw_m1 155 rfl) rfl
theorem q227 : (Jvm.Cond.fieldLink "Pebblegate$Step" (9 : Nat) "Pebblegate$Step" "take" "[I") ∈ lw_all := lw_g (lw_at lw_m1 156 rfl) rfl
theorem q229 : (Jvm.Cond.fieldLink "Pebblegate$Step" (15 : Nat) "Pebblegate$Step" "lay" "[I") ∈ lw_all := lw_g (lw_at lw_m1 158 rfl) rfl
theorem q231 : (Jvm.Cond.laysFinal "Pebblegate$Step" "Pebblegate$Step" "take" "[I") ∈ lw_all := lw_g (lw_at lw_m1 160 rfl) rfl
theorem q232 : (Jvm.Cond.soleField "Pebblegate$Step" "take") ∈ lw_all := lw_g (lw_at lw_m1 161 rfl) rfl
theorem q233 : (Jvm.Cond.laysFinal "Pebblegate$Step" "Pebblegate$Step" "lay" "[I") ∈ lw_all := lw_g (lw_at lw_m1 162 rfl) rfl
theorem q234 : (Jvm.Cond.soleField "Pebblegate$Step" "lay") ∈ lw_all := lw_g (lw_at lw_m1 163 rfl) rfl
theorem q235 : (Jvm.Cond.superclass "Pebblegate$Step" "java/lang/Object") ∈ lw_all := lw_g (lw_at lw_m1 164 rfl) rfl
theorem q270 : (Jvm.Cond.selects "Pebblegate$Step" ({ cls := "java/lang/Object", name := "getClass", desc := "()Ljava/lang/Class;" } : Jvm.MethodName) ({ cls := "java/lang/Object", name := "getClass", desc := "()Ljava/lang/Class;" } : Jvm.MethodName)) ∈ lw_all := lw_g (lw_at lw_m1 199 rfl) rfl
theorem q326 : (Jvm.Cond.instanceMethod ({ cls := "Pebblegate$Step", name := "isOther", desc := "()Z" } : Jvm.MethodName)) ∈ lw_all := lw_g (lw_at lw_m2 15 rfl) rfl
theorem q327 : (Jvm.Cond.selects "Pebblegate$Step" ({ cls := "Pebblegate$Step", name := "isOther", desc := "()Z" } : Jvm.MethodName) ({ cls := "Pebblegate$Step", name := "isOther", desc := "()Z" } : Jvm.MethodName)) ∈ lw_all := lw_g (lw_at lw_m2 16 rfl) rfl
theorem q328 : (Jvm.Cond.code ({ cls := "Pebblegate$Step", name := "isOther", desc := "()Z" } : Jvm.MethodName) prog_3_method_6_code (2 : Nat) (Option.some Jvm.ClassFile.FieldType.boolean)) ∈ lw_all := lw_g (lw_at lw_m2 17 rfl) rfl
theorem q333 : (Jvm.Cond.instanceMethod ({ cls := "Pebblegate$Step", name := "turned", desc := "()LPebblegate$Step;" } : Jvm.MethodName)) ∈ lw_all := lw_g (lw_at lw_m2 22 rfl) rfl
theorem q334 : (Jvm.Cond.selects "Pebblegate$Step" ({ cls := "Pebblegate$Step", name := "turned", desc := "()LPebblegate$Step;" } : Jvm.MethodName) ({ cls := "Pebblegate$Step", name := "turned", desc := "()LPebblegate$Step;" } : Jvm.MethodName)) ∈ lw_all := lw_g (lw_at lw_m2 23 rfl) rfl
theorem q335 : (Jvm.Cond.code ({ cls := "Pebblegate$Step", name := "turned", desc := "()LPebblegate$Step;" } : Jvm.MethodName) prog_3_method_3_code (1 : Nat) (Option.some (Jvm.ClassFile.FieldType.object "Pebblegate$Step"))) ∈ lw_all := lw_g (lw_at lw_m2 24 rfl) rfl
theorem q336 : (Jvm.Cond.classLink "Pebblegate$Step" (10 : Nat) "Pebblegate$Step") ∈ lw_all := lw_g (lw_at lw_m2 25 rfl) rfl
theorem q337 : (Jvm.Cond.methodLink "Pebblegate$Step" (18 : Nat) ({ cls := "Pebblegate$Step", name := "<init>", desc := "([I[I)V" } : Jvm.MethodName)) ∈ lw_all := lw_g (lw_at lw_m2 26 rfl) rfl
theorem q338 : (Jvm.Cond.instanceMethod ({ cls := "Pebblegate$Step", name := "<init>", desc := "([I[I)V" } : Jvm.MethodName)) ∈ lw_all := lw_g (lw_at lw_m2 27 rfl) rfl
theorem q339 : (Jvm.Cond.code ({ cls := "Pebblegate$Step", name := "<init>", desc := "([I[I)V" } : Jvm.MethodName) prog_3_method_2_code (3 : Nat) (Option.none : Option Jvm.ClassFile.FieldType)) ∈ lw_all := lw_g (lw_at lw_m2 28 rfl) rfl
theorem q929 : (Jvm.Cond.instanceMethod ({ cls := "Pebblegate$Step", name := "can", desc := "([I)Z" } : Jvm.MethodName)) ∈ lw_all := lw_g (lw_at lw_m4 138 rfl) rfl
theorem q930 : (Jvm.Cond.selects "Pebblegate$Step" ({ cls := "Pebblegate$Step", name := "can", desc := "([I)Z" } : Jvm.MethodName) ({ cls := "Pebblegate$Step", name := "can", desc := "([I)Z" } : Jvm.MethodName)) ∈ lw_all := lw_g (lw_at lw_m4 139 rfl) rfl
theorem q931 : (Jvm.Cond.code ({ cls := "Pebblegate$Step", name := "can", desc := "([I)Z" } : Jvm.MethodName) prog_3_method_4_code (3 : Nat) (Option.some Jvm.ClassFile.FieldType.boolean)) ∈ lw_all := lw_g (lw_at lw_m4 140 rfl) rfl
theorem q1113 : (Jvm.Cond.instanceMethod ({ cls := "Pebblegate$Step", name := "go", desc := "([I)[I" } : Jvm.MethodName)) ∈ lw_all := lw_g (lw_at lw_m5 82 rfl) rfl
theorem q1114 : (Jvm.Cond.selects "Pebblegate$Step" ({ cls := "Pebblegate$Step", name := "go", desc := "([I)[I" } : Jvm.MethodName) ({ cls := "Pebblegate$Step", name := "go", desc := "([I)[I" } : Jvm.MethodName)) ∈ lw_all := lw_g (lw_at lw_m5 83 rfl) rfl
theorem q1115 : (Jvm.Cond.code ({ cls := "Pebblegate$Step", name := "go", desc := "([I)[I" } : Jvm.MethodName) prog_3_method_5_code (4 : Nat) (Option.some (Jvm.ClassFile.FieldType.array Jvm.ClassFile.FieldType.int))) ∈ lw_all := lw_g (lw_at lw_m5 84 rfl) rfl
theorem q1116 : (Jvm.Cond.constant "Pebblegate$Step" (21 : Nat) (1048576 : Int32)) ∈ lw_all := lw_g (lw_at lw_m5 85 rfl) rfl
theorem q1706 : (Jvm.Cond.instanceMethod ({ cls := "Pebblegate$Step", name := "touched", desc := "()Ljava/util/BitSet;" } : Jvm.MethodName)) ∈ lw_all := lw_g (lw_at lw_m7 195 rfl) rfl
theorem q1707 : (Jvm.Cond.selects "Pebblegate$Step" ({ cls := "Pebblegate$Step", name := "touched", desc := "()Ljava/util/BitSet;" } : Jvm.MethodName) ({ cls := "Pebblegate$Step", name := "touched", desc := "()Ljava/util/BitSet;" } : Jvm.MethodName)) ∈ lw_all := lw_g (lw_at lw_m7 196 rfl) rfl
theorem q1708 : (Jvm.Cond.code ({ cls := "Pebblegate$Step", name := "touched", desc := "()Ljava/util/BitSet;" } : Jvm.MethodName) prog_3_method_7_code (3 : Nat) (Option.some (Jvm.ClassFile.FieldType.object "java/util/BitSet"))) ∈ lw_all := lw_g (lw_at lw_m7 197 rfl) rfl
theorem q1709 : (Jvm.Cond.classLink "Pebblegate$Step" (22 : Nat) "java/util/BitSet") ∈ lw_all := lw_g (lw_at lw_m7 198 rfl) rfl
theorem q1710 : (Jvm.Cond.methodLink "Pebblegate$Step" (24 : Nat) ({ cls := "java/util/BitSet", name := "<init>", desc := "()V" } : Jvm.MethodName)) ∈ lw_all := lw_g (lw_at lw_m7 199 rfl) rfl
theorem q1711 : (Jvm.Cond.methodLink "Pebblegate$Step" (25 : Nat) ({ cls := "java/util/BitSet", name := "set", desc := "(I)V" } : Jvm.MethodName)) ∈ lw_all := lw_g (lw_at lw_m7 200 rfl) rfl
theorem q2199 : (Jvm.Cond.castable "Pebblegate$Step" "java/lang/Object") ∈ lw_tbl := lw_at lw_m9 208 rfl
theorem in_X4 : ∀ w ∈ wsX40, w ∈ lw_all := lw_in wsX40 [231, 233] (by decide +kernel) (by decide +kernel)

-- J9.jdk_internal_util_ArraysSupport.lean.txt
/-! jdk/internal/util/ArraysSupport -/
set_option maxRecDepth 100000
def RJ9 : String := "jdk/internal/util/ArraysSupport"
abbrev cJ9_newLength : ByteArray := prog_59_method_27_code
def yJ9_newLength : MethodName := ⟨RJ9, "newLength", "(III)I"⟩
def dkwJ9_newLength_1 : List UInt8 := [184, 0, 201, 172]
abbrev dktJ9_newLength_1 : List UInt8 := dkwJ9_newLength_1 ++ []
def dkwJ9_newLength_0 : List UInt8 := [26, 27, 28, 184, 0, 194, 96, 62, 3, 29, 162, 0, 11, 29, 18, 200, 163, 0, 5, 29, 172, 26, 27]
abbrev dktJ9_newLength_0 : List UInt8 := dkwJ9_newLength_0 ++ dktJ9_newLength_1
theorem dksJ9_newLength_0 : cJ9_newLength.data.toList.drop 0 = dktJ9_newLength_0 := by decide +kernel
theorem dksJ9_newLength_1 : cJ9_newLength.data.toList.drop 23 = dktJ9_newLength_1 := dk_seg dksJ9_newLength_0 23 rfl rfl
theorem dJ9_newLength_0 : decode cJ9_newLength 0 = .ok (.iload_n 0, 1) := dk_26 (dk_at dksJ9_newLength_0 0 rfl rfl)
theorem dJ9_newLength_1 : decode cJ9_newLength 1 = .ok (.iload_n 1, 1) := dk_27 (dk_at dksJ9_newLength_0 1 rfl rfl)
theorem dJ9_newLength_2 : decode cJ9_newLength 2 = .ok (.iload_n 2, 1) := dk_28 (dk_at dksJ9_newLength_0 2 rfl rfl)
theorem dJ9_newLength_3 : decode cJ9_newLength 3 = .ok (.invokestatic 194, 3) := dk_184 0 194 (dk_at dksJ9_newLength_0 3 rfl rfl)
theorem dJ9_newLength_6 : decode cJ9_newLength 6 = .ok (.iadd, 1) := dk_96 (dk_at dksJ9_newLength_0 6 rfl rfl)
theorem dJ9_newLength_7 : decode cJ9_newLength 7 = .ok (.istore_n 3, 1) := dk_62 (dk_at dksJ9_newLength_0 7 rfl rfl)
theorem dJ9_newLength_8 : decode cJ9_newLength 8 = .ok (.iconst 0, 1) := dk_3 (dk_at dksJ9_newLength_0 8 rfl rfl)
theorem dJ9_newLength_9 : decode cJ9_newLength 9 = .ok (.iload_n 3, 1) := dk_29 (dk_at dksJ9_newLength_0 9 rfl rfl)
theorem dJ9_newLength_10 : decode cJ9_newLength 10 = .ok (.if_icmp .ge 11, 3) := dk_162 0 11 (dk_at dksJ9_newLength_0 10 rfl rfl)
theorem dJ9_newLength_13 : decode cJ9_newLength 13 = .ok (.iload_n 3, 1) := dk_29 (dk_at dksJ9_newLength_0 13 rfl rfl)
theorem dJ9_newLength_14 : decode cJ9_newLength 14 = .ok (.ldc 200, 2) := dk_18 200 (dk_at dksJ9_newLength_0 14 rfl rfl)
theorem dJ9_newLength_16 : decode cJ9_newLength 16 = .ok (.if_icmp .gt 5, 3) := dk_163 0 5 (dk_at dksJ9_newLength_0 16 rfl rfl)
theorem dJ9_newLength_19 : decode cJ9_newLength 19 = .ok (.iload_n 3, 1) := dk_29 (dk_at dksJ9_newLength_0 19 rfl rfl)
theorem dJ9_newLength_20 : decode cJ9_newLength 20 = .ok (.ireturn, 1) := dk_172 (dk_at dksJ9_newLength_0 20 rfl rfl)
theorem dJ9_newLength_21 : decode cJ9_newLength 21 = .ok (.iload_n 0, 1) := dk_26 (dk_at dksJ9_newLength_0 21 rfl rfl)
theorem dJ9_newLength_22 : decode cJ9_newLength 22 = .ok (.iload_n 1, 1) := dk_27 (dk_at dksJ9_newLength_0 22 rfl rfl)
theorem dJ9_newLength_23 : decode cJ9_newLength 23 = .ok (.invokestatic 201, 3) := dk_184 0 201 (dk_at dksJ9_newLength_1 0 rfl rfl)
theorem dJ9_newLength_26 : decode cJ9_newLength 26 = .ok (.ireturn, 1) := dk_172 (dk_at dksJ9_newLength_1 3 rfl rfl)
abbrev cJ9_hugeLength : ByteArray := prog_59_method_28_code
def yJ9_hugeLength : MethodName := ⟨RJ9, "hugeLength", "(II)I"⟩
def dkwJ9_hugeLength_2 : List UInt8 := [191, 28, 18, 200, 163, 0, 6, 18, 200, 172, 28, 172]
abbrev dktJ9_hugeLength_2 : List UInt8 := dkwJ9_hugeLength_2 ++ []
def dkwJ9_hugeLength_1 : List UInt8 := [26, 182, 0, 98, 18, 208, 182, 0, 94, 27, 182, 0, 98, 18, 210, 182, 0, 94, 182, 0, 101, 183, 0, 212]
abbrev dktJ9_hugeLength_1 : List UInt8 := dkwJ9_hugeLength_1 ++ dktJ9_hugeLength_2
def dkwJ9_hugeLength_0 : List UInt8 := [26, 27, 96, 61, 28, 156, 0, 44, 187, 0, 204, 89, 187, 0, 89, 89, 183, 0, 91, 18, 206, 182, 0, 94]
abbrev dktJ9_hugeLength_0 : List UInt8 := dkwJ9_hugeLength_0 ++ dktJ9_hugeLength_1
theorem dksJ9_hugeLength_0 : cJ9_hugeLength.data.toList.drop 0 = dktJ9_hugeLength_0 := by decide +kernel
theorem dksJ9_hugeLength_1 : cJ9_hugeLength.data.toList.drop 24 = dktJ9_hugeLength_1 := dk_seg dksJ9_hugeLength_0 24 rfl rfl
theorem dksJ9_hugeLength_2 : cJ9_hugeLength.data.toList.drop 48 = dktJ9_hugeLength_2 := dk_seg dksJ9_hugeLength_1 24 rfl rfl
theorem dJ9_hugeLength_0 : decode cJ9_hugeLength 0 = .ok (.iload_n 0, 1) := dk_26 (dk_at dksJ9_hugeLength_0 0 rfl rfl)
theorem dJ9_hugeLength_1 : decode cJ9_hugeLength 1 = .ok (.iload_n 1, 1) := dk_27 (dk_at dksJ9_hugeLength_0 1 rfl rfl)
theorem dJ9_hugeLength_2 : decode cJ9_hugeLength 2 = .ok (.iadd, 1) := dk_96 (dk_at dksJ9_hugeLength_0 2 rfl rfl)
theorem dJ9_hugeLength_3 : decode cJ9_hugeLength 3 = .ok (.istore_n 2, 1) := dk_61 (dk_at dksJ9_hugeLength_0 3 rfl rfl)
theorem dJ9_hugeLength_4 : decode cJ9_hugeLength 4 = .ok (.iload_n 2, 1) := dk_28 (dk_at dksJ9_hugeLength_0 4 rfl rfl)
theorem dJ9_hugeLength_5 : decode cJ9_hugeLength 5 = .ok (.ifCond .ge 44, 3) := dk_156 0 44 (dk_at dksJ9_hugeLength_0 5 rfl rfl)
theorem dJ9_hugeLength_8 : decode cJ9_hugeLength 8 = .ok (.new 204, 3) := dk_187 0 204 (dk_at dksJ9_hugeLength_0 8 rfl rfl)
theorem dJ9_hugeLength_11 : decode cJ9_hugeLength 11 = .ok (.dup, 1) := dk_89 (dk_at dksJ9_hugeLength_0 11 rfl rfl)
theorem dJ9_hugeLength_12 : decode cJ9_hugeLength 12 = .ok (.new 89, 3) := dk_187 0 89 (dk_at dksJ9_hugeLength_0 12 rfl rfl)
theorem dJ9_hugeLength_15 : decode cJ9_hugeLength 15 = .ok (.dup, 1) := dk_89 (dk_at dksJ9_hugeLength_0 15 rfl rfl)
theorem dJ9_hugeLength_16 : decode cJ9_hugeLength 16 = .ok (.invokespecial 91, 3) := dk_183 0 91 (dk_at dksJ9_hugeLength_0 16 rfl rfl)
theorem dJ9_hugeLength_19 : decode cJ9_hugeLength 19 = .ok (.ldc 206, 2) := dk_18 206 (dk_at dksJ9_hugeLength_0 19 rfl rfl)
theorem dJ9_hugeLength_21 : decode cJ9_hugeLength 21 = .ok (.invokevirtual 94, 3) := dk_182 0 94 (dk_at dksJ9_hugeLength_0 21 rfl rfl)
theorem dJ9_hugeLength_24 : decode cJ9_hugeLength 24 = .ok (.iload_n 0, 1) := dk_26 (dk_at dksJ9_hugeLength_1 0 rfl rfl)
theorem dJ9_hugeLength_25 : decode cJ9_hugeLength 25 = .ok (.invokevirtual 98, 3) := dk_182 0 98 (dk_at dksJ9_hugeLength_1 1 rfl rfl)
theorem dJ9_hugeLength_28 : decode cJ9_hugeLength 28 = .ok (.ldc 208, 2) := dk_18 208 (dk_at dksJ9_hugeLength_1 4 rfl rfl)
theorem dJ9_hugeLength_30 : decode cJ9_hugeLength 30 = .ok (.invokevirtual 94, 3) := dk_182 0 94 (dk_at dksJ9_hugeLength_1 6 rfl rfl)
theorem dJ9_hugeLength_33 : decode cJ9_hugeLength 33 = .ok (.iload_n 1, 1) := dk_27 (dk_at dksJ9_hugeLength_1 9 rfl rfl)
theorem dJ9_hugeLength_34 : decode cJ9_hugeLength 34 = .ok (.invokevirtual 98, 3) := dk_182 0 98 (dk_at dksJ9_hugeLength_1 10 rfl rfl)
theorem dJ9_hugeLength_37 : decode cJ9_hugeLength 37 = .ok (.ldc 210, 2) := dk_18 210 (dk_at dksJ9_hugeLength_1 13 rfl rfl)
theorem dJ9_hugeLength_39 : decode cJ9_hugeLength 39 = .ok (.invokevirtual 94, 3) := dk_182 0 94 (dk_at dksJ9_hugeLength_1 15 rfl rfl)
theorem dJ9_hugeLength_42 : decode cJ9_hugeLength 42 = .ok (.invokevirtual 101, 3) := dk_182 0 101 (dk_at dksJ9_hugeLength_1 18 rfl rfl)
theorem dJ9_hugeLength_45 : decode cJ9_hugeLength 45 = .ok (.invokespecial 212, 3) := dk_183 0 212 (dk_at dksJ9_hugeLength_1 21 rfl rfl)
theorem dJ9_hugeLength_48 : decode cJ9_hugeLength 48 = .ok (.athrow, 1) := dk_191 (dk_at dksJ9_hugeLength_2 0 rfl rfl)
theorem dJ9_hugeLength_49 : decode cJ9_hugeLength 49 = .ok (.iload_n 2, 1) := dk_28 (dk_at dksJ9_hugeLength_2 1 rfl rfl)
theorem dJ9_hugeLength_50 : decode cJ9_hugeLength 50 = .ok (.ldc 200, 2) := dk_18 200 (dk_at dksJ9_hugeLength_2 2 rfl rfl)
theorem dJ9_hugeLength_52 : decode cJ9_hugeLength 52 = .ok (.if_icmp .gt 6, 3) := dk_163 0 6 (dk_at dksJ9_hugeLength_2 4 rfl rfl)
theorem dJ9_hugeLength_55 : decode cJ9_hugeLength 55 = .ok (.ldc 200, 2) := dk_18 200 (dk_at dksJ9_hugeLength_2 7 rfl rfl)
theorem dJ9_hugeLength_57 : decode cJ9_hugeLength 57 = .ok (.ireturn, 1) := dk_172 (dk_at dksJ9_hugeLength_2 9 rfl rfl)
theorem dJ9_hugeLength_58 : decode cJ9_hugeLength 58 = .ok (.iload_n 2, 1) := dk_28 (dk_at dksJ9_hugeLength_2 10 rfl rfl)
theorem dJ9_hugeLength_59 : decode cJ9_hugeLength 59 = .ok (.ireturn, 1) := dk_172 (dk_at dksJ9_hugeLength_2 11 rfl rfl)
abbrev cJ9_mismatch : ByteArray := prog_59_method_13_code
def yJ9_mismatch : MethodName := ⟨RJ9, "mismatch", "([B[BI)I"⟩
def dkwJ9_mismatch_3 : List UInt8 := [172]
abbrev dktJ9_mismatch_3 : List UInt8 := dkwJ9_mismatch_3 ++ []
def dkwJ9_mismatch_2 : List UInt8 := [62, 29, 28, 162, 0, 20, 42, 29, 51, 43, 29, 51, 159, 0, 5, 29, 172, 132, 3, 1, 167, 255, 237, 2]
abbrev dktJ9_mismatch_2 : List UInt8 := dkwJ9_mismatch_2 ++ dktJ9_mismatch_3
def dkwJ9_mismatch_1 : List UInt8 := [43, 178, 0, 126, 133, 28, 178, 0, 129, 184, 0, 122, 62, 29, 155, 0, 5, 29, 172, 28, 29, 2, 130, 100]
abbrev dktJ9_mismatch_1 : List UInt8 := dkwJ9_mismatch_1 ++ dktJ9_mismatch_2
def dkwJ9_mismatch_0 : List UInt8 := [3, 62, 28, 16, 7, 164, 0, 44, 42, 3, 51, 43, 3, 51, 159, 0, 5, 3, 172, 42, 178, 0, 126, 133]
abbrev dktJ9_mismatch_0 : List UInt8 := dkwJ9_mismatch_0 ++ dktJ9_mismatch_1
theorem dksJ9_mismatch_0 : cJ9_mismatch.data.toList.drop 0 = dktJ9_mismatch_0 := by decide +kernel
theorem dksJ9_mismatch_1 : cJ9_mismatch.data.toList.drop 24 = dktJ9_mismatch_1 := dk_seg dksJ9_mismatch_0 24 rfl rfl
theorem dksJ9_mismatch_2 : cJ9_mismatch.data.toList.drop 48 = dktJ9_mismatch_2 := dk_seg dksJ9_mismatch_1 24 rfl rfl
theorem dksJ9_mismatch_3 : cJ9_mismatch.data.toList.drop 72 = dktJ9_mismatch_3 := dk_seg dksJ9_mismatch_2 24 rfl rfl
theorem dJ9_mismatch_0 : decode cJ9_mismatch 0 = .ok (.iconst 0, 1) := dk_3 (dk_at dksJ9_mismatch_0 0 rfl rfl)
theorem dJ9_mismatch_1 : decode cJ9_mismatch 1 = .ok (.istore_n 3, 1) := dk_62 (dk_at dksJ9_mismatch_0 1 rfl rfl)
theorem dJ9_mismatch_2 : decode cJ9_mismatch 2 = .ok (.iload_n 2, 1) := dk_28 (dk_at dksJ9_mismatch_0 2 rfl rfl)
theorem dJ9_mismatch_3 : decode cJ9_mismatch 3 = .ok (.bipush 7, 2) := dk_16 7 (dk_at dksJ9_mismatch_0 3 rfl rfl)
theorem dJ9_mismatch_5 : decode cJ9_mismatch 5 = .ok (.if_icmp .le 44, 3) := dk_164 0 44 (dk_at dksJ9_mismatch_0 5 rfl rfl)
theorem dJ9_mismatch_8 : decode cJ9_mismatch 8 = .ok (.aload_n 0, 1) := dk_42 (dk_at dksJ9_mismatch_0 8 rfl rfl)
theorem dJ9_mismatch_9 : decode cJ9_mismatch 9 = .ok (.iconst 0, 1) := dk_3 (dk_at dksJ9_mismatch_0 9 rfl rfl)
theorem dJ9_mismatch_10 : decode cJ9_mismatch 10 = .ok (.baload, 1) := dk_51 (dk_at dksJ9_mismatch_0 10 rfl rfl)
theorem dJ9_mismatch_11 : decode cJ9_mismatch 11 = .ok (.aload_n 1, 1) := dk_43 (dk_at dksJ9_mismatch_0 11 rfl rfl)
theorem dJ9_mismatch_12 : decode cJ9_mismatch 12 = .ok (.iconst 0, 1) := dk_3 (dk_at dksJ9_mismatch_0 12 rfl rfl)
theorem dJ9_mismatch_13 : decode cJ9_mismatch 13 = .ok (.baload, 1) := dk_51 (dk_at dksJ9_mismatch_0 13 rfl rfl)
theorem dJ9_mismatch_14 : decode cJ9_mismatch 14 = .ok (.if_icmp .eq 5, 3) := dk_159 0 5 (dk_at dksJ9_mismatch_0 14 rfl rfl)
theorem dJ9_mismatch_17 : decode cJ9_mismatch 17 = .ok (.iconst 0, 1) := dk_3 (dk_at dksJ9_mismatch_0 17 rfl rfl)
theorem dJ9_mismatch_18 : decode cJ9_mismatch 18 = .ok (.ireturn, 1) := dk_172 (dk_at dksJ9_mismatch_0 18 rfl rfl)
theorem dJ9_mismatch_19 : decode cJ9_mismatch 19 = .ok (.aload_n 0, 1) := dk_42 (dk_at dksJ9_mismatch_0 19 rfl rfl)
theorem dJ9_mismatch_20 : decode cJ9_mismatch 20 = .ok (.getstatic 126, 3) := dk_178 0 126 (dk_at dksJ9_mismatch_0 20 rfl rfl)
theorem dJ9_mismatch_23 : decode cJ9_mismatch 23 = .ok (.i2l, 1) := dk_133 (dk_at dksJ9_mismatch_0 23 rfl rfl)
theorem dJ9_mismatch_24 : decode cJ9_mismatch 24 = .ok (.aload_n 1, 1) := dk_43 (dk_at dksJ9_mismatch_1 0 rfl rfl)
theorem dJ9_mismatch_25 : decode cJ9_mismatch 25 = .ok (.getstatic 126, 3) := dk_178 0 126 (dk_at dksJ9_mismatch_1 1 rfl rfl)
theorem dJ9_mismatch_28 : decode cJ9_mismatch 28 = .ok (.i2l, 1) := dk_133 (dk_at dksJ9_mismatch_1 4 rfl rfl)
theorem dJ9_mismatch_29 : decode cJ9_mismatch 29 = .ok (.iload_n 2, 1) := dk_28 (dk_at dksJ9_mismatch_1 5 rfl rfl)
theorem dJ9_mismatch_30 : decode cJ9_mismatch 30 = .ok (.getstatic 129, 3) := dk_178 0 129 (dk_at dksJ9_mismatch_1 6 rfl rfl)
theorem dJ9_mismatch_33 : decode cJ9_mismatch 33 = .ok (.invokestatic 122, 3) := dk_184 0 122 (dk_at dksJ9_mismatch_1 9 rfl rfl)
theorem dJ9_mismatch_36 : decode cJ9_mismatch 36 = .ok (.istore_n 3, 1) := dk_62 (dk_at dksJ9_mismatch_1 12 rfl rfl)
theorem dJ9_mismatch_37 : decode cJ9_mismatch 37 = .ok (.iload_n 3, 1) := dk_29 (dk_at dksJ9_mismatch_1 13 rfl rfl)
theorem dJ9_mismatch_38 : decode cJ9_mismatch 38 = .ok (.ifCond .lt 5, 3) := dk_155 0 5 (dk_at dksJ9_mismatch_1 14 rfl rfl)
theorem dJ9_mismatch_41 : decode cJ9_mismatch 41 = .ok (.iload_n 3, 1) := dk_29 (dk_at dksJ9_mismatch_1 17 rfl rfl)
theorem dJ9_mismatch_42 : decode cJ9_mismatch 42 = .ok (.ireturn, 1) := dk_172 (dk_at dksJ9_mismatch_1 18 rfl rfl)
theorem dJ9_mismatch_43 : decode cJ9_mismatch 43 = .ok (.iload_n 2, 1) := dk_28 (dk_at dksJ9_mismatch_1 19 rfl rfl)
theorem dJ9_mismatch_44 : decode cJ9_mismatch 44 = .ok (.iload_n 3, 1) := dk_29 (dk_at dksJ9_mismatch_1 20 rfl rfl)
theorem dJ9_mismatch_45 : decode cJ9_mismatch 45 = .ok (.iconst (-1), 1) := dk_2 (dk_at dksJ9_mismatch_1 21 rfl rfl)
theorem dJ9_mismatch_46 : decode cJ9_mismatch 46 = .ok (.ixor, 1) := dk_130 (dk_at dksJ9_mismatch_1 22 rfl rfl)
theorem dJ9_mismatch_47 : decode cJ9_mismatch 47 = .ok (.isub, 1) := dk_100 (dk_at dksJ9_mismatch_1 23 rfl rfl)
theorem dJ9_mismatch_48 : decode cJ9_mismatch 48 = .ok (.istore_n 3, 1) := dk_62 (dk_at dksJ9_mismatch_2 0 rfl rfl)
theorem dJ9_mismatch_49 : decode cJ9_mismatch 49 = .ok (.iload_n 3, 1) := dk_29 (dk_at dksJ9_mismatch_2 1 rfl rfl)
theorem dJ9_mismatch_50 : decode cJ9_mismatch 50 = .ok (.iload_n 2, 1) := dk_28 (dk_at dksJ9_mismatch_2 2 rfl rfl)
theorem dJ9_mismatch_51 : decode cJ9_mismatch 51 = .ok (.if_icmp .ge 20, 3) := dk_162 0 20 (dk_at dksJ9_mismatch_2 3 rfl rfl)
theorem dJ9_mismatch_54 : decode cJ9_mismatch 54 = .ok (.aload_n 0, 1) := dk_42 (dk_at dksJ9_mismatch_2 6 rfl rfl)
theorem dJ9_mismatch_55 : decode cJ9_mismatch 55 = .ok (.iload_n 3, 1) := dk_29 (dk_at dksJ9_mismatch_2 7 rfl rfl)
theorem dJ9_mismatch_56 : decode cJ9_mismatch 56 = .ok (.baload, 1) := dk_51 (dk_at dksJ9_mismatch_2 8 rfl rfl)
theorem dJ9_mismatch_57 : decode cJ9_mismatch 57 = .ok (.aload_n 1, 1) := dk_43 (dk_at dksJ9_mismatch_2 9 rfl rfl)
theorem dJ9_mismatch_58 : decode cJ9_mismatch 58 = .ok (.iload_n 3, 1) := dk_29 (dk_at dksJ9_mismatch_2 10 rfl rfl)
theorem dJ9_mismatch_59 : decode cJ9_mismatch 59 = .ok (.baload, 1) := dk_51 (dk_at dksJ9_mismatch_2 11 rfl rfl)
theorem dJ9_mismatch_60 : decode cJ9_mismatch 60 = .ok (.if_icmp .eq 5, 3) := dk_159 0 5 (dk_at dksJ9_mismatch_2 12 rfl rfl)
theorem dJ9_mismatch_63 : decode cJ9_mismatch 63 = .ok (.iload_n 3, 1) := dk_29 (dk_at dksJ9_mismatch_2 15 rfl rfl)
theorem dJ9_mismatch_64 : decode cJ9_mismatch 64 = .ok (.ireturn, 1) := dk_172 (dk_at dksJ9_mismatch_2 16 rfl rfl)
theorem dJ9_mismatch_65 : decode cJ9_mismatch 65 = .ok (.iinc 3 1, 3) := dk_132 3 1 (dk_at dksJ9_mismatch_2 17 rfl rfl)
theorem dJ9_mismatch_68 : decode cJ9_mismatch 68 = .ok (.goto (-19), 3) := dk_167 255 237 (dk_at dksJ9_mismatch_2 20 rfl rfl)
theorem dJ9_mismatch_71 : decode cJ9_mismatch 71 = .ok (.iconst (-1), 1) := dk_2 (dk_at dksJ9_mismatch_2 23 rfl rfl)
theorem dJ9_mismatch_72 : decode cJ9_mismatch 72 = .ok (.ireturn, 1) := dk_172 (dk_at dksJ9_mismatch_3 0 rfl rfl)
abbrev cJ9_vectorizedMismatch : ByteArray := prog_59_method_3_code
def yJ9_vectorizedMismatch : MethodName := ⟨RJ9, "vectorizedMismatch", "(Ljava/lang/Object;JLjava/lang/Object;JII)I"⟩
def dkwJ9_vectorizedMismatch_11 : List UInt8 := [54, 10, 21, 10, 2, 130, 172, 21, 10, 2, 130, 172]
abbrev dktJ9_vectorizedMismatch_11 : List UInt8 := dkwJ9_vectorizedMismatch_11 ++ []
def dkwJ9_vectorizedMismatch_10 : List UInt8 := [178, 0, 46, 21, 7, 96, 122, 54, 17, 21, 9, 21, 8, 120, 21, 17, 96, 172, 21, 10, 21, 11, 100]
abbrev dktJ9_vectorizedMismatch_10 : List UInt8 := dkwJ9_vectorizedMismatch_10 ++ dktJ9_vectorizedMismatch_11
def dkwJ9_vectorizedMismatch_9 : List UInt8 := [153, 0, 18, 21, 16, 184, 0, 58, 178, 0, 46, 21, 7, 96, 122, 167, 0, 15, 21, 16, 184, 0, 11]
abbrev dktJ9_vectorizedMismatch_9 : List UInt8 := dkwJ9_vectorizedMismatch_9 ++ dktJ9_vectorizedMismatch_10
def dkwJ9_vectorizedMismatch_8 : List UInt8 := [182, 0, 54, 54, 15, 21, 14, 21, 15, 159, 0, 54, 21, 14, 21, 15, 130, 54, 16, 178, 0, 36]
abbrev dktJ9_vectorizedMismatch_8 : List UInt8 := dkwJ9_vectorizedMismatch_8 ++ dktJ9_vectorizedMismatch_9
def dkwJ9_vectorizedMismatch_7 : List UInt8 := [55, 12, 178, 0, 26, 42, 31, 22, 12, 97, 182, 0, 54, 54, 14, 178, 0, 26, 45, 22, 4, 22, 12, 97]
abbrev dktJ9_vectorizedMismatch_7 : List UInt8 := dkwJ9_vectorizedMismatch_7 ++ dktJ9_vectorizedMismatch_8
def dkwJ9_vectorizedMismatch_6 : List UInt8 := [4, 178, 0, 51, 21, 7, 100, 120, 54, 11, 21, 10, 21, 11, 161, 0, 104, 21, 9, 133, 178, 0, 20, 121]
abbrev dktJ9_vectorizedMismatch_6 : List UInt8 := dkwJ9_vectorizedMismatch_6 ++ dktJ9_vectorizedMismatch_7
def dkwJ9_vectorizedMismatch_5 : List UInt8 := [132, 9, 1, 167, 255, 148, 21, 6, 21, 9, 21, 8, 120, 100, 54, 10, 21, 7, 178, 0, 51, 162, 0, 126]
abbrev dktJ9_vectorizedMismatch_5 : List UInt8 := dkwJ9_vectorizedMismatch_5 ++ dktJ9_vectorizedMismatch_6
def dkwJ9_vectorizedMismatch_4 : List UInt8 := [22, 16, 184, 0, 49, 178, 0, 46, 21, 7, 96, 122, 54, 18, 21, 9, 21, 8, 120, 21, 18, 96, 172]
abbrev dktJ9_vectorizedMismatch_4 : List UInt8 := dkwJ9_vectorizedMismatch_4 ++ dktJ9_vectorizedMismatch_5
def dkwJ9_vectorizedMismatch_3 : List UInt8 := [55, 16, 178, 0, 36, 153, 0, 18, 22, 16, 184, 0, 40, 178, 0, 46, 21, 7, 96, 122, 167, 0, 15]
abbrev dktJ9_vectorizedMismatch_3 : List UInt8 := dkwJ9_vectorizedMismatch_3 ++ dktJ9_vectorizedMismatch_4
def dkwJ9_vectorizedMismatch_2 : List UInt8 := [22, 4, 22, 10, 97, 182, 0, 30, 55, 14, 22, 12, 22, 14, 148, 153, 0, 54, 22, 12, 22, 14, 131]
abbrev dktJ9_vectorizedMismatch_2 : List UInt8 := dkwJ9_vectorizedMismatch_2 ++ dktJ9_vectorizedMismatch_3
def dkwJ9_vectorizedMismatch_1 : List UInt8 := [178, 0, 20, 121, 55, 10, 178, 0, 26, 42, 31, 22, 10, 97, 182, 0, 30, 55, 12, 178, 0, 26, 45]
abbrev dktJ9_vectorizedMismatch_1 : List UInt8 := dkwJ9_vectorizedMismatch_1 ++ dktJ9_vectorizedMismatch_2
def dkwJ9_vectorizedMismatch_0 : List UInt8 := [178, 0, 20, 21, 7, 100, 54, 8, 3, 54, 9, 21, 9, 21, 6, 21, 8, 122, 162, 0, 104, 21, 9, 133]
abbrev dktJ9_vectorizedMismatch_0 : List UInt8 := dkwJ9_vectorizedMismatch_0 ++ dktJ9_vectorizedMismatch_1
theorem dksJ9_vectorizedMismatch_0 : cJ9_vectorizedMismatch.data.toList.drop 0 = dktJ9_vectorizedMismatch_0 := by decide +kernel
theorem dksJ9_vectorizedMismatch_1 : cJ9_vectorizedMismatch.data.toList.drop 24 = dktJ9_vectorizedMismatch_1 := dk_seg dksJ9_vectorizedMismatch_0 24 rfl rfl
theorem dksJ9_vectorizedMismatch_2 : cJ9_vectorizedMismatch.data.toList.drop 47 = dktJ9_vectorizedMismatch_2 := dk_seg dksJ9_vectorizedMismatch_1 23 rfl rfl
theorem dksJ9_vectorizedMismatch_3 : cJ9_vectorizedMismatch.data.toList.drop 70 = dktJ9_vectorizedMismatch_3 := dk_seg dksJ9_vectorizedMismatch_2 23 rfl rfl
theorem dksJ9_vectorizedMismatch_4 : cJ9_vectorizedMismatch.data.toList.drop 93 = dktJ9_vectorizedMismatch_4 := dk_seg dksJ9_vectorizedMismatch_3 23 rfl rfl
theorem dksJ9_vectorizedMismatch_5 : cJ9_vectorizedMismatch.data.toList.drop 116 = dktJ9_vectorizedMismatch_5 := dk_seg dksJ9_vectorizedMismatch_4 23 rfl rfl
theorem dksJ9_vectorizedMismatch_6 : cJ9_vectorizedMismatch.data.toList.drop 140 = dktJ9_vectorizedMismatch_6 := dk_seg dksJ9_vectorizedMismatch_5 24 rfl rfl
theorem dksJ9_vectorizedMismatch_7 : cJ9_vectorizedMismatch.data.toList.drop 164 = dktJ9_vectorizedMismatch_7 := dk_seg dksJ9_vectorizedMismatch_6 24 rfl rfl
theorem dksJ9_vectorizedMismatch_8 : cJ9_vectorizedMismatch.data.toList.drop 188 = dktJ9_vectorizedMismatch_8 := dk_seg dksJ9_vectorizedMismatch_7 24 rfl rfl
theorem dksJ9_vectorizedMismatch_9 : cJ9_vectorizedMismatch.data.toList.drop 210 = dktJ9_vectorizedMismatch_9 := dk_seg dksJ9_vectorizedMismatch_8 22 rfl rfl
theorem dksJ9_vectorizedMismatch_10 : cJ9_vectorizedMismatch.data.toList.drop 233 = dktJ9_vectorizedMismatch_10 := dk_seg dksJ9_vectorizedMismatch_9 23 rfl rfl
theorem dksJ9_vectorizedMismatch_11 : cJ9_vectorizedMismatch.data.toList.drop 256 = dktJ9_vectorizedMismatch_11 := dk_seg dksJ9_vectorizedMismatch_10 23 rfl rfl
theorem dJ9_vectorizedMismatch_0 : decode cJ9_vectorizedMismatch 0 = .ok (.getstatic 20, 3) := dk_178 0 20 (dk_at dksJ9_vectorizedMismatch_0 0 rfl rfl)
theorem dJ9_vectorizedMismatch_3 : decode cJ9_vectorizedMismatch 3 = .ok (.iload 7, 2) := dk_21 7 (dk_at dksJ9_vectorizedMismatch_0 3 rfl rfl)
theorem dJ9_vectorizedMismatch_5 : decode cJ9_vectorizedMismatch 5 = .ok (.isub, 1) := dk_100 (dk_at dksJ9_vectorizedMismatch_0 5 rfl rfl)
theorem dJ9_vectorizedMismatch_6 : decode cJ9_vectorizedMismatch 6 = .ok (.istore 8, 2) := dk_54 8 (dk_at dksJ9_vectorizedMismatch_0 6 rfl rfl)
theorem dJ9_vectorizedMismatch_8 : decode cJ9_vectorizedMismatch 8 = .ok (.iconst 0, 1) := dk_3 (dk_at dksJ9_vectorizedMismatch_0 8 rfl rfl)
theorem dJ9_vectorizedMismatch_9 : decode cJ9_vectorizedMismatch 9 = .ok (.istore 9, 2) := dk_54 9 (dk_at dksJ9_vectorizedMismatch_0 9 rfl rfl)
theorem dJ9_vectorizedMismatch_11 : decode cJ9_vectorizedMismatch 11 = .ok (.iload 9, 2) := dk_21 9 (dk_at dksJ9_vectorizedMismatch_0 11 rfl rfl)
theorem dJ9_vectorizedMismatch_13 : decode cJ9_vectorizedMismatch 13 = .ok (.iload 6, 2) := dk_21 6 (dk_at dksJ9_vectorizedMismatch_0 13 rfl rfl)
theorem dJ9_vectorizedMismatch_15 : decode cJ9_vectorizedMismatch 15 = .ok (.iload 8, 2) := dk_21 8 (dk_at dksJ9_vectorizedMismatch_0 15 rfl rfl)
theorem dJ9_vectorizedMismatch_17 : decode cJ9_vectorizedMismatch 17 = .ok (.ishr, 1) := dk_122 (dk_at dksJ9_vectorizedMismatch_0 17 rfl rfl)
theorem dJ9_vectorizedMismatch_18 : decode cJ9_vectorizedMismatch 18 = .ok (.if_icmp .ge 104, 3) := dk_162 0 104 (dk_at dksJ9_vectorizedMismatch_0 18 rfl rfl)
theorem dJ9_vectorizedMismatch_21 : decode cJ9_vectorizedMismatch 21 = .ok (.iload 9, 2) := dk_21 9 (dk_at dksJ9_vectorizedMismatch_0 21 rfl rfl)
theorem dJ9_vectorizedMismatch_23 : decode cJ9_vectorizedMismatch 23 = .ok (.i2l, 1) := dk_133 (dk_at dksJ9_vectorizedMismatch_0 23 rfl rfl)
theorem dJ9_vectorizedMismatch_24 : decode cJ9_vectorizedMismatch 24 = .ok (.getstatic 20, 3) := dk_178 0 20 (dk_at dksJ9_vectorizedMismatch_1 0 rfl rfl)
theorem dJ9_vectorizedMismatch_27 : decode cJ9_vectorizedMismatch 27 = .ok (.lshl, 1) := dk_121 (dk_at dksJ9_vectorizedMismatch_1 3 rfl rfl)
theorem dJ9_vectorizedMismatch_28 : decode cJ9_vectorizedMismatch 28 = .ok (.lstore 10, 2) := dk_55 10 (dk_at dksJ9_vectorizedMismatch_1 4 rfl rfl)
theorem dJ9_vectorizedMismatch_30 : decode cJ9_vectorizedMismatch 30 = .ok (.getstatic 26, 3) := dk_178 0 26 (dk_at dksJ9_vectorizedMismatch_1 6 rfl rfl)
theorem dJ9_vectorizedMismatch_33 : decode cJ9_vectorizedMismatch 33 = .ok (.aload_n 0, 1) := dk_42 (dk_at dksJ9_vectorizedMismatch_1 9 rfl rfl)
theorem dJ9_vectorizedMismatch_34 : decode cJ9_vectorizedMismatch 34 = .ok (.lload_n 1, 1) := dk_31 (dk_at dksJ9_vectorizedMismatch_1 10 rfl rfl)
theorem dJ9_vectorizedMismatch_35 : decode cJ9_vectorizedMismatch 35 = .ok (.lload 10, 2) := dk_22 10 (dk_at dksJ9_vectorizedMismatch_1 11 rfl rfl)
theorem dJ9_vectorizedMismatch_37 : decode cJ9_vectorizedMismatch 37 = .ok (.ladd, 1) := dk_97 (dk_at dksJ9_vectorizedMismatch_1 13 rfl rfl)
theorem dJ9_vectorizedMismatch_38 : decode cJ9_vectorizedMismatch 38 = .ok (.invokevirtual 30, 3) := dk_182 0 30 (dk_at dksJ9_vectorizedMismatch_1 14 rfl rfl)
theorem dJ9_vectorizedMismatch_41 : decode cJ9_vectorizedMismatch 41 = .ok (.lstore 12, 2) := dk_55 12 (dk_at dksJ9_vectorizedMismatch_1 17 rfl rfl)
theorem dJ9_vectorizedMismatch_43 : decode cJ9_vectorizedMismatch 43 = .ok (.getstatic 26, 3) := dk_178 0 26 (dk_at dksJ9_vectorizedMismatch_1 19 rfl rfl)
theorem dJ9_vectorizedMismatch_46 : decode cJ9_vectorizedMismatch 46 = .ok (.aload_n 3, 1) := dk_45 (dk_at dksJ9_vectorizedMismatch_1 22 rfl rfl)
theorem dJ9_vectorizedMismatch_47 : decode cJ9_vectorizedMismatch 47 = .ok (.lload 4, 2) := dk_22 4 (dk_at dksJ9_vectorizedMismatch_2 0 rfl rfl)
theorem dJ9_vectorizedMismatch_49 : decode cJ9_vectorizedMismatch 49 = .ok (.lload 10, 2) := dk_22 10 (dk_at dksJ9_vectorizedMismatch_2 2 rfl rfl)
theorem dJ9_vectorizedMismatch_51 : decode cJ9_vectorizedMismatch 51 = .ok (.ladd, 1) := dk_97 (dk_at dksJ9_vectorizedMismatch_2 4 rfl rfl)
theorem dJ9_vectorizedMismatch_52 : decode cJ9_vectorizedMismatch 52 = .ok (.invokevirtual 30, 3) := dk_182 0 30 (dk_at dksJ9_vectorizedMismatch_2 5 rfl rfl)
theorem dJ9_vectorizedMismatch_55 : decode cJ9_vectorizedMismatch 55 = .ok (.lstore 14, 2) := dk_55 14 (dk_at dksJ9_vectorizedMismatch_2 8 rfl rfl)
theorem dJ9_vectorizedMismatch_57 : decode cJ9_vectorizedMismatch 57 = .ok (.lload 12, 2) := dk_22 12 (dk_at dksJ9_vectorizedMismatch_2 10 rfl rfl)
theorem dJ9_vectorizedMismatch_59 : decode cJ9_vectorizedMismatch 59 = .ok (.lload 14, 2) := dk_22 14 (dk_at dksJ9_vectorizedMismatch_2 12 rfl rfl)
theorem dJ9_vectorizedMismatch_61 : decode cJ9_vectorizedMismatch 61 = .ok (.lcmp, 1) := dk_148 (dk_at dksJ9_vectorizedMismatch_2 14 rfl rfl)
theorem dJ9_vectorizedMismatch_62 : decode cJ9_vectorizedMismatch 62 = .ok (.ifCond .eq 54, 3) := dk_153 0 54 (dk_at dksJ9_vectorizedMismatch_2 15 rfl rfl)
theorem dJ9_vectorizedMismatch_65 : decode cJ9_vectorizedMismatch 65 = .ok (.lload 12, 2) := dk_22 12 (dk_at dksJ9_vectorizedMismatch_2 18 rfl rfl)
theorem dJ9_vectorizedMismatch_67 : decode cJ9_vectorizedMismatch 67 = .ok (.lload 14, 2) := dk_22 14 (dk_at dksJ9_vectorizedMismatch_2 20 rfl rfl)
theorem dJ9_vectorizedMismatch_69 : decode cJ9_vectorizedMismatch 69 = .ok (.lxor, 1) := dk_131 (dk_at dksJ9_vectorizedMismatch_2 22 rfl rfl)
theorem dJ9_vectorizedMismatch_70 : decode cJ9_vectorizedMismatch 70 = .ok (.lstore 16, 2) := dk_55 16 (dk_at dksJ9_vectorizedMismatch_3 0 rfl rfl)
theorem dJ9_vectorizedMismatch_72 : decode cJ9_vectorizedMismatch 72 = .ok (.getstatic 36, 3) := dk_178 0 36 (dk_at dksJ9_vectorizedMismatch_3 2 rfl rfl)
theorem dJ9_vectorizedMismatch_75 : decode cJ9_vectorizedMismatch 75 = .ok (.ifCond .eq 18, 3) := dk_153 0 18 (dk_at dksJ9_vectorizedMismatch_3 5 rfl rfl)
theorem dJ9_vectorizedMismatch_78 : decode cJ9_vectorizedMismatch 78 = .ok (.lload 16, 2) := dk_22 16 (dk_at dksJ9_vectorizedMismatch_3 8 rfl rfl)
theorem dJ9_vectorizedMismatch_80 : decode cJ9_vectorizedMismatch 80 = .ok (.invokestatic 40, 3) := dk_184 0 40 (dk_at dksJ9_vectorizedMismatch_3 10 rfl rfl)
theorem dJ9_vectorizedMismatch_83 : decode cJ9_vectorizedMismatch 83 = .ok (.getstatic 46, 3) := dk_178 0 46 (dk_at dksJ9_vectorizedMismatch_3 13 rfl rfl)
theorem dJ9_vectorizedMismatch_86 : decode cJ9_vectorizedMismatch 86 = .ok (.iload 7, 2) := dk_21 7 (dk_at dksJ9_vectorizedMismatch_3 16 rfl rfl)
theorem dJ9_vectorizedMismatch_88 : decode cJ9_vectorizedMismatch 88 = .ok (.iadd, 1) := dk_96 (dk_at dksJ9_vectorizedMismatch_3 18 rfl rfl)
theorem dJ9_vectorizedMismatch_89 : decode cJ9_vectorizedMismatch 89 = .ok (.ishr, 1) := dk_122 (dk_at dksJ9_vectorizedMismatch_3 19 rfl rfl)
theorem dJ9_vectorizedMismatch_90 : decode cJ9_vectorizedMismatch 90 = .ok (.goto 15, 3) := dk_167 0 15 (dk_at dksJ9_vectorizedMismatch_3 20 rfl rfl)
theorem dJ9_vectorizedMismatch_93 : decode cJ9_vectorizedMismatch 93 = .ok (.lload 16, 2) := dk_22 16 (dk_at dksJ9_vectorizedMismatch_4 0 rfl rfl)
theorem dJ9_vectorizedMismatch_95 : decode cJ9_vectorizedMismatch 95 = .ok (.invokestatic 49, 3) := dk_184 0 49 (dk_at dksJ9_vectorizedMismatch_4 2 rfl rfl)
theorem dJ9_vectorizedMismatch_98 : decode cJ9_vectorizedMismatch 98 = .ok (.getstatic 46, 3) := dk_178 0 46 (dk_at dksJ9_vectorizedMismatch_4 5 rfl rfl)
theorem dJ9_vectorizedMismatch_101 : decode cJ9_vectorizedMismatch 101 = .ok (.iload 7, 2) := dk_21 7 (dk_at dksJ9_vectorizedMismatch_4 8 rfl rfl)
theorem dJ9_vectorizedMismatch_103 : decode cJ9_vectorizedMismatch 103 = .ok (.iadd, 1) := dk_96 (dk_at dksJ9_vectorizedMismatch_4 10 rfl rfl)
theorem dJ9_vectorizedMismatch_104 : decode cJ9_vectorizedMismatch 104 = .ok (.ishr, 1) := dk_122 (dk_at dksJ9_vectorizedMismatch_4 11 rfl rfl)
theorem dJ9_vectorizedMismatch_105 : decode cJ9_vectorizedMismatch 105 = .ok (.istore 18, 2) := dk_54 18 (dk_at dksJ9_vectorizedMismatch_4 12 rfl rfl)
theorem dJ9_vectorizedMismatch_107 : decode cJ9_vectorizedMismatch 107 = .ok (.iload 9, 2) := dk_21 9 (dk_at dksJ9_vectorizedMismatch_4 14 rfl rfl)
theorem dJ9_vectorizedMismatch_109 : decode cJ9_vectorizedMismatch 109 = .ok (.iload 8, 2) := dk_21 8 (dk_at dksJ9_vectorizedMismatch_4 16 rfl rfl)
theorem dJ9_vectorizedMismatch_111 : decode cJ9_vectorizedMismatch 111 = .ok (.ishl, 1) := dk_120 (dk_at dksJ9_vectorizedMismatch_4 18 rfl rfl)
theorem dJ9_vectorizedMismatch_112 : decode cJ9_vectorizedMismatch 112 = .ok (.iload 18, 2) := dk_21 18 (dk_at dksJ9_vectorizedMismatch_4 19 rfl rfl)
theorem dJ9_vectorizedMismatch_114 : decode cJ9_vectorizedMismatch 114 = .ok (.iadd, 1) := dk_96 (dk_at dksJ9_vectorizedMismatch_4 21 rfl rfl)
theorem dJ9_vectorizedMismatch_115 : decode cJ9_vectorizedMismatch 115 = .ok (.ireturn, 1) := dk_172 (dk_at dksJ9_vectorizedMismatch_4 22 rfl rfl)
theorem dJ9_vectorizedMismatch_116 : decode cJ9_vectorizedMismatch 116 = .ok (.iinc 9 1, 3) := dk_132 9 1 (dk_at dksJ9_vectorizedMismatch_5 0 rfl rfl)
theorem dJ9_vectorizedMismatch_119 : decode cJ9_vectorizedMismatch 119 = .ok (.goto (-108), 3) := dk_167 255 148 (dk_at dksJ9_vectorizedMismatch_5 3 rfl rfl)
theorem dJ9_vectorizedMismatch_122 : decode cJ9_vectorizedMismatch 122 = .ok (.iload 6, 2) := dk_21 6 (dk_at dksJ9_vectorizedMismatch_5 6 rfl rfl)
theorem dJ9_vectorizedMismatch_124 : decode cJ9_vectorizedMismatch 124 = .ok (.iload 9, 2) := dk_21 9 (dk_at dksJ9_vectorizedMismatch_5 8 rfl rfl)
theorem dJ9_vectorizedMismatch_126 : decode cJ9_vectorizedMismatch 126 = .ok (.iload 8, 2) := dk_21 8 (dk_at dksJ9_vectorizedMismatch_5 10 rfl rfl)
theorem dJ9_vectorizedMismatch_128 : decode cJ9_vectorizedMismatch 128 = .ok (.ishl, 1) := dk_120 (dk_at dksJ9_vectorizedMismatch_5 12 rfl rfl)
theorem dJ9_vectorizedMismatch_129 : decode cJ9_vectorizedMismatch 129 = .ok (.isub, 1) := dk_100 (dk_at dksJ9_vectorizedMismatch_5 13 rfl rfl)
theorem dJ9_vectorizedMismatch_130 : decode cJ9_vectorizedMismatch 130 = .ok (.istore 10, 2) := dk_54 10 (dk_at dksJ9_vectorizedMismatch_5 14 rfl rfl)
theorem dJ9_vectorizedMismatch_132 : decode cJ9_vectorizedMismatch 132 = .ok (.iload 7, 2) := dk_21 7 (dk_at dksJ9_vectorizedMismatch_5 16 rfl rfl)
theorem dJ9_vectorizedMismatch_134 : decode cJ9_vectorizedMismatch 134 = .ok (.getstatic 51, 3) := dk_178 0 51 (dk_at dksJ9_vectorizedMismatch_5 18 rfl rfl)
theorem dJ9_vectorizedMismatch_137 : decode cJ9_vectorizedMismatch 137 = .ok (.if_icmp .ge 126, 3) := dk_162 0 126 (dk_at dksJ9_vectorizedMismatch_5 21 rfl rfl)
theorem dJ9_vectorizedMismatch_140 : decode cJ9_vectorizedMismatch 140 = .ok (.iconst 1, 1) := dk_4 (dk_at dksJ9_vectorizedMismatch_6 0 rfl rfl)
theorem dJ9_vectorizedMismatch_141 : decode cJ9_vectorizedMismatch 141 = .ok (.getstatic 51, 3) := dk_178 0 51 (dk_at dksJ9_vectorizedMismatch_6 1 rfl rfl)
theorem dJ9_vectorizedMismatch_144 : decode cJ9_vectorizedMismatch 144 = .ok (.iload 7, 2) := dk_21 7 (dk_at dksJ9_vectorizedMismatch_6 4 rfl rfl)
theorem dJ9_vectorizedMismatch_146 : decode cJ9_vectorizedMismatch 146 = .ok (.isub, 1) := dk_100 (dk_at dksJ9_vectorizedMismatch_6 6 rfl rfl)
theorem dJ9_vectorizedMismatch_147 : decode cJ9_vectorizedMismatch 147 = .ok (.ishl, 1) := dk_120 (dk_at dksJ9_vectorizedMismatch_6 7 rfl rfl)
theorem dJ9_vectorizedMismatch_148 : decode cJ9_vectorizedMismatch 148 = .ok (.istore 11, 2) := dk_54 11 (dk_at dksJ9_vectorizedMismatch_6 8 rfl rfl)
theorem dJ9_vectorizedMismatch_150 : decode cJ9_vectorizedMismatch 150 = .ok (.iload 10, 2) := dk_21 10 (dk_at dksJ9_vectorizedMismatch_6 10 rfl rfl)
theorem dJ9_vectorizedMismatch_152 : decode cJ9_vectorizedMismatch 152 = .ok (.iload 11, 2) := dk_21 11 (dk_at dksJ9_vectorizedMismatch_6 12 rfl rfl)
theorem dJ9_vectorizedMismatch_154 : decode cJ9_vectorizedMismatch 154 = .ok (.if_icmp .lt 104, 3) := dk_161 0 104 (dk_at dksJ9_vectorizedMismatch_6 14 rfl rfl)
theorem dJ9_vectorizedMismatch_157 : decode cJ9_vectorizedMismatch 157 = .ok (.iload 9, 2) := dk_21 9 (dk_at dksJ9_vectorizedMismatch_6 17 rfl rfl)
theorem dJ9_vectorizedMismatch_159 : decode cJ9_vectorizedMismatch 159 = .ok (.i2l, 1) := dk_133 (dk_at dksJ9_vectorizedMismatch_6 19 rfl rfl)
theorem dJ9_vectorizedMismatch_160 : decode cJ9_vectorizedMismatch 160 = .ok (.getstatic 20, 3) := dk_178 0 20 (dk_at dksJ9_vectorizedMismatch_6 20 rfl rfl)
theorem dJ9_vectorizedMismatch_163 : decode cJ9_vectorizedMismatch 163 = .ok (.lshl, 1) := dk_121 (dk_at dksJ9_vectorizedMismatch_6 23 rfl rfl)
theorem dJ9_vectorizedMismatch_164 : decode cJ9_vectorizedMismatch 164 = .ok (.lstore 12, 2) := dk_55 12 (dk_at dksJ9_vectorizedMismatch_7 0 rfl rfl)
theorem dJ9_vectorizedMismatch_166 : decode cJ9_vectorizedMismatch 166 = .ok (.getstatic 26, 3) := dk_178 0 26 (dk_at dksJ9_vectorizedMismatch_7 2 rfl rfl)
theorem dJ9_vectorizedMismatch_169 : decode cJ9_vectorizedMismatch 169 = .ok (.aload_n 0, 1) := dk_42 (dk_at dksJ9_vectorizedMismatch_7 5 rfl rfl)
theorem dJ9_vectorizedMismatch_170 : decode cJ9_vectorizedMismatch 170 = .ok (.lload_n 1, 1) := dk_31 (dk_at dksJ9_vectorizedMismatch_7 6 rfl rfl)
theorem dJ9_vectorizedMismatch_171 : decode cJ9_vectorizedMismatch 171 = .ok (.lload 12, 2) := dk_22 12 (dk_at dksJ9_vectorizedMismatch_7 7 rfl rfl)
theorem dJ9_vectorizedMismatch_173 : decode cJ9_vectorizedMismatch 173 = .ok (.ladd, 1) := dk_97 (dk_at dksJ9_vectorizedMismatch_7 9 rfl rfl)
theorem dJ9_vectorizedMismatch_174 : decode cJ9_vectorizedMismatch 174 = .ok (.invokevirtual 54, 3) := dk_182 0 54 (dk_at dksJ9_vectorizedMismatch_7 10 rfl rfl)
theorem dJ9_vectorizedMismatch_177 : decode cJ9_vectorizedMismatch 177 = .ok (.istore 14, 2) := dk_54 14 (dk_at dksJ9_vectorizedMismatch_7 13 rfl rfl)
theorem dJ9_vectorizedMismatch_179 : decode cJ9_vectorizedMismatch 179 = .ok (.getstatic 26, 3) := dk_178 0 26 (dk_at dksJ9_vectorizedMismatch_7 15 rfl rfl)
theorem dJ9_vectorizedMismatch_182 : decode cJ9_vectorizedMismatch 182 = .ok (.aload_n 3, 1) := dk_45 (dk_at dksJ9_vectorizedMismatch_7 18 rfl rfl)
theorem dJ9_vectorizedMismatch_183 : decode cJ9_vectorizedMismatch 183 = .ok (.lload 4, 2) := dk_22 4 (dk_at dksJ9_vectorizedMismatch_7 19 rfl rfl)
theorem dJ9_vectorizedMismatch_185 : decode cJ9_vectorizedMismatch 185 = .ok (.lload 12, 2) := dk_22 12 (dk_at dksJ9_vectorizedMismatch_7 21 rfl rfl)
theorem dJ9_vectorizedMismatch_187 : decode cJ9_vectorizedMismatch 187 = .ok (.ladd, 1) := dk_97 (dk_at dksJ9_vectorizedMismatch_7 23 rfl rfl)
theorem dJ9_vectorizedMismatch_188 : decode cJ9_vectorizedMismatch 188 = .ok (.invokevirtual 54, 3) := dk_182 0 54 (dk_at dksJ9_vectorizedMismatch_8 0 rfl rfl)
theorem dJ9_vectorizedMismatch_191 : decode cJ9_vectorizedMismatch 191 = .ok (.istore 15, 2) := dk_54 15 (dk_at dksJ9_vectorizedMismatch_8 3 rfl rfl)
theorem dJ9_vectorizedMismatch_193 : decode cJ9_vectorizedMismatch 193 = .ok (.iload 14, 2) := dk_21 14 (dk_at dksJ9_vectorizedMismatch_8 5 rfl rfl)
theorem dJ9_vectorizedMismatch_195 : decode cJ9_vectorizedMismatch 195 = .ok (.iload 15, 2) := dk_21 15 (dk_at dksJ9_vectorizedMismatch_8 7 rfl rfl)
theorem dJ9_vectorizedMismatch_197 : decode cJ9_vectorizedMismatch 197 = .ok (.if_icmp .eq 54, 3) := dk_159 0 54 (dk_at dksJ9_vectorizedMismatch_8 9 rfl rfl)
theorem dJ9_vectorizedMismatch_200 : decode cJ9_vectorizedMismatch 200 = .ok (.iload 14, 2) := dk_21 14 (dk_at dksJ9_vectorizedMismatch_8 12 rfl rfl)
theorem dJ9_vectorizedMismatch_202 : decode cJ9_vectorizedMismatch 202 = .ok (.iload 15, 2) := dk_21 15 (dk_at dksJ9_vectorizedMismatch_8 14 rfl rfl)
theorem dJ9_vectorizedMismatch_204 : decode cJ9_vectorizedMismatch 204 = .ok (.ixor, 1) := dk_130 (dk_at dksJ9_vectorizedMismatch_8 16 rfl rfl)
theorem dJ9_vectorizedMismatch_205 : decode cJ9_vectorizedMismatch 205 = .ok (.istore 16, 2) := dk_54 16 (dk_at dksJ9_vectorizedMismatch_8 17 rfl rfl)
theorem dJ9_vectorizedMismatch_207 : decode cJ9_vectorizedMismatch 207 = .ok (.getstatic 36, 3) := dk_178 0 36 (dk_at dksJ9_vectorizedMismatch_8 19 rfl rfl)
theorem dJ9_vectorizedMismatch_210 : decode cJ9_vectorizedMismatch 210 = .ok (.ifCond .eq 18, 3) := dk_153 0 18 (dk_at dksJ9_vectorizedMismatch_9 0 rfl rfl)
theorem dJ9_vectorizedMismatch_213 : decode cJ9_vectorizedMismatch 213 = .ok (.iload 16, 2) := dk_21 16 (dk_at dksJ9_vectorizedMismatch_9 3 rfl rfl)
theorem dJ9_vectorizedMismatch_215 : decode cJ9_vectorizedMismatch 215 = .ok (.invokestatic 58, 3) := dk_184 0 58 (dk_at dksJ9_vectorizedMismatch_9 5 rfl rfl)
theorem dJ9_vectorizedMismatch_218 : decode cJ9_vectorizedMismatch 218 = .ok (.getstatic 46, 3) := dk_178 0 46 (dk_at dksJ9_vectorizedMismatch_9 8 rfl rfl)
theorem dJ9_vectorizedMismatch_221 : decode cJ9_vectorizedMismatch 221 = .ok (.iload 7, 2) := dk_21 7 (dk_at dksJ9_vectorizedMismatch_9 11 rfl rfl)
theorem dJ9_vectorizedMismatch_223 : decode cJ9_vectorizedMismatch 223 = .ok (.iadd, 1) := dk_96 (dk_at dksJ9_vectorizedMismatch_9 13 rfl rfl)
theorem dJ9_vectorizedMismatch_224 : decode cJ9_vectorizedMismatch 224 = .ok (.ishr, 1) := dk_122 (dk_at dksJ9_vectorizedMismatch_9 14 rfl rfl)
theorem dJ9_vectorizedMismatch_225 : decode cJ9_vectorizedMismatch 225 = .ok (.goto 15, 3) := dk_167 0 15 (dk_at dksJ9_vectorizedMismatch_9 15 rfl rfl)
theorem dJ9_vectorizedMismatch_228 : decode cJ9_vectorizedMismatch 228 = .ok (.iload 16, 2) := dk_21 16 (dk_at dksJ9_vectorizedMismatch_9 18 rfl rfl)
theorem dJ9_vectorizedMismatch_230 : decode cJ9_vectorizedMismatch 230 = .ok (.invokestatic 11, 3) := dk_184 0 11 (dk_at dksJ9_vectorizedMismatch_9 20 rfl rfl)
theorem dJ9_vectorizedMismatch_233 : decode cJ9_vectorizedMismatch 233 = .ok (.getstatic 46, 3) := dk_178 0 46 (dk_at dksJ9_vectorizedMismatch_10 0 rfl rfl)
theorem dJ9_vectorizedMismatch_236 : decode cJ9_vectorizedMismatch 236 = .ok (.iload 7, 2) := dk_21 7 (dk_at dksJ9_vectorizedMismatch_10 3 rfl rfl)
theorem dJ9_vectorizedMismatch_238 : decode cJ9_vectorizedMismatch 238 = .ok (.iadd, 1) := dk_96 (dk_at dksJ9_vectorizedMismatch_10 5 rfl rfl)
theorem dJ9_vectorizedMismatch_239 : decode cJ9_vectorizedMismatch 239 = .ok (.ishr, 1) := dk_122 (dk_at dksJ9_vectorizedMismatch_10 6 rfl rfl)
theorem dJ9_vectorizedMismatch_240 : decode cJ9_vectorizedMismatch 240 = .ok (.istore 17, 2) := dk_54 17 (dk_at dksJ9_vectorizedMismatch_10 7 rfl rfl)
theorem dJ9_vectorizedMismatch_242 : decode cJ9_vectorizedMismatch 242 = .ok (.iload 9, 2) := dk_21 9 (dk_at dksJ9_vectorizedMismatch_10 9 rfl rfl)
theorem dJ9_vectorizedMismatch_244 : decode cJ9_vectorizedMismatch 244 = .ok (.iload 8, 2) := dk_21 8 (dk_at dksJ9_vectorizedMismatch_10 11 rfl rfl)
theorem dJ9_vectorizedMismatch_246 : decode cJ9_vectorizedMismatch 246 = .ok (.ishl, 1) := dk_120 (dk_at dksJ9_vectorizedMismatch_10 13 rfl rfl)
theorem dJ9_vectorizedMismatch_247 : decode cJ9_vectorizedMismatch 247 = .ok (.iload 17, 2) := dk_21 17 (dk_at dksJ9_vectorizedMismatch_10 14 rfl rfl)
theorem dJ9_vectorizedMismatch_249 : decode cJ9_vectorizedMismatch 249 = .ok (.iadd, 1) := dk_96 (dk_at dksJ9_vectorizedMismatch_10 16 rfl rfl)
theorem dJ9_vectorizedMismatch_250 : decode cJ9_vectorizedMismatch 250 = .ok (.ireturn, 1) := dk_172 (dk_at dksJ9_vectorizedMismatch_10 17 rfl rfl)
theorem dJ9_vectorizedMismatch_251 : decode cJ9_vectorizedMismatch 251 = .ok (.iload 10, 2) := dk_21 10 (dk_at dksJ9_vectorizedMismatch_10 18 rfl rfl)
theorem dJ9_vectorizedMismatch_253 : decode cJ9_vectorizedMismatch 253 = .ok (.iload 11, 2) := dk_21 11 (dk_at dksJ9_vectorizedMismatch_10 20 rfl rfl)
theorem dJ9_vectorizedMismatch_255 : decode cJ9_vectorizedMismatch 255 = .ok (.isub, 1) := dk_100 (dk_at dksJ9_vectorizedMismatch_10 22 rfl rfl)
theorem dJ9_vectorizedMismatch_256 : decode cJ9_vectorizedMismatch 256 = .ok (.istore 10, 2) := dk_54 10 (dk_at dksJ9_vectorizedMismatch_11 0 rfl rfl)
theorem dJ9_vectorizedMismatch_258 : decode cJ9_vectorizedMismatch 258 = .ok (.iload 10, 2) := dk_21 10 (dk_at dksJ9_vectorizedMismatch_11 2 rfl rfl)
theorem dJ9_vectorizedMismatch_260 : decode cJ9_vectorizedMismatch 260 = .ok (.iconst (-1), 1) := dk_2 (dk_at dksJ9_vectorizedMismatch_11 4 rfl rfl)
theorem dJ9_vectorizedMismatch_261 : decode cJ9_vectorizedMismatch 261 = .ok (.ixor, 1) := dk_130 (dk_at dksJ9_vectorizedMismatch_11 5 rfl rfl)
theorem dJ9_vectorizedMismatch_262 : decode cJ9_vectorizedMismatch 262 = .ok (.ireturn, 1) := dk_172 (dk_at dksJ9_vectorizedMismatch_11 6 rfl rfl)
theorem dJ9_vectorizedMismatch_263 : decode cJ9_vectorizedMismatch 263 = .ok (.iload 10, 2) := dk_21 10 (dk_at dksJ9_vectorizedMismatch_11 7 rfl rfl)
theorem dJ9_vectorizedMismatch_265 : decode cJ9_vectorizedMismatch 265 = .ok (.iconst (-1), 1) := dk_2 (dk_at dksJ9_vectorizedMismatch_11 9 rfl rfl)
theorem dJ9_vectorizedMismatch_266 : decode cJ9_vectorizedMismatch 266 = .ok (.ixor, 1) := dk_130 (dk_at dksJ9_vectorizedMismatch_11 10 rfl rfl)
theorem dJ9_vectorizedMismatch_267 : decode cJ9_vectorizedMismatch 267 = .ok (.ireturn, 1) := dk_172 (dk_at dksJ9_vectorizedMismatch_11 11 rfl rfl)
theorem q85 : (Jvm.Cond.initialized "jdk/internal/util/ArraysSupport") ∈ lw_all := lw_g (lw_at lw_m1 14 rfl) rfl
theorem q253 : (Jvm.Cond.static ({ cls := "jdk/internal/util/ArraysSupport", name := "newLength", desc := "(III)I" } : Jvm.MethodName)) ∈ lw_all := lw_g (lw_at lw_m1 182 rfl) rfl
theorem q254 : (Jvm.Cond.code ({ cls := "jdk/internal/util/ArraysSupport", name := "newLength", desc := "(III)I" } : Jvm.MethodName) prog_59_method_27_code (4 : Nat) (Option.some Jvm.ClassFile.FieldType.int)) ∈ lw_all := lw_g (lw_at lw_m1 183 rfl) rfl
theorem q255 : (Jvm.Cond.methodLink "jdk/internal/util/ArraysSupport" (194 : Nat) ({ cls := "java/lang/Math", name := "max", desc := "(II)I" } : Jvm.MethodName)) ∈ lw_all := lw_g (lw_at lw_m1 184 rfl) rfl
theorem q258 : (Jvm.Cond.constant "jdk/internal/util/ArraysSupport" (200 : Nat) (2147483639 : Int32)) ∈ lw_all := lw_g (lw_at lw_m1 187 rfl) rfl
theorem q259 : (Jvm.Cond.methodLink "jdk/internal/util/ArraysSupport" (201 : Nat) ({ cls := "jdk/internal/util/ArraysSupport", name := "hugeLength", desc := "(II)I" } : Jvm.MethodName)) ∈ lw_all := lw_g (lw_at lw_m1 188 rfl) rfl
theorem q260 : (Jvm.Cond.static ({ cls := "jdk/internal/util/ArraysSupport", name := "hugeLength", desc := "(II)I" } : Jvm.MethodName)) ∈ lw_all := lw_g (lw_at lw_m1 189 rfl) rfl
theorem q261 : (Jvm.Cond.code ({ cls := "jdk/internal/util/ArraysSupport", name := "hugeLength", desc := "(II)I" } : Jvm.MethodName) prog_59_method_28_code (3 : Nat) (Option.some Jvm.ClassFile.FieldType.int)) ∈ lw_all := lw_g (lw_at lw_m1 190 rfl) rfl
theorem q438 : (Jvm.Cond.static ({ cls := "jdk/internal/util/ArraysSupport", name := "mismatch", desc := "([B[BI)I" } : Jvm.MethodName)) ∈ lw_all := lw_g (lw_at lw_m2 127 rfl) rfl
theorem q439 : (Jvm.Cond.code ({ cls := "jdk/internal/util/ArraysSupport", name := "mismatch", desc := "([B[BI)I" } : Jvm.MethodName) prog_59_method_13_code (4 : Nat) (Option.some Jvm.ClassFile.FieldType.int)) ∈ lw_all := lw_g (lw_at lw_m2 128 rfl) rfl
theorem q440 : (Jvm.Cond.fieldLink "jdk/internal/util/ArraysSupport" (126 : Nat) "jdk/internal/misc/Unsafe" "ARRAY_BYTE_BASE_OFFSET" "I") ∈ lw_all := lw_g (lw_at lw_m2 129 rfl) rfl
theorem q442 : (Jvm.Cond.fieldLink "jdk/internal/util/ArraysSupport" (129 : Nat) "jdk/internal/util/ArraysSupport" "LOG2_ARRAY_BYTE_INDEX_SCALE" "I") ∈ lw_all := lw_g (lw_at lw_m2 131 rfl) rfl
theorem q443 : (Jvm.Cond.laysStatic "jdk/internal/util/ArraysSupport" "LOG2_ARRAY_BYTE_INDEX_SCALE" "I") ∈ lw_tbl := lw_at lw_m2 132 rfl
theorem q444 : (Jvm.Cond.methodLink "jdk/internal/util/ArraysSupport" (122 : Nat) ({ cls := "jdk/internal/util/ArraysSupport", name := "vectorizedMismatch", desc := "(Ljava/lang/Object;JLjava/lang/Object;JII)I" } : Jvm.MethodName)) ∈ lw_all := lw_g (lw_at lw_m2 133 rfl) rfl
theorem q445 : (Jvm.Cond.static ({ cls := "jdk/internal/util/ArraysSupport", name := "vectorizedMismatch", desc := "(Ljava/lang/Object;JLjava/lang/Object;JII)I" } : Jvm.MethodName)) ∈ lw_all := lw_g (lw_at lw_m2 134 rfl) rfl
theorem q446 : (Jvm.Cond.code ({ cls := "jdk/internal/util/ArraysSupport", name := "vectorizedMismatch", desc := "(Ljava/lang/Object;JLjava/lang/Object;JII)I" } : Jvm.MethodName) prog_59_method_3_code (19 : Nat) (Option.some Jvm.ClassFile.FieldType.int)) ∈ lw_all := lw_g (lw_at lw_m2 135 rfl) rfl
theorem q447 : (Jvm.Cond.fieldLink "jdk/internal/util/ArraysSupport" (20 : Nat) "jdk/internal/util/ArraysSupport" "LOG2_ARRAY_LONG_INDEX_SCALE" "I") ∈ lw_all := lw_g (lw_at lw_m2 136 rfl) rfl
theorem q448 : (Jvm.Cond.laysStatic "jdk/internal/util/ArraysSupport" "LOG2_ARRAY_LONG_INDEX_SCALE" "I") ∈ lw_tbl := lw_at lw_m2 137 rfl
theorem q449 : (Jvm.Cond.fieldLink "jdk/internal/util/ArraysSupport" (26 : Nat) "jdk/internal/util/ArraysSupport" "U" "Ljdk/internal/misc/Unsafe;") ∈ lw_all := lw_g (lw_at lw_m2 138 rfl) rfl
theorem q450 : (Jvm.Cond.laysStatic "jdk/internal/util/ArraysSupport" "U" "Ljdk/internal/misc/Unsafe;") ∈ lw_tbl := lw_at lw_m2 139 rfl
theorem q451 : (Jvm.Cond.methodLink "jdk/internal/util/ArraysSupport" (30 : Nat) ({ cls := "jdk/internal/misc/Unsafe", name := "getLongUnaligned", desc := "(Ljava/lang/Object;J)J" } : Jvm.MethodName)) ∈ lw_all := lw_g (lw_at lw_m2 140 rfl) rfl
theorem q503 : (Jvm.Cond.fieldLink "jdk/internal/util/ArraysSupport" (36 : Nat) "jdk/internal/util/ArraysSupport" "BIG_ENDIAN" "Z") ∈ lw_all := lw_g (lw_at lw_m2 192 rfl) rfl
theorem q504 : (Jvm.Cond.laysStatic "jdk/internal/util/ArraysSupport" "BIG_ENDIAN" "Z") ∈ lw_tbl := lw_at lw_m2 193 rfl
theorem q505 : (Jvm.Cond.methodLink "jdk/internal/util/ArraysSupport" (40 : Nat) ({ cls := "java/lang/Long", name := "numberOfLeadingZeros", desc := "(J)I" } : Jvm.MethodName)) ∈ lw_all := lw_g (lw_at lw_m2 194 rfl) rfl
theorem q512 : (Jvm.Cond.fieldLink "jdk/internal/util/ArraysSupport" (46 : Nat) "jdk/internal/util/ArraysSupport" "LOG2_BYTE_BIT_SIZE" "I") ∈ lw_all := lw_g (lw_at lw_m2 201 rfl) rfl
theorem q513 : (Jvm.Cond.laysStatic "jdk/internal/util/ArraysSupport" "LOG2_BYTE_BIT_SIZE" "I") ∈ lw_tbl := lw_at lw_m2 202 rfl
theorem q514 : (Jvm.Cond.methodLink "jdk/internal/util/ArraysSupport" (49 : Nat) ({ cls := "java/lang/Long", name := "numberOfTrailingZeros", desc := "(J)I" } : Jvm.MethodName)) ∈ lw_all := lw_g (lw_at lw_m2 203 rfl) rfl
theorem q520 : (Jvm.Cond.fieldLink "jdk/internal/util/ArraysSupport" (51 : Nat) "jdk/internal/util/ArraysSupport" "LOG2_ARRAY_INT_INDEX_SCALE" "I") ∈ lw_all := lw_g (lw_at lw_m2 209 rfl) rfl
theorem q521 : (Jvm.Cond.laysStatic "jdk/internal/util/ArraysSupport" "LOG2_ARRAY_INT_INDEX_SCALE" "I") ∈ lw_tbl := lw_at lw_m2 210 rfl
theorem q522 : (Jvm.Cond.methodLink "jdk/internal/util/ArraysSupport" (54 : Nat) ({ cls := "jdk/internal/misc/Unsafe", name := "getIntUnaligned", desc := "(Ljava/lang/Object;J)I" } : Jvm.MethodName)) ∈ lw_all := lw_g (lw_at lw_m2 211 rfl) rfl
theorem q539 : (Jvm.Cond.methodLink "jdk/internal/util/ArraysSupport" (58 : Nat) ({ cls := "java/lang/Integer", name := "numberOfLeadingZeros", desc := "(I)I" } : Jvm.MethodName)) ∈ lw_all := lw_g (lw_at lw_m2 228 rfl) rfl
theorem q540 : (Jvm.Cond.methodLink "jdk/internal/util/ArraysSupport" (11 : Nat) ({ cls := "java/lang/Integer", name := "numberOfTrailingZeros", desc := "(I)I" } : Jvm.MethodName)) ∈ lw_all := lw_g (lw_at lw_m2 229 rfl) rfl

-- J10.java_lang_Math.lean.txt
/-! java/lang/Math -/
set_option maxRecDepth 100000
def RJ10 : String := "java/lang/Math"
abbrev cJ10_max : ByteArray := prog_22_method_65_code
def yJ10_max : MethodName := ⟨RJ10, "max", "(II)I"⟩
def dkwJ10_max_0 : List UInt8 := [26, 27, 161, 0, 7, 26, 167, 0, 4, 27, 172]
abbrev dktJ10_max_0 : List UInt8 := dkwJ10_max_0 ++ []
theorem dksJ10_max_0 : cJ10_max.data.toList.drop 0 = dktJ10_max_0 := by decide +kernel
theorem dJ10_max_0 : decode cJ10_max 0 = .ok (.iload_n 0, 1) := dk_26 (dk_at dksJ10_max_0 0 rfl rfl)
theorem dJ10_max_1 : decode cJ10_max 1 = .ok (.iload_n 1, 1) := dk_27 (dk_at dksJ10_max_0 1 rfl rfl)
theorem dJ10_max_2 : decode cJ10_max 2 = .ok (.if_icmp .lt 7, 3) := dk_161 0 7 (dk_at dksJ10_max_0 2 rfl rfl)
theorem dJ10_max_5 : decode cJ10_max 5 = .ok (.iload_n 0, 1) := dk_26 (dk_at dksJ10_max_0 5 rfl rfl)
theorem dJ10_max_6 : decode cJ10_max 6 = .ok (.goto 4, 3) := dk_167 0 4 (dk_at dksJ10_max_0 6 rfl rfl)
theorem dJ10_max_9 : decode cJ10_max 9 = .ok (.iload_n 1, 1) := dk_27 (dk_at dksJ10_max_0 9 rfl rfl)
theorem dJ10_max_10 : decode cJ10_max 10 = .ok (.ireturn, 1) := dk_172 (dk_at dksJ10_max_0 10 rfl rfl)
abbrev cJ10_min : ByteArray := prog_22_method_69_code
def yJ10_min : MethodName := ⟨RJ10, "min", "(II)I"⟩
def dkwJ10_min_0 : List UInt8 := [26, 27, 163, 0, 7, 26, 167, 0, 4, 27, 172]
abbrev dktJ10_min_0 : List UInt8 := dkwJ10_min_0 ++ []
theorem dksJ10_min_0 : cJ10_min.data.toList.drop 0 = dktJ10_min_0 := by decide +kernel
theorem dJ10_min_0 : decode cJ10_min 0 = .ok (.iload_n 0, 1) := dk_26 (dk_at dksJ10_min_0 0 rfl rfl)
theorem dJ10_min_1 : decode cJ10_min 1 = .ok (.iload_n 1, 1) := dk_27 (dk_at dksJ10_min_0 1 rfl rfl)
theorem dJ10_min_2 : decode cJ10_min 2 = .ok (.if_icmp .gt 7, 3) := dk_163 0 7 (dk_at dksJ10_min_0 2 rfl rfl)
theorem dJ10_min_5 : decode cJ10_min 5 = .ok (.iload_n 0, 1) := dk_26 (dk_at dksJ10_min_0 5 rfl rfl)
theorem dJ10_min_6 : decode cJ10_min 6 = .ok (.goto 4, 3) := dk_167 0 4 (dk_at dksJ10_min_0 6 rfl rfl)
theorem dJ10_min_9 : decode cJ10_min 9 = .ok (.iload_n 1, 1) := dk_27 (dk_at dksJ10_min_0 9 rfl rfl)
theorem dJ10_min_10 : decode cJ10_min 10 = .ok (.ireturn, 1) := dk_172 (dk_at dksJ10_min_0 10 rfl rfl)
abbrev cJ10_abs : ByteArray := prog_22_method_61_code
def yJ10_abs : MethodName := ⟨RJ10, "abs", "(J)J"⟩
def dkwJ10_abs_0 : List UInt8 := [30, 9, 148, 156, 0, 8, 30, 117, 167, 0, 4, 30, 173]
abbrev dktJ10_abs_0 : List UInt8 := dkwJ10_abs_0 ++ []
theorem dksJ10_abs_0 : cJ10_abs.data.toList.drop 0 = dktJ10_abs_0 := by decide +kernel
theorem dJ10_abs_0 : decode cJ10_abs 0 = .ok (.lload_n 0, 1) := dk_30 (dk_at dksJ10_abs_0 0 rfl rfl)
theorem dJ10_abs_1 : decode cJ10_abs 1 = .ok (.lconst 0, 1) := dk_9 (dk_at dksJ10_abs_0 1 rfl rfl)
theorem dJ10_abs_2 : decode cJ10_abs 2 = .ok (.lcmp, 1) := dk_148 (dk_at dksJ10_abs_0 2 rfl rfl)
theorem dJ10_abs_3 : decode cJ10_abs 3 = .ok (.ifCond .ge 8, 3) := dk_156 0 8 (dk_at dksJ10_abs_0 3 rfl rfl)
theorem dJ10_abs_6 : decode cJ10_abs 6 = .ok (.lload_n 0, 1) := dk_30 (dk_at dksJ10_abs_0 6 rfl rfl)
theorem dJ10_abs_7 : decode cJ10_abs 7 = .ok (.lneg, 1) := dk_117 (dk_at dksJ10_abs_0 7 rfl rfl)
theorem dJ10_abs_8 : decode cJ10_abs 8 = .ok (.goto 4, 3) := dk_167 0 4 (dk_at dksJ10_abs_0 8 rfl rfl)
theorem dJ10_abs_11 : decode cJ10_abs 11 = .ok (.lload_n 0, 1) := dk_30 (dk_at dksJ10_abs_0 11 rfl rfl)
theorem dJ10_abs_12 : decode cJ10_abs 12 = .ok (.lreturn, 1) := dk_173 (dk_at dksJ10_abs_0 12 rfl rfl)
theorem q86 : (Jvm.Cond.initialized "java/lang/Math") ∈ lw_all := lw_g (lw_at lw_m1 15 rfl) rfl
theorem q256 : (Jvm.Cond.static ({ cls := "java/lang/Math", name := "max", desc := "(II)I" } : Jvm.MethodName)) ∈ lw_all := lw_g (lw_at lw_m1 185 rfl) rfl
theorem q257 : (Jvm.Cond.code ({ cls := "java/lang/Math", name := "max", desc := "(II)I" } : Jvm.MethodName) prog_22_method_65_code (2 : Nat) (Option.some Jvm.ClassFile.FieldType.int)) ∈ lw_all := lw_g (lw_at lw_m1 186 rfl) rfl
theorem q296 : (Jvm.Cond.static ({ cls := "java/lang/Math", name := "min", desc := "(II)I" } : Jvm.MethodName)) ∈ lw_all := lw_g (lw_at lw_m1 225 rfl) rfl
theorem q297 : (Jvm.Cond.code ({ cls := "java/lang/Math", name := "min", desc := "(II)I" } : Jvm.MethodName) prog_22_method_69_code (2 : Nat) (Option.some Jvm.ClassFile.FieldType.int)) ∈ lw_all := lw_g (lw_at lw_m1 226 rfl) rfl
theorem q1333 : (Jvm.Cond.static ({ cls := "java/lang/Math", name := "abs", desc := "(J)J" } : Jvm.MethodName)) ∈ lw_all := lw_g (lw_at lw_m6 62 rfl) rfl
theorem q1334 : (Jvm.Cond.code ({ cls := "java/lang/Math", name := "abs", desc := "(J)J" } : Jvm.MethodName) prog_22_method_61_code (2 : Nat) (Option.some Jvm.ClassFile.FieldType.long)) ∈ lw_all := lw_g (lw_at lw_m6 63 rfl) rfl

-- J11.java_util_Arrays.lean.txt
/-! java/util/Arrays -/
set_option maxRecDepth 100000
def RJ11 : String := "java/util/Arrays"
abbrev cJ11_copyOf : ByteArray := prog_38_method_119_code
def yJ11_copyOf : MethodName := ⟨RJ11, "copyOf", "([Ljava/lang/Object;I)[Ljava/lang/Object;"⟩
def dkwJ11_copyOf_0 : List UInt8 := [42, 27, 42, 182, 0, 86, 184, 1, 44, 176]
abbrev dktJ11_copyOf_0 : List UInt8 := dkwJ11_copyOf_0 ++ []
theorem dksJ11_copyOf_0 : cJ11_copyOf.data.toList.drop 0 = dktJ11_copyOf_0 := by decide +kernel
theorem dJ11_copyOf_0 : decode cJ11_copyOf 0 = .ok (.aload_n 0, 1) := dk_42 (dk_at dksJ11_copyOf_0 0 rfl rfl)
theorem dJ11_copyOf_1 : decode cJ11_copyOf 1 = .ok (.iload_n 1, 1) := dk_27 (dk_at dksJ11_copyOf_0 1 rfl rfl)
theorem dJ11_copyOf_2 : decode cJ11_copyOf 2 = .ok (.aload_n 0, 1) := dk_42 (dk_at dksJ11_copyOf_0 2 rfl rfl)
theorem dJ11_copyOf_3 : decode cJ11_copyOf 3 = .ok (.invokevirtual 86, 3) := dk_182 0 86 (dk_at dksJ11_copyOf_0 3 rfl rfl)
theorem dJ11_copyOf_6 : decode cJ11_copyOf 6 = .ok (.invokestatic 300, 3) := dk_184 1 44 (dk_at dksJ11_copyOf_0 6 rfl rfl)
theorem dJ11_copyOf_9 : decode cJ11_copyOf 9 = .ok (.areturn, 1) := dk_176 (dk_at dksJ11_copyOf_0 9 rfl rfl)
abbrev cJ11_copyOf_2 : ByteArray := prog_38_method_120_code
def yJ11_copyOf_2 : MethodName := ⟨RJ11, "copyOf", "([Ljava/lang/Object;ILjava/lang/Class;)[Ljava/lang/Object;"⟩
def dkwJ11_copyOf_2_1 : List UInt8 := [78, 42, 3, 45, 3, 42, 190, 27, 184, 1, 48, 184, 0, 150, 45, 176]
abbrev dktJ11_copyOf_2_1 : List UInt8 := dkwJ11_copyOf_2_1 ++ []
def dkwJ11_copyOf_2_0 : List UInt8 := [44, 18, 110, 166, 0, 10, 27, 189, 0, 2, 167, 0, 14, 44, 182, 0, 90, 27, 184, 0, 95, 192, 0, 110]
abbrev dktJ11_copyOf_2_0 : List UInt8 := dkwJ11_copyOf_2_0 ++ dktJ11_copyOf_2_1
theorem dksJ11_copyOf_2_0 : cJ11_copyOf_2.data.toList.drop 0 = dktJ11_copyOf_2_0 := by decide +kernel
theorem dksJ11_copyOf_2_1 : cJ11_copyOf_2.data.toList.drop 24 = dktJ11_copyOf_2_1 := dk_seg dksJ11_copyOf_2_0 24 rfl rfl
theorem dJ11_copyOf_2_0 : decode cJ11_copyOf_2 0 = .ok (.aload_n 2, 1) := dk_44 (dk_at dksJ11_copyOf_2_0 0 rfl rfl)
theorem dJ11_copyOf_2_1 : decode cJ11_copyOf_2 1 = .ok (.ldc 110, 2) := dk_18 110 (dk_at dksJ11_copyOf_2_0 1 rfl rfl)
theorem dJ11_copyOf_2_3 : decode cJ11_copyOf_2 3 = .ok (.if_acmp .ne 10, 3) := dk_166 0 10 (dk_at dksJ11_copyOf_2_0 3 rfl rfl)
theorem dJ11_copyOf_2_6 : decode cJ11_copyOf_2 6 = .ok (.iload_n 1, 1) := dk_27 (dk_at dksJ11_copyOf_2_0 6 rfl rfl)
theorem dJ11_copyOf_2_7 : decode cJ11_copyOf_2 7 = .ok (.anewarray 2, 3) := dk_189 0 2 (dk_at dksJ11_copyOf_2_0 7 rfl rfl)
theorem dJ11_copyOf_2_10 : decode cJ11_copyOf_2 10 = .ok (.goto 14, 3) := dk_167 0 14 (dk_at dksJ11_copyOf_2_0 10 rfl rfl)
theorem dJ11_copyOf_2_13 : decode cJ11_copyOf_2 13 = .ok (.aload_n 2, 1) := dk_44 (dk_at dksJ11_copyOf_2_0 13 rfl rfl)
theorem dJ11_copyOf_2_14 : decode cJ11_copyOf_2 14 = .ok (.invokevirtual 90, 3) := dk_182 0 90 (dk_at dksJ11_copyOf_2_0 14 rfl rfl)
theorem dJ11_copyOf_2_17 : decode cJ11_copyOf_2 17 = .ok (.iload_n 1, 1) := dk_27 (dk_at dksJ11_copyOf_2_0 17 rfl rfl)
theorem dJ11_copyOf_2_18 : decode cJ11_copyOf_2 18 = .ok (.invokestatic 95, 3) := dk_184 0 95 (dk_at dksJ11_copyOf_2_0 18 rfl rfl)
theorem dJ11_copyOf_2_21 : decode cJ11_copyOf_2 21 = .ok (.checkcast 110, 3) := dk_192 0 110 (dk_at dksJ11_copyOf_2_0 21 rfl rfl)
theorem dJ11_copyOf_2_24 : decode cJ11_copyOf_2 24 = .ok (.astore_n 3, 1) := dk_78 (dk_at dksJ11_copyOf_2_1 0 rfl rfl)
theorem dJ11_copyOf_2_25 : decode cJ11_copyOf_2 25 = .ok (.aload_n 0, 1) := dk_42 (dk_at dksJ11_copyOf_2_1 1 rfl rfl)
theorem dJ11_copyOf_2_26 : decode cJ11_copyOf_2 26 = .ok (.iconst 0, 1) := dk_3 (dk_at dksJ11_copyOf_2_1 2 rfl rfl)
theorem dJ11_copyOf_2_27 : decode cJ11_copyOf_2 27 = .ok (.aload_n 3, 1) := dk_45 (dk_at dksJ11_copyOf_2_1 3 rfl rfl)
theorem dJ11_copyOf_2_28 : decode cJ11_copyOf_2 28 = .ok (.iconst 0, 1) := dk_3 (dk_at dksJ11_copyOf_2_1 4 rfl rfl)
theorem dJ11_copyOf_2_29 : decode cJ11_copyOf_2 29 = .ok (.aload_n 0, 1) := dk_42 (dk_at dksJ11_copyOf_2_1 5 rfl rfl)
theorem dJ11_copyOf_2_30 : decode cJ11_copyOf_2 30 = .ok (.arraylength, 1) := dk_190 (dk_at dksJ11_copyOf_2_1 6 rfl rfl)
theorem dJ11_copyOf_2_31 : decode cJ11_copyOf_2 31 = .ok (.iload_n 1, 1) := dk_27 (dk_at dksJ11_copyOf_2_1 7 rfl rfl)
theorem dJ11_copyOf_2_32 : decode cJ11_copyOf_2 32 = .ok (.invokestatic 304, 3) := dk_184 1 48 (dk_at dksJ11_copyOf_2_1 8 rfl rfl)
theorem dJ11_copyOf_2_35 : decode cJ11_copyOf_2 35 = .ok (.invokestatic 150, 3) := dk_184 0 150 (dk_at dksJ11_copyOf_2_1 11 rfl rfl)
theorem dJ11_copyOf_2_38 : decode cJ11_copyOf_2 38 = .ok (.aload_n 3, 1) := dk_45 (dk_at dksJ11_copyOf_2_1 14 rfl rfl)
theorem dJ11_copyOf_2_39 : decode cJ11_copyOf_2 39 = .ok (.areturn, 1) := dk_176 (dk_at dksJ11_copyOf_2_1 15 rfl rfl)
abbrev cJ11_copyOf_3 : ByteArray := prog_38_method_121_code
def yJ11_copyOf_3 : MethodName := ⟨RJ11, "copyOf", "([BI)[B"⟩
def dkwJ11_copyOf_3_1 : List UInt8 := [27, 184, 1, 48, 184, 0, 150, 44, 176]
abbrev dktJ11_copyOf_3_1 : List UInt8 := dkwJ11_copyOf_3_1 ++ []
def dkwJ11_copyOf_3_0 : List UInt8 := [27, 42, 190, 160, 0, 11, 42, 182, 1, 54, 192, 1, 55, 176, 27, 188, 8, 77, 42, 3, 44, 3, 42, 190]
abbrev dktJ11_copyOf_3_0 : List UInt8 := dkwJ11_copyOf_3_0 ++ dktJ11_copyOf_3_1
theorem dksJ11_copyOf_3_0 : cJ11_copyOf_3.data.toList.drop 0 = dktJ11_copyOf_3_0 := by decide +kernel
theorem dksJ11_copyOf_3_1 : cJ11_copyOf_3.data.toList.drop 24 = dktJ11_copyOf_3_1 := dk_seg dksJ11_copyOf_3_0 24 rfl rfl
theorem dJ11_copyOf_3_0 : decode cJ11_copyOf_3 0 = .ok (.iload_n 1, 1) := dk_27 (dk_at dksJ11_copyOf_3_0 0 rfl rfl)
theorem dJ11_copyOf_3_1 : decode cJ11_copyOf_3 1 = .ok (.aload_n 0, 1) := dk_42 (dk_at dksJ11_copyOf_3_0 1 rfl rfl)
theorem dJ11_copyOf_3_2 : decode cJ11_copyOf_3 2 = .ok (.arraylength, 1) := dk_190 (dk_at dksJ11_copyOf_3_0 2 rfl rfl)
theorem dJ11_copyOf_3_3 : decode cJ11_copyOf_3 3 = .ok (.if_icmp .ne 11, 3) := dk_160 0 11 (dk_at dksJ11_copyOf_3_0 3 rfl rfl)
theorem dJ11_copyOf_3_6 : decode cJ11_copyOf_3 6 = .ok (.aload_n 0, 1) := dk_42 (dk_at dksJ11_copyOf_3_0 6 rfl rfl)
theorem dJ11_copyOf_3_7 : decode cJ11_copyOf_3 7 = .ok (.invokevirtual 310, 3) := dk_182 1 54 (dk_at dksJ11_copyOf_3_0 7 rfl rfl)
theorem dJ11_copyOf_3_10 : decode cJ11_copyOf_3 10 = .ok (.checkcast 311, 3) := dk_192 1 55 (dk_at dksJ11_copyOf_3_0 10 rfl rfl)
theorem dJ11_copyOf_3_13 : decode cJ11_copyOf_3 13 = .ok (.areturn, 1) := dk_176 (dk_at dksJ11_copyOf_3_0 13 rfl rfl)
theorem dJ11_copyOf_3_14 : decode cJ11_copyOf_3 14 = .ok (.iload_n 1, 1) := dk_27 (dk_at dksJ11_copyOf_3_0 14 rfl rfl)
theorem dJ11_copyOf_3_15 : decode cJ11_copyOf_3 15 = .ok (.newarray .byte, 2) := dk_188_8 (dk_at dksJ11_copyOf_3_0 15 rfl rfl)
theorem dJ11_copyOf_3_17 : decode cJ11_copyOf_3 17 = .ok (.astore_n 2, 1) := dk_77 (dk_at dksJ11_copyOf_3_0 17 rfl rfl)
theorem dJ11_copyOf_3_18 : decode cJ11_copyOf_3 18 = .ok (.aload_n 0, 1) := dk_42 (dk_at dksJ11_copyOf_3_0 18 rfl rfl)
theorem dJ11_copyOf_3_19 : decode cJ11_copyOf_3 19 = .ok (.iconst 0, 1) := dk_3 (dk_at dksJ11_copyOf_3_0 19 rfl rfl)
theorem dJ11_copyOf_3_20 : decode cJ11_copyOf_3 20 = .ok (.aload_n 2, 1) := dk_44 (dk_at dksJ11_copyOf_3_0 20 rfl rfl)
theorem dJ11_copyOf_3_21 : decode cJ11_copyOf_3 21 = .ok (.iconst 0, 1) := dk_3 (dk_at dksJ11_copyOf_3_0 21 rfl rfl)
theorem dJ11_copyOf_3_22 : decode cJ11_copyOf_3 22 = .ok (.aload_n 0, 1) := dk_42 (dk_at dksJ11_copyOf_3_0 22 rfl rfl)
theorem dJ11_copyOf_3_23 : decode cJ11_copyOf_3 23 = .ok (.arraylength, 1) := dk_190 (dk_at dksJ11_copyOf_3_0 23 rfl rfl)
theorem dJ11_copyOf_3_24 : decode cJ11_copyOf_3 24 = .ok (.iload_n 1, 1) := dk_27 (dk_at dksJ11_copyOf_3_1 0 rfl rfl)
theorem dJ11_copyOf_3_25 : decode cJ11_copyOf_3 25 = .ok (.invokestatic 304, 3) := dk_184 1 48 (dk_at dksJ11_copyOf_3_1 1 rfl rfl)
theorem dJ11_copyOf_3_28 : decode cJ11_copyOf_3 28 = .ok (.invokestatic 150, 3) := dk_184 0 150 (dk_at dksJ11_copyOf_3_1 4 rfl rfl)
theorem dJ11_copyOf_3_31 : decode cJ11_copyOf_3 31 = .ok (.aload_n 2, 1) := dk_44 (dk_at dksJ11_copyOf_3_1 7 rfl rfl)
theorem dJ11_copyOf_3_32 : decode cJ11_copyOf_3 32 = .ok (.areturn, 1) := dk_176 (dk_at dksJ11_copyOf_3_1 8 rfl rfl)
abbrev cJ11_copyOfRange : ByteArray := prog_38_method_132_code
def yJ11_copyOfRange : MethodName := ⟨RJ11, "copyOfRange", "([BII)[B"⟩
def dkwJ11_copyOfRange_1 : List UInt8 := [176]
abbrev dktJ11_copyOfRange_1 : List UInt8 := dkwJ11_copyOfRange_1 ++ []
def dkwJ11_copyOfRange_0 : List UInt8 := [27, 154, 0, 9, 28, 42, 190, 159, 0, 10, 42, 27, 28, 184, 1, 83, 176, 42, 182, 1, 54, 192, 1, 55]
abbrev dktJ11_copyOfRange_0 : List UInt8 := dkwJ11_copyOfRange_0 ++ dktJ11_copyOfRange_1
theorem dksJ11_copyOfRange_0 : cJ11_copyOfRange.data.toList.drop 0 = dktJ11_copyOfRange_0 := by decide +kernel
theorem dksJ11_copyOfRange_1 : cJ11_copyOfRange.data.toList.drop 24 = dktJ11_copyOfRange_1 := dk_seg dksJ11_copyOfRange_0 24 rfl rfl
theorem dJ11_copyOfRange_0 : decode cJ11_copyOfRange 0 = .ok (.iload_n 1, 1) := dk_27 (dk_at dksJ11_copyOfRange_0 0 rfl rfl)
theorem dJ11_copyOfRange_1 : decode cJ11_copyOfRange 1 = .ok (.ifCond .ne 9, 3) := dk_154 0 9 (dk_at dksJ11_copyOfRange_0 1 rfl rfl)
theorem dJ11_copyOfRange_4 : decode cJ11_copyOfRange 4 = .ok (.iload_n 2, 1) := dk_28 (dk_at dksJ11_copyOfRange_0 4 rfl rfl)
theorem dJ11_copyOfRange_5 : decode cJ11_copyOfRange 5 = .ok (.aload_n 0, 1) := dk_42 (dk_at dksJ11_copyOfRange_0 5 rfl rfl)
theorem dJ11_copyOfRange_6 : decode cJ11_copyOfRange 6 = .ok (.arraylength, 1) := dk_190 (dk_at dksJ11_copyOfRange_0 6 rfl rfl)
theorem dJ11_copyOfRange_7 : decode cJ11_copyOfRange 7 = .ok (.if_icmp .eq 10, 3) := dk_159 0 10 (dk_at dksJ11_copyOfRange_0 7 rfl rfl)
theorem dJ11_copyOfRange_10 : decode cJ11_copyOfRange 10 = .ok (.aload_n 0, 1) := dk_42 (dk_at dksJ11_copyOfRange_0 10 rfl rfl)
theorem dJ11_copyOfRange_11 : decode cJ11_copyOfRange 11 = .ok (.iload_n 1, 1) := dk_27 (dk_at dksJ11_copyOfRange_0 11 rfl rfl)
theorem dJ11_copyOfRange_12 : decode cJ11_copyOfRange 12 = .ok (.iload_n 2, 1) := dk_28 (dk_at dksJ11_copyOfRange_0 12 rfl rfl)
theorem dJ11_copyOfRange_13 : decode cJ11_copyOfRange 13 = .ok (.invokestatic 339, 3) := dk_184 1 83 (dk_at dksJ11_copyOfRange_0 13 rfl rfl)
theorem dJ11_copyOfRange_16 : decode cJ11_copyOfRange 16 = .ok (.areturn, 1) := dk_176 (dk_at dksJ11_copyOfRange_0 16 rfl rfl)
theorem dJ11_copyOfRange_17 : decode cJ11_copyOfRange 17 = .ok (.aload_n 0, 1) := dk_42 (dk_at dksJ11_copyOfRange_0 17 rfl rfl)
theorem dJ11_copyOfRange_18 : decode cJ11_copyOfRange 18 = .ok (.invokevirtual 310, 3) := dk_182 1 54 (dk_at dksJ11_copyOfRange_0 18 rfl rfl)
theorem dJ11_copyOfRange_21 : decode cJ11_copyOfRange 21 = .ok (.checkcast 311, 3) := dk_192 1 55 (dk_at dksJ11_copyOfRange_0 21 rfl rfl)
theorem dJ11_copyOfRange_24 : decode cJ11_copyOfRange 24 = .ok (.areturn, 1) := dk_176 (dk_at dksJ11_copyOfRange_1 0 rfl rfl)
abbrev cJ11_copyOfRangeByte : ByteArray := prog_38_method_133_code
def yJ11_copyOfRangeByte : MethodName := ⟨RJ11, "copyOfRangeByte", "([BII)[B"⟩
def dkwJ11_copyOfRangeByte_1 : List UInt8 := [184, 1, 48, 184, 0, 150, 25, 4, 176]
abbrev dktJ11_copyOfRangeByte_1 : List UInt8 := dkwJ11_copyOfRangeByte_1 ++ []
def dkwJ11_copyOfRangeByte_0 : List UInt8 := [27, 28, 184, 1, 87, 28, 27, 100, 62, 29, 188, 8, 58, 4, 42, 27, 25, 4, 3, 42, 190, 27, 100, 29]
abbrev dktJ11_copyOfRangeByte_0 : List UInt8 := dkwJ11_copyOfRangeByte_0 ++ dktJ11_copyOfRangeByte_1
theorem dksJ11_copyOfRangeByte_0 : cJ11_copyOfRangeByte.data.toList.drop 0 = dktJ11_copyOfRangeByte_0 := by decide +kernel
theorem dksJ11_copyOfRangeByte_1 : cJ11_copyOfRangeByte.data.toList.drop 24 = dktJ11_copyOfRangeByte_1 := dk_seg dksJ11_copyOfRangeByte_0 24 rfl rfl
theorem dJ11_copyOfRangeByte_0 : decode cJ11_copyOfRangeByte 0 = .ok (.iload_n 1, 1) := dk_27 (dk_at dksJ11_copyOfRangeByte_0 0 rfl rfl)
theorem dJ11_copyOfRangeByte_1 : decode cJ11_copyOfRangeByte 1 = .ok (.iload_n 2, 1) := dk_28 (dk_at dksJ11_copyOfRangeByte_0 1 rfl rfl)
theorem dJ11_copyOfRangeByte_2 : decode cJ11_copyOfRangeByte 2 = .ok (.invokestatic 343, 3) := dk_184 1 87 (dk_at dksJ11_copyOfRangeByte_0 2 rfl rfl)
theorem dJ11_copyOfRangeByte_5 : decode cJ11_copyOfRangeByte 5 = .ok (.iload_n 2, 1) := dk_28 (dk_at dksJ11_copyOfRangeByte_0 5 rfl rfl)
theorem dJ11_copyOfRangeByte_6 : decode cJ11_copyOfRangeByte 6 = .ok (.iload_n 1, 1) := dk_27 (dk_at dksJ11_copyOfRangeByte_0 6 rfl rfl)
theorem dJ11_copyOfRangeByte_7 : decode cJ11_copyOfRangeByte 7 = .ok (.isub, 1) := dk_100 (dk_at dksJ11_copyOfRangeByte_0 7 rfl rfl)
theorem dJ11_copyOfRangeByte_8 : decode cJ11_copyOfRangeByte 8 = .ok (.istore_n 3, 1) := dk_62 (dk_at dksJ11_copyOfRangeByte_0 8 rfl rfl)
theorem dJ11_copyOfRangeByte_9 : decode cJ11_copyOfRangeByte 9 = .ok (.iload_n 3, 1) := dk_29 (dk_at dksJ11_copyOfRangeByte_0 9 rfl rfl)
theorem dJ11_copyOfRangeByte_10 : decode cJ11_copyOfRangeByte 10 = .ok (.newarray .byte, 2) := dk_188_8 (dk_at dksJ11_copyOfRangeByte_0 10 rfl rfl)
theorem dJ11_copyOfRangeByte_12 : decode cJ11_copyOfRangeByte 12 = .ok (.astore 4, 2) := dk_58 4 (dk_at dksJ11_copyOfRangeByte_0 12 rfl rfl)
theorem dJ11_copyOfRangeByte_14 : decode cJ11_copyOfRangeByte 14 = .ok (.aload_n 0, 1) := dk_42 (dk_at dksJ11_copyOfRangeByte_0 14 rfl rfl)
theorem dJ11_copyOfRangeByte_15 : decode cJ11_copyOfRangeByte 15 = .ok (.iload_n 1, 1) := dk_27 (dk_at dksJ11_copyOfRangeByte_0 15 rfl rfl)
theorem dJ11_copyOfRangeByte_16 : decode cJ11_copyOfRangeByte 16 = .ok (.aload 4, 2) := dk_25 4 (dk_at dksJ11_copyOfRangeByte_0 16 rfl rfl)
theorem dJ11_copyOfRangeByte_18 : decode cJ11_copyOfRangeByte 18 = .ok (.iconst 0, 1) := dk_3 (dk_at dksJ11_copyOfRangeByte_0 18 rfl rfl)
theorem dJ11_copyOfRangeByte_19 : decode cJ11_copyOfRangeByte 19 = .ok (.aload_n 0, 1) := dk_42 (dk_at dksJ11_copyOfRangeByte_0 19 rfl rfl)
theorem dJ11_copyOfRangeByte_20 : decode cJ11_copyOfRangeByte 20 = .ok (.arraylength, 1) := dk_190 (dk_at dksJ11_copyOfRangeByte_0 20 rfl rfl)
theorem dJ11_copyOfRangeByte_21 : decode cJ11_copyOfRangeByte 21 = .ok (.iload_n 1, 1) := dk_27 (dk_at dksJ11_copyOfRangeByte_0 21 rfl rfl)
theorem dJ11_copyOfRangeByte_22 : decode cJ11_copyOfRangeByte 22 = .ok (.isub, 1) := dk_100 (dk_at dksJ11_copyOfRangeByte_0 22 rfl rfl)
theorem dJ11_copyOfRangeByte_23 : decode cJ11_copyOfRangeByte 23 = .ok (.iload_n 3, 1) := dk_29 (dk_at dksJ11_copyOfRangeByte_0 23 rfl rfl)
theorem dJ11_copyOfRangeByte_24 : decode cJ11_copyOfRangeByte 24 = .ok (.invokestatic 304, 3) := dk_184 1 48 (dk_at dksJ11_copyOfRangeByte_1 0 rfl rfl)
theorem dJ11_copyOfRangeByte_27 : decode cJ11_copyOfRangeByte 27 = .ok (.invokestatic 150, 3) := dk_184 0 150 (dk_at dksJ11_copyOfRangeByte_1 3 rfl rfl)
theorem dJ11_copyOfRangeByte_30 : decode cJ11_copyOfRangeByte 30 = .ok (.aload 4, 2) := dk_25 4 (dk_at dksJ11_copyOfRangeByte_1 6 rfl rfl)
theorem dJ11_copyOfRangeByte_32 : decode cJ11_copyOfRangeByte 32 = .ok (.areturn, 1) := dk_176 (dk_at dksJ11_copyOfRangeByte_1 8 rfl rfl)
abbrev cJ11_checkLength : ByteArray := prog_38_method_131_code
def yJ11_checkLength : MethodName := ⟨RJ11, "checkLength", "(II)V"⟩
def dkwJ11_checkLength_1 : List UInt8 := [182, 0, 50, 27, 182, 0, 54, 182, 0, 61, 183, 0, 65, 191, 177]
abbrev dktJ11_checkLength_1 : List UInt8 := dkwJ11_checkLength_1 ++ []
def dkwJ11_checkLength_0 : List UInt8 := [27, 26, 162, 0, 35, 187, 0, 43, 89, 187, 0, 45, 89, 183, 0, 47, 26, 182, 0, 54, 19, 1, 81]
abbrev dktJ11_checkLength_0 : List UInt8 := dkwJ11_checkLength_0 ++ dktJ11_checkLength_1
theorem dksJ11_checkLength_0 : cJ11_checkLength.data.toList.drop 0 = dktJ11_checkLength_0 := by decide +kernel
theorem dksJ11_checkLength_1 : cJ11_checkLength.data.toList.drop 23 = dktJ11_checkLength_1 := dk_seg dksJ11_checkLength_0 23 rfl rfl
theorem dJ11_checkLength_0 : decode cJ11_checkLength 0 = .ok (.iload_n 1, 1) := dk_27 (dk_at dksJ11_checkLength_0 0 rfl rfl)
theorem dJ11_checkLength_1 : decode cJ11_checkLength 1 = .ok (.iload_n 0, 1) := dk_26 (dk_at dksJ11_checkLength_0 1 rfl rfl)
theorem dJ11_checkLength_2 : decode cJ11_checkLength 2 = .ok (.if_icmp .ge 35, 3) := dk_162 0 35 (dk_at dksJ11_checkLength_0 2 rfl rfl)
theorem dJ11_checkLength_5 : decode cJ11_checkLength 5 = .ok (.new 43, 3) := dk_187 0 43 (dk_at dksJ11_checkLength_0 5 rfl rfl)
theorem dJ11_checkLength_8 : decode cJ11_checkLength 8 = .ok (.dup, 1) := dk_89 (dk_at dksJ11_checkLength_0 8 rfl rfl)
theorem dJ11_checkLength_9 : decode cJ11_checkLength 9 = .ok (.new 45, 3) := dk_187 0 45 (dk_at dksJ11_checkLength_0 9 rfl rfl)
theorem dJ11_checkLength_12 : decode cJ11_checkLength 12 = .ok (.dup, 1) := dk_89 (dk_at dksJ11_checkLength_0 12 rfl rfl)
theorem dJ11_checkLength_13 : decode cJ11_checkLength 13 = .ok (.invokespecial 47, 3) := dk_183 0 47 (dk_at dksJ11_checkLength_0 13 rfl rfl)
theorem dJ11_checkLength_16 : decode cJ11_checkLength 16 = .ok (.iload_n 0, 1) := dk_26 (dk_at dksJ11_checkLength_0 16 rfl rfl)
theorem dJ11_checkLength_17 : decode cJ11_checkLength 17 = .ok (.invokevirtual 54, 3) := dk_182 0 54 (dk_at dksJ11_checkLength_0 17 rfl rfl)
theorem dJ11_checkLength_20 : decode cJ11_checkLength 20 = .ok (.ldc_w 337, 3) := dk_19 1 81 (dk_at dksJ11_checkLength_0 20 rfl rfl)
theorem dJ11_checkLength_23 : decode cJ11_checkLength 23 = .ok (.invokevirtual 50, 3) := dk_182 0 50 (dk_at dksJ11_checkLength_1 0 rfl rfl)
theorem dJ11_checkLength_26 : decode cJ11_checkLength 26 = .ok (.iload_n 1, 1) := dk_27 (dk_at dksJ11_checkLength_1 3 rfl rfl)
theorem dJ11_checkLength_27 : decode cJ11_checkLength 27 = .ok (.invokevirtual 54, 3) := dk_182 0 54 (dk_at dksJ11_checkLength_1 4 rfl rfl)
theorem dJ11_checkLength_30 : decode cJ11_checkLength 30 = .ok (.invokevirtual 61, 3) := dk_182 0 61 (dk_at dksJ11_checkLength_1 7 rfl rfl)
theorem dJ11_checkLength_33 : decode cJ11_checkLength 33 = .ok (.invokespecial 65, 3) := dk_183 0 65 (dk_at dksJ11_checkLength_1 10 rfl rfl)
theorem dJ11_checkLength_36 : decode cJ11_checkLength 36 = .ok (.athrow, 1) := dk_191 (dk_at dksJ11_checkLength_1 13 rfl rfl)
theorem dJ11_checkLength_37 : decode cJ11_checkLength 37 = .ok (.return_, 1) := dk_177 (dk_at dksJ11_checkLength_1 14 rfl rfl)
abbrev cJ11_copyOf_4 : ByteArray := prog_38_method_124_code
def yJ11_copyOf_4 : MethodName := ⟨RJ11, "copyOf", "([JI)[J"⟩
def dkwJ11_copyOf_4_1 : List UInt8 := [27, 184, 1, 48, 184, 0, 150, 44, 176]
abbrev dktJ11_copyOf_4_1 : List UInt8 := dkwJ11_copyOf_4_1 ++ []
def dkwJ11_copyOf_4_0 : List UInt8 := [27, 42, 190, 160, 0, 11, 42, 182, 1, 63, 192, 1, 64, 176, 27, 188, 11, 77, 42, 3, 44, 3, 42, 190]
abbrev dktJ11_copyOf_4_0 : List UInt8 := dkwJ11_copyOf_4_0 ++ dktJ11_copyOf_4_1
theorem dksJ11_copyOf_4_0 : cJ11_copyOf_4.data.toList.drop 0 = dktJ11_copyOf_4_0 := by decide +kernel
theorem dksJ11_copyOf_4_1 : cJ11_copyOf_4.data.toList.drop 24 = dktJ11_copyOf_4_1 := dk_seg dksJ11_copyOf_4_0 24 rfl rfl
theorem dJ11_copyOf_4_0 : decode cJ11_copyOf_4 0 = .ok (.iload_n 1, 1) := dk_27 (dk_at dksJ11_copyOf_4_0 0 rfl rfl)
theorem dJ11_copyOf_4_1 : decode cJ11_copyOf_4 1 = .ok (.aload_n 0, 1) := dk_42 (dk_at dksJ11_copyOf_4_0 1 rfl rfl)
theorem dJ11_copyOf_4_2 : decode cJ11_copyOf_4 2 = .ok (.arraylength, 1) := dk_190 (dk_at dksJ11_copyOf_4_0 2 rfl rfl)
theorem dJ11_copyOf_4_3 : decode cJ11_copyOf_4 3 = .ok (.if_icmp .ne 11, 3) := dk_160 0 11 (dk_at dksJ11_copyOf_4_0 3 rfl rfl)
theorem dJ11_copyOf_4_6 : decode cJ11_copyOf_4 6 = .ok (.aload_n 0, 1) := dk_42 (dk_at dksJ11_copyOf_4_0 6 rfl rfl)
theorem dJ11_copyOf_4_7 : decode cJ11_copyOf_4 7 = .ok (.invokevirtual 319, 3) := dk_182 1 63 (dk_at dksJ11_copyOf_4_0 7 rfl rfl)
theorem dJ11_copyOf_4_10 : decode cJ11_copyOf_4 10 = .ok (.checkcast 320, 3) := dk_192 1 64 (dk_at dksJ11_copyOf_4_0 10 rfl rfl)
theorem dJ11_copyOf_4_13 : decode cJ11_copyOf_4 13 = .ok (.areturn, 1) := dk_176 (dk_at dksJ11_copyOf_4_0 13 rfl rfl)
theorem dJ11_copyOf_4_14 : decode cJ11_copyOf_4 14 = .ok (.iload_n 1, 1) := dk_27 (dk_at dksJ11_copyOf_4_0 14 rfl rfl)
theorem dJ11_copyOf_4_15 : decode cJ11_copyOf_4 15 = .ok (.newarray .long, 2) := dk_188_11 (dk_at dksJ11_copyOf_4_0 15 rfl rfl)
theorem dJ11_copyOf_4_17 : decode cJ11_copyOf_4 17 = .ok (.astore_n 2, 1) := dk_77 (dk_at dksJ11_copyOf_4_0 17 rfl rfl)
theorem dJ11_copyOf_4_18 : decode cJ11_copyOf_4 18 = .ok (.aload_n 0, 1) := dk_42 (dk_at dksJ11_copyOf_4_0 18 rfl rfl)
theorem dJ11_copyOf_4_19 : decode cJ11_copyOf_4 19 = .ok (.iconst 0, 1) := dk_3 (dk_at dksJ11_copyOf_4_0 19 rfl rfl)
theorem dJ11_copyOf_4_20 : decode cJ11_copyOf_4 20 = .ok (.aload_n 2, 1) := dk_44 (dk_at dksJ11_copyOf_4_0 20 rfl rfl)
theorem dJ11_copyOf_4_21 : decode cJ11_copyOf_4 21 = .ok (.iconst 0, 1) := dk_3 (dk_at dksJ11_copyOf_4_0 21 rfl rfl)
theorem dJ11_copyOf_4_22 : decode cJ11_copyOf_4 22 = .ok (.aload_n 0, 1) := dk_42 (dk_at dksJ11_copyOf_4_0 22 rfl rfl)
theorem dJ11_copyOf_4_23 : decode cJ11_copyOf_4 23 = .ok (.arraylength, 1) := dk_190 (dk_at dksJ11_copyOf_4_0 23 rfl rfl)
theorem dJ11_copyOf_4_24 : decode cJ11_copyOf_4 24 = .ok (.iload_n 1, 1) := dk_27 (dk_at dksJ11_copyOf_4_1 0 rfl rfl)
theorem dJ11_copyOf_4_25 : decode cJ11_copyOf_4 25 = .ok (.invokestatic 304, 3) := dk_184 1 48 (dk_at dksJ11_copyOf_4_1 1 rfl rfl)
theorem dJ11_copyOf_4_28 : decode cJ11_copyOf_4 28 = .ok (.invokestatic 150, 3) := dk_184 0 150 (dk_at dksJ11_copyOf_4_1 4 rfl rfl)
theorem dJ11_copyOf_4_31 : decode cJ11_copyOf_4 31 = .ok (.aload_n 2, 1) := dk_44 (dk_at dksJ11_copyOf_4_1 7 rfl rfl)
theorem dJ11_copyOf_4_32 : decode cJ11_copyOf_4 32 = .ok (.areturn, 1) := dk_176 (dk_at dksJ11_copyOf_4_1 8 rfl rfl)
theorem q87 : (Jvm.Cond.initialized "java/util/Arrays") ∈ lw_all := lw_g (lw_at lw_m1 16 rfl) rfl
theorem q263 : (Jvm.Cond.static ({ cls := "java/util/Arrays", name := "copyOf", desc := "([Ljava/lang/Object;I)[Ljava/lang/Object;" } : Jvm.MethodName)) ∈ lw_all := lw_g (lw_at lw_m1 192 rfl) rfl
theorem q264 : (Jvm.Cond.code ({ cls := "java/util/Arrays", name := "copyOf", desc := "([Ljava/lang/Object;I)[Ljava/lang/Object;" } : Jvm.MethodName) prog_38_method_119_code (2 : Nat) (Option.some (Jvm.ClassFile.FieldType.array (Jvm.ClassFile.FieldType.object "java/lang/Object")))) ∈ lw_all := lw_g (lw_at lw_m1 193 rfl) rfl
theorem q265 : (Jvm.Cond.methodLink "java/util/Arrays" (86 : Nat) ({ cls := "java/lang/Object", name := "getClass", desc := "()Ljava/lang/Class;" } : Jvm.MethodName)) ∈ lw_all := lw_g (lw_at lw_m1 194 rfl) rfl
theorem q289 : (Jvm.Cond.methodLink "java/util/Arrays" (300 : Nat) ({ cls := "java/util/Arrays", name := "copyOf", desc := "([Ljava/lang/Object;ILjava/lang/Class;)[Ljava/lang/Object;" } : Jvm.MethodName)) ∈ lw_all := lw_g (lw_at lw_m1 218 rfl) rfl
theorem q290 : (Jvm.Cond.static ({ cls := "java/util/Arrays", name := "copyOf", desc := "([Ljava/lang/Object;ILjava/lang/Class;)[Ljava/lang/Object;" } : Jvm.MethodName)) ∈ lw_all := lw_g (lw_at lw_m1 219 rfl) rfl
theorem q291 : (Jvm.Cond.code ({ cls := "java/util/Arrays", name := "copyOf", desc := "([Ljava/lang/Object;ILjava/lang/Class;)[Ljava/lang/Object;" } : Jvm.MethodName) prog_38_method_120_code (4 : Nat) (Option.some (Jvm.ClassFile.FieldType.array (Jvm.ClassFile.FieldType.object "java/lang/Object")))) ∈ lw_all := lw_g (lw_at lw_m1 220 rfl) rfl
theorem q292 : (Jvm.Cond.classLink "java/util/Arrays" (110 : Nat) "[Ljava/lang/Object;") ∈ lw_all := lw_g (lw_at lw_m1 221 rfl) rfl
theorem q294 : (Jvm.Cond.classLink "java/util/Arrays" (2 : Nat) "java/lang/Object") ∈ lw_all := lw_g (lw_at lw_m1 223 rfl) rfl
theorem q295 : (Jvm.Cond.methodLink "java/util/Arrays" (304 : Nat) ({ cls := "java/lang/Math", name := "min", desc := "(II)I" } : Jvm.MethodName)) ∈ lw_all := lw_g (lw_at lw_m1 224 rfl) rfl
theorem q298 : (Jvm.Cond.methodLink "java/util/Arrays" (150 : Nat) ({ cls := "java/lang/System", name := "arraycopy", desc := "(Ljava/lang/Object;ILjava/lang/Object;II)V" } : Jvm.MethodName)) ∈ lw_all := lw_g (lw_at lw_m1 227 rfl) rfl
theorem q683 : (Jvm.Cond.static ({ cls := "java/util/Arrays", name := "copyOf", desc := "([BI)[B" } : Jvm.MethodName)) ∈ lw_all := lw_g (lw_at lw_m3 132 rfl) rfl
theorem q684 : (Jvm.Cond.code ({ cls := "java/util/Arrays", name := "copyOf", desc := "([BI)[B" } : Jvm.MethodName) prog_38_method_121_code (3 : Nat) (Option.some (Jvm.ClassFile.FieldType.array Jvm.ClassFile.FieldType.byte))) ∈ lw_all := lw_g (lw_at lw_m3 133 rfl) rfl
theorem q685 : (Jvm.Cond.methodLink "java/util/Arrays" (310 : Nat) ({ cls := "[B", name := "clone", desc := "()Ljava/lang/Object;" } : Jvm.MethodName)) ∈ lw_all := lw_g (lw_at lw_m3 134 rfl) rfl
theorem q691 : (Jvm.Cond.classLink "java/util/Arrays" (311 : Nat) "[B") ∈ lw_all := lw_g (lw_at lw_m3 140 rfl) rfl
theorem q795 : (Jvm.Cond.static ({ cls := "java/util/Arrays", name := "copyOfRange", desc := "([BII)[B" } : Jvm.MethodName)) ∈ lw_all := lw_g (lw_at lw_m4 4 rfl) rfl
theorem q796 : (Jvm.Cond.code ({ cls := "java/util/Arrays", name := "copyOfRange", desc := "([BII)[B" } : Jvm.MethodName) prog_38_method_132_code (3 : Nat) (Option.some (Jvm.ClassFile.FieldType.array Jvm.ClassFile.FieldType.byte))) ∈ lw_all := lw_g (lw_at lw_m4 5 rfl) rfl
theorem q797 : (Jvm.Cond.methodLink "java/util/Arrays" (339 : Nat) ({ cls := "java/util/Arrays", name := "copyOfRangeByte", desc := "([BII)[B" } : Jvm.MethodName)) ∈ lw_all := lw_g (lw_at lw_m4 6 rfl) rfl
theorem q798 : (Jvm.Cond.static ({ cls := "java/util/Arrays", name := "copyOfRangeByte", desc := "([BII)[B" } : Jvm.MethodName)) ∈ lw_all := lw_g (lw_at lw_m4 7 rfl) rfl
theorem q799 : (Jvm.Cond.code ({ cls := "java/util/Arrays", name := "copyOfRangeByte", desc := "([BII)[B" } : Jvm.MethodName) prog_38_method_133_code (5 : Nat) (Option.some (Jvm.ClassFile.FieldType.array Jvm.ClassFile.FieldType.byte))) ∈ lw_all := lw_g (lw_at lw_m4 8 rfl) rfl
theorem q800 : (Jvm.Cond.methodLink "java/util/Arrays" (343 : Nat) ({ cls := "java/util/Arrays", name := "checkLength", desc := "(II)V" } : Jvm.MethodName)) ∈ lw_all := lw_g (lw_at lw_m4 9 rfl) rfl
theorem q801 : (Jvm.Cond.static ({ cls := "java/util/Arrays", name := "checkLength", desc := "(II)V" } : Jvm.MethodName)) ∈ lw_all := lw_g (lw_at lw_m4 10 rfl) rfl
theorem q802 : (Jvm.Cond.code ({ cls := "java/util/Arrays", name := "checkLength", desc := "(II)V" } : Jvm.MethodName) prog_38_method_131_code (2 : Nat) (Option.none : Option Jvm.ClassFile.FieldType)) ∈ lw_all := lw_g (lw_at lw_m4 11 rfl) rfl
theorem q803 : (Jvm.Cond.classLink "java/util/Arrays" (43 : Nat) "java/lang/IllegalArgumentException") ∈ lw_all := lw_g (lw_at lw_m4 12 rfl) rfl
theorem q844 : (Jvm.Cond.classLink "java/util/Arrays" (45 : Nat) "java/lang/StringBuilder") ∈ lw_all := lw_g (lw_at lw_m4 53 rfl) rfl
theorem q845 : (Jvm.Cond.methodLink "java/util/Arrays" (47 : Nat) ({ cls := "java/lang/StringBuilder", name := "<init>", desc := "()V" } : Jvm.MethodName)) ∈ lw_all := lw_g (lw_at lw_m4 54 rfl) rfl
theorem q846 : (Jvm.Cond.methodLink "java/util/Arrays" (54 : Nat) ({ cls := "java/lang/StringBuilder", name := "append", desc := "(I)Ljava/lang/StringBuilder;" } : Jvm.MethodName)) ∈ lw_all := lw_g (lw_at lw_m4 55 rfl) rfl
theorem q847 : (Jvm.Cond.stringRef "java/util/Arrays" (337 : Nat) " > ") ∈ lw_tbl := lw_at lw_m4 56 rfl
theorem q848 : (Jvm.Cond.methodLink "java/util/Arrays" (50 : Nat) ({ cls := "java/lang/StringBuilder", name := "append", desc := "(Ljava/lang/String;)Ljava/lang/StringBuilder;" } : Jvm.MethodName)) ∈ lw_all := lw_g (lw_at lw_m4 57 rfl) rfl
theorem q849 : (Jvm.Cond.methodLink "java/util/Arrays" (61 : Nat) ({ cls := "java/lang/StringBuilder", name := "toString", desc := "()Ljava/lang/String;" } : Jvm.MethodName)) ∈ lw_all := lw_g (lw_at lw_m4 58 rfl) rfl
theorem q850 : (Jvm.Cond.methodLink "java/util/Arrays" (65 : Nat) ({ cls := "java/lang/IllegalArgumentException", name := "<init>", desc := "(Ljava/lang/String;)V" } : Jvm.MethodName)) ∈ lw_all := lw_g (lw_at lw_m4 59 rfl) rfl
theorem q971 : (Jvm.Cond.static ({ cls := "java/util/Arrays", name := "copyOf", desc := "([JI)[J" } : Jvm.MethodName)) ∈ lw_all := lw_g (lw_at lw_m4 180 rfl) rfl
theorem q972 : (Jvm.Cond.code ({ cls := "java/util/Arrays", name := "copyOf", desc := "([JI)[J" } : Jvm.MethodName) prog_38_method_124_code (3 : Nat) (Option.some (Jvm.ClassFile.FieldType.array Jvm.ClassFile.FieldType.long))) ∈ lw_all := lw_g (lw_at lw_m4 181 rfl) rfl
theorem q973 : (Jvm.Cond.methodLink "java/util/Arrays" (319 : Nat) ({ cls := "[J", name := "clone", desc := "()Ljava/lang/Object;" } : Jvm.MethodName)) ∈ lw_all := lw_g (lw_at lw_m4 182 rfl) rfl
theorem q977 : (Jvm.Cond.classLink "java/util/Arrays" (320 : Nat) "[J") ∈ lw_all := lw_g (lw_at lw_m4 186 rfl) rfl

-- J12.java_lang_IndexOutOfBoundsException.lean.txt
/-! java/lang/IndexOutOfBoundsException -/
set_option maxRecDepth 100000
def RJ12 : String := "java/lang/IndexOutOfBoundsException"
def TJ12 : u_T := fun k => match k with
  | 0 => ("java/lang/Throwable", "cause", "Ljava/lang/Throwable;", false)
  | 1 => ("java/lang/Throwable", "stackTrace", "[Ljava/lang/StackTraceElement;", false)
  | 2 => ("java/lang/Throwable", "suppressedExceptions", "Ljava/util/List;", false)
  | 3 => ("java/lang/Throwable", "detailMessage", "Ljava/lang/String;", false)
  | 4 => ("java/lang/Throwable", "backtrace", "Ljava/lang/Object;", false)
  | _ => ("java/lang/Throwable", "depth", "I", false)
def tyJ12 : Nat → FieldType := fun k => match k with
  | 0 => .object "java/lang/Throwable"
  | 1 => .array (.object "java/lang/StackTraceElement")
  | 2 => .object "java/util/List"
  | 3 => .object "java/lang/String"
  | 4 => .object "java/lang/Object"
  | _ => .int
abbrev wsJ120 : List Cond := u_ws RJ12 TJ12 6
theorem nmJ12 : ∀ a, a < 6 → ∀ b, b < 6 → a ≠ b → (TJ12 a).2.1 ≠ (TJ12 b).2.1 := by decide +kernel
theorem tyJ12_ok : ∀ k, k < 6 → parseFieldDescriptor (TJ12 k).2.2.1 = some (tyJ12 k) := by decide +kernel
abbrev cJ12_init : ByteArray := prog_17_method_2_code
def yJ12_init : MethodName := ⟨RJ12, "<init>", "(Ljava/lang/String;)V"⟩
abbrev cJ12_init_2 : ByteArray := prog_17_method_1_code
def yJ12_init_2 : MethodName := ⟨RJ12, "<init>", "()V"⟩
theorem q89 : (Jvm.Cond.initialized "java/lang/IndexOutOfBoundsException") ∈ lw_all := lw_g (lw_at lw_m1 18 rfl) rfl
theorem q276 : (Jvm.Cond.selects "java/lang/IndexOutOfBoundsException" ({ cls := "java/lang/Object", name := "getClass", desc := "()Ljava/lang/Class;" } : Jvm.MethodName) ({ cls := "java/lang/Object", name := "getClass", desc := "()Ljava/lang/Class;" } : Jvm.MethodName)) ∈ lw_all := lw_g (lw_at lw_m1 205 rfl) rfl
theorem q837 : (Jvm.Cond.selects "java/lang/IndexOutOfBoundsException" ({ cls := "java/lang/Throwable", name := "fillInStackTrace", desc := "()Ljava/lang/Throwable;" } : Jvm.MethodName) ({ cls := "java/lang/Throwable", name := "fillInStackTrace", desc := "()Ljava/lang/Throwable;" } : Jvm.MethodName)) ∈ lw_all := lw_g (lw_at lw_m4 46 rfl) rfl
theorem q941 : (Jvm.Cond.instantiable "java/lang/IndexOutOfBoundsException" (6 : Nat)) ∈ lw_all := lw_g (lw_at lw_m4 150 rfl) rfl
theorem q942 : (Jvm.Cond.castable "java/lang/IndexOutOfBoundsException" "java/lang/IndexOutOfBoundsException") ∈ lw_tbl := lw_at lw_m4 151 rfl
theorem q943 : (Jvm.Cond.selects "java/lang/IndexOutOfBoundsException" ({ cls := "java/lang/Throwable", name := "fillInStackTrace", desc := "(I)Ljava/lang/Throwable;" } : Jvm.MethodName) ({ cls := "java/lang/Throwable", name := "fillInStackTrace", desc := "(I)Ljava/lang/Throwable;" } : Jvm.MethodName)) ∈ lw_all := lw_g (lw_at lw_m4 152 rfl) rfl
theorem q944 : (Jvm.Cond.lays "java/lang/IndexOutOfBoundsException" "java/lang/Throwable" "cause" "Ljava/lang/Throwable;") ∈ lw_all := lw_g (lw_at lw_m4 153 rfl) rfl
theorem q945 : (Jvm.Cond.lays "java/lang/IndexOutOfBoundsException" "java/lang/Throwable" "stackTrace" "[Ljava/lang/StackTraceElement;") ∈ lw_all := lw_g (lw_at lw_m4 154 rfl) rfl
theorem q946 : (Jvm.Cond.lays "java/lang/IndexOutOfBoundsException" "java/lang/Throwable" "suppressedExceptions" "Ljava/util/List;") ∈ lw_all := lw_g (lw_at lw_m4 155 rfl) rfl
theorem q947 : (Jvm.Cond.lays "java/lang/IndexOutOfBoundsException" "java/lang/Throwable" "detailMessage" "Ljava/lang/String;") ∈ lw_all := lw_g (lw_at lw_m4 156 rfl) rfl
theorem q948 : (Jvm.Cond.lays "java/lang/IndexOutOfBoundsException" "java/lang/Throwable" "backtrace" "Ljava/lang/Object;") ∈ lw_all := lw_g (lw_at lw_m4 157 rfl) rfl
theorem q956 : (Jvm.Cond.instanceMethod ({ cls := "java/lang/IndexOutOfBoundsException", name := "<init>", desc := "(Ljava/lang/String;)V" } : Jvm.MethodName)) ∈ lw_all := lw_g (lw_at lw_m4 165 rfl) rfl
theorem q957 : (Jvm.Cond.code ({ cls := "java/lang/IndexOutOfBoundsException", name := "<init>", desc := "(Ljava/lang/String;)V" } : Jvm.MethodName) prog_17_method_2_code (2 : Nat) (Option.none : Option Jvm.ClassFile.FieldType)) ∈ lw_all := lw_g (lw_at lw_m4 166 rfl) rfl
theorem q958 : (Jvm.Cond.methodLink "java/lang/IndexOutOfBoundsException" (7 : Nat) ({ cls := "java/lang/RuntimeException", name := "<init>", desc := "(Ljava/lang/String;)V" } : Jvm.MethodName)) ∈ lw_all := lw_g (lw_at lw_m4 167 rfl) rfl
theorem q959 : (Jvm.Cond.lays "java/lang/IndexOutOfBoundsException" "java/lang/Throwable" "depth" "I") ∈ lw_all := lw_g (lw_at lw_m4 168 rfl) rfl
theorem q960 : (Jvm.Cond.superclass "java/lang/IndexOutOfBoundsException" "java/lang/RuntimeException") ∈ lw_all := lw_g (lw_at lw_m4 169 rfl) rfl
theorem q1511 : (Jvm.Cond.declares ({ cls := "java/lang/IndexOutOfBoundsException", name := "<init>", desc := "()V" } : Jvm.MethodName)) ∈ lw_tbl := lw_at lw_m7 0 rfl
theorem q1512 : (Jvm.Cond.declares ({ cls := "java/lang/IndexOutOfBoundsException", name := "<init>", desc := "(Ljava/lang/String;)V" } : Jvm.MethodName)) ∈ lw_tbl := lw_at lw_m7 1 rfl
theorem q1527 : (Jvm.Cond.instanceMethod ({ cls := "java/lang/IndexOutOfBoundsException", name := "<init>", desc := "()V" } : Jvm.MethodName)) ∈ lw_all := lw_g (lw_at lw_m7 16 rfl) rfl
theorem q1528 : (Jvm.Cond.code ({ cls := "java/lang/IndexOutOfBoundsException", name := "<init>", desc := "()V" } : Jvm.MethodName) prog_17_method_1_code (1 : Nat) (Option.none : Option Jvm.ClassFile.FieldType)) ∈ lw_all := lw_g (lw_at lw_m7 17 rfl) rfl
theorem q1529 : (Jvm.Cond.methodLink "java/lang/IndexOutOfBoundsException" (1 : Nat) ({ cls := "java/lang/RuntimeException", name := "<init>", desc := "()V" } : Jvm.MethodName)) ∈ lw_all := lw_g (lw_at lw_m7 18 rfl) rfl
theorem q2201 : (Jvm.Cond.castable "java/lang/IndexOutOfBoundsException" "java/lang/Object") ∈ lw_tbl := lw_at lw_m9 210 rfl
theorem in_J12 : ∀ w ∈ wsJ120, w ∈ lw_all := lw_in wsJ120 [944, 945, 946, 947, 948, 959] (by decide +kernel) (by decide +kernel)

-- J13.java_lang_ArrayIndexOutOfBoundsException.lean.txt
/-! java/lang/ArrayIndexOutOfBoundsException -/
set_option maxRecDepth 100000
def RJ13 : String := "java/lang/ArrayIndexOutOfBoundsException"
def TJ13 : u_T := fun k => match k with
  | 0 => ("java/lang/Throwable", "backtrace", "Ljava/lang/Object;", false)
  | 1 => ("java/lang/Throwable", "detailMessage", "Ljava/lang/String;", false)
  | 2 => ("java/lang/Throwable", "cause", "Ljava/lang/Throwable;", false)
  | 3 => ("java/lang/Throwable", "stackTrace", "[Ljava/lang/StackTraceElement;", false)
  | 4 => ("java/lang/Throwable", "depth", "I", false)
  | _ => ("java/lang/Throwable", "suppressedExceptions", "Ljava/util/List;", false)
def tyJ13 : Nat → FieldType := fun k => match k with
  | 0 => .object "java/lang/Object"
  | 1 => .object "java/lang/String"
  | 2 => .object "java/lang/Throwable"
  | 3 => .array (.object "java/lang/StackTraceElement")
  | 4 => .int
  | _ => .object "java/util/List"
abbrev wsJ130 : List Cond := u_ws RJ13 TJ13 6
theorem nmJ13 : ∀ a, a < 6 → ∀ b, b < 6 → a ≠ b → (TJ13 a).2.1 ≠ (TJ13 b).2.1 := by decide +kernel
theorem tyJ13_ok : ∀ k, k < 6 → parseFieldDescriptor (TJ13 k).2.2.1 = some (tyJ13 k) := by decide +kernel
abbrev cJ13_init : ByteArray := prog_11_method_2_code
def yJ13_init : MethodName := ⟨RJ13, "<init>", "(Ljava/lang/String;)V"⟩
theorem q90 : (Jvm.Cond.initialized "java/lang/ArrayIndexOutOfBoundsException") ∈ lw_all := lw_g (lw_at lw_m1 19 rfl) rfl
theorem q274 : (Jvm.Cond.selects "java/lang/ArrayIndexOutOfBoundsException" ({ cls := "java/lang/Object", name := "getClass", desc := "()Ljava/lang/Class;" } : Jvm.MethodName) ({ cls := "java/lang/Object", name := "getClass", desc := "()Ljava/lang/Class;" } : Jvm.MethodName)) ∈ lw_all := lw_g (lw_at lw_m1 203 rfl) rfl
theorem q836 : (Jvm.Cond.selects "java/lang/ArrayIndexOutOfBoundsException" ({ cls := "java/lang/Throwable", name := "fillInStackTrace", desc := "()Ljava/lang/Throwable;" } : Jvm.MethodName) ({ cls := "java/lang/Throwable", name := "fillInStackTrace", desc := "()Ljava/lang/Throwable;" } : Jvm.MethodName)) ∈ lw_all := lw_g (lw_at lw_m4 45 rfl) rfl
theorem q1499 : (Jvm.Cond.instantiable "java/lang/ArrayIndexOutOfBoundsException" (6 : Nat)) ∈ lw_all := lw_g (lw_at lw_m6 228 rfl) rfl
theorem q1500 : (Jvm.Cond.instanceMethod ({ cls := "java/lang/ArrayIndexOutOfBoundsException", name := "<init>", desc := "(Ljava/lang/String;)V" } : Jvm.MethodName)) ∈ lw_all := lw_g (lw_at lw_m6 229 rfl) rfl
theorem q1501 : (Jvm.Cond.code ({ cls := "java/lang/ArrayIndexOutOfBoundsException", name := "<init>", desc := "(Ljava/lang/String;)V" } : Jvm.MethodName) prog_11_method_2_code (2 : Nat) (Option.none : Option Jvm.ClassFile.FieldType)) ∈ lw_all := lw_g (lw_at lw_m6 230 rfl) rfl
theorem q1502 : (Jvm.Cond.methodLink "java/lang/ArrayIndexOutOfBoundsException" (7 : Nat) ({ cls := "java/lang/IndexOutOfBoundsException", name := "<init>", desc := "(Ljava/lang/String;)V" } : Jvm.MethodName)) ∈ lw_all := lw_g (lw_at lw_m6 231 rfl) rfl
theorem q1503 : (Jvm.Cond.lays "java/lang/ArrayIndexOutOfBoundsException" "java/lang/Throwable" "backtrace" "Ljava/lang/Object;") ∈ lw_all := lw_g (lw_at lw_m6 232 rfl) rfl
theorem q1504 : (Jvm.Cond.lays "java/lang/ArrayIndexOutOfBoundsException" "java/lang/Throwable" "detailMessage" "Ljava/lang/String;") ∈ lw_all := lw_g (lw_at lw_m6 233 rfl) rfl
theorem q1505 : (Jvm.Cond.lays "java/lang/ArrayIndexOutOfBoundsException" "java/lang/Throwable" "cause" "Ljava/lang/Throwable;") ∈ lw_all := lw_g (lw_at lw_m6 234 rfl) rfl
theorem q1506 : (Jvm.Cond.lays "java/lang/ArrayIndexOutOfBoundsException" "java/lang/Throwable" "stackTrace" "[Ljava/lang/StackTraceElement;") ∈ lw_all := lw_g (lw_at lw_m6 235 rfl) rfl
theorem q1507 : (Jvm.Cond.lays "java/lang/ArrayIndexOutOfBoundsException" "java/lang/Throwable" "depth" "I") ∈ lw_all := lw_g (lw_at lw_m6 236 rfl) rfl
theorem q1508 : (Jvm.Cond.lays "java/lang/ArrayIndexOutOfBoundsException" "java/lang/Throwable" "suppressedExceptions" "Ljava/util/List;") ∈ lw_all := lw_g (lw_at lw_m6 237 rfl) rfl
theorem q1509 : (Jvm.Cond.superclass "java/lang/ArrayIndexOutOfBoundsException" "java/lang/IndexOutOfBoundsException") ∈ lw_all := lw_g (lw_at lw_m6 238 rfl) rfl
theorem q1510 : (Jvm.Cond.castable "java/lang/ArrayIndexOutOfBoundsException" "java/lang/ArrayIndexOutOfBoundsException") ∈ lw_tbl := lw_at lw_m6 239 rfl
theorem q1513 : (Jvm.Cond.selects "java/lang/ArrayIndexOutOfBoundsException" ({ cls := "java/lang/Throwable", name := "fillInStackTrace", desc := "(I)Ljava/lang/Throwable;" } : Jvm.MethodName) ({ cls := "java/lang/Throwable", name := "fillInStackTrace", desc := "(I)Ljava/lang/Throwable;" } : Jvm.MethodName)) ∈ lw_all := lw_g (lw_at lw_m7 2 rfl) rfl
theorem q2191 : (Jvm.Cond.castable "java/lang/ArrayIndexOutOfBoundsException" "java/lang/IndexOutOfBoundsException") ∈ lw_tbl := lw_at lw_m9 200 rfl
theorem q2200 : (Jvm.Cond.castable "java/lang/ArrayIndexOutOfBoundsException" "java/lang/Object") ∈ lw_tbl := lw_at lw_m9 209 rfl
theorem in_J13 : ∀ w ∈ wsJ130, w ∈ lw_all := lw_in wsJ130 [1503, 1504, 1505, 1506, 1507, 1508] (by decide +kernel) (by decide +kernel)

-- J14.java_lang_String.lean.txt
/-! java/lang/String -/
set_option maxRecDepth 100000
def RJ14 : String := "java/lang/String"
def TJ14 : u_T := fun k => match k with
  | 0 => ("java/lang/String", "value", "[B", true)
  | 1 => ("java/lang/String", "coder", "B", true)
  | 2 => ("java/lang/String", "hash", "I", false)
  | _ => ("java/lang/String", "hashIsZero", "Z", false)
def tyJ14 : Nat → FieldType := fun k => match k with
  | 0 => .array .byte
  | 1 => .byte
  | 2 => .int
  | _ => .boolean
abbrev wsJ140 : List Cond := u_ws RJ14 TJ14 4
theorem nmJ14 : ∀ a, a < 4 → ∀ b, b < 4 → a ≠ b → (TJ14 a).2.1 ≠ (TJ14 b).2.1 := by decide +kernel
theorem tyJ14_ok : ∀ k, k < 4 → parseFieldDescriptor (TJ14 k).2.2.1 = some (tyJ14 k) := by decide +kernel
abbrev cJ14_compareTo : ByteArray := prog_25_method_162_code
def yJ14_compareTo : MethodName := ⟨RJ14, "compareTo", "(Ljava/lang/Object;)I"⟩
def dkwJ14_compareTo_0 : List UInt8 := [42, 43, 192, 0, 10, 182, 4, 60, 172]
abbrev dktJ14_compareTo_0 : List UInt8 := dkwJ14_compareTo_0 ++ []
theorem dksJ14_compareTo_0 : cJ14_compareTo.data.toList.drop 0 = dktJ14_compareTo_0 := by decide +kernel
theorem dJ14_compareTo_0 : decode cJ14_compareTo 0 = .ok (.aload_n 0, 1) := dk_42 (dk_at dksJ14_compareTo_0 0 rfl rfl)
theorem dJ14_compareTo_1 : decode cJ14_compareTo 1 = .ok (.aload_n 1, 1) := dk_43 (dk_at dksJ14_compareTo_0 1 rfl rfl)
theorem dJ14_compareTo_2 : decode cJ14_compareTo 2 = .ok (.checkcast 10, 3) := dk_192 0 10 (dk_at dksJ14_compareTo_0 2 rfl rfl)
theorem dJ14_compareTo_5 : decode cJ14_compareTo 5 = .ok (.invokevirtual 1084, 3) := dk_182 4 60 (dk_at dksJ14_compareTo_0 5 rfl rfl)
theorem dJ14_compareTo_8 : decode cJ14_compareTo 8 = .ok (.ireturn, 1) := dk_172 (dk_at dksJ14_compareTo_0 8 rfl rfl)
abbrev cJ14_compareTo_2 : ByteArray := prog_25_method_71_code
def yJ14_compareTo_2 : MethodName := ⟨RJ14, "compareTo", "(Ljava/lang/String;)I"⟩
def dkwJ14_compareTo_2_2 : List UInt8 := [154, 0, 11, 44, 45, 184, 2, 79, 167, 0, 8, 44, 45, 184, 2, 82, 172]
abbrev dktJ14_compareTo_2_2 : List UInt8 := dkwJ14_compareTo_2_2 ++ []
def dkwJ14_compareTo_2_1 : List UInt8 := [160, 0, 22, 21, 4, 154, 0, 11, 44, 45, 184, 2, 74, 167, 0, 8, 44, 45, 184, 2, 78, 172, 21, 4]
abbrev dktJ14_compareTo_2_1 : List UInt8 := dkwJ14_compareTo_2_1 ++ dktJ14_compareTo_2_2
def dkwJ14_compareTo_2_0 : List UInt8 := [42, 180, 0, 9, 77, 43, 180, 0, 9, 78, 42, 182, 1, 79, 54, 4, 21, 4, 43, 182, 1, 79]
abbrev dktJ14_compareTo_2_0 : List UInt8 := dkwJ14_compareTo_2_0 ++ dktJ14_compareTo_2_1
theorem dksJ14_compareTo_2_0 : cJ14_compareTo_2.data.toList.drop 0 = dktJ14_compareTo_2_0 := by decide +kernel
theorem dksJ14_compareTo_2_1 : cJ14_compareTo_2.data.toList.drop 22 = dktJ14_compareTo_2_1 := dk_seg dksJ14_compareTo_2_0 22 rfl rfl
theorem dksJ14_compareTo_2_2 : cJ14_compareTo_2.data.toList.drop 46 = dktJ14_compareTo_2_2 := dk_seg dksJ14_compareTo_2_1 24 rfl rfl
theorem dJ14_compareTo_2_0 : decode cJ14_compareTo_2 0 = .ok (.aload_n 0, 1) := dk_42 (dk_at dksJ14_compareTo_2_0 0 rfl rfl)
theorem dJ14_compareTo_2_1 : decode cJ14_compareTo_2 1 = .ok (.getfield 9, 3) := dk_180 0 9 (dk_at dksJ14_compareTo_2_0 1 rfl rfl)
theorem dJ14_compareTo_2_4 : decode cJ14_compareTo_2 4 = .ok (.astore_n 2, 1) := dk_77 (dk_at dksJ14_compareTo_2_0 4 rfl rfl)
theorem dJ14_compareTo_2_5 : decode cJ14_compareTo_2 5 = .ok (.aload_n 1, 1) := dk_43 (dk_at dksJ14_compareTo_2_0 5 rfl rfl)
theorem dJ14_compareTo_2_6 : decode cJ14_compareTo_2 6 = .ok (.getfield 9, 3) := dk_180 0 9 (dk_at dksJ14_compareTo_2_0 6 rfl rfl)
theorem dJ14_compareTo_2_9 : decode cJ14_compareTo_2 9 = .ok (.astore_n 3, 1) := dk_78 (dk_at dksJ14_compareTo_2_0 9 rfl rfl)
theorem dJ14_compareTo_2_10 : decode cJ14_compareTo_2 10 = .ok (.aload_n 0, 1) := dk_42 (dk_at dksJ14_compareTo_2_0 10 rfl rfl)
theorem dJ14_compareTo_2_11 : decode cJ14_compareTo_2 11 = .ok (.invokevirtual 335, 3) := dk_182 1 79 (dk_at dksJ14_compareTo_2_0 11 rfl rfl)
theorem dJ14_compareTo_2_14 : decode cJ14_compareTo_2 14 = .ok (.istore 4, 2) := dk_54 4 (dk_at dksJ14_compareTo_2_0 14 rfl rfl)
theorem dJ14_compareTo_2_16 : decode cJ14_compareTo_2 16 = .ok (.iload 4, 2) := dk_21 4 (dk_at dksJ14_compareTo_2_0 16 rfl rfl)
theorem dJ14_compareTo_2_18 : decode cJ14_compareTo_2 18 = .ok (.aload_n 1, 1) := dk_43 (dk_at dksJ14_compareTo_2_0 18 rfl rfl)
theorem dJ14_compareTo_2_19 : decode cJ14_compareTo_2 19 = .ok (.invokevirtual 335, 3) := dk_182 1 79 (dk_at dksJ14_compareTo_2_0 19 rfl rfl)
theorem dJ14_compareTo_2_22 : decode cJ14_compareTo_2 22 = .ok (.if_icmp .ne 22, 3) := dk_160 0 22 (dk_at dksJ14_compareTo_2_1 0 rfl rfl)
theorem dJ14_compareTo_2_25 : decode cJ14_compareTo_2 25 = .ok (.iload 4, 2) := dk_21 4 (dk_at dksJ14_compareTo_2_1 3 rfl rfl)
theorem dJ14_compareTo_2_27 : decode cJ14_compareTo_2 27 = .ok (.ifCond .ne 11, 3) := dk_154 0 11 (dk_at dksJ14_compareTo_2_1 5 rfl rfl)
theorem dJ14_compareTo_2_30 : decode cJ14_compareTo_2 30 = .ok (.aload_n 2, 1) := dk_44 (dk_at dksJ14_compareTo_2_1 8 rfl rfl)
theorem dJ14_compareTo_2_31 : decode cJ14_compareTo_2 31 = .ok (.aload_n 3, 1) := dk_45 (dk_at dksJ14_compareTo_2_1 9 rfl rfl)
theorem dJ14_compareTo_2_32 : decode cJ14_compareTo_2 32 = .ok (.invokestatic 586, 3) := dk_184 2 74 (dk_at dksJ14_compareTo_2_1 10 rfl rfl)
theorem dJ14_compareTo_2_35 : decode cJ14_compareTo_2 35 = .ok (.goto 8, 3) := dk_167 0 8 (dk_at dksJ14_compareTo_2_1 13 rfl rfl)
theorem dJ14_compareTo_2_38 : decode cJ14_compareTo_2 38 = .ok (.aload_n 2, 1) := dk_44 (dk_at dksJ14_compareTo_2_1 16 rfl rfl)
theorem dJ14_compareTo_2_39 : decode cJ14_compareTo_2 39 = .ok (.aload_n 3, 1) := dk_45 (dk_at dksJ14_compareTo_2_1 17 rfl rfl)
theorem dJ14_compareTo_2_40 : decode cJ14_compareTo_2 40 = .ok (.invokestatic 590, 3) := dk_184 2 78 (dk_at dksJ14_compareTo_2_1 18 rfl rfl)
theorem dJ14_compareTo_2_43 : decode cJ14_compareTo_2 43 = .ok (.ireturn, 1) := dk_172 (dk_at dksJ14_compareTo_2_1 21 rfl rfl)
theorem dJ14_compareTo_2_44 : decode cJ14_compareTo_2 44 = .ok (.iload 4, 2) := dk_21 4 (dk_at dksJ14_compareTo_2_1 22 rfl rfl)
theorem dJ14_compareTo_2_46 : decode cJ14_compareTo_2 46 = .ok (.ifCond .ne 11, 3) := dk_154 0 11 (dk_at dksJ14_compareTo_2_2 0 rfl rfl)
theorem dJ14_compareTo_2_49 : decode cJ14_compareTo_2 49 = .ok (.aload_n 2, 1) := dk_44 (dk_at dksJ14_compareTo_2_2 3 rfl rfl)
theorem dJ14_compareTo_2_50 : decode cJ14_compareTo_2 50 = .ok (.aload_n 3, 1) := dk_45 (dk_at dksJ14_compareTo_2_2 4 rfl rfl)
theorem dJ14_compareTo_2_51 : decode cJ14_compareTo_2 51 = .ok (.invokestatic 591, 3) := dk_184 2 79 (dk_at dksJ14_compareTo_2_2 5 rfl rfl)
theorem dJ14_compareTo_2_54 : decode cJ14_compareTo_2 54 = .ok (.goto 8, 3) := dk_167 0 8 (dk_at dksJ14_compareTo_2_2 8 rfl rfl)
theorem dJ14_compareTo_2_57 : decode cJ14_compareTo_2 57 = .ok (.aload_n 2, 1) := dk_44 (dk_at dksJ14_compareTo_2_2 11 rfl rfl)
theorem dJ14_compareTo_2_58 : decode cJ14_compareTo_2 58 = .ok (.aload_n 3, 1) := dk_45 (dk_at dksJ14_compareTo_2_2 12 rfl rfl)
theorem dJ14_compareTo_2_59 : decode cJ14_compareTo_2 59 = .ok (.invokestatic 594, 3) := dk_184 2 82 (dk_at dksJ14_compareTo_2_2 13 rfl rfl)
theorem dJ14_compareTo_2_62 : decode cJ14_compareTo_2 62 = .ok (.ireturn, 1) := dk_172 (dk_at dksJ14_compareTo_2_2 16 rfl rfl)
abbrev cJ14_coder : ByteArray := prog_25_method_152_code
def yJ14_coder : MethodName := ⟨RJ14, "coder", "()B"⟩
def dkwJ14_coder_0 : List UInt8 := [178, 0, 38, 153, 0, 10, 42, 180, 0, 15, 167, 0, 4, 4, 172]
abbrev dktJ14_coder_0 : List UInt8 := dkwJ14_coder_0 ++ []
theorem dksJ14_coder_0 : cJ14_coder.data.toList.drop 0 = dktJ14_coder_0 := by decide +kernel
theorem dJ14_coder_0 : decode cJ14_coder 0 = .ok (.getstatic 38, 3) := dk_178 0 38 (dk_at dksJ14_coder_0 0 rfl rfl)
theorem dJ14_coder_3 : decode cJ14_coder 3 = .ok (.ifCond .eq 10, 3) := dk_153 0 10 (dk_at dksJ14_coder_0 3 rfl rfl)
theorem dJ14_coder_6 : decode cJ14_coder 6 = .ok (.aload_n 0, 1) := dk_42 (dk_at dksJ14_coder_0 6 rfl rfl)
theorem dJ14_coder_7 : decode cJ14_coder 7 = .ok (.getfield 15, 3) := dk_180 0 15 (dk_at dksJ14_coder_0 7 rfl rfl)
theorem dJ14_coder_10 : decode cJ14_coder 10 = .ok (.goto 4, 3) := dk_167 0 4 (dk_at dksJ14_coder_0 10 rfl rfl)
theorem dJ14_coder_13 : decode cJ14_coder 13 = .ok (.iconst 1, 1) := dk_4 (dk_at dksJ14_coder_0 13 rfl rfl)
theorem dJ14_coder_14 : decode cJ14_coder 14 = .ok (.ireturn, 1) := dk_172 (dk_at dksJ14_coder_0 14 rfl rfl)
abbrev cJ14_checkOffset : ByteArray := prog_25_method_156_code
def yJ14_checkOffset : MethodName := ⟨RJ14, "checkOffset", "(II)V"⟩
def dkwJ14_checkOffset_0 : List UInt8 := [26, 27, 27, 178, 4, 29, 184, 4, 38, 87, 177]
abbrev dktJ14_checkOffset_0 : List UInt8 := dkwJ14_checkOffset_0 ++ []
theorem dksJ14_checkOffset_0 : cJ14_checkOffset.data.toList.drop 0 = dktJ14_checkOffset_0 := by decide +kernel
theorem dJ14_checkOffset_0 : decode cJ14_checkOffset 0 = .ok (.iload_n 0, 1) := dk_26 (dk_at dksJ14_checkOffset_0 0 rfl rfl)
theorem dJ14_checkOffset_1 : decode cJ14_checkOffset 1 = .ok (.iload_n 1, 1) := dk_27 (dk_at dksJ14_checkOffset_0 1 rfl rfl)
theorem dJ14_checkOffset_2 : decode cJ14_checkOffset 2 = .ok (.iload_n 1, 1) := dk_27 (dk_at dksJ14_checkOffset_0 2 rfl rfl)
theorem dJ14_checkOffset_3 : decode cJ14_checkOffset 3 = .ok (.getstatic 1053, 3) := dk_178 4 29 (dk_at dksJ14_checkOffset_0 3 rfl rfl)
theorem dJ14_checkOffset_6 : decode cJ14_checkOffset 6 = .ok (.invokestatic 1062, 3) := dk_184 4 38 (dk_at dksJ14_checkOffset_0 6 rfl rfl)
theorem dJ14_checkOffset_9 : decode cJ14_checkOffset 9 = .ok (.pop, 1) := dk_87 (dk_at dksJ14_checkOffset_0 9 rfl rfl)
theorem dJ14_checkOffset_10 : decode cJ14_checkOffset 10 = .ok (.return_, 1) := dk_177 (dk_at dksJ14_checkOffset_0 10 rfl rfl)
abbrev cJ14_checkBoundsBeginEnd : ByteArray := prog_25_method_158_code
def yJ14_checkBoundsBeginEnd : MethodName := ⟨RJ14, "checkBoundsBeginEnd", "(III)V"⟩
def dkwJ14_checkBoundsBeginEnd_0 : List UInt8 := [26, 27, 28, 178, 4, 29, 184, 4, 38, 87, 177]
abbrev dktJ14_checkBoundsBeginEnd_0 : List UInt8 := dkwJ14_checkBoundsBeginEnd_0 ++ []
theorem dksJ14_checkBoundsBeginEnd_0 : cJ14_checkBoundsBeginEnd.data.toList.drop 0 = dktJ14_checkBoundsBeginEnd_0 := by decide +kernel
theorem dJ14_checkBoundsBeginEnd_0 : decode cJ14_checkBoundsBeginEnd 0 = .ok (.iload_n 0, 1) := dk_26 (dk_at dksJ14_checkBoundsBeginEnd_0 0 rfl rfl)
theorem dJ14_checkBoundsBeginEnd_1 : decode cJ14_checkBoundsBeginEnd 1 = .ok (.iload_n 1, 1) := dk_27 (dk_at dksJ14_checkBoundsBeginEnd_0 1 rfl rfl)
theorem dJ14_checkBoundsBeginEnd_2 : decode cJ14_checkBoundsBeginEnd 2 = .ok (.iload_n 2, 1) := dk_28 (dk_at dksJ14_checkBoundsBeginEnd_0 2 rfl rfl)
theorem dJ14_checkBoundsBeginEnd_3 : decode cJ14_checkBoundsBeginEnd 3 = .ok (.getstatic 1053, 3) := dk_178 4 29 (dk_at dksJ14_checkBoundsBeginEnd_0 3 rfl rfl)
theorem dJ14_checkBoundsBeginEnd_6 : decode cJ14_checkBoundsBeginEnd 6 = .ok (.invokestatic 1062, 3) := dk_184 4 38 (dk_at dksJ14_checkBoundsBeginEnd_0 6 rfl rfl)
theorem dJ14_checkBoundsBeginEnd_9 : decode cJ14_checkBoundsBeginEnd 9 = .ok (.pop, 1) := dk_87 (dk_at dksJ14_checkBoundsBeginEnd_0 9 rfl rfl)
theorem dJ14_checkBoundsBeginEnd_10 : decode cJ14_checkBoundsBeginEnd 10 = .ok (.return_, 1) := dk_177 (dk_at dksJ14_checkBoundsBeginEnd_0 10 rfl rfl)
abbrev cJ14_length : ByteArray := prog_25_method_54_code
def yJ14_length : MethodName := ⟨RJ14, "length", "()I"⟩
def dkwJ14_length_0 : List UInt8 := [42, 180, 0, 9, 190, 42, 182, 1, 79, 122, 172]
abbrev dktJ14_length_0 : List UInt8 := dkwJ14_length_0 ++ []
theorem dksJ14_length_0 : cJ14_length.data.toList.drop 0 = dktJ14_length_0 := by decide +kernel
theorem dJ14_length_0 : decode cJ14_length 0 = .ok (.aload_n 0, 1) := dk_42 (dk_at dksJ14_length_0 0 rfl rfl)
theorem dJ14_length_1 : decode cJ14_length 1 = .ok (.getfield 9, 3) := dk_180 0 9 (dk_at dksJ14_length_0 1 rfl rfl)
theorem dJ14_length_4 : decode cJ14_length 4 = .ok (.arraylength, 1) := dk_190 (dk_at dksJ14_length_0 4 rfl rfl)
theorem dJ14_length_5 : decode cJ14_length 5 = .ok (.aload_n 0, 1) := dk_42 (dk_at dksJ14_length_0 5 rfl rfl)
theorem dJ14_length_6 : decode cJ14_length 6 = .ok (.invokevirtual 335, 3) := dk_182 1 79 (dk_at dksJ14_length_0 6 rfl rfl)
theorem dJ14_length_9 : decode cJ14_length 9 = .ok (.ishr, 1) := dk_122 (dk_at dksJ14_length_0 9 rfl rfl)
theorem dJ14_length_10 : decode cJ14_length 10 = .ok (.ireturn, 1) := dk_172 (dk_at dksJ14_length_0 10 rfl rfl)
abbrev cJ14_checkBoundsOffCount : ByteArray := prog_25_method_157_code
def yJ14_checkBoundsOffCount : MethodName := ⟨RJ14, "checkBoundsOffCount", "(III)I"⟩
def dkwJ14_checkBoundsOffCount_0 : List UInt8 := [26, 27, 28, 178, 4, 29, 184, 4, 41, 172]
abbrev dktJ14_checkBoundsOffCount_0 : List UInt8 := dkwJ14_checkBoundsOffCount_0 ++ []
theorem dksJ14_checkBoundsOffCount_0 : cJ14_checkBoundsOffCount.data.toList.drop 0 = dktJ14_checkBoundsOffCount_0 := by decide +kernel
theorem dJ14_checkBoundsOffCount_0 : decode cJ14_checkBoundsOffCount 0 = .ok (.iload_n 0, 1) := dk_26 (dk_at dksJ14_checkBoundsOffCount_0 0 rfl rfl)
theorem dJ14_checkBoundsOffCount_1 : decode cJ14_checkBoundsOffCount 1 = .ok (.iload_n 1, 1) := dk_27 (dk_at dksJ14_checkBoundsOffCount_0 1 rfl rfl)
theorem dJ14_checkBoundsOffCount_2 : decode cJ14_checkBoundsOffCount 2 = .ok (.iload_n 2, 1) := dk_28 (dk_at dksJ14_checkBoundsOffCount_0 2 rfl rfl)
theorem dJ14_checkBoundsOffCount_3 : decode cJ14_checkBoundsOffCount 3 = .ok (.getstatic 1053, 3) := dk_178 4 29 (dk_at dksJ14_checkBoundsOffCount_0 3 rfl rfl)
theorem dJ14_checkBoundsOffCount_6 : decode cJ14_checkBoundsOffCount 6 = .ok (.invokestatic 1065, 3) := dk_184 4 41 (dk_at dksJ14_checkBoundsOffCount_0 6 rfl rfl)
theorem dJ14_checkBoundsOffCount_9 : decode cJ14_checkBoundsOffCount 9 = .ok (.ireturn, 1) := dk_172 (dk_at dksJ14_checkBoundsOffCount_0 9 rfl rfl)
abbrev cJ14_getBytes : ByteArray := prog_25_method_147_code
def yJ14_getBytes : MethodName := ⟨RJ14, "getBytes", "([BIB)V"⟩
def dkwJ14_getBytes_1 : List UInt8 := [184, 0, 212, 167, 0, 18, 42, 180, 0, 9, 3, 43, 28, 42, 180, 0, 9, 190, 184, 0, 106, 177]
abbrev dktJ14_getBytes_1 : List UInt8 := dkwJ14_getBytes_1 ++ []
def dkwJ14_getBytes_0 : List UInt8 := [42, 182, 1, 79, 29, 160, 0, 23, 42, 180, 0, 9, 3, 43, 28, 29, 120, 42, 180, 0, 9, 190]
abbrev dktJ14_getBytes_0 : List UInt8 := dkwJ14_getBytes_0 ++ dktJ14_getBytes_1
theorem dksJ14_getBytes_0 : cJ14_getBytes.data.toList.drop 0 = dktJ14_getBytes_0 := by decide +kernel
theorem dksJ14_getBytes_1 : cJ14_getBytes.data.toList.drop 22 = dktJ14_getBytes_1 := dk_seg dksJ14_getBytes_0 22 rfl rfl
theorem dJ14_getBytes_0 : decode cJ14_getBytes 0 = .ok (.aload_n 0, 1) := dk_42 (dk_at dksJ14_getBytes_0 0 rfl rfl)
theorem dJ14_getBytes_1 : decode cJ14_getBytes 1 = .ok (.invokevirtual 335, 3) := dk_182 1 79 (dk_at dksJ14_getBytes_0 1 rfl rfl)
theorem dJ14_getBytes_4 : decode cJ14_getBytes 4 = .ok (.iload_n 3, 1) := dk_29 (dk_at dksJ14_getBytes_0 4 rfl rfl)
theorem dJ14_getBytes_5 : decode cJ14_getBytes 5 = .ok (.if_icmp .ne 23, 3) := dk_160 0 23 (dk_at dksJ14_getBytes_0 5 rfl rfl)
theorem dJ14_getBytes_8 : decode cJ14_getBytes 8 = .ok (.aload_n 0, 1) := dk_42 (dk_at dksJ14_getBytes_0 8 rfl rfl)
theorem dJ14_getBytes_9 : decode cJ14_getBytes 9 = .ok (.getfield 9, 3) := dk_180 0 9 (dk_at dksJ14_getBytes_0 9 rfl rfl)
theorem dJ14_getBytes_12 : decode cJ14_getBytes 12 = .ok (.iconst 0, 1) := dk_3 (dk_at dksJ14_getBytes_0 12 rfl rfl)
theorem dJ14_getBytes_13 : decode cJ14_getBytes 13 = .ok (.aload_n 1, 1) := dk_43 (dk_at dksJ14_getBytes_0 13 rfl rfl)
theorem dJ14_getBytes_14 : decode cJ14_getBytes 14 = .ok (.iload_n 2, 1) := dk_28 (dk_at dksJ14_getBytes_0 14 rfl rfl)
theorem dJ14_getBytes_15 : decode cJ14_getBytes 15 = .ok (.iload_n 3, 1) := dk_29 (dk_at dksJ14_getBytes_0 15 rfl rfl)
theorem dJ14_getBytes_16 : decode cJ14_getBytes 16 = .ok (.ishl, 1) := dk_120 (dk_at dksJ14_getBytes_0 16 rfl rfl)
theorem dJ14_getBytes_17 : decode cJ14_getBytes 17 = .ok (.aload_n 0, 1) := dk_42 (dk_at dksJ14_getBytes_0 17 rfl rfl)
theorem dJ14_getBytes_18 : decode cJ14_getBytes 18 = .ok (.getfield 9, 3) := dk_180 0 9 (dk_at dksJ14_getBytes_0 18 rfl rfl)
theorem dJ14_getBytes_21 : decode cJ14_getBytes 21 = .ok (.arraylength, 1) := dk_190 (dk_at dksJ14_getBytes_0 21 rfl rfl)
theorem dJ14_getBytes_22 : decode cJ14_getBytes 22 = .ok (.invokestatic 212, 3) := dk_184 0 212 (dk_at dksJ14_getBytes_1 0 rfl rfl)
theorem dJ14_getBytes_25 : decode cJ14_getBytes 25 = .ok (.goto 18, 3) := dk_167 0 18 (dk_at dksJ14_getBytes_1 3 rfl rfl)
theorem dJ14_getBytes_28 : decode cJ14_getBytes 28 = .ok (.aload_n 0, 1) := dk_42 (dk_at dksJ14_getBytes_1 6 rfl rfl)
theorem dJ14_getBytes_29 : decode cJ14_getBytes 29 = .ok (.getfield 9, 3) := dk_180 0 9 (dk_at dksJ14_getBytes_1 7 rfl rfl)
theorem dJ14_getBytes_32 : decode cJ14_getBytes 32 = .ok (.iconst 0, 1) := dk_3 (dk_at dksJ14_getBytes_1 10 rfl rfl)
theorem dJ14_getBytes_33 : decode cJ14_getBytes 33 = .ok (.aload_n 1, 1) := dk_43 (dk_at dksJ14_getBytes_1 11 rfl rfl)
theorem dJ14_getBytes_34 : decode cJ14_getBytes 34 = .ok (.iload_n 2, 1) := dk_28 (dk_at dksJ14_getBytes_1 12 rfl rfl)
theorem dJ14_getBytes_35 : decode cJ14_getBytes 35 = .ok (.aload_n 0, 1) := dk_42 (dk_at dksJ14_getBytes_1 13 rfl rfl)
theorem dJ14_getBytes_36 : decode cJ14_getBytes 36 = .ok (.getfield 9, 3) := dk_180 0 9 (dk_at dksJ14_getBytes_1 14 rfl rfl)
theorem dJ14_getBytes_39 : decode cJ14_getBytes 39 = .ok (.arraylength, 1) := dk_190 (dk_at dksJ14_getBytes_1 17 rfl rfl)
theorem dJ14_getBytes_40 : decode cJ14_getBytes 40 = .ok (.invokestatic 106, 3) := dk_184 0 106 (dk_at dksJ14_getBytes_1 18 rfl rfl)
theorem dJ14_getBytes_43 : decode cJ14_getBytes 43 = .ok (.return_, 1) := dk_177 (dk_at dksJ14_getBytes_1 21 rfl rfl)
abbrev cJ14_init : ByteArray := prog_25_method_53_code
def yJ14_init : MethodName := ⟨RJ14, "<init>", "(Ljava/lang/StringBuilder;)V"⟩
def dkwJ14_init_0 : List UInt8 := [42, 43, 1, 183, 1, 233, 177]
abbrev dktJ14_init_0 : List UInt8 := dkwJ14_init_0 ++ []
theorem dksJ14_init_0 : cJ14_init.data.toList.drop 0 = dktJ14_init_0 := by decide +kernel
theorem dJ14_init_0 : decode cJ14_init 0 = .ok (.aload_n 0, 1) := dk_42 (dk_at dksJ14_init_0 0 rfl rfl)
theorem dJ14_init_1 : decode cJ14_init 1 = .ok (.aload_n 1, 1) := dk_43 (dk_at dksJ14_init_0 1 rfl rfl)
theorem dJ14_init_2 : decode cJ14_init 2 = .ok (.aconst_null, 1) := dk_1 (dk_at dksJ14_init_0 2 rfl rfl)
theorem dJ14_init_3 : decode cJ14_init 3 = .ok (.invokespecial 489, 3) := dk_183 1 233 (dk_at dksJ14_init_0 3 rfl rfl)
theorem dJ14_init_6 : decode cJ14_init 6 = .ok (.return_, 1) := dk_177 (dk_at dksJ14_init_0 6 rfl rfl)
abbrev cJ14_init_2 : ByteArray := prog_25_method_150_code
def yJ14_init_2 : MethodName := ⟨RJ14, "<init>", "(Ljava/lang/AbstractStringBuilder;Ljava/lang/Void;)V"⟩
def dkwJ14_init_2_4 : List UInt8 := [181, 0, 9, 177]
abbrev dktJ14_init_2_4 : List UInt8 := dkwJ14_init_2_4 ++ []
def dkwJ14_init_2_3 : List UInt8 := [184, 0, 47, 181, 0, 15, 177, 42, 4, 181, 0, 15, 42, 45, 3, 21, 4, 4, 120, 184, 0, 54]
abbrev dktJ14_init_2_3 : List UInt8 := dkwJ14_init_2_3 ++ dktJ14_init_2_4
def dkwJ14_init_2_2 : List UInt8 := [180, 4, 24, 153, 0, 28, 42, 45, 3, 21, 4, 184, 4, 27, 181, 0, 9, 42, 42, 180, 0, 9, 21, 4]
abbrev dktJ14_init_2_2 : List UInt8 := dkwJ14_init_2_2 ++ dktJ14_init_2_3
def dkwJ14_init_2_1 : List UInt8 := [181, 0, 15, 42, 45, 3, 21, 4, 184, 0, 54, 181, 0, 9, 167, 0, 59, 178, 0, 38, 153, 0, 35, 43]
abbrev dktJ14_init_2_1 : List UInt8 := dkwJ14_init_2_1 ++ dktJ14_init_2_2
def dkwJ14_init_2_0 : List UInt8 := [42, 183, 0, 1, 43, 182, 2, 40, 78, 43, 182, 2, 37, 54, 4, 43, 182, 4, 23, 153, 0, 22, 42, 3]
abbrev dktJ14_init_2_0 : List UInt8 := dkwJ14_init_2_0 ++ dktJ14_init_2_1
theorem dksJ14_init_2_0 : cJ14_init_2.data.toList.drop 0 = dktJ14_init_2_0 := by decide +kernel
theorem dksJ14_init_2_1 : cJ14_init_2.data.toList.drop 24 = dktJ14_init_2_1 := dk_seg dksJ14_init_2_0 24 rfl rfl
theorem dksJ14_init_2_2 : cJ14_init_2.data.toList.drop 48 = dktJ14_init_2_2 := dk_seg dksJ14_init_2_1 24 rfl rfl
theorem dksJ14_init_2_3 : cJ14_init_2.data.toList.drop 72 = dktJ14_init_2_3 := dk_seg dksJ14_init_2_2 24 rfl rfl
theorem dksJ14_init_2_4 : cJ14_init_2.data.toList.drop 94 = dktJ14_init_2_4 := dk_seg dksJ14_init_2_3 22 rfl rfl
theorem dJ14_init_2_0 : decode cJ14_init_2 0 = .ok (.aload_n 0, 1) := dk_42 (dk_at dksJ14_init_2_0 0 rfl rfl)
theorem dJ14_init_2_1 : decode cJ14_init_2 1 = .ok (.invokespecial 1, 3) := dk_183 0 1 (dk_at dksJ14_init_2_0 1 rfl rfl)
theorem dJ14_init_2_4 : decode cJ14_init_2 4 = .ok (.aload_n 1, 1) := dk_43 (dk_at dksJ14_init_2_0 4 rfl rfl)
theorem dJ14_init_2_5 : decode cJ14_init_2 5 = .ok (.invokevirtual 552, 3) := dk_182 2 40 (dk_at dksJ14_init_2_0 5 rfl rfl)
theorem dJ14_init_2_8 : decode cJ14_init_2 8 = .ok (.astore_n 3, 1) := dk_78 (dk_at dksJ14_init_2_0 8 rfl rfl)
theorem dJ14_init_2_9 : decode cJ14_init_2 9 = .ok (.aload_n 1, 1) := dk_43 (dk_at dksJ14_init_2_0 9 rfl rfl)
theorem dJ14_init_2_10 : decode cJ14_init_2 10 = .ok (.invokevirtual 549, 3) := dk_182 2 37 (dk_at dksJ14_init_2_0 10 rfl rfl)
theorem dJ14_init_2_13 : decode cJ14_init_2 13 = .ok (.istore 4, 2) := dk_54 4 (dk_at dksJ14_init_2_0 13 rfl rfl)
theorem dJ14_init_2_15 : decode cJ14_init_2 15 = .ok (.aload_n 1, 1) := dk_43 (dk_at dksJ14_init_2_0 15 rfl rfl)
theorem dJ14_init_2_16 : decode cJ14_init_2 16 = .ok (.invokevirtual 1047, 3) := dk_182 4 23 (dk_at dksJ14_init_2_0 16 rfl rfl)
theorem dJ14_init_2_19 : decode cJ14_init_2 19 = .ok (.ifCond .eq 22, 3) := dk_153 0 22 (dk_at dksJ14_init_2_0 19 rfl rfl)
theorem dJ14_init_2_22 : decode cJ14_init_2 22 = .ok (.aload_n 0, 1) := dk_42 (dk_at dksJ14_init_2_0 22 rfl rfl)
theorem dJ14_init_2_23 : decode cJ14_init_2 23 = .ok (.iconst 0, 1) := dk_3 (dk_at dksJ14_init_2_0 23 rfl rfl)
theorem dJ14_init_2_24 : decode cJ14_init_2 24 = .ok (.putfield 15, 3) := dk_181 0 15 (dk_at dksJ14_init_2_1 0 rfl rfl)
theorem dJ14_init_2_27 : decode cJ14_init_2 27 = .ok (.aload_n 0, 1) := dk_42 (dk_at dksJ14_init_2_1 3 rfl rfl)
theorem dJ14_init_2_28 : decode cJ14_init_2 28 = .ok (.aload_n 3, 1) := dk_45 (dk_at dksJ14_init_2_1 4 rfl rfl)
theorem dJ14_init_2_29 : decode cJ14_init_2 29 = .ok (.iconst 0, 1) := dk_3 (dk_at dksJ14_init_2_1 5 rfl rfl)
theorem dJ14_init_2_30 : decode cJ14_init_2 30 = .ok (.iload 4, 2) := dk_21 4 (dk_at dksJ14_init_2_1 6 rfl rfl)
theorem dJ14_init_2_32 : decode cJ14_init_2 32 = .ok (.invokestatic 54, 3) := dk_184 0 54 (dk_at dksJ14_init_2_1 8 rfl rfl)
theorem dJ14_init_2_35 : decode cJ14_init_2 35 = .ok (.putfield 9, 3) := dk_181 0 9 (dk_at dksJ14_init_2_1 11 rfl rfl)
theorem dJ14_init_2_38 : decode cJ14_init_2 38 = .ok (.goto 59, 3) := dk_167 0 59 (dk_at dksJ14_init_2_1 14 rfl rfl)
theorem dJ14_init_2_41 : decode cJ14_init_2 41 = .ok (.getstatic 38, 3) := dk_178 0 38 (dk_at dksJ14_init_2_1 17 rfl rfl)
theorem dJ14_init_2_44 : decode cJ14_init_2 44 = .ok (.ifCond .eq 35, 3) := dk_153 0 35 (dk_at dksJ14_init_2_1 20 rfl rfl)
theorem dJ14_init_2_47 : decode cJ14_init_2 47 = .ok (.aload_n 1, 1) := dk_43 (dk_at dksJ14_init_2_1 23 rfl rfl)
theorem dJ14_init_2_48 : decode cJ14_init_2 48 = .ok (.getfield 1048, 3) := dk_180 4 24 (dk_at dksJ14_init_2_2 0 rfl rfl)
theorem dJ14_init_2_51 : decode cJ14_init_2 51 = .ok (.ifCond .eq 28, 3) := dk_153 0 28 (dk_at dksJ14_init_2_2 3 rfl rfl)
theorem dJ14_init_2_54 : decode cJ14_init_2 54 = .ok (.aload_n 0, 1) := dk_42 (dk_at dksJ14_init_2_2 6 rfl rfl)
theorem dJ14_init_2_55 : decode cJ14_init_2 55 = .ok (.aload_n 3, 1) := dk_45 (dk_at dksJ14_init_2_2 7 rfl rfl)
theorem dJ14_init_2_56 : decode cJ14_init_2 56 = .ok (.iconst 0, 1) := dk_3 (dk_at dksJ14_init_2_2 8 rfl rfl)
theorem dJ14_init_2_57 : decode cJ14_init_2 57 = .ok (.iload 4, 2) := dk_21 4 (dk_at dksJ14_init_2_2 9 rfl rfl)
theorem dJ14_init_2_59 : decode cJ14_init_2 59 = .ok (.invokestatic 1051, 3) := dk_184 4 27 (dk_at dksJ14_init_2_2 11 rfl rfl)
theorem dJ14_init_2_62 : decode cJ14_init_2 62 = .ok (.putfield 9, 3) := dk_181 0 9 (dk_at dksJ14_init_2_2 14 rfl rfl)
theorem dJ14_init_2_65 : decode cJ14_init_2 65 = .ok (.aload_n 0, 1) := dk_42 (dk_at dksJ14_init_2_2 17 rfl rfl)
theorem dJ14_init_2_66 : decode cJ14_init_2 66 = .ok (.aload_n 0, 1) := dk_42 (dk_at dksJ14_init_2_2 18 rfl rfl)
theorem dJ14_init_2_67 : decode cJ14_init_2 67 = .ok (.getfield 9, 3) := dk_180 0 9 (dk_at dksJ14_init_2_2 19 rfl rfl)
theorem dJ14_init_2_70 : decode cJ14_init_2 70 = .ok (.iload 4, 2) := dk_21 4 (dk_at dksJ14_init_2_2 22 rfl rfl)
theorem dJ14_init_2_72 : decode cJ14_init_2 72 = .ok (.invokestatic 47, 3) := dk_184 0 47 (dk_at dksJ14_init_2_3 0 rfl rfl)
theorem dJ14_init_2_75 : decode cJ14_init_2 75 = .ok (.putfield 15, 3) := dk_181 0 15 (dk_at dksJ14_init_2_3 3 rfl rfl)
theorem dJ14_init_2_78 : decode cJ14_init_2 78 = .ok (.return_, 1) := dk_177 (dk_at dksJ14_init_2_3 6 rfl rfl)
theorem dJ14_init_2_79 : decode cJ14_init_2 79 = .ok (.aload_n 0, 1) := dk_42 (dk_at dksJ14_init_2_3 7 rfl rfl)
theorem dJ14_init_2_80 : decode cJ14_init_2 80 = .ok (.iconst 1, 1) := dk_4 (dk_at dksJ14_init_2_3 8 rfl rfl)
theorem dJ14_init_2_81 : decode cJ14_init_2 81 = .ok (.putfield 15, 3) := dk_181 0 15 (dk_at dksJ14_init_2_3 9 rfl rfl)
theorem dJ14_init_2_84 : decode cJ14_init_2 84 = .ok (.aload_n 0, 1) := dk_42 (dk_at dksJ14_init_2_3 12 rfl rfl)
theorem dJ14_init_2_85 : decode cJ14_init_2 85 = .ok (.aload_n 3, 1) := dk_45 (dk_at dksJ14_init_2_3 13 rfl rfl)
theorem dJ14_init_2_86 : decode cJ14_init_2 86 = .ok (.iconst 0, 1) := dk_3 (dk_at dksJ14_init_2_3 14 rfl rfl)
theorem dJ14_init_2_87 : decode cJ14_init_2 87 = .ok (.iload 4, 2) := dk_21 4 (dk_at dksJ14_init_2_3 15 rfl rfl)
theorem dJ14_init_2_89 : decode cJ14_init_2 89 = .ok (.iconst 1, 1) := dk_4 (dk_at dksJ14_init_2_3 17 rfl rfl)
theorem dJ14_init_2_90 : decode cJ14_init_2 90 = .ok (.ishl, 1) := dk_120 (dk_at dksJ14_init_2_3 18 rfl rfl)
theorem dJ14_init_2_91 : decode cJ14_init_2 91 = .ok (.invokestatic 54, 3) := dk_184 0 54 (dk_at dksJ14_init_2_3 19 rfl rfl)
theorem dJ14_init_2_94 : decode cJ14_init_2 94 = .ok (.putfield 9, 3) := dk_181 0 9 (dk_at dksJ14_init_2_4 0 rfl rfl)
theorem dJ14_init_2_97 : decode cJ14_init_2 97 = .ok (.return_, 1) := dk_177 (dk_at dksJ14_init_2_4 3 rfl rfl)
abbrev cJ14_equals : ByteArray := prog_25_method_66_code
def yJ14_equals : MethodName := ⟨RJ14, "equals", "(Ljava/lang/Object;)Z"⟩
def dkwJ14_equals_2 : List UInt8 := [184, 2, 29, 153, 0, 7, 4, 167, 0, 4, 3, 172]
abbrev dktJ14_equals_2 : List UInt8 := dkwJ14_equals_2 ++ []
def dkwJ14_equals_1 : List UInt8 := [153, 0, 14, 42, 180, 0, 15, 44, 180, 0, 15, 160, 0, 21, 42, 180, 0, 9, 44, 180, 0, 9]
abbrev dktJ14_equals_1 : List UInt8 := dkwJ14_equals_1 ++ dktJ14_equals_2
def dkwJ14_equals_0 : List UInt8 := [42, 43, 166, 0, 5, 4, 172, 43, 193, 0, 10, 153, 0, 43, 43, 192, 0, 10, 77, 178, 0, 38]
abbrev dktJ14_equals_0 : List UInt8 := dkwJ14_equals_0 ++ dktJ14_equals_1
theorem dksJ14_equals_0 : cJ14_equals.data.toList.drop 0 = dktJ14_equals_0 := by decide +kernel
theorem dksJ14_equals_1 : cJ14_equals.data.toList.drop 22 = dktJ14_equals_1 := dk_seg dksJ14_equals_0 22 rfl rfl
theorem dksJ14_equals_2 : cJ14_equals.data.toList.drop 44 = dktJ14_equals_2 := dk_seg dksJ14_equals_1 22 rfl rfl
theorem dJ14_equals_0 : decode cJ14_equals 0 = .ok (.aload_n 0, 1) := dk_42 (dk_at dksJ14_equals_0 0 rfl rfl)
theorem dJ14_equals_1 : decode cJ14_equals 1 = .ok (.aload_n 1, 1) := dk_43 (dk_at dksJ14_equals_0 1 rfl rfl)
theorem dJ14_equals_2 : decode cJ14_equals 2 = .ok (.if_acmp .ne 5, 3) := dk_166 0 5 (dk_at dksJ14_equals_0 2 rfl rfl)
theorem dJ14_equals_5 : decode cJ14_equals 5 = .ok (.iconst 1, 1) := dk_4 (dk_at dksJ14_equals_0 5 rfl rfl)
theorem dJ14_equals_6 : decode cJ14_equals 6 = .ok (.ireturn, 1) := dk_172 (dk_at dksJ14_equals_0 6 rfl rfl)
theorem dJ14_equals_7 : decode cJ14_equals 7 = .ok (.aload_n 1, 1) := dk_43 (dk_at dksJ14_equals_0 7 rfl rfl)
theorem dJ14_equals_8 : decode cJ14_equals 8 = .ok (.instanceof 10, 3) := dk_193 0 10 (dk_at dksJ14_equals_0 8 rfl rfl)
theorem dJ14_equals_11 : decode cJ14_equals 11 = .ok (.ifCond .eq 43, 3) := dk_153 0 43 (dk_at dksJ14_equals_0 11 rfl rfl)
theorem dJ14_equals_14 : decode cJ14_equals 14 = .ok (.aload_n 1, 1) := dk_43 (dk_at dksJ14_equals_0 14 rfl rfl)
theorem dJ14_equals_15 : decode cJ14_equals 15 = .ok (.checkcast 10, 3) := dk_192 0 10 (dk_at dksJ14_equals_0 15 rfl rfl)
theorem dJ14_equals_18 : decode cJ14_equals 18 = .ok (.astore_n 2, 1) := dk_77 (dk_at dksJ14_equals_0 18 rfl rfl)
theorem dJ14_equals_19 : decode cJ14_equals 19 = .ok (.getstatic 38, 3) := dk_178 0 38 (dk_at dksJ14_equals_0 19 rfl rfl)
theorem dJ14_equals_22 : decode cJ14_equals 22 = .ok (.ifCond .eq 14, 3) := dk_153 0 14 (dk_at dksJ14_equals_1 0 rfl rfl)
theorem dJ14_equals_25 : decode cJ14_equals 25 = .ok (.aload_n 0, 1) := dk_42 (dk_at dksJ14_equals_1 3 rfl rfl)
theorem dJ14_equals_26 : decode cJ14_equals 26 = .ok (.getfield 15, 3) := dk_180 0 15 (dk_at dksJ14_equals_1 4 rfl rfl)
theorem dJ14_equals_29 : decode cJ14_equals 29 = .ok (.aload_n 2, 1) := dk_44 (dk_at dksJ14_equals_1 7 rfl rfl)
theorem dJ14_equals_30 : decode cJ14_equals 30 = .ok (.getfield 15, 3) := dk_180 0 15 (dk_at dksJ14_equals_1 8 rfl rfl)
theorem dJ14_equals_33 : decode cJ14_equals 33 = .ok (.if_icmp .ne 21, 3) := dk_160 0 21 (dk_at dksJ14_equals_1 11 rfl rfl)
theorem dJ14_equals_36 : decode cJ14_equals 36 = .ok (.aload_n 0, 1) := dk_42 (dk_at dksJ14_equals_1 14 rfl rfl)
theorem dJ14_equals_37 : decode cJ14_equals 37 = .ok (.getfield 9, 3) := dk_180 0 9 (dk_at dksJ14_equals_1 15 rfl rfl)
theorem dJ14_equals_40 : decode cJ14_equals 40 = .ok (.aload_n 2, 1) := dk_44 (dk_at dksJ14_equals_1 18 rfl rfl)
theorem dJ14_equals_41 : decode cJ14_equals 41 = .ok (.getfield 9, 3) := dk_180 0 9 (dk_at dksJ14_equals_1 19 rfl rfl)
theorem dJ14_equals_44 : decode cJ14_equals 44 = .ok (.invokestatic 541, 3) := dk_184 2 29 (dk_at dksJ14_equals_2 0 rfl rfl)
theorem dJ14_equals_47 : decode cJ14_equals 47 = .ok (.ifCond .eq 7, 3) := dk_153 0 7 (dk_at dksJ14_equals_2 3 rfl rfl)
theorem dJ14_equals_50 : decode cJ14_equals 50 = .ok (.iconst 1, 1) := dk_4 (dk_at dksJ14_equals_2 6 rfl rfl)
theorem dJ14_equals_51 : decode cJ14_equals 51 = .ok (.goto 4, 3) := dk_167 0 4 (dk_at dksJ14_equals_2 7 rfl rfl)
theorem dJ14_equals_54 : decode cJ14_equals 54 = .ok (.iconst 0, 1) := dk_3 (dk_at dksJ14_equals_2 10 rfl rfl)
theorem dJ14_equals_55 : decode cJ14_equals 55 = .ok (.ireturn, 1) := dk_172 (dk_at dksJ14_equals_2 11 rfl rfl)
abbrev cJ14_isEmpty : ByteArray := prog_25_method_55_code
def yJ14_isEmpty : MethodName := ⟨RJ14, "isEmpty", "()Z"⟩
def dkwJ14_isEmpty_0 : List UInt8 := [42, 180, 0, 9, 190, 154, 0, 7, 4, 167, 0, 4, 3, 172]
abbrev dktJ14_isEmpty_0 : List UInt8 := dkwJ14_isEmpty_0 ++ []
theorem dksJ14_isEmpty_0 : cJ14_isEmpty.data.toList.drop 0 = dktJ14_isEmpty_0 := by decide +kernel
theorem dJ14_isEmpty_0 : decode cJ14_isEmpty 0 = .ok (.aload_n 0, 1) := dk_42 (dk_at dksJ14_isEmpty_0 0 rfl rfl)
theorem dJ14_isEmpty_1 : decode cJ14_isEmpty 1 = .ok (.getfield 9, 3) := dk_180 0 9 (dk_at dksJ14_isEmpty_0 1 rfl rfl)
theorem dJ14_isEmpty_4 : decode cJ14_isEmpty 4 = .ok (.arraylength, 1) := dk_190 (dk_at dksJ14_isEmpty_0 4 rfl rfl)
theorem dJ14_isEmpty_5 : decode cJ14_isEmpty 5 = .ok (.ifCond .ne 7, 3) := dk_154 0 7 (dk_at dksJ14_isEmpty_0 5 rfl rfl)
theorem dJ14_isEmpty_8 : decode cJ14_isEmpty 8 = .ok (.iconst 1, 1) := dk_4 (dk_at dksJ14_isEmpty_0 8 rfl rfl)
theorem dJ14_isEmpty_9 : decode cJ14_isEmpty 9 = .ok (.goto 4, 3) := dk_167 0 4 (dk_at dksJ14_isEmpty_0 9 rfl rfl)
theorem dJ14_isEmpty_12 : decode cJ14_isEmpty 12 = .ok (.iconst 0, 1) := dk_3 (dk_at dksJ14_isEmpty_0 12 rfl rfl)
theorem dJ14_isEmpty_13 : decode cJ14_isEmpty 13 = .ok (.ireturn, 1) := dk_172 (dk_at dksJ14_isEmpty_0 13 rfl rfl)
theorem q91 : (Jvm.Cond.initialized "java/lang/String") ∈ lw_all := lw_g (lw_at lw_m1 20 rfl) rfl
theorem q278 : (Jvm.Cond.selects "java/lang/String" ({ cls := "java/lang/Object", name := "getClass", desc := "()Ljava/lang/Class;" } : Jvm.MethodName) ({ cls := "java/lang/Object", name := "getClass", desc := "()Ljava/lang/Class;" } : Jvm.MethodName)) ∈ lw_all := lw_g (lw_at lw_m1 207 rfl) rfl
theorem q413 : (Jvm.Cond.castable "java/lang/String" "java/lang/Comparable") ∈ lw_tbl := lw_at lw_m2 102 rfl
theorem q414 : (Jvm.Cond.selects "java/lang/String" ({ cls := "java/lang/Comparable", name := "compareTo", desc := "(Ljava/lang/Object;)I" } : Jvm.MethodName) ({ cls := "java/lang/String", name := "compareTo", desc := "(Ljava/lang/Object;)I" } : Jvm.MethodName)) ∈ lw_all := lw_g (lw_at lw_m2 103 rfl) rfl
theorem q415 : (Jvm.Cond.unhidden "java/lang/String" "compareTo" "(Ljava/lang/Object;)I") ∈ lw_tbl := lw_at lw_m2 104 rfl
theorem q416 : (Jvm.Cond.instanceMethod ({ cls := "java/lang/String", name := "compareTo", desc := "(Ljava/lang/Object;)I" } : Jvm.MethodName)) ∈ lw_all := lw_g (lw_at lw_m2 105 rfl) rfl
theorem q417 : (Jvm.Cond.publicMethod ({ cls := "java/lang/String", name := "compareTo", desc := "(Ljava/lang/Object;)I" } : Jvm.MethodName)) ∈ lw_tbl := lw_at lw_m2 106 rfl
theorem q418 : (Jvm.Cond.code ({ cls := "java/lang/String", name := "compareTo", desc := "(Ljava/lang/Object;)I" } : Jvm.MethodName) prog_25_method_162_code (2 : Nat) (Option.some Jvm.ClassFile.FieldType.int)) ∈ lw_all := lw_g (lw_at lw_m2 107 rfl) rfl
theorem q419 : (Jvm.Cond.classLink "java/lang/String" (10 : Nat) "java/lang/String") ∈ lw_all := lw_g (lw_at lw_m2 108 rfl) rfl
theorem q420 : (Jvm.Cond.methodLink "java/lang/String" (1084 : Nat) ({ cls := "java/lang/String", name := "compareTo", desc := "(Ljava/lang/String;)I" } : Jvm.MethodName)) ∈ lw_all := lw_g (lw_at lw_m2 109 rfl) rfl
theorem q421 : (Jvm.Cond.instanceMethod ({ cls := "java/lang/String", name := "compareTo", desc := "(Ljava/lang/String;)I" } : Jvm.MethodName)) ∈ lw_all := lw_g (lw_at lw_m2 110 rfl) rfl
theorem q422 : (Jvm.Cond.selects "java/lang/String" ({ cls := "java/lang/String", name := "compareTo", desc := "(Ljava/lang/String;)I" } : Jvm.MethodName) ({ cls := "java/lang/String", name := "compareTo", desc := "(Ljava/lang/String;)I" } : Jvm.MethodName)) ∈ lw_all := lw_g (lw_at lw_m2 111 rfl) rfl
theorem q423 : (Jvm.Cond.code ({ cls := "java/lang/String", name := "compareTo", desc := "(Ljava/lang/String;)I" } : Jvm.MethodName) prog_25_method_71_code (5 : Nat) (Option.some Jvm.ClassFile.FieldType.int)) ∈ lw_all := lw_g (lw_at lw_m2 112 rfl) rfl
theorem q424 : (Jvm.Cond.methodLink "java/lang/String" (335 : Nat) ({ cls := "java/lang/String", name := "coder", desc := "()B" } : Jvm.MethodName)) ∈ lw_all := lw_g (lw_at lw_m2 113 rfl) rfl
theorem q425 : (Jvm.Cond.instanceMethod ({ cls := "java/lang/String", name := "coder", desc := "()B" } : Jvm.MethodName)) ∈ lw_all := lw_g (lw_at lw_m2 114 rfl) rfl
theorem q426 : (Jvm.Cond.selects "java/lang/String" ({ cls := "java/lang/String", name := "coder", desc := "()B" } : Jvm.MethodName) ({ cls := "java/lang/String", name := "coder", desc := "()B" } : Jvm.MethodName)) ∈ lw_all := lw_g (lw_at lw_m2 115 rfl) rfl
theorem q427 : (Jvm.Cond.code ({ cls := "java/lang/String", name := "coder", desc := "()B" } : Jvm.MethodName) prog_25_method_152_code (1 : Nat) (Option.some Jvm.ClassFile.FieldType.byte)) ∈ lw_all := lw_g (lw_at lw_m2 116 rfl) rfl
theorem q428 : (Jvm.Cond.fieldLink "java/lang/String" (38 : Nat) "java/lang/String" "COMPACT_STRINGS" "Z") ∈ lw_all := lw_g (lw_at lw_m2 117 rfl) rfl
theorem q429 : (Jvm.Cond.laysStatic "java/lang/String" "COMPACT_STRINGS" "Z") ∈ lw_tbl := lw_at lw_m2 118 rfl
theorem q430 : (Jvm.Cond.methodLink "java/lang/String" (586 : Nat) ({ cls := "java/lang/StringLatin1", name := "compareTo", desc := "([B[B)I" } : Jvm.MethodName)) ∈ lw_all := lw_g (lw_at lw_m2 119 rfl) rfl
theorem q544 : (Jvm.Cond.methodLink "java/lang/String" (590 : Nat) ({ cls := "java/lang/StringUTF16", name := "compareTo", desc := "([B[B)I" } : Jvm.MethodName)) ∈ lw_all := lw_g (lw_at lw_m2 233 rfl) rfl
theorem q563 : (Jvm.Cond.methodLink "java/lang/String" (591 : Nat) ({ cls := "java/lang/StringLatin1", name := "compareToUTF16", desc := "([B[B)I" } : Jvm.MethodName)) ∈ lw_all := lw_g (lw_at lw_m3 12 rfl) rfl
theorem q574 : (Jvm.Cond.methodLink "java/lang/String" (594 : Nat) ({ cls := "java/lang/StringUTF16", name := "compareToLatin1", desc := "([B[B)I" } : Jvm.MethodName)) ∈ lw_all := lw_g (lw_at lw_m3 23 rfl) rfl
theorem q607 : (Jvm.Cond.static ({ cls := "java/lang/String", name := "checkOffset", desc := "(II)V" } : Jvm.MethodName)) ∈ lw_all := lw_g (lw_at lw_m3 56 rfl) rfl
theorem q608 : (Jvm.Cond.code ({ cls := "java/lang/String", name := "checkOffset", desc := "(II)V" } : Jvm.MethodName) prog_25_method_156_code (2 : Nat) (Option.none : Option Jvm.ClassFile.FieldType)) ∈ lw_all := lw_g (lw_at lw_m3 57 rfl) rfl
theorem q609 : (Jvm.Cond.fieldLink "java/lang/String" (1053 : Nat) "jdk/internal/util/Preconditions" "SIOOBE_FORMATTER" "Ljava/util/function/BiFunction;") ∈ lw_all := lw_g (lw_at lw_m3 58 rfl) rfl
theorem q611 : (Jvm.Cond.methodLink "java/lang/String" (1062 : Nat) ({ cls := "jdk/internal/util/Preconditions", name := "checkFromToIndex", desc := "(IIILjava/util/function/BiFunction;)I" } : Jvm.MethodName)) ∈ lw_all := lw_g (lw_at lw_m3 60 rfl) rfl
theorem q648 : (Jvm.Cond.fieldLink "java/lang/String" (1048 : Nat) "java/lang/AbstractStringBuilder" "maybeLatin1" "Z") ∈ lw_all := lw_g (lw_at lw_m3 97 rfl) rfl
theorem q699 : (Jvm.Cond.static ({ cls := "java/lang/String", name := "checkBoundsBeginEnd", desc := "(III)V" } : Jvm.MethodName)) ∈ lw_all := lw_g (lw_at lw_m3 148 rfl) rfl
theorem q700 : (Jvm.Cond.code ({ cls := "java/lang/String", name := "checkBoundsBeginEnd", desc := "(III)V" } : Jvm.MethodName) prog_25_method_158_code (3 : Nat) (Option.none : Option Jvm.ClassFile.FieldType)) ∈ lw_all := lw_g (lw_at lw_m3 149 rfl) rfl
theorem q705 : (Jvm.Cond.instanceMethod ({ cls := "java/lang/String", name := "length", desc := "()I" } : Jvm.MethodName)) ∈ lw_all := lw_g (lw_at lw_m3 154 rfl) rfl
theorem q706 : (Jvm.Cond.selects "java/lang/String" ({ cls := "java/lang/String", name := "length", desc := "()I" } : Jvm.MethodName) ({ cls := "java/lang/String", name := "length", desc := "()I" } : Jvm.MethodName)) ∈ lw_all := lw_g (lw_at lw_m3 155 rfl) rfl
theorem q707 : (Jvm.Cond.code ({ cls := "java/lang/String", name := "length", desc := "()I" } : Jvm.MethodName) prog_25_method_54_code (1 : Nat) (Option.some Jvm.ClassFile.FieldType.int)) ∈ lw_all := lw_g (lw_at lw_m3 156 rfl) rfl
theorem q731 : (Jvm.Cond.static ({ cls := "java/lang/String", name := "checkBoundsOffCount", desc := "(III)I" } : Jvm.MethodName)) ∈ lw_all := lw_g (lw_at lw_m3 180 rfl) rfl
theorem q732 : (Jvm.Cond.code ({ cls := "java/lang/String", name := "checkBoundsOffCount", desc := "(III)I" } : Jvm.MethodName) prog_25_method_157_code (3 : Nat) (Option.some Jvm.ClassFile.FieldType.int)) ∈ lw_all := lw_g (lw_at lw_m3 181 rfl) rfl
theorem q733 : (Jvm.Cond.methodLink "java/lang/String" (1065 : Nat) ({ cls := "jdk/internal/util/Preconditions", name := "checkFromIndexSize", desc := "(IIILjava/util/function/BiFunction;)I" } : Jvm.MethodName)) ∈ lw_all := lw_g (lw_at lw_m3 182 rfl) rfl
theorem q737 : (Jvm.Cond.instanceMethod ({ cls := "java/lang/String", name := "getBytes", desc := "([BIB)V" } : Jvm.MethodName)) ∈ lw_all := lw_g (lw_at lw_m3 186 rfl) rfl
theorem q738 : (Jvm.Cond.selects "java/lang/String" ({ cls := "java/lang/String", name := "getBytes", desc := "([BIB)V" } : Jvm.MethodName) ({ cls := "java/lang/String", name := "getBytes", desc := "([BIB)V" } : Jvm.MethodName)) ∈ lw_all := lw_g (lw_at lw_m3 187 rfl) rfl
theorem q739 : (Jvm.Cond.code ({ cls := "java/lang/String", name := "getBytes", desc := "([BIB)V" } : Jvm.MethodName) prog_25_method_147_code (4 : Nat) (Option.none : Option Jvm.ClassFile.FieldType)) ∈ lw_all := lw_g (lw_at lw_m3 188 rfl) rfl
theorem q740 : (Jvm.Cond.methodLink "java/lang/String" (212 : Nat) ({ cls := "java/lang/System", name := "arraycopy", desc := "(Ljava/lang/Object;ILjava/lang/Object;II)V" } : Jvm.MethodName)) ∈ lw_all := lw_g (lw_at lw_m3 189 rfl) rfl
theorem q741 : (Jvm.Cond.methodLink "java/lang/String" (106 : Nat) ({ cls := "java/lang/StringLatin1", name := "inflate", desc := "([BI[BII)V" } : Jvm.MethodName)) ∈ lw_all := lw_g (lw_at lw_m3 190 rfl) rfl
theorem q772 : (Jvm.Cond.instantiable "java/lang/String" (4 : Nat)) ∈ lw_all := lw_g (lw_at lw_m3 221 rfl) rfl
theorem q774 : (Jvm.Cond.instanceMethod ({ cls := "java/lang/String", name := "<init>", desc := "(Ljava/lang/StringBuilder;)V" } : Jvm.MethodName)) ∈ lw_all := lw_g (lw_at lw_m3 223 rfl) rfl
theorem q775 : (Jvm.Cond.code ({ cls := "java/lang/String", name := "<init>", desc := "(Ljava/lang/StringBuilder;)V" } : Jvm.MethodName) prog_25_method_53_code (2 : Nat) (Option.none : Option Jvm.ClassFile.FieldType)) ∈ lw_all := lw_g (lw_at lw_m3 224 rfl) rfl
theorem q776 : (Jvm.Cond.methodLink "java/lang/String" (489 : Nat) ({ cls := "java/lang/String", name := "<init>", desc := "(Ljava/lang/AbstractStringBuilder;Ljava/lang/Void;)V" } : Jvm.MethodName)) ∈ lw_all := lw_g (lw_at lw_m3 225 rfl) rfl
theorem q777 : (Jvm.Cond.instanceMethod ({ cls := "java/lang/String", name := "<init>", desc := "(Ljava/lang/AbstractStringBuilder;Ljava/lang/Void;)V" } : Jvm.MethodName)) ∈ lw_all := lw_g (lw_at lw_m3 226 rfl) rfl
theorem q778 : (Jvm.Cond.code ({ cls := "java/lang/String", name := "<init>", desc := "(Ljava/lang/AbstractStringBuilder;Ljava/lang/Void;)V" } : Jvm.MethodName) prog_25_method_150_code (5 : Nat) (Option.none : Option Jvm.ClassFile.FieldType)) ∈ lw_all := lw_g (lw_at lw_m3 227 rfl) rfl
theorem q779 : (Jvm.Cond.methodLink "java/lang/String" (1 : Nat) ({ cls := "java/lang/Object", name := "<init>", desc := "()V" } : Jvm.MethodName)) ∈ lw_all := lw_g (lw_at lw_m3 228 rfl) rfl
theorem q780 : (Jvm.Cond.methodLink "java/lang/String" (552 : Nat) ({ cls := "java/lang/AbstractStringBuilder", name := "getValue", desc := "()[B" } : Jvm.MethodName)) ∈ lw_all := lw_g (lw_at lw_m3 229 rfl) rfl
theorem q785 : (Jvm.Cond.methodLink "java/lang/String" (549 : Nat) ({ cls := "java/lang/AbstractStringBuilder", name := "length", desc := "()I" } : Jvm.MethodName)) ∈ lw_all := lw_g (lw_at lw_m3 234 rfl) rfl
theorem q793 : (Jvm.Cond.methodLink "java/lang/String" (1047 : Nat) ({ cls := "java/lang/AbstractStringBuilder", name := "isLatin1", desc := "()Z" } : Jvm.MethodName)) ∈ lw_all := lw_g (lw_at lw_m4 2 rfl) rfl
theorem q794 : (Jvm.Cond.methodLink "java/lang/String" (54 : Nat) ({ cls := "java/util/Arrays", name := "copyOfRange", desc := "([BII)[B" } : Jvm.MethodName)) ∈ lw_all := lw_g (lw_at lw_m4 3 rfl) rfl
theorem q875 : (Jvm.Cond.methodLink "java/lang/String" (1051 : Nat) ({ cls := "java/lang/StringUTF16", name := "compress", desc := "([BII)[B" } : Jvm.MethodName)) ∈ lw_all := lw_g (lw_at lw_m4 84 rfl) rfl
theorem q882 : (Jvm.Cond.methodLink "java/lang/String" (47 : Nat) ({ cls := "java/lang/StringUTF16", name := "coderFromArrayLen", desc := "([BI)B" } : Jvm.MethodName)) ∈ lw_all := lw_g (lw_at lw_m4 91 rfl) rfl
theorem q885 : (Jvm.Cond.fieldLink "java/lang/String" (9 : Nat) "java/lang/String" "value" "[B") ∈ lw_all := lw_g (lw_at lw_m4 94 rfl) rfl
theorem q886 : (Jvm.Cond.fieldLink "java/lang/String" (15 : Nat) "java/lang/String" "coder" "B") ∈ lw_all := lw_g (lw_at lw_m4 95 rfl) rfl
theorem q887 : (Jvm.Cond.laysFinal "java/lang/String" "java/lang/String" "value" "[B") ∈ lw_all := lw_g (lw_at lw_m4 96 rfl) rfl
theorem q888 : (Jvm.Cond.soleField "java/lang/String" "value") ∈ lw_all := lw_g (lw_at lw_m4 97 rfl) rfl
theorem q889 : (Jvm.Cond.laysFinal "java/lang/String" "java/lang/String" "coder" "B") ∈ lw_all := lw_g (lw_at lw_m4 98 rfl) rfl
theorem q890 : (Jvm.Cond.soleField "java/lang/String" "coder") ∈ lw_all := lw_g (lw_at lw_m4 99 rfl) rfl
theorem q891 : (Jvm.Cond.lays "java/lang/String" "java/lang/String" "hash" "I") ∈ lw_all := lw_g (lw_at lw_m4 100 rfl) rfl
theorem q892 : (Jvm.Cond.soleField "java/lang/String" "hash") ∈ lw_all := lw_g (lw_at lw_m4 101 rfl) rfl
theorem q893 : (Jvm.Cond.lays "java/lang/String" "java/lang/String" "hashIsZero" "Z") ∈ lw_all := lw_g (lw_at lw_m4 102 rfl) rfl
theorem q894 : (Jvm.Cond.soleField "java/lang/String" "hashIsZero") ∈ lw_all := lw_g (lw_at lw_m4 103 rfl) rfl
theorem q895 : (Jvm.Cond.superclass "java/lang/String" "java/lang/Object") ∈ lw_all := lw_g (lw_at lw_m4 104 rfl) rfl
theorem q2058 : (Jvm.Cond.instanceMethod ({ cls := "java/lang/String", name := "equals", desc := "(Ljava/lang/Object;)Z" } : Jvm.MethodName)) ∈ lw_all := lw_g (lw_at lw_m9 67 rfl) rfl
theorem q2059 : (Jvm.Cond.selects "java/lang/String" ({ cls := "java/lang/String", name := "equals", desc := "(Ljava/lang/Object;)Z" } : Jvm.MethodName) ({ cls := "java/lang/String", name := "equals", desc := "(Ljava/lang/Object;)Z" } : Jvm.MethodName)) ∈ lw_all := lw_g (lw_at lw_m9 68 rfl) rfl
theorem q2060 : (Jvm.Cond.code ({ cls := "java/lang/String", name := "equals", desc := "(Ljava/lang/Object;)Z" } : Jvm.MethodName) prog_25_method_66_code (3 : Nat) (Option.some Jvm.ClassFile.FieldType.boolean)) ∈ lw_all := lw_g (lw_at lw_m9 69 rfl) rfl
theorem q2061 : (Jvm.Cond.methodLink "java/lang/String" (541 : Nat) ({ cls := "java/lang/StringLatin1", name := "equals", desc := "([B[B)Z" } : Jvm.MethodName)) ∈ lw_all := lw_g (lw_at lw_m9 70 rfl) rfl
theorem q2069 : (Jvm.Cond.instanceMethod ({ cls := "java/lang/String", name := "isEmpty", desc := "()Z" } : Jvm.MethodName)) ∈ lw_all := lw_g (lw_at lw_m9 78 rfl) rfl
theorem q2070 : (Jvm.Cond.selects "java/lang/String" ({ cls := "java/lang/String", name := "isEmpty", desc := "()Z" } : Jvm.MethodName) ({ cls := "java/lang/String", name := "isEmpty", desc := "()Z" } : Jvm.MethodName)) ∈ lw_all := lw_g (lw_at lw_m9 79 rfl) rfl
theorem q2071 : (Jvm.Cond.code ({ cls := "java/lang/String", name := "isEmpty", desc := "()Z" } : Jvm.MethodName) prog_25_method_55_code (1 : Nat) (Option.some Jvm.ClassFile.FieldType.boolean)) ∈ lw_all := lw_g (lw_at lw_m9 80 rfl) rfl
theorem q2209 : (Jvm.Cond.castable "java/lang/String" "java/lang/Object") ∈ lw_tbl := lw_at lw_m9 218 rfl
theorem in_J14 : ∀ w ∈ wsJ140, w ∈ lw_all := lw_in wsJ140 [887, 889, 891, 893] (by decide +kernel) (by decide +kernel)

-- J15.java_util_Objects.lean.txt
/-! java/util/Objects -/
set_option maxRecDepth 100000
def RJ15 : String := "java/util/Objects"
abbrev cJ15_checkIndex : ByteArray := prog_47_method_17_code
def yJ15_checkIndex : MethodName := ⟨RJ15, "checkIndex", "(II)I"⟩
def dkwJ15_checkIndex_0 : List UInt8 := [26, 27, 1, 184, 0, 105, 172]
abbrev dktJ15_checkIndex_0 : List UInt8 := dkwJ15_checkIndex_0 ++ []
theorem dksJ15_checkIndex_0 : cJ15_checkIndex.data.toList.drop 0 = dktJ15_checkIndex_0 := by decide +kernel
theorem dJ15_checkIndex_0 : decode cJ15_checkIndex 0 = .ok (.iload_n 0, 1) := dk_26 (dk_at dksJ15_checkIndex_0 0 rfl rfl)
theorem dJ15_checkIndex_1 : decode cJ15_checkIndex 1 = .ok (.iload_n 1, 1) := dk_27 (dk_at dksJ15_checkIndex_0 1 rfl rfl)
theorem dJ15_checkIndex_2 : decode cJ15_checkIndex 2 = .ok (.aconst_null, 1) := dk_1 (dk_at dksJ15_checkIndex_0 2 rfl rfl)
theorem dJ15_checkIndex_3 : decode cJ15_checkIndex 3 = .ok (.invokestatic 105, 3) := dk_184 0 105 (dk_at dksJ15_checkIndex_0 3 rfl rfl)
theorem dJ15_checkIndex_6 : decode cJ15_checkIndex 6 = .ok (.ireturn, 1) := dk_172 (dk_at dksJ15_checkIndex_0 6 rfl rfl)
abbrev cJ15_requireNonNull : ByteArray := prog_47_method_10_code
def yJ15_requireNonNull : MethodName := ⟨RJ15, "requireNonNull", "(Ljava/lang/Object;)Ljava/lang/Object;"⟩
def dkwJ15_requireNonNull_0 : List UInt8 := [42, 199, 0, 11, 187, 0, 84, 89, 183, 0, 86, 191, 42, 176]
abbrev dktJ15_requireNonNull_0 : List UInt8 := dkwJ15_requireNonNull_0 ++ []
theorem dksJ15_requireNonNull_0 : cJ15_requireNonNull.data.toList.drop 0 = dktJ15_requireNonNull_0 := by decide +kernel
theorem dJ15_requireNonNull_0 : decode cJ15_requireNonNull 0 = .ok (.aload_n 0, 1) := dk_42 (dk_at dksJ15_requireNonNull_0 0 rfl rfl)
theorem dJ15_requireNonNull_1 : decode cJ15_requireNonNull 1 = .ok (.ifnonnull 11, 3) := dk_199 0 11 (dk_at dksJ15_requireNonNull_0 1 rfl rfl)
theorem dJ15_requireNonNull_4 : decode cJ15_requireNonNull 4 = .ok (.new 84, 3) := dk_187 0 84 (dk_at dksJ15_requireNonNull_0 4 rfl rfl)
theorem dJ15_requireNonNull_7 : decode cJ15_requireNonNull 7 = .ok (.dup, 1) := dk_89 (dk_at dksJ15_requireNonNull_0 7 rfl rfl)
theorem dJ15_requireNonNull_8 : decode cJ15_requireNonNull 8 = .ok (.invokespecial 86, 3) := dk_183 0 86 (dk_at dksJ15_requireNonNull_0 8 rfl rfl)
theorem dJ15_requireNonNull_11 : decode cJ15_requireNonNull 11 = .ok (.athrow, 1) := dk_191 (dk_at dksJ15_requireNonNull_0 11 rfl rfl)
theorem dJ15_requireNonNull_12 : decode cJ15_requireNonNull 12 = .ok (.aload_n 0, 1) := dk_42 (dk_at dksJ15_requireNonNull_0 12 rfl rfl)
theorem dJ15_requireNonNull_13 : decode cJ15_requireNonNull 13 = .ok (.areturn, 1) := dk_176 (dk_at dksJ15_requireNonNull_0 13 rfl rfl)
theorem q92 : (Jvm.Cond.initialized "java/util/Objects") ∈ lw_all := lw_g (lw_at lw_m1 21 rfl) rfl
theorem q316 : (Jvm.Cond.static ({ cls := "java/util/Objects", name := "checkIndex", desc := "(II)I" } : Jvm.MethodName)) ∈ lw_all := lw_g (lw_at lw_m2 5 rfl) rfl
theorem q317 : (Jvm.Cond.code ({ cls := "java/util/Objects", name := "checkIndex", desc := "(II)I" } : Jvm.MethodName) prog_47_method_17_code (2 : Nat) (Option.some Jvm.ClassFile.FieldType.int)) ∈ lw_all := lw_g (lw_at lw_m2 6 rfl) rfl
theorem q318 : (Jvm.Cond.methodLink "java/util/Objects" (105 : Nat) ({ cls := "jdk/internal/util/Preconditions", name := "checkIndex", desc := "(IILjava/util/function/BiFunction;)I" } : Jvm.MethodName)) ∈ lw_all := lw_g (lw_at lw_m2 7 rfl) rfl
theorem q393 : (Jvm.Cond.static ({ cls := "java/util/Objects", name := "requireNonNull", desc := "(Ljava/lang/Object;)Ljava/lang/Object;" } : Jvm.MethodName)) ∈ lw_all := lw_g (lw_at lw_m2 82 rfl) rfl
theorem q394 : (Jvm.Cond.code ({ cls := "java/util/Objects", name := "requireNonNull", desc := "(Ljava/lang/Object;)Ljava/lang/Object;" } : Jvm.MethodName) prog_47_method_10_code (1 : Nat) (Option.some (Jvm.ClassFile.FieldType.object "java/lang/Object"))) ∈ lw_all := lw_g (lw_at lw_m2 83 rfl) rfl

-- J16.jdk_internal_util_Preconditions.lean.txt
/-! jdk/internal/util/Preconditions -/
set_option maxRecDepth 100000
def RJ16 : String := "jdk/internal/util/Preconditions"
abbrev cJ16_checkIndex : ByteArray := prog_60_method_11_code
def yJ16_checkIndex : MethodName := ⟨RJ16, "checkIndex", "(IILjava/util/function/BiFunction;)I"⟩
def dkwJ16_checkIndex_0 : List UInt8 := [26, 155, 0, 8, 26, 27, 161, 0, 10, 44, 26, 27, 184, 0, 95, 191, 26, 172]
abbrev dktJ16_checkIndex_0 : List UInt8 := dkwJ16_checkIndex_0 ++ []
theorem dksJ16_checkIndex_0 : cJ16_checkIndex.data.toList.drop 0 = dktJ16_checkIndex_0 := by decide +kernel
theorem dJ16_checkIndex_0 : decode cJ16_checkIndex 0 = .ok (.iload_n 0, 1) := dk_26 (dk_at dksJ16_checkIndex_0 0 rfl rfl)
theorem dJ16_checkIndex_1 : decode cJ16_checkIndex 1 = .ok (.ifCond .lt 8, 3) := dk_155 0 8 (dk_at dksJ16_checkIndex_0 1 rfl rfl)
theorem dJ16_checkIndex_4 : decode cJ16_checkIndex 4 = .ok (.iload_n 0, 1) := dk_26 (dk_at dksJ16_checkIndex_0 4 rfl rfl)
theorem dJ16_checkIndex_5 : decode cJ16_checkIndex 5 = .ok (.iload_n 1, 1) := dk_27 (dk_at dksJ16_checkIndex_0 5 rfl rfl)
theorem dJ16_checkIndex_6 : decode cJ16_checkIndex 6 = .ok (.if_icmp .lt 10, 3) := dk_161 0 10 (dk_at dksJ16_checkIndex_0 6 rfl rfl)
theorem dJ16_checkIndex_9 : decode cJ16_checkIndex 9 = .ok (.aload_n 2, 1) := dk_44 (dk_at dksJ16_checkIndex_0 9 rfl rfl)
theorem dJ16_checkIndex_10 : decode cJ16_checkIndex 10 = .ok (.iload_n 0, 1) := dk_26 (dk_at dksJ16_checkIndex_0 10 rfl rfl)
theorem dJ16_checkIndex_11 : decode cJ16_checkIndex 11 = .ok (.iload_n 1, 1) := dk_27 (dk_at dksJ16_checkIndex_0 11 rfl rfl)
theorem dJ16_checkIndex_12 : decode cJ16_checkIndex 12 = .ok (.invokestatic 95, 3) := dk_184 0 95 (dk_at dksJ16_checkIndex_0 12 rfl rfl)
theorem dJ16_checkIndex_15 : decode cJ16_checkIndex 15 = .ok (.athrow, 1) := dk_191 (dk_at dksJ16_checkIndex_0 15 rfl rfl)
theorem dJ16_checkIndex_16 : decode cJ16_checkIndex 16 = .ok (.iload_n 0, 1) := dk_26 (dk_at dksJ16_checkIndex_0 16 rfl rfl)
theorem dJ16_checkIndex_17 : decode cJ16_checkIndex 17 = .ok (.ireturn, 1) := dk_172 (dk_at dksJ16_checkIndex_0 17 rfl rfl)
abbrev cJ16_checkFromToIndex : ByteArray := prog_60_method_12_code
def yJ16_checkFromToIndex : MethodName := ⟨RJ16, "checkFromToIndex", "(IIILjava/util/function/BiFunction;)I"⟩
def dkwJ16_checkFromToIndex_0 : List UInt8 := [26, 155, 0, 13, 26, 27, 163, 0, 8, 27, 28, 164, 0, 11, 45, 26, 27, 28, 184, 0, 99, 191, 26, 172]
abbrev dktJ16_checkFromToIndex_0 : List UInt8 := dkwJ16_checkFromToIndex_0 ++ []
theorem dksJ16_checkFromToIndex_0 : cJ16_checkFromToIndex.data.toList.drop 0 = dktJ16_checkFromToIndex_0 := by decide +kernel
theorem dJ16_checkFromToIndex_0 : decode cJ16_checkFromToIndex 0 = .ok (.iload_n 0, 1) := dk_26 (dk_at dksJ16_checkFromToIndex_0 0 rfl rfl)
theorem dJ16_checkFromToIndex_1 : decode cJ16_checkFromToIndex 1 = .ok (.ifCond .lt 13, 3) := dk_155 0 13 (dk_at dksJ16_checkFromToIndex_0 1 rfl rfl)
theorem dJ16_checkFromToIndex_4 : decode cJ16_checkFromToIndex 4 = .ok (.iload_n 0, 1) := dk_26 (dk_at dksJ16_checkFromToIndex_0 4 rfl rfl)
theorem dJ16_checkFromToIndex_5 : decode cJ16_checkFromToIndex 5 = .ok (.iload_n 1, 1) := dk_27 (dk_at dksJ16_checkFromToIndex_0 5 rfl rfl)
theorem dJ16_checkFromToIndex_6 : decode cJ16_checkFromToIndex 6 = .ok (.if_icmp .gt 8, 3) := dk_163 0 8 (dk_at dksJ16_checkFromToIndex_0 6 rfl rfl)
theorem dJ16_checkFromToIndex_9 : decode cJ16_checkFromToIndex 9 = .ok (.iload_n 1, 1) := dk_27 (dk_at dksJ16_checkFromToIndex_0 9 rfl rfl)
theorem dJ16_checkFromToIndex_10 : decode cJ16_checkFromToIndex 10 = .ok (.iload_n 2, 1) := dk_28 (dk_at dksJ16_checkFromToIndex_0 10 rfl rfl)
theorem dJ16_checkFromToIndex_11 : decode cJ16_checkFromToIndex 11 = .ok (.if_icmp .le 11, 3) := dk_164 0 11 (dk_at dksJ16_checkFromToIndex_0 11 rfl rfl)
theorem dJ16_checkFromToIndex_14 : decode cJ16_checkFromToIndex 14 = .ok (.aload_n 3, 1) := dk_45 (dk_at dksJ16_checkFromToIndex_0 14 rfl rfl)
theorem dJ16_checkFromToIndex_15 : decode cJ16_checkFromToIndex 15 = .ok (.iload_n 0, 1) := dk_26 (dk_at dksJ16_checkFromToIndex_0 15 rfl rfl)
theorem dJ16_checkFromToIndex_16 : decode cJ16_checkFromToIndex 16 = .ok (.iload_n 1, 1) := dk_27 (dk_at dksJ16_checkFromToIndex_0 16 rfl rfl)
theorem dJ16_checkFromToIndex_17 : decode cJ16_checkFromToIndex 17 = .ok (.iload_n 2, 1) := dk_28 (dk_at dksJ16_checkFromToIndex_0 17 rfl rfl)
theorem dJ16_checkFromToIndex_18 : decode cJ16_checkFromToIndex 18 = .ok (.invokestatic 99, 3) := dk_184 0 99 (dk_at dksJ16_checkFromToIndex_0 18 rfl rfl)
theorem dJ16_checkFromToIndex_21 : decode cJ16_checkFromToIndex 21 = .ok (.athrow, 1) := dk_191 (dk_at dksJ16_checkFromToIndex_0 21 rfl rfl)
theorem dJ16_checkFromToIndex_22 : decode cJ16_checkFromToIndex 22 = .ok (.iload_n 0, 1) := dk_26 (dk_at dksJ16_checkFromToIndex_0 22 rfl rfl)
theorem dJ16_checkFromToIndex_23 : decode cJ16_checkFromToIndex 23 = .ok (.ireturn, 1) := dk_172 (dk_at dksJ16_checkFromToIndex_0 23 rfl rfl)
abbrev cJ16_checkFromIndexSize : ByteArray := prog_60_method_13_code
def yJ16_checkFromIndexSize : MethodName := ⟨RJ16, "checkFromIndexSize", "(IIILjava/util/function/BiFunction;)I"⟩
def dkwJ16_checkFromIndexSize_1 : List UInt8 := [172]
abbrev dktJ16_checkFromIndexSize_1 : List UInt8 := dkwJ16_checkFromIndexSize_1 ++ []
def dkwJ16_checkFromIndexSize_0 : List UInt8 := [28, 26, 128, 27, 128, 155, 0, 10, 27, 28, 26, 100, 164, 0, 11, 45, 26, 27, 28, 184, 0, 103, 191, 26]
abbrev dktJ16_checkFromIndexSize_0 : List UInt8 := dkwJ16_checkFromIndexSize_0 ++ dktJ16_checkFromIndexSize_1
theorem dksJ16_checkFromIndexSize_0 : cJ16_checkFromIndexSize.data.toList.drop 0 = dktJ16_checkFromIndexSize_0 := by decide +kernel
theorem dksJ16_checkFromIndexSize_1 : cJ16_checkFromIndexSize.data.toList.drop 24 = dktJ16_checkFromIndexSize_1 := dk_seg dksJ16_checkFromIndexSize_0 24 rfl rfl
theorem dJ16_checkFromIndexSize_0 : decode cJ16_checkFromIndexSize 0 = .ok (.iload_n 2, 1) := dk_28 (dk_at dksJ16_checkFromIndexSize_0 0 rfl rfl)
theorem dJ16_checkFromIndexSize_1 : decode cJ16_checkFromIndexSize 1 = .ok (.iload_n 0, 1) := dk_26 (dk_at dksJ16_checkFromIndexSize_0 1 rfl rfl)
theorem dJ16_checkFromIndexSize_2 : decode cJ16_checkFromIndexSize 2 = .ok (.ior, 1) := dk_128 (dk_at dksJ16_checkFromIndexSize_0 2 rfl rfl)
theorem dJ16_checkFromIndexSize_3 : decode cJ16_checkFromIndexSize 3 = .ok (.iload_n 1, 1) := dk_27 (dk_at dksJ16_checkFromIndexSize_0 3 rfl rfl)
theorem dJ16_checkFromIndexSize_4 : decode cJ16_checkFromIndexSize 4 = .ok (.ior, 1) := dk_128 (dk_at dksJ16_checkFromIndexSize_0 4 rfl rfl)
theorem dJ16_checkFromIndexSize_5 : decode cJ16_checkFromIndexSize 5 = .ok (.ifCond .lt 10, 3) := dk_155 0 10 (dk_at dksJ16_checkFromIndexSize_0 5 rfl rfl)
theorem dJ16_checkFromIndexSize_8 : decode cJ16_checkFromIndexSize 8 = .ok (.iload_n 1, 1) := dk_27 (dk_at dksJ16_checkFromIndexSize_0 8 rfl rfl)
theorem dJ16_checkFromIndexSize_9 : decode cJ16_checkFromIndexSize 9 = .ok (.iload_n 2, 1) := dk_28 (dk_at dksJ16_checkFromIndexSize_0 9 rfl rfl)
theorem dJ16_checkFromIndexSize_10 : decode cJ16_checkFromIndexSize 10 = .ok (.iload_n 0, 1) := dk_26 (dk_at dksJ16_checkFromIndexSize_0 10 rfl rfl)
theorem dJ16_checkFromIndexSize_11 : decode cJ16_checkFromIndexSize 11 = .ok (.isub, 1) := dk_100 (dk_at dksJ16_checkFromIndexSize_0 11 rfl rfl)
theorem dJ16_checkFromIndexSize_12 : decode cJ16_checkFromIndexSize 12 = .ok (.if_icmp .le 11, 3) := dk_164 0 11 (dk_at dksJ16_checkFromIndexSize_0 12 rfl rfl)
theorem dJ16_checkFromIndexSize_15 : decode cJ16_checkFromIndexSize 15 = .ok (.aload_n 3, 1) := dk_45 (dk_at dksJ16_checkFromIndexSize_0 15 rfl rfl)
theorem dJ16_checkFromIndexSize_16 : decode cJ16_checkFromIndexSize 16 = .ok (.iload_n 0, 1) := dk_26 (dk_at dksJ16_checkFromIndexSize_0 16 rfl rfl)
theorem dJ16_checkFromIndexSize_17 : decode cJ16_checkFromIndexSize 17 = .ok (.iload_n 1, 1) := dk_27 (dk_at dksJ16_checkFromIndexSize_0 17 rfl rfl)
theorem dJ16_checkFromIndexSize_18 : decode cJ16_checkFromIndexSize 18 = .ok (.iload_n 2, 1) := dk_28 (dk_at dksJ16_checkFromIndexSize_0 18 rfl rfl)
theorem dJ16_checkFromIndexSize_19 : decode cJ16_checkFromIndexSize 19 = .ok (.invokestatic 103, 3) := dk_184 0 103 (dk_at dksJ16_checkFromIndexSize_0 19 rfl rfl)
theorem dJ16_checkFromIndexSize_22 : decode cJ16_checkFromIndexSize 22 = .ok (.athrow, 1) := dk_191 (dk_at dksJ16_checkFromIndexSize_0 22 rfl rfl)
theorem dJ16_checkFromIndexSize_23 : decode cJ16_checkFromIndexSize 23 = .ok (.iload_n 0, 1) := dk_26 (dk_at dksJ16_checkFromIndexSize_0 23 rfl rfl)
theorem dJ16_checkFromIndexSize_24 : decode cJ16_checkFromIndexSize 24 = .ok (.ireturn, 1) := dk_172 (dk_at dksJ16_checkFromIndexSize_1 0 rfl rfl)
theorem q93 : (Jvm.Cond.initialized "jdk/internal/util/Preconditions") ∈ lw_all := lw_g (lw_at lw_m1 22 rfl) rfl
theorem q319 : (Jvm.Cond.static ({ cls := "jdk/internal/util/Preconditions", name := "checkIndex", desc := "(IILjava/util/function/BiFunction;)I" } : Jvm.MethodName)) ∈ lw_all := lw_g (lw_at lw_m2 8 rfl) rfl
theorem q320 : (Jvm.Cond.code ({ cls := "jdk/internal/util/Preconditions", name := "checkIndex", desc := "(IILjava/util/function/BiFunction;)I" } : Jvm.MethodName) prog_60_method_11_code (3 : Nat) (Option.some Jvm.ClassFile.FieldType.int)) ∈ lw_all := lw_g (lw_at lw_m2 9 rfl) rfl
theorem q610 : (Jvm.Cond.laysStatic "jdk/internal/util/Preconditions" "SIOOBE_FORMATTER" "Ljava/util/function/BiFunction;") ∈ lw_tbl := lw_at lw_m3 59 rfl
theorem q612 : (Jvm.Cond.static ({ cls := "jdk/internal/util/Preconditions", name := "checkFromToIndex", desc := "(IIILjava/util/function/BiFunction;)I" } : Jvm.MethodName)) ∈ lw_all := lw_g (lw_at lw_m3 61 rfl) rfl
theorem q613 : (Jvm.Cond.code ({ cls := "jdk/internal/util/Preconditions", name := "checkFromToIndex", desc := "(IIILjava/util/function/BiFunction;)I" } : Jvm.MethodName) prog_60_method_12_code (4 : Nat) (Option.some Jvm.ClassFile.FieldType.int)) ∈ lw_all := lw_g (lw_at lw_m3 62 rfl) rfl
theorem q734 : (Jvm.Cond.static ({ cls := "jdk/internal/util/Preconditions", name := "checkFromIndexSize", desc := "(IIILjava/util/function/BiFunction;)I" } : Jvm.MethodName)) ∈ lw_all := lw_g (lw_at lw_m3 183 rfl) rfl
theorem q735 : (Jvm.Cond.code ({ cls := "jdk/internal/util/Preconditions", name := "checkFromIndexSize", desc := "(IIILjava/util/function/BiFunction;)I" } : Jvm.MethodName) prog_60_method_13_code (4 : Nat) (Option.some Jvm.ClassFile.FieldType.int)) ∈ lw_all := lw_g (lw_at lw_m3 184 rfl) rfl

-- J17.java_lang_Number.lean.txt
/-! java/lang/Number -/
set_option maxRecDepth 100000
def RJ17 : String := "java/lang/Number"
abbrev cJ17_init : ByteArray := prog_23_method_1_code
def yJ17_init : MethodName := ⟨RJ17, "<init>", "()V"⟩
theorem dJ17_init_0 : decode cJ17_init 0 = .ok (.aload_n 0, 1) := by decide +kernel
theorem dJ17_init_1 : decode cJ17_init 1 = .ok (.invokespecial 1, 3) := by decide +kernel
theorem dJ17_init_4 : decode cJ17_init 4 = .ok (.return_, 1) := by decide +kernel
theorem q94 : (Jvm.Cond.initialized "java/lang/Number") ∈ lw_all := lw_g (lw_at lw_m1 23 rfl) rfl
theorem q369 : (Jvm.Cond.instanceMethod ({ cls := "java/lang/Number", name := "<init>", desc := "()V" } : Jvm.MethodName)) ∈ lw_all := lw_g (lw_at lw_m2 58 rfl) rfl
theorem q370 : (Jvm.Cond.code ({ cls := "java/lang/Number", name := "<init>", desc := "()V" } : Jvm.MethodName) prog_23_method_1_code (1 : Nat) (Option.none : Option Jvm.ClassFile.FieldType)) ∈ lw_all := lw_g (lw_at lw_m2 59 rfl) rfl
theorem q371 : (Jvm.Cond.methodLink "java/lang/Number" (1 : Nat) ({ cls := "java/lang/Object", name := "<init>", desc := "()V" } : Jvm.MethodName)) ∈ lw_all := lw_g (lw_at lw_m2 60 rfl) rfl

-- J18.java_lang_Integer.lean.txt
/-! java/lang/Integer -/
set_option maxRecDepth 100000
def RJ18 : String := "java/lang/Integer"
def TJ18 : u_T := fun k => match k with
  | _ => ("java/lang/Integer", "value", "I", true)
def tyJ18 : Nat → FieldType := fun k => match k with
  | _ => .int
abbrev wsJ180 : List Cond := u_ws RJ18 TJ18 1
theorem nmJ18 : ∀ a, a < 1 → ∀ b, b < 1 → a ≠ b → (TJ18 a).2.1 ≠ (TJ18 b).2.1 := by decide +kernel
theorem tyJ18_ok : ∀ k, k < 1 → parseFieldDescriptor (TJ18 k).2.2.1 = some (tyJ18 k) := by decide +kernel
abbrev cJ18_valueOf : ByteArray := prog_18_method_22_code
def yJ18_valueOf : MethodName := ⟨RJ18, "valueOf", "(I)Ljava/lang/Integer;"⟩
def dkwJ18_valueOf_1 : List UInt8 := [187, 0, 1, 89, 26, 183, 0, 199, 176]
abbrev dktJ18_valueOf_1 : List UInt8 := dkwJ18_valueOf_1 ++ []
def dkwJ18_valueOf_0 : List UInt8 := [26, 16, 128, 161, 0, 20, 26, 178, 0, 191, 163, 0, 13, 178, 0, 195, 26, 17, 0, 128, 96, 50, 176]
abbrev dktJ18_valueOf_0 : List UInt8 := dkwJ18_valueOf_0 ++ dktJ18_valueOf_1
theorem dksJ18_valueOf_0 : cJ18_valueOf.data.toList.drop 0 = dktJ18_valueOf_0 := by decide +kernel
theorem dksJ18_valueOf_1 : cJ18_valueOf.data.toList.drop 23 = dktJ18_valueOf_1 := dk_seg dksJ18_valueOf_0 23 rfl rfl
theorem dJ18_valueOf_0 : decode cJ18_valueOf 0 = .ok (.iload_n 0, 1) := dk_26 (dk_at dksJ18_valueOf_0 0 rfl rfl)
theorem dJ18_valueOf_1 : decode cJ18_valueOf 1 = .ok (.bipush (-128), 2) := dk_16 128 (dk_at dksJ18_valueOf_0 1 rfl rfl)
theorem dJ18_valueOf_3 : decode cJ18_valueOf 3 = .ok (.if_icmp .lt 20, 3) := dk_161 0 20 (dk_at dksJ18_valueOf_0 3 rfl rfl)
theorem dJ18_valueOf_6 : decode cJ18_valueOf 6 = .ok (.iload_n 0, 1) := dk_26 (dk_at dksJ18_valueOf_0 6 rfl rfl)
theorem dJ18_valueOf_7 : decode cJ18_valueOf 7 = .ok (.getstatic 191, 3) := dk_178 0 191 (dk_at dksJ18_valueOf_0 7 rfl rfl)
theorem dJ18_valueOf_10 : decode cJ18_valueOf 10 = .ok (.if_icmp .gt 13, 3) := dk_163 0 13 (dk_at dksJ18_valueOf_0 10 rfl rfl)
theorem dJ18_valueOf_13 : decode cJ18_valueOf 13 = .ok (.getstatic 195, 3) := dk_178 0 195 (dk_at dksJ18_valueOf_0 13 rfl rfl)
theorem dJ18_valueOf_16 : decode cJ18_valueOf 16 = .ok (.iload_n 0, 1) := dk_26 (dk_at dksJ18_valueOf_0 16 rfl rfl)
theorem dJ18_valueOf_17 : decode cJ18_valueOf 17 = .ok (.sipush 128, 3) := dk_17 0 128 (dk_at dksJ18_valueOf_0 17 rfl rfl)
theorem dJ18_valueOf_20 : decode cJ18_valueOf 20 = .ok (.iadd, 1) := dk_96 (dk_at dksJ18_valueOf_0 20 rfl rfl)
theorem dJ18_valueOf_21 : decode cJ18_valueOf 21 = .ok (.aaload, 1) := dk_50 (dk_at dksJ18_valueOf_0 21 rfl rfl)
theorem dJ18_valueOf_22 : decode cJ18_valueOf 22 = .ok (.areturn, 1) := dk_176 (dk_at dksJ18_valueOf_0 22 rfl rfl)
theorem dJ18_valueOf_23 : decode cJ18_valueOf 23 = .ok (.new 1, 3) := dk_187 0 1 (dk_at dksJ18_valueOf_1 0 rfl rfl)
theorem dJ18_valueOf_26 : decode cJ18_valueOf 26 = .ok (.dup, 1) := dk_89 (dk_at dksJ18_valueOf_1 3 rfl rfl)
theorem dJ18_valueOf_27 : decode cJ18_valueOf 27 = .ok (.iload_n 0, 1) := dk_26 (dk_at dksJ18_valueOf_1 4 rfl rfl)
theorem dJ18_valueOf_28 : decode cJ18_valueOf 28 = .ok (.invokespecial 199, 3) := dk_183 0 199 (dk_at dksJ18_valueOf_1 5 rfl rfl)
theorem dJ18_valueOf_31 : decode cJ18_valueOf 31 = .ok (.areturn, 1) := dk_176 (dk_at dksJ18_valueOf_1 8 rfl rfl)
abbrev cJ18_init : ByteArray := prog_18_method_23_code
def yJ18_init : MethodName := ⟨RJ18, "<init>", "(I)V"⟩
def dkwJ18_init_0 : List UInt8 := [42, 183, 0, 202, 42, 27, 181, 0, 205, 177]
abbrev dktJ18_init_0 : List UInt8 := dkwJ18_init_0 ++ []
theorem dksJ18_init_0 : cJ18_init.data.toList.drop 0 = dktJ18_init_0 := by decide +kernel
theorem dJ18_init_0 : decode cJ18_init 0 = .ok (.aload_n 0, 1) := dk_42 (dk_at dksJ18_init_0 0 rfl rfl)
theorem dJ18_init_1 : decode cJ18_init 1 = .ok (.invokespecial 202, 3) := dk_183 0 202 (dk_at dksJ18_init_0 1 rfl rfl)
theorem dJ18_init_4 : decode cJ18_init 4 = .ok (.aload_n 0, 1) := dk_42 (dk_at dksJ18_init_0 4 rfl rfl)
theorem dJ18_init_5 : decode cJ18_init 5 = .ok (.iload_n 1, 1) := dk_27 (dk_at dksJ18_init_0 5 rfl rfl)
theorem dJ18_init_6 : decode cJ18_init 6 = .ok (.putfield 205, 3) := dk_181 0 205 (dk_at dksJ18_init_0 6 rfl rfl)
theorem dJ18_init_9 : decode cJ18_init 9 = .ok (.return_, 1) := dk_177 (dk_at dksJ18_init_0 9 rfl rfl)
abbrev cJ18_compareTo : ByteArray := prog_18_method_63_code
def yJ18_compareTo : MethodName := ⟨RJ18, "compareTo", "(Ljava/lang/Object;)I"⟩
def dkwJ18_compareTo_0 : List UInt8 := [42, 43, 192, 0, 1, 182, 1, 28, 172]
abbrev dktJ18_compareTo_0 : List UInt8 := dkwJ18_compareTo_0 ++ []
theorem dksJ18_compareTo_0 : cJ18_compareTo.data.toList.drop 0 = dktJ18_compareTo_0 := by decide +kernel
theorem dJ18_compareTo_0 : decode cJ18_compareTo 0 = .ok (.aload_n 0, 1) := dk_42 (dk_at dksJ18_compareTo_0 0 rfl rfl)
theorem dJ18_compareTo_1 : decode cJ18_compareTo 1 = .ok (.aload_n 1, 1) := dk_43 (dk_at dksJ18_compareTo_0 1 rfl rfl)
theorem dJ18_compareTo_2 : decode cJ18_compareTo 2 = .ok (.checkcast 1, 3) := dk_192 0 1 (dk_at dksJ18_compareTo_0 2 rfl rfl)
theorem dJ18_compareTo_5 : decode cJ18_compareTo 5 = .ok (.invokevirtual 284, 3) := dk_182 1 28 (dk_at dksJ18_compareTo_0 5 rfl rfl)
theorem dJ18_compareTo_8 : decode cJ18_compareTo 8 = .ok (.ireturn, 1) := dk_172 (dk_at dksJ18_compareTo_0 8 rfl rfl)
abbrev cJ18_compareTo_2 : ByteArray := prog_18_method_39_code
def yJ18_compareTo_2 : MethodName := ⟨RJ18, "compareTo", "(Ljava/lang/Integer;)I"⟩
def dkwJ18_compareTo_2_0 : List UInt8 := [42, 180, 0, 205, 43, 180, 0, 205, 184, 1, 3, 172]
abbrev dktJ18_compareTo_2_0 : List UInt8 := dkwJ18_compareTo_2_0 ++ []
theorem dksJ18_compareTo_2_0 : cJ18_compareTo_2.data.toList.drop 0 = dktJ18_compareTo_2_0 := by decide +kernel
theorem dJ18_compareTo_2_0 : decode cJ18_compareTo_2 0 = .ok (.aload_n 0, 1) := dk_42 (dk_at dksJ18_compareTo_2_0 0 rfl rfl)
theorem dJ18_compareTo_2_1 : decode cJ18_compareTo_2 1 = .ok (.getfield 205, 3) := dk_180 0 205 (dk_at dksJ18_compareTo_2_0 1 rfl rfl)
theorem dJ18_compareTo_2_4 : decode cJ18_compareTo_2 4 = .ok (.aload_n 1, 1) := dk_43 (dk_at dksJ18_compareTo_2_0 4 rfl rfl)
theorem dJ18_compareTo_2_5 : decode cJ18_compareTo_2 5 = .ok (.getfield 205, 3) := dk_180 0 205 (dk_at dksJ18_compareTo_2_0 5 rfl rfl)
theorem dJ18_compareTo_2_8 : decode cJ18_compareTo_2 8 = .ok (.invokestatic 259, 3) := dk_184 1 3 (dk_at dksJ18_compareTo_2_0 8 rfl rfl)
theorem dJ18_compareTo_2_11 : decode cJ18_compareTo_2 11 = .ok (.ireturn, 1) := dk_172 (dk_at dksJ18_compareTo_2_0 11 rfl rfl)
abbrev cJ18_compare : ByteArray := prog_18_method_40_code
def yJ18_compare : MethodName := ⟨RJ18, "compare", "(II)I"⟩
def dkwJ18_compare_0 : List UInt8 := [26, 27, 162, 0, 7, 2, 167, 0, 13, 26, 27, 160, 0, 7, 3, 167, 0, 4, 4, 172]
abbrev dktJ18_compare_0 : List UInt8 := dkwJ18_compare_0 ++ []
theorem dksJ18_compare_0 : cJ18_compare.data.toList.drop 0 = dktJ18_compare_0 := by decide +kernel
theorem dJ18_compare_0 : decode cJ18_compare 0 = .ok (.iload_n 0, 1) := dk_26 (dk_at dksJ18_compare_0 0 rfl rfl)
theorem dJ18_compare_1 : decode cJ18_compare 1 = .ok (.iload_n 1, 1) := dk_27 (dk_at dksJ18_compare_0 1 rfl rfl)
theorem dJ18_compare_2 : decode cJ18_compare 2 = .ok (.if_icmp .ge 7, 3) := dk_162 0 7 (dk_at dksJ18_compare_0 2 rfl rfl)
theorem dJ18_compare_5 : decode cJ18_compare 5 = .ok (.iconst (-1), 1) := dk_2 (dk_at dksJ18_compare_0 5 rfl rfl)
theorem dJ18_compare_6 : decode cJ18_compare 6 = .ok (.goto 13, 3) := dk_167 0 13 (dk_at dksJ18_compare_0 6 rfl rfl)
theorem dJ18_compare_9 : decode cJ18_compare 9 = .ok (.iload_n 0, 1) := dk_26 (dk_at dksJ18_compare_0 9 rfl rfl)
theorem dJ18_compare_10 : decode cJ18_compare 10 = .ok (.iload_n 1, 1) := dk_27 (dk_at dksJ18_compare_0 10 rfl rfl)
theorem dJ18_compare_11 : decode cJ18_compare 11 = .ok (.if_icmp .ne 7, 3) := dk_160 0 7 (dk_at dksJ18_compare_0 11 rfl rfl)
theorem dJ18_compare_14 : decode cJ18_compare 14 = .ok (.iconst 0, 1) := dk_3 (dk_at dksJ18_compare_0 14 rfl rfl)
theorem dJ18_compare_15 : decode cJ18_compare 15 = .ok (.goto 4, 3) := dk_167 0 4 (dk_at dksJ18_compare_0 15 rfl rfl)
theorem dJ18_compare_18 : decode cJ18_compare 18 = .ok (.iconst 1, 1) := dk_4 (dk_at dksJ18_compare_0 18 rfl rfl)
theorem dJ18_compare_19 : decode cJ18_compare 19 = .ok (.ireturn, 1) := dk_172 (dk_at dksJ18_compare_0 19 rfl rfl)
abbrev cJ18_numberOfLeadingZeros : ByteArray := prog_18_method_47_code
def yJ18_numberOfLeadingZeros : MethodName := ⟨RJ18, "numberOfLeadingZeros", "(I)I"⟩
def dkwJ18_numberOfLeadingZeros_3 : List UInt8 := [5, 124, 59, 27, 26, 4, 124, 100, 172]
abbrev dktJ18_numberOfLeadingZeros_3 : List UInt8 := dkwJ18_numberOfLeadingZeros_3 ++ []
def dkwJ18_numberOfLeadingZeros_2 : List UInt8 := [124, 59, 26, 16, 16, 161, 0, 10, 132, 1, 252, 26, 7, 124, 59, 26, 7, 161, 0, 10, 132, 1, 254, 26]
abbrev dktJ18_numberOfLeadingZeros_2 : List UInt8 := dkwJ18_numberOfLeadingZeros_2 ++ dktJ18_numberOfLeadingZeros_3
def dkwJ18_numberOfLeadingZeros_1 : List UInt8 := [161, 0, 11, 132, 1, 240, 26, 16, 16, 124, 59, 26, 17, 1, 0, 161, 0, 11, 132, 1, 248, 26, 16, 8]
abbrev dktJ18_numberOfLeadingZeros_1 : List UInt8 := dkwJ18_numberOfLeadingZeros_1 ++ dktJ18_numberOfLeadingZeros_2
def dkwJ18_numberOfLeadingZeros_0 : List UInt8 := [26, 157, 0, 14, 26, 154, 0, 8, 16, 32, 167, 0, 4, 3, 172, 16, 31, 60, 26, 19, 1, 8]
abbrev dktJ18_numberOfLeadingZeros_0 : List UInt8 := dkwJ18_numberOfLeadingZeros_0 ++ dktJ18_numberOfLeadingZeros_1
theorem dksJ18_numberOfLeadingZeros_0 : cJ18_numberOfLeadingZeros.data.toList.drop 0 = dktJ18_numberOfLeadingZeros_0 := by decide +kernel
theorem dksJ18_numberOfLeadingZeros_1 : cJ18_numberOfLeadingZeros.data.toList.drop 22 = dktJ18_numberOfLeadingZeros_1 := dk_seg dksJ18_numberOfLeadingZeros_0 22 rfl rfl
theorem dksJ18_numberOfLeadingZeros_2 : cJ18_numberOfLeadingZeros.data.toList.drop 46 = dktJ18_numberOfLeadingZeros_2 := dk_seg dksJ18_numberOfLeadingZeros_1 24 rfl rfl
theorem dksJ18_numberOfLeadingZeros_3 : cJ18_numberOfLeadingZeros.data.toList.drop 70 = dktJ18_numberOfLeadingZeros_3 := dk_seg dksJ18_numberOfLeadingZeros_2 24 rfl rfl
theorem dJ18_numberOfLeadingZeros_0 : decode cJ18_numberOfLeadingZeros 0 = .ok (.iload_n 0, 1) := dk_26 (dk_at dksJ18_numberOfLeadingZeros_0 0 rfl rfl)
theorem dJ18_numberOfLeadingZeros_1 : decode cJ18_numberOfLeadingZeros 1 = .ok (.ifCond .gt 14, 3) := dk_157 0 14 (dk_at dksJ18_numberOfLeadingZeros_0 1 rfl rfl)
theorem dJ18_numberOfLeadingZeros_4 : decode cJ18_numberOfLeadingZeros 4 = .ok (.iload_n 0, 1) := dk_26 (dk_at dksJ18_numberOfLeadingZeros_0 4 rfl rfl)
theorem dJ18_numberOfLeadingZeros_5 : decode cJ18_numberOfLeadingZeros 5 = .ok (.ifCond .ne 8, 3) := dk_154 0 8 (dk_at dksJ18_numberOfLeadingZeros_0 5 rfl rfl)
theorem dJ18_numberOfLeadingZeros_8 : decode cJ18_numberOfLeadingZeros 8 = .ok (.bipush 32, 2) := dk_16 32 (dk_at dksJ18_numberOfLeadingZeros_0 8 rfl rfl)
theorem dJ18_numberOfLeadingZeros_10 : decode cJ18_numberOfLeadingZeros 10 = .ok (.goto 4, 3) := dk_167 0 4 (dk_at dksJ18_numberOfLeadingZeros_0 10 rfl rfl)
theorem dJ18_numberOfLeadingZeros_13 : decode cJ18_numberOfLeadingZeros 13 = .ok (.iconst 0, 1) := dk_3 (dk_at dksJ18_numberOfLeadingZeros_0 13 rfl rfl)
theorem dJ18_numberOfLeadingZeros_14 : decode cJ18_numberOfLeadingZeros 14 = .ok (.ireturn, 1) := dk_172 (dk_at dksJ18_numberOfLeadingZeros_0 14 rfl rfl)
theorem dJ18_numberOfLeadingZeros_15 : decode cJ18_numberOfLeadingZeros 15 = .ok (.bipush 31, 2) := dk_16 31 (dk_at dksJ18_numberOfLeadingZeros_0 15 rfl rfl)
theorem dJ18_numberOfLeadingZeros_17 : decode cJ18_numberOfLeadingZeros 17 = .ok (.istore_n 1, 1) := dk_60 (dk_at dksJ18_numberOfLeadingZeros_0 17 rfl rfl)
theorem dJ18_numberOfLeadingZeros_18 : decode cJ18_numberOfLeadingZeros 18 = .ok (.iload_n 0, 1) := dk_26 (dk_at dksJ18_numberOfLeadingZeros_0 18 rfl rfl)
theorem dJ18_numberOfLeadingZeros_19 : decode cJ18_numberOfLeadingZeros 19 = .ok (.ldc_w 264, 3) := dk_19 1 8 (dk_at dksJ18_numberOfLeadingZeros_0 19 rfl rfl)
theorem dJ18_numberOfLeadingZeros_22 : decode cJ18_numberOfLeadingZeros 22 = .ok (.if_icmp .lt 11, 3) := dk_161 0 11 (dk_at dksJ18_numberOfLeadingZeros_1 0 rfl rfl)
theorem dJ18_numberOfLeadingZeros_25 : decode cJ18_numberOfLeadingZeros 25 = .ok (.iinc 1 (-16), 3) := dk_132 1 240 (dk_at dksJ18_numberOfLeadingZeros_1 3 rfl rfl)
theorem dJ18_numberOfLeadingZeros_28 : decode cJ18_numberOfLeadingZeros 28 = .ok (.iload_n 0, 1) := dk_26 (dk_at dksJ18_numberOfLeadingZeros_1 6 rfl rfl)
theorem dJ18_numberOfLeadingZeros_29 : decode cJ18_numberOfLeadingZeros 29 = .ok (.bipush 16, 2) := dk_16 16 (dk_at dksJ18_numberOfLeadingZeros_1 7 rfl rfl)
theorem dJ18_numberOfLeadingZeros_31 : decode cJ18_numberOfLeadingZeros 31 = .ok (.iushr, 1) := dk_124 (dk_at dksJ18_numberOfLeadingZeros_1 9 rfl rfl)
theorem dJ18_numberOfLeadingZeros_32 : decode cJ18_numberOfLeadingZeros 32 = .ok (.istore_n 0, 1) := dk_59 (dk_at dksJ18_numberOfLeadingZeros_1 10 rfl rfl)
theorem dJ18_numberOfLeadingZeros_33 : decode cJ18_numberOfLeadingZeros 33 = .ok (.iload_n 0, 1) := dk_26 (dk_at dksJ18_numberOfLeadingZeros_1 11 rfl rfl)
theorem dJ18_numberOfLeadingZeros_34 : decode cJ18_numberOfLeadingZeros 34 = .ok (.sipush 256, 3) := dk_17 1 0 (dk_at dksJ18_numberOfLeadingZeros_1 12 rfl rfl)
theorem dJ18_numberOfLeadingZeros_37 : decode cJ18_numberOfLeadingZeros 37 = .ok (.if_icmp .lt 11, 3) := dk_161 0 11 (dk_at dksJ18_numberOfLeadingZeros_1 15 rfl rfl)
theorem dJ18_numberOfLeadingZeros_40 : decode cJ18_numberOfLeadingZeros 40 = .ok (.iinc 1 (-8), 3) := dk_132 1 248 (dk_at dksJ18_numberOfLeadingZeros_1 18 rfl rfl)
theorem dJ18_numberOfLeadingZeros_43 : decode cJ18_numberOfLeadingZeros 43 = .ok (.iload_n 0, 1) := dk_26 (dk_at dksJ18_numberOfLeadingZeros_1 21 rfl rfl)
theorem dJ18_numberOfLeadingZeros_44 : decode cJ18_numberOfLeadingZeros 44 = .ok (.bipush 8, 2) := dk_16 8 (dk_at dksJ18_numberOfLeadingZeros_1 22 rfl rfl)
theorem dJ18_numberOfLeadingZeros_46 : decode cJ18_numberOfLeadingZeros 46 = .ok (.iushr, 1) := dk_124 (dk_at dksJ18_numberOfLeadingZeros_2 0 rfl rfl)
theorem dJ18_numberOfLeadingZeros_47 : decode cJ18_numberOfLeadingZeros 47 = .ok (.istore_n 0, 1) := dk_59 (dk_at dksJ18_numberOfLeadingZeros_2 1 rfl rfl)
theorem dJ18_numberOfLeadingZeros_48 : decode cJ18_numberOfLeadingZeros 48 = .ok (.iload_n 0, 1) := dk_26 (dk_at dksJ18_numberOfLeadingZeros_2 2 rfl rfl)
theorem dJ18_numberOfLeadingZeros_49 : decode cJ18_numberOfLeadingZeros 49 = .ok (.bipush 16, 2) := dk_16 16 (dk_at dksJ18_numberOfLeadingZeros_2 3 rfl rfl)
theorem dJ18_numberOfLeadingZeros_51 : decode cJ18_numberOfLeadingZeros 51 = .ok (.if_icmp .lt 10, 3) := dk_161 0 10 (dk_at dksJ18_numberOfLeadingZeros_2 5 rfl rfl)
theorem dJ18_numberOfLeadingZeros_54 : decode cJ18_numberOfLeadingZeros 54 = .ok (.iinc 1 (-4), 3) := dk_132 1 252 (dk_at dksJ18_numberOfLeadingZeros_2 8 rfl rfl)
theorem dJ18_numberOfLeadingZeros_57 : decode cJ18_numberOfLeadingZeros 57 = .ok (.iload_n 0, 1) := dk_26 (dk_at dksJ18_numberOfLeadingZeros_2 11 rfl rfl)
theorem dJ18_numberOfLeadingZeros_58 : decode cJ18_numberOfLeadingZeros 58 = .ok (.iconst 4, 1) := dk_7 (dk_at dksJ18_numberOfLeadingZeros_2 12 rfl rfl)
theorem dJ18_numberOfLeadingZeros_59 : decode cJ18_numberOfLeadingZeros 59 = .ok (.iushr, 1) := dk_124 (dk_at dksJ18_numberOfLeadingZeros_2 13 rfl rfl)
theorem dJ18_numberOfLeadingZeros_60 : decode cJ18_numberOfLeadingZeros 60 = .ok (.istore_n 0, 1) := dk_59 (dk_at dksJ18_numberOfLeadingZeros_2 14 rfl rfl)
theorem dJ18_numberOfLeadingZeros_61 : decode cJ18_numberOfLeadingZeros 61 = .ok (.iload_n 0, 1) := dk_26 (dk_at dksJ18_numberOfLeadingZeros_2 15 rfl rfl)
theorem dJ18_numberOfLeadingZeros_62 : decode cJ18_numberOfLeadingZeros 62 = .ok (.iconst 4, 1) := dk_7 (dk_at dksJ18_numberOfLeadingZeros_2 16 rfl rfl)
theorem dJ18_numberOfLeadingZeros_63 : decode cJ18_numberOfLeadingZeros 63 = .ok (.if_icmp .lt 10, 3) := dk_161 0 10 (dk_at dksJ18_numberOfLeadingZeros_2 17 rfl rfl)
theorem dJ18_numberOfLeadingZeros_66 : decode cJ18_numberOfLeadingZeros 66 = .ok (.iinc 1 (-2), 3) := dk_132 1 254 (dk_at dksJ18_numberOfLeadingZeros_2 20 rfl rfl)
theorem dJ18_numberOfLeadingZeros_69 : decode cJ18_numberOfLeadingZeros 69 = .ok (.iload_n 0, 1) := dk_26 (dk_at dksJ18_numberOfLeadingZeros_2 23 rfl rfl)
theorem dJ18_numberOfLeadingZeros_70 : decode cJ18_numberOfLeadingZeros 70 = .ok (.iconst 2, 1) := dk_5 (dk_at dksJ18_numberOfLeadingZeros_3 0 rfl rfl)
theorem dJ18_numberOfLeadingZeros_71 : decode cJ18_numberOfLeadingZeros 71 = .ok (.iushr, 1) := dk_124 (dk_at dksJ18_numberOfLeadingZeros_3 1 rfl rfl)
theorem dJ18_numberOfLeadingZeros_72 : decode cJ18_numberOfLeadingZeros 72 = .ok (.istore_n 0, 1) := dk_59 (dk_at dksJ18_numberOfLeadingZeros_3 2 rfl rfl)
theorem dJ18_numberOfLeadingZeros_73 : decode cJ18_numberOfLeadingZeros 73 = .ok (.iload_n 1, 1) := dk_27 (dk_at dksJ18_numberOfLeadingZeros_3 3 rfl rfl)
theorem dJ18_numberOfLeadingZeros_74 : decode cJ18_numberOfLeadingZeros 74 = .ok (.iload_n 0, 1) := dk_26 (dk_at dksJ18_numberOfLeadingZeros_3 4 rfl rfl)
theorem dJ18_numberOfLeadingZeros_75 : decode cJ18_numberOfLeadingZeros 75 = .ok (.iconst 1, 1) := dk_4 (dk_at dksJ18_numberOfLeadingZeros_3 5 rfl rfl)
theorem dJ18_numberOfLeadingZeros_76 : decode cJ18_numberOfLeadingZeros 76 = .ok (.iushr, 1) := dk_124 (dk_at dksJ18_numberOfLeadingZeros_3 6 rfl rfl)
theorem dJ18_numberOfLeadingZeros_77 : decode cJ18_numberOfLeadingZeros 77 = .ok (.isub, 1) := dk_100 (dk_at dksJ18_numberOfLeadingZeros_3 7 rfl rfl)
theorem dJ18_numberOfLeadingZeros_78 : decode cJ18_numberOfLeadingZeros 78 = .ok (.ireturn, 1) := dk_172 (dk_at dksJ18_numberOfLeadingZeros_3 8 rfl rfl)
abbrev cJ18_numberOfTrailingZeros : ByteArray := prog_18_method_48_code
def yJ18_numberOfTrailingZeros : MethodName := ⟨RJ18, "numberOfTrailingZeros", "(I)I"⟩
def dkwJ18_numberOfTrailingZeros_3 : List UInt8 := [5, 124, 59, 27, 26, 4, 124, 96, 172]
abbrev dktJ18_numberOfTrailingZeros_3 : List UInt8 := dkwJ18_numberOfTrailingZeros_3 ++ []
def dkwJ18_numberOfTrailingZeros_2 : List UInt8 := [124, 59, 26, 16, 16, 164, 0, 10, 132, 1, 4, 26, 7, 124, 59, 26, 7, 164, 0, 10, 132, 1, 2, 26]
abbrev dktJ18_numberOfTrailingZeros_2 : List UInt8 := dkwJ18_numberOfTrailingZeros_2 ++ dktJ18_numberOfTrailingZeros_3
def dkwJ18_numberOfTrailingZeros_1 : List UInt8 := [164, 0, 11, 132, 1, 16, 26, 16, 16, 124, 59, 26, 17, 1, 0, 164, 0, 11, 132, 1, 8, 26, 16, 8]
abbrev dktJ18_numberOfTrailingZeros_1 : List UInt8 := dkwJ18_numberOfTrailingZeros_1 ++ dktJ18_numberOfTrailingZeros_2
def dkwJ18_numberOfTrailingZeros_0 : List UInt8 := [26, 2, 130, 26, 4, 100, 126, 59, 26, 157, 0, 8, 26, 16, 32, 126, 172, 4, 60, 26, 19, 1, 8]
abbrev dktJ18_numberOfTrailingZeros_0 : List UInt8 := dkwJ18_numberOfTrailingZeros_0 ++ dktJ18_numberOfTrailingZeros_1
theorem dksJ18_numberOfTrailingZeros_0 : cJ18_numberOfTrailingZeros.data.toList.drop 0 = dktJ18_numberOfTrailingZeros_0 := by decide +kernel
theorem dksJ18_numberOfTrailingZeros_1 : cJ18_numberOfTrailingZeros.data.toList.drop 23 = dktJ18_numberOfTrailingZeros_1 := dk_seg dksJ18_numberOfTrailingZeros_0 23 rfl rfl
theorem dksJ18_numberOfTrailingZeros_2 : cJ18_numberOfTrailingZeros.data.toList.drop 47 = dktJ18_numberOfTrailingZeros_2 := dk_seg dksJ18_numberOfTrailingZeros_1 24 rfl rfl
theorem dksJ18_numberOfTrailingZeros_3 : cJ18_numberOfTrailingZeros.data.toList.drop 71 = dktJ18_numberOfTrailingZeros_3 := dk_seg dksJ18_numberOfTrailingZeros_2 24 rfl rfl
theorem dJ18_numberOfTrailingZeros_0 : decode cJ18_numberOfTrailingZeros 0 = .ok (.iload_n 0, 1) := dk_26 (dk_at dksJ18_numberOfTrailingZeros_0 0 rfl rfl)
theorem dJ18_numberOfTrailingZeros_1 : decode cJ18_numberOfTrailingZeros 1 = .ok (.iconst (-1), 1) := dk_2 (dk_at dksJ18_numberOfTrailingZeros_0 1 rfl rfl)
theorem dJ18_numberOfTrailingZeros_2 : decode cJ18_numberOfTrailingZeros 2 = .ok (.ixor, 1) := dk_130 (dk_at dksJ18_numberOfTrailingZeros_0 2 rfl rfl)
theorem dJ18_numberOfTrailingZeros_3 : decode cJ18_numberOfTrailingZeros 3 = .ok (.iload_n 0, 1) := dk_26 (dk_at dksJ18_numberOfTrailingZeros_0 3 rfl rfl)
theorem dJ18_numberOfTrailingZeros_4 : decode cJ18_numberOfTrailingZeros 4 = .ok (.iconst 1, 1) := dk_4 (dk_at dksJ18_numberOfTrailingZeros_0 4 rfl rfl)
theorem dJ18_numberOfTrailingZeros_5 : decode cJ18_numberOfTrailingZeros 5 = .ok (.isub, 1) := dk_100 (dk_at dksJ18_numberOfTrailingZeros_0 5 rfl rfl)
theorem dJ18_numberOfTrailingZeros_6 : decode cJ18_numberOfTrailingZeros 6 = .ok (.iand, 1) := dk_126 (dk_at dksJ18_numberOfTrailingZeros_0 6 rfl rfl)
theorem dJ18_numberOfTrailingZeros_7 : decode cJ18_numberOfTrailingZeros 7 = .ok (.istore_n 0, 1) := dk_59 (dk_at dksJ18_numberOfTrailingZeros_0 7 rfl rfl)
theorem dJ18_numberOfTrailingZeros_8 : decode cJ18_numberOfTrailingZeros 8 = .ok (.iload_n 0, 1) := dk_26 (dk_at dksJ18_numberOfTrailingZeros_0 8 rfl rfl)
theorem dJ18_numberOfTrailingZeros_9 : decode cJ18_numberOfTrailingZeros 9 = .ok (.ifCond .gt 8, 3) := dk_157 0 8 (dk_at dksJ18_numberOfTrailingZeros_0 9 rfl rfl)
theorem dJ18_numberOfTrailingZeros_12 : decode cJ18_numberOfTrailingZeros 12 = .ok (.iload_n 0, 1) := dk_26 (dk_at dksJ18_numberOfTrailingZeros_0 12 rfl rfl)
theorem dJ18_numberOfTrailingZeros_13 : decode cJ18_numberOfTrailingZeros 13 = .ok (.bipush 32, 2) := dk_16 32 (dk_at dksJ18_numberOfTrailingZeros_0 13 rfl rfl)
theorem dJ18_numberOfTrailingZeros_15 : decode cJ18_numberOfTrailingZeros 15 = .ok (.iand, 1) := dk_126 (dk_at dksJ18_numberOfTrailingZeros_0 15 rfl rfl)
theorem dJ18_numberOfTrailingZeros_16 : decode cJ18_numberOfTrailingZeros 16 = .ok (.ireturn, 1) := dk_172 (dk_at dksJ18_numberOfTrailingZeros_0 16 rfl rfl)
theorem dJ18_numberOfTrailingZeros_17 : decode cJ18_numberOfTrailingZeros 17 = .ok (.iconst 1, 1) := dk_4 (dk_at dksJ18_numberOfTrailingZeros_0 17 rfl rfl)
theorem dJ18_numberOfTrailingZeros_18 : decode cJ18_numberOfTrailingZeros 18 = .ok (.istore_n 1, 1) := dk_60 (dk_at dksJ18_numberOfTrailingZeros_0 18 rfl rfl)
theorem dJ18_numberOfTrailingZeros_19 : decode cJ18_numberOfTrailingZeros 19 = .ok (.iload_n 0, 1) := dk_26 (dk_at dksJ18_numberOfTrailingZeros_0 19 rfl rfl)
theorem dJ18_numberOfTrailingZeros_20 : decode cJ18_numberOfTrailingZeros 20 = .ok (.ldc_w 264, 3) := dk_19 1 8 (dk_at dksJ18_numberOfTrailingZeros_0 20 rfl rfl)
theorem dJ18_numberOfTrailingZeros_23 : decode cJ18_numberOfTrailingZeros 23 = .ok (.if_icmp .le 11, 3) := dk_164 0 11 (dk_at dksJ18_numberOfTrailingZeros_1 0 rfl rfl)
theorem dJ18_numberOfTrailingZeros_26 : decode cJ18_numberOfTrailingZeros 26 = .ok (.iinc 1 16, 3) := dk_132 1 16 (dk_at dksJ18_numberOfTrailingZeros_1 3 rfl rfl)
theorem dJ18_numberOfTrailingZeros_29 : decode cJ18_numberOfTrailingZeros 29 = .ok (.iload_n 0, 1) := dk_26 (dk_at dksJ18_numberOfTrailingZeros_1 6 rfl rfl)
theorem dJ18_numberOfTrailingZeros_30 : decode cJ18_numberOfTrailingZeros 30 = .ok (.bipush 16, 2) := dk_16 16 (dk_at dksJ18_numberOfTrailingZeros_1 7 rfl rfl)
theorem dJ18_numberOfTrailingZeros_32 : decode cJ18_numberOfTrailingZeros 32 = .ok (.iushr, 1) := dk_124 (dk_at dksJ18_numberOfTrailingZeros_1 9 rfl rfl)
theorem dJ18_numberOfTrailingZeros_33 : decode cJ18_numberOfTrailingZeros 33 = .ok (.istore_n 0, 1) := dk_59 (dk_at dksJ18_numberOfTrailingZeros_1 10 rfl rfl)
theorem dJ18_numberOfTrailingZeros_34 : decode cJ18_numberOfTrailingZeros 34 = .ok (.iload_n 0, 1) := dk_26 (dk_at dksJ18_numberOfTrailingZeros_1 11 rfl rfl)
theorem dJ18_numberOfTrailingZeros_35 : decode cJ18_numberOfTrailingZeros 35 = .ok (.sipush 256, 3) := dk_17 1 0 (dk_at dksJ18_numberOfTrailingZeros_1 12 rfl rfl)
theorem dJ18_numberOfTrailingZeros_38 : decode cJ18_numberOfTrailingZeros 38 = .ok (.if_icmp .le 11, 3) := dk_164 0 11 (dk_at dksJ18_numberOfTrailingZeros_1 15 rfl rfl)
theorem dJ18_numberOfTrailingZeros_41 : decode cJ18_numberOfTrailingZeros 41 = .ok (.iinc 1 8, 3) := dk_132 1 8 (dk_at dksJ18_numberOfTrailingZeros_1 18 rfl rfl)
theorem dJ18_numberOfTrailingZeros_44 : decode cJ18_numberOfTrailingZeros 44 = .ok (.iload_n 0, 1) := dk_26 (dk_at dksJ18_numberOfTrailingZeros_1 21 rfl rfl)
theorem dJ18_numberOfTrailingZeros_45 : decode cJ18_numberOfTrailingZeros 45 = .ok (.bipush 8, 2) := dk_16 8 (dk_at dksJ18_numberOfTrailingZeros_1 22 rfl rfl)
theorem dJ18_numberOfTrailingZeros_47 : decode cJ18_numberOfTrailingZeros 47 = .ok (.iushr, 1) := dk_124 (dk_at dksJ18_numberOfTrailingZeros_2 0 rfl rfl)
theorem dJ18_numberOfTrailingZeros_48 : decode cJ18_numberOfTrailingZeros 48 = .ok (.istore_n 0, 1) := dk_59 (dk_at dksJ18_numberOfTrailingZeros_2 1 rfl rfl)
theorem dJ18_numberOfTrailingZeros_49 : decode cJ18_numberOfTrailingZeros 49 = .ok (.iload_n 0, 1) := dk_26 (dk_at dksJ18_numberOfTrailingZeros_2 2 rfl rfl)
theorem dJ18_numberOfTrailingZeros_50 : decode cJ18_numberOfTrailingZeros 50 = .ok (.bipush 16, 2) := dk_16 16 (dk_at dksJ18_numberOfTrailingZeros_2 3 rfl rfl)
theorem dJ18_numberOfTrailingZeros_52 : decode cJ18_numberOfTrailingZeros 52 = .ok (.if_icmp .le 10, 3) := dk_164 0 10 (dk_at dksJ18_numberOfTrailingZeros_2 5 rfl rfl)
theorem dJ18_numberOfTrailingZeros_55 : decode cJ18_numberOfTrailingZeros 55 = .ok (.iinc 1 4, 3) := dk_132 1 4 (dk_at dksJ18_numberOfTrailingZeros_2 8 rfl rfl)
theorem dJ18_numberOfTrailingZeros_58 : decode cJ18_numberOfTrailingZeros 58 = .ok (.iload_n 0, 1) := dk_26 (dk_at dksJ18_numberOfTrailingZeros_2 11 rfl rfl)
theorem dJ18_numberOfTrailingZeros_59 : decode cJ18_numberOfTrailingZeros 59 = .ok (.iconst 4, 1) := dk_7 (dk_at dksJ18_numberOfTrailingZeros_2 12 rfl rfl)
theorem dJ18_numberOfTrailingZeros_60 : decode cJ18_numberOfTrailingZeros 60 = .ok (.iushr, 1) := dk_124 (dk_at dksJ18_numberOfTrailingZeros_2 13 rfl rfl)
theorem dJ18_numberOfTrailingZeros_61 : decode cJ18_numberOfTrailingZeros 61 = .ok (.istore_n 0, 1) := dk_59 (dk_at dksJ18_numberOfTrailingZeros_2 14 rfl rfl)
theorem dJ18_numberOfTrailingZeros_62 : decode cJ18_numberOfTrailingZeros 62 = .ok (.iload_n 0, 1) := dk_26 (dk_at dksJ18_numberOfTrailingZeros_2 15 rfl rfl)
theorem dJ18_numberOfTrailingZeros_63 : decode cJ18_numberOfTrailingZeros 63 = .ok (.iconst 4, 1) := dk_7 (dk_at dksJ18_numberOfTrailingZeros_2 16 rfl rfl)
theorem dJ18_numberOfTrailingZeros_64 : decode cJ18_numberOfTrailingZeros 64 = .ok (.if_icmp .le 10, 3) := dk_164 0 10 (dk_at dksJ18_numberOfTrailingZeros_2 17 rfl rfl)
theorem dJ18_numberOfTrailingZeros_67 : decode cJ18_numberOfTrailingZeros 67 = .ok (.iinc 1 2, 3) := dk_132 1 2 (dk_at dksJ18_numberOfTrailingZeros_2 20 rfl rfl)
theorem dJ18_numberOfTrailingZeros_70 : decode cJ18_numberOfTrailingZeros 70 = .ok (.iload_n 0, 1) := dk_26 (dk_at dksJ18_numberOfTrailingZeros_2 23 rfl rfl)
theorem dJ18_numberOfTrailingZeros_71 : decode cJ18_numberOfTrailingZeros 71 = .ok (.iconst 2, 1) := dk_5 (dk_at dksJ18_numberOfTrailingZeros_3 0 rfl rfl)
theorem dJ18_numberOfTrailingZeros_72 : decode cJ18_numberOfTrailingZeros 72 = .ok (.iushr, 1) := dk_124 (dk_at dksJ18_numberOfTrailingZeros_3 1 rfl rfl)
theorem dJ18_numberOfTrailingZeros_73 : decode cJ18_numberOfTrailingZeros 73 = .ok (.istore_n 0, 1) := dk_59 (dk_at dksJ18_numberOfTrailingZeros_3 2 rfl rfl)
theorem dJ18_numberOfTrailingZeros_74 : decode cJ18_numberOfTrailingZeros 74 = .ok (.iload_n 1, 1) := dk_27 (dk_at dksJ18_numberOfTrailingZeros_3 3 rfl rfl)
theorem dJ18_numberOfTrailingZeros_75 : decode cJ18_numberOfTrailingZeros 75 = .ok (.iload_n 0, 1) := dk_26 (dk_at dksJ18_numberOfTrailingZeros_3 4 rfl rfl)
theorem dJ18_numberOfTrailingZeros_76 : decode cJ18_numberOfTrailingZeros 76 = .ok (.iconst 1, 1) := dk_4 (dk_at dksJ18_numberOfTrailingZeros_3 5 rfl rfl)
theorem dJ18_numberOfTrailingZeros_77 : decode cJ18_numberOfTrailingZeros 77 = .ok (.iushr, 1) := dk_124 (dk_at dksJ18_numberOfTrailingZeros_3 6 rfl rfl)
theorem dJ18_numberOfTrailingZeros_78 : decode cJ18_numberOfTrailingZeros 78 = .ok (.iadd, 1) := dk_96 (dk_at dksJ18_numberOfTrailingZeros_3 7 rfl rfl)
theorem dJ18_numberOfTrailingZeros_79 : decode cJ18_numberOfTrailingZeros 79 = .ok (.ireturn, 1) := dk_172 (dk_at dksJ18_numberOfTrailingZeros_3 8 rfl rfl)
abbrev cJ18_intValue : ByteArray := prog_18_method_27_code
def yJ18_intValue : MethodName := ⟨RJ18, "intValue", "()I"⟩
theorem dJ18_intValue_0 : decode cJ18_intValue 0 = .ok (.aload_n 0, 1) := by decide +kernel
theorem dJ18_intValue_1 : decode cJ18_intValue 1 = .ok (.getfield 205, 3) := by decide +kernel
theorem dJ18_intValue_4 : decode cJ18_intValue 4 = .ok (.ireturn, 1) := by decide +kernel
abbrev cJ18_stringSize : ByteArray := prog_18_method_13_code
def yJ18_stringSize : MethodName := ⟨RJ18, "stringSize", "(I)I"⟩
def dkwJ18_stringSize_1 : List UInt8 := [164, 0, 7, 29, 27, 96, 172, 16, 10, 28, 104, 61, 132, 3, 1, 167, 255, 233, 16, 10, 27, 96, 172]
abbrev dktJ18_stringSize_1 : List UInt8 := dkwJ18_stringSize_1 ++ []
def dkwJ18_stringSize_0 : List UInt8 := [4, 60, 26, 155, 0, 8, 3, 60, 26, 116, 59, 16, 246, 61, 4, 62, 29, 16, 10, 162, 0, 23, 26, 28]
abbrev dktJ18_stringSize_0 : List UInt8 := dkwJ18_stringSize_0 ++ dktJ18_stringSize_1
theorem dksJ18_stringSize_0 : cJ18_stringSize.data.toList.drop 0 = dktJ18_stringSize_0 := by decide +kernel
theorem dksJ18_stringSize_1 : cJ18_stringSize.data.toList.drop 24 = dktJ18_stringSize_1 := dk_seg dksJ18_stringSize_0 24 rfl rfl
theorem dJ18_stringSize_0 : decode cJ18_stringSize 0 = .ok (.iconst 1, 1) := dk_4 (dk_at dksJ18_stringSize_0 0 rfl rfl)
theorem dJ18_stringSize_1 : decode cJ18_stringSize 1 = .ok (.istore_n 1, 1) := dk_60 (dk_at dksJ18_stringSize_0 1 rfl rfl)
theorem dJ18_stringSize_2 : decode cJ18_stringSize 2 = .ok (.iload_n 0, 1) := dk_26 (dk_at dksJ18_stringSize_0 2 rfl rfl)
theorem dJ18_stringSize_3 : decode cJ18_stringSize 3 = .ok (.ifCond .lt 8, 3) := dk_155 0 8 (dk_at dksJ18_stringSize_0 3 rfl rfl)
theorem dJ18_stringSize_6 : decode cJ18_stringSize 6 = .ok (.iconst 0, 1) := dk_3 (dk_at dksJ18_stringSize_0 6 rfl rfl)
theorem dJ18_stringSize_7 : decode cJ18_stringSize 7 = .ok (.istore_n 1, 1) := dk_60 (dk_at dksJ18_stringSize_0 7 rfl rfl)
theorem dJ18_stringSize_8 : decode cJ18_stringSize 8 = .ok (.iload_n 0, 1) := dk_26 (dk_at dksJ18_stringSize_0 8 rfl rfl)
theorem dJ18_stringSize_9 : decode cJ18_stringSize 9 = .ok (.ineg, 1) := dk_116 (dk_at dksJ18_stringSize_0 9 rfl rfl)
theorem dJ18_stringSize_10 : decode cJ18_stringSize 10 = .ok (.istore_n 0, 1) := dk_59 (dk_at dksJ18_stringSize_0 10 rfl rfl)
theorem dJ18_stringSize_11 : decode cJ18_stringSize 11 = .ok (.bipush (-10), 2) := dk_16 246 (dk_at dksJ18_stringSize_0 11 rfl rfl)
theorem dJ18_stringSize_13 : decode cJ18_stringSize 13 = .ok (.istore_n 2, 1) := dk_61 (dk_at dksJ18_stringSize_0 13 rfl rfl)
theorem dJ18_stringSize_14 : decode cJ18_stringSize 14 = .ok (.iconst 1, 1) := dk_4 (dk_at dksJ18_stringSize_0 14 rfl rfl)
theorem dJ18_stringSize_15 : decode cJ18_stringSize 15 = .ok (.istore_n 3, 1) := dk_62 (dk_at dksJ18_stringSize_0 15 rfl rfl)
theorem dJ18_stringSize_16 : decode cJ18_stringSize 16 = .ok (.iload_n 3, 1) := dk_29 (dk_at dksJ18_stringSize_0 16 rfl rfl)
theorem dJ18_stringSize_17 : decode cJ18_stringSize 17 = .ok (.bipush 10, 2) := dk_16 10 (dk_at dksJ18_stringSize_0 17 rfl rfl)
theorem dJ18_stringSize_19 : decode cJ18_stringSize 19 = .ok (.if_icmp .ge 23, 3) := dk_162 0 23 (dk_at dksJ18_stringSize_0 19 rfl rfl)
theorem dJ18_stringSize_22 : decode cJ18_stringSize 22 = .ok (.iload_n 0, 1) := dk_26 (dk_at dksJ18_stringSize_0 22 rfl rfl)
theorem dJ18_stringSize_23 : decode cJ18_stringSize 23 = .ok (.iload_n 2, 1) := dk_28 (dk_at dksJ18_stringSize_0 23 rfl rfl)
theorem dJ18_stringSize_24 : decode cJ18_stringSize 24 = .ok (.if_icmp .le 7, 3) := dk_164 0 7 (dk_at dksJ18_stringSize_1 0 rfl rfl)
theorem dJ18_stringSize_27 : decode cJ18_stringSize 27 = .ok (.iload_n 3, 1) := dk_29 (dk_at dksJ18_stringSize_1 3 rfl rfl)
theorem dJ18_stringSize_28 : decode cJ18_stringSize 28 = .ok (.iload_n 1, 1) := dk_27 (dk_at dksJ18_stringSize_1 4 rfl rfl)
theorem dJ18_stringSize_29 : decode cJ18_stringSize 29 = .ok (.iadd, 1) := dk_96 (dk_at dksJ18_stringSize_1 5 rfl rfl)
theorem dJ18_stringSize_30 : decode cJ18_stringSize 30 = .ok (.ireturn, 1) := dk_172 (dk_at dksJ18_stringSize_1 6 rfl rfl)
theorem dJ18_stringSize_31 : decode cJ18_stringSize 31 = .ok (.bipush 10, 2) := dk_16 10 (dk_at dksJ18_stringSize_1 7 rfl rfl)
theorem dJ18_stringSize_33 : decode cJ18_stringSize 33 = .ok (.iload_n 2, 1) := dk_28 (dk_at dksJ18_stringSize_1 9 rfl rfl)
theorem dJ18_stringSize_34 : decode cJ18_stringSize 34 = .ok (.imul, 1) := dk_104 (dk_at dksJ18_stringSize_1 10 rfl rfl)
theorem dJ18_stringSize_35 : decode cJ18_stringSize 35 = .ok (.istore_n 2, 1) := dk_61 (dk_at dksJ18_stringSize_1 11 rfl rfl)
theorem dJ18_stringSize_36 : decode cJ18_stringSize 36 = .ok (.iinc 3 1, 3) := dk_132 3 1 (dk_at dksJ18_stringSize_1 12 rfl rfl)
theorem dJ18_stringSize_39 : decode cJ18_stringSize 39 = .ok (.goto (-23), 3) := dk_167 255 233 (dk_at dksJ18_stringSize_1 15 rfl rfl)
theorem dJ18_stringSize_42 : decode cJ18_stringSize 42 = .ok (.bipush 10, 2) := dk_16 10 (dk_at dksJ18_stringSize_1 18 rfl rfl)
theorem dJ18_stringSize_44 : decode cJ18_stringSize 44 = .ok (.iload_n 1, 1) := dk_27 (dk_at dksJ18_stringSize_1 20 rfl rfl)
theorem dJ18_stringSize_45 : decode cJ18_stringSize 45 = .ok (.iadd, 1) := dk_96 (dk_at dksJ18_stringSize_1 21 rfl rfl)
theorem dJ18_stringSize_46 : decode cJ18_stringSize 46 = .ok (.ireturn, 1) := dk_172 (dk_at dksJ18_stringSize_1 22 rfl rfl)
abbrev cJ18_getChars : ByteArray := prog_18_method_12_code
def yJ18_getChars : MethodName := ⟨RJ18, "getChars", "(II[B)I"⟩
def dkwJ18_getChars_5 : List UInt8 := [16, 45, 84, 21, 5, 172]
abbrev dktJ18_getChars_5 : List UInt8 := dkwJ18_getChars_5 ++ []
def dkwJ18_getChars_4 : List UInt8 := [132, 5, 255, 21, 5, 178, 0, 87, 26, 116, 51, 84, 21, 6, 153, 0, 12, 44, 132, 5, 255, 21, 5]
abbrev dktJ18_getChars_4 : List UInt8 := dkwJ18_getChars_4 ++ dktJ18_getChars_5
def dkwJ18_getChars_3 : List UInt8 := [167, 255, 209, 44, 132, 5, 255, 21, 5, 178, 0, 83, 26, 116, 51, 84, 26, 16, 247, 162, 0, 16, 44]
abbrev dktJ18_getChars_3 : List UInt8 := dkwJ18_getChars_3 ++ dktJ18_getChars_4
def dkwJ18_getChars_2 : List UInt8 := [21, 5, 178, 0, 83, 21, 4, 51, 84, 44, 132, 5, 255, 21, 5, 178, 0, 87, 21, 4, 51, 84]
abbrev dktJ18_getChars_2 : List UInt8 := dkwJ18_getChars_2 ++ dktJ18_getChars_3
def dkwJ18_getChars_1 : List UInt8 := [16, 156, 163, 0, 47, 26, 16, 100, 108, 62, 29, 16, 100, 104, 26, 100, 54, 4, 29, 59, 44, 132, 5, 255]
abbrev dktJ18_getChars_1 : List UInt8 := dkwJ18_getChars_1 ++ dktJ18_getChars_2
def dkwJ18_getChars_0 : List UInt8 := [27, 54, 5, 26, 156, 0, 7, 4, 167, 0, 4, 3, 54, 6, 21, 6, 154, 0, 6, 26, 116, 59, 26]
abbrev dktJ18_getChars_0 : List UInt8 := dkwJ18_getChars_0 ++ dktJ18_getChars_1
theorem dksJ18_getChars_0 : cJ18_getChars.data.toList.drop 0 = dktJ18_getChars_0 := by decide +kernel
theorem dksJ18_getChars_1 : cJ18_getChars.data.toList.drop 23 = dktJ18_getChars_1 := dk_seg dksJ18_getChars_0 23 rfl rfl
theorem dksJ18_getChars_2 : cJ18_getChars.data.toList.drop 47 = dktJ18_getChars_2 := dk_seg dksJ18_getChars_1 24 rfl rfl
theorem dksJ18_getChars_3 : cJ18_getChars.data.toList.drop 69 = dktJ18_getChars_3 := dk_seg dksJ18_getChars_2 22 rfl rfl
theorem dksJ18_getChars_4 : cJ18_getChars.data.toList.drop 92 = dktJ18_getChars_4 := dk_seg dksJ18_getChars_3 23 rfl rfl
theorem dksJ18_getChars_5 : cJ18_getChars.data.toList.drop 115 = dktJ18_getChars_5 := dk_seg dksJ18_getChars_4 23 rfl rfl
theorem dJ18_getChars_0 : decode cJ18_getChars 0 = .ok (.iload_n 1, 1) := dk_27 (dk_at dksJ18_getChars_0 0 rfl rfl)
theorem dJ18_getChars_1 : decode cJ18_getChars 1 = .ok (.istore 5, 2) := dk_54 5 (dk_at dksJ18_getChars_0 1 rfl rfl)
theorem dJ18_getChars_3 : decode cJ18_getChars 3 = .ok (.iload_n 0, 1) := dk_26 (dk_at dksJ18_getChars_0 3 rfl rfl)
theorem dJ18_getChars_4 : decode cJ18_getChars 4 = .ok (.ifCond .ge 7, 3) := dk_156 0 7 (dk_at dksJ18_getChars_0 4 rfl rfl)
theorem dJ18_getChars_7 : decode cJ18_getChars 7 = .ok (.iconst 1, 1) := dk_4 (dk_at dksJ18_getChars_0 7 rfl rfl)
theorem dJ18_getChars_8 : decode cJ18_getChars 8 = .ok (.goto 4, 3) := dk_167 0 4 (dk_at dksJ18_getChars_0 8 rfl rfl)
theorem dJ18_getChars_11 : decode cJ18_getChars 11 = .ok (.iconst 0, 1) := dk_3 (dk_at dksJ18_getChars_0 11 rfl rfl)
theorem dJ18_getChars_12 : decode cJ18_getChars 12 = .ok (.istore 6, 2) := dk_54 6 (dk_at dksJ18_getChars_0 12 rfl rfl)
theorem dJ18_getChars_14 : decode cJ18_getChars 14 = .ok (.iload 6, 2) := dk_21 6 (dk_at dksJ18_getChars_0 14 rfl rfl)
theorem dJ18_getChars_16 : decode cJ18_getChars 16 = .ok (.ifCond .ne 6, 3) := dk_154 0 6 (dk_at dksJ18_getChars_0 16 rfl rfl)
theorem dJ18_getChars_19 : decode cJ18_getChars 19 = .ok (.iload_n 0, 1) := dk_26 (dk_at dksJ18_getChars_0 19 rfl rfl)
theorem dJ18_getChars_20 : decode cJ18_getChars 20 = .ok (.ineg, 1) := dk_116 (dk_at dksJ18_getChars_0 20 rfl rfl)
theorem dJ18_getChars_21 : decode cJ18_getChars 21 = .ok (.istore_n 0, 1) := dk_59 (dk_at dksJ18_getChars_0 21 rfl rfl)
theorem dJ18_getChars_22 : decode cJ18_getChars 22 = .ok (.iload_n 0, 1) := dk_26 (dk_at dksJ18_getChars_0 22 rfl rfl)
theorem dJ18_getChars_23 : decode cJ18_getChars 23 = .ok (.bipush (-100), 2) := dk_16 156 (dk_at dksJ18_getChars_1 0 rfl rfl)
theorem dJ18_getChars_25 : decode cJ18_getChars 25 = .ok (.if_icmp .gt 47, 3) := dk_163 0 47 (dk_at dksJ18_getChars_1 2 rfl rfl)
theorem dJ18_getChars_28 : decode cJ18_getChars 28 = .ok (.iload_n 0, 1) := dk_26 (dk_at dksJ18_getChars_1 5 rfl rfl)
theorem dJ18_getChars_29 : decode cJ18_getChars 29 = .ok (.bipush 100, 2) := dk_16 100 (dk_at dksJ18_getChars_1 6 rfl rfl)
theorem dJ18_getChars_31 : decode cJ18_getChars 31 = .ok (.idiv, 1) := dk_108 (dk_at dksJ18_getChars_1 8 rfl rfl)
theorem dJ18_getChars_32 : decode cJ18_getChars 32 = .ok (.istore_n 3, 1) := dk_62 (dk_at dksJ18_getChars_1 9 rfl rfl)
theorem dJ18_getChars_33 : decode cJ18_getChars 33 = .ok (.iload_n 3, 1) := dk_29 (dk_at dksJ18_getChars_1 10 rfl rfl)
theorem dJ18_getChars_34 : decode cJ18_getChars 34 = .ok (.bipush 100, 2) := dk_16 100 (dk_at dksJ18_getChars_1 11 rfl rfl)
theorem dJ18_getChars_36 : decode cJ18_getChars 36 = .ok (.imul, 1) := dk_104 (dk_at dksJ18_getChars_1 13 rfl rfl)
theorem dJ18_getChars_37 : decode cJ18_getChars 37 = .ok (.iload_n 0, 1) := dk_26 (dk_at dksJ18_getChars_1 14 rfl rfl)
theorem dJ18_getChars_38 : decode cJ18_getChars 38 = .ok (.isub, 1) := dk_100 (dk_at dksJ18_getChars_1 15 rfl rfl)
theorem dJ18_getChars_39 : decode cJ18_getChars 39 = .ok (.istore 4, 2) := dk_54 4 (dk_at dksJ18_getChars_1 16 rfl rfl)
theorem dJ18_getChars_41 : decode cJ18_getChars 41 = .ok (.iload_n 3, 1) := dk_29 (dk_at dksJ18_getChars_1 18 rfl rfl)
theorem dJ18_getChars_42 : decode cJ18_getChars 42 = .ok (.istore_n 0, 1) := dk_59 (dk_at dksJ18_getChars_1 19 rfl rfl)
theorem dJ18_getChars_43 : decode cJ18_getChars 43 = .ok (.aload_n 2, 1) := dk_44 (dk_at dksJ18_getChars_1 20 rfl rfl)
theorem dJ18_getChars_44 : decode cJ18_getChars 44 = .ok (.iinc 5 (-1), 3) := dk_132 5 255 (dk_at dksJ18_getChars_1 21 rfl rfl)
theorem dJ18_getChars_47 : decode cJ18_getChars 47 = .ok (.iload 5, 2) := dk_21 5 (dk_at dksJ18_getChars_2 0 rfl rfl)
theorem dJ18_getChars_49 : decode cJ18_getChars 49 = .ok (.getstatic 83, 3) := dk_178 0 83 (dk_at dksJ18_getChars_2 2 rfl rfl)
theorem dJ18_getChars_52 : decode cJ18_getChars 52 = .ok (.iload 4, 2) := dk_21 4 (dk_at dksJ18_getChars_2 5 rfl rfl)
theorem dJ18_getChars_54 : decode cJ18_getChars 54 = .ok (.baload, 1) := dk_51 (dk_at dksJ18_getChars_2 7 rfl rfl)
theorem dJ18_getChars_55 : decode cJ18_getChars 55 = .ok (.bastore, 1) := dk_84 (dk_at dksJ18_getChars_2 8 rfl rfl)
theorem dJ18_getChars_56 : decode cJ18_getChars 56 = .ok (.aload_n 2, 1) := dk_44 (dk_at dksJ18_getChars_2 9 rfl rfl)
theorem dJ18_getChars_57 : decode cJ18_getChars 57 = .ok (.iinc 5 (-1), 3) := dk_132 5 255 (dk_at dksJ18_getChars_2 10 rfl rfl)
theorem dJ18_getChars_60 : decode cJ18_getChars 60 = .ok (.iload 5, 2) := dk_21 5 (dk_at dksJ18_getChars_2 13 rfl rfl)
theorem dJ18_getChars_62 : decode cJ18_getChars 62 = .ok (.getstatic 87, 3) := dk_178 0 87 (dk_at dksJ18_getChars_2 15 rfl rfl)
theorem dJ18_getChars_65 : decode cJ18_getChars 65 = .ok (.iload 4, 2) := dk_21 4 (dk_at dksJ18_getChars_2 18 rfl rfl)
theorem dJ18_getChars_67 : decode cJ18_getChars 67 = .ok (.baload, 1) := dk_51 (dk_at dksJ18_getChars_2 20 rfl rfl)
theorem dJ18_getChars_68 : decode cJ18_getChars 68 = .ok (.bastore, 1) := dk_84 (dk_at dksJ18_getChars_2 21 rfl rfl)
theorem dJ18_getChars_69 : decode cJ18_getChars 69 = .ok (.goto (-47), 3) := dk_167 255 209 (dk_at dksJ18_getChars_3 0 rfl rfl)
theorem dJ18_getChars_72 : decode cJ18_getChars 72 = .ok (.aload_n 2, 1) := dk_44 (dk_at dksJ18_getChars_3 3 rfl rfl)
theorem dJ18_getChars_73 : decode cJ18_getChars 73 = .ok (.iinc 5 (-1), 3) := dk_132 5 255 (dk_at dksJ18_getChars_3 4 rfl rfl)
theorem dJ18_getChars_76 : decode cJ18_getChars 76 = .ok (.iload 5, 2) := dk_21 5 (dk_at dksJ18_getChars_3 7 rfl rfl)
theorem dJ18_getChars_78 : decode cJ18_getChars 78 = .ok (.getstatic 83, 3) := dk_178 0 83 (dk_at dksJ18_getChars_3 9 rfl rfl)
theorem dJ18_getChars_81 : decode cJ18_getChars 81 = .ok (.iload_n 0, 1) := dk_26 (dk_at dksJ18_getChars_3 12 rfl rfl)
theorem dJ18_getChars_82 : decode cJ18_getChars 82 = .ok (.ineg, 1) := dk_116 (dk_at dksJ18_getChars_3 13 rfl rfl)
theorem dJ18_getChars_83 : decode cJ18_getChars 83 = .ok (.baload, 1) := dk_51 (dk_at dksJ18_getChars_3 14 rfl rfl)
theorem dJ18_getChars_84 : decode cJ18_getChars 84 = .ok (.bastore, 1) := dk_84 (dk_at dksJ18_getChars_3 15 rfl rfl)
theorem dJ18_getChars_85 : decode cJ18_getChars 85 = .ok (.iload_n 0, 1) := dk_26 (dk_at dksJ18_getChars_3 16 rfl rfl)
theorem dJ18_getChars_86 : decode cJ18_getChars 86 = .ok (.bipush (-9), 2) := dk_16 247 (dk_at dksJ18_getChars_3 17 rfl rfl)
theorem dJ18_getChars_88 : decode cJ18_getChars 88 = .ok (.if_icmp .ge 16, 3) := dk_162 0 16 (dk_at dksJ18_getChars_3 19 rfl rfl)
theorem dJ18_getChars_91 : decode cJ18_getChars 91 = .ok (.aload_n 2, 1) := dk_44 (dk_at dksJ18_getChars_3 22 rfl rfl)
theorem dJ18_getChars_92 : decode cJ18_getChars 92 = .ok (.iinc 5 (-1), 3) := dk_132 5 255 (dk_at dksJ18_getChars_4 0 rfl rfl)
theorem dJ18_getChars_95 : decode cJ18_getChars 95 = .ok (.iload 5, 2) := dk_21 5 (dk_at dksJ18_getChars_4 3 rfl rfl)
theorem dJ18_getChars_97 : decode cJ18_getChars 97 = .ok (.getstatic 87, 3) := dk_178 0 87 (dk_at dksJ18_getChars_4 5 rfl rfl)
theorem dJ18_getChars_100 : decode cJ18_getChars 100 = .ok (.iload_n 0, 1) := dk_26 (dk_at dksJ18_getChars_4 8 rfl rfl)
theorem dJ18_getChars_101 : decode cJ18_getChars 101 = .ok (.ineg, 1) := dk_116 (dk_at dksJ18_getChars_4 9 rfl rfl)
theorem dJ18_getChars_102 : decode cJ18_getChars 102 = .ok (.baload, 1) := dk_51 (dk_at dksJ18_getChars_4 10 rfl rfl)
theorem dJ18_getChars_103 : decode cJ18_getChars 103 = .ok (.bastore, 1) := dk_84 (dk_at dksJ18_getChars_4 11 rfl rfl)
theorem dJ18_getChars_104 : decode cJ18_getChars 104 = .ok (.iload 6, 2) := dk_21 6 (dk_at dksJ18_getChars_4 12 rfl rfl)
theorem dJ18_getChars_106 : decode cJ18_getChars 106 = .ok (.ifCond .eq 12, 3) := dk_153 0 12 (dk_at dksJ18_getChars_4 14 rfl rfl)
theorem dJ18_getChars_109 : decode cJ18_getChars 109 = .ok (.aload_n 2, 1) := dk_44 (dk_at dksJ18_getChars_4 17 rfl rfl)
theorem dJ18_getChars_110 : decode cJ18_getChars 110 = .ok (.iinc 5 (-1), 3) := dk_132 5 255 (dk_at dksJ18_getChars_4 18 rfl rfl)
theorem dJ18_getChars_113 : decode cJ18_getChars 113 = .ok (.iload 5, 2) := dk_21 5 (dk_at dksJ18_getChars_4 21 rfl rfl)
theorem dJ18_getChars_115 : decode cJ18_getChars 115 = .ok (.bipush 45, 2) := dk_16 45 (dk_at dksJ18_getChars_5 0 rfl rfl)
theorem dJ18_getChars_117 : decode cJ18_getChars 117 = .ok (.bastore, 1) := dk_84 (dk_at dksJ18_getChars_5 2 rfl rfl)
theorem dJ18_getChars_118 : decode cJ18_getChars 118 = .ok (.iload 5, 2) := dk_21 5 (dk_at dksJ18_getChars_5 3 rfl rfl)
theorem dJ18_getChars_120 : decode cJ18_getChars 120 = .ok (.ireturn, 1) := dk_172 (dk_at dksJ18_getChars_5 5 rfl rfl)
theorem q95 : (Jvm.Cond.initialized "java/lang/Integer") ∈ lw_all := lw_g (lw_at lw_m1 24 rfl) rfl
theorem q277 : (Jvm.Cond.selects "java/lang/Integer" ({ cls := "java/lang/Object", name := "getClass", desc := "()Ljava/lang/Class;" } : Jvm.MethodName) ({ cls := "java/lang/Object", name := "getClass", desc := "()Ljava/lang/Class;" } : Jvm.MethodName)) ∈ lw_all := lw_g (lw_at lw_m1 206 rfl) rfl
theorem q357 : (Jvm.Cond.static ({ cls := "java/lang/Integer", name := "valueOf", desc := "(I)Ljava/lang/Integer;" } : Jvm.MethodName)) ∈ lw_all := lw_g (lw_at lw_m2 46 rfl) rfl
theorem q358 : (Jvm.Cond.code ({ cls := "java/lang/Integer", name := "valueOf", desc := "(I)Ljava/lang/Integer;" } : Jvm.MethodName) prog_18_method_22_code (1 : Nat) (Option.some (Jvm.ClassFile.FieldType.object "java/lang/Integer"))) ∈ lw_all := lw_g (lw_at lw_m2 47 rfl) rfl
theorem q359 : (Jvm.Cond.fieldLink "java/lang/Integer" (191 : Nat) "java/lang/Integer$IntegerCache" "high" "I") ∈ lw_all := lw_g (lw_at lw_m2 48 rfl) rfl
theorem q361 : (Jvm.Cond.fieldLink "java/lang/Integer" (195 : Nat) "java/lang/Integer$IntegerCache" "cache" "[Ljava/lang/Integer;") ∈ lw_all := lw_g (lw_at lw_m2 50 rfl) rfl
theorem q363 : (Jvm.Cond.classLink "java/lang/Integer" (1 : Nat) "java/lang/Integer") ∈ lw_all := lw_g (lw_at lw_m2 52 rfl) rfl
theorem q364 : (Jvm.Cond.instantiable "java/lang/Integer" (1 : Nat)) ∈ lw_all := lw_g (lw_at lw_m2 53 rfl) rfl
theorem q365 : (Jvm.Cond.methodLink "java/lang/Integer" (199 : Nat) ({ cls := "java/lang/Integer", name := "<init>", desc := "(I)V" } : Jvm.MethodName)) ∈ lw_all := lw_g (lw_at lw_m2 54 rfl) rfl
theorem q366 : (Jvm.Cond.instanceMethod ({ cls := "java/lang/Integer", name := "<init>", desc := "(I)V" } : Jvm.MethodName)) ∈ lw_all := lw_g (lw_at lw_m2 55 rfl) rfl
theorem q367 : (Jvm.Cond.code ({ cls := "java/lang/Integer", name := "<init>", desc := "(I)V" } : Jvm.MethodName) prog_18_method_23_code (2 : Nat) (Option.none : Option Jvm.ClassFile.FieldType)) ∈ lw_all := lw_g (lw_at lw_m2 56 rfl) rfl
theorem q368 : (Jvm.Cond.methodLink "java/lang/Integer" (202 : Nat) ({ cls := "java/lang/Number", name := "<init>", desc := "()V" } : Jvm.MethodName)) ∈ lw_all := lw_g (lw_at lw_m2 57 rfl) rfl
theorem q372 : (Jvm.Cond.fieldLink "java/lang/Integer" (205 : Nat) "java/lang/Integer" "value" "I") ∈ lw_all := lw_g (lw_at lw_m2 61 rfl) rfl
theorem q373 : (Jvm.Cond.laysFinal "java/lang/Integer" "java/lang/Integer" "value" "I") ∈ lw_all := lw_g (lw_at lw_m2 62 rfl) rfl
theorem q374 : (Jvm.Cond.soleField "java/lang/Integer" "value") ∈ lw_all := lw_g (lw_at lw_m2 63 rfl) rfl
theorem q375 : (Jvm.Cond.superclass "java/lang/Integer" "java/lang/Number") ∈ lw_all := lw_g (lw_at lw_m2 64 rfl) rfl
theorem q400 : (Jvm.Cond.castable "java/lang/Integer" "java/lang/Comparable") ∈ lw_tbl := lw_at lw_m2 89 rfl
theorem q401 : (Jvm.Cond.selects "java/lang/Integer" ({ cls := "java/lang/Comparable", name := "compareTo", desc := "(Ljava/lang/Object;)I" } : Jvm.MethodName) ({ cls := "java/lang/Integer", name := "compareTo", desc := "(Ljava/lang/Object;)I" } : Jvm.MethodName)) ∈ lw_all := lw_g (lw_at lw_m2 90 rfl) rfl
theorem q402 : (Jvm.Cond.unhidden "java/lang/Integer" "compareTo" "(Ljava/lang/Object;)I") ∈ lw_tbl := lw_at lw_m2 91 rfl
theorem q403 : (Jvm.Cond.instanceMethod ({ cls := "java/lang/Integer", name := "compareTo", desc := "(Ljava/lang/Object;)I" } : Jvm.MethodName)) ∈ lw_all := lw_g (lw_at lw_m2 92 rfl) rfl
theorem q404 : (Jvm.Cond.publicMethod ({ cls := "java/lang/Integer", name := "compareTo", desc := "(Ljava/lang/Object;)I" } : Jvm.MethodName)) ∈ lw_tbl := lw_at lw_m2 93 rfl
theorem q405 : (Jvm.Cond.code ({ cls := "java/lang/Integer", name := "compareTo", desc := "(Ljava/lang/Object;)I" } : Jvm.MethodName) prog_18_method_63_code (2 : Nat) (Option.some Jvm.ClassFile.FieldType.int)) ∈ lw_all := lw_g (lw_at lw_m2 94 rfl) rfl
theorem q406 : (Jvm.Cond.methodLink "java/lang/Integer" (284 : Nat) ({ cls := "java/lang/Integer", name := "compareTo", desc := "(Ljava/lang/Integer;)I" } : Jvm.MethodName)) ∈ lw_all := lw_g (lw_at lw_m2 95 rfl) rfl
theorem q407 : (Jvm.Cond.instanceMethod ({ cls := "java/lang/Integer", name := "compareTo", desc := "(Ljava/lang/Integer;)I" } : Jvm.MethodName)) ∈ lw_all := lw_g (lw_at lw_m2 96 rfl) rfl
theorem q408 : (Jvm.Cond.selects "java/lang/Integer" ({ cls := "java/lang/Integer", name := "compareTo", desc := "(Ljava/lang/Integer;)I" } : Jvm.MethodName) ({ cls := "java/lang/Integer", name := "compareTo", desc := "(Ljava/lang/Integer;)I" } : Jvm.MethodName)) ∈ lw_all := lw_g (lw_at lw_m2 97 rfl) rfl
theorem q409 : (Jvm.Cond.code ({ cls := "java/lang/Integer", name := "compareTo", desc := "(Ljava/lang/Integer;)I" } : Jvm.MethodName) prog_18_method_39_code (2 : Nat) (Option.some Jvm.ClassFile.FieldType.int)) ∈ lw_all := lw_g (lw_at lw_m2 98 rfl) rfl
theorem q410 : (Jvm.Cond.methodLink "java/lang/Integer" (259 : Nat) ({ cls := "java/lang/Integer", name := "compare", desc := "(II)I" } : Jvm.MethodName)) ∈ lw_all := lw_g (lw_at lw_m2 99 rfl) rfl
theorem q411 : (Jvm.Cond.static ({ cls := "java/lang/Integer", name := "compare", desc := "(II)I" } : Jvm.MethodName)) ∈ lw_all := lw_g (lw_at lw_m2 100 rfl) rfl
theorem q412 : (Jvm.Cond.code ({ cls := "java/lang/Integer", name := "compare", desc := "(II)I" } : Jvm.MethodName) prog_18_method_40_code (2 : Nat) (Option.some Jvm.ClassFile.FieldType.int)) ∈ lw_all := lw_g (lw_at lw_m2 101 rfl) rfl
theorem q509 : (Jvm.Cond.static ({ cls := "java/lang/Integer", name := "numberOfLeadingZeros", desc := "(I)I" } : Jvm.MethodName)) ∈ lw_all := lw_g (lw_at lw_m2 198 rfl) rfl
theorem q510 : (Jvm.Cond.code ({ cls := "java/lang/Integer", name := "numberOfLeadingZeros", desc := "(I)I" } : Jvm.MethodName) prog_18_method_47_code (2 : Nat) (Option.some Jvm.ClassFile.FieldType.int)) ∈ lw_all := lw_g (lw_at lw_m2 199 rfl) rfl
theorem q511 : (Jvm.Cond.constant "java/lang/Integer" (264 : Nat) (65536 : Int32)) ∈ lw_all := lw_g (lw_at lw_m2 200 rfl) rfl
theorem q518 : (Jvm.Cond.static ({ cls := "java/lang/Integer", name := "numberOfTrailingZeros", desc := "(I)I" } : Jvm.MethodName)) ∈ lw_all := lw_g (lw_at lw_m2 207 rfl) rfl
theorem q519 : (Jvm.Cond.code ({ cls := "java/lang/Integer", name := "numberOfTrailingZeros", desc := "(I)I" } : Jvm.MethodName) prog_18_method_48_code (2 : Nat) (Option.some Jvm.ClassFile.FieldType.int)) ∈ lw_all := lw_g (lw_at lw_m2 208 rfl) rfl
theorem q624 : (Jvm.Cond.instanceMethod ({ cls := "java/lang/Integer", name := "intValue", desc := "()I" } : Jvm.MethodName)) ∈ lw_all := lw_g (lw_at lw_m3 73 rfl) rfl
theorem q625 : (Jvm.Cond.selects "java/lang/Integer" ({ cls := "java/lang/Integer", name := "intValue", desc := "()I" } : Jvm.MethodName) ({ cls := "java/lang/Integer", name := "intValue", desc := "()I" } : Jvm.MethodName)) ∈ lw_all := lw_g (lw_at lw_m3 74 rfl) rfl
theorem q626 : (Jvm.Cond.code ({ cls := "java/lang/Integer", name := "intValue", desc := "()I" } : Jvm.MethodName) prog_18_method_27_code (1 : Nat) (Option.some Jvm.ClassFile.FieldType.int)) ∈ lw_all := lw_g (lw_at lw_m3 75 rfl) rfl
theorem q750 : (Jvm.Cond.static ({ cls := "java/lang/Integer", name := "stringSize", desc := "(I)I" } : Jvm.MethodName)) ∈ lw_all := lw_g (lw_at lw_m3 199 rfl) rfl
theorem q751 : (Jvm.Cond.code ({ cls := "java/lang/Integer", name := "stringSize", desc := "(I)I" } : Jvm.MethodName) prog_18_method_13_code (4 : Nat) (Option.some Jvm.ClassFile.FieldType.int)) ∈ lw_all := lw_g (lw_at lw_m3 200 rfl) rfl
theorem q753 : (Jvm.Cond.static ({ cls := "java/lang/Integer", name := "getChars", desc := "(II[B)I" } : Jvm.MethodName)) ∈ lw_all := lw_g (lw_at lw_m3 202 rfl) rfl
theorem q754 : (Jvm.Cond.code ({ cls := "java/lang/Integer", name := "getChars", desc := "(II[B)I" } : Jvm.MethodName) prog_18_method_12_code (7 : Nat) (Option.some Jvm.ClassFile.FieldType.int)) ∈ lw_all := lw_g (lw_at lw_m3 203 rfl) rfl
theorem q755 : (Jvm.Cond.fieldLink "java/lang/Integer" (83 : Nat) "java/lang/Integer" "DigitOnes" "[B") ∈ lw_all := lw_g (lw_at lw_m3 204 rfl) rfl
theorem q756 : (Jvm.Cond.laysStatic "java/lang/Integer" "DigitOnes" "[B") ∈ lw_tbl := lw_at lw_m3 205 rfl
theorem q757 : (Jvm.Cond.fieldLink "java/lang/Integer" (87 : Nat) "java/lang/Integer" "DigitTens" "[B") ∈ lw_all := lw_g (lw_at lw_m3 206 rfl) rfl
theorem q758 : (Jvm.Cond.laysStatic "java/lang/Integer" "DigitTens" "[B") ∈ lw_tbl := lw_at lw_m3 207 rfl
theorem q2202 : (Jvm.Cond.castable "java/lang/Integer" "java/lang/Object") ∈ lw_tbl := lw_at lw_m9 211 rfl
theorem in_J18 : ∀ w ∈ wsJ180, w ∈ lw_all := lw_in wsJ180 [373] (by decide +kernel) (by decide +kernel)

-- J19.java_lang_StringLatin1.lean.txt
/-! java/lang/StringLatin1 -/
set_option maxRecDepth 100000
def RJ19 : String := "java/lang/StringLatin1"
abbrev cJ19_compareTo : ByteArray := prog_27_method_14_code
def yJ19_compareTo : MethodName := ⟨RJ19, "compareTo", "([B[B)I"⟩
def dkwJ19_compareTo_0 : List UInt8 := [42, 190, 61, 43, 190, 62, 42, 43, 28, 29, 184, 0, 34, 172]
abbrev dktJ19_compareTo_0 : List UInt8 := dkwJ19_compareTo_0 ++ []
theorem dksJ19_compareTo_0 : cJ19_compareTo.data.toList.drop 0 = dktJ19_compareTo_0 := by decide +kernel
theorem dJ19_compareTo_0 : decode cJ19_compareTo 0 = .ok (.aload_n 0, 1) := dk_42 (dk_at dksJ19_compareTo_0 0 rfl rfl)
theorem dJ19_compareTo_1 : decode cJ19_compareTo 1 = .ok (.arraylength, 1) := dk_190 (dk_at dksJ19_compareTo_0 1 rfl rfl)
theorem dJ19_compareTo_2 : decode cJ19_compareTo 2 = .ok (.istore_n 2, 1) := dk_61 (dk_at dksJ19_compareTo_0 2 rfl rfl)
theorem dJ19_compareTo_3 : decode cJ19_compareTo 3 = .ok (.aload_n 1, 1) := dk_43 (dk_at dksJ19_compareTo_0 3 rfl rfl)
theorem dJ19_compareTo_4 : decode cJ19_compareTo 4 = .ok (.arraylength, 1) := dk_190 (dk_at dksJ19_compareTo_0 4 rfl rfl)
theorem dJ19_compareTo_5 : decode cJ19_compareTo 5 = .ok (.istore_n 3, 1) := dk_62 (dk_at dksJ19_compareTo_0 5 rfl rfl)
theorem dJ19_compareTo_6 : decode cJ19_compareTo 6 = .ok (.aload_n 0, 1) := dk_42 (dk_at dksJ19_compareTo_0 6 rfl rfl)
theorem dJ19_compareTo_7 : decode cJ19_compareTo 7 = .ok (.aload_n 1, 1) := dk_43 (dk_at dksJ19_compareTo_0 7 rfl rfl)
theorem dJ19_compareTo_8 : decode cJ19_compareTo 8 = .ok (.iload_n 2, 1) := dk_28 (dk_at dksJ19_compareTo_0 8 rfl rfl)
theorem dJ19_compareTo_9 : decode cJ19_compareTo 9 = .ok (.iload_n 3, 1) := dk_29 (dk_at dksJ19_compareTo_0 9 rfl rfl)
theorem dJ19_compareTo_10 : decode cJ19_compareTo 10 = .ok (.invokestatic 34, 3) := dk_184 0 34 (dk_at dksJ19_compareTo_0 10 rfl rfl)
theorem dJ19_compareTo_13 : decode cJ19_compareTo 13 = .ok (.ireturn, 1) := dk_172 (dk_at dksJ19_compareTo_0 13 rfl rfl)
abbrev cJ19_compareTo_2 : ByteArray := prog_27_method_15_code
def yJ19_compareTo_2 : MethodName := ⟨RJ19, "compareTo", "([B[BII)I"⟩
def dkwJ19_compareTo_2_1 : List UInt8 := [167, 0, 16, 42, 21, 5, 184, 0, 50, 43, 21, 5, 184, 0, 50, 100, 172]
abbrev dktJ19_compareTo_2_1 : List UInt8 := dkwJ19_compareTo_2_1 ++ []
def dkwJ19_compareTo_2_0 : List UInt8 := [28, 29, 184, 0, 38, 54, 4, 42, 43, 21, 4, 184, 0, 44, 54, 5, 21, 5, 156, 0, 9, 28, 29, 100]
abbrev dktJ19_compareTo_2_0 : List UInt8 := dkwJ19_compareTo_2_0 ++ dktJ19_compareTo_2_1
theorem dksJ19_compareTo_2_0 : cJ19_compareTo_2.data.toList.drop 0 = dktJ19_compareTo_2_0 := by decide +kernel
theorem dksJ19_compareTo_2_1 : cJ19_compareTo_2.data.toList.drop 24 = dktJ19_compareTo_2_1 := dk_seg dksJ19_compareTo_2_0 24 rfl rfl
theorem dJ19_compareTo_2_0 : decode cJ19_compareTo_2 0 = .ok (.iload_n 2, 1) := dk_28 (dk_at dksJ19_compareTo_2_0 0 rfl rfl)
theorem dJ19_compareTo_2_1 : decode cJ19_compareTo_2 1 = .ok (.iload_n 3, 1) := dk_29 (dk_at dksJ19_compareTo_2_0 1 rfl rfl)
theorem dJ19_compareTo_2_2 : decode cJ19_compareTo_2 2 = .ok (.invokestatic 38, 3) := dk_184 0 38 (dk_at dksJ19_compareTo_2_0 2 rfl rfl)
theorem dJ19_compareTo_2_5 : decode cJ19_compareTo_2 5 = .ok (.istore 4, 2) := dk_54 4 (dk_at dksJ19_compareTo_2_0 5 rfl rfl)
theorem dJ19_compareTo_2_7 : decode cJ19_compareTo_2 7 = .ok (.aload_n 0, 1) := dk_42 (dk_at dksJ19_compareTo_2_0 7 rfl rfl)
theorem dJ19_compareTo_2_8 : decode cJ19_compareTo_2 8 = .ok (.aload_n 1, 1) := dk_43 (dk_at dksJ19_compareTo_2_0 8 rfl rfl)
theorem dJ19_compareTo_2_9 : decode cJ19_compareTo_2 9 = .ok (.iload 4, 2) := dk_21 4 (dk_at dksJ19_compareTo_2_0 9 rfl rfl)
theorem dJ19_compareTo_2_11 : decode cJ19_compareTo_2 11 = .ok (.invokestatic 44, 3) := dk_184 0 44 (dk_at dksJ19_compareTo_2_0 11 rfl rfl)
theorem dJ19_compareTo_2_14 : decode cJ19_compareTo_2 14 = .ok (.istore 5, 2) := dk_54 5 (dk_at dksJ19_compareTo_2_0 14 rfl rfl)
theorem dJ19_compareTo_2_16 : decode cJ19_compareTo_2 16 = .ok (.iload 5, 2) := dk_21 5 (dk_at dksJ19_compareTo_2_0 16 rfl rfl)
theorem dJ19_compareTo_2_18 : decode cJ19_compareTo_2 18 = .ok (.ifCond .ge 9, 3) := dk_156 0 9 (dk_at dksJ19_compareTo_2_0 18 rfl rfl)
theorem dJ19_compareTo_2_21 : decode cJ19_compareTo_2 21 = .ok (.iload_n 2, 1) := dk_28 (dk_at dksJ19_compareTo_2_0 21 rfl rfl)
theorem dJ19_compareTo_2_22 : decode cJ19_compareTo_2 22 = .ok (.iload_n 3, 1) := dk_29 (dk_at dksJ19_compareTo_2_0 22 rfl rfl)
theorem dJ19_compareTo_2_23 : decode cJ19_compareTo_2 23 = .ok (.isub, 1) := dk_100 (dk_at dksJ19_compareTo_2_0 23 rfl rfl)
theorem dJ19_compareTo_2_24 : decode cJ19_compareTo_2 24 = .ok (.goto 16, 3) := dk_167 0 16 (dk_at dksJ19_compareTo_2_1 0 rfl rfl)
theorem dJ19_compareTo_2_27 : decode cJ19_compareTo_2 27 = .ok (.aload_n 0, 1) := dk_42 (dk_at dksJ19_compareTo_2_1 3 rfl rfl)
theorem dJ19_compareTo_2_28 : decode cJ19_compareTo_2 28 = .ok (.iload 5, 2) := dk_21 5 (dk_at dksJ19_compareTo_2_1 4 rfl rfl)
theorem dJ19_compareTo_2_30 : decode cJ19_compareTo_2 30 = .ok (.invokestatic 50, 3) := dk_184 0 50 (dk_at dksJ19_compareTo_2_1 6 rfl rfl)
theorem dJ19_compareTo_2_33 : decode cJ19_compareTo_2 33 = .ok (.aload_n 1, 1) := dk_43 (dk_at dksJ19_compareTo_2_1 9 rfl rfl)
theorem dJ19_compareTo_2_34 : decode cJ19_compareTo_2 34 = .ok (.iload 5, 2) := dk_21 5 (dk_at dksJ19_compareTo_2_1 10 rfl rfl)
theorem dJ19_compareTo_2_36 : decode cJ19_compareTo_2 36 = .ok (.invokestatic 50, 3) := dk_184 0 50 (dk_at dksJ19_compareTo_2_1 12 rfl rfl)
theorem dJ19_compareTo_2_39 : decode cJ19_compareTo_2 39 = .ok (.isub, 1) := dk_100 (dk_at dksJ19_compareTo_2_1 15 rfl rfl)
theorem dJ19_compareTo_2_40 : decode cJ19_compareTo_2 40 = .ok (.ireturn, 1) := dk_172 (dk_at dksJ19_compareTo_2_1 16 rfl rfl)
abbrev cJ19_getChar : ByteArray := prog_27_method_44_code
def yJ19_getChar : MethodName := ⟨RJ19, "getChar", "([BI)C"⟩
def dkwJ19_getChar_0 : List UInt8 := [42, 27, 51, 17, 0, 255, 126, 146, 172]
abbrev dktJ19_getChar_0 : List UInt8 := dkwJ19_getChar_0 ++ []
theorem dksJ19_getChar_0 : cJ19_getChar.data.toList.drop 0 = dktJ19_getChar_0 := by decide +kernel
theorem dJ19_getChar_0 : decode cJ19_getChar 0 = .ok (.aload_n 0, 1) := dk_42 (dk_at dksJ19_getChar_0 0 rfl rfl)
theorem dJ19_getChar_1 : decode cJ19_getChar 1 = .ok (.iload_n 1, 1) := dk_27 (dk_at dksJ19_getChar_0 1 rfl rfl)
theorem dJ19_getChar_2 : decode cJ19_getChar 2 = .ok (.baload, 1) := dk_51 (dk_at dksJ19_getChar_0 2 rfl rfl)
theorem dJ19_getChar_3 : decode cJ19_getChar 3 = .ok (.sipush 255, 3) := dk_17 0 255 (dk_at dksJ19_getChar_0 3 rfl rfl)
theorem dJ19_getChar_6 : decode cJ19_getChar 6 = .ok (.iand, 1) := dk_126 (dk_at dksJ19_getChar_0 6 rfl rfl)
theorem dJ19_getChar_7 : decode cJ19_getChar 7 = .ok (.i2c, 1) := dk_146 (dk_at dksJ19_getChar_0 7 rfl rfl)
theorem dJ19_getChar_8 : decode cJ19_getChar 8 = .ok (.ireturn, 1) := dk_172 (dk_at dksJ19_getChar_0 8 rfl rfl)
abbrev cJ19_compareToUTF16 : ByteArray := prog_27_method_16_code
def yJ19_compareToUTF16 : MethodName := ⟨RJ19, "compareToUTF16", "([B[B)I"⟩
def dkwJ19_compareToUTF16_0 : List UInt8 := [42, 184, 0, 54, 61, 43, 184, 0, 58, 62, 42, 43, 28, 29, 184, 0, 59, 172]
abbrev dktJ19_compareToUTF16_0 : List UInt8 := dkwJ19_compareToUTF16_0 ++ []
theorem dksJ19_compareToUTF16_0 : cJ19_compareToUTF16.data.toList.drop 0 = dktJ19_compareToUTF16_0 := by decide +kernel
theorem dJ19_compareToUTF16_0 : decode cJ19_compareToUTF16 0 = .ok (.aload_n 0, 1) := dk_42 (dk_at dksJ19_compareToUTF16_0 0 rfl rfl)
theorem dJ19_compareToUTF16_1 : decode cJ19_compareToUTF16 1 = .ok (.invokestatic 54, 3) := dk_184 0 54 (dk_at dksJ19_compareToUTF16_0 1 rfl rfl)
theorem dJ19_compareToUTF16_4 : decode cJ19_compareToUTF16 4 = .ok (.istore_n 2, 1) := dk_61 (dk_at dksJ19_compareToUTF16_0 4 rfl rfl)
theorem dJ19_compareToUTF16_5 : decode cJ19_compareToUTF16 5 = .ok (.aload_n 1, 1) := dk_43 (dk_at dksJ19_compareToUTF16_0 5 rfl rfl)
theorem dJ19_compareToUTF16_6 : decode cJ19_compareToUTF16 6 = .ok (.invokestatic 58, 3) := dk_184 0 58 (dk_at dksJ19_compareToUTF16_0 6 rfl rfl)
theorem dJ19_compareToUTF16_9 : decode cJ19_compareToUTF16 9 = .ok (.istore_n 3, 1) := dk_62 (dk_at dksJ19_compareToUTF16_0 9 rfl rfl)
theorem dJ19_compareToUTF16_10 : decode cJ19_compareToUTF16 10 = .ok (.aload_n 0, 1) := dk_42 (dk_at dksJ19_compareToUTF16_0 10 rfl rfl)
theorem dJ19_compareToUTF16_11 : decode cJ19_compareToUTF16 11 = .ok (.aload_n 1, 1) := dk_43 (dk_at dksJ19_compareToUTF16_0 11 rfl rfl)
theorem dJ19_compareToUTF16_12 : decode cJ19_compareToUTF16 12 = .ok (.iload_n 2, 1) := dk_28 (dk_at dksJ19_compareToUTF16_0 12 rfl rfl)
theorem dJ19_compareToUTF16_13 : decode cJ19_compareToUTF16 13 = .ok (.iload_n 3, 1) := dk_29 (dk_at dksJ19_compareToUTF16_0 13 rfl rfl)
theorem dJ19_compareToUTF16_14 : decode cJ19_compareToUTF16 14 = .ok (.invokestatic 59, 3) := dk_184 0 59 (dk_at dksJ19_compareToUTF16_0 14 rfl rfl)
theorem dJ19_compareToUTF16_17 : decode cJ19_compareToUTF16 17 = .ok (.ireturn, 1) := dk_172 (dk_at dksJ19_compareToUTF16_0 17 rfl rfl)
abbrev cJ19_length : ByteArray := prog_27_method_5_code
def yJ19_length : MethodName := ⟨RJ19, "length", "([B)I"⟩
theorem dJ19_length_0 : decode cJ19_length 0 = .ok (.aload_n 0, 1) := by decide +kernel
theorem dJ19_length_1 : decode cJ19_length 1 = .ok (.arraylength, 1) := by decide +kernel
theorem dJ19_length_2 : decode cJ19_length 2 = .ok (.ireturn, 1) := by decide +kernel
abbrev cJ19_compareToUTF16Values : ByteArray := prog_27_method_18_code
def yJ19_compareToUTF16Values : MethodName := ⟨RJ19, "compareToUTF16Values", "([B[BII)I"⟩
def dkwJ19_compareToUTF16Values_2 : List UInt8 := [132, 5, 1, 167, 255, 217, 28, 29, 100, 172]
abbrev dktJ19_compareToUTF16Values_2 : List UInt8 := dkwJ19_compareToUTF16Values_2 ++ []
def dkwJ19_compareToUTF16Values_1 : List UInt8 := [54, 6, 43, 21, 5, 184, 0, 65, 54, 7, 21, 6, 21, 7, 159, 0, 9, 21, 6, 21, 7, 100, 172]
abbrev dktJ19_compareToUTF16Values_1 : List UInt8 := dkwJ19_compareToUTF16Values_1 ++ dktJ19_compareToUTF16Values_2
def dkwJ19_compareToUTF16Values_0 : List UInt8 := [28, 29, 184, 0, 38, 54, 4, 3, 54, 5, 21, 5, 21, 4, 162, 0, 38, 42, 21, 5, 184, 0, 50]
abbrev dktJ19_compareToUTF16Values_0 : List UInt8 := dkwJ19_compareToUTF16Values_0 ++ dktJ19_compareToUTF16Values_1
theorem dksJ19_compareToUTF16Values_0 : cJ19_compareToUTF16Values.data.toList.drop 0 = dktJ19_compareToUTF16Values_0 := by decide +kernel
theorem dksJ19_compareToUTF16Values_1 : cJ19_compareToUTF16Values.data.toList.drop 23 = dktJ19_compareToUTF16Values_1 := dk_seg dksJ19_compareToUTF16Values_0 23 rfl rfl
theorem dksJ19_compareToUTF16Values_2 : cJ19_compareToUTF16Values.data.toList.drop 46 = dktJ19_compareToUTF16Values_2 := dk_seg dksJ19_compareToUTF16Values_1 23 rfl rfl
theorem dJ19_compareToUTF16Values_0 : decode cJ19_compareToUTF16Values 0 = .ok (.iload_n 2, 1) := dk_28 (dk_at dksJ19_compareToUTF16Values_0 0 rfl rfl)
theorem dJ19_compareToUTF16Values_1 : decode cJ19_compareToUTF16Values 1 = .ok (.iload_n 3, 1) := dk_29 (dk_at dksJ19_compareToUTF16Values_0 1 rfl rfl)
theorem dJ19_compareToUTF16Values_2 : decode cJ19_compareToUTF16Values 2 = .ok (.invokestatic 38, 3) := dk_184 0 38 (dk_at dksJ19_compareToUTF16Values_0 2 rfl rfl)
theorem dJ19_compareToUTF16Values_5 : decode cJ19_compareToUTF16Values 5 = .ok (.istore 4, 2) := dk_54 4 (dk_at dksJ19_compareToUTF16Values_0 5 rfl rfl)
theorem dJ19_compareToUTF16Values_7 : decode cJ19_compareToUTF16Values 7 = .ok (.iconst 0, 1) := dk_3 (dk_at dksJ19_compareToUTF16Values_0 7 rfl rfl)
theorem dJ19_compareToUTF16Values_8 : decode cJ19_compareToUTF16Values 8 = .ok (.istore 5, 2) := dk_54 5 (dk_at dksJ19_compareToUTF16Values_0 8 rfl rfl)
theorem dJ19_compareToUTF16Values_10 : decode cJ19_compareToUTF16Values 10 = .ok (.iload 5, 2) := dk_21 5 (dk_at dksJ19_compareToUTF16Values_0 10 rfl rfl)
theorem dJ19_compareToUTF16Values_12 : decode cJ19_compareToUTF16Values 12 = .ok (.iload 4, 2) := dk_21 4 (dk_at dksJ19_compareToUTF16Values_0 12 rfl rfl)
theorem dJ19_compareToUTF16Values_14 : decode cJ19_compareToUTF16Values 14 = .ok (.if_icmp .ge 38, 3) := dk_162 0 38 (dk_at dksJ19_compareToUTF16Values_0 14 rfl rfl)
theorem dJ19_compareToUTF16Values_17 : decode cJ19_compareToUTF16Values 17 = .ok (.aload_n 0, 1) := dk_42 (dk_at dksJ19_compareToUTF16Values_0 17 rfl rfl)
theorem dJ19_compareToUTF16Values_18 : decode cJ19_compareToUTF16Values 18 = .ok (.iload 5, 2) := dk_21 5 (dk_at dksJ19_compareToUTF16Values_0 18 rfl rfl)
theorem dJ19_compareToUTF16Values_20 : decode cJ19_compareToUTF16Values 20 = .ok (.invokestatic 50, 3) := dk_184 0 50 (dk_at dksJ19_compareToUTF16Values_0 20 rfl rfl)
theorem dJ19_compareToUTF16Values_23 : decode cJ19_compareToUTF16Values 23 = .ok (.istore 6, 2) := dk_54 6 (dk_at dksJ19_compareToUTF16Values_1 0 rfl rfl)
theorem dJ19_compareToUTF16Values_25 : decode cJ19_compareToUTF16Values 25 = .ok (.aload_n 1, 1) := dk_43 (dk_at dksJ19_compareToUTF16Values_1 2 rfl rfl)
theorem dJ19_compareToUTF16Values_26 : decode cJ19_compareToUTF16Values 26 = .ok (.iload 5, 2) := dk_21 5 (dk_at dksJ19_compareToUTF16Values_1 3 rfl rfl)
theorem dJ19_compareToUTF16Values_28 : decode cJ19_compareToUTF16Values 28 = .ok (.invokestatic 65, 3) := dk_184 0 65 (dk_at dksJ19_compareToUTF16Values_1 5 rfl rfl)
theorem dJ19_compareToUTF16Values_31 : decode cJ19_compareToUTF16Values 31 = .ok (.istore 7, 2) := dk_54 7 (dk_at dksJ19_compareToUTF16Values_1 8 rfl rfl)
theorem dJ19_compareToUTF16Values_33 : decode cJ19_compareToUTF16Values 33 = .ok (.iload 6, 2) := dk_21 6 (dk_at dksJ19_compareToUTF16Values_1 10 rfl rfl)
theorem dJ19_compareToUTF16Values_35 : decode cJ19_compareToUTF16Values 35 = .ok (.iload 7, 2) := dk_21 7 (dk_at dksJ19_compareToUTF16Values_1 12 rfl rfl)
theorem dJ19_compareToUTF16Values_37 : decode cJ19_compareToUTF16Values 37 = .ok (.if_icmp .eq 9, 3) := dk_159 0 9 (dk_at dksJ19_compareToUTF16Values_1 14 rfl rfl)
theorem dJ19_compareToUTF16Values_40 : decode cJ19_compareToUTF16Values 40 = .ok (.iload 6, 2) := dk_21 6 (dk_at dksJ19_compareToUTF16Values_1 17 rfl rfl)
theorem dJ19_compareToUTF16Values_42 : decode cJ19_compareToUTF16Values 42 = .ok (.iload 7, 2) := dk_21 7 (dk_at dksJ19_compareToUTF16Values_1 19 rfl rfl)
theorem dJ19_compareToUTF16Values_44 : decode cJ19_compareToUTF16Values 44 = .ok (.isub, 1) := dk_100 (dk_at dksJ19_compareToUTF16Values_1 21 rfl rfl)
theorem dJ19_compareToUTF16Values_45 : decode cJ19_compareToUTF16Values 45 = .ok (.ireturn, 1) := dk_172 (dk_at dksJ19_compareToUTF16Values_1 22 rfl rfl)
theorem dJ19_compareToUTF16Values_46 : decode cJ19_compareToUTF16Values 46 = .ok (.iinc 5 1, 3) := dk_132 5 1 (dk_at dksJ19_compareToUTF16Values_2 0 rfl rfl)
theorem dJ19_compareToUTF16Values_49 : decode cJ19_compareToUTF16Values 49 = .ok (.goto (-39), 3) := dk_167 255 217 (dk_at dksJ19_compareToUTF16Values_2 3 rfl rfl)
theorem dJ19_compareToUTF16Values_52 : decode cJ19_compareToUTF16Values 52 = .ok (.iload_n 2, 1) := dk_28 (dk_at dksJ19_compareToUTF16Values_2 6 rfl rfl)
theorem dJ19_compareToUTF16Values_53 : decode cJ19_compareToUTF16Values 53 = .ok (.iload_n 3, 1) := dk_29 (dk_at dksJ19_compareToUTF16Values_2 7 rfl rfl)
theorem dJ19_compareToUTF16Values_54 : decode cJ19_compareToUTF16Values 54 = .ok (.isub, 1) := dk_100 (dk_at dksJ19_compareToUTF16Values_2 8 rfl rfl)
theorem dJ19_compareToUTF16Values_55 : decode cJ19_compareToUTF16Values 55 = .ok (.ireturn, 1) := dk_172 (dk_at dksJ19_compareToUTF16Values_2 9 rfl rfl)
abbrev cJ19_compareToUTF16_2 : ByteArray := prog_27_method_17_code
def yJ19_compareToUTF16_2 : MethodName := ⟨RJ19, "compareToUTF16", "([B[BII)I"⟩
def dkwJ19_compareToUTF16_2_0 : List UInt8 := [28, 42, 184, 0, 54, 184, 0, 62, 29, 43, 184, 0, 58, 184, 0, 62, 42, 43, 28, 29, 184, 0, 59, 172]
abbrev dktJ19_compareToUTF16_2_0 : List UInt8 := dkwJ19_compareToUTF16_2_0 ++ []
theorem dksJ19_compareToUTF16_2_0 : cJ19_compareToUTF16_2.data.toList.drop 0 = dktJ19_compareToUTF16_2_0 := by decide +kernel
theorem dJ19_compareToUTF16_2_0 : decode cJ19_compareToUTF16_2 0 = .ok (.iload_n 2, 1) := dk_28 (dk_at dksJ19_compareToUTF16_2_0 0 rfl rfl)
theorem dJ19_compareToUTF16_2_1 : decode cJ19_compareToUTF16_2 1 = .ok (.aload_n 0, 1) := dk_42 (dk_at dksJ19_compareToUTF16_2_0 1 rfl rfl)
theorem dJ19_compareToUTF16_2_2 : decode cJ19_compareToUTF16_2 2 = .ok (.invokestatic 54, 3) := dk_184 0 54 (dk_at dksJ19_compareToUTF16_2_0 2 rfl rfl)
theorem dJ19_compareToUTF16_2_5 : decode cJ19_compareToUTF16_2 5 = .ok (.invokestatic 62, 3) := dk_184 0 62 (dk_at dksJ19_compareToUTF16_2_0 5 rfl rfl)
theorem dJ19_compareToUTF16_2_8 : decode cJ19_compareToUTF16_2 8 = .ok (.iload_n 3, 1) := dk_29 (dk_at dksJ19_compareToUTF16_2_0 8 rfl rfl)
theorem dJ19_compareToUTF16_2_9 : decode cJ19_compareToUTF16_2 9 = .ok (.aload_n 1, 1) := dk_43 (dk_at dksJ19_compareToUTF16_2_0 9 rfl rfl)
theorem dJ19_compareToUTF16_2_10 : decode cJ19_compareToUTF16_2 10 = .ok (.invokestatic 58, 3) := dk_184 0 58 (dk_at dksJ19_compareToUTF16_2_0 10 rfl rfl)
theorem dJ19_compareToUTF16_2_13 : decode cJ19_compareToUTF16_2 13 = .ok (.invokestatic 62, 3) := dk_184 0 62 (dk_at dksJ19_compareToUTF16_2_0 13 rfl rfl)
theorem dJ19_compareToUTF16_2_16 : decode cJ19_compareToUTF16_2 16 = .ok (.aload_n 0, 1) := dk_42 (dk_at dksJ19_compareToUTF16_2_0 16 rfl rfl)
theorem dJ19_compareToUTF16_2_17 : decode cJ19_compareToUTF16_2 17 = .ok (.aload_n 1, 1) := dk_43 (dk_at dksJ19_compareToUTF16_2_0 17 rfl rfl)
theorem dJ19_compareToUTF16_2_18 : decode cJ19_compareToUTF16_2 18 = .ok (.iload_n 2, 1) := dk_28 (dk_at dksJ19_compareToUTF16_2_0 18 rfl rfl)
theorem dJ19_compareToUTF16_2_19 : decode cJ19_compareToUTF16_2 19 = .ok (.iload_n 3, 1) := dk_29 (dk_at dksJ19_compareToUTF16_2_0 19 rfl rfl)
theorem dJ19_compareToUTF16_2_20 : decode cJ19_compareToUTF16_2 20 = .ok (.invokestatic 59, 3) := dk_184 0 59 (dk_at dksJ19_compareToUTF16_2_0 20 rfl rfl)
theorem dJ19_compareToUTF16_2_23 : decode cJ19_compareToUTF16_2 23 = .ok (.ireturn, 1) := dk_172 (dk_at dksJ19_compareToUTF16_2_0 23 rfl rfl)
abbrev cJ19_inflate : ByteArray := prog_27_method_50_code
def yJ19_inflate : MethodName := ⟨RJ19, "inflate", "([BI[BII)V"⟩
def dkwJ19_inflate_0 : List UInt8 := [42, 27, 44, 29, 21, 4, 184, 0, 240, 177]
abbrev dktJ19_inflate_0 : List UInt8 := dkwJ19_inflate_0 ++ []
theorem dksJ19_inflate_0 : cJ19_inflate.data.toList.drop 0 = dktJ19_inflate_0 := by decide +kernel
theorem dJ19_inflate_0 : decode cJ19_inflate 0 = .ok (.aload_n 0, 1) := dk_42 (dk_at dksJ19_inflate_0 0 rfl rfl)
theorem dJ19_inflate_1 : decode cJ19_inflate 1 = .ok (.iload_n 1, 1) := dk_27 (dk_at dksJ19_inflate_0 1 rfl rfl)
theorem dJ19_inflate_2 : decode cJ19_inflate 2 = .ok (.aload_n 2, 1) := dk_44 (dk_at dksJ19_inflate_0 2 rfl rfl)
theorem dJ19_inflate_3 : decode cJ19_inflate 3 = .ok (.iload_n 3, 1) := dk_29 (dk_at dksJ19_inflate_0 3 rfl rfl)
theorem dJ19_inflate_4 : decode cJ19_inflate 4 = .ok (.iload 4, 2) := dk_21 4 (dk_at dksJ19_inflate_0 4 rfl rfl)
theorem dJ19_inflate_6 : decode cJ19_inflate 6 = .ok (.invokestatic 240, 3) := dk_184 0 240 (dk_at dksJ19_inflate_0 6 rfl rfl)
theorem dJ19_inflate_9 : decode cJ19_inflate 9 = .ok (.return_, 1) := dk_177 (dk_at dksJ19_inflate_0 9 rfl rfl)
abbrev cJ19_equals : ByteArray := prog_27_method_13_code
def yJ19_equals : MethodName := ⟨RJ19, "equals", "([B[B)Z"⟩
def dkwJ19_equals_1 : List UInt8 := [3, 172, 132, 2, 1, 167, 255, 236, 4, 172, 3, 172]
abbrev dktJ19_equals_1 : List UInt8 := dkwJ19_equals_1 ++ []
def dkwJ19_equals_0 : List UInt8 := [42, 190, 43, 190, 160, 0, 30, 3, 61, 28, 42, 190, 162, 0, 20, 42, 28, 51, 43, 28, 51, 159, 0, 5]
abbrev dktJ19_equals_0 : List UInt8 := dkwJ19_equals_0 ++ dktJ19_equals_1
theorem dksJ19_equals_0 : cJ19_equals.data.toList.drop 0 = dktJ19_equals_0 := by decide +kernel
theorem dksJ19_equals_1 : cJ19_equals.data.toList.drop 24 = dktJ19_equals_1 := dk_seg dksJ19_equals_0 24 rfl rfl
theorem dJ19_equals_0 : decode cJ19_equals 0 = .ok (.aload_n 0, 1) := dk_42 (dk_at dksJ19_equals_0 0 rfl rfl)
theorem dJ19_equals_1 : decode cJ19_equals 1 = .ok (.arraylength, 1) := dk_190 (dk_at dksJ19_equals_0 1 rfl rfl)
theorem dJ19_equals_2 : decode cJ19_equals 2 = .ok (.aload_n 1, 1) := dk_43 (dk_at dksJ19_equals_0 2 rfl rfl)
theorem dJ19_equals_3 : decode cJ19_equals 3 = .ok (.arraylength, 1) := dk_190 (dk_at dksJ19_equals_0 3 rfl rfl)
theorem dJ19_equals_4 : decode cJ19_equals 4 = .ok (.if_icmp .ne 30, 3) := dk_160 0 30 (dk_at dksJ19_equals_0 4 rfl rfl)
theorem dJ19_equals_7 : decode cJ19_equals 7 = .ok (.iconst 0, 1) := dk_3 (dk_at dksJ19_equals_0 7 rfl rfl)
theorem dJ19_equals_8 : decode cJ19_equals 8 = .ok (.istore_n 2, 1) := dk_61 (dk_at dksJ19_equals_0 8 rfl rfl)
theorem dJ19_equals_9 : decode cJ19_equals 9 = .ok (.iload_n 2, 1) := dk_28 (dk_at dksJ19_equals_0 9 rfl rfl)
theorem dJ19_equals_10 : decode cJ19_equals 10 = .ok (.aload_n 0, 1) := dk_42 (dk_at dksJ19_equals_0 10 rfl rfl)
theorem dJ19_equals_11 : decode cJ19_equals 11 = .ok (.arraylength, 1) := dk_190 (dk_at dksJ19_equals_0 11 rfl rfl)
theorem dJ19_equals_12 : decode cJ19_equals 12 = .ok (.if_icmp .ge 20, 3) := dk_162 0 20 (dk_at dksJ19_equals_0 12 rfl rfl)
theorem dJ19_equals_15 : decode cJ19_equals 15 = .ok (.aload_n 0, 1) := dk_42 (dk_at dksJ19_equals_0 15 rfl rfl)
theorem dJ19_equals_16 : decode cJ19_equals 16 = .ok (.iload_n 2, 1) := dk_28 (dk_at dksJ19_equals_0 16 rfl rfl)
theorem dJ19_equals_17 : decode cJ19_equals 17 = .ok (.baload, 1) := dk_51 (dk_at dksJ19_equals_0 17 rfl rfl)
theorem dJ19_equals_18 : decode cJ19_equals 18 = .ok (.aload_n 1, 1) := dk_43 (dk_at dksJ19_equals_0 18 rfl rfl)
theorem dJ19_equals_19 : decode cJ19_equals 19 = .ok (.iload_n 2, 1) := dk_28 (dk_at dksJ19_equals_0 19 rfl rfl)
theorem dJ19_equals_20 : decode cJ19_equals 20 = .ok (.baload, 1) := dk_51 (dk_at dksJ19_equals_0 20 rfl rfl)
theorem dJ19_equals_21 : decode cJ19_equals 21 = .ok (.if_icmp .eq 5, 3) := dk_159 0 5 (dk_at dksJ19_equals_0 21 rfl rfl)
theorem dJ19_equals_24 : decode cJ19_equals 24 = .ok (.iconst 0, 1) := dk_3 (dk_at dksJ19_equals_1 0 rfl rfl)
theorem dJ19_equals_25 : decode cJ19_equals 25 = .ok (.ireturn, 1) := dk_172 (dk_at dksJ19_equals_1 1 rfl rfl)
theorem dJ19_equals_26 : decode cJ19_equals 26 = .ok (.iinc 2 1, 3) := dk_132 2 1 (dk_at dksJ19_equals_1 2 rfl rfl)
theorem dJ19_equals_29 : decode cJ19_equals 29 = .ok (.goto (-20), 3) := dk_167 255 236 (dk_at dksJ19_equals_1 5 rfl rfl)
theorem dJ19_equals_32 : decode cJ19_equals 32 = .ok (.iconst 1, 1) := dk_4 (dk_at dksJ19_equals_1 8 rfl rfl)
theorem dJ19_equals_33 : decode cJ19_equals 33 = .ok (.ireturn, 1) := dk_172 (dk_at dksJ19_equals_1 9 rfl rfl)
theorem dJ19_equals_34 : decode cJ19_equals 34 = .ok (.iconst 0, 1) := dk_3 (dk_at dksJ19_equals_1 10 rfl rfl)
theorem dJ19_equals_35 : decode cJ19_equals 35 = .ok (.ireturn, 1) := dk_172 (dk_at dksJ19_equals_1 11 rfl rfl)
theorem q97 : (Jvm.Cond.initialized "java/lang/StringLatin1") ∈ lw_all := lw_g (lw_at lw_m1 26 rfl) rfl
theorem q431 : (Jvm.Cond.static ({ cls := "java/lang/StringLatin1", name := "compareTo", desc := "([B[B)I" } : Jvm.MethodName)) ∈ lw_all := lw_g (lw_at lw_m2 120 rfl) rfl
theorem q432 : (Jvm.Cond.code ({ cls := "java/lang/StringLatin1", name := "compareTo", desc := "([B[B)I" } : Jvm.MethodName) prog_27_method_14_code (4 : Nat) (Option.some Jvm.ClassFile.FieldType.int)) ∈ lw_all := lw_g (lw_at lw_m2 121 rfl) rfl
theorem q433 : (Jvm.Cond.methodLink "java/lang/StringLatin1" (34 : Nat) ({ cls := "java/lang/StringLatin1", name := "compareTo", desc := "([B[BII)I" } : Jvm.MethodName)) ∈ lw_all := lw_g (lw_at lw_m2 122 rfl) rfl
theorem q434 : (Jvm.Cond.static ({ cls := "java/lang/StringLatin1", name := "compareTo", desc := "([B[BII)I" } : Jvm.MethodName)) ∈ lw_all := lw_g (lw_at lw_m2 123 rfl) rfl
theorem q435 : (Jvm.Cond.code ({ cls := "java/lang/StringLatin1", name := "compareTo", desc := "([B[BII)I" } : Jvm.MethodName) prog_27_method_15_code (6 : Nat) (Option.some Jvm.ClassFile.FieldType.int)) ∈ lw_all := lw_g (lw_at lw_m2 124 rfl) rfl
theorem q436 : (Jvm.Cond.methodLink "java/lang/StringLatin1" (38 : Nat) ({ cls := "java/lang/Math", name := "min", desc := "(II)I" } : Jvm.MethodName)) ∈ lw_all := lw_g (lw_at lw_m2 125 rfl) rfl
theorem q437 : (Jvm.Cond.methodLink "java/lang/StringLatin1" (44 : Nat) ({ cls := "jdk/internal/util/ArraysSupport", name := "mismatch", desc := "([B[BI)I" } : Jvm.MethodName)) ∈ lw_all := lw_g (lw_at lw_m2 126 rfl) rfl
theorem q541 : (Jvm.Cond.methodLink "java/lang/StringLatin1" (50 : Nat) ({ cls := "java/lang/StringLatin1", name := "getChar", desc := "([BI)C" } : Jvm.MethodName)) ∈ lw_all := lw_g (lw_at lw_m2 230 rfl) rfl
theorem q542 : (Jvm.Cond.static ({ cls := "java/lang/StringLatin1", name := "getChar", desc := "([BI)C" } : Jvm.MethodName)) ∈ lw_all := lw_g (lw_at lw_m2 231 rfl) rfl
theorem q543 : (Jvm.Cond.code ({ cls := "java/lang/StringLatin1", name := "getChar", desc := "([BI)C" } : Jvm.MethodName) prog_27_method_44_code (2 : Nat) (Option.some Jvm.ClassFile.FieldType.char)) ∈ lw_all := lw_g (lw_at lw_m2 232 rfl) rfl
theorem q564 : (Jvm.Cond.static ({ cls := "java/lang/StringLatin1", name := "compareToUTF16", desc := "([B[B)I" } : Jvm.MethodName)) ∈ lw_all := lw_g (lw_at lw_m3 13 rfl) rfl
theorem q565 : (Jvm.Cond.code ({ cls := "java/lang/StringLatin1", name := "compareToUTF16", desc := "([B[B)I" } : Jvm.MethodName) prog_27_method_16_code (4 : Nat) (Option.some Jvm.ClassFile.FieldType.int)) ∈ lw_all := lw_g (lw_at lw_m3 14 rfl) rfl
theorem q566 : (Jvm.Cond.methodLink "java/lang/StringLatin1" (54 : Nat) ({ cls := "java/lang/StringLatin1", name := "length", desc := "([B)I" } : Jvm.MethodName)) ∈ lw_all := lw_g (lw_at lw_m3 15 rfl) rfl
theorem q567 : (Jvm.Cond.static ({ cls := "java/lang/StringLatin1", name := "length", desc := "([B)I" } : Jvm.MethodName)) ∈ lw_all := lw_g (lw_at lw_m3 16 rfl) rfl
theorem q568 : (Jvm.Cond.code ({ cls := "java/lang/StringLatin1", name := "length", desc := "([B)I" } : Jvm.MethodName) prog_27_method_5_code (1 : Nat) (Option.some Jvm.ClassFile.FieldType.int)) ∈ lw_all := lw_g (lw_at lw_m3 17 rfl) rfl
theorem q569 : (Jvm.Cond.methodLink "java/lang/StringLatin1" (58 : Nat) ({ cls := "java/lang/StringUTF16", name := "length", desc := "([B)I" } : Jvm.MethodName)) ∈ lw_all := lw_g (lw_at lw_m3 18 rfl) rfl
theorem q570 : (Jvm.Cond.methodLink "java/lang/StringLatin1" (59 : Nat) ({ cls := "java/lang/StringLatin1", name := "compareToUTF16Values", desc := "([B[BII)I" } : Jvm.MethodName)) ∈ lw_all := lw_g (lw_at lw_m3 19 rfl) rfl
theorem q571 : (Jvm.Cond.static ({ cls := "java/lang/StringLatin1", name := "compareToUTF16Values", desc := "([B[BII)I" } : Jvm.MethodName)) ∈ lw_all := lw_g (lw_at lw_m3 20 rfl) rfl
theorem q572 : (Jvm.Cond.code ({ cls := "java/lang/StringLatin1", name := "compareToUTF16Values", desc := "([B[BII)I" } : Jvm.MethodName) prog_27_method_18_code (8 : Nat) (Option.some Jvm.ClassFile.FieldType.int)) ∈ lw_all := lw_g (lw_at lw_m3 21 rfl) rfl
theorem q573 : (Jvm.Cond.methodLink "java/lang/StringLatin1" (65 : Nat) ({ cls := "java/lang/StringUTF16", name := "getChar", desc := "([BI)C" } : Jvm.MethodName)) ∈ lw_all := lw_g (lw_at lw_m3 22 rfl) rfl
theorem q615 : (Jvm.Cond.static ({ cls := "java/lang/StringLatin1", name := "compareToUTF16", desc := "([B[BII)I" } : Jvm.MethodName)) ∈ lw_all := lw_g (lw_at lw_m3 64 rfl) rfl
theorem q616 : (Jvm.Cond.code ({ cls := "java/lang/StringLatin1", name := "compareToUTF16", desc := "([B[BII)I" } : Jvm.MethodName) prog_27_method_17_code (4 : Nat) (Option.some Jvm.ClassFile.FieldType.int)) ∈ lw_all := lw_g (lw_at lw_m3 65 rfl) rfl
theorem q617 : (Jvm.Cond.methodLink "java/lang/StringLatin1" (62 : Nat) ({ cls := "java/lang/String", name := "checkOffset", desc := "(II)V" } : Jvm.MethodName)) ∈ lw_all := lw_g (lw_at lw_m3 66 rfl) rfl
theorem q722 : (Jvm.Cond.static ({ cls := "java/lang/StringLatin1", name := "inflate", desc := "([BI[BII)V" } : Jvm.MethodName)) ∈ lw_all := lw_g (lw_at lw_m3 171 rfl) rfl
theorem q723 : (Jvm.Cond.code ({ cls := "java/lang/StringLatin1", name := "inflate", desc := "([BI[BII)V" } : Jvm.MethodName) prog_27_method_50_code (5 : Nat) (Option.none : Option Jvm.ClassFile.FieldType)) ∈ lw_all := lw_g (lw_at lw_m3 172 rfl) rfl
theorem q724 : (Jvm.Cond.methodLink "java/lang/StringLatin1" (240 : Nat) ({ cls := "java/lang/StringUTF16", name := "inflate", desc := "([BI[BII)V" } : Jvm.MethodName)) ∈ lw_all := lw_g (lw_at lw_m3 173 rfl) rfl
theorem q2062 : (Jvm.Cond.static ({ cls := "java/lang/StringLatin1", name := "equals", desc := "([B[B)Z" } : Jvm.MethodName)) ∈ lw_all := lw_g (lw_at lw_m9 71 rfl) rfl
theorem q2063 : (Jvm.Cond.code ({ cls := "java/lang/StringLatin1", name := "equals", desc := "([B[B)Z" } : Jvm.MethodName) prog_27_method_13_code (3 : Nat) (Option.some Jvm.ClassFile.FieldType.boolean)) ∈ lw_all := lw_g (lw_at lw_m9 72 rfl) rfl

-- J20.jdk_internal_misc_Unsafe.lean.txt
/-! jdk/internal/misc/Unsafe -/
set_option maxRecDepth 100000
def RJ20 : String := "jdk/internal/misc/Unsafe"
abbrev cJ20_getLongUnaligned : ByteArray := prog_57_method_334_code
def yJ20_getLongUnaligned : MethodName := ⟨RJ20, "getLongUnaligned", "(Ljava/lang/Object;J)J"⟩
def dkwJ20_getLongUnaligned_7 : List UInt8 := [182, 0, 39, 184, 2, 197, 173]
abbrev dktJ20_getLongUnaligned_7 : List UInt8 := dkwJ20_getLongUnaligned_7 ++ []
def dkwJ20_getLongUnaligned_6 : List UInt8 := [20, 2, 195, 97, 182, 0, 39, 42, 43, 32, 20, 2, 190, 97, 182, 0, 39, 42, 43, 32, 20, 2, 184, 97]
abbrev dktJ20_getLongUnaligned_6 : List UInt8 := dkwJ20_getLongUnaligned_6 ++ dktJ20_getLongUnaligned_7
def dkwJ20_getLongUnaligned_5 : List UInt8 := [43, 32, 20, 1, 93, 97, 182, 0, 39, 42, 43, 32, 20, 0, 205, 97, 182, 0, 39, 42, 43, 32]
abbrev dktJ20_getLongUnaligned_5 : List UInt8 := dkwJ20_getLongUnaligned_5 ++ dktJ20_getLongUnaligned_6
def dkwJ20_getLongUnaligned_4 : List UInt8 := [43, 32, 182, 0, 39, 42, 43, 32, 10, 97, 182, 0, 39, 42, 43, 32, 20, 0, 203, 97, 182, 0, 39, 42]
abbrev dktJ20_getLongUnaligned_4 : List UInt8 := dkwJ20_getLongUnaligned_4 ++ dktJ20_getLongUnaligned_5
def dkwJ20_getLongUnaligned_3 : List UInt8 := [43, 32, 20, 0, 205, 97, 182, 0, 47, 42, 43, 32, 20, 2, 190, 97, 182, 0, 47, 184, 2, 192, 173, 42]
abbrev dktJ20_getLongUnaligned_3 : List UInt8 := dkwJ20_getLongUnaligned_3 ++ dktJ20_getLongUnaligned_4
def dkwJ20_getLongUnaligned_2 : List UInt8 := [10, 127, 9, 148, 154, 0, 43, 42, 43, 32, 182, 0, 47, 42, 43, 32, 20, 0, 203, 97, 182, 0, 47, 42]
abbrev dktJ20_getLongUnaligned_2 : List UInt8 := dkwJ20_getLongUnaligned_2 ++ dktJ20_getLongUnaligned_3
def dkwJ20_getLongUnaligned_1 : List UInt8 := [154, 0, 23, 42, 43, 32, 182, 0, 17, 42, 43, 32, 20, 0, 205, 97, 182, 0, 17, 184, 2, 186, 173, 32]
abbrev dktJ20_getLongUnaligned_1 : List UInt8 := dkwJ20_getLongUnaligned_1 ++ dktJ20_getLongUnaligned_2
def dkwJ20_getLongUnaligned_0 : List UInt8 := [32, 20, 2, 184, 127, 9, 148, 154, 0, 10, 42, 43, 32, 182, 0, 27, 173, 32, 20, 1, 93, 127, 9, 148]
abbrev dktJ20_getLongUnaligned_0 : List UInt8 := dkwJ20_getLongUnaligned_0 ++ dktJ20_getLongUnaligned_1
theorem dksJ20_getLongUnaligned_0 : cJ20_getLongUnaligned.data.toList.drop 0 = dktJ20_getLongUnaligned_0 := by decide +kernel
theorem dksJ20_getLongUnaligned_1 : cJ20_getLongUnaligned.data.toList.drop 24 = dktJ20_getLongUnaligned_1 := dk_seg dksJ20_getLongUnaligned_0 24 rfl rfl
theorem dksJ20_getLongUnaligned_2 : cJ20_getLongUnaligned.data.toList.drop 48 = dktJ20_getLongUnaligned_2 := dk_seg dksJ20_getLongUnaligned_1 24 rfl rfl
theorem dksJ20_getLongUnaligned_3 : cJ20_getLongUnaligned.data.toList.drop 72 = dktJ20_getLongUnaligned_3 := dk_seg dksJ20_getLongUnaligned_2 24 rfl rfl
theorem dksJ20_getLongUnaligned_4 : cJ20_getLongUnaligned.data.toList.drop 96 = dktJ20_getLongUnaligned_4 := dk_seg dksJ20_getLongUnaligned_3 24 rfl rfl
theorem dksJ20_getLongUnaligned_5 : cJ20_getLongUnaligned.data.toList.drop 120 = dktJ20_getLongUnaligned_5 := dk_seg dksJ20_getLongUnaligned_4 24 rfl rfl
theorem dksJ20_getLongUnaligned_6 : cJ20_getLongUnaligned.data.toList.drop 142 = dktJ20_getLongUnaligned_6 := dk_seg dksJ20_getLongUnaligned_5 22 rfl rfl
theorem dksJ20_getLongUnaligned_7 : cJ20_getLongUnaligned.data.toList.drop 166 = dktJ20_getLongUnaligned_7 := dk_seg dksJ20_getLongUnaligned_6 24 rfl rfl
theorem dJ20_getLongUnaligned_0 : decode cJ20_getLongUnaligned 0 = .ok (.lload_n 2, 1) := dk_32 (dk_at dksJ20_getLongUnaligned_0 0 rfl rfl)
theorem dJ20_getLongUnaligned_1 : decode cJ20_getLongUnaligned 1 = .ok (.ldc2_w 696, 3) := dk_20 2 184 (dk_at dksJ20_getLongUnaligned_0 1 rfl rfl)
theorem dJ20_getLongUnaligned_4 : decode cJ20_getLongUnaligned 4 = .ok (.land, 1) := dk_127 (dk_at dksJ20_getLongUnaligned_0 4 rfl rfl)
theorem dJ20_getLongUnaligned_5 : decode cJ20_getLongUnaligned 5 = .ok (.lconst 0, 1) := dk_9 (dk_at dksJ20_getLongUnaligned_0 5 rfl rfl)
theorem dJ20_getLongUnaligned_6 : decode cJ20_getLongUnaligned 6 = .ok (.lcmp, 1) := dk_148 (dk_at dksJ20_getLongUnaligned_0 6 rfl rfl)
theorem dJ20_getLongUnaligned_7 : decode cJ20_getLongUnaligned 7 = .ok (.ifCond .ne 10, 3) := dk_154 0 10 (dk_at dksJ20_getLongUnaligned_0 7 rfl rfl)
theorem dJ20_getLongUnaligned_10 : decode cJ20_getLongUnaligned 10 = .ok (.aload_n 0, 1) := dk_42 (dk_at dksJ20_getLongUnaligned_0 10 rfl rfl)
theorem dJ20_getLongUnaligned_11 : decode cJ20_getLongUnaligned 11 = .ok (.aload_n 1, 1) := dk_43 (dk_at dksJ20_getLongUnaligned_0 11 rfl rfl)
theorem dJ20_getLongUnaligned_12 : decode cJ20_getLongUnaligned 12 = .ok (.lload_n 2, 1) := dk_32 (dk_at dksJ20_getLongUnaligned_0 12 rfl rfl)
theorem dJ20_getLongUnaligned_13 : decode cJ20_getLongUnaligned 13 = .ok (.invokevirtual 27, 3) := dk_182 0 27 (dk_at dksJ20_getLongUnaligned_0 13 rfl rfl)
theorem dJ20_getLongUnaligned_16 : decode cJ20_getLongUnaligned 16 = .ok (.lreturn, 1) := dk_173 (dk_at dksJ20_getLongUnaligned_0 16 rfl rfl)
theorem dJ20_getLongUnaligned_17 : decode cJ20_getLongUnaligned 17 = .ok (.lload_n 2, 1) := dk_32 (dk_at dksJ20_getLongUnaligned_0 17 rfl rfl)
theorem dJ20_getLongUnaligned_18 : decode cJ20_getLongUnaligned 18 = .ok (.ldc2_w 349, 3) := dk_20 1 93 (dk_at dksJ20_getLongUnaligned_0 18 rfl rfl)
theorem dJ20_getLongUnaligned_21 : decode cJ20_getLongUnaligned 21 = .ok (.land, 1) := dk_127 (dk_at dksJ20_getLongUnaligned_0 21 rfl rfl)
theorem dJ20_getLongUnaligned_22 : decode cJ20_getLongUnaligned 22 = .ok (.lconst 0, 1) := dk_9 (dk_at dksJ20_getLongUnaligned_0 22 rfl rfl)
theorem dJ20_getLongUnaligned_23 : decode cJ20_getLongUnaligned 23 = .ok (.lcmp, 1) := dk_148 (dk_at dksJ20_getLongUnaligned_0 23 rfl rfl)
theorem dJ20_getLongUnaligned_24 : decode cJ20_getLongUnaligned 24 = .ok (.ifCond .ne 23, 3) := dk_154 0 23 (dk_at dksJ20_getLongUnaligned_1 0 rfl rfl)
theorem dJ20_getLongUnaligned_27 : decode cJ20_getLongUnaligned 27 = .ok (.aload_n 0, 1) := dk_42 (dk_at dksJ20_getLongUnaligned_1 3 rfl rfl)
theorem dJ20_getLongUnaligned_28 : decode cJ20_getLongUnaligned 28 = .ok (.aload_n 1, 1) := dk_43 (dk_at dksJ20_getLongUnaligned_1 4 rfl rfl)
theorem dJ20_getLongUnaligned_29 : decode cJ20_getLongUnaligned 29 = .ok (.lload_n 2, 1) := dk_32 (dk_at dksJ20_getLongUnaligned_1 5 rfl rfl)
theorem dJ20_getLongUnaligned_30 : decode cJ20_getLongUnaligned 30 = .ok (.invokevirtual 17, 3) := dk_182 0 17 (dk_at dksJ20_getLongUnaligned_1 6 rfl rfl)
theorem dJ20_getLongUnaligned_33 : decode cJ20_getLongUnaligned 33 = .ok (.aload_n 0, 1) := dk_42 (dk_at dksJ20_getLongUnaligned_1 9 rfl rfl)
theorem dJ20_getLongUnaligned_34 : decode cJ20_getLongUnaligned 34 = .ok (.aload_n 1, 1) := dk_43 (dk_at dksJ20_getLongUnaligned_1 10 rfl rfl)
theorem dJ20_getLongUnaligned_35 : decode cJ20_getLongUnaligned 35 = .ok (.lload_n 2, 1) := dk_32 (dk_at dksJ20_getLongUnaligned_1 11 rfl rfl)
theorem dJ20_getLongUnaligned_36 : decode cJ20_getLongUnaligned 36 = .ok (.ldc2_w 205, 3) := dk_20 0 205 (dk_at dksJ20_getLongUnaligned_1 12 rfl rfl)
theorem dJ20_getLongUnaligned_39 : decode cJ20_getLongUnaligned 39 = .ok (.ladd, 1) := dk_97 (dk_at dksJ20_getLongUnaligned_1 15 rfl rfl)
theorem dJ20_getLongUnaligned_40 : decode cJ20_getLongUnaligned 40 = .ok (.invokevirtual 17, 3) := dk_182 0 17 (dk_at dksJ20_getLongUnaligned_1 16 rfl rfl)
theorem dJ20_getLongUnaligned_43 : decode cJ20_getLongUnaligned 43 = .ok (.invokestatic 698, 3) := dk_184 2 186 (dk_at dksJ20_getLongUnaligned_1 19 rfl rfl)
theorem dJ20_getLongUnaligned_46 : decode cJ20_getLongUnaligned 46 = .ok (.lreturn, 1) := dk_173 (dk_at dksJ20_getLongUnaligned_1 22 rfl rfl)
theorem dJ20_getLongUnaligned_47 : decode cJ20_getLongUnaligned 47 = .ok (.lload_n 2, 1) := dk_32 (dk_at dksJ20_getLongUnaligned_1 23 rfl rfl)
theorem dJ20_getLongUnaligned_48 : decode cJ20_getLongUnaligned 48 = .ok (.lconst 1, 1) := dk_10 (dk_at dksJ20_getLongUnaligned_2 0 rfl rfl)
theorem dJ20_getLongUnaligned_49 : decode cJ20_getLongUnaligned 49 = .ok (.land, 1) := dk_127 (dk_at dksJ20_getLongUnaligned_2 1 rfl rfl)
theorem dJ20_getLongUnaligned_50 : decode cJ20_getLongUnaligned 50 = .ok (.lconst 0, 1) := dk_9 (dk_at dksJ20_getLongUnaligned_2 2 rfl rfl)
theorem dJ20_getLongUnaligned_51 : decode cJ20_getLongUnaligned 51 = .ok (.lcmp, 1) := dk_148 (dk_at dksJ20_getLongUnaligned_2 3 rfl rfl)
theorem dJ20_getLongUnaligned_52 : decode cJ20_getLongUnaligned 52 = .ok (.ifCond .ne 43, 3) := dk_154 0 43 (dk_at dksJ20_getLongUnaligned_2 4 rfl rfl)
theorem dJ20_getLongUnaligned_55 : decode cJ20_getLongUnaligned 55 = .ok (.aload_n 0, 1) := dk_42 (dk_at dksJ20_getLongUnaligned_2 7 rfl rfl)
theorem dJ20_getLongUnaligned_56 : decode cJ20_getLongUnaligned 56 = .ok (.aload_n 1, 1) := dk_43 (dk_at dksJ20_getLongUnaligned_2 8 rfl rfl)
theorem dJ20_getLongUnaligned_57 : decode cJ20_getLongUnaligned 57 = .ok (.lload_n 2, 1) := dk_32 (dk_at dksJ20_getLongUnaligned_2 9 rfl rfl)
theorem dJ20_getLongUnaligned_58 : decode cJ20_getLongUnaligned 58 = .ok (.invokevirtual 47, 3) := dk_182 0 47 (dk_at dksJ20_getLongUnaligned_2 10 rfl rfl)
theorem dJ20_getLongUnaligned_61 : decode cJ20_getLongUnaligned 61 = .ok (.aload_n 0, 1) := dk_42 (dk_at dksJ20_getLongUnaligned_2 13 rfl rfl)
theorem dJ20_getLongUnaligned_62 : decode cJ20_getLongUnaligned 62 = .ok (.aload_n 1, 1) := dk_43 (dk_at dksJ20_getLongUnaligned_2 14 rfl rfl)
theorem dJ20_getLongUnaligned_63 : decode cJ20_getLongUnaligned 63 = .ok (.lload_n 2, 1) := dk_32 (dk_at dksJ20_getLongUnaligned_2 15 rfl rfl)
theorem dJ20_getLongUnaligned_64 : decode cJ20_getLongUnaligned 64 = .ok (.ldc2_w 203, 3) := dk_20 0 203 (dk_at dksJ20_getLongUnaligned_2 16 rfl rfl)
theorem dJ20_getLongUnaligned_67 : decode cJ20_getLongUnaligned 67 = .ok (.ladd, 1) := dk_97 (dk_at dksJ20_getLongUnaligned_2 19 rfl rfl)
theorem dJ20_getLongUnaligned_68 : decode cJ20_getLongUnaligned 68 = .ok (.invokevirtual 47, 3) := dk_182 0 47 (dk_at dksJ20_getLongUnaligned_2 20 rfl rfl)
theorem dJ20_getLongUnaligned_71 : decode cJ20_getLongUnaligned 71 = .ok (.aload_n 0, 1) := dk_42 (dk_at dksJ20_getLongUnaligned_2 23 rfl rfl)
theorem dJ20_getLongUnaligned_72 : decode cJ20_getLongUnaligned 72 = .ok (.aload_n 1, 1) := dk_43 (dk_at dksJ20_getLongUnaligned_3 0 rfl rfl)
theorem dJ20_getLongUnaligned_73 : decode cJ20_getLongUnaligned 73 = .ok (.lload_n 2, 1) := dk_32 (dk_at dksJ20_getLongUnaligned_3 1 rfl rfl)
theorem dJ20_getLongUnaligned_74 : decode cJ20_getLongUnaligned 74 = .ok (.ldc2_w 205, 3) := dk_20 0 205 (dk_at dksJ20_getLongUnaligned_3 2 rfl rfl)
theorem dJ20_getLongUnaligned_77 : decode cJ20_getLongUnaligned 77 = .ok (.ladd, 1) := dk_97 (dk_at dksJ20_getLongUnaligned_3 5 rfl rfl)
theorem dJ20_getLongUnaligned_78 : decode cJ20_getLongUnaligned 78 = .ok (.invokevirtual 47, 3) := dk_182 0 47 (dk_at dksJ20_getLongUnaligned_3 6 rfl rfl)
theorem dJ20_getLongUnaligned_81 : decode cJ20_getLongUnaligned 81 = .ok (.aload_n 0, 1) := dk_42 (dk_at dksJ20_getLongUnaligned_3 9 rfl rfl)
theorem dJ20_getLongUnaligned_82 : decode cJ20_getLongUnaligned 82 = .ok (.aload_n 1, 1) := dk_43 (dk_at dksJ20_getLongUnaligned_3 10 rfl rfl)
theorem dJ20_getLongUnaligned_83 : decode cJ20_getLongUnaligned 83 = .ok (.lload_n 2, 1) := dk_32 (dk_at dksJ20_getLongUnaligned_3 11 rfl rfl)
theorem dJ20_getLongUnaligned_84 : decode cJ20_getLongUnaligned 84 = .ok (.ldc2_w 702, 3) := dk_20 2 190 (dk_at dksJ20_getLongUnaligned_3 12 rfl rfl)
theorem dJ20_getLongUnaligned_87 : decode cJ20_getLongUnaligned 87 = .ok (.ladd, 1) := dk_97 (dk_at dksJ20_getLongUnaligned_3 15 rfl rfl)
theorem dJ20_getLongUnaligned_88 : decode cJ20_getLongUnaligned 88 = .ok (.invokevirtual 47, 3) := dk_182 0 47 (dk_at dksJ20_getLongUnaligned_3 16 rfl rfl)
theorem dJ20_getLongUnaligned_91 : decode cJ20_getLongUnaligned 91 = .ok (.invokestatic 704, 3) := dk_184 2 192 (dk_at dksJ20_getLongUnaligned_3 19 rfl rfl)
theorem dJ20_getLongUnaligned_94 : decode cJ20_getLongUnaligned 94 = .ok (.lreturn, 1) := dk_173 (dk_at dksJ20_getLongUnaligned_3 22 rfl rfl)
theorem dJ20_getLongUnaligned_95 : decode cJ20_getLongUnaligned 95 = .ok (.aload_n 0, 1) := dk_42 (dk_at dksJ20_getLongUnaligned_3 23 rfl rfl)
theorem dJ20_getLongUnaligned_96 : decode cJ20_getLongUnaligned 96 = .ok (.aload_n 1, 1) := dk_43 (dk_at dksJ20_getLongUnaligned_4 0 rfl rfl)
theorem dJ20_getLongUnaligned_97 : decode cJ20_getLongUnaligned 97 = .ok (.lload_n 2, 1) := dk_32 (dk_at dksJ20_getLongUnaligned_4 1 rfl rfl)
theorem dJ20_getLongUnaligned_98 : decode cJ20_getLongUnaligned 98 = .ok (.invokevirtual 39, 3) := dk_182 0 39 (dk_at dksJ20_getLongUnaligned_4 2 rfl rfl)
theorem dJ20_getLongUnaligned_101 : decode cJ20_getLongUnaligned 101 = .ok (.aload_n 0, 1) := dk_42 (dk_at dksJ20_getLongUnaligned_4 5 rfl rfl)
theorem dJ20_getLongUnaligned_102 : decode cJ20_getLongUnaligned 102 = .ok (.aload_n 1, 1) := dk_43 (dk_at dksJ20_getLongUnaligned_4 6 rfl rfl)
theorem dJ20_getLongUnaligned_103 : decode cJ20_getLongUnaligned 103 = .ok (.lload_n 2, 1) := dk_32 (dk_at dksJ20_getLongUnaligned_4 7 rfl rfl)
theorem dJ20_getLongUnaligned_104 : decode cJ20_getLongUnaligned 104 = .ok (.lconst 1, 1) := dk_10 (dk_at dksJ20_getLongUnaligned_4 8 rfl rfl)
theorem dJ20_getLongUnaligned_105 : decode cJ20_getLongUnaligned 105 = .ok (.ladd, 1) := dk_97 (dk_at dksJ20_getLongUnaligned_4 9 rfl rfl)
theorem dJ20_getLongUnaligned_106 : decode cJ20_getLongUnaligned 106 = .ok (.invokevirtual 39, 3) := dk_182 0 39 (dk_at dksJ20_getLongUnaligned_4 10 rfl rfl)
theorem dJ20_getLongUnaligned_109 : decode cJ20_getLongUnaligned 109 = .ok (.aload_n 0, 1) := dk_42 (dk_at dksJ20_getLongUnaligned_4 13 rfl rfl)
theorem dJ20_getLongUnaligned_110 : decode cJ20_getLongUnaligned 110 = .ok (.aload_n 1, 1) := dk_43 (dk_at dksJ20_getLongUnaligned_4 14 rfl rfl)
theorem dJ20_getLongUnaligned_111 : decode cJ20_getLongUnaligned 111 = .ok (.lload_n 2, 1) := dk_32 (dk_at dksJ20_getLongUnaligned_4 15 rfl rfl)
theorem dJ20_getLongUnaligned_112 : decode cJ20_getLongUnaligned 112 = .ok (.ldc2_w 203, 3) := dk_20 0 203 (dk_at dksJ20_getLongUnaligned_4 16 rfl rfl)
theorem dJ20_getLongUnaligned_115 : decode cJ20_getLongUnaligned 115 = .ok (.ladd, 1) := dk_97 (dk_at dksJ20_getLongUnaligned_4 19 rfl rfl)
theorem dJ20_getLongUnaligned_116 : decode cJ20_getLongUnaligned 116 = .ok (.invokevirtual 39, 3) := dk_182 0 39 (dk_at dksJ20_getLongUnaligned_4 20 rfl rfl)
theorem dJ20_getLongUnaligned_119 : decode cJ20_getLongUnaligned 119 = .ok (.aload_n 0, 1) := dk_42 (dk_at dksJ20_getLongUnaligned_4 23 rfl rfl)
theorem dJ20_getLongUnaligned_120 : decode cJ20_getLongUnaligned 120 = .ok (.aload_n 1, 1) := dk_43 (dk_at dksJ20_getLongUnaligned_5 0 rfl rfl)
theorem dJ20_getLongUnaligned_121 : decode cJ20_getLongUnaligned 121 = .ok (.lload_n 2, 1) := dk_32 (dk_at dksJ20_getLongUnaligned_5 1 rfl rfl)
theorem dJ20_getLongUnaligned_122 : decode cJ20_getLongUnaligned 122 = .ok (.ldc2_w 349, 3) := dk_20 1 93 (dk_at dksJ20_getLongUnaligned_5 2 rfl rfl)
theorem dJ20_getLongUnaligned_125 : decode cJ20_getLongUnaligned 125 = .ok (.ladd, 1) := dk_97 (dk_at dksJ20_getLongUnaligned_5 5 rfl rfl)
theorem dJ20_getLongUnaligned_126 : decode cJ20_getLongUnaligned 126 = .ok (.invokevirtual 39, 3) := dk_182 0 39 (dk_at dksJ20_getLongUnaligned_5 6 rfl rfl)
theorem dJ20_getLongUnaligned_129 : decode cJ20_getLongUnaligned 129 = .ok (.aload_n 0, 1) := dk_42 (dk_at dksJ20_getLongUnaligned_5 9 rfl rfl)
theorem dJ20_getLongUnaligned_130 : decode cJ20_getLongUnaligned 130 = .ok (.aload_n 1, 1) := dk_43 (dk_at dksJ20_getLongUnaligned_5 10 rfl rfl)
theorem dJ20_getLongUnaligned_131 : decode cJ20_getLongUnaligned 131 = .ok (.lload_n 2, 1) := dk_32 (dk_at dksJ20_getLongUnaligned_5 11 rfl rfl)
theorem dJ20_getLongUnaligned_132 : decode cJ20_getLongUnaligned 132 = .ok (.ldc2_w 205, 3) := dk_20 0 205 (dk_at dksJ20_getLongUnaligned_5 12 rfl rfl)
theorem dJ20_getLongUnaligned_135 : decode cJ20_getLongUnaligned 135 = .ok (.ladd, 1) := dk_97 (dk_at dksJ20_getLongUnaligned_5 15 rfl rfl)
theorem dJ20_getLongUnaligned_136 : decode cJ20_getLongUnaligned 136 = .ok (.invokevirtual 39, 3) := dk_182 0 39 (dk_at dksJ20_getLongUnaligned_5 16 rfl rfl)
theorem dJ20_getLongUnaligned_139 : decode cJ20_getLongUnaligned 139 = .ok (.aload_n 0, 1) := dk_42 (dk_at dksJ20_getLongUnaligned_5 19 rfl rfl)
theorem dJ20_getLongUnaligned_140 : decode cJ20_getLongUnaligned 140 = .ok (.aload_n 1, 1) := dk_43 (dk_at dksJ20_getLongUnaligned_5 20 rfl rfl)
theorem dJ20_getLongUnaligned_141 : decode cJ20_getLongUnaligned 141 = .ok (.lload_n 2, 1) := dk_32 (dk_at dksJ20_getLongUnaligned_5 21 rfl rfl)
theorem dJ20_getLongUnaligned_142 : decode cJ20_getLongUnaligned 142 = .ok (.ldc2_w 707, 3) := dk_20 2 195 (dk_at dksJ20_getLongUnaligned_6 0 rfl rfl)
theorem dJ20_getLongUnaligned_145 : decode cJ20_getLongUnaligned 145 = .ok (.ladd, 1) := dk_97 (dk_at dksJ20_getLongUnaligned_6 3 rfl rfl)
theorem dJ20_getLongUnaligned_146 : decode cJ20_getLongUnaligned 146 = .ok (.invokevirtual 39, 3) := dk_182 0 39 (dk_at dksJ20_getLongUnaligned_6 4 rfl rfl)
theorem dJ20_getLongUnaligned_149 : decode cJ20_getLongUnaligned 149 = .ok (.aload_n 0, 1) := dk_42 (dk_at dksJ20_getLongUnaligned_6 7 rfl rfl)
theorem dJ20_getLongUnaligned_150 : decode cJ20_getLongUnaligned 150 = .ok (.aload_n 1, 1) := dk_43 (dk_at dksJ20_getLongUnaligned_6 8 rfl rfl)
theorem dJ20_getLongUnaligned_151 : decode cJ20_getLongUnaligned 151 = .ok (.lload_n 2, 1) := dk_32 (dk_at dksJ20_getLongUnaligned_6 9 rfl rfl)
theorem dJ20_getLongUnaligned_152 : decode cJ20_getLongUnaligned 152 = .ok (.ldc2_w 702, 3) := dk_20 2 190 (dk_at dksJ20_getLongUnaligned_6 10 rfl rfl)
theorem dJ20_getLongUnaligned_155 : decode cJ20_getLongUnaligned 155 = .ok (.ladd, 1) := dk_97 (dk_at dksJ20_getLongUnaligned_6 13 rfl rfl)
theorem dJ20_getLongUnaligned_156 : decode cJ20_getLongUnaligned 156 = .ok (.invokevirtual 39, 3) := dk_182 0 39 (dk_at dksJ20_getLongUnaligned_6 14 rfl rfl)
theorem dJ20_getLongUnaligned_159 : decode cJ20_getLongUnaligned 159 = .ok (.aload_n 0, 1) := dk_42 (dk_at dksJ20_getLongUnaligned_6 17 rfl rfl)
theorem dJ20_getLongUnaligned_160 : decode cJ20_getLongUnaligned 160 = .ok (.aload_n 1, 1) := dk_43 (dk_at dksJ20_getLongUnaligned_6 18 rfl rfl)
theorem dJ20_getLongUnaligned_161 : decode cJ20_getLongUnaligned 161 = .ok (.lload_n 2, 1) := dk_32 (dk_at dksJ20_getLongUnaligned_6 19 rfl rfl)
theorem dJ20_getLongUnaligned_162 : decode cJ20_getLongUnaligned 162 = .ok (.ldc2_w 696, 3) := dk_20 2 184 (dk_at dksJ20_getLongUnaligned_6 20 rfl rfl)
theorem dJ20_getLongUnaligned_165 : decode cJ20_getLongUnaligned 165 = .ok (.ladd, 1) := dk_97 (dk_at dksJ20_getLongUnaligned_6 23 rfl rfl)
theorem dJ20_getLongUnaligned_166 : decode cJ20_getLongUnaligned 166 = .ok (.invokevirtual 39, 3) := dk_182 0 39 (dk_at dksJ20_getLongUnaligned_7 0 rfl rfl)
theorem dJ20_getLongUnaligned_169 : decode cJ20_getLongUnaligned 169 = .ok (.invokestatic 709, 3) := dk_184 2 197 (dk_at dksJ20_getLongUnaligned_7 3 rfl rfl)
theorem dJ20_getLongUnaligned_172 : decode cJ20_getLongUnaligned 172 = .ok (.lreturn, 1) := dk_173 (dk_at dksJ20_getLongUnaligned_7 6 rfl rfl)
abbrev cJ20_makeLong : ByteArray := prog_57_method_353_code
def yJ20_makeLong : MethodName := ⟨RJ20, "makeLong", "(II)J"⟩
def dkwJ20_makeLong_1 : List UInt8 := [173]
abbrev dktJ20_makeLong_1 : List UInt8 := dkwJ20_makeLong_1 ++ []
def dkwJ20_makeLong_0 : List UInt8 := [26, 184, 3, 23, 16, 32, 3, 184, 3, 16, 121, 27, 184, 3, 23, 16, 32, 16, 32, 184, 3, 16, 121, 129]
abbrev dktJ20_makeLong_0 : List UInt8 := dkwJ20_makeLong_0 ++ dktJ20_makeLong_1
theorem dksJ20_makeLong_0 : cJ20_makeLong.data.toList.drop 0 = dktJ20_makeLong_0 := by decide +kernel
theorem dksJ20_makeLong_1 : cJ20_makeLong.data.toList.drop 24 = dktJ20_makeLong_1 := dk_seg dksJ20_makeLong_0 24 rfl rfl
theorem dJ20_makeLong_0 : decode cJ20_makeLong 0 = .ok (.iload_n 0, 1) := dk_26 (dk_at dksJ20_makeLong_0 0 rfl rfl)
theorem dJ20_makeLong_1 : decode cJ20_makeLong 1 = .ok (.invokestatic 791, 3) := dk_184 3 23 (dk_at dksJ20_makeLong_0 1 rfl rfl)
theorem dJ20_makeLong_4 : decode cJ20_makeLong 4 = .ok (.bipush 32, 2) := dk_16 32 (dk_at dksJ20_makeLong_0 4 rfl rfl)
theorem dJ20_makeLong_6 : decode cJ20_makeLong 6 = .ok (.iconst 0, 1) := dk_3 (dk_at dksJ20_makeLong_0 6 rfl rfl)
theorem dJ20_makeLong_7 : decode cJ20_makeLong 7 = .ok (.invokestatic 784, 3) := dk_184 3 16 (dk_at dksJ20_makeLong_0 7 rfl rfl)
theorem dJ20_makeLong_10 : decode cJ20_makeLong 10 = .ok (.lshl, 1) := dk_121 (dk_at dksJ20_makeLong_0 10 rfl rfl)
theorem dJ20_makeLong_11 : decode cJ20_makeLong 11 = .ok (.iload_n 1, 1) := dk_27 (dk_at dksJ20_makeLong_0 11 rfl rfl)
theorem dJ20_makeLong_12 : decode cJ20_makeLong 12 = .ok (.invokestatic 791, 3) := dk_184 3 23 (dk_at dksJ20_makeLong_0 12 rfl rfl)
theorem dJ20_makeLong_15 : decode cJ20_makeLong 15 = .ok (.bipush 32, 2) := dk_16 32 (dk_at dksJ20_makeLong_0 15 rfl rfl)
theorem dJ20_makeLong_17 : decode cJ20_makeLong 17 = .ok (.bipush 32, 2) := dk_16 32 (dk_at dksJ20_makeLong_0 17 rfl rfl)
theorem dJ20_makeLong_19 : decode cJ20_makeLong 19 = .ok (.invokestatic 784, 3) := dk_184 3 16 (dk_at dksJ20_makeLong_0 19 rfl rfl)
theorem dJ20_makeLong_22 : decode cJ20_makeLong 22 = .ok (.lshl, 1) := dk_121 (dk_at dksJ20_makeLong_0 22 rfl rfl)
theorem dJ20_makeLong_23 : decode cJ20_makeLong 23 = .ok (.lor, 1) := dk_129 (dk_at dksJ20_makeLong_0 23 rfl rfl)
theorem dJ20_makeLong_24 : decode cJ20_makeLong 24 = .ok (.lreturn, 1) := dk_173 (dk_at dksJ20_makeLong_1 0 rfl rfl)
abbrev cJ20_toUnsignedLong : ByteArray := prog_57_method_370_code
def yJ20_toUnsignedLong : MethodName := ⟨RJ20, "toUnsignedLong", "(I)J"⟩
def dkwJ20_toUnsignedLong_0 : List UInt8 := [26, 133, 20, 3, 44, 127, 173]
abbrev dktJ20_toUnsignedLong_0 : List UInt8 := dkwJ20_toUnsignedLong_0 ++ []
theorem dksJ20_toUnsignedLong_0 : cJ20_toUnsignedLong.data.toList.drop 0 = dktJ20_toUnsignedLong_0 := by decide +kernel
theorem dJ20_toUnsignedLong_0 : decode cJ20_toUnsignedLong 0 = .ok (.iload_n 0, 1) := dk_26 (dk_at dksJ20_toUnsignedLong_0 0 rfl rfl)
theorem dJ20_toUnsignedLong_1 : decode cJ20_toUnsignedLong 1 = .ok (.i2l, 1) := dk_133 (dk_at dksJ20_toUnsignedLong_0 1 rfl rfl)
theorem dJ20_toUnsignedLong_2 : decode cJ20_toUnsignedLong 2 = .ok (.ldc2_w 812, 3) := dk_20 3 44 (dk_at dksJ20_toUnsignedLong_0 2 rfl rfl)
theorem dJ20_toUnsignedLong_5 : decode cJ20_toUnsignedLong 5 = .ok (.land, 1) := dk_127 (dk_at dksJ20_toUnsignedLong_0 5 rfl rfl)
theorem dJ20_toUnsignedLong_6 : decode cJ20_toUnsignedLong 6 = .ok (.lreturn, 1) := dk_173 (dk_at dksJ20_toUnsignedLong_0 6 rfl rfl)
abbrev cJ20_pickPos : ByteArray := prog_57_method_350_code
def yJ20_pickPos : MethodName := ⟨RJ20, "pickPos", "(II)I"⟩
def dkwJ20_pickPos_0 : List UInt8 := [178, 1, 95, 153, 0, 9, 26, 27, 100, 167, 0, 4, 27, 172]
abbrev dktJ20_pickPos_0 : List UInt8 := dkwJ20_pickPos_0 ++ []
theorem dksJ20_pickPos_0 : cJ20_pickPos.data.toList.drop 0 = dktJ20_pickPos_0 := by decide +kernel
theorem dJ20_pickPos_0 : decode cJ20_pickPos 0 = .ok (.getstatic 351, 3) := dk_178 1 95 (dk_at dksJ20_pickPos_0 0 rfl rfl)
theorem dJ20_pickPos_3 : decode cJ20_pickPos 3 = .ok (.ifCond .eq 9, 3) := dk_153 0 9 (dk_at dksJ20_pickPos_0 3 rfl rfl)
theorem dJ20_pickPos_6 : decode cJ20_pickPos 6 = .ok (.iload_n 0, 1) := dk_26 (dk_at dksJ20_pickPos_0 6 rfl rfl)
theorem dJ20_pickPos_7 : decode cJ20_pickPos 7 = .ok (.iload_n 1, 1) := dk_27 (dk_at dksJ20_pickPos_0 7 rfl rfl)
theorem dJ20_pickPos_8 : decode cJ20_pickPos 8 = .ok (.isub, 1) := dk_100 (dk_at dksJ20_pickPos_0 8 rfl rfl)
theorem dJ20_pickPos_9 : decode cJ20_pickPos 9 = .ok (.goto 4, 3) := dk_167 0 4 (dk_at dksJ20_pickPos_0 9 rfl rfl)
theorem dJ20_pickPos_12 : decode cJ20_pickPos 12 = .ok (.iload_n 1, 1) := dk_27 (dk_at dksJ20_pickPos_0 12 rfl rfl)
theorem dJ20_pickPos_13 : decode cJ20_pickPos 13 = .ok (.ireturn, 1) := dk_172 (dk_at dksJ20_pickPos_0 13 rfl rfl)
abbrev cJ20_makeLong_2 : ByteArray := prog_57_method_352_code
def yJ20_makeLong_2 : MethodName := ⟨RJ20, "makeLong", "(SSSS)J"⟩
def dkwJ20_makeLong_2_2 : List UInt8 := [121, 129, 173]
abbrev dktJ20_makeLong_2_2 : List UInt8 := dkwJ20_makeLong_2_2 ++ []
def dkwJ20_makeLong_2_1 : List UInt8 := [28, 184, 3, 20, 16, 48, 16, 32, 184, 3, 16, 121, 129, 29, 184, 3, 20, 16, 48, 16, 48, 184, 3, 16]
abbrev dktJ20_makeLong_2_1 : List UInt8 := dkwJ20_makeLong_2_1 ++ dktJ20_makeLong_2_2
def dkwJ20_makeLong_2_0 : List UInt8 := [26, 184, 3, 20, 16, 48, 3, 184, 3, 16, 121, 27, 184, 3, 20, 16, 48, 16, 16, 184, 3, 16, 121, 129]
abbrev dktJ20_makeLong_2_0 : List UInt8 := dkwJ20_makeLong_2_0 ++ dktJ20_makeLong_2_1
theorem dksJ20_makeLong_2_0 : cJ20_makeLong_2.data.toList.drop 0 = dktJ20_makeLong_2_0 := by decide +kernel
theorem dksJ20_makeLong_2_1 : cJ20_makeLong_2.data.toList.drop 24 = dktJ20_makeLong_2_1 := dk_seg dksJ20_makeLong_2_0 24 rfl rfl
theorem dksJ20_makeLong_2_2 : cJ20_makeLong_2.data.toList.drop 48 = dktJ20_makeLong_2_2 := dk_seg dksJ20_makeLong_2_1 24 rfl rfl
theorem dJ20_makeLong_2_0 : decode cJ20_makeLong_2 0 = .ok (.iload_n 0, 1) := dk_26 (dk_at dksJ20_makeLong_2_0 0 rfl rfl)
theorem dJ20_makeLong_2_1 : decode cJ20_makeLong_2 1 = .ok (.invokestatic 788, 3) := dk_184 3 20 (dk_at dksJ20_makeLong_2_0 1 rfl rfl)
theorem dJ20_makeLong_2_4 : decode cJ20_makeLong_2 4 = .ok (.bipush 48, 2) := dk_16 48 (dk_at dksJ20_makeLong_2_0 4 rfl rfl)
theorem dJ20_makeLong_2_6 : decode cJ20_makeLong_2 6 = .ok (.iconst 0, 1) := dk_3 (dk_at dksJ20_makeLong_2_0 6 rfl rfl)
theorem dJ20_makeLong_2_7 : decode cJ20_makeLong_2 7 = .ok (.invokestatic 784, 3) := dk_184 3 16 (dk_at dksJ20_makeLong_2_0 7 rfl rfl)
theorem dJ20_makeLong_2_10 : decode cJ20_makeLong_2 10 = .ok (.lshl, 1) := dk_121 (dk_at dksJ20_makeLong_2_0 10 rfl rfl)
theorem dJ20_makeLong_2_11 : decode cJ20_makeLong_2 11 = .ok (.iload_n 1, 1) := dk_27 (dk_at dksJ20_makeLong_2_0 11 rfl rfl)
theorem dJ20_makeLong_2_12 : decode cJ20_makeLong_2 12 = .ok (.invokestatic 788, 3) := dk_184 3 20 (dk_at dksJ20_makeLong_2_0 12 rfl rfl)
theorem dJ20_makeLong_2_15 : decode cJ20_makeLong_2 15 = .ok (.bipush 48, 2) := dk_16 48 (dk_at dksJ20_makeLong_2_0 15 rfl rfl)
theorem dJ20_makeLong_2_17 : decode cJ20_makeLong_2 17 = .ok (.bipush 16, 2) := dk_16 16 (dk_at dksJ20_makeLong_2_0 17 rfl rfl)
theorem dJ20_makeLong_2_19 : decode cJ20_makeLong_2 19 = .ok (.invokestatic 784, 3) := dk_184 3 16 (dk_at dksJ20_makeLong_2_0 19 rfl rfl)
theorem dJ20_makeLong_2_22 : decode cJ20_makeLong_2 22 = .ok (.lshl, 1) := dk_121 (dk_at dksJ20_makeLong_2_0 22 rfl rfl)
theorem dJ20_makeLong_2_23 : decode cJ20_makeLong_2 23 = .ok (.lor, 1) := dk_129 (dk_at dksJ20_makeLong_2_0 23 rfl rfl)
theorem dJ20_makeLong_2_24 : decode cJ20_makeLong_2 24 = .ok (.iload_n 2, 1) := dk_28 (dk_at dksJ20_makeLong_2_1 0 rfl rfl)
theorem dJ20_makeLong_2_25 : decode cJ20_makeLong_2 25 = .ok (.invokestatic 788, 3) := dk_184 3 20 (dk_at dksJ20_makeLong_2_1 1 rfl rfl)
theorem dJ20_makeLong_2_28 : decode cJ20_makeLong_2 28 = .ok (.bipush 48, 2) := dk_16 48 (dk_at dksJ20_makeLong_2_1 4 rfl rfl)
theorem dJ20_makeLong_2_30 : decode cJ20_makeLong_2 30 = .ok (.bipush 32, 2) := dk_16 32 (dk_at dksJ20_makeLong_2_1 6 rfl rfl)
theorem dJ20_makeLong_2_32 : decode cJ20_makeLong_2 32 = .ok (.invokestatic 784, 3) := dk_184 3 16 (dk_at dksJ20_makeLong_2_1 8 rfl rfl)
theorem dJ20_makeLong_2_35 : decode cJ20_makeLong_2 35 = .ok (.lshl, 1) := dk_121 (dk_at dksJ20_makeLong_2_1 11 rfl rfl)
theorem dJ20_makeLong_2_36 : decode cJ20_makeLong_2 36 = .ok (.lor, 1) := dk_129 (dk_at dksJ20_makeLong_2_1 12 rfl rfl)
theorem dJ20_makeLong_2_37 : decode cJ20_makeLong_2 37 = .ok (.iload_n 3, 1) := dk_29 (dk_at dksJ20_makeLong_2_1 13 rfl rfl)
theorem dJ20_makeLong_2_38 : decode cJ20_makeLong_2 38 = .ok (.invokestatic 788, 3) := dk_184 3 20 (dk_at dksJ20_makeLong_2_1 14 rfl rfl)
theorem dJ20_makeLong_2_41 : decode cJ20_makeLong_2 41 = .ok (.bipush 48, 2) := dk_16 48 (dk_at dksJ20_makeLong_2_1 17 rfl rfl)
theorem dJ20_makeLong_2_43 : decode cJ20_makeLong_2 43 = .ok (.bipush 48, 2) := dk_16 48 (dk_at dksJ20_makeLong_2_1 19 rfl rfl)
theorem dJ20_makeLong_2_45 : decode cJ20_makeLong_2 45 = .ok (.invokestatic 784, 3) := dk_184 3 16 (dk_at dksJ20_makeLong_2_1 21 rfl rfl)
theorem dJ20_makeLong_2_48 : decode cJ20_makeLong_2 48 = .ok (.lshl, 1) := dk_121 (dk_at dksJ20_makeLong_2_2 0 rfl rfl)
theorem dJ20_makeLong_2_49 : decode cJ20_makeLong_2 49 = .ok (.lor, 1) := dk_129 (dk_at dksJ20_makeLong_2_2 1 rfl rfl)
theorem dJ20_makeLong_2_50 : decode cJ20_makeLong_2 50 = .ok (.lreturn, 1) := dk_173 (dk_at dksJ20_makeLong_2_2 2 rfl rfl)
abbrev cJ20_toUnsignedLong_2 : ByteArray := prog_57_method_369_code
def yJ20_toUnsignedLong_2 : MethodName := ⟨RJ20, "toUnsignedLong", "(S)J"⟩
def dkwJ20_toUnsignedLong_2_0 : List UInt8 := [26, 133, 20, 3, 42, 127, 173]
abbrev dktJ20_toUnsignedLong_2_0 : List UInt8 := dkwJ20_toUnsignedLong_2_0 ++ []
theorem dksJ20_toUnsignedLong_2_0 : cJ20_toUnsignedLong_2.data.toList.drop 0 = dktJ20_toUnsignedLong_2_0 := by decide +kernel
theorem dJ20_toUnsignedLong_2_0 : decode cJ20_toUnsignedLong_2 0 = .ok (.iload_n 0, 1) := dk_26 (dk_at dksJ20_toUnsignedLong_2_0 0 rfl rfl)
theorem dJ20_toUnsignedLong_2_1 : decode cJ20_toUnsignedLong_2 1 = .ok (.i2l, 1) := dk_133 (dk_at dksJ20_toUnsignedLong_2_0 1 rfl rfl)
theorem dJ20_toUnsignedLong_2_2 : decode cJ20_toUnsignedLong_2 2 = .ok (.ldc2_w 810, 3) := dk_20 3 42 (dk_at dksJ20_toUnsignedLong_2_0 2 rfl rfl)
theorem dJ20_toUnsignedLong_2_5 : decode cJ20_toUnsignedLong_2 5 = .ok (.land, 1) := dk_127 (dk_at dksJ20_toUnsignedLong_2_0 5 rfl rfl)
theorem dJ20_toUnsignedLong_2_6 : decode cJ20_toUnsignedLong_2 6 = .ok (.lreturn, 1) := dk_173 (dk_at dksJ20_toUnsignedLong_2_0 6 rfl rfl)
abbrev cJ20_makeLong_3 : ByteArray := prog_57_method_351_code
def yJ20_makeLong_3 : MethodName := ⟨RJ20, "makeLong", "(BBBBBBBB)J"⟩
def dkwJ20_makeLong_3_4 : List UInt8 := [184, 3, 13, 16, 56, 16, 56, 184, 3, 16, 121, 129, 173]
abbrev dktJ20_makeLong_3_4 : List UInt8 := dkwJ20_makeLong_3_4 ++ []
def dkwJ20_makeLong_3_3 : List UInt8 := [16, 40, 184, 3, 16, 121, 129, 21, 6, 184, 3, 13, 16, 56, 16, 48, 184, 3, 16, 121, 129, 21, 7]
abbrev dktJ20_makeLong_3_3 : List UInt8 := dkwJ20_makeLong_3_3 ++ dktJ20_makeLong_3_4
def dkwJ20_makeLong_3_2 : List UInt8 := [121, 129, 21, 4, 184, 3, 13, 16, 56, 16, 32, 184, 3, 16, 121, 129, 21, 5, 184, 3, 13, 16, 56]
abbrev dktJ20_makeLong_3_2 : List UInt8 := dkwJ20_makeLong_3_2 ++ dktJ20_makeLong_3_3
def dkwJ20_makeLong_3_1 : List UInt8 := [28, 184, 3, 13, 16, 56, 16, 16, 184, 3, 16, 121, 129, 29, 184, 3, 13, 16, 56, 16, 24, 184, 3, 16]
abbrev dktJ20_makeLong_3_1 : List UInt8 := dkwJ20_makeLong_3_1 ++ dktJ20_makeLong_3_2
def dkwJ20_makeLong_3_0 : List UInt8 := [26, 184, 3, 13, 16, 56, 3, 184, 3, 16, 121, 27, 184, 3, 13, 16, 56, 16, 8, 184, 3, 16, 121, 129]
abbrev dktJ20_makeLong_3_0 : List UInt8 := dkwJ20_makeLong_3_0 ++ dktJ20_makeLong_3_1
theorem dksJ20_makeLong_3_0 : cJ20_makeLong_3.data.toList.drop 0 = dktJ20_makeLong_3_0 := by decide +kernel
theorem dksJ20_makeLong_3_1 : cJ20_makeLong_3.data.toList.drop 24 = dktJ20_makeLong_3_1 := dk_seg dksJ20_makeLong_3_0 24 rfl rfl
theorem dksJ20_makeLong_3_2 : cJ20_makeLong_3.data.toList.drop 48 = dktJ20_makeLong_3_2 := dk_seg dksJ20_makeLong_3_1 24 rfl rfl
theorem dksJ20_makeLong_3_3 : cJ20_makeLong_3.data.toList.drop 71 = dktJ20_makeLong_3_3 := dk_seg dksJ20_makeLong_3_2 23 rfl rfl
theorem dksJ20_makeLong_3_4 : cJ20_makeLong_3.data.toList.drop 94 = dktJ20_makeLong_3_4 := dk_seg dksJ20_makeLong_3_3 23 rfl rfl
theorem dJ20_makeLong_3_0 : decode cJ20_makeLong_3 0 = .ok (.iload_n 0, 1) := dk_26 (dk_at dksJ20_makeLong_3_0 0 rfl rfl)
theorem dJ20_makeLong_3_1 : decode cJ20_makeLong_3 1 = .ok (.invokestatic 781, 3) := dk_184 3 13 (dk_at dksJ20_makeLong_3_0 1 rfl rfl)
theorem dJ20_makeLong_3_4 : decode cJ20_makeLong_3 4 = .ok (.bipush 56, 2) := dk_16 56 (dk_at dksJ20_makeLong_3_0 4 rfl rfl)
theorem dJ20_makeLong_3_6 : decode cJ20_makeLong_3 6 = .ok (.iconst 0, 1) := dk_3 (dk_at dksJ20_makeLong_3_0 6 rfl rfl)
theorem dJ20_makeLong_3_7 : decode cJ20_makeLong_3 7 = .ok (.invokestatic 784, 3) := dk_184 3 16 (dk_at dksJ20_makeLong_3_0 7 rfl rfl)
theorem dJ20_makeLong_3_10 : decode cJ20_makeLong_3 10 = .ok (.lshl, 1) := dk_121 (dk_at dksJ20_makeLong_3_0 10 rfl rfl)
theorem dJ20_makeLong_3_11 : decode cJ20_makeLong_3 11 = .ok (.iload_n 1, 1) := dk_27 (dk_at dksJ20_makeLong_3_0 11 rfl rfl)
theorem dJ20_makeLong_3_12 : decode cJ20_makeLong_3 12 = .ok (.invokestatic 781, 3) := dk_184 3 13 (dk_at dksJ20_makeLong_3_0 12 rfl rfl)
theorem dJ20_makeLong_3_15 : decode cJ20_makeLong_3 15 = .ok (.bipush 56, 2) := dk_16 56 (dk_at dksJ20_makeLong_3_0 15 rfl rfl)
theorem dJ20_makeLong_3_17 : decode cJ20_makeLong_3 17 = .ok (.bipush 8, 2) := dk_16 8 (dk_at dksJ20_makeLong_3_0 17 rfl rfl)
theorem dJ20_makeLong_3_19 : decode cJ20_makeLong_3 19 = .ok (.invokestatic 784, 3) := dk_184 3 16 (dk_at dksJ20_makeLong_3_0 19 rfl rfl)
theorem dJ20_makeLong_3_22 : decode cJ20_makeLong_3 22 = .ok (.lshl, 1) := dk_121 (dk_at dksJ20_makeLong_3_0 22 rfl rfl)
theorem dJ20_makeLong_3_23 : decode cJ20_makeLong_3 23 = .ok (.lor, 1) := dk_129 (dk_at dksJ20_makeLong_3_0 23 rfl rfl)
theorem dJ20_makeLong_3_24 : decode cJ20_makeLong_3 24 = .ok (.iload_n 2, 1) := dk_28 (dk_at dksJ20_makeLong_3_1 0 rfl rfl)
theorem dJ20_makeLong_3_25 : decode cJ20_makeLong_3 25 = .ok (.invokestatic 781, 3) := dk_184 3 13 (dk_at dksJ20_makeLong_3_1 1 rfl rfl)
theorem dJ20_makeLong_3_28 : decode cJ20_makeLong_3 28 = .ok (.bipush 56, 2) := dk_16 56 (dk_at dksJ20_makeLong_3_1 4 rfl rfl)
theorem dJ20_makeLong_3_30 : decode cJ20_makeLong_3 30 = .ok (.bipush 16, 2) := dk_16 16 (dk_at dksJ20_makeLong_3_1 6 rfl rfl)
theorem dJ20_makeLong_3_32 : decode cJ20_makeLong_3 32 = .ok (.invokestatic 784, 3) := dk_184 3 16 (dk_at dksJ20_makeLong_3_1 8 rfl rfl)
theorem dJ20_makeLong_3_35 : decode cJ20_makeLong_3 35 = .ok (.lshl, 1) := dk_121 (dk_at dksJ20_makeLong_3_1 11 rfl rfl)
theorem dJ20_makeLong_3_36 : decode cJ20_makeLong_3 36 = .ok (.lor, 1) := dk_129 (dk_at dksJ20_makeLong_3_1 12 rfl rfl)
theorem dJ20_makeLong_3_37 : decode cJ20_makeLong_3 37 = .ok (.iload_n 3, 1) := dk_29 (dk_at dksJ20_makeLong_3_1 13 rfl rfl)
theorem dJ20_makeLong_3_38 : decode cJ20_makeLong_3 38 = .ok (.invokestatic 781, 3) := dk_184 3 13 (dk_at dksJ20_makeLong_3_1 14 rfl rfl)
theorem dJ20_makeLong_3_41 : decode cJ20_makeLong_3 41 = .ok (.bipush 56, 2) := dk_16 56 (dk_at dksJ20_makeLong_3_1 17 rfl rfl)
theorem dJ20_makeLong_3_43 : decode cJ20_makeLong_3 43 = .ok (.bipush 24, 2) := dk_16 24 (dk_at dksJ20_makeLong_3_1 19 rfl rfl)
theorem dJ20_makeLong_3_45 : decode cJ20_makeLong_3 45 = .ok (.invokestatic 784, 3) := dk_184 3 16 (dk_at dksJ20_makeLong_3_1 21 rfl rfl)
theorem dJ20_makeLong_3_48 : decode cJ20_makeLong_3 48 = .ok (.lshl, 1) := dk_121 (dk_at dksJ20_makeLong_3_2 0 rfl rfl)
theorem dJ20_makeLong_3_49 : decode cJ20_makeLong_3 49 = .ok (.lor, 1) := dk_129 (dk_at dksJ20_makeLong_3_2 1 rfl rfl)
theorem dJ20_makeLong_3_50 : decode cJ20_makeLong_3 50 = .ok (.iload 4, 2) := dk_21 4 (dk_at dksJ20_makeLong_3_2 2 rfl rfl)
theorem dJ20_makeLong_3_52 : decode cJ20_makeLong_3 52 = .ok (.invokestatic 781, 3) := dk_184 3 13 (dk_at dksJ20_makeLong_3_2 4 rfl rfl)
theorem dJ20_makeLong_3_55 : decode cJ20_makeLong_3 55 = .ok (.bipush 56, 2) := dk_16 56 (dk_at dksJ20_makeLong_3_2 7 rfl rfl)
theorem dJ20_makeLong_3_57 : decode cJ20_makeLong_3 57 = .ok (.bipush 32, 2) := dk_16 32 (dk_at dksJ20_makeLong_3_2 9 rfl rfl)
theorem dJ20_makeLong_3_59 : decode cJ20_makeLong_3 59 = .ok (.invokestatic 784, 3) := dk_184 3 16 (dk_at dksJ20_makeLong_3_2 11 rfl rfl)
theorem dJ20_makeLong_3_62 : decode cJ20_makeLong_3 62 = .ok (.lshl, 1) := dk_121 (dk_at dksJ20_makeLong_3_2 14 rfl rfl)
theorem dJ20_makeLong_3_63 : decode cJ20_makeLong_3 63 = .ok (.lor, 1) := dk_129 (dk_at dksJ20_makeLong_3_2 15 rfl rfl)
theorem dJ20_makeLong_3_64 : decode cJ20_makeLong_3 64 = .ok (.iload 5, 2) := dk_21 5 (dk_at dksJ20_makeLong_3_2 16 rfl rfl)
theorem dJ20_makeLong_3_66 : decode cJ20_makeLong_3 66 = .ok (.invokestatic 781, 3) := dk_184 3 13 (dk_at dksJ20_makeLong_3_2 18 rfl rfl)
theorem dJ20_makeLong_3_69 : decode cJ20_makeLong_3 69 = .ok (.bipush 56, 2) := dk_16 56 (dk_at dksJ20_makeLong_3_2 21 rfl rfl)
theorem dJ20_makeLong_3_71 : decode cJ20_makeLong_3 71 = .ok (.bipush 40, 2) := dk_16 40 (dk_at dksJ20_makeLong_3_3 0 rfl rfl)
theorem dJ20_makeLong_3_73 : decode cJ20_makeLong_3 73 = .ok (.invokestatic 784, 3) := dk_184 3 16 (dk_at dksJ20_makeLong_3_3 2 rfl rfl)
theorem dJ20_makeLong_3_76 : decode cJ20_makeLong_3 76 = .ok (.lshl, 1) := dk_121 (dk_at dksJ20_makeLong_3_3 5 rfl rfl)
theorem dJ20_makeLong_3_77 : decode cJ20_makeLong_3 77 = .ok (.lor, 1) := dk_129 (dk_at dksJ20_makeLong_3_3 6 rfl rfl)
theorem dJ20_makeLong_3_78 : decode cJ20_makeLong_3 78 = .ok (.iload 6, 2) := dk_21 6 (dk_at dksJ20_makeLong_3_3 7 rfl rfl)
theorem dJ20_makeLong_3_80 : decode cJ20_makeLong_3 80 = .ok (.invokestatic 781, 3) := dk_184 3 13 (dk_at dksJ20_makeLong_3_3 9 rfl rfl)
theorem dJ20_makeLong_3_83 : decode cJ20_makeLong_3 83 = .ok (.bipush 56, 2) := dk_16 56 (dk_at dksJ20_makeLong_3_3 12 rfl rfl)
theorem dJ20_makeLong_3_85 : decode cJ20_makeLong_3 85 = .ok (.bipush 48, 2) := dk_16 48 (dk_at dksJ20_makeLong_3_3 14 rfl rfl)
theorem dJ20_makeLong_3_87 : decode cJ20_makeLong_3 87 = .ok (.invokestatic 784, 3) := dk_184 3 16 (dk_at dksJ20_makeLong_3_3 16 rfl rfl)
theorem dJ20_makeLong_3_90 : decode cJ20_makeLong_3 90 = .ok (.lshl, 1) := dk_121 (dk_at dksJ20_makeLong_3_3 19 rfl rfl)
theorem dJ20_makeLong_3_91 : decode cJ20_makeLong_3 91 = .ok (.lor, 1) := dk_129 (dk_at dksJ20_makeLong_3_3 20 rfl rfl)
theorem dJ20_makeLong_3_92 : decode cJ20_makeLong_3 92 = .ok (.iload 7, 2) := dk_21 7 (dk_at dksJ20_makeLong_3_3 21 rfl rfl)
theorem dJ20_makeLong_3_94 : decode cJ20_makeLong_3 94 = .ok (.invokestatic 781, 3) := dk_184 3 13 (dk_at dksJ20_makeLong_3_4 0 rfl rfl)
theorem dJ20_makeLong_3_97 : decode cJ20_makeLong_3 97 = .ok (.bipush 56, 2) := dk_16 56 (dk_at dksJ20_makeLong_3_4 3 rfl rfl)
theorem dJ20_makeLong_3_99 : decode cJ20_makeLong_3 99 = .ok (.bipush 56, 2) := dk_16 56 (dk_at dksJ20_makeLong_3_4 5 rfl rfl)
theorem dJ20_makeLong_3_101 : decode cJ20_makeLong_3 101 = .ok (.invokestatic 784, 3) := dk_184 3 16 (dk_at dksJ20_makeLong_3_4 7 rfl rfl)
theorem dJ20_makeLong_3_104 : decode cJ20_makeLong_3 104 = .ok (.lshl, 1) := dk_121 (dk_at dksJ20_makeLong_3_4 10 rfl rfl)
theorem dJ20_makeLong_3_105 : decode cJ20_makeLong_3 105 = .ok (.lor, 1) := dk_129 (dk_at dksJ20_makeLong_3_4 11 rfl rfl)
theorem dJ20_makeLong_3_106 : decode cJ20_makeLong_3 106 = .ok (.lreturn, 1) := dk_173 (dk_at dksJ20_makeLong_3_4 12 rfl rfl)
abbrev cJ20_toUnsignedLong_3 : ByteArray := prog_57_method_368_code
def yJ20_toUnsignedLong_3 : MethodName := ⟨RJ20, "toUnsignedLong", "(B)J"⟩
def dkwJ20_toUnsignedLong_3_0 : List UInt8 := [26, 133, 20, 3, 40, 127, 173]
abbrev dktJ20_toUnsignedLong_3_0 : List UInt8 := dkwJ20_toUnsignedLong_3_0 ++ []
theorem dksJ20_toUnsignedLong_3_0 : cJ20_toUnsignedLong_3.data.toList.drop 0 = dktJ20_toUnsignedLong_3_0 := by decide +kernel
theorem dJ20_toUnsignedLong_3_0 : decode cJ20_toUnsignedLong_3 0 = .ok (.iload_n 0, 1) := dk_26 (dk_at dksJ20_toUnsignedLong_3_0 0 rfl rfl)
theorem dJ20_toUnsignedLong_3_1 : decode cJ20_toUnsignedLong_3 1 = .ok (.i2l, 1) := dk_133 (dk_at dksJ20_toUnsignedLong_3_0 1 rfl rfl)
theorem dJ20_toUnsignedLong_3_2 : decode cJ20_toUnsignedLong_3 2 = .ok (.ldc2_w 808, 3) := dk_20 3 40 (dk_at dksJ20_toUnsignedLong_3_0 2 rfl rfl)
theorem dJ20_toUnsignedLong_3_5 : decode cJ20_toUnsignedLong_3 5 = .ok (.land, 1) := dk_127 (dk_at dksJ20_toUnsignedLong_3_0 5 rfl rfl)
theorem dJ20_toUnsignedLong_3_6 : decode cJ20_toUnsignedLong_3 6 = .ok (.lreturn, 1) := dk_173 (dk_at dksJ20_toUnsignedLong_3_0 6 rfl rfl)
abbrev cJ20_getIntUnaligned : ByteArray := prog_57_method_336_code
def yJ20_getIntUnaligned : MethodName := ⟨RJ20, "getIntUnaligned", "(Ljava/lang/Object;J)I"⟩
def dkwJ20_getIntUnaligned_3 : List UInt8 := [43, 32, 20, 1, 93, 97, 182, 0, 39, 184, 2, 211, 172]
abbrev dktJ20_getIntUnaligned_3 : List UInt8 := dkwJ20_getIntUnaligned_3 ++ []
def dkwJ20_getIntUnaligned_2 : List UInt8 := [43, 32, 182, 0, 39, 42, 43, 32, 10, 97, 182, 0, 39, 42, 43, 32, 20, 0, 203, 97, 182, 0, 39, 42]
abbrev dktJ20_getIntUnaligned_2 : List UInt8 := dkwJ20_getIntUnaligned_2 ++ dktJ20_getIntUnaligned_3
def dkwJ20_getIntUnaligned_1 : List UInt8 := [154, 0, 23, 42, 43, 32, 182, 0, 47, 42, 43, 32, 20, 0, 203, 97, 182, 0, 47, 184, 2, 207, 172, 42]
abbrev dktJ20_getIntUnaligned_1 : List UInt8 := dkwJ20_getIntUnaligned_1 ++ dktJ20_getIntUnaligned_2
def dkwJ20_getIntUnaligned_0 : List UInt8 := [32, 20, 1, 93, 127, 9, 148, 154, 0, 10, 42, 43, 32, 182, 0, 17, 172, 32, 10, 127, 9, 148]
abbrev dktJ20_getIntUnaligned_0 : List UInt8 := dkwJ20_getIntUnaligned_0 ++ dktJ20_getIntUnaligned_1
theorem dksJ20_getIntUnaligned_0 : cJ20_getIntUnaligned.data.toList.drop 0 = dktJ20_getIntUnaligned_0 := by decide +kernel
theorem dksJ20_getIntUnaligned_1 : cJ20_getIntUnaligned.data.toList.drop 22 = dktJ20_getIntUnaligned_1 := dk_seg dksJ20_getIntUnaligned_0 22 rfl rfl
theorem dksJ20_getIntUnaligned_2 : cJ20_getIntUnaligned.data.toList.drop 46 = dktJ20_getIntUnaligned_2 := dk_seg dksJ20_getIntUnaligned_1 24 rfl rfl
theorem dksJ20_getIntUnaligned_3 : cJ20_getIntUnaligned.data.toList.drop 70 = dktJ20_getIntUnaligned_3 := dk_seg dksJ20_getIntUnaligned_2 24 rfl rfl
theorem dJ20_getIntUnaligned_0 : decode cJ20_getIntUnaligned 0 = .ok (.lload_n 2, 1) := dk_32 (dk_at dksJ20_getIntUnaligned_0 0 rfl rfl)
theorem dJ20_getIntUnaligned_1 : decode cJ20_getIntUnaligned 1 = .ok (.ldc2_w 349, 3) := dk_20 1 93 (dk_at dksJ20_getIntUnaligned_0 1 rfl rfl)
theorem dJ20_getIntUnaligned_4 : decode cJ20_getIntUnaligned 4 = .ok (.land, 1) := dk_127 (dk_at dksJ20_getIntUnaligned_0 4 rfl rfl)
theorem dJ20_getIntUnaligned_5 : decode cJ20_getIntUnaligned 5 = .ok (.lconst 0, 1) := dk_9 (dk_at dksJ20_getIntUnaligned_0 5 rfl rfl)
theorem dJ20_getIntUnaligned_6 : decode cJ20_getIntUnaligned 6 = .ok (.lcmp, 1) := dk_148 (dk_at dksJ20_getIntUnaligned_0 6 rfl rfl)
theorem dJ20_getIntUnaligned_7 : decode cJ20_getIntUnaligned 7 = .ok (.ifCond .ne 10, 3) := dk_154 0 10 (dk_at dksJ20_getIntUnaligned_0 7 rfl rfl)
theorem dJ20_getIntUnaligned_10 : decode cJ20_getIntUnaligned 10 = .ok (.aload_n 0, 1) := dk_42 (dk_at dksJ20_getIntUnaligned_0 10 rfl rfl)
theorem dJ20_getIntUnaligned_11 : decode cJ20_getIntUnaligned 11 = .ok (.aload_n 1, 1) := dk_43 (dk_at dksJ20_getIntUnaligned_0 11 rfl rfl)
theorem dJ20_getIntUnaligned_12 : decode cJ20_getIntUnaligned 12 = .ok (.lload_n 2, 1) := dk_32 (dk_at dksJ20_getIntUnaligned_0 12 rfl rfl)
theorem dJ20_getIntUnaligned_13 : decode cJ20_getIntUnaligned 13 = .ok (.invokevirtual 17, 3) := dk_182 0 17 (dk_at dksJ20_getIntUnaligned_0 13 rfl rfl)
theorem dJ20_getIntUnaligned_16 : decode cJ20_getIntUnaligned 16 = .ok (.ireturn, 1) := dk_172 (dk_at dksJ20_getIntUnaligned_0 16 rfl rfl)
theorem dJ20_getIntUnaligned_17 : decode cJ20_getIntUnaligned 17 = .ok (.lload_n 2, 1) := dk_32 (dk_at dksJ20_getIntUnaligned_0 17 rfl rfl)
theorem dJ20_getIntUnaligned_18 : decode cJ20_getIntUnaligned 18 = .ok (.lconst 1, 1) := dk_10 (dk_at dksJ20_getIntUnaligned_0 18 rfl rfl)
theorem dJ20_getIntUnaligned_19 : decode cJ20_getIntUnaligned 19 = .ok (.land, 1) := dk_127 (dk_at dksJ20_getIntUnaligned_0 19 rfl rfl)
theorem dJ20_getIntUnaligned_20 : decode cJ20_getIntUnaligned 20 = .ok (.lconst 0, 1) := dk_9 (dk_at dksJ20_getIntUnaligned_0 20 rfl rfl)
theorem dJ20_getIntUnaligned_21 : decode cJ20_getIntUnaligned 21 = .ok (.lcmp, 1) := dk_148 (dk_at dksJ20_getIntUnaligned_0 21 rfl rfl)
theorem dJ20_getIntUnaligned_22 : decode cJ20_getIntUnaligned 22 = .ok (.ifCond .ne 23, 3) := dk_154 0 23 (dk_at dksJ20_getIntUnaligned_1 0 rfl rfl)
theorem dJ20_getIntUnaligned_25 : decode cJ20_getIntUnaligned 25 = .ok (.aload_n 0, 1) := dk_42 (dk_at dksJ20_getIntUnaligned_1 3 rfl rfl)
theorem dJ20_getIntUnaligned_26 : decode cJ20_getIntUnaligned 26 = .ok (.aload_n 1, 1) := dk_43 (dk_at dksJ20_getIntUnaligned_1 4 rfl rfl)
theorem dJ20_getIntUnaligned_27 : decode cJ20_getIntUnaligned 27 = .ok (.lload_n 2, 1) := dk_32 (dk_at dksJ20_getIntUnaligned_1 5 rfl rfl)
theorem dJ20_getIntUnaligned_28 : decode cJ20_getIntUnaligned 28 = .ok (.invokevirtual 47, 3) := dk_182 0 47 (dk_at dksJ20_getIntUnaligned_1 6 rfl rfl)
theorem dJ20_getIntUnaligned_31 : decode cJ20_getIntUnaligned 31 = .ok (.aload_n 0, 1) := dk_42 (dk_at dksJ20_getIntUnaligned_1 9 rfl rfl)
theorem dJ20_getIntUnaligned_32 : decode cJ20_getIntUnaligned 32 = .ok (.aload_n 1, 1) := dk_43 (dk_at dksJ20_getIntUnaligned_1 10 rfl rfl)
theorem dJ20_getIntUnaligned_33 : decode cJ20_getIntUnaligned 33 = .ok (.lload_n 2, 1) := dk_32 (dk_at dksJ20_getIntUnaligned_1 11 rfl rfl)
theorem dJ20_getIntUnaligned_34 : decode cJ20_getIntUnaligned 34 = .ok (.ldc2_w 203, 3) := dk_20 0 203 (dk_at dksJ20_getIntUnaligned_1 12 rfl rfl)
theorem dJ20_getIntUnaligned_37 : decode cJ20_getIntUnaligned 37 = .ok (.ladd, 1) := dk_97 (dk_at dksJ20_getIntUnaligned_1 15 rfl rfl)
theorem dJ20_getIntUnaligned_38 : decode cJ20_getIntUnaligned 38 = .ok (.invokevirtual 47, 3) := dk_182 0 47 (dk_at dksJ20_getIntUnaligned_1 16 rfl rfl)
theorem dJ20_getIntUnaligned_41 : decode cJ20_getIntUnaligned 41 = .ok (.invokestatic 719, 3) := dk_184 2 207 (dk_at dksJ20_getIntUnaligned_1 19 rfl rfl)
theorem dJ20_getIntUnaligned_44 : decode cJ20_getIntUnaligned 44 = .ok (.ireturn, 1) := dk_172 (dk_at dksJ20_getIntUnaligned_1 22 rfl rfl)
theorem dJ20_getIntUnaligned_45 : decode cJ20_getIntUnaligned 45 = .ok (.aload_n 0, 1) := dk_42 (dk_at dksJ20_getIntUnaligned_1 23 rfl rfl)
theorem dJ20_getIntUnaligned_46 : decode cJ20_getIntUnaligned 46 = .ok (.aload_n 1, 1) := dk_43 (dk_at dksJ20_getIntUnaligned_2 0 rfl rfl)
theorem dJ20_getIntUnaligned_47 : decode cJ20_getIntUnaligned 47 = .ok (.lload_n 2, 1) := dk_32 (dk_at dksJ20_getIntUnaligned_2 1 rfl rfl)
theorem dJ20_getIntUnaligned_48 : decode cJ20_getIntUnaligned 48 = .ok (.invokevirtual 39, 3) := dk_182 0 39 (dk_at dksJ20_getIntUnaligned_2 2 rfl rfl)
theorem dJ20_getIntUnaligned_51 : decode cJ20_getIntUnaligned 51 = .ok (.aload_n 0, 1) := dk_42 (dk_at dksJ20_getIntUnaligned_2 5 rfl rfl)
theorem dJ20_getIntUnaligned_52 : decode cJ20_getIntUnaligned 52 = .ok (.aload_n 1, 1) := dk_43 (dk_at dksJ20_getIntUnaligned_2 6 rfl rfl)
theorem dJ20_getIntUnaligned_53 : decode cJ20_getIntUnaligned 53 = .ok (.lload_n 2, 1) := dk_32 (dk_at dksJ20_getIntUnaligned_2 7 rfl rfl)
theorem dJ20_getIntUnaligned_54 : decode cJ20_getIntUnaligned 54 = .ok (.lconst 1, 1) := dk_10 (dk_at dksJ20_getIntUnaligned_2 8 rfl rfl)
theorem dJ20_getIntUnaligned_55 : decode cJ20_getIntUnaligned 55 = .ok (.ladd, 1) := dk_97 (dk_at dksJ20_getIntUnaligned_2 9 rfl rfl)
theorem dJ20_getIntUnaligned_56 : decode cJ20_getIntUnaligned 56 = .ok (.invokevirtual 39, 3) := dk_182 0 39 (dk_at dksJ20_getIntUnaligned_2 10 rfl rfl)
theorem dJ20_getIntUnaligned_59 : decode cJ20_getIntUnaligned 59 = .ok (.aload_n 0, 1) := dk_42 (dk_at dksJ20_getIntUnaligned_2 13 rfl rfl)
theorem dJ20_getIntUnaligned_60 : decode cJ20_getIntUnaligned 60 = .ok (.aload_n 1, 1) := dk_43 (dk_at dksJ20_getIntUnaligned_2 14 rfl rfl)
theorem dJ20_getIntUnaligned_61 : decode cJ20_getIntUnaligned 61 = .ok (.lload_n 2, 1) := dk_32 (dk_at dksJ20_getIntUnaligned_2 15 rfl rfl)
theorem dJ20_getIntUnaligned_62 : decode cJ20_getIntUnaligned 62 = .ok (.ldc2_w 203, 3) := dk_20 0 203 (dk_at dksJ20_getIntUnaligned_2 16 rfl rfl)
theorem dJ20_getIntUnaligned_65 : decode cJ20_getIntUnaligned 65 = .ok (.ladd, 1) := dk_97 (dk_at dksJ20_getIntUnaligned_2 19 rfl rfl)
theorem dJ20_getIntUnaligned_66 : decode cJ20_getIntUnaligned 66 = .ok (.invokevirtual 39, 3) := dk_182 0 39 (dk_at dksJ20_getIntUnaligned_2 20 rfl rfl)
theorem dJ20_getIntUnaligned_69 : decode cJ20_getIntUnaligned 69 = .ok (.aload_n 0, 1) := dk_42 (dk_at dksJ20_getIntUnaligned_2 23 rfl rfl)
theorem dJ20_getIntUnaligned_70 : decode cJ20_getIntUnaligned 70 = .ok (.aload_n 1, 1) := dk_43 (dk_at dksJ20_getIntUnaligned_3 0 rfl rfl)
theorem dJ20_getIntUnaligned_71 : decode cJ20_getIntUnaligned 71 = .ok (.lload_n 2, 1) := dk_32 (dk_at dksJ20_getIntUnaligned_3 1 rfl rfl)
theorem dJ20_getIntUnaligned_72 : decode cJ20_getIntUnaligned 72 = .ok (.ldc2_w 349, 3) := dk_20 1 93 (dk_at dksJ20_getIntUnaligned_3 2 rfl rfl)
theorem dJ20_getIntUnaligned_75 : decode cJ20_getIntUnaligned 75 = .ok (.ladd, 1) := dk_97 (dk_at dksJ20_getIntUnaligned_3 5 rfl rfl)
theorem dJ20_getIntUnaligned_76 : decode cJ20_getIntUnaligned 76 = .ok (.invokevirtual 39, 3) := dk_182 0 39 (dk_at dksJ20_getIntUnaligned_3 6 rfl rfl)
theorem dJ20_getIntUnaligned_79 : decode cJ20_getIntUnaligned 79 = .ok (.invokestatic 723, 3) := dk_184 2 211 (dk_at dksJ20_getIntUnaligned_3 9 rfl rfl)
theorem dJ20_getIntUnaligned_82 : decode cJ20_getIntUnaligned 82 = .ok (.ireturn, 1) := dk_172 (dk_at dksJ20_getIntUnaligned_3 12 rfl rfl)
abbrev cJ20_makeInt : ByteArray := prog_57_method_354_code
def yJ20_makeInt : MethodName := ⟨RJ20, "makeInt", "(SS)I"⟩
def dkwJ20_makeInt_1 : List UInt8 := [172]
abbrev dktJ20_makeInt_1 : List UInt8 := dkwJ20_makeInt_1 ++ []
def dkwJ20_makeInt_0 : List UInt8 := [26, 184, 3, 24, 16, 16, 3, 184, 3, 16, 120, 27, 184, 3, 24, 16, 16, 16, 16, 184, 3, 16, 120, 128]
abbrev dktJ20_makeInt_0 : List UInt8 := dkwJ20_makeInt_0 ++ dktJ20_makeInt_1
theorem dksJ20_makeInt_0 : cJ20_makeInt.data.toList.drop 0 = dktJ20_makeInt_0 := by decide +kernel
theorem dksJ20_makeInt_1 : cJ20_makeInt.data.toList.drop 24 = dktJ20_makeInt_1 := dk_seg dksJ20_makeInt_0 24 rfl rfl
theorem dJ20_makeInt_0 : decode cJ20_makeInt 0 = .ok (.iload_n 0, 1) := dk_26 (dk_at dksJ20_makeInt_0 0 rfl rfl)
theorem dJ20_makeInt_1 : decode cJ20_makeInt 1 = .ok (.invokestatic 792, 3) := dk_184 3 24 (dk_at dksJ20_makeInt_0 1 rfl rfl)
theorem dJ20_makeInt_4 : decode cJ20_makeInt 4 = .ok (.bipush 16, 2) := dk_16 16 (dk_at dksJ20_makeInt_0 4 rfl rfl)
theorem dJ20_makeInt_6 : decode cJ20_makeInt 6 = .ok (.iconst 0, 1) := dk_3 (dk_at dksJ20_makeInt_0 6 rfl rfl)
theorem dJ20_makeInt_7 : decode cJ20_makeInt 7 = .ok (.invokestatic 784, 3) := dk_184 3 16 (dk_at dksJ20_makeInt_0 7 rfl rfl)
theorem dJ20_makeInt_10 : decode cJ20_makeInt 10 = .ok (.ishl, 1) := dk_120 (dk_at dksJ20_makeInt_0 10 rfl rfl)
theorem dJ20_makeInt_11 : decode cJ20_makeInt 11 = .ok (.iload_n 1, 1) := dk_27 (dk_at dksJ20_makeInt_0 11 rfl rfl)
theorem dJ20_makeInt_12 : decode cJ20_makeInt 12 = .ok (.invokestatic 792, 3) := dk_184 3 24 (dk_at dksJ20_makeInt_0 12 rfl rfl)
theorem dJ20_makeInt_15 : decode cJ20_makeInt 15 = .ok (.bipush 16, 2) := dk_16 16 (dk_at dksJ20_makeInt_0 15 rfl rfl)
theorem dJ20_makeInt_17 : decode cJ20_makeInt 17 = .ok (.bipush 16, 2) := dk_16 16 (dk_at dksJ20_makeInt_0 17 rfl rfl)
theorem dJ20_makeInt_19 : decode cJ20_makeInt 19 = .ok (.invokestatic 784, 3) := dk_184 3 16 (dk_at dksJ20_makeInt_0 19 rfl rfl)
theorem dJ20_makeInt_22 : decode cJ20_makeInt 22 = .ok (.ishl, 1) := dk_120 (dk_at dksJ20_makeInt_0 22 rfl rfl)
theorem dJ20_makeInt_23 : decode cJ20_makeInt 23 = .ok (.ior, 1) := dk_128 (dk_at dksJ20_makeInt_0 23 rfl rfl)
theorem dJ20_makeInt_24 : decode cJ20_makeInt 24 = .ok (.ireturn, 1) := dk_172 (dk_at dksJ20_makeInt_1 0 rfl rfl)
abbrev cJ20_toUnsignedInt : ByteArray := prog_57_method_367_code
def yJ20_toUnsignedInt : MethodName := ⟨RJ20, "toUnsignedInt", "(S)I"⟩
def dkwJ20_toUnsignedInt_0 : List UInt8 := [26, 19, 1, 118, 126, 172]
abbrev dktJ20_toUnsignedInt_0 : List UInt8 := dkwJ20_toUnsignedInt_0 ++ []
theorem dksJ20_toUnsignedInt_0 : cJ20_toUnsignedInt.data.toList.drop 0 = dktJ20_toUnsignedInt_0 := by decide +kernel
theorem dJ20_toUnsignedInt_0 : decode cJ20_toUnsignedInt 0 = .ok (.iload_n 0, 1) := dk_26 (dk_at dksJ20_toUnsignedInt_0 0 rfl rfl)
theorem dJ20_toUnsignedInt_1 : decode cJ20_toUnsignedInt 1 = .ok (.ldc_w 374, 3) := dk_19 1 118 (dk_at dksJ20_toUnsignedInt_0 1 rfl rfl)
theorem dJ20_toUnsignedInt_4 : decode cJ20_toUnsignedInt 4 = .ok (.iand, 1) := dk_126 (dk_at dksJ20_toUnsignedInt_0 4 rfl rfl)
theorem dJ20_toUnsignedInt_5 : decode cJ20_toUnsignedInt 5 = .ok (.ireturn, 1) := dk_172 (dk_at dksJ20_toUnsignedInt_0 5 rfl rfl)
abbrev cJ20_makeInt_2 : ByteArray := prog_57_method_355_code
def yJ20_makeInt_2 : MethodName := ⟨RJ20, "makeInt", "(BBBB)I"⟩
def dkwJ20_makeInt_2_2 : List UInt8 := [120, 128, 172]
abbrev dktJ20_makeInt_2_2 : List UInt8 := dkwJ20_makeInt_2_2 ++ []
def dkwJ20_makeInt_2_1 : List UInt8 := [28, 184, 3, 28, 16, 24, 16, 16, 184, 3, 16, 120, 128, 29, 184, 3, 28, 16, 24, 16, 24, 184, 3, 16]
abbrev dktJ20_makeInt_2_1 : List UInt8 := dkwJ20_makeInt_2_1 ++ dktJ20_makeInt_2_2
def dkwJ20_makeInt_2_0 : List UInt8 := [26, 184, 3, 28, 16, 24, 3, 184, 3, 16, 120, 27, 184, 3, 28, 16, 24, 16, 8, 184, 3, 16, 120, 128]
abbrev dktJ20_makeInt_2_0 : List UInt8 := dkwJ20_makeInt_2_0 ++ dktJ20_makeInt_2_1
theorem dksJ20_makeInt_2_0 : cJ20_makeInt_2.data.toList.drop 0 = dktJ20_makeInt_2_0 := by decide +kernel
theorem dksJ20_makeInt_2_1 : cJ20_makeInt_2.data.toList.drop 24 = dktJ20_makeInt_2_1 := dk_seg dksJ20_makeInt_2_0 24 rfl rfl
theorem dksJ20_makeInt_2_2 : cJ20_makeInt_2.data.toList.drop 48 = dktJ20_makeInt_2_2 := dk_seg dksJ20_makeInt_2_1 24 rfl rfl
theorem dJ20_makeInt_2_0 : decode cJ20_makeInt_2 0 = .ok (.iload_n 0, 1) := dk_26 (dk_at dksJ20_makeInt_2_0 0 rfl rfl)
theorem dJ20_makeInt_2_1 : decode cJ20_makeInt_2 1 = .ok (.invokestatic 796, 3) := dk_184 3 28 (dk_at dksJ20_makeInt_2_0 1 rfl rfl)
theorem dJ20_makeInt_2_4 : decode cJ20_makeInt_2 4 = .ok (.bipush 24, 2) := dk_16 24 (dk_at dksJ20_makeInt_2_0 4 rfl rfl)
theorem dJ20_makeInt_2_6 : decode cJ20_makeInt_2 6 = .ok (.iconst 0, 1) := dk_3 (dk_at dksJ20_makeInt_2_0 6 rfl rfl)
theorem dJ20_makeInt_2_7 : decode cJ20_makeInt_2 7 = .ok (.invokestatic 784, 3) := dk_184 3 16 (dk_at dksJ20_makeInt_2_0 7 rfl rfl)
theorem dJ20_makeInt_2_10 : decode cJ20_makeInt_2 10 = .ok (.ishl, 1) := dk_120 (dk_at dksJ20_makeInt_2_0 10 rfl rfl)
theorem dJ20_makeInt_2_11 : decode cJ20_makeInt_2 11 = .ok (.iload_n 1, 1) := dk_27 (dk_at dksJ20_makeInt_2_0 11 rfl rfl)
theorem dJ20_makeInt_2_12 : decode cJ20_makeInt_2 12 = .ok (.invokestatic 796, 3) := dk_184 3 28 (dk_at dksJ20_makeInt_2_0 12 rfl rfl)
theorem dJ20_makeInt_2_15 : decode cJ20_makeInt_2 15 = .ok (.bipush 24, 2) := dk_16 24 (dk_at dksJ20_makeInt_2_0 15 rfl rfl)
theorem dJ20_makeInt_2_17 : decode cJ20_makeInt_2 17 = .ok (.bipush 8, 2) := dk_16 8 (dk_at dksJ20_makeInt_2_0 17 rfl rfl)
theorem dJ20_makeInt_2_19 : decode cJ20_makeInt_2 19 = .ok (.invokestatic 784, 3) := dk_184 3 16 (dk_at dksJ20_makeInt_2_0 19 rfl rfl)
theorem dJ20_makeInt_2_22 : decode cJ20_makeInt_2 22 = .ok (.ishl, 1) := dk_120 (dk_at dksJ20_makeInt_2_0 22 rfl rfl)
theorem dJ20_makeInt_2_23 : decode cJ20_makeInt_2 23 = .ok (.ior, 1) := dk_128 (dk_at dksJ20_makeInt_2_0 23 rfl rfl)
theorem dJ20_makeInt_2_24 : decode cJ20_makeInt_2 24 = .ok (.iload_n 2, 1) := dk_28 (dk_at dksJ20_makeInt_2_1 0 rfl rfl)
theorem dJ20_makeInt_2_25 : decode cJ20_makeInt_2 25 = .ok (.invokestatic 796, 3) := dk_184 3 28 (dk_at dksJ20_makeInt_2_1 1 rfl rfl)
theorem dJ20_makeInt_2_28 : decode cJ20_makeInt_2 28 = .ok (.bipush 24, 2) := dk_16 24 (dk_at dksJ20_makeInt_2_1 4 rfl rfl)
theorem dJ20_makeInt_2_30 : decode cJ20_makeInt_2 30 = .ok (.bipush 16, 2) := dk_16 16 (dk_at dksJ20_makeInt_2_1 6 rfl rfl)
theorem dJ20_makeInt_2_32 : decode cJ20_makeInt_2 32 = .ok (.invokestatic 784, 3) := dk_184 3 16 (dk_at dksJ20_makeInt_2_1 8 rfl rfl)
theorem dJ20_makeInt_2_35 : decode cJ20_makeInt_2 35 = .ok (.ishl, 1) := dk_120 (dk_at dksJ20_makeInt_2_1 11 rfl rfl)
theorem dJ20_makeInt_2_36 : decode cJ20_makeInt_2 36 = .ok (.ior, 1) := dk_128 (dk_at dksJ20_makeInt_2_1 12 rfl rfl)
theorem dJ20_makeInt_2_37 : decode cJ20_makeInt_2 37 = .ok (.iload_n 3, 1) := dk_29 (dk_at dksJ20_makeInt_2_1 13 rfl rfl)
theorem dJ20_makeInt_2_38 : decode cJ20_makeInt_2 38 = .ok (.invokestatic 796, 3) := dk_184 3 28 (dk_at dksJ20_makeInt_2_1 14 rfl rfl)
theorem dJ20_makeInt_2_41 : decode cJ20_makeInt_2 41 = .ok (.bipush 24, 2) := dk_16 24 (dk_at dksJ20_makeInt_2_1 17 rfl rfl)
theorem dJ20_makeInt_2_43 : decode cJ20_makeInt_2 43 = .ok (.bipush 24, 2) := dk_16 24 (dk_at dksJ20_makeInt_2_1 19 rfl rfl)
theorem dJ20_makeInt_2_45 : decode cJ20_makeInt_2 45 = .ok (.invokestatic 784, 3) := dk_184 3 16 (dk_at dksJ20_makeInt_2_1 21 rfl rfl)
theorem dJ20_makeInt_2_48 : decode cJ20_makeInt_2 48 = .ok (.ishl, 1) := dk_120 (dk_at dksJ20_makeInt_2_2 0 rfl rfl)
theorem dJ20_makeInt_2_49 : decode cJ20_makeInt_2 49 = .ok (.ior, 1) := dk_128 (dk_at dksJ20_makeInt_2_2 1 rfl rfl)
theorem dJ20_makeInt_2_50 : decode cJ20_makeInt_2 50 = .ok (.ireturn, 1) := dk_172 (dk_at dksJ20_makeInt_2_2 2 rfl rfl)
abbrev cJ20_toUnsignedInt_2 : ByteArray := prog_57_method_366_code
def yJ20_toUnsignedInt_2 : MethodName := ⟨RJ20, "toUnsignedInt", "(B)I"⟩
def dkwJ20_toUnsignedInt_2_0 : List UInt8 := [26, 17, 0, 255, 126, 172]
abbrev dktJ20_toUnsignedInt_2_0 : List UInt8 := dkwJ20_toUnsignedInt_2_0 ++ []
theorem dksJ20_toUnsignedInt_2_0 : cJ20_toUnsignedInt_2.data.toList.drop 0 = dktJ20_toUnsignedInt_2_0 := by decide +kernel
theorem dJ20_toUnsignedInt_2_0 : decode cJ20_toUnsignedInt_2 0 = .ok (.iload_n 0, 1) := dk_26 (dk_at dksJ20_toUnsignedInt_2_0 0 rfl rfl)
theorem dJ20_toUnsignedInt_2_1 : decode cJ20_toUnsignedInt_2 1 = .ok (.sipush 255, 3) := dk_17 0 255 (dk_at dksJ20_toUnsignedInt_2_0 1 rfl rfl)
theorem dJ20_toUnsignedInt_2_4 : decode cJ20_toUnsignedInt_2 4 = .ok (.iand, 1) := dk_126 (dk_at dksJ20_toUnsignedInt_2_0 4 rfl rfl)
theorem dJ20_toUnsignedInt_2_5 : decode cJ20_toUnsignedInt_2 5 = .ok (.ireturn, 1) := dk_172 (dk_at dksJ20_toUnsignedInt_2_0 5 rfl rfl)
theorem q98 : (Jvm.Cond.initialized "jdk/internal/misc/Unsafe") ∈ lw_all := lw_g (lw_at lw_m1 27 rfl) rfl
theorem q287 : (Jvm.Cond.selects "jdk/internal/misc/Unsafe" ({ cls := "java/lang/Object", name := "getClass", desc := "()Ljava/lang/Class;" } : Jvm.MethodName) ({ cls := "java/lang/Object", name := "getClass", desc := "()Ljava/lang/Class;" } : Jvm.MethodName)) ∈ lw_all := lw_g (lw_at lw_m1 216 rfl) rfl
theorem q441 : (Jvm.Cond.laysStatic "jdk/internal/misc/Unsafe" "ARRAY_BYTE_BASE_OFFSET" "I") ∈ lw_tbl := lw_at lw_m2 130 rfl
theorem q452 : (Jvm.Cond.instanceMethod ({ cls := "jdk/internal/misc/Unsafe", name := "getLongUnaligned", desc := "(Ljava/lang/Object;J)J" } : Jvm.MethodName)) ∈ lw_all := lw_g (lw_at lw_m2 141 rfl) rfl
theorem q453 : (Jvm.Cond.selects "jdk/internal/misc/Unsafe" ({ cls := "jdk/internal/misc/Unsafe", name := "getLongUnaligned", desc := "(Ljava/lang/Object;J)J" } : Jvm.MethodName) ({ cls := "jdk/internal/misc/Unsafe", name := "getLongUnaligned", desc := "(Ljava/lang/Object;J)J" } : Jvm.MethodName)) ∈ lw_all := lw_g (lw_at lw_m2 142 rfl) rfl
theorem q454 : (Jvm.Cond.code ({ cls := "jdk/internal/misc/Unsafe", name := "getLongUnaligned", desc := "(Ljava/lang/Object;J)J" } : Jvm.MethodName) prog_57_method_334_code (4 : Nat) (Option.some Jvm.ClassFile.FieldType.long)) ∈ lw_all := lw_g (lw_at lw_m2 143 rfl) rfl
theorem q455 : (Jvm.Cond.constantLong "jdk/internal/misc/Unsafe" (696 : Nat) (7 : Int64)) ∈ lw_all := lw_g (lw_at lw_m2 144 rfl) rfl
theorem q456 : (Jvm.Cond.methodLink "jdk/internal/misc/Unsafe" (27 : Nat) ({ cls := "jdk/internal/misc/Unsafe", name := "getLong", desc := "(Ljava/lang/Object;J)J" } : Jvm.MethodName)) ∈ lw_all := lw_g (lw_at lw_m2 145 rfl) rfl
theorem q457 : (Jvm.Cond.instanceMethod ({ cls := "jdk/internal/misc/Unsafe", name := "getLong", desc := "(Ljava/lang/Object;J)J" } : Jvm.MethodName)) ∈ lw_all := lw_g (lw_at lw_m2 146 rfl) rfl
theorem q458 : (Jvm.Cond.selects "jdk/internal/misc/Unsafe" ({ cls := "jdk/internal/misc/Unsafe", name := "getLong", desc := "(Ljava/lang/Object;J)J" } : Jvm.MethodName) ({ cls := "jdk/internal/misc/Unsafe", name := "getLong", desc := "(Ljava/lang/Object;J)J" } : Jvm.MethodName)) ∈ lw_all := lw_g (lw_at lw_m2 147 rfl) rfl
theorem q459 : (Jvm.Cond.native ({ cls := "jdk/internal/misc/Unsafe", name := "getLong", desc := "(Ljava/lang/Object;J)J" } : Jvm.MethodName)) ∈ lw_all := lw_g (lw_at lw_m2 148 rfl) rfl
theorem q460 : (Jvm.Cond.constantLong "jdk/internal/misc/Unsafe" (349 : Nat) (3 : Int64)) ∈ lw_all := lw_g (lw_at lw_m2 149 rfl) rfl
theorem q461 : (Jvm.Cond.methodLink "jdk/internal/misc/Unsafe" (17 : Nat) ({ cls := "jdk/internal/misc/Unsafe", name := "getInt", desc := "(Ljava/lang/Object;J)I" } : Jvm.MethodName)) ∈ lw_all := lw_g (lw_at lw_m2 150 rfl) rfl
theorem q462 : (Jvm.Cond.instanceMethod ({ cls := "jdk/internal/misc/Unsafe", name := "getInt", desc := "(Ljava/lang/Object;J)I" } : Jvm.MethodName)) ∈ lw_all := lw_g (lw_at lw_m2 151 rfl) rfl
theorem q463 : (Jvm.Cond.selects "jdk/internal/misc/Unsafe" ({ cls := "jdk/internal/misc/Unsafe", name := "getInt", desc := "(Ljava/lang/Object;J)I" } : Jvm.MethodName) ({ cls := "jdk/internal/misc/Unsafe", name := "getInt", desc := "(Ljava/lang/Object;J)I" } : Jvm.MethodName)) ∈ lw_all := lw_g (lw_at lw_m2 152 rfl) rfl
theorem q464 : (Jvm.Cond.native ({ cls := "jdk/internal/misc/Unsafe", name := "getInt", desc := "(Ljava/lang/Object;J)I" } : Jvm.MethodName)) ∈ lw_all := lw_g (lw_at lw_m2 153 rfl) rfl
theorem q465 : (Jvm.Cond.constantLong "jdk/internal/misc/Unsafe" (205 : Nat) (4 : Int64)) ∈ lw_all := lw_g (lw_at lw_m2 154 rfl) rfl
theorem q466 : (Jvm.Cond.methodLink "jdk/internal/misc/Unsafe" (698 : Nat) ({ cls := "jdk/internal/misc/Unsafe", name := "makeLong", desc := "(II)J" } : Jvm.MethodName)) ∈ lw_all := lw_g (lw_at lw_m2 155 rfl) rfl
theorem q467 : (Jvm.Cond.static ({ cls := "jdk/internal/misc/Unsafe", name := "makeLong", desc := "(II)J" } : Jvm.MethodName)) ∈ lw_all := lw_g (lw_at lw_m2 156 rfl) rfl
theorem q468 : (Jvm.Cond.code ({ cls := "jdk/internal/misc/Unsafe", name := "makeLong", desc := "(II)J" } : Jvm.MethodName) prog_57_method_353_code (2 : Nat) (Option.some Jvm.ClassFile.FieldType.long)) ∈ lw_all := lw_g (lw_at lw_m2 157 rfl) rfl
theorem q469 : (Jvm.Cond.methodLink "jdk/internal/misc/Unsafe" (791 : Nat) ({ cls := "jdk/internal/misc/Unsafe", name := "toUnsignedLong", desc := "(I)J" } : Jvm.MethodName)) ∈ lw_all := lw_g (lw_at lw_m2 158 rfl) rfl
theorem q470 : (Jvm.Cond.static ({ cls := "jdk/internal/misc/Unsafe", name := "toUnsignedLong", desc := "(I)J" } : Jvm.MethodName)) ∈ lw_all := lw_g (lw_at lw_m2 159 rfl) rfl
theorem q471 : (Jvm.Cond.code ({ cls := "jdk/internal/misc/Unsafe", name := "toUnsignedLong", desc := "(I)J" } : Jvm.MethodName) prog_57_method_370_code (1 : Nat) (Option.some Jvm.ClassFile.FieldType.long)) ∈ lw_all := lw_g (lw_at lw_m2 160 rfl) rfl
theorem q472 : (Jvm.Cond.constantLong "jdk/internal/misc/Unsafe" (812 : Nat) (4294967295 : Int64)) ∈ lw_all := lw_g (lw_at lw_m2 161 rfl) rfl
theorem q473 : (Jvm.Cond.methodLink "jdk/internal/misc/Unsafe" (784 : Nat) ({ cls := "jdk/internal/misc/Unsafe", name := "pickPos", desc := "(II)I" } : Jvm.MethodName)) ∈ lw_all := lw_g (lw_at lw_m2 162 rfl) rfl
theorem q474 : (Jvm.Cond.static ({ cls := "jdk/internal/misc/Unsafe", name := "pickPos", desc := "(II)I" } : Jvm.MethodName)) ∈ lw_all := lw_g (lw_at lw_m2 163 rfl) rfl
theorem q475 : (Jvm.Cond.code ({ cls := "jdk/internal/misc/Unsafe", name := "pickPos", desc := "(II)I" } : Jvm.MethodName) prog_57_method_350_code (2 : Nat) (Option.some Jvm.ClassFile.FieldType.int)) ∈ lw_all := lw_g (lw_at lw_m2 164 rfl) rfl
theorem q476 : (Jvm.Cond.fieldLink "jdk/internal/misc/Unsafe" (351 : Nat) "jdk/internal/misc/UnsafeConstants" "BIG_ENDIAN" "Z") ∈ lw_all := lw_g (lw_at lw_m2 165 rfl) rfl
theorem q478 : (Jvm.Cond.methodLink "jdk/internal/misc/Unsafe" (47 : Nat) ({ cls := "jdk/internal/misc/Unsafe", name := "getShort", desc := "(Ljava/lang/Object;J)S" } : Jvm.MethodName)) ∈ lw_all := lw_g (lw_at lw_m2 167 rfl) rfl
theorem q479 : (Jvm.Cond.instanceMethod ({ cls := "jdk/internal/misc/Unsafe", name := "getShort", desc := "(Ljava/lang/Object;J)S" } : Jvm.MethodName)) ∈ lw_all := lw_g (lw_at lw_m2 168 rfl) rfl
theorem q480 : (Jvm.Cond.selects "jdk/internal/misc/Unsafe" ({ cls := "jdk/internal/misc/Unsafe", name := "getShort", desc := "(Ljava/lang/Object;J)S" } : Jvm.MethodName) ({ cls := "jdk/internal/misc/Unsafe", name := "getShort", desc := "(Ljava/lang/Object;J)S" } : Jvm.MethodName)) ∈ lw_all := lw_g (lw_at lw_m2 169 rfl) rfl
theorem q481 : (Jvm.Cond.native ({ cls := "jdk/internal/misc/Unsafe", name := "getShort", desc := "(Ljava/lang/Object;J)S" } : Jvm.MethodName)) ∈ lw_all := lw_g (lw_at lw_m2 170 rfl) rfl
theorem q482 : (Jvm.Cond.constantLong "jdk/internal/misc/Unsafe" (203 : Nat) (2 : Int64)) ∈ lw_all := lw_g (lw_at lw_m2 171 rfl) rfl
theorem q483 : (Jvm.Cond.constantLong "jdk/internal/misc/Unsafe" (702 : Nat) (6 : Int64)) ∈ lw_all := lw_g (lw_at lw_m2 172 rfl) rfl
theorem q484 : (Jvm.Cond.methodLink "jdk/internal/misc/Unsafe" (704 : Nat) ({ cls := "jdk/internal/misc/Unsafe", name := "makeLong", desc := "(SSSS)J" } : Jvm.MethodName)) ∈ lw_all := lw_g (lw_at lw_m2 173 rfl) rfl
theorem q485 : (Jvm.Cond.static ({ cls := "jdk/internal/misc/Unsafe", name := "makeLong", desc := "(SSSS)J" } : Jvm.MethodName)) ∈ lw_all := lw_g (lw_at lw_m2 174 rfl) rfl
theorem q486 : (Jvm.Cond.code ({ cls := "jdk/internal/misc/Unsafe", name := "makeLong", desc := "(SSSS)J" } : Jvm.MethodName) prog_57_method_352_code (4 : Nat) (Option.some Jvm.ClassFile.FieldType.long)) ∈ lw_all := lw_g (lw_at lw_m2 175 rfl) rfl
theorem q487 : (Jvm.Cond.methodLink "jdk/internal/misc/Unsafe" (788 : Nat) ({ cls := "jdk/internal/misc/Unsafe", name := "toUnsignedLong", desc := "(S)J" } : Jvm.MethodName)) ∈ lw_all := lw_g (lw_at lw_m2 176 rfl) rfl
theorem q488 : (Jvm.Cond.static ({ cls := "jdk/internal/misc/Unsafe", name := "toUnsignedLong", desc := "(S)J" } : Jvm.MethodName)) ∈ lw_all := lw_g (lw_at lw_m2 177 rfl) rfl
theorem q489 : (Jvm.Cond.code ({ cls := "jdk/internal/misc/Unsafe", name := "toUnsignedLong", desc := "(S)J" } : Jvm.MethodName) prog_57_method_369_code (1 : Nat) (Option.some Jvm.ClassFile.FieldType.long)) ∈ lw_all := lw_g (lw_at lw_m2 178 rfl) rfl
theorem q490 : (Jvm.Cond.constantLong "jdk/internal/misc/Unsafe" (810 : Nat) (65535 : Int64)) ∈ lw_all := lw_g (lw_at lw_m2 179 rfl) rfl
theorem q491 : (Jvm.Cond.methodLink "jdk/internal/misc/Unsafe" (39 : Nat) ({ cls := "jdk/internal/misc/Unsafe", name := "getByte", desc := "(Ljava/lang/Object;J)B" } : Jvm.MethodName)) ∈ lw_all := lw_g (lw_at lw_m2 180 rfl) rfl
theorem q492 : (Jvm.Cond.instanceMethod ({ cls := "jdk/internal/misc/Unsafe", name := "getByte", desc := "(Ljava/lang/Object;J)B" } : Jvm.MethodName)) ∈ lw_all := lw_g (lw_at lw_m2 181 rfl) rfl
theorem q493 : (Jvm.Cond.selects "jdk/internal/misc/Unsafe" ({ cls := "jdk/internal/misc/Unsafe", name := "getByte", desc := "(Ljava/lang/Object;J)B" } : Jvm.MethodName) ({ cls := "jdk/internal/misc/Unsafe", name := "getByte", desc := "(Ljava/lang/Object;J)B" } : Jvm.MethodName)) ∈ lw_all := lw_g (lw_at lw_m2 182 rfl) rfl
theorem q494 : (Jvm.Cond.native ({ cls := "jdk/internal/misc/Unsafe", name := "getByte", desc := "(Ljava/lang/Object;J)B" } : Jvm.MethodName)) ∈ lw_all := lw_g (lw_at lw_m2 183 rfl) rfl
theorem q495 : (Jvm.Cond.constantLong "jdk/internal/misc/Unsafe" (707 : Nat) (5 : Int64)) ∈ lw_all := lw_g (lw_at lw_m2 184 rfl) rfl
theorem q496 : (Jvm.Cond.methodLink "jdk/internal/misc/Unsafe" (709 : Nat) ({ cls := "jdk/internal/misc/Unsafe", name := "makeLong", desc := "(BBBBBBBB)J" } : Jvm.MethodName)) ∈ lw_all := lw_g (lw_at lw_m2 185 rfl) rfl
theorem q497 : (Jvm.Cond.static ({ cls := "jdk/internal/misc/Unsafe", name := "makeLong", desc := "(BBBBBBBB)J" } : Jvm.MethodName)) ∈ lw_all := lw_g (lw_at lw_m2 186 rfl) rfl
theorem q498 : (Jvm.Cond.code ({ cls := "jdk/internal/misc/Unsafe", name := "makeLong", desc := "(BBBBBBBB)J" } : Jvm.MethodName) prog_57_method_351_code (8 : Nat) (Option.some Jvm.ClassFile.FieldType.long)) ∈ lw_all := lw_g (lw_at lw_m2 187 rfl) rfl
theorem q499 : (Jvm.Cond.methodLink "jdk/internal/misc/Unsafe" (781 : Nat) ({ cls := "jdk/internal/misc/Unsafe", name := "toUnsignedLong", desc := "(B)J" } : Jvm.MethodName)) ∈ lw_all := lw_g (lw_at lw_m2 188 rfl) rfl
theorem q500 : (Jvm.Cond.static ({ cls := "jdk/internal/misc/Unsafe", name := "toUnsignedLong", desc := "(B)J" } : Jvm.MethodName)) ∈ lw_all := lw_g (lw_at lw_m2 189 rfl) rfl
theorem q501 : (Jvm.Cond.code ({ cls := "jdk/internal/misc/Unsafe", name := "toUnsignedLong", desc := "(B)J" } : Jvm.MethodName) prog_57_method_368_code (1 : Nat) (Option.some Jvm.ClassFile.FieldType.long)) ∈ lw_all := lw_g (lw_at lw_m2 190 rfl) rfl
theorem q502 : (Jvm.Cond.constantLong "jdk/internal/misc/Unsafe" (808 : Nat) (255 : Int64)) ∈ lw_all := lw_g (lw_at lw_m2 191 rfl) rfl
theorem q523 : (Jvm.Cond.instanceMethod ({ cls := "jdk/internal/misc/Unsafe", name := "getIntUnaligned", desc := "(Ljava/lang/Object;J)I" } : Jvm.MethodName)) ∈ lw_all := lw_g (lw_at lw_m2 212 rfl) rfl
theorem q524 : (Jvm.Cond.selects "jdk/internal/misc/Unsafe" ({ cls := "jdk/internal/misc/Unsafe", name := "getIntUnaligned", desc := "(Ljava/lang/Object;J)I" } : Jvm.MethodName) ({ cls := "jdk/internal/misc/Unsafe", name := "getIntUnaligned", desc := "(Ljava/lang/Object;J)I" } : Jvm.MethodName)) ∈ lw_all := lw_g (lw_at lw_m2 213 rfl) rfl
theorem q525 : (Jvm.Cond.code ({ cls := "jdk/internal/misc/Unsafe", name := "getIntUnaligned", desc := "(Ljava/lang/Object;J)I" } : Jvm.MethodName) prog_57_method_336_code (4 : Nat) (Option.some Jvm.ClassFile.FieldType.int)) ∈ lw_all := lw_g (lw_at lw_m2 214 rfl) rfl
theorem q526 : (Jvm.Cond.methodLink "jdk/internal/misc/Unsafe" (719 : Nat) ({ cls := "jdk/internal/misc/Unsafe", name := "makeInt", desc := "(SS)I" } : Jvm.MethodName)) ∈ lw_all := lw_g (lw_at lw_m2 215 rfl) rfl
theorem q527 : (Jvm.Cond.static ({ cls := "jdk/internal/misc/Unsafe", name := "makeInt", desc := "(SS)I" } : Jvm.MethodName)) ∈ lw_all := lw_g (lw_at lw_m2 216 rfl) rfl
theorem q528 : (Jvm.Cond.code ({ cls := "jdk/internal/misc/Unsafe", name := "makeInt", desc := "(SS)I" } : Jvm.MethodName) prog_57_method_354_code (2 : Nat) (Option.some Jvm.ClassFile.FieldType.int)) ∈ lw_all := lw_g (lw_at lw_m2 217 rfl) rfl
theorem q529 : (Jvm.Cond.methodLink "jdk/internal/misc/Unsafe" (792 : Nat) ({ cls := "jdk/internal/misc/Unsafe", name := "toUnsignedInt", desc := "(S)I" } : Jvm.MethodName)) ∈ lw_all := lw_g (lw_at lw_m2 218 rfl) rfl
theorem q530 : (Jvm.Cond.static ({ cls := "jdk/internal/misc/Unsafe", name := "toUnsignedInt", desc := "(S)I" } : Jvm.MethodName)) ∈ lw_all := lw_g (lw_at lw_m2 219 rfl) rfl
theorem q531 : (Jvm.Cond.code ({ cls := "jdk/internal/misc/Unsafe", name := "toUnsignedInt", desc := "(S)I" } : Jvm.MethodName) prog_57_method_367_code (1 : Nat) (Option.some Jvm.ClassFile.FieldType.int)) ∈ lw_all := lw_g (lw_at lw_m2 220 rfl) rfl
theorem q532 : (Jvm.Cond.constant "jdk/internal/misc/Unsafe" (374 : Nat) (65535 : Int32)) ∈ lw_all := lw_g (lw_at lw_m2 221 rfl) rfl
theorem q533 : (Jvm.Cond.methodLink "jdk/internal/misc/Unsafe" (723 : Nat) ({ cls := "jdk/internal/misc/Unsafe", name := "makeInt", desc := "(BBBB)I" } : Jvm.MethodName)) ∈ lw_all := lw_g (lw_at lw_m2 222 rfl) rfl
theorem q534 : (Jvm.Cond.static ({ cls := "jdk/internal/misc/Unsafe", name := "makeInt", desc := "(BBBB)I" } : Jvm.MethodName)) ∈ lw_all := lw_g (lw_at lw_m2 223 rfl) rfl
theorem q535 : (Jvm.Cond.code ({ cls := "jdk/internal/misc/Unsafe", name := "makeInt", desc := "(BBBB)I" } : Jvm.MethodName) prog_57_method_355_code (4 : Nat) (Option.some Jvm.ClassFile.FieldType.int)) ∈ lw_all := lw_g (lw_at lw_m2 224 rfl) rfl
theorem q536 : (Jvm.Cond.methodLink "jdk/internal/misc/Unsafe" (796 : Nat) ({ cls := "jdk/internal/misc/Unsafe", name := "toUnsignedInt", desc := "(B)I" } : Jvm.MethodName)) ∈ lw_all := lw_g (lw_at lw_m2 225 rfl) rfl
theorem q537 : (Jvm.Cond.static ({ cls := "jdk/internal/misc/Unsafe", name := "toUnsignedInt", desc := "(B)I" } : Jvm.MethodName)) ∈ lw_all := lw_g (lw_at lw_m2 226 rfl) rfl
theorem q538 : (Jvm.Cond.code ({ cls := "jdk/internal/misc/Unsafe", name := "toUnsignedInt", desc := "(B)I" } : Jvm.MethodName) prog_57_method_366_code (1 : Nat) (Option.some Jvm.ClassFile.FieldType.int)) ∈ lw_all := lw_g (lw_at lw_m2 227 rfl) rfl
theorem q2210 : (Jvm.Cond.castable "jdk/internal/misc/Unsafe" "java/lang/Object") ∈ lw_tbl := lw_at lw_m9 219 rfl

-- J21.java_lang_Long.lean.txt
/-! java/lang/Long -/
set_option maxRecDepth 100000
def RJ21 : String := "java/lang/Long"
abbrev cJ21_numberOfLeadingZeros : ByteArray := prog_21_method_48_code
def yJ21_numberOfLeadingZeros : MethodName := ⟨RJ21, "numberOfLeadingZeros", "(J)I"⟩
def dkwJ21_numberOfLeadingZeros_1 : List UInt8 := [184, 1, 52, 172]
abbrev dktJ21_numberOfLeadingZeros_1 : List UInt8 := dkwJ21_numberOfLeadingZeros_1 ++ []
def dkwJ21_numberOfLeadingZeros_0 : List UInt8 := [30, 16, 32, 125, 136, 61, 28, 154, 0, 14, 16, 32, 30, 136, 184, 1, 52, 96, 167, 0, 7, 28]
abbrev dktJ21_numberOfLeadingZeros_0 : List UInt8 := dkwJ21_numberOfLeadingZeros_0 ++ dktJ21_numberOfLeadingZeros_1
theorem dksJ21_numberOfLeadingZeros_0 : cJ21_numberOfLeadingZeros.data.toList.drop 0 = dktJ21_numberOfLeadingZeros_0 := by decide +kernel
theorem dksJ21_numberOfLeadingZeros_1 : cJ21_numberOfLeadingZeros.data.toList.drop 22 = dktJ21_numberOfLeadingZeros_1 := dk_seg dksJ21_numberOfLeadingZeros_0 22 rfl rfl
theorem dJ21_numberOfLeadingZeros_0 : decode cJ21_numberOfLeadingZeros 0 = .ok (.lload_n 0, 1) := dk_30 (dk_at dksJ21_numberOfLeadingZeros_0 0 rfl rfl)
theorem dJ21_numberOfLeadingZeros_1 : decode cJ21_numberOfLeadingZeros 1 = .ok (.bipush 32, 2) := dk_16 32 (dk_at dksJ21_numberOfLeadingZeros_0 1 rfl rfl)
theorem dJ21_numberOfLeadingZeros_3 : decode cJ21_numberOfLeadingZeros 3 = .ok (.lushr, 1) := dk_125 (dk_at dksJ21_numberOfLeadingZeros_0 3 rfl rfl)
theorem dJ21_numberOfLeadingZeros_4 : decode cJ21_numberOfLeadingZeros 4 = .ok (.l2i, 1) := dk_136 (dk_at dksJ21_numberOfLeadingZeros_0 4 rfl rfl)
theorem dJ21_numberOfLeadingZeros_5 : decode cJ21_numberOfLeadingZeros 5 = .ok (.istore_n 2, 1) := dk_61 (dk_at dksJ21_numberOfLeadingZeros_0 5 rfl rfl)
theorem dJ21_numberOfLeadingZeros_6 : decode cJ21_numberOfLeadingZeros 6 = .ok (.iload_n 2, 1) := dk_28 (dk_at dksJ21_numberOfLeadingZeros_0 6 rfl rfl)
theorem dJ21_numberOfLeadingZeros_7 : decode cJ21_numberOfLeadingZeros 7 = .ok (.ifCond .ne 14, 3) := dk_154 0 14 (dk_at dksJ21_numberOfLeadingZeros_0 7 rfl rfl)
theorem dJ21_numberOfLeadingZeros_10 : decode cJ21_numberOfLeadingZeros 10 = .ok (.bipush 32, 2) := dk_16 32 (dk_at dksJ21_numberOfLeadingZeros_0 10 rfl rfl)
theorem dJ21_numberOfLeadingZeros_12 : decode cJ21_numberOfLeadingZeros 12 = .ok (.lload_n 0, 1) := dk_30 (dk_at dksJ21_numberOfLeadingZeros_0 12 rfl rfl)
theorem dJ21_numberOfLeadingZeros_13 : decode cJ21_numberOfLeadingZeros 13 = .ok (.l2i, 1) := dk_136 (dk_at dksJ21_numberOfLeadingZeros_0 13 rfl rfl)
theorem dJ21_numberOfLeadingZeros_14 : decode cJ21_numberOfLeadingZeros 14 = .ok (.invokestatic 308, 3) := dk_184 1 52 (dk_at dksJ21_numberOfLeadingZeros_0 14 rfl rfl)
theorem dJ21_numberOfLeadingZeros_17 : decode cJ21_numberOfLeadingZeros 17 = .ok (.iadd, 1) := dk_96 (dk_at dksJ21_numberOfLeadingZeros_0 17 rfl rfl)
theorem dJ21_numberOfLeadingZeros_18 : decode cJ21_numberOfLeadingZeros 18 = .ok (.goto 7, 3) := dk_167 0 7 (dk_at dksJ21_numberOfLeadingZeros_0 18 rfl rfl)
theorem dJ21_numberOfLeadingZeros_21 : decode cJ21_numberOfLeadingZeros 21 = .ok (.iload_n 2, 1) := dk_28 (dk_at dksJ21_numberOfLeadingZeros_0 21 rfl rfl)
theorem dJ21_numberOfLeadingZeros_22 : decode cJ21_numberOfLeadingZeros 22 = .ok (.invokestatic 308, 3) := dk_184 1 52 (dk_at dksJ21_numberOfLeadingZeros_1 0 rfl rfl)
theorem dJ21_numberOfLeadingZeros_25 : decode cJ21_numberOfLeadingZeros 25 = .ok (.ireturn, 1) := dk_172 (dk_at dksJ21_numberOfLeadingZeros_1 3 rfl rfl)
abbrev cJ21_numberOfTrailingZeros : ByteArray := prog_21_method_49_code
def yJ21_numberOfTrailingZeros : MethodName := ⟨RJ21, "numberOfTrailingZeros", "(J)I"⟩
def dkwJ21_numberOfTrailingZeros_1 : List UInt8 := [184, 1, 55, 172]
abbrev dktJ21_numberOfTrailingZeros_1 : List UInt8 := dkwJ21_numberOfTrailingZeros_1 ++ []
def dkwJ21_numberOfTrailingZeros_0 : List UInt8 := [30, 136, 61, 28, 154, 0, 17, 16, 32, 30, 16, 32, 125, 136, 184, 1, 55, 96, 167, 0, 7, 28]
abbrev dktJ21_numberOfTrailingZeros_0 : List UInt8 := dkwJ21_numberOfTrailingZeros_0 ++ dktJ21_numberOfTrailingZeros_1
theorem dksJ21_numberOfTrailingZeros_0 : cJ21_numberOfTrailingZeros.data.toList.drop 0 = dktJ21_numberOfTrailingZeros_0 := by decide +kernel
theorem dksJ21_numberOfTrailingZeros_1 : cJ21_numberOfTrailingZeros.data.toList.drop 22 = dktJ21_numberOfTrailingZeros_1 := dk_seg dksJ21_numberOfTrailingZeros_0 22 rfl rfl
theorem dJ21_numberOfTrailingZeros_0 : decode cJ21_numberOfTrailingZeros 0 = .ok (.lload_n 0, 1) := dk_30 (dk_at dksJ21_numberOfTrailingZeros_0 0 rfl rfl)
theorem dJ21_numberOfTrailingZeros_1 : decode cJ21_numberOfTrailingZeros 1 = .ok (.l2i, 1) := dk_136 (dk_at dksJ21_numberOfTrailingZeros_0 1 rfl rfl)
theorem dJ21_numberOfTrailingZeros_2 : decode cJ21_numberOfTrailingZeros 2 = .ok (.istore_n 2, 1) := dk_61 (dk_at dksJ21_numberOfTrailingZeros_0 2 rfl rfl)
theorem dJ21_numberOfTrailingZeros_3 : decode cJ21_numberOfTrailingZeros 3 = .ok (.iload_n 2, 1) := dk_28 (dk_at dksJ21_numberOfTrailingZeros_0 3 rfl rfl)
theorem dJ21_numberOfTrailingZeros_4 : decode cJ21_numberOfTrailingZeros 4 = .ok (.ifCond .ne 17, 3) := dk_154 0 17 (dk_at dksJ21_numberOfTrailingZeros_0 4 rfl rfl)
theorem dJ21_numberOfTrailingZeros_7 : decode cJ21_numberOfTrailingZeros 7 = .ok (.bipush 32, 2) := dk_16 32 (dk_at dksJ21_numberOfTrailingZeros_0 7 rfl rfl)
theorem dJ21_numberOfTrailingZeros_9 : decode cJ21_numberOfTrailingZeros 9 = .ok (.lload_n 0, 1) := dk_30 (dk_at dksJ21_numberOfTrailingZeros_0 9 rfl rfl)
theorem dJ21_numberOfTrailingZeros_10 : decode cJ21_numberOfTrailingZeros 10 = .ok (.bipush 32, 2) := dk_16 32 (dk_at dksJ21_numberOfTrailingZeros_0 10 rfl rfl)
theorem dJ21_numberOfTrailingZeros_12 : decode cJ21_numberOfTrailingZeros 12 = .ok (.lushr, 1) := dk_125 (dk_at dksJ21_numberOfTrailingZeros_0 12 rfl rfl)
theorem dJ21_numberOfTrailingZeros_13 : decode cJ21_numberOfTrailingZeros 13 = .ok (.l2i, 1) := dk_136 (dk_at dksJ21_numberOfTrailingZeros_0 13 rfl rfl)
theorem dJ21_numberOfTrailingZeros_14 : decode cJ21_numberOfTrailingZeros 14 = .ok (.invokestatic 311, 3) := dk_184 1 55 (dk_at dksJ21_numberOfTrailingZeros_0 14 rfl rfl)
theorem dJ21_numberOfTrailingZeros_17 : decode cJ21_numberOfTrailingZeros 17 = .ok (.iadd, 1) := dk_96 (dk_at dksJ21_numberOfTrailingZeros_0 17 rfl rfl)
theorem dJ21_numberOfTrailingZeros_18 : decode cJ21_numberOfTrailingZeros 18 = .ok (.goto 7, 3) := dk_167 0 7 (dk_at dksJ21_numberOfTrailingZeros_0 18 rfl rfl)
theorem dJ21_numberOfTrailingZeros_21 : decode cJ21_numberOfTrailingZeros 21 = .ok (.iload_n 2, 1) := dk_28 (dk_at dksJ21_numberOfTrailingZeros_0 21 rfl rfl)
theorem dJ21_numberOfTrailingZeros_22 : decode cJ21_numberOfTrailingZeros 22 = .ok (.invokestatic 311, 3) := dk_184 1 55 (dk_at dksJ21_numberOfTrailingZeros_1 0 rfl rfl)
theorem dJ21_numberOfTrailingZeros_25 : decode cJ21_numberOfTrailingZeros 25 = .ok (.ireturn, 1) := dk_172 (dk_at dksJ21_numberOfTrailingZeros_1 3 rfl rfl)
theorem q100 : (Jvm.Cond.initialized "java/lang/Long") ∈ lw_all := lw_g (lw_at lw_m1 29 rfl) rfl
theorem q506 : (Jvm.Cond.static ({ cls := "java/lang/Long", name := "numberOfLeadingZeros", desc := "(J)I" } : Jvm.MethodName)) ∈ lw_all := lw_g (lw_at lw_m2 195 rfl) rfl
theorem q507 : (Jvm.Cond.code ({ cls := "java/lang/Long", name := "numberOfLeadingZeros", desc := "(J)I" } : Jvm.MethodName) prog_21_method_48_code (3 : Nat) (Option.some Jvm.ClassFile.FieldType.int)) ∈ lw_all := lw_g (lw_at lw_m2 196 rfl) rfl
theorem q508 : (Jvm.Cond.methodLink "java/lang/Long" (308 : Nat) ({ cls := "java/lang/Integer", name := "numberOfLeadingZeros", desc := "(I)I" } : Jvm.MethodName)) ∈ lw_all := lw_g (lw_at lw_m2 197 rfl) rfl
theorem q515 : (Jvm.Cond.static ({ cls := "java/lang/Long", name := "numberOfTrailingZeros", desc := "(J)I" } : Jvm.MethodName)) ∈ lw_all := lw_g (lw_at lw_m2 204 rfl) rfl
theorem q516 : (Jvm.Cond.code ({ cls := "java/lang/Long", name := "numberOfTrailingZeros", desc := "(J)I" } : Jvm.MethodName) prog_21_method_49_code (3 : Nat) (Option.some Jvm.ClassFile.FieldType.int)) ∈ lw_all := lw_g (lw_at lw_m2 205 rfl) rfl
theorem q517 : (Jvm.Cond.methodLink "java/lang/Long" (311 : Nat) ({ cls := "java/lang/Integer", name := "numberOfTrailingZeros", desc := "(I)I" } : Jvm.MethodName)) ∈ lw_all := lw_g (lw_at lw_m2 206 rfl) rfl

-- J22.java_lang_StringUTF16.lean.txt
/-! java/lang/StringUTF16 -/
set_option maxRecDepth 100000
def RJ22 : String := "java/lang/StringUTF16"
abbrev cJ22_compareTo : ByteArray := prog_28_method_29_code
def yJ22_compareTo : MethodName := ⟨RJ22, "compareTo", "([B[B)I"⟩
abbrev cJ22_length : ByteArray := prog_28_method_6_code
def yJ22_length : MethodName := ⟨RJ22, "length", "([B)I"⟩
abbrev cJ22_compareValues : ByteArray := prog_28_method_31_code
def yJ22_compareValues : MethodName := ⟨RJ22, "compareValues", "([B[BII)I"⟩
abbrev cJ22_getChar : ByteArray := prog_28_method_5_code
def yJ22_getChar : MethodName := ⟨RJ22, "getChar", "([BI)C"⟩
abbrev cJ22_compareToLatin1 : ByteArray := prog_28_method_32_code
def yJ22_compareToLatin1 : MethodName := ⟨RJ22, "compareToLatin1", "([B[B)I"⟩
abbrev cJ22_compareTo_2 : ByteArray := prog_28_method_30_code
def yJ22_compareTo_2 : MethodName := ⟨RJ22, "compareTo", "([B[BII)I"⟩
abbrev cJ22_checkOffset : ByteArray := prog_28_method_92_code
def yJ22_checkOffset : MethodName := ⟨RJ22, "checkOffset", "(I[B)V"⟩
abbrev cJ22_compareToLatin1_2 : ByteArray := prog_28_method_33_code
def yJ22_compareToLatin1_2 : MethodName := ⟨RJ22, "compareToLatin1", "([B[BII)I"⟩
abbrev cJ22_newBytesFor : ByteArray := prog_28_method_2_code
def yJ22_newBytesFor : MethodName := ⟨RJ22, "newBytesFor", "(I)[B"⟩
abbrev cJ22_newBytesLength : ByteArray := prog_28_method_3_code
def yJ22_newBytesLength : MethodName := ⟨RJ22, "newBytesLength", "(I)I"⟩
abbrev cJ22_putCharsAt : ByteArray := prog_28_method_81_code
def yJ22_putCharsAt : MethodName := ⟨RJ22, "putCharsAt", "([BICCCC)I"⟩
abbrev cJ22_checkBoundsBeginEnd : ByteArray := prog_28_method_93_code
def yJ22_checkBoundsBeginEnd : MethodName := ⟨RJ22, "checkBoundsBeginEnd", "(II[B)V"⟩
abbrev cJ22_putChar : ByteArray := prog_28_method_4_code
def yJ22_putChar : MethodName := ⟨RJ22, "putChar", "([BII)V"⟩
abbrev cJ22_inflate : ByteArray := prog_28_method_86_code
def yJ22_inflate : MethodName := ⟨RJ22, "inflate", "([BI[BII)V"⟩
abbrev cJ22_checkBoundsOffCount : ByteArray := prog_28_method_94_code
def yJ22_checkBoundsOffCount : MethodName := ⟨RJ22, "checkBoundsOffCount", "(II[B)V"⟩
abbrev cJ22_getChars : ByteArray := prog_28_method_77_code
def yJ22_getChars : MethodName := ⟨RJ22, "getChars", "(III[B)I"⟩
abbrev cJ22_getChars_2 : ByteArray := prog_28_method_89_code
def yJ22_getChars_2 : MethodName := ⟨RJ22, "getChars", "(II[B)I"⟩
abbrev cJ22_compress : ByteArray := prog_28_method_17_code
def yJ22_compress : MethodName := ⟨RJ22, "compress", "([BII)[B"⟩
abbrev cJ22_compress_2 : ByteArray := prog_28_method_22_code
def yJ22_compress_2 : MethodName := ⟨RJ22, "compress", "([BI[BII)I"⟩
abbrev cJ22_coderFromArrayLen : ByteArray := prog_28_method_15_code
def yJ22_coderFromArrayLen : MethodName := ⟨RJ22, "coderFromArrayLen", "([BI)B"⟩
theorem q101 : (Jvm.Cond.initialized "java/lang/StringUTF16") ∈ lw_all := lw_g (lw_at lw_m1 30 rfl) rfl
theorem q545 : (Jvm.Cond.static ({ cls := "java/lang/StringUTF16", name := "compareTo", desc := "([B[B)I" } : Jvm.MethodName)) ∈ lw_all := lw_g (lw_at lw_m2 234 rfl) rfl
theorem q546 : (Jvm.Cond.code ({ cls := "java/lang/StringUTF16", name := "compareTo", desc := "([B[B)I" } : Jvm.MethodName) prog_28_method_29_code (4 : Nat) (Option.some Jvm.ClassFile.FieldType.int)) ∈ lw_all := lw_g (lw_at lw_m2 235 rfl) rfl
theorem q547 : (Jvm.Cond.methodLink "java/lang/StringUTF16" (48 : Nat) ({ cls := "java/lang/StringUTF16", name := "length", desc := "([B)I" } : Jvm.MethodName)) ∈ lw_all := lw_g (lw_at lw_m2 236 rfl) rfl
theorem q548 : (Jvm.Cond.static ({ cls := "java/lang/StringUTF16", name := "length", desc := "([B)I" } : Jvm.MethodName)) ∈ lw_all := lw_g (lw_at lw_m2 237 rfl) rfl
theorem q549 : (Jvm.Cond.code ({ cls := "java/lang/StringUTF16", name := "length", desc := "([B)I" } : Jvm.MethodName) prog_28_method_6_code (1 : Nat) (Option.some Jvm.ClassFile.FieldType.int)) ∈ lw_all := lw_g (lw_at lw_m2 238 rfl) rfl
theorem q550 : (Jvm.Cond.methodLink "java/lang/StringUTF16" (176 : Nat) ({ cls := "java/lang/StringUTF16", name := "compareValues", desc := "([B[BII)I" } : Jvm.MethodName)) ∈ lw_all := lw_g (lw_at lw_m2 239 rfl) rfl
theorem q551 : (Jvm.Cond.static ({ cls := "java/lang/StringUTF16", name := "compareValues", desc := "([B[BII)I" } : Jvm.MethodName)) ∈ lw_all := lw_g (lw_at lw_m3 0 rfl) rfl
theorem q552 : (Jvm.Cond.code ({ cls := "java/lang/StringUTF16", name := "compareValues", desc := "([B[BII)I" } : Jvm.MethodName) prog_28_method_31_code (8 : Nat) (Option.some Jvm.ClassFile.FieldType.int)) ∈ lw_all := lw_g (lw_at lw_m3 1 rfl) rfl
theorem q553 : (Jvm.Cond.methodLink "java/lang/StringUTF16" (183 : Nat) ({ cls := "java/lang/Math", name := "min", desc := "(II)I" } : Jvm.MethodName)) ∈ lw_all := lw_g (lw_at lw_m3 2 rfl) rfl
theorem q554 : (Jvm.Cond.methodLink "java/lang/StringUTF16" (71 : Nat) ({ cls := "java/lang/StringUTF16", name := "getChar", desc := "([BI)C" } : Jvm.MethodName)) ∈ lw_all := lw_g (lw_at lw_m3 3 rfl) rfl
theorem q555 : (Jvm.Cond.static ({ cls := "java/lang/StringUTF16", name := "getChar", desc := "([BI)C" } : Jvm.MethodName)) ∈ lw_all := lw_g (lw_at lw_m3 4 rfl) rfl
theorem q556 : (Jvm.Cond.code ({ cls := "java/lang/StringUTF16", name := "getChar", desc := "([BI)C" } : Jvm.MethodName) prog_28_method_5_code (2 : Nat) (Option.some Jvm.ClassFile.FieldType.char)) ∈ lw_all := lw_g (lw_at lw_m3 5 rfl) rfl
theorem q557 : (Jvm.Cond.fieldLink "java/lang/StringUTF16" (44 : Nat) "java/lang/StringUTF16" "$assertionsDisabled" "Z") ∈ lw_all := lw_g (lw_at lw_m3 6 rfl) rfl
theorem q558 : (Jvm.Cond.laysStatic "java/lang/StringUTF16" "$assertionsDisabled" "Z") ∈ lw_tbl := lw_at lw_m3 7 rfl
theorem q559 : (Jvm.Cond.fieldLink "java/lang/StringUTF16" (59 : Nat) "java/lang/StringUTF16" "HI_BYTE_SHIFT" "I") ∈ lw_all := lw_g (lw_at lw_m3 8 rfl) rfl
theorem q560 : (Jvm.Cond.laysStatic "java/lang/StringUTF16" "HI_BYTE_SHIFT" "I") ∈ lw_tbl := lw_at lw_m3 9 rfl
theorem q561 : (Jvm.Cond.fieldLink "java/lang/StringUTF16" (63 : Nat) "java/lang/StringUTF16" "LO_BYTE_SHIFT" "I") ∈ lw_all := lw_g (lw_at lw_m3 10 rfl) rfl
theorem q562 : (Jvm.Cond.laysStatic "java/lang/StringUTF16" "LO_BYTE_SHIFT" "I") ∈ lw_tbl := lw_at lw_m3 11 rfl
theorem q575 : (Jvm.Cond.static ({ cls := "java/lang/StringUTF16", name := "compareToLatin1", desc := "([B[B)I" } : Jvm.MethodName)) ∈ lw_all := lw_g (lw_at lw_m3 24 rfl) rfl
theorem q576 : (Jvm.Cond.code ({ cls := "java/lang/StringUTF16", name := "compareToLatin1", desc := "([B[B)I" } : Jvm.MethodName) prog_28_method_32_code (2 : Nat) (Option.some Jvm.ClassFile.FieldType.int)) ∈ lw_all := lw_g (lw_at lw_m3 25 rfl) rfl
theorem q577 : (Jvm.Cond.methodLink "java/lang/StringUTF16" (189 : Nat) ({ cls := "java/lang/StringLatin1", name := "compareToUTF16", desc := "([B[B)I" } : Jvm.MethodName)) ∈ lw_all := lw_g (lw_at lw_m3 26 rfl) rfl
theorem q601 : (Jvm.Cond.static ({ cls := "java/lang/StringUTF16", name := "compareTo", desc := "([B[BII)I" } : Jvm.MethodName)) ∈ lw_all := lw_g (lw_at lw_m3 50 rfl) rfl
theorem q602 : (Jvm.Cond.code ({ cls := "java/lang/StringUTF16", name := "compareTo", desc := "([B[BII)I" } : Jvm.MethodName) prog_28_method_30_code (4 : Nat) (Option.some Jvm.ClassFile.FieldType.int)) ∈ lw_all := lw_g (lw_at lw_m3 51 rfl) rfl
theorem q603 : (Jvm.Cond.methodLink "java/lang/StringUTF16" (180 : Nat) ({ cls := "java/lang/StringUTF16", name := "checkOffset", desc := "(I[B)V" } : Jvm.MethodName)) ∈ lw_all := lw_g (lw_at lw_m3 52 rfl) rfl
theorem q604 : (Jvm.Cond.static ({ cls := "java/lang/StringUTF16", name := "checkOffset", desc := "(I[B)V" } : Jvm.MethodName)) ∈ lw_all := lw_g (lw_at lw_m3 53 rfl) rfl
theorem q605 : (Jvm.Cond.code ({ cls := "java/lang/StringUTF16", name := "checkOffset", desc := "(I[B)V" } : Jvm.MethodName) prog_28_method_92_code (2 : Nat) (Option.none : Option Jvm.ClassFile.FieldType)) ∈ lw_all := lw_g (lw_at lw_m3 54 rfl) rfl
theorem q606 : (Jvm.Cond.methodLink "java/lang/StringUTF16" (417 : Nat) ({ cls := "java/lang/String", name := "checkOffset", desc := "(II)V" } : Jvm.MethodName)) ∈ lw_all := lw_g (lw_at lw_m3 55 rfl) rfl
theorem q619 : (Jvm.Cond.static ({ cls := "java/lang/StringUTF16", name := "compareToLatin1", desc := "([B[BII)I" } : Jvm.MethodName)) ∈ lw_all := lw_g (lw_at lw_m3 68 rfl) rfl
theorem q620 : (Jvm.Cond.code ({ cls := "java/lang/StringUTF16", name := "compareToLatin1", desc := "([B[BII)I" } : Jvm.MethodName) prog_28_method_33_code (4 : Nat) (Option.some Jvm.ClassFile.FieldType.int)) ∈ lw_all := lw_g (lw_at lw_m3 69 rfl) rfl
theorem q621 : (Jvm.Cond.methodLink "java/lang/StringUTF16" (193 : Nat) ({ cls := "java/lang/StringLatin1", name := "compareToUTF16", desc := "([B[BII)I" } : Jvm.MethodName)) ∈ lw_all := lw_g (lw_at lw_m3 70 rfl) rfl
theorem q640 : (Jvm.Cond.static ({ cls := "java/lang/StringUTF16", name := "newBytesFor", desc := "(I)[B" } : Jvm.MethodName)) ∈ lw_all := lw_g (lw_at lw_m3 89 rfl) rfl
theorem q641 : (Jvm.Cond.code ({ cls := "java/lang/StringUTF16", name := "newBytesFor", desc := "(I)[B" } : Jvm.MethodName) prog_28_method_2_code (1 : Nat) (Option.some (Jvm.ClassFile.FieldType.array Jvm.ClassFile.FieldType.byte))) ∈ lw_all := lw_g (lw_at lw_m3 90 rfl) rfl
theorem q642 : (Jvm.Cond.methodLink "java/lang/StringUTF16" (11 : Nat) ({ cls := "java/lang/StringUTF16", name := "newBytesLength", desc := "(I)I" } : Jvm.MethodName)) ∈ lw_all := lw_g (lw_at lw_m3 91 rfl) rfl
theorem q643 : (Jvm.Cond.static ({ cls := "java/lang/StringUTF16", name := "newBytesLength", desc := "(I)I" } : Jvm.MethodName)) ∈ lw_all := lw_g (lw_at lw_m3 92 rfl) rfl
theorem q644 : (Jvm.Cond.code ({ cls := "java/lang/StringUTF16", name := "newBytesLength", desc := "(I)I" } : Jvm.MethodName) prog_28_method_3_code (1 : Nat) (Option.some Jvm.ClassFile.FieldType.int)) ∈ lw_all := lw_g (lw_at lw_m3 93 rfl) rfl
theorem q645 : (Jvm.Cond.constant "java/lang/StringUTF16" (20 : Nat) (1073741823 : Int32)) ∈ lw_all := lw_g (lw_at lw_m3 94 rfl) rfl
theorem q693 : (Jvm.Cond.static ({ cls := "java/lang/StringUTF16", name := "putCharsAt", desc := "([BICCCC)I" } : Jvm.MethodName)) ∈ lw_all := lw_g (lw_at lw_m3 142 rfl) rfl
theorem q694 : (Jvm.Cond.code ({ cls := "java/lang/StringUTF16", name := "putCharsAt", desc := "([BICCCC)I" } : Jvm.MethodName) prog_28_method_81_code (7 : Nat) (Option.some Jvm.ClassFile.FieldType.int)) ∈ lw_all := lw_g (lw_at lw_m3 143 rfl) rfl
theorem q695 : (Jvm.Cond.methodLink "java/lang/StringUTF16" (96 : Nat) ({ cls := "java/lang/StringUTF16", name := "checkBoundsBeginEnd", desc := "(II[B)V" } : Jvm.MethodName)) ∈ lw_all := lw_g (lw_at lw_m3 144 rfl) rfl
theorem q696 : (Jvm.Cond.static ({ cls := "java/lang/StringUTF16", name := "checkBoundsBeginEnd", desc := "(II[B)V" } : Jvm.MethodName)) ∈ lw_all := lw_g (lw_at lw_m3 145 rfl) rfl
theorem q697 : (Jvm.Cond.code ({ cls := "java/lang/StringUTF16", name := "checkBoundsBeginEnd", desc := "(II[B)V" } : Jvm.MethodName) prog_28_method_93_code (3 : Nat) (Option.none : Option Jvm.ClassFile.FieldType)) ∈ lw_all := lw_g (lw_at lw_m3 146 rfl) rfl
theorem q698 : (Jvm.Cond.methodLink "java/lang/StringUTF16" (241 : Nat) ({ cls := "java/lang/String", name := "checkBoundsBeginEnd", desc := "(III)V" } : Jvm.MethodName)) ∈ lw_all := lw_g (lw_at lw_m3 147 rfl) rfl
theorem q701 : (Jvm.Cond.methodLink "java/lang/StringUTF16" (111 : Nat) ({ cls := "java/lang/StringUTF16", name := "putChar", desc := "([BII)V" } : Jvm.MethodName)) ∈ lw_all := lw_g (lw_at lw_m3 150 rfl) rfl
theorem q702 : (Jvm.Cond.static ({ cls := "java/lang/StringUTF16", name := "putChar", desc := "([BII)V" } : Jvm.MethodName)) ∈ lw_all := lw_g (lw_at lw_m3 151 rfl) rfl
theorem q703 : (Jvm.Cond.code ({ cls := "java/lang/StringUTF16", name := "putChar", desc := "([BII)V" } : Jvm.MethodName) prog_28_method_4_code (3 : Nat) (Option.none : Option Jvm.ClassFile.FieldType)) ∈ lw_all := lw_g (lw_at lw_m3 152 rfl) rfl
theorem q725 : (Jvm.Cond.static ({ cls := "java/lang/StringUTF16", name := "inflate", desc := "([BI[BII)V" } : Jvm.MethodName)) ∈ lw_all := lw_g (lw_at lw_m3 174 rfl) rfl
theorem q726 : (Jvm.Cond.code ({ cls := "java/lang/StringUTF16", name := "inflate", desc := "([BI[BII)V" } : Jvm.MethodName) prog_28_method_86_code (6 : Nat) (Option.none : Option Jvm.ClassFile.FieldType)) ∈ lw_all := lw_g (lw_at lw_m3 175 rfl) rfl
theorem q727 : (Jvm.Cond.methodLink "java/lang/StringUTF16" (173 : Nat) ({ cls := "java/lang/StringUTF16", name := "checkBoundsOffCount", desc := "(II[B)V" } : Jvm.MethodName)) ∈ lw_all := lw_g (lw_at lw_m3 176 rfl) rfl
theorem q728 : (Jvm.Cond.static ({ cls := "java/lang/StringUTF16", name := "checkBoundsOffCount", desc := "(II[B)V" } : Jvm.MethodName)) ∈ lw_all := lw_g (lw_at lw_m3 177 rfl) rfl
theorem q729 : (Jvm.Cond.code ({ cls := "java/lang/StringUTF16", name := "checkBoundsOffCount", desc := "(II[B)V" } : Jvm.MethodName) prog_28_method_94_code (3 : Nat) (Option.none : Option Jvm.ClassFile.FieldType)) ∈ lw_all := lw_g (lw_at lw_m3 178 rfl) rfl
theorem q730 : (Jvm.Cond.methodLink "java/lang/StringUTF16" (419 : Nat) ({ cls := "java/lang/String", name := "checkBoundsOffCount", desc := "(III)I" } : Jvm.MethodName)) ∈ lw_all := lw_g (lw_at lw_m3 179 rfl) rfl
theorem q760 : (Jvm.Cond.static ({ cls := "java/lang/StringUTF16", name := "getChars", desc := "(III[B)I" } : Jvm.MethodName)) ∈ lw_all := lw_g (lw_at lw_m3 209 rfl) rfl
theorem q761 : (Jvm.Cond.code ({ cls := "java/lang/StringUTF16", name := "getChars", desc := "(III[B)I" } : Jvm.MethodName) prog_28_method_77_code (5 : Nat) (Option.some Jvm.ClassFile.FieldType.int)) ∈ lw_all := lw_g (lw_at lw_m3 210 rfl) rfl
theorem q762 : (Jvm.Cond.methodLink "java/lang/StringUTF16" (393 : Nat) ({ cls := "java/lang/StringUTF16", name := "getChars", desc := "(II[B)I" } : Jvm.MethodName)) ∈ lw_all := lw_g (lw_at lw_m3 211 rfl) rfl
theorem q763 : (Jvm.Cond.static ({ cls := "java/lang/StringUTF16", name := "getChars", desc := "(II[B)I" } : Jvm.MethodName)) ∈ lw_all := lw_g (lw_at lw_m3 212 rfl) rfl
theorem q764 : (Jvm.Cond.code ({ cls := "java/lang/StringUTF16", name := "getChars", desc := "(II[B)I" } : Jvm.MethodName) prog_28_method_89_code (7 : Nat) (Option.some Jvm.ClassFile.FieldType.int)) ∈ lw_all := lw_g (lw_at lw_m3 213 rfl) rfl
theorem q765 : (Jvm.Cond.fieldLink "java/lang/StringUTF16" (403 : Nat) "java/lang/Integer" "DigitOnes" "[B") ∈ lw_all := lw_g (lw_at lw_m3 214 rfl) rfl
theorem q766 : (Jvm.Cond.fieldLink "java/lang/StringUTF16" (407 : Nat) "java/lang/Integer" "DigitTens" "[B") ∈ lw_all := lw_g (lw_at lw_m3 215 rfl) rfl
theorem q876 : (Jvm.Cond.static ({ cls := "java/lang/StringUTF16", name := "compress", desc := "([BII)[B" } : Jvm.MethodName)) ∈ lw_all := lw_g (lw_at lw_m4 85 rfl) rfl
theorem q877 : (Jvm.Cond.code ({ cls := "java/lang/StringUTF16", name := "compress", desc := "([BII)[B" } : Jvm.MethodName) prog_28_method_17_code (6 : Nat) (Option.some (Jvm.ClassFile.FieldType.array Jvm.ClassFile.FieldType.byte))) ∈ lw_all := lw_g (lw_at lw_m4 86 rfl) rfl
theorem q878 : (Jvm.Cond.methodLink "java/lang/StringUTF16" (123 : Nat) ({ cls := "java/lang/StringUTF16", name := "compress", desc := "([BI[BII)I" } : Jvm.MethodName)) ∈ lw_all := lw_g (lw_at lw_m4 87 rfl) rfl
theorem q879 : (Jvm.Cond.static ({ cls := "java/lang/StringUTF16", name := "compress", desc := "([BI[BII)I" } : Jvm.MethodName)) ∈ lw_all := lw_g (lw_at lw_m4 88 rfl) rfl
theorem q880 : (Jvm.Cond.code ({ cls := "java/lang/StringUTF16", name := "compress", desc := "([BI[BII)I" } : Jvm.MethodName) prog_28_method_22_code (7 : Nat) (Option.some Jvm.ClassFile.FieldType.int)) ∈ lw_all := lw_g (lw_at lw_m4 89 rfl) rfl
theorem q881 : (Jvm.Cond.methodLink "java/lang/StringUTF16" (126 : Nat) ({ cls := "java/util/Arrays", name := "copyOfRange", desc := "([BII)[B" } : Jvm.MethodName)) ∈ lw_all := lw_g (lw_at lw_m4 90 rfl) rfl
theorem q883 : (Jvm.Cond.static ({ cls := "java/lang/StringUTF16", name := "coderFromArrayLen", desc := "([BI)B" } : Jvm.MethodName)) ∈ lw_all := lw_g (lw_at lw_m4 92 rfl) rfl
theorem q884 : (Jvm.Cond.code ({ cls := "java/lang/StringUTF16", name := "coderFromArrayLen", desc := "([BI)B" } : Jvm.MethodName) prog_28_method_15_code (2 : Nat) (Option.some Jvm.ClassFile.FieldType.byte)) ∈ lw_all := lw_g (lw_at lw_m4 93 rfl) rfl

-- J23.java_util_TreeMap_Entry.lean.txt
/-! java/util/TreeMap$Entry -/
set_option maxRecDepth 100000
def RJ23 : String := "java/util/TreeMap$Entry"
def TJ23 : u_T := fun k => match k with
  | 0 => ("java/util/TreeMap$Entry", "key", "Ljava/lang/Object;", false)
  | 1 => ("java/util/TreeMap$Entry", "value", "Ljava/lang/Object;", false)
  | 2 => ("java/util/TreeMap$Entry", "left", "Ljava/util/TreeMap$Entry;", false)
  | 3 => ("java/util/TreeMap$Entry", "right", "Ljava/util/TreeMap$Entry;", false)
  | 4 => ("java/util/TreeMap$Entry", "parent", "Ljava/util/TreeMap$Entry;", false)
  | _ => ("java/util/TreeMap$Entry", "color", "Z", false)
def tyJ23 : Nat → FieldType := fun k => match k with
  | 0 => .object "java/lang/Object"
  | 1 => .object "java/lang/Object"
  | 2 => .object "java/util/TreeMap$Entry"
  | 3 => .object "java/util/TreeMap$Entry"
  | 4 => .object "java/util/TreeMap$Entry"
  | _ => .boolean
abbrev wsJ230 : List Cond := u_ws RJ23 TJ23 6
theorem nmJ23 : ∀ a, a < 6 → ∀ b, b < 6 → a ≠ b → (TJ23 a).2.1 ≠ (TJ23 b).2.1 := by decide +kernel
theorem tyJ23_ok : ∀ k, k < 6 → parseFieldDescriptor (TJ23 k).2.2.1 = some (tyJ23 k) := by decide +kernel
abbrev cJ23_init : ByteArray := prog_53_method_1_code
def yJ23_init : MethodName := ⟨RJ23, "<init>", "(Ljava/lang/Object;Ljava/lang/Object;Ljava/util/TreeMap$Entry;)V"⟩
def dkwJ23_init_1 : List UInt8 := [177]
abbrev dktJ23_init_1 : List UInt8 := dkwJ23_init_1 ++ []
def dkwJ23_init_0 : List UInt8 := [42, 183, 0, 3, 42, 4, 181, 0, 9, 42, 43, 181, 0, 15, 42, 44, 181, 0, 19, 42, 45, 181, 0, 22]
abbrev dktJ23_init_0 : List UInt8 := dkwJ23_init_0 ++ dktJ23_init_1
theorem dksJ23_init_0 : cJ23_init.data.toList.drop 0 = dktJ23_init_0 := by decide +kernel
theorem dksJ23_init_1 : cJ23_init.data.toList.drop 24 = dktJ23_init_1 := dk_seg dksJ23_init_0 24 rfl rfl
theorem dJ23_init_0 : decode cJ23_init 0 = .ok (.aload_n 0, 1) := dk_42 (dk_at dksJ23_init_0 0 rfl rfl)
theorem dJ23_init_1 : decode cJ23_init 1 = .ok (.invokespecial 3, 3) := dk_183 0 3 (dk_at dksJ23_init_0 1 rfl rfl)
theorem dJ23_init_4 : decode cJ23_init 4 = .ok (.aload_n 0, 1) := dk_42 (dk_at dksJ23_init_0 4 rfl rfl)
theorem dJ23_init_5 : decode cJ23_init 5 = .ok (.iconst 1, 1) := dk_4 (dk_at dksJ23_init_0 5 rfl rfl)
theorem dJ23_init_6 : decode cJ23_init 6 = .ok (.putfield 9, 3) := dk_181 0 9 (dk_at dksJ23_init_0 6 rfl rfl)
theorem dJ23_init_9 : decode cJ23_init 9 = .ok (.aload_n 0, 1) := dk_42 (dk_at dksJ23_init_0 9 rfl rfl)
theorem dJ23_init_10 : decode cJ23_init 10 = .ok (.aload_n 1, 1) := dk_43 (dk_at dksJ23_init_0 10 rfl rfl)
theorem dJ23_init_11 : decode cJ23_init 11 = .ok (.putfield 15, 3) := dk_181 0 15 (dk_at dksJ23_init_0 11 rfl rfl)
theorem dJ23_init_14 : decode cJ23_init 14 = .ok (.aload_n 0, 1) := dk_42 (dk_at dksJ23_init_0 14 rfl rfl)
theorem dJ23_init_15 : decode cJ23_init 15 = .ok (.aload_n 2, 1) := dk_44 (dk_at dksJ23_init_0 15 rfl rfl)
theorem dJ23_init_16 : decode cJ23_init 16 = .ok (.putfield 19, 3) := dk_181 0 19 (dk_at dksJ23_init_0 16 rfl rfl)
theorem dJ23_init_19 : decode cJ23_init 19 = .ok (.aload_n 0, 1) := dk_42 (dk_at dksJ23_init_0 19 rfl rfl)
theorem dJ23_init_20 : decode cJ23_init 20 = .ok (.aload_n 3, 1) := dk_45 (dk_at dksJ23_init_0 20 rfl rfl)
theorem dJ23_init_21 : decode cJ23_init 21 = .ok (.putfield 22, 3) := dk_181 0 22 (dk_at dksJ23_init_0 21 rfl rfl)
theorem dJ23_init_24 : decode cJ23_init 24 = .ok (.return_, 1) := dk_177 (dk_at dksJ23_init_1 0 rfl rfl)
theorem q102 : (Jvm.Cond.initialized "java/util/TreeMap$Entry") ∈ lw_all := lw_g (lw_at lw_m1 31 rfl) rfl
theorem q284 : (Jvm.Cond.selects "java/util/TreeMap$Entry" ({ cls := "java/lang/Object", name := "getClass", desc := "()Ljava/lang/Class;" } : Jvm.MethodName) ({ cls := "java/lang/Object", name := "getClass", desc := "()Ljava/lang/Class;" } : Jvm.MethodName)) ∈ lw_all := lw_g (lw_at lw_m1 213 rfl) rfl
theorem q1048 : (Jvm.Cond.instantiable "java/util/TreeMap$Entry" (6 : Nat)) ∈ lw_all := lw_g (lw_at lw_m5 17 rfl) rfl
theorem q1050 : (Jvm.Cond.instanceMethod ({ cls := "java/util/TreeMap$Entry", name := "<init>", desc := "(Ljava/lang/Object;Ljava/lang/Object;Ljava/util/TreeMap$Entry;)V" } : Jvm.MethodName)) ∈ lw_all := lw_g (lw_at lw_m5 19 rfl) rfl
theorem q1051 : (Jvm.Cond.code ({ cls := "java/util/TreeMap$Entry", name := "<init>", desc := "(Ljava/lang/Object;Ljava/lang/Object;Ljava/util/TreeMap$Entry;)V" } : Jvm.MethodName) prog_53_method_1_code (4 : Nat) (Option.none : Option Jvm.ClassFile.FieldType)) ∈ lw_all := lw_g (lw_at lw_m5 20 rfl) rfl
theorem q1052 : (Jvm.Cond.methodLink "java/util/TreeMap$Entry" (3 : Nat) ({ cls := "java/lang/Object", name := "<init>", desc := "()V" } : Jvm.MethodName)) ∈ lw_all := lw_g (lw_at lw_m5 21 rfl) rfl
theorem q1053 : (Jvm.Cond.fieldLink "java/util/TreeMap$Entry" (15 : Nat) "java/util/TreeMap$Entry" "key" "Ljava/lang/Object;") ∈ lw_all := lw_g (lw_at lw_m5 22 rfl) rfl
theorem q1055 : (Jvm.Cond.fieldLink "java/util/TreeMap$Entry" (19 : Nat) "java/util/TreeMap$Entry" "value" "Ljava/lang/Object;") ∈ lw_all := lw_g (lw_at lw_m5 24 rfl) rfl
theorem q1060 : (Jvm.Cond.fieldLink "java/util/TreeMap$Entry" (22 : Nat) "java/util/TreeMap$Entry" "parent" "Ljava/util/TreeMap$Entry;") ∈ lw_all := lw_g (lw_at lw_m5 29 rfl) rfl
theorem q1062 : (Jvm.Cond.fieldLink "java/util/TreeMap$Entry" (9 : Nat) "java/util/TreeMap$Entry" "color" "Z") ∈ lw_all := lw_g (lw_at lw_m5 31 rfl) rfl
theorem q1064 : (Jvm.Cond.lays "java/util/TreeMap$Entry" "java/util/TreeMap$Entry" "key" "Ljava/lang/Object;") ∈ lw_all := lw_g (lw_at lw_m5 33 rfl) rfl
theorem q1065 : (Jvm.Cond.soleField "java/util/TreeMap$Entry" "key") ∈ lw_all := lw_g (lw_at lw_m5 34 rfl) rfl
theorem q1066 : (Jvm.Cond.lays "java/util/TreeMap$Entry" "java/util/TreeMap$Entry" "value" "Ljava/lang/Object;") ∈ lw_all := lw_g (lw_at lw_m5 35 rfl) rfl
theorem q1067 : (Jvm.Cond.soleField "java/util/TreeMap$Entry" "value") ∈ lw_all := lw_g (lw_at lw_m5 36 rfl) rfl
theorem q1068 : (Jvm.Cond.lays "java/util/TreeMap$Entry" "java/util/TreeMap$Entry" "left" "Ljava/util/TreeMap$Entry;") ∈ lw_all := lw_g (lw_at lw_m5 37 rfl) rfl
theorem q1069 : (Jvm.Cond.soleField "java/util/TreeMap$Entry" "left") ∈ lw_all := lw_g (lw_at lw_m5 38 rfl) rfl
theorem q1070 : (Jvm.Cond.lays "java/util/TreeMap$Entry" "java/util/TreeMap$Entry" "right" "Ljava/util/TreeMap$Entry;") ∈ lw_all := lw_g (lw_at lw_m5 39 rfl) rfl
theorem q1071 : (Jvm.Cond.soleField "java/util/TreeMap$Entry" "right") ∈ lw_all := lw_g (lw_at lw_m5 40 rfl) rfl
theorem q1072 : (Jvm.Cond.lays "java/util/TreeMap$Entry" "java/util/TreeMap$Entry" "parent" "Ljava/util/TreeMap$Entry;") ∈ lw_all := lw_g (lw_at lw_m5 41 rfl) rfl
theorem q1073 : (Jvm.Cond.soleField "java/util/TreeMap$Entry" "parent") ∈ lw_all := lw_g (lw_at lw_m5 42 rfl) rfl
theorem q1074 : (Jvm.Cond.lays "java/util/TreeMap$Entry" "java/util/TreeMap$Entry" "color" "Z") ∈ lw_all := lw_g (lw_at lw_m5 43 rfl) rfl
theorem q1075 : (Jvm.Cond.soleField "java/util/TreeMap$Entry" "color") ∈ lw_all := lw_g (lw_at lw_m5 44 rfl) rfl
theorem q1076 : (Jvm.Cond.superclass "java/util/TreeMap$Entry" "java/lang/Object") ∈ lw_all := lw_g (lw_at lw_m5 45 rfl) rfl
theorem q2203 : (Jvm.Cond.castable "java/util/TreeMap$Entry" "java/lang/Object") ∈ lw_tbl := lw_at lw_m9 212 rfl
theorem in_J23 : ∀ w ∈ wsJ230, w ∈ lw_all := lw_in wsJ230 [1064, 1066, 1068, 1070, 1072, 1074] (by decide +kernel) (by decide +kernel)

-- J24.java_util_TreeMap_Values.lean.txt
/-! java/util/TreeMap$Values -/
set_option maxRecDepth 100000
def RJ24 : String := "java/util/TreeMap$Values"
def TJ24 : u_T := fun k => match k with
  | _ => ("java/util/TreeMap$Values", "this$0", "Ljava/util/TreeMap;", true)
def tyJ24 : Nat → FieldType := fun k => match k with
  | _ => .object "java/util/TreeMap"
abbrev wsJ240 : List Cond := u_ws RJ24 TJ24 1
theorem nmJ24 : ∀ a, a < 1 → ∀ b, b < 1 → a ≠ b → (TJ24 a).2.1 ≠ (TJ24 b).2.1 := by decide +kernel
theorem tyJ24_ok : ∀ k, k < 1 → parseFieldDescriptor (TJ24 k).2.2.1 = some (tyJ24 k) := by decide +kernel
abbrev cJ24_init : ByteArray := prog_56_method_1_code
def yJ24_init : MethodName := ⟨RJ24, "<init>", "(Ljava/util/TreeMap;)V"⟩
def dkwJ24_init_0 : List UInt8 := [42, 43, 181, 0, 1, 42, 183, 0, 7, 177]
abbrev dktJ24_init_0 : List UInt8 := dkwJ24_init_0 ++ []
theorem dksJ24_init_0 : cJ24_init.data.toList.drop 0 = dktJ24_init_0 := by decide +kernel
theorem dJ24_init_0 : decode cJ24_init 0 = .ok (.aload_n 0, 1) := dk_42 (dk_at dksJ24_init_0 0 rfl rfl)
theorem dJ24_init_1 : decode cJ24_init 1 = .ok (.aload_n 1, 1) := dk_43 (dk_at dksJ24_init_0 1 rfl rfl)
theorem dJ24_init_2 : decode cJ24_init 2 = .ok (.putfield 1, 3) := dk_181 0 1 (dk_at dksJ24_init_0 2 rfl rfl)
theorem dJ24_init_5 : decode cJ24_init 5 = .ok (.aload_n 0, 1) := dk_42 (dk_at dksJ24_init_0 5 rfl rfl)
theorem dJ24_init_6 : decode cJ24_init 6 = .ok (.invokespecial 7, 3) := dk_183 0 7 (dk_at dksJ24_init_0 6 rfl rfl)
theorem dJ24_init_9 : decode cJ24_init 9 = .ok (.return_, 1) := dk_177 (dk_at dksJ24_init_0 9 rfl rfl)
abbrev cJ24_iterator : ByteArray := prog_56_method_2_code
def yJ24_iterator : MethodName := ⟨RJ24, "iterator", "()Ljava/util/Iterator;"⟩
def dkwJ24_iterator_0 : List UInt8 := [187, 0, 13, 89, 42, 180, 0, 1, 42, 180, 0, 1, 182, 0, 15, 183, 0, 21, 176]
abbrev dktJ24_iterator_0 : List UInt8 := dkwJ24_iterator_0 ++ []
theorem dksJ24_iterator_0 : cJ24_iterator.data.toList.drop 0 = dktJ24_iterator_0 := by decide +kernel
theorem dJ24_iterator_0 : decode cJ24_iterator 0 = .ok (.new 13, 3) := dk_187 0 13 (dk_at dksJ24_iterator_0 0 rfl rfl)
theorem dJ24_iterator_3 : decode cJ24_iterator 3 = .ok (.dup, 1) := dk_89 (dk_at dksJ24_iterator_0 3 rfl rfl)
theorem dJ24_iterator_4 : decode cJ24_iterator 4 = .ok (.aload_n 0, 1) := dk_42 (dk_at dksJ24_iterator_0 4 rfl rfl)
theorem dJ24_iterator_5 : decode cJ24_iterator 5 = .ok (.getfield 1, 3) := dk_180 0 1 (dk_at dksJ24_iterator_0 5 rfl rfl)
theorem dJ24_iterator_8 : decode cJ24_iterator 8 = .ok (.aload_n 0, 1) := dk_42 (dk_at dksJ24_iterator_0 8 rfl rfl)
theorem dJ24_iterator_9 : decode cJ24_iterator 9 = .ok (.getfield 1, 3) := dk_180 0 1 (dk_at dksJ24_iterator_0 9 rfl rfl)
theorem dJ24_iterator_12 : decode cJ24_iterator 12 = .ok (.invokevirtual 15, 3) := dk_182 0 15 (dk_at dksJ24_iterator_0 12 rfl rfl)
theorem dJ24_iterator_15 : decode cJ24_iterator 15 = .ok (.invokespecial 21, 3) := dk_183 0 21 (dk_at dksJ24_iterator_0 15 rfl rfl)
theorem dJ24_iterator_18 : decode cJ24_iterator 18 = .ok (.areturn, 1) := dk_176 (dk_at dksJ24_iterator_0 18 rfl rfl)
theorem q103 : (Jvm.Cond.initialized "java/util/TreeMap$Values") ∈ lw_all := lw_g (lw_at lw_m1 32 rfl) rfl
theorem q286 : (Jvm.Cond.selects "java/util/TreeMap$Values" ({ cls := "java/lang/Object", name := "getClass", desc := "()Ljava/lang/Class;" } : Jvm.MethodName) ({ cls := "java/lang/Object", name := "getClass", desc := "()Ljava/lang/Class;" } : Jvm.MethodName)) ∈ lw_all := lw_g (lw_at lw_m1 215 rfl) rfl
theorem q1399 : (Jvm.Cond.instantiable "java/util/TreeMap$Values" (1 : Nat)) ∈ lw_all := lw_g (lw_at lw_m6 128 rfl) rfl
theorem q1401 : (Jvm.Cond.instanceMethod ({ cls := "java/util/TreeMap$Values", name := "<init>", desc := "(Ljava/util/TreeMap;)V" } : Jvm.MethodName)) ∈ lw_all := lw_g (lw_at lw_m6 130 rfl) rfl
theorem q1402 : (Jvm.Cond.code ({ cls := "java/util/TreeMap$Values", name := "<init>", desc := "(Ljava/util/TreeMap;)V" } : Jvm.MethodName) prog_56_method_1_code (2 : Nat) (Option.none : Option Jvm.ClassFile.FieldType)) ∈ lw_all := lw_g (lw_at lw_m6 131 rfl) rfl
theorem q1403 : (Jvm.Cond.methodLink "java/util/TreeMap$Values" (7 : Nat) ({ cls := "java/util/AbstractCollection", name := "<init>", desc := "()V" } : Jvm.MethodName)) ∈ lw_all := lw_g (lw_at lw_m6 132 rfl) rfl
theorem q1404 : (Jvm.Cond.fieldLink "java/util/TreeMap$Values" (1 : Nat) "java/util/TreeMap$Values" "this$0" "Ljava/util/TreeMap;") ∈ lw_all := lw_g (lw_at lw_m6 133 rfl) rfl
theorem q1405 : (Jvm.Cond.laysFinal "java/util/TreeMap$Values" "java/util/TreeMap$Values" "this$0" "Ljava/util/TreeMap;") ∈ lw_all := lw_g (lw_at lw_m6 134 rfl) rfl
theorem q1406 : (Jvm.Cond.soleField "java/util/TreeMap$Values" "this$0") ∈ lw_all := lw_g (lw_at lw_m6 135 rfl) rfl
theorem q1407 : (Jvm.Cond.superclass "java/util/TreeMap$Values" "java/util/AbstractCollection") ∈ lw_all := lw_g (lw_at lw_m6 136 rfl) rfl
theorem q1416 : (Jvm.Cond.castable "java/util/TreeMap$Values" "java/util/Collection") ∈ lw_tbl := lw_at lw_m6 145 rfl
theorem q1417 : (Jvm.Cond.selects "java/util/TreeMap$Values" ({ cls := "java/util/Collection", name := "iterator", desc := "()Ljava/util/Iterator;" } : Jvm.MethodName) ({ cls := "java/util/TreeMap$Values", name := "iterator", desc := "()Ljava/util/Iterator;" } : Jvm.MethodName)) ∈ lw_all := lw_g (lw_at lw_m6 146 rfl) rfl
theorem q1418 : (Jvm.Cond.unhidden "java/util/TreeMap$Values" "iterator" "()Ljava/util/Iterator;") ∈ lw_tbl := lw_at lw_m6 147 rfl
theorem q1419 : (Jvm.Cond.instanceMethod ({ cls := "java/util/TreeMap$Values", name := "iterator", desc := "()Ljava/util/Iterator;" } : Jvm.MethodName)) ∈ lw_all := lw_g (lw_at lw_m6 148 rfl) rfl
theorem q1420 : (Jvm.Cond.publicMethod ({ cls := "java/util/TreeMap$Values", name := "iterator", desc := "()Ljava/util/Iterator;" } : Jvm.MethodName)) ∈ lw_tbl := lw_at lw_m6 149 rfl
theorem q1421 : (Jvm.Cond.code ({ cls := "java/util/TreeMap$Values", name := "iterator", desc := "()Ljava/util/Iterator;" } : Jvm.MethodName) prog_56_method_2_code (1 : Nat) (Option.some (Jvm.ClassFile.FieldType.object "java/util/Iterator"))) ∈ lw_all := lw_g (lw_at lw_m6 150 rfl) rfl
theorem q1422 : (Jvm.Cond.classLink "java/util/TreeMap$Values" (13 : Nat) "java/util/TreeMap$ValueIterator") ∈ lw_all := lw_g (lw_at lw_m6 151 rfl) rfl
theorem q1424 : (Jvm.Cond.methodLink "java/util/TreeMap$Values" (15 : Nat) ({ cls := "java/util/TreeMap", name := "getFirstEntry", desc := "()Ljava/util/TreeMap$Entry;" } : Jvm.MethodName)) ∈ lw_all := lw_g (lw_at lw_m6 153 rfl) rfl
theorem q1428 : (Jvm.Cond.methodLink "java/util/TreeMap$Values" (21 : Nat) ({ cls := "java/util/TreeMap$ValueIterator", name := "<init>", desc := "(Ljava/util/TreeMap;Ljava/util/TreeMap$Entry;)V" } : Jvm.MethodName)) ∈ lw_all := lw_g (lw_at lw_m6 157 rfl) rfl
theorem q2204 : (Jvm.Cond.castable "java/util/TreeMap$Values" "java/lang/Object") ∈ lw_tbl := lw_at lw_m9 213 rfl
theorem in_J24 : ∀ w ∈ wsJ240, w ∈ lw_all := lw_in wsJ240 [1405] (by decide +kernel) (by decide +kernel)

-- J25.java_util_ArrayList_Itr.lean.txt
/-! java/util/ArrayList$Itr -/
set_option maxRecDepth 100000
def RJ25 : String := "java/util/ArrayList$Itr"
def TJ25 : u_T := fun k => match k with
  | 0 => ("java/util/ArrayList$Itr", "cursor", "I", false)
  | 1 => ("java/util/ArrayList$Itr", "lastRet", "I", false)
  | 2 => ("java/util/ArrayList$Itr", "expectedModCount", "I", false)
  | _ => ("java/util/ArrayList$Itr", "this$0", "Ljava/util/ArrayList;", true)
def tyJ25 : Nat → FieldType := fun k => match k with
  | 0 => .int
  | 1 => .int
  | 2 => .int
  | _ => .object "java/util/ArrayList"
abbrev wsJ250 : List Cond := u_ws RJ25 TJ25 4
theorem nmJ25 : ∀ a, a < 4 → ∀ b, b < 4 → a ≠ b → (TJ25 a).2.1 ≠ (TJ25 b).2.1 := by decide +kernel
theorem tyJ25_ok : ∀ k, k < 4 → parseFieldDescriptor (TJ25 k).2.2.1 = some (tyJ25 k) := by decide +kernel
abbrev cJ25_init : ByteArray := prog_37_method_1_code
def yJ25_init : MethodName := ⟨RJ25, "<init>", "(Ljava/util/ArrayList;)V"⟩
def dkwJ25_init_1 : List UInt8 := [181, 0, 22, 177]
abbrev dktJ25_init_1 : List UInt8 := dkwJ25_init_1 ++ []
def dkwJ25_init_0 : List UInt8 := [42, 43, 181, 0, 1, 42, 183, 0, 7, 42, 2, 181, 0, 13, 42, 42, 180, 0, 1, 180, 0, 17]
abbrev dktJ25_init_0 : List UInt8 := dkwJ25_init_0 ++ dktJ25_init_1
theorem dksJ25_init_0 : cJ25_init.data.toList.drop 0 = dktJ25_init_0 := by decide +kernel
theorem dksJ25_init_1 : cJ25_init.data.toList.drop 22 = dktJ25_init_1 := dk_seg dksJ25_init_0 22 rfl rfl
theorem dJ25_init_0 : decode cJ25_init 0 = .ok (.aload_n 0, 1) := dk_42 (dk_at dksJ25_init_0 0 rfl rfl)
theorem dJ25_init_1 : decode cJ25_init 1 = .ok (.aload_n 1, 1) := dk_43 (dk_at dksJ25_init_0 1 rfl rfl)
theorem dJ25_init_2 : decode cJ25_init 2 = .ok (.putfield 1, 3) := dk_181 0 1 (dk_at dksJ25_init_0 2 rfl rfl)
theorem dJ25_init_5 : decode cJ25_init 5 = .ok (.aload_n 0, 1) := dk_42 (dk_at dksJ25_init_0 5 rfl rfl)
theorem dJ25_init_6 : decode cJ25_init 6 = .ok (.invokespecial 7, 3) := dk_183 0 7 (dk_at dksJ25_init_0 6 rfl rfl)
theorem dJ25_init_9 : decode cJ25_init 9 = .ok (.aload_n 0, 1) := dk_42 (dk_at dksJ25_init_0 9 rfl rfl)
theorem dJ25_init_10 : decode cJ25_init 10 = .ok (.iconst (-1), 1) := dk_2 (dk_at dksJ25_init_0 10 rfl rfl)
theorem dJ25_init_11 : decode cJ25_init 11 = .ok (.putfield 13, 3) := dk_181 0 13 (dk_at dksJ25_init_0 11 rfl rfl)
theorem dJ25_init_14 : decode cJ25_init 14 = .ok (.aload_n 0, 1) := dk_42 (dk_at dksJ25_init_0 14 rfl rfl)
theorem dJ25_init_15 : decode cJ25_init 15 = .ok (.aload_n 0, 1) := dk_42 (dk_at dksJ25_init_0 15 rfl rfl)
theorem dJ25_init_16 : decode cJ25_init 16 = .ok (.getfield 1, 3) := dk_180 0 1 (dk_at dksJ25_init_0 16 rfl rfl)
theorem dJ25_init_19 : decode cJ25_init 19 = .ok (.getfield 17, 3) := dk_180 0 17 (dk_at dksJ25_init_0 19 rfl rfl)
theorem dJ25_init_22 : decode cJ25_init 22 = .ok (.putfield 22, 3) := dk_181 0 22 (dk_at dksJ25_init_1 0 rfl rfl)
theorem dJ25_init_25 : decode cJ25_init 25 = .ok (.return_, 1) := dk_177 (dk_at dksJ25_init_1 3 rfl rfl)
abbrev cJ25_hasNext : ByteArray := prog_37_method_2_code
def yJ25_hasNext : MethodName := ⟨RJ25, "hasNext", "()Z"⟩
def dkwJ25_hasNext_0 : List UInt8 := [42, 180, 0, 25, 42, 180, 0, 1, 180, 0, 28, 159, 0, 7, 4, 167, 0, 4, 3, 172]
abbrev dktJ25_hasNext_0 : List UInt8 := dkwJ25_hasNext_0 ++ []
theorem dksJ25_hasNext_0 : cJ25_hasNext.data.toList.drop 0 = dktJ25_hasNext_0 := by decide +kernel
theorem dJ25_hasNext_0 : decode cJ25_hasNext 0 = .ok (.aload_n 0, 1) := dk_42 (dk_at dksJ25_hasNext_0 0 rfl rfl)
theorem dJ25_hasNext_1 : decode cJ25_hasNext 1 = .ok (.getfield 25, 3) := dk_180 0 25 (dk_at dksJ25_hasNext_0 1 rfl rfl)
theorem dJ25_hasNext_4 : decode cJ25_hasNext 4 = .ok (.aload_n 0, 1) := dk_42 (dk_at dksJ25_hasNext_0 4 rfl rfl)
theorem dJ25_hasNext_5 : decode cJ25_hasNext 5 = .ok (.getfield 1, 3) := dk_180 0 1 (dk_at dksJ25_hasNext_0 5 rfl rfl)
theorem dJ25_hasNext_8 : decode cJ25_hasNext 8 = .ok (.getfield 28, 3) := dk_180 0 28 (dk_at dksJ25_hasNext_0 8 rfl rfl)
theorem dJ25_hasNext_11 : decode cJ25_hasNext 11 = .ok (.if_icmp .eq 7, 3) := dk_159 0 7 (dk_at dksJ25_hasNext_0 11 rfl rfl)
theorem dJ25_hasNext_14 : decode cJ25_hasNext 14 = .ok (.iconst 1, 1) := dk_4 (dk_at dksJ25_hasNext_0 14 rfl rfl)
theorem dJ25_hasNext_15 : decode cJ25_hasNext 15 = .ok (.goto 4, 3) := dk_167 0 4 (dk_at dksJ25_hasNext_0 15 rfl rfl)
theorem dJ25_hasNext_18 : decode cJ25_hasNext 18 = .ok (.iconst 0, 1) := dk_3 (dk_at dksJ25_hasNext_0 18 rfl rfl)
theorem dJ25_hasNext_19 : decode cJ25_hasNext 19 = .ok (.ireturn, 1) := dk_172 (dk_at dksJ25_hasNext_0 19 rfl rfl)
abbrev cJ25_next : ByteArray := prog_37_method_3_code
def yJ25_next : MethodName := ⟨RJ25, "next", "()Ljava/lang/Object;"⟩
def dkwJ25_next_2 : List UInt8 := [183, 0, 43, 191, 42, 27, 4, 96, 181, 0, 25, 44, 42, 27, 90, 181, 0, 13, 50, 176]
abbrev dktJ25_next_2 : List UInt8 := dkwJ25_next_2 ++ []
def dkwJ25_next_1 : List UInt8 := [183, 0, 36, 191, 42, 180, 0, 1, 180, 0, 37, 77, 27, 44, 190, 161, 0, 11, 187, 0, 41, 89]
abbrev dktJ25_next_1 : List UInt8 := dkwJ25_next_1 ++ dktJ25_next_2
def dkwJ25_next_0 : List UInt8 := [42, 182, 0, 31, 42, 180, 0, 25, 60, 27, 42, 180, 0, 1, 180, 0, 28, 161, 0, 11, 187, 0, 34, 89]
abbrev dktJ25_next_0 : List UInt8 := dkwJ25_next_0 ++ dktJ25_next_1
theorem dksJ25_next_0 : cJ25_next.data.toList.drop 0 = dktJ25_next_0 := by decide +kernel
theorem dksJ25_next_1 : cJ25_next.data.toList.drop 24 = dktJ25_next_1 := dk_seg dksJ25_next_0 24 rfl rfl
theorem dksJ25_next_2 : cJ25_next.data.toList.drop 46 = dktJ25_next_2 := dk_seg dksJ25_next_1 22 rfl rfl
theorem dJ25_next_0 : decode cJ25_next 0 = .ok (.aload_n 0, 1) := dk_42 (dk_at dksJ25_next_0 0 rfl rfl)
theorem dJ25_next_1 : decode cJ25_next 1 = .ok (.invokevirtual 31, 3) := dk_182 0 31 (dk_at dksJ25_next_0 1 rfl rfl)
theorem dJ25_next_4 : decode cJ25_next 4 = .ok (.aload_n 0, 1) := dk_42 (dk_at dksJ25_next_0 4 rfl rfl)
theorem dJ25_next_5 : decode cJ25_next 5 = .ok (.getfield 25, 3) := dk_180 0 25 (dk_at dksJ25_next_0 5 rfl rfl)
theorem dJ25_next_8 : decode cJ25_next 8 = .ok (.istore_n 1, 1) := dk_60 (dk_at dksJ25_next_0 8 rfl rfl)
theorem dJ25_next_9 : decode cJ25_next 9 = .ok (.iload_n 1, 1) := dk_27 (dk_at dksJ25_next_0 9 rfl rfl)
theorem dJ25_next_10 : decode cJ25_next 10 = .ok (.aload_n 0, 1) := dk_42 (dk_at dksJ25_next_0 10 rfl rfl)
theorem dJ25_next_11 : decode cJ25_next 11 = .ok (.getfield 1, 3) := dk_180 0 1 (dk_at dksJ25_next_0 11 rfl rfl)
theorem dJ25_next_14 : decode cJ25_next 14 = .ok (.getfield 28, 3) := dk_180 0 28 (dk_at dksJ25_next_0 14 rfl rfl)
theorem dJ25_next_17 : decode cJ25_next 17 = .ok (.if_icmp .lt 11, 3) := dk_161 0 11 (dk_at dksJ25_next_0 17 rfl rfl)
theorem dJ25_next_20 : decode cJ25_next 20 = .ok (.new 34, 3) := dk_187 0 34 (dk_at dksJ25_next_0 20 rfl rfl)
theorem dJ25_next_23 : decode cJ25_next 23 = .ok (.dup, 1) := dk_89 (dk_at dksJ25_next_0 23 rfl rfl)
theorem dJ25_next_24 : decode cJ25_next 24 = .ok (.invokespecial 36, 3) := dk_183 0 36 (dk_at dksJ25_next_1 0 rfl rfl)
theorem dJ25_next_27 : decode cJ25_next 27 = .ok (.athrow, 1) := dk_191 (dk_at dksJ25_next_1 3 rfl rfl)
theorem dJ25_next_28 : decode cJ25_next 28 = .ok (.aload_n 0, 1) := dk_42 (dk_at dksJ25_next_1 4 rfl rfl)
theorem dJ25_next_29 : decode cJ25_next 29 = .ok (.getfield 1, 3) := dk_180 0 1 (dk_at dksJ25_next_1 5 rfl rfl)
theorem dJ25_next_32 : decode cJ25_next 32 = .ok (.getfield 37, 3) := dk_180 0 37 (dk_at dksJ25_next_1 8 rfl rfl)
theorem dJ25_next_35 : decode cJ25_next 35 = .ok (.astore_n 2, 1) := dk_77 (dk_at dksJ25_next_1 11 rfl rfl)
theorem dJ25_next_36 : decode cJ25_next 36 = .ok (.iload_n 1, 1) := dk_27 (dk_at dksJ25_next_1 12 rfl rfl)
theorem dJ25_next_37 : decode cJ25_next 37 = .ok (.aload_n 2, 1) := dk_44 (dk_at dksJ25_next_1 13 rfl rfl)
theorem dJ25_next_38 : decode cJ25_next 38 = .ok (.arraylength, 1) := dk_190 (dk_at dksJ25_next_1 14 rfl rfl)
theorem dJ25_next_39 : decode cJ25_next 39 = .ok (.if_icmp .lt 11, 3) := dk_161 0 11 (dk_at dksJ25_next_1 15 rfl rfl)
theorem dJ25_next_42 : decode cJ25_next 42 = .ok (.new 41, 3) := dk_187 0 41 (dk_at dksJ25_next_1 18 rfl rfl)
theorem dJ25_next_45 : decode cJ25_next 45 = .ok (.dup, 1) := dk_89 (dk_at dksJ25_next_1 21 rfl rfl)
theorem dJ25_next_46 : decode cJ25_next 46 = .ok (.invokespecial 43, 3) := dk_183 0 43 (dk_at dksJ25_next_2 0 rfl rfl)
theorem dJ25_next_49 : decode cJ25_next 49 = .ok (.athrow, 1) := dk_191 (dk_at dksJ25_next_2 3 rfl rfl)
theorem dJ25_next_50 : decode cJ25_next 50 = .ok (.aload_n 0, 1) := dk_42 (dk_at dksJ25_next_2 4 rfl rfl)
theorem dJ25_next_51 : decode cJ25_next 51 = .ok (.iload_n 1, 1) := dk_27 (dk_at dksJ25_next_2 5 rfl rfl)
theorem dJ25_next_52 : decode cJ25_next 52 = .ok (.iconst 1, 1) := dk_4 (dk_at dksJ25_next_2 6 rfl rfl)
theorem dJ25_next_53 : decode cJ25_next 53 = .ok (.iadd, 1) := dk_96 (dk_at dksJ25_next_2 7 rfl rfl)
theorem dJ25_next_54 : decode cJ25_next 54 = .ok (.putfield 25, 3) := dk_181 0 25 (dk_at dksJ25_next_2 8 rfl rfl)
theorem dJ25_next_57 : decode cJ25_next 57 = .ok (.aload_n 2, 1) := dk_44 (dk_at dksJ25_next_2 11 rfl rfl)
theorem dJ25_next_58 : decode cJ25_next 58 = .ok (.aload_n 0, 1) := dk_42 (dk_at dksJ25_next_2 12 rfl rfl)
theorem dJ25_next_59 : decode cJ25_next 59 = .ok (.iload_n 1, 1) := dk_27 (dk_at dksJ25_next_2 13 rfl rfl)
theorem dJ25_next_60 : decode cJ25_next 60 = .ok (.dup_x1, 1) := dk_90 (dk_at dksJ25_next_2 14 rfl rfl)
theorem dJ25_next_61 : decode cJ25_next 61 = .ok (.putfield 13, 3) := dk_181 0 13 (dk_at dksJ25_next_2 15 rfl rfl)
theorem dJ25_next_64 : decode cJ25_next 64 = .ok (.aaload, 1) := dk_50 (dk_at dksJ25_next_2 18 rfl rfl)
theorem dJ25_next_65 : decode cJ25_next 65 = .ok (.areturn, 1) := dk_176 (dk_at dksJ25_next_2 19 rfl rfl)
abbrev cJ25_checkForComodification : ByteArray := prog_37_method_6_code
def yJ25_checkForComodification : MethodName := ⟨RJ25, "checkForComodification", "()V"⟩
def dkwJ25_checkForComodification_0 : List UInt8 := [42, 180, 0, 1, 180, 0, 17, 42, 180, 0, 22, 159, 0, 11, 187, 0, 41, 89, 183, 0, 43, 191, 177]
abbrev dktJ25_checkForComodification_0 : List UInt8 := dkwJ25_checkForComodification_0 ++ []
theorem dksJ25_checkForComodification_0 : cJ25_checkForComodification.data.toList.drop 0 = dktJ25_checkForComodification_0 := by decide +kernel
theorem dJ25_checkForComodification_0 : decode cJ25_checkForComodification 0 = .ok (.aload_n 0, 1) := dk_42 (dk_at dksJ25_checkForComodification_0 0 rfl rfl)
theorem dJ25_checkForComodification_1 : decode cJ25_checkForComodification 1 = .ok (.getfield 1, 3) := dk_180 0 1 (dk_at dksJ25_checkForComodification_0 1 rfl rfl)
theorem dJ25_checkForComodification_4 : decode cJ25_checkForComodification 4 = .ok (.getfield 17, 3) := dk_180 0 17 (dk_at dksJ25_checkForComodification_0 4 rfl rfl)
theorem dJ25_checkForComodification_7 : decode cJ25_checkForComodification 7 = .ok (.aload_n 0, 1) := dk_42 (dk_at dksJ25_checkForComodification_0 7 rfl rfl)
theorem dJ25_checkForComodification_8 : decode cJ25_checkForComodification 8 = .ok (.getfield 22, 3) := dk_180 0 22 (dk_at dksJ25_checkForComodification_0 8 rfl rfl)
theorem dJ25_checkForComodification_11 : decode cJ25_checkForComodification 11 = .ok (.if_icmp .eq 11, 3) := dk_159 0 11 (dk_at dksJ25_checkForComodification_0 11 rfl rfl)
theorem dJ25_checkForComodification_14 : decode cJ25_checkForComodification 14 = .ok (.new 41, 3) := dk_187 0 41 (dk_at dksJ25_checkForComodification_0 14 rfl rfl)
theorem dJ25_checkForComodification_17 : decode cJ25_checkForComodification 17 = .ok (.dup, 1) := dk_89 (dk_at dksJ25_checkForComodification_0 17 rfl rfl)
theorem dJ25_checkForComodification_18 : decode cJ25_checkForComodification 18 = .ok (.invokespecial 43, 3) := dk_183 0 43 (dk_at dksJ25_checkForComodification_0 18 rfl rfl)
theorem dJ25_checkForComodification_21 : decode cJ25_checkForComodification 21 = .ok (.athrow, 1) := dk_191 (dk_at dksJ25_checkForComodification_0 21 rfl rfl)
theorem dJ25_checkForComodification_22 : decode cJ25_checkForComodification 22 = .ok (.return_, 1) := dk_177 (dk_at dksJ25_checkForComodification_0 22 rfl rfl)
theorem q104 : (Jvm.Cond.initialized "java/util/ArrayList$Itr") ∈ lw_all := lw_g (lw_at lw_m1 33 rfl) rfl
theorem q135 : (Jvm.Cond.fieldLink "java/util/ArrayList$Itr" (37 : Nat) "java/util/ArrayList" "elementData" "[Ljava/lang/Object;") ∈ lw_all := lw_g (lw_at lw_m1 64 rfl) rfl
theorem q136 : (Jvm.Cond.fieldLinkNest "java/util/ArrayList$Itr" (28 : Nat) "java/util/ArrayList" "size" "I" "java/util/ArrayList") ∈ lw_tbl := lw_at lw_m1 65 rfl
theorem q139 : (Jvm.Cond.fieldLink "java/util/ArrayList$Itr" (17 : Nat) "java/util/ArrayList" "modCount" "I") ∈ lw_all := lw_g (lw_at lw_m1 68 rfl) rfl
theorem q281 : (Jvm.Cond.selects "java/util/ArrayList$Itr" ({ cls := "java/lang/Object", name := "getClass", desc := "()Ljava/lang/Class;" } : Jvm.MethodName) ({ cls := "java/lang/Object", name := "getClass", desc := "()Ljava/lang/Class;" } : Jvm.MethodName)) ∈ lw_all := lw_g (lw_at lw_m1 210 rfl) rfl
theorem q1209 : (Jvm.Cond.instantiable "java/util/ArrayList$Itr" (4 : Nat)) ∈ lw_all := lw_g (lw_at lw_m5 178 rfl) rfl
theorem q1211 : (Jvm.Cond.instanceMethod ({ cls := "java/util/ArrayList$Itr", name := "<init>", desc := "(Ljava/util/ArrayList;)V" } : Jvm.MethodName)) ∈ lw_all := lw_g (lw_at lw_m5 180 rfl) rfl
theorem q1212 : (Jvm.Cond.code ({ cls := "java/util/ArrayList$Itr", name := "<init>", desc := "(Ljava/util/ArrayList;)V" } : Jvm.MethodName) prog_37_method_1_code (2 : Nat) (Option.none : Option Jvm.ClassFile.FieldType)) ∈ lw_all := lw_g (lw_at lw_m5 181 rfl) rfl
theorem q1213 : (Jvm.Cond.methodLink "java/util/ArrayList$Itr" (7 : Nat) ({ cls := "java/lang/Object", name := "<init>", desc := "()V" } : Jvm.MethodName)) ∈ lw_all := lw_g (lw_at lw_m5 182 rfl) rfl
theorem q1214 : (Jvm.Cond.fieldLink "java/util/ArrayList$Itr" (25 : Nat) "java/util/ArrayList$Itr" "cursor" "I") ∈ lw_all := lw_g (lw_at lw_m5 183 rfl) rfl
theorem q1215 : (Jvm.Cond.fieldLink "java/util/ArrayList$Itr" (13 : Nat) "java/util/ArrayList$Itr" "lastRet" "I") ∈ lw_all := lw_g (lw_at lw_m5 184 rfl) rfl
theorem q1216 : (Jvm.Cond.fieldLink "java/util/ArrayList$Itr" (22 : Nat) "java/util/ArrayList$Itr" "expectedModCount" "I") ∈ lw_all := lw_g (lw_at lw_m5 185 rfl) rfl
theorem q1217 : (Jvm.Cond.fieldLink "java/util/ArrayList$Itr" (1 : Nat) "java/util/ArrayList$Itr" "this$0" "Ljava/util/ArrayList;") ∈ lw_all := lw_g (lw_at lw_m5 186 rfl) rfl
theorem q1218 : (Jvm.Cond.lays "java/util/ArrayList$Itr" "java/util/ArrayList$Itr" "cursor" "I") ∈ lw_all := lw_g (lw_at lw_m5 187 rfl) rfl
theorem q1219 : (Jvm.Cond.soleField "java/util/ArrayList$Itr" "cursor") ∈ lw_all := lw_g (lw_at lw_m5 188 rfl) rfl
theorem q1220 : (Jvm.Cond.lays "java/util/ArrayList$Itr" "java/util/ArrayList$Itr" "lastRet" "I") ∈ lw_all := lw_g (lw_at lw_m5 189 rfl) rfl
theorem q1221 : (Jvm.Cond.soleField "java/util/ArrayList$Itr" "lastRet") ∈ lw_all := lw_g (lw_at lw_m5 190 rfl) rfl
theorem q1222 : (Jvm.Cond.lays "java/util/ArrayList$Itr" "java/util/ArrayList$Itr" "expectedModCount" "I") ∈ lw_all := lw_g (lw_at lw_m5 191 rfl) rfl
theorem q1223 : (Jvm.Cond.soleField "java/util/ArrayList$Itr" "expectedModCount") ∈ lw_all := lw_g (lw_at lw_m5 192 rfl) rfl
theorem q1224 : (Jvm.Cond.laysFinal "java/util/ArrayList$Itr" "java/util/ArrayList$Itr" "this$0" "Ljava/util/ArrayList;") ∈ lw_all := lw_g (lw_at lw_m5 193 rfl) rfl
theorem q1225 : (Jvm.Cond.soleField "java/util/ArrayList$Itr" "this$0") ∈ lw_all := lw_g (lw_at lw_m5 194 rfl) rfl
theorem q1226 : (Jvm.Cond.superclass "java/util/ArrayList$Itr" "java/lang/Object") ∈ lw_all := lw_g (lw_at lw_m5 195 rfl) rfl
theorem q1231 : (Jvm.Cond.castable "java/util/ArrayList$Itr" "java/util/Iterator") ∈ lw_tbl := lw_at lw_m5 200 rfl
theorem q1232 : (Jvm.Cond.selects "java/util/ArrayList$Itr" ({ cls := "java/util/Iterator", name := "hasNext", desc := "()Z" } : Jvm.MethodName) ({ cls := "java/util/ArrayList$Itr", name := "hasNext", desc := "()Z" } : Jvm.MethodName)) ∈ lw_all := lw_g (lw_at lw_m5 201 rfl) rfl
theorem q1233 : (Jvm.Cond.unhidden "java/util/ArrayList$Itr" "hasNext" "()Z") ∈ lw_tbl := lw_at lw_m5 202 rfl
theorem q1234 : (Jvm.Cond.instanceMethod ({ cls := "java/util/ArrayList$Itr", name := "hasNext", desc := "()Z" } : Jvm.MethodName)) ∈ lw_all := lw_g (lw_at lw_m5 203 rfl) rfl
theorem q1235 : (Jvm.Cond.publicMethod ({ cls := "java/util/ArrayList$Itr", name := "hasNext", desc := "()Z" } : Jvm.MethodName)) ∈ lw_tbl := lw_at lw_m5 204 rfl
theorem q1236 : (Jvm.Cond.code ({ cls := "java/util/ArrayList$Itr", name := "hasNext", desc := "()Z" } : Jvm.MethodName) prog_37_method_2_code (1 : Nat) (Option.some Jvm.ClassFile.FieldType.boolean)) ∈ lw_all := lw_g (lw_at lw_m5 205 rfl) rfl
theorem q1247 : (Jvm.Cond.selects "java/util/ArrayList$Itr" ({ cls := "java/util/Iterator", name := "next", desc := "()Ljava/lang/Object;" } : Jvm.MethodName) ({ cls := "java/util/ArrayList$Itr", name := "next", desc := "()Ljava/lang/Object;" } : Jvm.MethodName)) ∈ lw_all := lw_g (lw_at lw_m5 216 rfl) rfl
theorem q1248 : (Jvm.Cond.unhidden "java/util/ArrayList$Itr" "next" "()Ljava/lang/Object;") ∈ lw_tbl := lw_at lw_m5 217 rfl
theorem q1249 : (Jvm.Cond.instanceMethod ({ cls := "java/util/ArrayList$Itr", name := "next", desc := "()Ljava/lang/Object;" } : Jvm.MethodName)) ∈ lw_all := lw_g (lw_at lw_m5 218 rfl) rfl
theorem q1250 : (Jvm.Cond.publicMethod ({ cls := "java/util/ArrayList$Itr", name := "next", desc := "()Ljava/lang/Object;" } : Jvm.MethodName)) ∈ lw_tbl := lw_at lw_m5 219 rfl
theorem q1251 : (Jvm.Cond.code ({ cls := "java/util/ArrayList$Itr", name := "next", desc := "()Ljava/lang/Object;" } : Jvm.MethodName) prog_37_method_3_code (3 : Nat) (Option.some (Jvm.ClassFile.FieldType.object "java/lang/Object"))) ∈ lw_all := lw_g (lw_at lw_m5 220 rfl) rfl
theorem q1252 : (Jvm.Cond.methodLink "java/util/ArrayList$Itr" (31 : Nat) ({ cls := "java/util/ArrayList$Itr", name := "checkForComodification", desc := "()V" } : Jvm.MethodName)) ∈ lw_all := lw_g (lw_at lw_m5 221 rfl) rfl
theorem q1253 : (Jvm.Cond.instanceMethod ({ cls := "java/util/ArrayList$Itr", name := "checkForComodification", desc := "()V" } : Jvm.MethodName)) ∈ lw_all := lw_g (lw_at lw_m5 222 rfl) rfl
theorem q1254 : (Jvm.Cond.selects "java/util/ArrayList$Itr" ({ cls := "java/util/ArrayList$Itr", name := "checkForComodification", desc := "()V" } : Jvm.MethodName) ({ cls := "java/util/ArrayList$Itr", name := "checkForComodification", desc := "()V" } : Jvm.MethodName)) ∈ lw_all := lw_g (lw_at lw_m5 223 rfl) rfl
theorem q1255 : (Jvm.Cond.code ({ cls := "java/util/ArrayList$Itr", name := "checkForComodification", desc := "()V" } : Jvm.MethodName) prog_37_method_6_code (1 : Nat) (Option.none : Option Jvm.ClassFile.FieldType)) ∈ lw_all := lw_g (lw_at lw_m5 224 rfl) rfl
theorem q2205 : (Jvm.Cond.castable "java/util/ArrayList$Itr" "java/lang/Object") ∈ lw_tbl := lw_at lw_m9 214 rfl
theorem in_J25 : ∀ w ∈ wsJ250, w ∈ lw_all := lw_in wsJ250 [1218, 1220, 1222, 1224] (by decide +kernel) (by decide +kernel)

