-- X2.PebblegateModel.lean.txt
/-! PebblegateModel -/
set_option maxRecDepth 100000
def RX2 : String := "PebblegateModel"
def TX2 : u_T := fun k => match k with
  | 0 => ("PebblegateModel", "places", "I", false)
  | 1 => ("PebblegateModel", "steps", "I", false)
  | 2 => ("PebblegateModel", "takes", "[I", true)
  | 3 => ("PebblegateModel", "lays", "[I", true)
  | 4 => ("PebblegateModel", "marks", "[I", true)
  | 5 => ("PebblegateModel", "kept", "[I", true)
  | 6 => ("PebblegateModel", "work", "[I", true)
  | 7 => ("PebblegateModel", "done", "I", false)
  | 8 => ("PebblegateModel", "refused", "I", false)
  | 9 => ("PebblegateModel", "knocks", "I", false)
  | 10 => ("PebblegateModel", "thrown", "I", false)
  | _ => ("PebblegateModel", "found", "I", false)
def tyX2 : Nat → FieldType := fun k => match k with
  | 0 => .int
  | 1 => .int
  | 2 => .array .int
  | 3 => .array .int
  | 4 => .array .int
  | 5 => .array .int
  | 6 => .array .int
  | 7 => .int
  | 8 => .int
  | 9 => .int
  | 10 => .int
  | _ => .int
abbrev wsX20 : List Cond := u_ws RX2 TX2 12
theorem nmX2 : ∀ a, a < 12 → ∀ b, b < 12 → a ≠ b → (TX2 a).2.1 ≠ (TX2 b).2.1 := by decide +kernel
theorem tyX2_ok : ∀ k, k < 12 → parseFieldDescriptor (TX2 k).2.2.1 = some (tyX2 k) := by decide +kernel
abbrev cX2_init : ByteArray := prog_7_method_1_code
def yX2_init : MethodName := ⟨RX2, "<init>", "()V"⟩
def dkwX2_init_2 : List UInt8 := [181, 0, 26, 177]
abbrev dktX2_init_2 : List UInt8 := dkwX2_init_2 ++ []
def dkwX2_init_1 : List UInt8 := [181, 0, 17, 42, 16, 8, 188, 10, 181, 0, 20, 42, 16, 32, 188, 10, 181, 0, 23, 42, 16, 8, 188, 10]
abbrev dktX2_init_1 : List UInt8 := dkwX2_init_1 ++ dktX2_init_2
def dkwX2_init_0 : List UInt8 := [42, 183, 0, 1, 42, 7, 181, 0, 7, 42, 16, 64, 188, 10, 181, 0, 13, 42, 16, 64, 188, 10]
abbrev dktX2_init_0 : List UInt8 := dkwX2_init_0 ++ dktX2_init_1
theorem dksX2_init_0 : cX2_init.data.toList.drop 0 = dktX2_init_0 := by decide +kernel
theorem dksX2_init_1 : cX2_init.data.toList.drop 22 = dktX2_init_1 := dk_seg dksX2_init_0 22 rfl rfl
theorem dksX2_init_2 : cX2_init.data.toList.drop 46 = dktX2_init_2 := dk_seg dksX2_init_1 24 rfl rfl
theorem dX2_init_0 : decode cX2_init 0 = .ok (.aload_n 0, 1) := dk_42 (dk_at dksX2_init_0 0 rfl rfl)
theorem dX2_init_1 : decode cX2_init 1 = .ok (.invokespecial 1, 3) := dk_183 0 1 (dk_at dksX2_init_0 1 rfl rfl)
theorem dX2_init_4 : decode cX2_init 4 = .ok (.aload_n 0, 1) := dk_42 (dk_at dksX2_init_0 4 rfl rfl)
theorem dX2_init_5 : decode cX2_init 5 = .ok (.iconst 4, 1) := dk_7 (dk_at dksX2_init_0 5 rfl rfl)
theorem dX2_init_6 : decode cX2_init 6 = .ok (.putfield 7, 3) := dk_181 0 7 (dk_at dksX2_init_0 6 rfl rfl)
theorem dX2_init_9 : decode cX2_init 9 = .ok (.aload_n 0, 1) := dk_42 (dk_at dksX2_init_0 9 rfl rfl)
theorem dX2_init_10 : decode cX2_init 10 = .ok (.bipush 64, 2) := dk_16 64 (dk_at dksX2_init_0 10 rfl rfl)
theorem dX2_init_12 : decode cX2_init 12 = .ok (.newarray .int, 2) := dk_188_10 (dk_at dksX2_init_0 12 rfl rfl)
theorem dX2_init_14 : decode cX2_init 14 = .ok (.putfield 13, 3) := dk_181 0 13 (dk_at dksX2_init_0 14 rfl rfl)
theorem dX2_init_17 : decode cX2_init 17 = .ok (.aload_n 0, 1) := dk_42 (dk_at dksX2_init_0 17 rfl rfl)
theorem dX2_init_18 : decode cX2_init 18 = .ok (.bipush 64, 2) := dk_16 64 (dk_at dksX2_init_0 18 rfl rfl)
theorem dX2_init_20 : decode cX2_init 20 = .ok (.newarray .int, 2) := dk_188_10 (dk_at dksX2_init_0 20 rfl rfl)
theorem dX2_init_22 : decode cX2_init 22 = .ok (.putfield 17, 3) := dk_181 0 17 (dk_at dksX2_init_1 0 rfl rfl)
theorem dX2_init_25 : decode cX2_init 25 = .ok (.aload_n 0, 1) := dk_42 (dk_at dksX2_init_1 3 rfl rfl)
theorem dX2_init_26 : decode cX2_init 26 = .ok (.bipush 8, 2) := dk_16 8 (dk_at dksX2_init_1 4 rfl rfl)
theorem dX2_init_28 : decode cX2_init 28 = .ok (.newarray .int, 2) := dk_188_10 (dk_at dksX2_init_1 6 rfl rfl)
theorem dX2_init_30 : decode cX2_init 30 = .ok (.putfield 20, 3) := dk_181 0 20 (dk_at dksX2_init_1 8 rfl rfl)
theorem dX2_init_33 : decode cX2_init 33 = .ok (.aload_n 0, 1) := dk_42 (dk_at dksX2_init_1 11 rfl rfl)
theorem dX2_init_34 : decode cX2_init 34 = .ok (.bipush 32, 2) := dk_16 32 (dk_at dksX2_init_1 12 rfl rfl)
theorem dX2_init_36 : decode cX2_init 36 = .ok (.newarray .int, 2) := dk_188_10 (dk_at dksX2_init_1 14 rfl rfl)
theorem dX2_init_38 : decode cX2_init 38 = .ok (.putfield 23, 3) := dk_181 0 23 (dk_at dksX2_init_1 16 rfl rfl)
theorem dX2_init_41 : decode cX2_init 41 = .ok (.aload_n 0, 1) := dk_42 (dk_at dksX2_init_1 19 rfl rfl)
theorem dX2_init_42 : decode cX2_init 42 = .ok (.bipush 8, 2) := dk_16 8 (dk_at dksX2_init_1 20 rfl rfl)
theorem dX2_init_44 : decode cX2_init 44 = .ok (.newarray .int, 2) := dk_188_10 (dk_at dksX2_init_1 22 rfl rfl)
theorem dX2_init_46 : decode cX2_init 46 = .ok (.putfield 26, 3) := dk_181 0 26 (dk_at dksX2_init_2 0 rfl rfl)
theorem dX2_init_49 : decode cX2_init 49 = .ok (.return_, 1) := dk_177 (dk_at dksX2_init_2 3 rfl rfl)
abbrev cX2_thrown : ByteArray := prog_7_method_2_code
def yX2_thrown : MethodName := ⟨RX2, "thrown", "()I"⟩
theorem dX2_thrown_0 : decode cX2_thrown 0 = .ok (.aload_n 0, 1) := by decide +kernel
theorem dX2_thrown_1 : decode cX2_thrown 1 = .ok (.getfield 29, 3) := by decide +kernel
theorem dX2_thrown_4 : decode cX2_thrown 4 = .ok (.ireturn, 1) := by decide +kernel
abbrev cX2_begin : ByteArray := prog_7_method_29_code
def yX2_begin : MethodName := ⟨RX2, "begin", "(I)I"⟩
def dkwX2_begin_3 : List UInt8 := [167, 255, 240, 42, 28, 182, 0, 121, 172]
abbrev dktX2_begin_3 : List UInt8 := dkwX2_begin_3 ++ []
def dkwX2_begin_2 : List UInt8 := [132, 3, 1, 167, 255, 240, 3, 62, 29, 16, 32, 162, 0, 16, 42, 180, 0, 23, 29, 3, 79, 132, 3, 1]
abbrev dktX2_begin_2 : List UInt8 := dkwX2_begin_2 ++ dktX2_begin_3
def dkwX2_begin_1 : List UInt8 := [181, 0, 7, 42, 3, 181, 0, 32, 3, 62, 29, 16, 8, 162, 0, 16, 42, 180, 0, 20, 29, 3, 79]
abbrev dktX2_begin_1 : List UInt8 := dkwX2_begin_1 ++ dktX2_begin_2
def dkwX2_begin_0 : List UInt8 := [42, 27, 4, 16, 8, 184, 0, 35, 4, 182, 0, 117, 153, 0, 5, 3, 172, 42, 180, 0, 7, 61, 42, 27]
abbrev dktX2_begin_0 : List UInt8 := dkwX2_begin_0 ++ dktX2_begin_1
theorem dksX2_begin_0 : cX2_begin.data.toList.drop 0 = dktX2_begin_0 := by decide +kernel
theorem dksX2_begin_1 : cX2_begin.data.toList.drop 24 = dktX2_begin_1 := dk_seg dksX2_begin_0 24 rfl rfl
theorem dksX2_begin_2 : cX2_begin.data.toList.drop 47 = dktX2_begin_2 := dk_seg dksX2_begin_1 23 rfl rfl
theorem dksX2_begin_3 : cX2_begin.data.toList.drop 71 = dktX2_begin_3 := dk_seg dksX2_begin_2 24 rfl rfl
theorem dX2_begin_0 : decode cX2_begin 0 = .ok (.aload_n 0, 1) := dk_42 (dk_at dksX2_begin_0 0 rfl rfl)
theorem dX2_begin_1 : decode cX2_begin 1 = .ok (.iload_n 1, 1) := dk_27 (dk_at dksX2_begin_0 1 rfl rfl)
theorem dX2_begin_2 : decode cX2_begin 2 = .ok (.iconst 1, 1) := dk_4 (dk_at dksX2_begin_0 2 rfl rfl)
theorem dX2_begin_3 : decode cX2_begin 3 = .ok (.bipush 8, 2) := dk_16 8 (dk_at dksX2_begin_0 3 rfl rfl)
theorem dX2_begin_5 : decode cX2_begin 5 = .ok (.invokestatic 35, 3) := dk_184 0 35 (dk_at dksX2_begin_0 5 rfl rfl)
theorem dX2_begin_8 : decode cX2_begin 8 = .ok (.iconst 1, 1) := dk_4 (dk_at dksX2_begin_0 8 rfl rfl)
theorem dX2_begin_9 : decode cX2_begin 9 = .ok (.invokevirtual 117, 3) := dk_182 0 117 (dk_at dksX2_begin_0 9 rfl rfl)
theorem dX2_begin_12 : decode cX2_begin 12 = .ok (.ifCond .eq 5, 3) := dk_153 0 5 (dk_at dksX2_begin_0 12 rfl rfl)
theorem dX2_begin_15 : decode cX2_begin 15 = .ok (.iconst 0, 1) := dk_3 (dk_at dksX2_begin_0 15 rfl rfl)
theorem dX2_begin_16 : decode cX2_begin 16 = .ok (.ireturn, 1) := dk_172 (dk_at dksX2_begin_0 16 rfl rfl)
theorem dX2_begin_17 : decode cX2_begin 17 = .ok (.aload_n 0, 1) := dk_42 (dk_at dksX2_begin_0 17 rfl rfl)
theorem dX2_begin_18 : decode cX2_begin 18 = .ok (.getfield 7, 3) := dk_180 0 7 (dk_at dksX2_begin_0 18 rfl rfl)
theorem dX2_begin_21 : decode cX2_begin 21 = .ok (.istore_n 2, 1) := dk_61 (dk_at dksX2_begin_0 21 rfl rfl)
theorem dX2_begin_22 : decode cX2_begin 22 = .ok (.aload_n 0, 1) := dk_42 (dk_at dksX2_begin_0 22 rfl rfl)
theorem dX2_begin_23 : decode cX2_begin 23 = .ok (.iload_n 1, 1) := dk_27 (dk_at dksX2_begin_0 23 rfl rfl)
theorem dX2_begin_24 : decode cX2_begin 24 = .ok (.putfield 7, 3) := dk_181 0 7 (dk_at dksX2_begin_1 0 rfl rfl)
theorem dX2_begin_27 : decode cX2_begin 27 = .ok (.aload_n 0, 1) := dk_42 (dk_at dksX2_begin_1 3 rfl rfl)
theorem dX2_begin_28 : decode cX2_begin 28 = .ok (.iconst 0, 1) := dk_3 (dk_at dksX2_begin_1 4 rfl rfl)
theorem dX2_begin_29 : decode cX2_begin 29 = .ok (.putfield 32, 3) := dk_181 0 32 (dk_at dksX2_begin_1 5 rfl rfl)
theorem dX2_begin_32 : decode cX2_begin 32 = .ok (.iconst 0, 1) := dk_3 (dk_at dksX2_begin_1 8 rfl rfl)
theorem dX2_begin_33 : decode cX2_begin 33 = .ok (.istore_n 3, 1) := dk_62 (dk_at dksX2_begin_1 9 rfl rfl)
theorem dX2_begin_34 : decode cX2_begin 34 = .ok (.iload_n 3, 1) := dk_29 (dk_at dksX2_begin_1 10 rfl rfl)
theorem dX2_begin_35 : decode cX2_begin 35 = .ok (.bipush 8, 2) := dk_16 8 (dk_at dksX2_begin_1 11 rfl rfl)
theorem dX2_begin_37 : decode cX2_begin 37 = .ok (.if_icmp .ge 16, 3) := dk_162 0 16 (dk_at dksX2_begin_1 13 rfl rfl)
theorem dX2_begin_40 : decode cX2_begin 40 = .ok (.aload_n 0, 1) := dk_42 (dk_at dksX2_begin_1 16 rfl rfl)
theorem dX2_begin_41 : decode cX2_begin 41 = .ok (.getfield 20, 3) := dk_180 0 20 (dk_at dksX2_begin_1 17 rfl rfl)
theorem dX2_begin_44 : decode cX2_begin 44 = .ok (.iload_n 3, 1) := dk_29 (dk_at dksX2_begin_1 20 rfl rfl)
theorem dX2_begin_45 : decode cX2_begin 45 = .ok (.iconst 0, 1) := dk_3 (dk_at dksX2_begin_1 21 rfl rfl)
theorem dX2_begin_46 : decode cX2_begin 46 = .ok (.iastore, 1) := dk_79 (dk_at dksX2_begin_1 22 rfl rfl)
theorem dX2_begin_47 : decode cX2_begin 47 = .ok (.iinc 3 1, 3) := dk_132 3 1 (dk_at dksX2_begin_2 0 rfl rfl)
theorem dX2_begin_50 : decode cX2_begin 50 = .ok (.goto (-16), 3) := dk_167 255 240 (dk_at dksX2_begin_2 3 rfl rfl)
theorem dX2_begin_53 : decode cX2_begin 53 = .ok (.iconst 0, 1) := dk_3 (dk_at dksX2_begin_2 6 rfl rfl)
theorem dX2_begin_54 : decode cX2_begin 54 = .ok (.istore_n 3, 1) := dk_62 (dk_at dksX2_begin_2 7 rfl rfl)
theorem dX2_begin_55 : decode cX2_begin 55 = .ok (.iload_n 3, 1) := dk_29 (dk_at dksX2_begin_2 8 rfl rfl)
theorem dX2_begin_56 : decode cX2_begin 56 = .ok (.bipush 32, 2) := dk_16 32 (dk_at dksX2_begin_2 9 rfl rfl)
theorem dX2_begin_58 : decode cX2_begin 58 = .ok (.if_icmp .ge 16, 3) := dk_162 0 16 (dk_at dksX2_begin_2 11 rfl rfl)
theorem dX2_begin_61 : decode cX2_begin 61 = .ok (.aload_n 0, 1) := dk_42 (dk_at dksX2_begin_2 14 rfl rfl)
theorem dX2_begin_62 : decode cX2_begin 62 = .ok (.getfield 23, 3) := dk_180 0 23 (dk_at dksX2_begin_2 15 rfl rfl)
theorem dX2_begin_65 : decode cX2_begin 65 = .ok (.iload_n 3, 1) := dk_29 (dk_at dksX2_begin_2 18 rfl rfl)
theorem dX2_begin_66 : decode cX2_begin 66 = .ok (.iconst 0, 1) := dk_3 (dk_at dksX2_begin_2 19 rfl rfl)
theorem dX2_begin_67 : decode cX2_begin 67 = .ok (.iastore, 1) := dk_79 (dk_at dksX2_begin_2 20 rfl rfl)
theorem dX2_begin_68 : decode cX2_begin 68 = .ok (.iinc 3 1, 3) := dk_132 3 1 (dk_at dksX2_begin_2 21 rfl rfl)
theorem dX2_begin_71 : decode cX2_begin 71 = .ok (.goto (-16), 3) := dk_167 255 240 (dk_at dksX2_begin_3 0 rfl rfl)
theorem dX2_begin_74 : decode cX2_begin 74 = .ok (.aload_n 0, 1) := dk_42 (dk_at dksX2_begin_3 3 rfl rfl)
theorem dX2_begin_75 : decode cX2_begin 75 = .ok (.iload_n 2, 1) := dk_28 (dk_at dksX2_begin_3 4 rfl rfl)
theorem dX2_begin_76 : decode cX2_begin 76 = .ok (.invokevirtual 121, 3) := dk_182 0 121 (dk_at dksX2_begin_3 5 rfl rfl)
theorem dX2_begin_79 : decode cX2_begin 79 = .ok (.ireturn, 1) := dk_172 (dk_at dksX2_begin_3 8 rfl rfl)
abbrev cX2_isIn : ByteArray := prog_7_method_3_code
def yX2_isIn : MethodName := ⟨RX2, "isIn", "(III)Z"⟩
def dkwX2_isIn_0 : List UInt8 := [26, 27, 161, 0, 12, 26, 28, 163, 0, 7, 4, 167, 0, 4, 3, 172]
abbrev dktX2_isIn_0 : List UInt8 := dkwX2_isIn_0 ++ []
theorem dksX2_isIn_0 : cX2_isIn.data.toList.drop 0 = dktX2_isIn_0 := by decide +kernel
theorem dX2_isIn_0 : decode cX2_isIn 0 = .ok (.iload_n 0, 1) := dk_26 (dk_at dksX2_isIn_0 0 rfl rfl)
theorem dX2_isIn_1 : decode cX2_isIn 1 = .ok (.iload_n 1, 1) := dk_27 (dk_at dksX2_isIn_0 1 rfl rfl)
theorem dX2_isIn_2 : decode cX2_isIn 2 = .ok (.if_icmp .lt 12, 3) := dk_161 0 12 (dk_at dksX2_isIn_0 2 rfl rfl)
theorem dX2_isIn_5 : decode cX2_isIn 5 = .ok (.iload_n 0, 1) := dk_26 (dk_at dksX2_isIn_0 5 rfl rfl)
theorem dX2_isIn_6 : decode cX2_isIn 6 = .ok (.iload_n 2, 1) := dk_28 (dk_at dksX2_isIn_0 6 rfl rfl)
theorem dX2_isIn_7 : decode cX2_isIn 7 = .ok (.if_icmp .gt 7, 3) := dk_163 0 7 (dk_at dksX2_isIn_0 7 rfl rfl)
theorem dX2_isIn_10 : decode cX2_isIn 10 = .ok (.iconst 1, 1) := dk_4 (dk_at dksX2_isIn_0 10 rfl rfl)
theorem dX2_isIn_11 : decode cX2_isIn 11 = .ok (.goto 4, 3) := dk_167 0 4 (dk_at dksX2_isIn_0 11 rfl rfl)
theorem dX2_isIn_14 : decode cX2_isIn 14 = .ok (.iconst 0, 1) := dk_3 (dk_at dksX2_isIn_0 14 rfl rfl)
theorem dX2_isIn_15 : decode cX2_isIn 15 = .ok (.ireturn, 1) := dk_172 (dk_at dksX2_isIn_0 15 rfl rfl)
abbrev cX2_isThrown : ByteArray := prog_7_method_4_code
def yX2_isThrown : MethodName := ⟨RX2, "isThrown", "(ZZ)Z"⟩
def dkwX2_isThrown_1 : List UInt8 := [180, 0, 29, 158, 0, 7, 4, 167, 0, 4, 3, 172]
abbrev dktX2_isThrown_1 : List UInt8 := dkwX2_isThrown_1 ++ []
def dkwX2_isThrown_0 : List UInt8 := [42, 27, 154, 0, 7, 4, 167, 0, 12, 28, 154, 0, 7, 5, 167, 0, 4, 3, 181, 0, 29, 42]
abbrev dktX2_isThrown_0 : List UInt8 := dkwX2_isThrown_0 ++ dktX2_isThrown_1
theorem dksX2_isThrown_0 : cX2_isThrown.data.toList.drop 0 = dktX2_isThrown_0 := by decide +kernel
theorem dksX2_isThrown_1 : cX2_isThrown.data.toList.drop 22 = dktX2_isThrown_1 := dk_seg dksX2_isThrown_0 22 rfl rfl
theorem dX2_isThrown_0 : decode cX2_isThrown 0 = .ok (.aload_n 0, 1) := dk_42 (dk_at dksX2_isThrown_0 0 rfl rfl)
theorem dX2_isThrown_1 : decode cX2_isThrown 1 = .ok (.iload_n 1, 1) := dk_27 (dk_at dksX2_isThrown_0 1 rfl rfl)
theorem dX2_isThrown_2 : decode cX2_isThrown 2 = .ok (.ifCond .ne 7, 3) := dk_154 0 7 (dk_at dksX2_isThrown_0 2 rfl rfl)
theorem dX2_isThrown_5 : decode cX2_isThrown 5 = .ok (.iconst 1, 1) := dk_4 (dk_at dksX2_isThrown_0 5 rfl rfl)
theorem dX2_isThrown_6 : decode cX2_isThrown 6 = .ok (.goto 12, 3) := dk_167 0 12 (dk_at dksX2_isThrown_0 6 rfl rfl)
theorem dX2_isThrown_9 : decode cX2_isThrown 9 = .ok (.iload_n 2, 1) := dk_28 (dk_at dksX2_isThrown_0 9 rfl rfl)
theorem dX2_isThrown_10 : decode cX2_isThrown 10 = .ok (.ifCond .ne 7, 3) := dk_154 0 7 (dk_at dksX2_isThrown_0 10 rfl rfl)
theorem dX2_isThrown_13 : decode cX2_isThrown 13 = .ok (.iconst 2, 1) := dk_5 (dk_at dksX2_isThrown_0 13 rfl rfl)
theorem dX2_isThrown_14 : decode cX2_isThrown 14 = .ok (.goto 4, 3) := dk_167 0 4 (dk_at dksX2_isThrown_0 14 rfl rfl)
theorem dX2_isThrown_17 : decode cX2_isThrown 17 = .ok (.iconst 0, 1) := dk_3 (dk_at dksX2_isThrown_0 17 rfl rfl)
theorem dX2_isThrown_18 : decode cX2_isThrown 18 = .ok (.putfield 29, 3) := dk_181 0 29 (dk_at dksX2_isThrown_0 18 rfl rfl)
theorem dX2_isThrown_21 : decode cX2_isThrown 21 = .ok (.aload_n 0, 1) := dk_42 (dk_at dksX2_isThrown_0 21 rfl rfl)
theorem dX2_isThrown_22 : decode cX2_isThrown 22 = .ok (.getfield 29, 3) := dk_180 0 29 (dk_at dksX2_isThrown_1 0 rfl rfl)
theorem dX2_isThrown_25 : decode cX2_isThrown 25 = .ok (.ifCond .le 7, 3) := dk_158 0 7 (dk_at dksX2_isThrown_1 3 rfl rfl)
theorem dX2_isThrown_28 : decode cX2_isThrown 28 = .ok (.iconst 1, 1) := dk_4 (dk_at dksX2_isThrown_1 6 rfl rfl)
theorem dX2_isThrown_29 : decode cX2_isThrown 29 = .ok (.goto 4, 3) := dk_167 0 4 (dk_at dksX2_isThrown_1 7 rfl rfl)
theorem dX2_isThrown_32 : decode cX2_isThrown 32 = .ok (.iconst 0, 1) := dk_3 (dk_at dksX2_isThrown_1 10 rfl rfl)
theorem dX2_isThrown_33 : decode cX2_isThrown 33 = .ok (.ireturn, 1) := dk_172 (dk_at dksX2_isThrown_1 11 rfl rfl)
abbrev cX2_did : ByteArray := prog_7_method_8_code
def yX2_did : MethodName := ⟨RX2, "did", "(I)I"⟩
def dkwX2_did_0 : List UInt8 := [42, 89, 180, 0, 39, 4, 96, 181, 0, 39, 27, 172]
abbrev dktX2_did_0 : List UInt8 := dkwX2_did_0 ++ []
theorem dksX2_did_0 : cX2_did.data.toList.drop 0 = dktX2_did_0 := by decide +kernel
theorem dX2_did_0 : decode cX2_did 0 = .ok (.aload_n 0, 1) := dk_42 (dk_at dksX2_did_0 0 rfl rfl)
theorem dX2_did_1 : decode cX2_did 1 = .ok (.dup, 1) := dk_89 (dk_at dksX2_did_0 1 rfl rfl)
theorem dX2_did_2 : decode cX2_did 2 = .ok (.getfield 39, 3) := dk_180 0 39 (dk_at dksX2_did_0 2 rfl rfl)
theorem dX2_did_5 : decode cX2_did 5 = .ok (.iconst 1, 1) := dk_4 (dk_at dksX2_did_0 5 rfl rfl)
theorem dX2_did_6 : decode cX2_did 6 = .ok (.iadd, 1) := dk_96 (dk_at dksX2_did_0 6 rfl rfl)
theorem dX2_did_7 : decode cX2_did 7 = .ok (.putfield 39, 3) := dk_181 0 39 (dk_at dksX2_did_0 7 rfl rfl)
theorem dX2_did_10 : decode cX2_did 10 = .ok (.iload_n 1, 1) := dk_27 (dk_at dksX2_did_0 10 rfl rfl)
theorem dX2_did_11 : decode cX2_did 11 = .ok (.ireturn, 1) := dk_172 (dk_at dksX2_did_0 11 rfl rfl)
abbrev cX2_step : ByteArray := prog_7_method_30_code
def yX2_step : MethodName := ⟨RX2, "step", "()I"⟩
def dkwX2_step_3 : List UInt8 := [181, 0, 32, 42, 42, 180, 0, 32, 4, 100, 182, 0, 121, 172]
abbrev dktX2_step_3 : List UInt8 := dkwX2_step_3 ++ []
def dkwX2_step_2 : List UInt8 := [42, 180, 0, 32, 104, 27, 96, 3, 79, 132, 1, 1, 167, 255, 217, 42, 89, 180, 0, 32, 4, 96]
abbrev dktX2_step_2 : List UInt8 := dkwX2_step_2 ++ dktX2_step_3
def dkwX2_step_1 : List UInt8 := [162, 0, 39, 42, 180, 0, 13, 16, 8, 42, 180, 0, 32, 104, 27, 96, 3, 79, 42, 180, 0, 17, 16, 8]
abbrev dktX2_step_1 : List UInt8 := dkwX2_step_1 ++ dktX2_step_2
def dkwX2_step_0 : List UInt8 := [42, 3, 181, 0, 29, 42, 180, 0, 32, 16, 8, 160, 0, 8, 42, 182, 0, 125, 172, 3, 60, 27, 16, 8]
abbrev dktX2_step_0 : List UInt8 := dkwX2_step_0 ++ dktX2_step_1
theorem dksX2_step_0 : cX2_step.data.toList.drop 0 = dktX2_step_0 := by decide +kernel
theorem dksX2_step_1 : cX2_step.data.toList.drop 24 = dktX2_step_1 := dk_seg dksX2_step_0 24 rfl rfl
theorem dksX2_step_2 : cX2_step.data.toList.drop 48 = dktX2_step_2 := dk_seg dksX2_step_1 24 rfl rfl
theorem dksX2_step_3 : cX2_step.data.toList.drop 70 = dktX2_step_3 := dk_seg dksX2_step_2 22 rfl rfl
theorem dX2_step_0 : decode cX2_step 0 = .ok (.aload_n 0, 1) := dk_42 (dk_at dksX2_step_0 0 rfl rfl)
theorem dX2_step_1 : decode cX2_step 1 = .ok (.iconst 0, 1) := dk_3 (dk_at dksX2_step_0 1 rfl rfl)
theorem dX2_step_2 : decode cX2_step 2 = .ok (.putfield 29, 3) := dk_181 0 29 (dk_at dksX2_step_0 2 rfl rfl)
theorem dX2_step_5 : decode cX2_step 5 = .ok (.aload_n 0, 1) := dk_42 (dk_at dksX2_step_0 5 rfl rfl)
theorem dX2_step_6 : decode cX2_step 6 = .ok (.getfield 32, 3) := dk_180 0 32 (dk_at dksX2_step_0 6 rfl rfl)
theorem dX2_step_9 : decode cX2_step 9 = .ok (.bipush 8, 2) := dk_16 8 (dk_at dksX2_step_0 9 rfl rfl)
theorem dX2_step_11 : decode cX2_step 11 = .ok (.if_icmp .ne 8, 3) := dk_160 0 8 (dk_at dksX2_step_0 11 rfl rfl)
theorem dX2_step_14 : decode cX2_step 14 = .ok (.aload_n 0, 1) := dk_42 (dk_at dksX2_step_0 14 rfl rfl)
theorem dX2_step_15 : decode cX2_step 15 = .ok (.invokevirtual 125, 3) := dk_182 0 125 (dk_at dksX2_step_0 15 rfl rfl)
theorem dX2_step_18 : decode cX2_step 18 = .ok (.ireturn, 1) := dk_172 (dk_at dksX2_step_0 18 rfl rfl)
theorem dX2_step_19 : decode cX2_step 19 = .ok (.iconst 0, 1) := dk_3 (dk_at dksX2_step_0 19 rfl rfl)
theorem dX2_step_20 : decode cX2_step 20 = .ok (.istore_n 1, 1) := dk_60 (dk_at dksX2_step_0 20 rfl rfl)
theorem dX2_step_21 : decode cX2_step 21 = .ok (.iload_n 1, 1) := dk_27 (dk_at dksX2_step_0 21 rfl rfl)
theorem dX2_step_22 : decode cX2_step 22 = .ok (.bipush 8, 2) := dk_16 8 (dk_at dksX2_step_0 22 rfl rfl)
theorem dX2_step_24 : decode cX2_step 24 = .ok (.if_icmp .ge 39, 3) := dk_162 0 39 (dk_at dksX2_step_1 0 rfl rfl)
theorem dX2_step_27 : decode cX2_step 27 = .ok (.aload_n 0, 1) := dk_42 (dk_at dksX2_step_1 3 rfl rfl)
theorem dX2_step_28 : decode cX2_step 28 = .ok (.getfield 13, 3) := dk_180 0 13 (dk_at dksX2_step_1 4 rfl rfl)
theorem dX2_step_31 : decode cX2_step 31 = .ok (.bipush 8, 2) := dk_16 8 (dk_at dksX2_step_1 7 rfl rfl)
theorem dX2_step_33 : decode cX2_step 33 = .ok (.aload_n 0, 1) := dk_42 (dk_at dksX2_step_1 9 rfl rfl)
theorem dX2_step_34 : decode cX2_step 34 = .ok (.getfield 32, 3) := dk_180 0 32 (dk_at dksX2_step_1 10 rfl rfl)
theorem dX2_step_37 : decode cX2_step 37 = .ok (.imul, 1) := dk_104 (dk_at dksX2_step_1 13 rfl rfl)
theorem dX2_step_38 : decode cX2_step 38 = .ok (.iload_n 1, 1) := dk_27 (dk_at dksX2_step_1 14 rfl rfl)
theorem dX2_step_39 : decode cX2_step 39 = .ok (.iadd, 1) := dk_96 (dk_at dksX2_step_1 15 rfl rfl)
theorem dX2_step_40 : decode cX2_step 40 = .ok (.iconst 0, 1) := dk_3 (dk_at dksX2_step_1 16 rfl rfl)
theorem dX2_step_41 : decode cX2_step 41 = .ok (.iastore, 1) := dk_79 (dk_at dksX2_step_1 17 rfl rfl)
theorem dX2_step_42 : decode cX2_step 42 = .ok (.aload_n 0, 1) := dk_42 (dk_at dksX2_step_1 18 rfl rfl)
theorem dX2_step_43 : decode cX2_step 43 = .ok (.getfield 17, 3) := dk_180 0 17 (dk_at dksX2_step_1 19 rfl rfl)
theorem dX2_step_46 : decode cX2_step 46 = .ok (.bipush 8, 2) := dk_16 8 (dk_at dksX2_step_1 22 rfl rfl)
theorem dX2_step_48 : decode cX2_step 48 = .ok (.aload_n 0, 1) := dk_42 (dk_at dksX2_step_2 0 rfl rfl)
theorem dX2_step_49 : decode cX2_step 49 = .ok (.getfield 32, 3) := dk_180 0 32 (dk_at dksX2_step_2 1 rfl rfl)
theorem dX2_step_52 : decode cX2_step 52 = .ok (.imul, 1) := dk_104 (dk_at dksX2_step_2 4 rfl rfl)
theorem dX2_step_53 : decode cX2_step 53 = .ok (.iload_n 1, 1) := dk_27 (dk_at dksX2_step_2 5 rfl rfl)
theorem dX2_step_54 : decode cX2_step 54 = .ok (.iadd, 1) := dk_96 (dk_at dksX2_step_2 6 rfl rfl)
theorem dX2_step_55 : decode cX2_step 55 = .ok (.iconst 0, 1) := dk_3 (dk_at dksX2_step_2 7 rfl rfl)
theorem dX2_step_56 : decode cX2_step 56 = .ok (.iastore, 1) := dk_79 (dk_at dksX2_step_2 8 rfl rfl)
theorem dX2_step_57 : decode cX2_step 57 = .ok (.iinc 1 1, 3) := dk_132 1 1 (dk_at dksX2_step_2 9 rfl rfl)
theorem dX2_step_60 : decode cX2_step 60 = .ok (.goto (-39), 3) := dk_167 255 217 (dk_at dksX2_step_2 12 rfl rfl)
theorem dX2_step_63 : decode cX2_step 63 = .ok (.aload_n 0, 1) := dk_42 (dk_at dksX2_step_2 15 rfl rfl)
theorem dX2_step_64 : decode cX2_step 64 = .ok (.dup, 1) := dk_89 (dk_at dksX2_step_2 16 rfl rfl)
theorem dX2_step_65 : decode cX2_step 65 = .ok (.getfield 32, 3) := dk_180 0 32 (dk_at dksX2_step_2 17 rfl rfl)
theorem dX2_step_68 : decode cX2_step 68 = .ok (.iconst 1, 1) := dk_4 (dk_at dksX2_step_2 20 rfl rfl)
theorem dX2_step_69 : decode cX2_step 69 = .ok (.iadd, 1) := dk_96 (dk_at dksX2_step_2 21 rfl rfl)
theorem dX2_step_70 : decode cX2_step 70 = .ok (.putfield 32, 3) := dk_181 0 32 (dk_at dksX2_step_3 0 rfl rfl)
theorem dX2_step_73 : decode cX2_step 73 = .ok (.aload_n 0, 1) := dk_42 (dk_at dksX2_step_3 3 rfl rfl)
theorem dX2_step_74 : decode cX2_step 74 = .ok (.aload_n 0, 1) := dk_42 (dk_at dksX2_step_3 4 rfl rfl)
theorem dX2_step_75 : decode cX2_step 75 = .ok (.getfield 32, 3) := dk_180 0 32 (dk_at dksX2_step_3 5 rfl rfl)
theorem dX2_step_78 : decode cX2_step 78 = .ok (.iconst 1, 1) := dk_4 (dk_at dksX2_step_3 8 rfl rfl)
theorem dX2_step_79 : decode cX2_step 79 = .ok (.isub, 1) := dk_100 (dk_at dksX2_step_3 9 rfl rfl)
theorem dX2_step_80 : decode cX2_step 80 = .ok (.invokevirtual 121, 3) := dk_182 0 121 (dk_at dksX2_step_3 10 rfl rfl)
theorem dX2_step_83 : decode cX2_step 83 = .ok (.ireturn, 1) := dk_172 (dk_at dksX2_step_3 13 rfl rfl)
abbrev cX2_refuse : ByteArray := prog_7_method_9_code
def yX2_refuse : MethodName := ⟨RX2, "refuse", "()I"⟩
def dkwX2_refuse_0 : List UInt8 := [42, 89, 180, 0, 42, 4, 96, 181, 0, 42, 16, 247, 172]
abbrev dktX2_refuse_0 : List UInt8 := dkwX2_refuse_0 ++ []
theorem dksX2_refuse_0 : cX2_refuse.data.toList.drop 0 = dktX2_refuse_0 := by decide +kernel
theorem dX2_refuse_0 : decode cX2_refuse 0 = .ok (.aload_n 0, 1) := dk_42 (dk_at dksX2_refuse_0 0 rfl rfl)
theorem dX2_refuse_1 : decode cX2_refuse 1 = .ok (.dup, 1) := dk_89 (dk_at dksX2_refuse_0 1 rfl rfl)
theorem dX2_refuse_2 : decode cX2_refuse 2 = .ok (.getfield 42, 3) := dk_180 0 42 (dk_at dksX2_refuse_0 2 rfl rfl)
theorem dX2_refuse_5 : decode cX2_refuse 5 = .ok (.iconst 1, 1) := dk_4 (dk_at dksX2_refuse_0 5 rfl rfl)
theorem dX2_refuse_6 : decode cX2_refuse 6 = .ok (.iadd, 1) := dk_96 (dk_at dksX2_refuse_0 6 rfl rfl)
theorem dX2_refuse_7 : decode cX2_refuse 7 = .ok (.putfield 42, 3) := dk_181 0 42 (dk_at dksX2_refuse_0 7 rfl rfl)
theorem dX2_refuse_10 : decode cX2_refuse 10 = .ok (.bipush (-9), 2) := dk_16 247 (dk_at dksX2_refuse_0 10 rfl rfl)
theorem dX2_refuse_12 : decode cX2_refuse 12 = .ok (.ireturn, 1) := dk_172 (dk_at dksX2_refuse_0 12 rfl rfl)
abbrev cX2_arc : ByteArray := prog_7_method_31_code
def yX2_arc : MethodName := ⟨RX2, "arc", "(IIII)I"⟩
def dkwX2_arc_4 : List UInt8 := [180, 0, 13, 21, 5, 29, 79, 42, 180, 0, 17, 21, 5, 21, 4, 79, 42, 21, 6, 182, 0, 121, 172]
abbrev dktX2_arc_4 : List UInt8 := dkwX2_arc_4 ++ []
def dkwX2_arc_3 : List UInt8 := [160, 0, 19, 42, 180, 0, 17, 21, 5, 46, 21, 4, 160, 0, 7, 3, 167, 0, 4, 4, 54, 6, 42]
abbrev dktX2_arc_3 : List UInt8 := dkwX2_arc_3 ++ dktX2_arc_4
def dkwX2_arc_2 : List UInt8 := [182, 0, 117, 153, 0, 5, 3, 172, 16, 8, 27, 104, 28, 96, 54, 5, 42, 180, 0, 13, 21, 5, 46, 29]
abbrev dktX2_arc_2 : List UInt8 := dkwX2_arc_2 ++ dktX2_arc_3
def dkwX2_arc_1 : List UInt8 := [6, 184, 0, 35, 153, 0, 17, 21, 4, 3, 6, 184, 0, 35, 153, 0, 7, 4, 167, 0, 4, 3]
abbrev dktX2_arc_1 : List UInt8 := dkwX2_arc_1 ++ dktX2_arc_2
def dkwX2_arc_0 : List UInt8 := [42, 42, 27, 182, 0, 129, 153, 0, 15, 42, 28, 182, 0, 133, 153, 0, 7, 4, 167, 0, 4, 3, 29, 3]
abbrev dktX2_arc_0 : List UInt8 := dkwX2_arc_0 ++ dktX2_arc_1
theorem dksX2_arc_0 : cX2_arc.data.toList.drop 0 = dktX2_arc_0 := by decide +kernel
theorem dksX2_arc_1 : cX2_arc.data.toList.drop 24 = dktX2_arc_1 := dk_seg dksX2_arc_0 24 rfl rfl
theorem dksX2_arc_2 : cX2_arc.data.toList.drop 46 = dktX2_arc_2 := dk_seg dksX2_arc_1 22 rfl rfl
theorem dksX2_arc_3 : cX2_arc.data.toList.drop 70 = dktX2_arc_3 := dk_seg dksX2_arc_2 24 rfl rfl
theorem dksX2_arc_4 : cX2_arc.data.toList.drop 93 = dktX2_arc_4 := dk_seg dksX2_arc_3 23 rfl rfl
theorem dX2_arc_0 : decode cX2_arc 0 = .ok (.aload_n 0, 1) := dk_42 (dk_at dksX2_arc_0 0 rfl rfl)
theorem dX2_arc_1 : decode cX2_arc 1 = .ok (.aload_n 0, 1) := dk_42 (dk_at dksX2_arc_0 1 rfl rfl)
theorem dX2_arc_2 : decode cX2_arc 2 = .ok (.iload_n 1, 1) := dk_27 (dk_at dksX2_arc_0 2 rfl rfl)
theorem dX2_arc_3 : decode cX2_arc 3 = .ok (.invokevirtual 129, 3) := dk_182 0 129 (dk_at dksX2_arc_0 3 rfl rfl)
theorem dX2_arc_6 : decode cX2_arc 6 = .ok (.ifCond .eq 15, 3) := dk_153 0 15 (dk_at dksX2_arc_0 6 rfl rfl)
theorem dX2_arc_9 : decode cX2_arc 9 = .ok (.aload_n 0, 1) := dk_42 (dk_at dksX2_arc_0 9 rfl rfl)
theorem dX2_arc_10 : decode cX2_arc 10 = .ok (.iload_n 2, 1) := dk_28 (dk_at dksX2_arc_0 10 rfl rfl)
theorem dX2_arc_11 : decode cX2_arc 11 = .ok (.invokevirtual 133, 3) := dk_182 0 133 (dk_at dksX2_arc_0 11 rfl rfl)
theorem dX2_arc_14 : decode cX2_arc 14 = .ok (.ifCond .eq 7, 3) := dk_153 0 7 (dk_at dksX2_arc_0 14 rfl rfl)
theorem dX2_arc_17 : decode cX2_arc 17 = .ok (.iconst 1, 1) := dk_4 (dk_at dksX2_arc_0 17 rfl rfl)
theorem dX2_arc_18 : decode cX2_arc 18 = .ok (.goto 4, 3) := dk_167 0 4 (dk_at dksX2_arc_0 18 rfl rfl)
theorem dX2_arc_21 : decode cX2_arc 21 = .ok (.iconst 0, 1) := dk_3 (dk_at dksX2_arc_0 21 rfl rfl)
theorem dX2_arc_22 : decode cX2_arc 22 = .ok (.iload_n 3, 1) := dk_29 (dk_at dksX2_arc_0 22 rfl rfl)
theorem dX2_arc_23 : decode cX2_arc 23 = .ok (.iconst 0, 1) := dk_3 (dk_at dksX2_arc_0 23 rfl rfl)
theorem dX2_arc_24 : decode cX2_arc 24 = .ok (.iconst 3, 1) := dk_6 (dk_at dksX2_arc_1 0 rfl rfl)
theorem dX2_arc_25 : decode cX2_arc 25 = .ok (.invokestatic 35, 3) := dk_184 0 35 (dk_at dksX2_arc_1 1 rfl rfl)
theorem dX2_arc_28 : decode cX2_arc 28 = .ok (.ifCond .eq 17, 3) := dk_153 0 17 (dk_at dksX2_arc_1 4 rfl rfl)
theorem dX2_arc_31 : decode cX2_arc 31 = .ok (.iload 4, 2) := dk_21 4 (dk_at dksX2_arc_1 7 rfl rfl)
theorem dX2_arc_33 : decode cX2_arc 33 = .ok (.iconst 0, 1) := dk_3 (dk_at dksX2_arc_1 9 rfl rfl)
theorem dX2_arc_34 : decode cX2_arc 34 = .ok (.iconst 3, 1) := dk_6 (dk_at dksX2_arc_1 10 rfl rfl)
theorem dX2_arc_35 : decode cX2_arc 35 = .ok (.invokestatic 35, 3) := dk_184 0 35 (dk_at dksX2_arc_1 11 rfl rfl)
theorem dX2_arc_38 : decode cX2_arc 38 = .ok (.ifCond .eq 7, 3) := dk_153 0 7 (dk_at dksX2_arc_1 14 rfl rfl)
theorem dX2_arc_41 : decode cX2_arc 41 = .ok (.iconst 1, 1) := dk_4 (dk_at dksX2_arc_1 17 rfl rfl)
theorem dX2_arc_42 : decode cX2_arc 42 = .ok (.goto 4, 3) := dk_167 0 4 (dk_at dksX2_arc_1 18 rfl rfl)
theorem dX2_arc_45 : decode cX2_arc 45 = .ok (.iconst 0, 1) := dk_3 (dk_at dksX2_arc_1 21 rfl rfl)
theorem dX2_arc_46 : decode cX2_arc 46 = .ok (.invokevirtual 117, 3) := dk_182 0 117 (dk_at dksX2_arc_2 0 rfl rfl)
theorem dX2_arc_49 : decode cX2_arc 49 = .ok (.ifCond .eq 5, 3) := dk_153 0 5 (dk_at dksX2_arc_2 3 rfl rfl)
theorem dX2_arc_52 : decode cX2_arc 52 = .ok (.iconst 0, 1) := dk_3 (dk_at dksX2_arc_2 6 rfl rfl)
theorem dX2_arc_53 : decode cX2_arc 53 = .ok (.ireturn, 1) := dk_172 (dk_at dksX2_arc_2 7 rfl rfl)
theorem dX2_arc_54 : decode cX2_arc 54 = .ok (.bipush 8, 2) := dk_16 8 (dk_at dksX2_arc_2 8 rfl rfl)
theorem dX2_arc_56 : decode cX2_arc 56 = .ok (.iload_n 1, 1) := dk_27 (dk_at dksX2_arc_2 10 rfl rfl)
theorem dX2_arc_57 : decode cX2_arc 57 = .ok (.imul, 1) := dk_104 (dk_at dksX2_arc_2 11 rfl rfl)
theorem dX2_arc_58 : decode cX2_arc 58 = .ok (.iload_n 2, 1) := dk_28 (dk_at dksX2_arc_2 12 rfl rfl)
theorem dX2_arc_59 : decode cX2_arc 59 = .ok (.iadd, 1) := dk_96 (dk_at dksX2_arc_2 13 rfl rfl)
theorem dX2_arc_60 : decode cX2_arc 60 = .ok (.istore 5, 2) := dk_54 5 (dk_at dksX2_arc_2 14 rfl rfl)
theorem dX2_arc_62 : decode cX2_arc 62 = .ok (.aload_n 0, 1) := dk_42 (dk_at dksX2_arc_2 16 rfl rfl)
theorem dX2_arc_63 : decode cX2_arc 63 = .ok (.getfield 13, 3) := dk_180 0 13 (dk_at dksX2_arc_2 17 rfl rfl)
theorem dX2_arc_66 : decode cX2_arc 66 = .ok (.iload 5, 2) := dk_21 5 (dk_at dksX2_arc_2 20 rfl rfl)
theorem dX2_arc_68 : decode cX2_arc 68 = .ok (.iaload, 1) := dk_46 (dk_at dksX2_arc_2 22 rfl rfl)
theorem dX2_arc_69 : decode cX2_arc 69 = .ok (.iload_n 3, 1) := dk_29 (dk_at dksX2_arc_2 23 rfl rfl)
theorem dX2_arc_70 : decode cX2_arc 70 = .ok (.if_icmp .ne 19, 3) := dk_160 0 19 (dk_at dksX2_arc_3 0 rfl rfl)
theorem dX2_arc_73 : decode cX2_arc 73 = .ok (.aload_n 0, 1) := dk_42 (dk_at dksX2_arc_3 3 rfl rfl)
theorem dX2_arc_74 : decode cX2_arc 74 = .ok (.getfield 17, 3) := dk_180 0 17 (dk_at dksX2_arc_3 4 rfl rfl)
theorem dX2_arc_77 : decode cX2_arc 77 = .ok (.iload 5, 2) := dk_21 5 (dk_at dksX2_arc_3 7 rfl rfl)
theorem dX2_arc_79 : decode cX2_arc 79 = .ok (.iaload, 1) := dk_46 (dk_at dksX2_arc_3 9 rfl rfl)
theorem dX2_arc_80 : decode cX2_arc 80 = .ok (.iload 4, 2) := dk_21 4 (dk_at dksX2_arc_3 10 rfl rfl)
theorem dX2_arc_82 : decode cX2_arc 82 = .ok (.if_icmp .ne 7, 3) := dk_160 0 7 (dk_at dksX2_arc_3 12 rfl rfl)
theorem dX2_arc_85 : decode cX2_arc 85 = .ok (.iconst 0, 1) := dk_3 (dk_at dksX2_arc_3 15 rfl rfl)
theorem dX2_arc_86 : decode cX2_arc 86 = .ok (.goto 4, 3) := dk_167 0 4 (dk_at dksX2_arc_3 16 rfl rfl)
theorem dX2_arc_89 : decode cX2_arc 89 = .ok (.iconst 1, 1) := dk_4 (dk_at dksX2_arc_3 19 rfl rfl)
theorem dX2_arc_90 : decode cX2_arc 90 = .ok (.istore 6, 2) := dk_54 6 (dk_at dksX2_arc_3 20 rfl rfl)
theorem dX2_arc_92 : decode cX2_arc 92 = .ok (.aload_n 0, 1) := dk_42 (dk_at dksX2_arc_3 22 rfl rfl)
theorem dX2_arc_93 : decode cX2_arc 93 = .ok (.getfield 13, 3) := dk_180 0 13 (dk_at dksX2_arc_4 0 rfl rfl)
theorem dX2_arc_96 : decode cX2_arc 96 = .ok (.iload 5, 2) := dk_21 5 (dk_at dksX2_arc_4 3 rfl rfl)
theorem dX2_arc_98 : decode cX2_arc 98 = .ok (.iload_n 3, 1) := dk_29 (dk_at dksX2_arc_4 5 rfl rfl)
theorem dX2_arc_99 : decode cX2_arc 99 = .ok (.iastore, 1) := dk_79 (dk_at dksX2_arc_4 6 rfl rfl)
theorem dX2_arc_100 : decode cX2_arc 100 = .ok (.aload_n 0, 1) := dk_42 (dk_at dksX2_arc_4 7 rfl rfl)
theorem dX2_arc_101 : decode cX2_arc 101 = .ok (.getfield 17, 3) := dk_180 0 17 (dk_at dksX2_arc_4 8 rfl rfl)
theorem dX2_arc_104 : decode cX2_arc 104 = .ok (.iload 5, 2) := dk_21 5 (dk_at dksX2_arc_4 11 rfl rfl)
theorem dX2_arc_106 : decode cX2_arc 106 = .ok (.iload 4, 2) := dk_21 4 (dk_at dksX2_arc_4 13 rfl rfl)
theorem dX2_arc_108 : decode cX2_arc 108 = .ok (.iastore, 1) := dk_79 (dk_at dksX2_arc_4 15 rfl rfl)
theorem dX2_arc_109 : decode cX2_arc 109 = .ok (.aload_n 0, 1) := dk_42 (dk_at dksX2_arc_4 16 rfl rfl)
theorem dX2_arc_110 : decode cX2_arc 110 = .ok (.iload 6, 2) := dk_21 6 (dk_at dksX2_arc_4 17 rfl rfl)
theorem dX2_arc_112 : decode cX2_arc 112 = .ok (.invokevirtual 121, 3) := dk_182 0 121 (dk_at dksX2_arc_4 19 rfl rfl)
theorem dX2_arc_115 : decode cX2_arc 115 = .ok (.ireturn, 1) := dk_172 (dk_at dksX2_arc_4 22 rfl rfl)
abbrev cX2_isStep : ByteArray := prog_7_method_5_code
def yX2_isStep : MethodName := ⟨RX2, "isStep", "(I)Z"⟩
def dkwX2_isStep_0 : List UInt8 := [27, 3, 42, 180, 0, 32, 4, 100, 184, 0, 35, 172]
abbrev dktX2_isStep_0 : List UInt8 := dkwX2_isStep_0 ++ []
theorem dksX2_isStep_0 : cX2_isStep.data.toList.drop 0 = dktX2_isStep_0 := by decide +kernel
theorem dX2_isStep_0 : decode cX2_isStep 0 = .ok (.iload_n 1, 1) := dk_27 (dk_at dksX2_isStep_0 0 rfl rfl)
theorem dX2_isStep_1 : decode cX2_isStep 1 = .ok (.iconst 0, 1) := dk_3 (dk_at dksX2_isStep_0 1 rfl rfl)
theorem dX2_isStep_2 : decode cX2_isStep 2 = .ok (.aload_n 0, 1) := dk_42 (dk_at dksX2_isStep_0 2 rfl rfl)
theorem dX2_isStep_3 : decode cX2_isStep 3 = .ok (.getfield 32, 3) := dk_180 0 32 (dk_at dksX2_isStep_0 3 rfl rfl)
theorem dX2_isStep_6 : decode cX2_isStep 6 = .ok (.iconst 1, 1) := dk_4 (dk_at dksX2_isStep_0 6 rfl rfl)
theorem dX2_isStep_7 : decode cX2_isStep 7 = .ok (.isub, 1) := dk_100 (dk_at dksX2_isStep_0 7 rfl rfl)
theorem dX2_isStep_8 : decode cX2_isStep 8 = .ok (.invokestatic 35, 3) := dk_184 0 35 (dk_at dksX2_isStep_0 8 rfl rfl)
theorem dX2_isStep_11 : decode cX2_isStep 11 = .ok (.ireturn, 1) := dk_172 (dk_at dksX2_isStep_0 11 rfl rfl)
abbrev cX2_isPlace : ByteArray := prog_7_method_6_code
def yX2_isPlace : MethodName := ⟨RX2, "isPlace", "(I)Z"⟩
def dkwX2_isPlace_0 : List UInt8 := [27, 3, 42, 180, 0, 7, 4, 100, 184, 0, 35, 172]
abbrev dktX2_isPlace_0 : List UInt8 := dkwX2_isPlace_0 ++ []
theorem dksX2_isPlace_0 : cX2_isPlace.data.toList.drop 0 = dktX2_isPlace_0 := by decide +kernel
theorem dX2_isPlace_0 : decode cX2_isPlace 0 = .ok (.iload_n 1, 1) := dk_27 (dk_at dksX2_isPlace_0 0 rfl rfl)
theorem dX2_isPlace_1 : decode cX2_isPlace 1 = .ok (.iconst 0, 1) := dk_3 (dk_at dksX2_isPlace_0 1 rfl rfl)
theorem dX2_isPlace_2 : decode cX2_isPlace 2 = .ok (.aload_n 0, 1) := dk_42 (dk_at dksX2_isPlace_0 2 rfl rfl)
theorem dX2_isPlace_3 : decode cX2_isPlace 3 = .ok (.getfield 7, 3) := dk_180 0 7 (dk_at dksX2_isPlace_0 3 rfl rfl)
theorem dX2_isPlace_6 : decode cX2_isPlace 6 = .ok (.iconst 1, 1) := dk_4 (dk_at dksX2_isPlace_0 6 rfl rfl)
theorem dX2_isPlace_7 : decode cX2_isPlace 7 = .ok (.isub, 1) := dk_100 (dk_at dksX2_isPlace_0 7 rfl rfl)
theorem dX2_isPlace_8 : decode cX2_isPlace 8 = .ok (.invokestatic 35, 3) := dk_184 0 35 (dk_at dksX2_isPlace_0 8 rfl rfl)
theorem dX2_isPlace_11 : decode cX2_isPlace 11 = .ok (.ireturn, 1) := dk_172 (dk_at dksX2_isPlace_0 11 rfl rfl)
abbrev cX2_strike : ByteArray := prog_7_method_32_code
def yX2_strike : MethodName := ⟨RX2, "strike", "(I)I"⟩
def dkwX2_strike_3 : List UInt8 := [181, 0, 32, 42, 42, 180, 0, 32, 182, 0, 121, 172]
abbrev dktX2_strike_3 : List UInt8 := dkwX2_strike_3 ++ []
def dkwX2_strike_2 : List UInt8 := [180, 0, 17, 28, 16, 8, 96, 46, 79, 132, 2, 1, 167, 255, 217, 42, 89, 180, 0, 32, 4, 100]
abbrev dktX2_strike_2 : List UInt8 := dkwX2_strike_2 ++ dktX2_strike_3
def dkwX2_strike_1 : List UInt8 := [162, 0, 39, 42, 180, 0, 13, 28, 42, 180, 0, 13, 28, 16, 8, 96, 46, 79, 42, 180, 0, 17, 28, 42]
abbrev dktX2_strike_1 : List UInt8 := dkwX2_strike_1 ++ dktX2_strike_2
def dkwX2_strike_0 : List UInt8 := [42, 42, 27, 182, 0, 129, 4, 182, 0, 117, 153, 0, 5, 3, 172, 16, 8, 27, 104, 61, 28, 16, 56]
abbrev dktX2_strike_0 : List UInt8 := dkwX2_strike_0 ++ dktX2_strike_1
theorem dksX2_strike_0 : cX2_strike.data.toList.drop 0 = dktX2_strike_0 := by decide +kernel
theorem dksX2_strike_1 : cX2_strike.data.toList.drop 23 = dktX2_strike_1 := dk_seg dksX2_strike_0 23 rfl rfl
theorem dksX2_strike_2 : cX2_strike.data.toList.drop 47 = dktX2_strike_2 := dk_seg dksX2_strike_1 24 rfl rfl
theorem dksX2_strike_3 : cX2_strike.data.toList.drop 69 = dktX2_strike_3 := dk_seg dksX2_strike_2 22 rfl rfl
theorem dX2_strike_0 : decode cX2_strike 0 = .ok (.aload_n 0, 1) := dk_42 (dk_at dksX2_strike_0 0 rfl rfl)
theorem dX2_strike_1 : decode cX2_strike 1 = .ok (.aload_n 0, 1) := dk_42 (dk_at dksX2_strike_0 1 rfl rfl)
theorem dX2_strike_2 : decode cX2_strike 2 = .ok (.iload_n 1, 1) := dk_27 (dk_at dksX2_strike_0 2 rfl rfl)
theorem dX2_strike_3 : decode cX2_strike 3 = .ok (.invokevirtual 129, 3) := dk_182 0 129 (dk_at dksX2_strike_0 3 rfl rfl)
theorem dX2_strike_6 : decode cX2_strike 6 = .ok (.iconst 1, 1) := dk_4 (dk_at dksX2_strike_0 6 rfl rfl)
theorem dX2_strike_7 : decode cX2_strike 7 = .ok (.invokevirtual 117, 3) := dk_182 0 117 (dk_at dksX2_strike_0 7 rfl rfl)
theorem dX2_strike_10 : decode cX2_strike 10 = .ok (.ifCond .eq 5, 3) := dk_153 0 5 (dk_at dksX2_strike_0 10 rfl rfl)
theorem dX2_strike_13 : decode cX2_strike 13 = .ok (.iconst 0, 1) := dk_3 (dk_at dksX2_strike_0 13 rfl rfl)
theorem dX2_strike_14 : decode cX2_strike 14 = .ok (.ireturn, 1) := dk_172 (dk_at dksX2_strike_0 14 rfl rfl)
theorem dX2_strike_15 : decode cX2_strike 15 = .ok (.bipush 8, 2) := dk_16 8 (dk_at dksX2_strike_0 15 rfl rfl)
theorem dX2_strike_17 : decode cX2_strike 17 = .ok (.iload_n 1, 1) := dk_27 (dk_at dksX2_strike_0 17 rfl rfl)
theorem dX2_strike_18 : decode cX2_strike 18 = .ok (.imul, 1) := dk_104 (dk_at dksX2_strike_0 18 rfl rfl)
theorem dX2_strike_19 : decode cX2_strike 19 = .ok (.istore_n 2, 1) := dk_61 (dk_at dksX2_strike_0 19 rfl rfl)
theorem dX2_strike_20 : decode cX2_strike 20 = .ok (.iload_n 2, 1) := dk_28 (dk_at dksX2_strike_0 20 rfl rfl)
theorem dX2_strike_21 : decode cX2_strike 21 = .ok (.bipush 56, 2) := dk_16 56 (dk_at dksX2_strike_0 21 rfl rfl)
theorem dX2_strike_23 : decode cX2_strike 23 = .ok (.if_icmp .ge 39, 3) := dk_162 0 39 (dk_at dksX2_strike_1 0 rfl rfl)
theorem dX2_strike_26 : decode cX2_strike 26 = .ok (.aload_n 0, 1) := dk_42 (dk_at dksX2_strike_1 3 rfl rfl)
theorem dX2_strike_27 : decode cX2_strike 27 = .ok (.getfield 13, 3) := dk_180 0 13 (dk_at dksX2_strike_1 4 rfl rfl)
theorem dX2_strike_30 : decode cX2_strike 30 = .ok (.iload_n 2, 1) := dk_28 (dk_at dksX2_strike_1 7 rfl rfl)
theorem dX2_strike_31 : decode cX2_strike 31 = .ok (.aload_n 0, 1) := dk_42 (dk_at dksX2_strike_1 8 rfl rfl)
theorem dX2_strike_32 : decode cX2_strike 32 = .ok (.getfield 13, 3) := dk_180 0 13 (dk_at dksX2_strike_1 9 rfl rfl)
theorem dX2_strike_35 : decode cX2_strike 35 = .ok (.iload_n 2, 1) := dk_28 (dk_at dksX2_strike_1 12 rfl rfl)
theorem dX2_strike_36 : decode cX2_strike 36 = .ok (.bipush 8, 2) := dk_16 8 (dk_at dksX2_strike_1 13 rfl rfl)
theorem dX2_strike_38 : decode cX2_strike 38 = .ok (.iadd, 1) := dk_96 (dk_at dksX2_strike_1 15 rfl rfl)
theorem dX2_strike_39 : decode cX2_strike 39 = .ok (.iaload, 1) := dk_46 (dk_at dksX2_strike_1 16 rfl rfl)
theorem dX2_strike_40 : decode cX2_strike 40 = .ok (.iastore, 1) := dk_79 (dk_at dksX2_strike_1 17 rfl rfl)
theorem dX2_strike_41 : decode cX2_strike 41 = .ok (.aload_n 0, 1) := dk_42 (dk_at dksX2_strike_1 18 rfl rfl)
theorem dX2_strike_42 : decode cX2_strike 42 = .ok (.getfield 17, 3) := dk_180 0 17 (dk_at dksX2_strike_1 19 rfl rfl)
theorem dX2_strike_45 : decode cX2_strike 45 = .ok (.iload_n 2, 1) := dk_28 (dk_at dksX2_strike_1 22 rfl rfl)
theorem dX2_strike_46 : decode cX2_strike 46 = .ok (.aload_n 0, 1) := dk_42 (dk_at dksX2_strike_1 23 rfl rfl)
theorem dX2_strike_47 : decode cX2_strike 47 = .ok (.getfield 17, 3) := dk_180 0 17 (dk_at dksX2_strike_2 0 rfl rfl)
theorem dX2_strike_50 : decode cX2_strike 50 = .ok (.iload_n 2, 1) := dk_28 (dk_at dksX2_strike_2 3 rfl rfl)
theorem dX2_strike_51 : decode cX2_strike 51 = .ok (.bipush 8, 2) := dk_16 8 (dk_at dksX2_strike_2 4 rfl rfl)
theorem dX2_strike_53 : decode cX2_strike 53 = .ok (.iadd, 1) := dk_96 (dk_at dksX2_strike_2 6 rfl rfl)
theorem dX2_strike_54 : decode cX2_strike 54 = .ok (.iaload, 1) := dk_46 (dk_at dksX2_strike_2 7 rfl rfl)
theorem dX2_strike_55 : decode cX2_strike 55 = .ok (.iastore, 1) := dk_79 (dk_at dksX2_strike_2 8 rfl rfl)
theorem dX2_strike_56 : decode cX2_strike 56 = .ok (.iinc 2 1, 3) := dk_132 2 1 (dk_at dksX2_strike_2 9 rfl rfl)
theorem dX2_strike_59 : decode cX2_strike 59 = .ok (.goto (-39), 3) := dk_167 255 217 (dk_at dksX2_strike_2 12 rfl rfl)
theorem dX2_strike_62 : decode cX2_strike 62 = .ok (.aload_n 0, 1) := dk_42 (dk_at dksX2_strike_2 15 rfl rfl)
theorem dX2_strike_63 : decode cX2_strike 63 = .ok (.dup, 1) := dk_89 (dk_at dksX2_strike_2 16 rfl rfl)
theorem dX2_strike_64 : decode cX2_strike 64 = .ok (.getfield 32, 3) := dk_180 0 32 (dk_at dksX2_strike_2 17 rfl rfl)
theorem dX2_strike_67 : decode cX2_strike 67 = .ok (.iconst 1, 1) := dk_4 (dk_at dksX2_strike_2 20 rfl rfl)
theorem dX2_strike_68 : decode cX2_strike 68 = .ok (.isub, 1) := dk_100 (dk_at dksX2_strike_2 21 rfl rfl)
theorem dX2_strike_69 : decode cX2_strike 69 = .ok (.putfield 32, 3) := dk_181 0 32 (dk_at dksX2_strike_3 0 rfl rfl)
theorem dX2_strike_72 : decode cX2_strike 72 = .ok (.aload_n 0, 1) := dk_42 (dk_at dksX2_strike_3 3 rfl rfl)
theorem dX2_strike_73 : decode cX2_strike 73 = .ok (.aload_n 0, 1) := dk_42 (dk_at dksX2_strike_3 4 rfl rfl)
theorem dX2_strike_74 : decode cX2_strike 74 = .ok (.getfield 32, 3) := dk_180 0 32 (dk_at dksX2_strike_3 5 rfl rfl)
theorem dX2_strike_77 : decode cX2_strike 77 = .ok (.invokevirtual 121, 3) := dk_182 0 121 (dk_at dksX2_strike_3 8 rfl rfl)
theorem dX2_strike_80 : decode cX2_strike 80 = .ok (.ireturn, 1) := dk_172 (dk_at dksX2_strike_3 11 rfl rfl)
abbrev cX2_turn : ByteArray := prog_7_method_33_code
def yX2_turn : MethodName := ⟨RX2, "turn", "()I"⟩
def dkwX2_turn_5 : List UInt8 := [4, 167, 0, 4, 3, 96, 60, 132, 2, 1, 167, 255, 136, 42, 27, 182, 0, 121, 172]
abbrev dktX2_turn_5 : List UInt8 := dkwX2_turn_5 ++ []
def dkwX2_turn_4 : List UInt8 := [180, 0, 17, 16, 8, 28, 104, 21, 4, 96, 21, 5, 79, 132, 4, 1, 167, 255, 167, 27, 29, 153, 0, 7]
abbrev dktX2_turn_4 : List UInt8 := dkwX2_turn_4 ++ dktX2_turn_5
def dkwX2_turn_3 : List UInt8 := [180, 0, 13, 16, 8, 28, 104, 21, 4, 96, 42, 180, 0, 17, 16, 8, 28, 104, 21, 4, 96, 46, 79, 42]
abbrev dktX2_turn_3 : List UInt8 := dkwX2_turn_3 ++ dktX2_turn_4
def dkwX2_turn_2 : List UInt8 := [42, 180, 0, 17, 16, 8, 28, 104, 21, 4, 96, 46, 159, 0, 7, 4, 167, 0, 4, 3, 128, 62, 42]
abbrev dktX2_turn_2 : List UInt8 := dkwX2_turn_2 ++ dktX2_turn_3
def dkwX2_turn_1 : List UInt8 := [42, 180, 0, 7, 162, 0, 86, 42, 180, 0, 13, 16, 8, 28, 104, 21, 4, 96, 46, 54, 5, 29, 21, 5]
abbrev dktX2_turn_1 : List UInt8 := dkwX2_turn_1 ++ dktX2_turn_2
def dkwX2_turn_0 : List UInt8 := [42, 3, 181, 0, 29, 3, 60, 3, 61, 28, 42, 180, 0, 32, 162, 0, 118, 3, 62, 3, 54, 4, 21, 4]
abbrev dktX2_turn_0 : List UInt8 := dkwX2_turn_0 ++ dktX2_turn_1
theorem dksX2_turn_0 : cX2_turn.data.toList.drop 0 = dktX2_turn_0 := by decide +kernel
theorem dksX2_turn_1 : cX2_turn.data.toList.drop 24 = dktX2_turn_1 := dk_seg dksX2_turn_0 24 rfl rfl
theorem dksX2_turn_2 : cX2_turn.data.toList.drop 48 = dktX2_turn_2 := dk_seg dksX2_turn_1 24 rfl rfl
theorem dksX2_turn_3 : cX2_turn.data.toList.drop 71 = dktX2_turn_3 := dk_seg dksX2_turn_2 23 rfl rfl
theorem dksX2_turn_4 : cX2_turn.data.toList.drop 95 = dktX2_turn_4 := dk_seg dksX2_turn_3 24 rfl rfl
theorem dksX2_turn_5 : cX2_turn.data.toList.drop 119 = dktX2_turn_5 := dk_seg dksX2_turn_4 24 rfl rfl
theorem dX2_turn_0 : decode cX2_turn 0 = .ok (.aload_n 0, 1) := dk_42 (dk_at dksX2_turn_0 0 rfl rfl)
theorem dX2_turn_1 : decode cX2_turn 1 = .ok (.iconst 0, 1) := dk_3 (dk_at dksX2_turn_0 1 rfl rfl)
theorem dX2_turn_2 : decode cX2_turn 2 = .ok (.putfield 29, 3) := dk_181 0 29 (dk_at dksX2_turn_0 2 rfl rfl)
theorem dX2_turn_5 : decode cX2_turn 5 = .ok (.iconst 0, 1) := dk_3 (dk_at dksX2_turn_0 5 rfl rfl)
theorem dX2_turn_6 : decode cX2_turn 6 = .ok (.istore_n 1, 1) := dk_60 (dk_at dksX2_turn_0 6 rfl rfl)
theorem dX2_turn_7 : decode cX2_turn 7 = .ok (.iconst 0, 1) := dk_3 (dk_at dksX2_turn_0 7 rfl rfl)
theorem dX2_turn_8 : decode cX2_turn 8 = .ok (.istore_n 2, 1) := dk_61 (dk_at dksX2_turn_0 8 rfl rfl)
theorem dX2_turn_9 : decode cX2_turn 9 = .ok (.iload_n 2, 1) := dk_28 (dk_at dksX2_turn_0 9 rfl rfl)
theorem dX2_turn_10 : decode cX2_turn 10 = .ok (.aload_n 0, 1) := dk_42 (dk_at dksX2_turn_0 10 rfl rfl)
theorem dX2_turn_11 : decode cX2_turn 11 = .ok (.getfield 32, 3) := dk_180 0 32 (dk_at dksX2_turn_0 11 rfl rfl)
theorem dX2_turn_14 : decode cX2_turn 14 = .ok (.if_icmp .ge 118, 3) := dk_162 0 118 (dk_at dksX2_turn_0 14 rfl rfl)
theorem dX2_turn_17 : decode cX2_turn 17 = .ok (.iconst 0, 1) := dk_3 (dk_at dksX2_turn_0 17 rfl rfl)
theorem dX2_turn_18 : decode cX2_turn 18 = .ok (.istore_n 3, 1) := dk_62 (dk_at dksX2_turn_0 18 rfl rfl)
theorem dX2_turn_19 : decode cX2_turn 19 = .ok (.iconst 0, 1) := dk_3 (dk_at dksX2_turn_0 19 rfl rfl)
theorem dX2_turn_20 : decode cX2_turn 20 = .ok (.istore 4, 2) := dk_54 4 (dk_at dksX2_turn_0 20 rfl rfl)
theorem dX2_turn_22 : decode cX2_turn 22 = .ok (.iload 4, 2) := dk_21 4 (dk_at dksX2_turn_0 22 rfl rfl)
theorem dX2_turn_24 : decode cX2_turn 24 = .ok (.aload_n 0, 1) := dk_42 (dk_at dksX2_turn_1 0 rfl rfl)
theorem dX2_turn_25 : decode cX2_turn 25 = .ok (.getfield 7, 3) := dk_180 0 7 (dk_at dksX2_turn_1 1 rfl rfl)
theorem dX2_turn_28 : decode cX2_turn 28 = .ok (.if_icmp .ge 86, 3) := dk_162 0 86 (dk_at dksX2_turn_1 4 rfl rfl)
theorem dX2_turn_31 : decode cX2_turn 31 = .ok (.aload_n 0, 1) := dk_42 (dk_at dksX2_turn_1 7 rfl rfl)
theorem dX2_turn_32 : decode cX2_turn 32 = .ok (.getfield 13, 3) := dk_180 0 13 (dk_at dksX2_turn_1 8 rfl rfl)
theorem dX2_turn_35 : decode cX2_turn 35 = .ok (.bipush 8, 2) := dk_16 8 (dk_at dksX2_turn_1 11 rfl rfl)
theorem dX2_turn_37 : decode cX2_turn 37 = .ok (.iload_n 2, 1) := dk_28 (dk_at dksX2_turn_1 13 rfl rfl)
theorem dX2_turn_38 : decode cX2_turn 38 = .ok (.imul, 1) := dk_104 (dk_at dksX2_turn_1 14 rfl rfl)
theorem dX2_turn_39 : decode cX2_turn 39 = .ok (.iload 4, 2) := dk_21 4 (dk_at dksX2_turn_1 15 rfl rfl)
theorem dX2_turn_41 : decode cX2_turn 41 = .ok (.iadd, 1) := dk_96 (dk_at dksX2_turn_1 17 rfl rfl)
theorem dX2_turn_42 : decode cX2_turn 42 = .ok (.iaload, 1) := dk_46 (dk_at dksX2_turn_1 18 rfl rfl)
theorem dX2_turn_43 : decode cX2_turn 43 = .ok (.istore 5, 2) := dk_54 5 (dk_at dksX2_turn_1 19 rfl rfl)
theorem dX2_turn_45 : decode cX2_turn 45 = .ok (.iload_n 3, 1) := dk_29 (dk_at dksX2_turn_1 21 rfl rfl)
theorem dX2_turn_46 : decode cX2_turn 46 = .ok (.iload 5, 2) := dk_21 5 (dk_at dksX2_turn_1 22 rfl rfl)
theorem dX2_turn_48 : decode cX2_turn 48 = .ok (.aload_n 0, 1) := dk_42 (dk_at dksX2_turn_2 0 rfl rfl)
theorem dX2_turn_49 : decode cX2_turn 49 = .ok (.getfield 17, 3) := dk_180 0 17 (dk_at dksX2_turn_2 1 rfl rfl)
theorem dX2_turn_52 : decode cX2_turn 52 = .ok (.bipush 8, 2) := dk_16 8 (dk_at dksX2_turn_2 4 rfl rfl)
theorem dX2_turn_54 : decode cX2_turn 54 = .ok (.iload_n 2, 1) := dk_28 (dk_at dksX2_turn_2 6 rfl rfl)
theorem dX2_turn_55 : decode cX2_turn 55 = .ok (.imul, 1) := dk_104 (dk_at dksX2_turn_2 7 rfl rfl)
theorem dX2_turn_56 : decode cX2_turn 56 = .ok (.iload 4, 2) := dk_21 4 (dk_at dksX2_turn_2 8 rfl rfl)
theorem dX2_turn_58 : decode cX2_turn 58 = .ok (.iadd, 1) := dk_96 (dk_at dksX2_turn_2 10 rfl rfl)
theorem dX2_turn_59 : decode cX2_turn 59 = .ok (.iaload, 1) := dk_46 (dk_at dksX2_turn_2 11 rfl rfl)
theorem dX2_turn_60 : decode cX2_turn 60 = .ok (.if_icmp .eq 7, 3) := dk_159 0 7 (dk_at dksX2_turn_2 12 rfl rfl)
theorem dX2_turn_63 : decode cX2_turn 63 = .ok (.iconst 1, 1) := dk_4 (dk_at dksX2_turn_2 15 rfl rfl)
theorem dX2_turn_64 : decode cX2_turn 64 = .ok (.goto 4, 3) := dk_167 0 4 (dk_at dksX2_turn_2 16 rfl rfl)
theorem dX2_turn_67 : decode cX2_turn 67 = .ok (.iconst 0, 1) := dk_3 (dk_at dksX2_turn_2 19 rfl rfl)
theorem dX2_turn_68 : decode cX2_turn 68 = .ok (.ior, 1) := dk_128 (dk_at dksX2_turn_2 20 rfl rfl)
theorem dX2_turn_69 : decode cX2_turn 69 = .ok (.istore_n 3, 1) := dk_62 (dk_at dksX2_turn_2 21 rfl rfl)
theorem dX2_turn_70 : decode cX2_turn 70 = .ok (.aload_n 0, 1) := dk_42 (dk_at dksX2_turn_2 22 rfl rfl)
theorem dX2_turn_71 : decode cX2_turn 71 = .ok (.getfield 13, 3) := dk_180 0 13 (dk_at dksX2_turn_3 0 rfl rfl)
theorem dX2_turn_74 : decode cX2_turn 74 = .ok (.bipush 8, 2) := dk_16 8 (dk_at dksX2_turn_3 3 rfl rfl)
theorem dX2_turn_76 : decode cX2_turn 76 = .ok (.iload_n 2, 1) := dk_28 (dk_at dksX2_turn_3 5 rfl rfl)
theorem dX2_turn_77 : decode cX2_turn 77 = .ok (.imul, 1) := dk_104 (dk_at dksX2_turn_3 6 rfl rfl)
theorem dX2_turn_78 : decode cX2_turn 78 = .ok (.iload 4, 2) := dk_21 4 (dk_at dksX2_turn_3 7 rfl rfl)
theorem dX2_turn_80 : decode cX2_turn 80 = .ok (.iadd, 1) := dk_96 (dk_at dksX2_turn_3 9 rfl rfl)
theorem dX2_turn_81 : decode cX2_turn 81 = .ok (.aload_n 0, 1) := dk_42 (dk_at dksX2_turn_3 10 rfl rfl)
theorem dX2_turn_82 : decode cX2_turn 82 = .ok (.getfield 17, 3) := dk_180 0 17 (dk_at dksX2_turn_3 11 rfl rfl)
theorem dX2_turn_85 : decode cX2_turn 85 = .ok (.bipush 8, 2) := dk_16 8 (dk_at dksX2_turn_3 14 rfl rfl)
theorem dX2_turn_87 : decode cX2_turn 87 = .ok (.iload_n 2, 1) := dk_28 (dk_at dksX2_turn_3 16 rfl rfl)
theorem dX2_turn_88 : decode cX2_turn 88 = .ok (.imul, 1) := dk_104 (dk_at dksX2_turn_3 17 rfl rfl)
theorem dX2_turn_89 : decode cX2_turn 89 = .ok (.iload 4, 2) := dk_21 4 (dk_at dksX2_turn_3 18 rfl rfl)
theorem dX2_turn_91 : decode cX2_turn 91 = .ok (.iadd, 1) := dk_96 (dk_at dksX2_turn_3 20 rfl rfl)
theorem dX2_turn_92 : decode cX2_turn 92 = .ok (.iaload, 1) := dk_46 (dk_at dksX2_turn_3 21 rfl rfl)
theorem dX2_turn_93 : decode cX2_turn 93 = .ok (.iastore, 1) := dk_79 (dk_at dksX2_turn_3 22 rfl rfl)
theorem dX2_turn_94 : decode cX2_turn 94 = .ok (.aload_n 0, 1) := dk_42 (dk_at dksX2_turn_3 23 rfl rfl)
theorem dX2_turn_95 : decode cX2_turn 95 = .ok (.getfield 17, 3) := dk_180 0 17 (dk_at dksX2_turn_4 0 rfl rfl)
theorem dX2_turn_98 : decode cX2_turn 98 = .ok (.bipush 8, 2) := dk_16 8 (dk_at dksX2_turn_4 3 rfl rfl)
theorem dX2_turn_100 : decode cX2_turn 100 = .ok (.iload_n 2, 1) := dk_28 (dk_at dksX2_turn_4 5 rfl rfl)
theorem dX2_turn_101 : decode cX2_turn 101 = .ok (.imul, 1) := dk_104 (dk_at dksX2_turn_4 6 rfl rfl)
theorem dX2_turn_102 : decode cX2_turn 102 = .ok (.iload 4, 2) := dk_21 4 (dk_at dksX2_turn_4 7 rfl rfl)
theorem dX2_turn_104 : decode cX2_turn 104 = .ok (.iadd, 1) := dk_96 (dk_at dksX2_turn_4 9 rfl rfl)
theorem dX2_turn_105 : decode cX2_turn 105 = .ok (.iload 5, 2) := dk_21 5 (dk_at dksX2_turn_4 10 rfl rfl)
theorem dX2_turn_107 : decode cX2_turn 107 = .ok (.iastore, 1) := dk_79 (dk_at dksX2_turn_4 12 rfl rfl)
theorem dX2_turn_108 : decode cX2_turn 108 = .ok (.iinc 4 1, 3) := dk_132 4 1 (dk_at dksX2_turn_4 13 rfl rfl)
theorem dX2_turn_111 : decode cX2_turn 111 = .ok (.goto (-89), 3) := dk_167 255 167 (dk_at dksX2_turn_4 16 rfl rfl)
theorem dX2_turn_114 : decode cX2_turn 114 = .ok (.iload_n 1, 1) := dk_27 (dk_at dksX2_turn_4 19 rfl rfl)
theorem dX2_turn_115 : decode cX2_turn 115 = .ok (.iload_n 3, 1) := dk_29 (dk_at dksX2_turn_4 20 rfl rfl)
theorem dX2_turn_116 : decode cX2_turn 116 = .ok (.ifCond .eq 7, 3) := dk_153 0 7 (dk_at dksX2_turn_4 21 rfl rfl)
theorem dX2_turn_119 : decode cX2_turn 119 = .ok (.iconst 1, 1) := dk_4 (dk_at dksX2_turn_5 0 rfl rfl)
theorem dX2_turn_120 : decode cX2_turn 120 = .ok (.goto 4, 3) := dk_167 0 4 (dk_at dksX2_turn_5 1 rfl rfl)
theorem dX2_turn_123 : decode cX2_turn 123 = .ok (.iconst 0, 1) := dk_3 (dk_at dksX2_turn_5 4 rfl rfl)
theorem dX2_turn_124 : decode cX2_turn 124 = .ok (.iadd, 1) := dk_96 (dk_at dksX2_turn_5 5 rfl rfl)
theorem dX2_turn_125 : decode cX2_turn 125 = .ok (.istore_n 1, 1) := dk_60 (dk_at dksX2_turn_5 6 rfl rfl)
theorem dX2_turn_126 : decode cX2_turn 126 = .ok (.iinc 2 1, 3) := dk_132 2 1 (dk_at dksX2_turn_5 7 rfl rfl)
theorem dX2_turn_129 : decode cX2_turn 129 = .ok (.goto (-120), 3) := dk_167 255 136 (dk_at dksX2_turn_5 10 rfl rfl)
theorem dX2_turn_132 : decode cX2_turn 132 = .ok (.aload_n 0, 1) := dk_42 (dk_at dksX2_turn_5 13 rfl rfl)
theorem dX2_turn_133 : decode cX2_turn 133 = .ok (.iload_n 1, 1) := dk_27 (dk_at dksX2_turn_5 14 rfl rfl)
theorem dX2_turn_134 : decode cX2_turn 134 = .ok (.invokevirtual 121, 3) := dk_182 0 121 (dk_at dksX2_turn_5 15 rfl rfl)
theorem dX2_turn_137 : decode cX2_turn 137 = .ok (.ireturn, 1) := dk_172 (dk_at dksX2_turn_5 18 rfl rfl)
abbrev cX2_set : ByteArray := prog_7_method_34_code
def yX2_set : MethodName := ⟨RX2, "set", "(II)I"⟩
def dkwX2_set_1 : List UInt8 := [180, 0, 20, 27, 46, 62, 42, 180, 0, 20, 27, 28, 79, 42, 29, 182, 0, 121, 172]
abbrev dktX2_set_1 : List UInt8 := dkwX2_set_1 ++ []
def dkwX2_set_0 : List UInt8 := [42, 42, 27, 182, 0, 133, 28, 3, 16, 99, 184, 0, 35, 182, 0, 117, 153, 0, 5, 3, 172, 42]
abbrev dktX2_set_0 : List UInt8 := dkwX2_set_0 ++ dktX2_set_1
theorem dksX2_set_0 : cX2_set.data.toList.drop 0 = dktX2_set_0 := by decide +kernel
theorem dksX2_set_1 : cX2_set.data.toList.drop 22 = dktX2_set_1 := dk_seg dksX2_set_0 22 rfl rfl
theorem dX2_set_0 : decode cX2_set 0 = .ok (.aload_n 0, 1) := dk_42 (dk_at dksX2_set_0 0 rfl rfl)
theorem dX2_set_1 : decode cX2_set 1 = .ok (.aload_n 0, 1) := dk_42 (dk_at dksX2_set_0 1 rfl rfl)
theorem dX2_set_2 : decode cX2_set 2 = .ok (.iload_n 1, 1) := dk_27 (dk_at dksX2_set_0 2 rfl rfl)
theorem dX2_set_3 : decode cX2_set 3 = .ok (.invokevirtual 133, 3) := dk_182 0 133 (dk_at dksX2_set_0 3 rfl rfl)
theorem dX2_set_6 : decode cX2_set 6 = .ok (.iload_n 2, 1) := dk_28 (dk_at dksX2_set_0 6 rfl rfl)
theorem dX2_set_7 : decode cX2_set 7 = .ok (.iconst 0, 1) := dk_3 (dk_at dksX2_set_0 7 rfl rfl)
theorem dX2_set_8 : decode cX2_set 8 = .ok (.bipush 99, 2) := dk_16 99 (dk_at dksX2_set_0 8 rfl rfl)
theorem dX2_set_10 : decode cX2_set 10 = .ok (.invokestatic 35, 3) := dk_184 0 35 (dk_at dksX2_set_0 10 rfl rfl)
theorem dX2_set_13 : decode cX2_set 13 = .ok (.invokevirtual 117, 3) := dk_182 0 117 (dk_at dksX2_set_0 13 rfl rfl)
theorem dX2_set_16 : decode cX2_set 16 = .ok (.ifCond .eq 5, 3) := dk_153 0 5 (dk_at dksX2_set_0 16 rfl rfl)
theorem dX2_set_19 : decode cX2_set 19 = .ok (.iconst 0, 1) := dk_3 (dk_at dksX2_set_0 19 rfl rfl)
theorem dX2_set_20 : decode cX2_set 20 = .ok (.ireturn, 1) := dk_172 (dk_at dksX2_set_0 20 rfl rfl)
theorem dX2_set_21 : decode cX2_set 21 = .ok (.aload_n 0, 1) := dk_42 (dk_at dksX2_set_0 21 rfl rfl)
theorem dX2_set_22 : decode cX2_set 22 = .ok (.getfield 20, 3) := dk_180 0 20 (dk_at dksX2_set_1 0 rfl rfl)
theorem dX2_set_25 : decode cX2_set 25 = .ok (.iload_n 1, 1) := dk_27 (dk_at dksX2_set_1 3 rfl rfl)
theorem dX2_set_26 : decode cX2_set 26 = .ok (.iaload, 1) := dk_46 (dk_at dksX2_set_1 4 rfl rfl)
theorem dX2_set_27 : decode cX2_set 27 = .ok (.istore_n 3, 1) := dk_62 (dk_at dksX2_set_1 5 rfl rfl)
theorem dX2_set_28 : decode cX2_set 28 = .ok (.aload_n 0, 1) := dk_42 (dk_at dksX2_set_1 6 rfl rfl)
theorem dX2_set_29 : decode cX2_set 29 = .ok (.getfield 20, 3) := dk_180 0 20 (dk_at dksX2_set_1 7 rfl rfl)
theorem dX2_set_32 : decode cX2_set 32 = .ok (.iload_n 1, 1) := dk_27 (dk_at dksX2_set_1 10 rfl rfl)
theorem dX2_set_33 : decode cX2_set 33 = .ok (.iload_n 2, 1) := dk_28 (dk_at dksX2_set_1 11 rfl rfl)
theorem dX2_set_34 : decode cX2_set 34 = .ok (.iastore, 1) := dk_79 (dk_at dksX2_set_1 12 rfl rfl)
theorem dX2_set_35 : decode cX2_set 35 = .ok (.aload_n 0, 1) := dk_42 (dk_at dksX2_set_1 13 rfl rfl)
theorem dX2_set_36 : decode cX2_set 36 = .ok (.iload_n 3, 1) := dk_29 (dk_at dksX2_set_1 14 rfl rfl)
theorem dX2_set_37 : decode cX2_set 37 = .ok (.invokevirtual 121, 3) := dk_182 0 121 (dk_at dksX2_set_1 15 rfl rfl)
theorem dX2_set_40 : decode cX2_set 40 = .ok (.ireturn, 1) := dk_172 (dk_at dksX2_set_1 18 rfl rfl)
abbrev cX2_add : ByteArray := prog_7_method_35_code
def yX2_add : MethodName := ⟨RX2, "add", "(II)I"⟩
def dkwX2_add_2 : List UInt8 := [180, 0, 20, 27, 92, 46, 28, 96, 79, 42, 42, 180, 0, 20, 27, 46, 182, 0, 121, 172]
abbrev dktX2_add_2 : List UInt8 := dkwX2_add_2 ++ []
def dkwX2_add_1 : List UInt8 := [180, 0, 20, 27, 46, 28, 96, 3, 16, 99, 184, 0, 35, 154, 0, 8, 42, 182, 0, 125, 172, 42]
abbrev dktX2_add_1 : List UInt8 := dkwX2_add_1 ++ dktX2_add_2
def dkwX2_add_0 : List UInt8 := [42, 42, 27, 182, 0, 133, 28, 16, 157, 16, 99, 184, 0, 35, 182, 0, 117, 153, 0, 5, 3, 172, 42]
abbrev dktX2_add_0 : List UInt8 := dkwX2_add_0 ++ dktX2_add_1
theorem dksX2_add_0 : cX2_add.data.toList.drop 0 = dktX2_add_0 := by decide +kernel
theorem dksX2_add_1 : cX2_add.data.toList.drop 23 = dktX2_add_1 := dk_seg dksX2_add_0 23 rfl rfl
theorem dksX2_add_2 : cX2_add.data.toList.drop 45 = dktX2_add_2 := dk_seg dksX2_add_1 22 rfl rfl
theorem dX2_add_0 : decode cX2_add 0 = .ok (.aload_n 0, 1) := dk_42 (dk_at dksX2_add_0 0 rfl rfl)
theorem dX2_add_1 : decode cX2_add 1 = .ok (.aload_n 0, 1) := dk_42 (dk_at dksX2_add_0 1 rfl rfl)
theorem dX2_add_2 : decode cX2_add 2 = .ok (.iload_n 1, 1) := dk_27 (dk_at dksX2_add_0 2 rfl rfl)
theorem dX2_add_3 : decode cX2_add 3 = .ok (.invokevirtual 133, 3) := dk_182 0 133 (dk_at dksX2_add_0 3 rfl rfl)
theorem dX2_add_6 : decode cX2_add 6 = .ok (.iload_n 2, 1) := dk_28 (dk_at dksX2_add_0 6 rfl rfl)
theorem dX2_add_7 : decode cX2_add 7 = .ok (.bipush (-99), 2) := dk_16 157 (dk_at dksX2_add_0 7 rfl rfl)
theorem dX2_add_9 : decode cX2_add 9 = .ok (.bipush 99, 2) := dk_16 99 (dk_at dksX2_add_0 9 rfl rfl)
theorem dX2_add_11 : decode cX2_add 11 = .ok (.invokestatic 35, 3) := dk_184 0 35 (dk_at dksX2_add_0 11 rfl rfl)
theorem dX2_add_14 : decode cX2_add 14 = .ok (.invokevirtual 117, 3) := dk_182 0 117 (dk_at dksX2_add_0 14 rfl rfl)
theorem dX2_add_17 : decode cX2_add 17 = .ok (.ifCond .eq 5, 3) := dk_153 0 5 (dk_at dksX2_add_0 17 rfl rfl)
theorem dX2_add_20 : decode cX2_add 20 = .ok (.iconst 0, 1) := dk_3 (dk_at dksX2_add_0 20 rfl rfl)
theorem dX2_add_21 : decode cX2_add 21 = .ok (.ireturn, 1) := dk_172 (dk_at dksX2_add_0 21 rfl rfl)
theorem dX2_add_22 : decode cX2_add 22 = .ok (.aload_n 0, 1) := dk_42 (dk_at dksX2_add_0 22 rfl rfl)
theorem dX2_add_23 : decode cX2_add 23 = .ok (.getfield 20, 3) := dk_180 0 20 (dk_at dksX2_add_1 0 rfl rfl)
theorem dX2_add_26 : decode cX2_add 26 = .ok (.iload_n 1, 1) := dk_27 (dk_at dksX2_add_1 3 rfl rfl)
theorem dX2_add_27 : decode cX2_add 27 = .ok (.iaload, 1) := dk_46 (dk_at dksX2_add_1 4 rfl rfl)
theorem dX2_add_28 : decode cX2_add 28 = .ok (.iload_n 2, 1) := dk_28 (dk_at dksX2_add_1 5 rfl rfl)
theorem dX2_add_29 : decode cX2_add 29 = .ok (.iadd, 1) := dk_96 (dk_at dksX2_add_1 6 rfl rfl)
theorem dX2_add_30 : decode cX2_add 30 = .ok (.iconst 0, 1) := dk_3 (dk_at dksX2_add_1 7 rfl rfl)
theorem dX2_add_31 : decode cX2_add 31 = .ok (.bipush 99, 2) := dk_16 99 (dk_at dksX2_add_1 8 rfl rfl)
theorem dX2_add_33 : decode cX2_add 33 = .ok (.invokestatic 35, 3) := dk_184 0 35 (dk_at dksX2_add_1 10 rfl rfl)
theorem dX2_add_36 : decode cX2_add 36 = .ok (.ifCond .ne 8, 3) := dk_154 0 8 (dk_at dksX2_add_1 13 rfl rfl)
theorem dX2_add_39 : decode cX2_add 39 = .ok (.aload_n 0, 1) := dk_42 (dk_at dksX2_add_1 16 rfl rfl)
theorem dX2_add_40 : decode cX2_add 40 = .ok (.invokevirtual 125, 3) := dk_182 0 125 (dk_at dksX2_add_1 17 rfl rfl)
theorem dX2_add_43 : decode cX2_add 43 = .ok (.ireturn, 1) := dk_172 (dk_at dksX2_add_1 20 rfl rfl)
theorem dX2_add_44 : decode cX2_add 44 = .ok (.aload_n 0, 1) := dk_42 (dk_at dksX2_add_1 21 rfl rfl)
theorem dX2_add_45 : decode cX2_add 45 = .ok (.getfield 20, 3) := dk_180 0 20 (dk_at dksX2_add_2 0 rfl rfl)
theorem dX2_add_48 : decode cX2_add 48 = .ok (.iload_n 1, 1) := dk_27 (dk_at dksX2_add_2 3 rfl rfl)
theorem dX2_add_49 : decode cX2_add 49 = .ok (.dup2, 1) := dk_92 (dk_at dksX2_add_2 4 rfl rfl)
theorem dX2_add_50 : decode cX2_add 50 = .ok (.iaload, 1) := dk_46 (dk_at dksX2_add_2 5 rfl rfl)
theorem dX2_add_51 : decode cX2_add 51 = .ok (.iload_n 2, 1) := dk_28 (dk_at dksX2_add_2 6 rfl rfl)
theorem dX2_add_52 : decode cX2_add 52 = .ok (.iadd, 1) := dk_96 (dk_at dksX2_add_2 7 rfl rfl)
theorem dX2_add_53 : decode cX2_add 53 = .ok (.iastore, 1) := dk_79 (dk_at dksX2_add_2 8 rfl rfl)
theorem dX2_add_54 : decode cX2_add 54 = .ok (.aload_n 0, 1) := dk_42 (dk_at dksX2_add_2 9 rfl rfl)
theorem dX2_add_55 : decode cX2_add 55 = .ok (.aload_n 0, 1) := dk_42 (dk_at dksX2_add_2 10 rfl rfl)
theorem dX2_add_56 : decode cX2_add 56 = .ok (.getfield 20, 3) := dk_180 0 20 (dk_at dksX2_add_2 11 rfl rfl)
theorem dX2_add_59 : decode cX2_add 59 = .ok (.iload_n 1, 1) := dk_27 (dk_at dksX2_add_2 14 rfl rfl)
theorem dX2_add_60 : decode cX2_add 60 = .ok (.iaload, 1) := dk_46 (dk_at dksX2_add_2 15 rfl rfl)
theorem dX2_add_61 : decode cX2_add 61 = .ok (.invokevirtual 121, 3) := dk_182 0 121 (dk_at dksX2_add_2 16 rfl rfl)
theorem dX2_add_64 : decode cX2_add 64 = .ok (.ireturn, 1) := dk_172 (dk_at dksX2_add_2 19 rfl rfl)
abbrev cX2_go : ByteArray := prog_7_method_38_code
def yX2_go : MethodName := ⟨RX2, "go", "(I)I"⟩
def dkwX2_go_0 : List UInt8 := [42, 27, 3, 182, 0, 144, 172]
abbrev dktX2_go_0 : List UInt8 := dkwX2_go_0 ++ []
theorem dksX2_go_0 : cX2_go.data.toList.drop 0 = dktX2_go_0 := by decide +kernel
theorem dX2_go_0 : decode cX2_go 0 = .ok (.aload_n 0, 1) := dk_42 (dk_at dksX2_go_0 0 rfl rfl)
theorem dX2_go_1 : decode cX2_go 1 = .ok (.iload_n 1, 1) := dk_27 (dk_at dksX2_go_0 1 rfl rfl)
theorem dX2_go_2 : decode cX2_go 2 = .ok (.iconst 0, 1) := dk_3 (dk_at dksX2_go_0 2 rfl rfl)
theorem dX2_go_3 : decode cX2_go 3 = .ok (.invokevirtual 144, 3) := dk_182 0 144 (dk_at dksX2_go_0 3 rfl rfl)
theorem dX2_go_6 : decode cX2_go 6 = .ok (.ireturn, 1) := dk_172 (dk_at dksX2_go_0 6 rfl rfl)
abbrev cX2_went : ByteArray := prog_7_method_37_code
def yX2_went : MethodName := ⟨RX2, "went", "(IZ)I"⟩
def dkwX2_went_2 : List UInt8 := [182, 0, 125, 172]
abbrev dktX2_went_2 : List UInt8 := dkwX2_went_2 ++ []
def dkwX2_went_1 : List UInt8 := [182, 0, 136, 153, 0, 18, 42, 42, 42, 180, 0, 20, 182, 0, 140, 182, 0, 121, 167, 0, 7, 42]
abbrev dktX2_went_1 : List UInt8 := dkwX2_went_1 ++ dktX2_went_2
def dkwX2_went_0 : List UInt8 := [42, 42, 27, 182, 0, 129, 4, 182, 0, 117, 153, 0, 5, 3, 172, 42, 42, 180, 0, 20, 27, 28]
abbrev dktX2_went_0 : List UInt8 := dkwX2_went_0 ++ dktX2_went_1
theorem dksX2_went_0 : cX2_went.data.toList.drop 0 = dktX2_went_0 := by decide +kernel
theorem dksX2_went_1 : cX2_went.data.toList.drop 22 = dktX2_went_1 := dk_seg dksX2_went_0 22 rfl rfl
theorem dksX2_went_2 : cX2_went.data.toList.drop 44 = dktX2_went_2 := dk_seg dksX2_went_1 22 rfl rfl
theorem dX2_went_0 : decode cX2_went 0 = .ok (.aload_n 0, 1) := dk_42 (dk_at dksX2_went_0 0 rfl rfl)
theorem dX2_went_1 : decode cX2_went 1 = .ok (.aload_n 0, 1) := dk_42 (dk_at dksX2_went_0 1 rfl rfl)
theorem dX2_went_2 : decode cX2_went 2 = .ok (.iload_n 1, 1) := dk_27 (dk_at dksX2_went_0 2 rfl rfl)
theorem dX2_went_3 : decode cX2_went 3 = .ok (.invokevirtual 129, 3) := dk_182 0 129 (dk_at dksX2_went_0 3 rfl rfl)
theorem dX2_went_6 : decode cX2_went 6 = .ok (.iconst 1, 1) := dk_4 (dk_at dksX2_went_0 6 rfl rfl)
theorem dX2_went_7 : decode cX2_went 7 = .ok (.invokevirtual 117, 3) := dk_182 0 117 (dk_at dksX2_went_0 7 rfl rfl)
theorem dX2_went_10 : decode cX2_went 10 = .ok (.ifCond .eq 5, 3) := dk_153 0 5 (dk_at dksX2_went_0 10 rfl rfl)
theorem dX2_went_13 : decode cX2_went 13 = .ok (.iconst 0, 1) := dk_3 (dk_at dksX2_went_0 13 rfl rfl)
theorem dX2_went_14 : decode cX2_went 14 = .ok (.ireturn, 1) := dk_172 (dk_at dksX2_went_0 14 rfl rfl)
theorem dX2_went_15 : decode cX2_went 15 = .ok (.aload_n 0, 1) := dk_42 (dk_at dksX2_went_0 15 rfl rfl)
theorem dX2_went_16 : decode cX2_went 16 = .ok (.aload_n 0, 1) := dk_42 (dk_at dksX2_went_0 16 rfl rfl)
theorem dX2_went_17 : decode cX2_went 17 = .ok (.getfield 20, 3) := dk_180 0 20 (dk_at dksX2_went_0 17 rfl rfl)
theorem dX2_went_20 : decode cX2_went 20 = .ok (.iload_n 1, 1) := dk_27 (dk_at dksX2_went_0 20 rfl rfl)
theorem dX2_went_21 : decode cX2_went 21 = .ok (.iload_n 2, 1) := dk_28 (dk_at dksX2_went_0 21 rfl rfl)
theorem dX2_went_22 : decode cX2_went 22 = .ok (.invokevirtual 136, 3) := dk_182 0 136 (dk_at dksX2_went_1 0 rfl rfl)
theorem dX2_went_25 : decode cX2_went 25 = .ok (.ifCond .eq 18, 3) := dk_153 0 18 (dk_at dksX2_went_1 3 rfl rfl)
theorem dX2_went_28 : decode cX2_went 28 = .ok (.aload_n 0, 1) := dk_42 (dk_at dksX2_went_1 6 rfl rfl)
theorem dX2_went_29 : decode cX2_went 29 = .ok (.aload_n 0, 1) := dk_42 (dk_at dksX2_went_1 7 rfl rfl)
theorem dX2_went_30 : decode cX2_went 30 = .ok (.aload_n 0, 1) := dk_42 (dk_at dksX2_went_1 8 rfl rfl)
theorem dX2_went_31 : decode cX2_went 31 = .ok (.getfield 20, 3) := dk_180 0 20 (dk_at dksX2_went_1 9 rfl rfl)
theorem dX2_went_34 : decode cX2_went 34 = .ok (.invokevirtual 140, 3) := dk_182 0 140 (dk_at dksX2_went_1 12 rfl rfl)
theorem dX2_went_37 : decode cX2_went 37 = .ok (.invokevirtual 121, 3) := dk_182 0 121 (dk_at dksX2_went_1 15 rfl rfl)
theorem dX2_went_40 : decode cX2_went 40 = .ok (.goto 7, 3) := dk_167 0 7 (dk_at dksX2_went_1 18 rfl rfl)
theorem dX2_went_43 : decode cX2_went 43 = .ok (.aload_n 0, 1) := dk_42 (dk_at dksX2_went_1 21 rfl rfl)
theorem dX2_went_44 : decode cX2_went 44 = .ok (.invokevirtual 125, 3) := dk_182 0 125 (dk_at dksX2_went_2 0 rfl rfl)
theorem dX2_went_47 : decode cX2_went 47 = .ok (.ireturn, 1) := dk_172 (dk_at dksX2_went_2 3 rfl rfl)
abbrev cX2_went_2 : ByteArray := prog_7_method_36_code
def yX2_went_2 : MethodName := ⟨RX2, "went", "([IIZ)Z"⟩
def dkwX2_went_2_3 : List UInt8 := [21, 4, 42, 180, 0, 26, 21, 4, 46, 79, 132, 4, 1, 167, 255, 233, 4, 172]
abbrev dktX2_went_2_3 : List UInt8 := dkwX2_went_2_3 ++ []
def dkwX2_went_2_2 : List UInt8 := [164, 0, 5, 3, 172, 132, 4, 1, 167, 255, 230, 3, 54, 4, 21, 4, 42, 180, 0, 7, 162, 0, 20, 43]
abbrev dktX2_went_2_2 : List UInt8 := dkwX2_went_2_2 ++ dktX2_went_2_3
def dkwX2_went_2_1 : List UInt8 := [182, 0, 75, 3, 54, 4, 21, 4, 42, 180, 0, 7, 162, 0, 23, 42, 180, 0, 26, 21, 4, 46, 16, 99]
abbrev dktX2_went_2_1 : List UInt8 := dkwX2_went_2_1 ++ dktX2_went_2_2
def dkwX2_went_2_0 : List UInt8 := [42, 43, 3, 28, 29, 182, 0, 71, 154, 0, 5, 3, 172, 42, 43, 3, 28, 29, 42, 180, 0, 26, 3]
abbrev dktX2_went_2_0 : List UInt8 := dkwX2_went_2_0 ++ dktX2_went_2_1
theorem dksX2_went_2_0 : cX2_went_2.data.toList.drop 0 = dktX2_went_2_0 := by decide +kernel
theorem dksX2_went_2_1 : cX2_went_2.data.toList.drop 23 = dktX2_went_2_1 := dk_seg dksX2_went_2_0 23 rfl rfl
theorem dksX2_went_2_2 : cX2_went_2.data.toList.drop 47 = dktX2_went_2_2 := dk_seg dksX2_went_2_1 24 rfl rfl
theorem dksX2_went_2_3 : cX2_went_2.data.toList.drop 71 = dktX2_went_2_3 := dk_seg dksX2_went_2_2 24 rfl rfl
theorem dX2_went_2_0 : decode cX2_went_2 0 = .ok (.aload_n 0, 1) := dk_42 (dk_at dksX2_went_2_0 0 rfl rfl)
theorem dX2_went_2_1 : decode cX2_went_2 1 = .ok (.aload_n 1, 1) := dk_43 (dk_at dksX2_went_2_0 1 rfl rfl)
theorem dX2_went_2_2 : decode cX2_went_2 2 = .ok (.iconst 0, 1) := dk_3 (dk_at dksX2_went_2_0 2 rfl rfl)
theorem dX2_went_2_3 : decode cX2_went_2 3 = .ok (.iload_n 2, 1) := dk_28 (dk_at dksX2_went_2_0 3 rfl rfl)
theorem dX2_went_2_4 : decode cX2_went_2 4 = .ok (.iload_n 3, 1) := dk_29 (dk_at dksX2_went_2_0 4 rfl rfl)
theorem dX2_went_2_5 : decode cX2_went_2 5 = .ok (.invokevirtual 71, 3) := dk_182 0 71 (dk_at dksX2_went_2_0 5 rfl rfl)
theorem dX2_went_2_8 : decode cX2_went_2 8 = .ok (.ifCond .ne 5, 3) := dk_154 0 5 (dk_at dksX2_went_2_0 8 rfl rfl)
theorem dX2_went_2_11 : decode cX2_went_2 11 = .ok (.iconst 0, 1) := dk_3 (dk_at dksX2_went_2_0 11 rfl rfl)
theorem dX2_went_2_12 : decode cX2_went_2 12 = .ok (.ireturn, 1) := dk_172 (dk_at dksX2_went_2_0 12 rfl rfl)
theorem dX2_went_2_13 : decode cX2_went_2 13 = .ok (.aload_n 0, 1) := dk_42 (dk_at dksX2_went_2_0 13 rfl rfl)
theorem dX2_went_2_14 : decode cX2_went_2 14 = .ok (.aload_n 1, 1) := dk_43 (dk_at dksX2_went_2_0 14 rfl rfl)
theorem dX2_went_2_15 : decode cX2_went_2 15 = .ok (.iconst 0, 1) := dk_3 (dk_at dksX2_went_2_0 15 rfl rfl)
theorem dX2_went_2_16 : decode cX2_went_2 16 = .ok (.iload_n 2, 1) := dk_28 (dk_at dksX2_went_2_0 16 rfl rfl)
theorem dX2_went_2_17 : decode cX2_went_2 17 = .ok (.iload_n 3, 1) := dk_29 (dk_at dksX2_went_2_0 17 rfl rfl)
theorem dX2_went_2_18 : decode cX2_went_2 18 = .ok (.aload_n 0, 1) := dk_42 (dk_at dksX2_went_2_0 18 rfl rfl)
theorem dX2_went_2_19 : decode cX2_went_2 19 = .ok (.getfield 26, 3) := dk_180 0 26 (dk_at dksX2_went_2_0 19 rfl rfl)
theorem dX2_went_2_22 : decode cX2_went_2 22 = .ok (.iconst 0, 1) := dk_3 (dk_at dksX2_went_2_0 22 rfl rfl)
theorem dX2_went_2_23 : decode cX2_went_2 23 = .ok (.invokevirtual 75, 3) := dk_182 0 75 (dk_at dksX2_went_2_1 0 rfl rfl)
theorem dX2_went_2_26 : decode cX2_went_2 26 = .ok (.iconst 0, 1) := dk_3 (dk_at dksX2_went_2_1 3 rfl rfl)
theorem dX2_went_2_27 : decode cX2_went_2 27 = .ok (.istore 4, 2) := dk_54 4 (dk_at dksX2_went_2_1 4 rfl rfl)
theorem dX2_went_2_29 : decode cX2_went_2 29 = .ok (.iload 4, 2) := dk_21 4 (dk_at dksX2_went_2_1 6 rfl rfl)
theorem dX2_went_2_31 : decode cX2_went_2 31 = .ok (.aload_n 0, 1) := dk_42 (dk_at dksX2_went_2_1 8 rfl rfl)
theorem dX2_went_2_32 : decode cX2_went_2 32 = .ok (.getfield 7, 3) := dk_180 0 7 (dk_at dksX2_went_2_1 9 rfl rfl)
theorem dX2_went_2_35 : decode cX2_went_2 35 = .ok (.if_icmp .ge 23, 3) := dk_162 0 23 (dk_at dksX2_went_2_1 12 rfl rfl)
theorem dX2_went_2_38 : decode cX2_went_2 38 = .ok (.aload_n 0, 1) := dk_42 (dk_at dksX2_went_2_1 15 rfl rfl)
theorem dX2_went_2_39 : decode cX2_went_2 39 = .ok (.getfield 26, 3) := dk_180 0 26 (dk_at dksX2_went_2_1 16 rfl rfl)
theorem dX2_went_2_42 : decode cX2_went_2 42 = .ok (.iload 4, 2) := dk_21 4 (dk_at dksX2_went_2_1 19 rfl rfl)
theorem dX2_went_2_44 : decode cX2_went_2 44 = .ok (.iaload, 1) := dk_46 (dk_at dksX2_went_2_1 21 rfl rfl)
theorem dX2_went_2_45 : decode cX2_went_2 45 = .ok (.bipush 99, 2) := dk_16 99 (dk_at dksX2_went_2_1 22 rfl rfl)
theorem dX2_went_2_47 : decode cX2_went_2 47 = .ok (.if_icmp .le 5, 3) := dk_164 0 5 (dk_at dksX2_went_2_2 0 rfl rfl)
theorem dX2_went_2_50 : decode cX2_went_2 50 = .ok (.iconst 0, 1) := dk_3 (dk_at dksX2_went_2_2 3 rfl rfl)
theorem dX2_went_2_51 : decode cX2_went_2 51 = .ok (.ireturn, 1) := dk_172 (dk_at dksX2_went_2_2 4 rfl rfl)
theorem dX2_went_2_52 : decode cX2_went_2 52 = .ok (.iinc 4 1, 3) := dk_132 4 1 (dk_at dksX2_went_2_2 5 rfl rfl)
theorem dX2_went_2_55 : decode cX2_went_2 55 = .ok (.goto (-26), 3) := dk_167 255 230 (dk_at dksX2_went_2_2 8 rfl rfl)
theorem dX2_went_2_58 : decode cX2_went_2 58 = .ok (.iconst 0, 1) := dk_3 (dk_at dksX2_went_2_2 11 rfl rfl)
theorem dX2_went_2_59 : decode cX2_went_2 59 = .ok (.istore 4, 2) := dk_54 4 (dk_at dksX2_went_2_2 12 rfl rfl)
theorem dX2_went_2_61 : decode cX2_went_2 61 = .ok (.iload 4, 2) := dk_21 4 (dk_at dksX2_went_2_2 14 rfl rfl)
theorem dX2_went_2_63 : decode cX2_went_2 63 = .ok (.aload_n 0, 1) := dk_42 (dk_at dksX2_went_2_2 16 rfl rfl)
theorem dX2_went_2_64 : decode cX2_went_2 64 = .ok (.getfield 7, 3) := dk_180 0 7 (dk_at dksX2_went_2_2 17 rfl rfl)
theorem dX2_went_2_67 : decode cX2_went_2 67 = .ok (.if_icmp .ge 20, 3) := dk_162 0 20 (dk_at dksX2_went_2_2 20 rfl rfl)
theorem dX2_went_2_70 : decode cX2_went_2 70 = .ok (.aload_n 1, 1) := dk_43 (dk_at dksX2_went_2_2 23 rfl rfl)
theorem dX2_went_2_71 : decode cX2_went_2 71 = .ok (.iload 4, 2) := dk_21 4 (dk_at dksX2_went_2_3 0 rfl rfl)
theorem dX2_went_2_73 : decode cX2_went_2 73 = .ok (.aload_n 0, 1) := dk_42 (dk_at dksX2_went_2_3 2 rfl rfl)
theorem dX2_went_2_74 : decode cX2_went_2 74 = .ok (.getfield 26, 3) := dk_180 0 26 (dk_at dksX2_went_2_3 3 rfl rfl)
theorem dX2_went_2_77 : decode cX2_went_2 77 = .ok (.iload 4, 2) := dk_21 4 (dk_at dksX2_went_2_3 6 rfl rfl)
theorem dX2_went_2_79 : decode cX2_went_2 79 = .ok (.iaload, 1) := dk_46 (dk_at dksX2_went_2_3 8 rfl rfl)
theorem dX2_went_2_80 : decode cX2_went_2 80 = .ok (.iastore, 1) := dk_79 (dk_at dksX2_went_2_3 9 rfl rfl)
theorem dX2_went_2_81 : decode cX2_went_2 81 = .ok (.iinc 4 1, 3) := dk_132 4 1 (dk_at dksX2_went_2_3 10 rfl rfl)
theorem dX2_went_2_84 : decode cX2_went_2 84 = .ok (.goto (-23), 3) := dk_167 255 233 (dk_at dksX2_went_2_3 13 rfl rfl)
theorem dX2_went_2_87 : decode cX2_went_2 87 = .ok (.iconst 1, 1) := dk_4 (dk_at dksX2_went_2_3 16 rfl rfl)
theorem dX2_went_2_88 : decode cX2_went_2 88 = .ok (.ireturn, 1) := dk_172 (dk_at dksX2_went_2_3 17 rfl rfl)
abbrev cX2_goes : ByteArray := prog_7_method_10_code
def yX2_goes : MethodName := ⟨RX2, "goes", "([IIIZ)Z"⟩
def dkwX2_goes_2 : List UInt8 := [161, 0, 7, 4, 167, 0, 4, 3, 126, 54, 5, 132, 6, 1, 167, 255, 201, 21, 5, 172]
abbrev dktX2_goes_2 : List UInt8 := dkwX2_goes_2 ++ []
def dkwX2_goes_1 : List UInt8 := [21, 4, 153, 0, 10, 42, 180, 0, 17, 167, 0, 7, 42, 180, 0, 13, 16, 8, 29, 104, 21, 6, 96, 46]
abbrev dktX2_goes_1 : List UInt8 := dkwX2_goes_1 ++ dktX2_goes_2
def dkwX2_goes_0 : List UInt8 := [4, 54, 5, 3, 54, 6, 21, 6, 42, 180, 0, 7, 162, 0, 52, 21, 5, 43, 28, 21, 6, 96, 46]
abbrev dktX2_goes_0 : List UInt8 := dkwX2_goes_0 ++ dktX2_goes_1
theorem dksX2_goes_0 : cX2_goes.data.toList.drop 0 = dktX2_goes_0 := by decide +kernel
theorem dksX2_goes_1 : cX2_goes.data.toList.drop 23 = dktX2_goes_1 := dk_seg dksX2_goes_0 23 rfl rfl
theorem dksX2_goes_2 : cX2_goes.data.toList.drop 47 = dktX2_goes_2 := dk_seg dksX2_goes_1 24 rfl rfl
theorem dX2_goes_0 : decode cX2_goes 0 = .ok (.iconst 1, 1) := dk_4 (dk_at dksX2_goes_0 0 rfl rfl)
theorem dX2_goes_1 : decode cX2_goes 1 = .ok (.istore 5, 2) := dk_54 5 (dk_at dksX2_goes_0 1 rfl rfl)
theorem dX2_goes_3 : decode cX2_goes 3 = .ok (.iconst 0, 1) := dk_3 (dk_at dksX2_goes_0 3 rfl rfl)
theorem dX2_goes_4 : decode cX2_goes 4 = .ok (.istore 6, 2) := dk_54 6 (dk_at dksX2_goes_0 4 rfl rfl)
theorem dX2_goes_6 : decode cX2_goes 6 = .ok (.iload 6, 2) := dk_21 6 (dk_at dksX2_goes_0 6 rfl rfl)
theorem dX2_goes_8 : decode cX2_goes 8 = .ok (.aload_n 0, 1) := dk_42 (dk_at dksX2_goes_0 8 rfl rfl)
theorem dX2_goes_9 : decode cX2_goes 9 = .ok (.getfield 7, 3) := dk_180 0 7 (dk_at dksX2_goes_0 9 rfl rfl)
theorem dX2_goes_12 : decode cX2_goes 12 = .ok (.if_icmp .ge 52, 3) := dk_162 0 52 (dk_at dksX2_goes_0 12 rfl rfl)
theorem dX2_goes_15 : decode cX2_goes 15 = .ok (.iload 5, 2) := dk_21 5 (dk_at dksX2_goes_0 15 rfl rfl)
theorem dX2_goes_17 : decode cX2_goes 17 = .ok (.aload_n 1, 1) := dk_43 (dk_at dksX2_goes_0 17 rfl rfl)
theorem dX2_goes_18 : decode cX2_goes 18 = .ok (.iload_n 2, 1) := dk_28 (dk_at dksX2_goes_0 18 rfl rfl)
theorem dX2_goes_19 : decode cX2_goes 19 = .ok (.iload 6, 2) := dk_21 6 (dk_at dksX2_goes_0 19 rfl rfl)
theorem dX2_goes_21 : decode cX2_goes 21 = .ok (.iadd, 1) := dk_96 (dk_at dksX2_goes_0 21 rfl rfl)
theorem dX2_goes_22 : decode cX2_goes 22 = .ok (.iaload, 1) := dk_46 (dk_at dksX2_goes_0 22 rfl rfl)
theorem dX2_goes_23 : decode cX2_goes 23 = .ok (.iload 4, 2) := dk_21 4 (dk_at dksX2_goes_1 0 rfl rfl)
theorem dX2_goes_25 : decode cX2_goes 25 = .ok (.ifCond .eq 10, 3) := dk_153 0 10 (dk_at dksX2_goes_1 2 rfl rfl)
theorem dX2_goes_28 : decode cX2_goes 28 = .ok (.aload_n 0, 1) := dk_42 (dk_at dksX2_goes_1 5 rfl rfl)
theorem dX2_goes_29 : decode cX2_goes 29 = .ok (.getfield 17, 3) := dk_180 0 17 (dk_at dksX2_goes_1 6 rfl rfl)
theorem dX2_goes_32 : decode cX2_goes 32 = .ok (.goto 7, 3) := dk_167 0 7 (dk_at dksX2_goes_1 9 rfl rfl)
theorem dX2_goes_35 : decode cX2_goes 35 = .ok (.aload_n 0, 1) := dk_42 (dk_at dksX2_goes_1 12 rfl rfl)
theorem dX2_goes_36 : decode cX2_goes 36 = .ok (.getfield 13, 3) := dk_180 0 13 (dk_at dksX2_goes_1 13 rfl rfl)
theorem dX2_goes_39 : decode cX2_goes 39 = .ok (.bipush 8, 2) := dk_16 8 (dk_at dksX2_goes_1 16 rfl rfl)
theorem dX2_goes_41 : decode cX2_goes 41 = .ok (.iload_n 3, 1) := dk_29 (dk_at dksX2_goes_1 18 rfl rfl)
theorem dX2_goes_42 : decode cX2_goes 42 = .ok (.imul, 1) := dk_104 (dk_at dksX2_goes_1 19 rfl rfl)
theorem dX2_goes_43 : decode cX2_goes 43 = .ok (.iload 6, 2) := dk_21 6 (dk_at dksX2_goes_1 20 rfl rfl)
theorem dX2_goes_45 : decode cX2_goes 45 = .ok (.iadd, 1) := dk_96 (dk_at dksX2_goes_1 22 rfl rfl)
theorem dX2_goes_46 : decode cX2_goes 46 = .ok (.iaload, 1) := dk_46 (dk_at dksX2_goes_1 23 rfl rfl)
theorem dX2_goes_47 : decode cX2_goes 47 = .ok (.if_icmp .lt 7, 3) := dk_161 0 7 (dk_at dksX2_goes_2 0 rfl rfl)
theorem dX2_goes_50 : decode cX2_goes 50 = .ok (.iconst 1, 1) := dk_4 (dk_at dksX2_goes_2 3 rfl rfl)
theorem dX2_goes_51 : decode cX2_goes 51 = .ok (.goto 4, 3) := dk_167 0 4 (dk_at dksX2_goes_2 4 rfl rfl)
theorem dX2_goes_54 : decode cX2_goes 54 = .ok (.iconst 0, 1) := dk_3 (dk_at dksX2_goes_2 7 rfl rfl)
theorem dX2_goes_55 : decode cX2_goes 55 = .ok (.iand, 1) := dk_126 (dk_at dksX2_goes_2 8 rfl rfl)
theorem dX2_goes_56 : decode cX2_goes 56 = .ok (.istore 5, 2) := dk_54 5 (dk_at dksX2_goes_2 9 rfl rfl)
theorem dX2_goes_58 : decode cX2_goes 58 = .ok (.iinc 6 1, 3) := dk_132 6 1 (dk_at dksX2_goes_2 11 rfl rfl)
theorem dX2_goes_61 : decode cX2_goes 61 = .ok (.goto (-55), 3) := dk_167 255 201 (dk_at dksX2_goes_2 14 rfl rfl)
theorem dX2_goes_64 : decode cX2_goes 64 = .ok (.iload 5, 2) := dk_21 5 (dk_at dksX2_goes_2 17 rfl rfl)
theorem dX2_goes_66 : decode cX2_goes 66 = .ok (.ireturn, 1) := dk_172 (dk_at dksX2_goes_2 19 rfl rfl)
abbrev cX2_lay : ByteArray := prog_7_method_12_code
def yX2_lay : MethodName := ⟨RX2, "lay", "([IIIZ[II)V"⟩
def dkwX2_lay_3 : List UInt8 := [177]
abbrev dktX2_lay_3 : List UInt8 := dkwX2_lay_3 ++ []
def dkwX2_lay_2 : List UInt8 := [21, 7, 182, 0, 46, 116, 167, 0, 10, 42, 29, 21, 7, 182, 0, 46, 96, 79, 132, 7, 1, 167, 255, 190]
abbrev dktX2_lay_2 : List UInt8 := dkwX2_lay_2 ++ dktX2_lay_3
def dkwX2_lay_1 : List UInt8 := [46, 18, 45, 160, 0, 8, 18, 45, 167, 0, 33, 43, 28, 21, 7, 96, 46, 21, 4, 153, 0, 14, 42, 29]
abbrev dktX2_lay_1 : List UInt8 := dkwX2_lay_1 ++ dktX2_lay_2
def dkwX2_lay_0 : List UInt8 := [3, 54, 7, 21, 7, 42, 180, 0, 7, 162, 0, 63, 25, 5, 21, 6, 21, 7, 96, 43, 28, 21, 7, 96]
abbrev dktX2_lay_0 : List UInt8 := dkwX2_lay_0 ++ dktX2_lay_1
theorem dksX2_lay_0 : cX2_lay.data.toList.drop 0 = dktX2_lay_0 := by decide +kernel
theorem dksX2_lay_1 : cX2_lay.data.toList.drop 24 = dktX2_lay_1 := dk_seg dksX2_lay_0 24 rfl rfl
theorem dksX2_lay_2 : cX2_lay.data.toList.drop 48 = dktX2_lay_2 := dk_seg dksX2_lay_1 24 rfl rfl
theorem dksX2_lay_3 : cX2_lay.data.toList.drop 72 = dktX2_lay_3 := dk_seg dksX2_lay_2 24 rfl rfl
theorem dX2_lay_0 : decode cX2_lay 0 = .ok (.iconst 0, 1) := dk_3 (dk_at dksX2_lay_0 0 rfl rfl)
theorem dX2_lay_1 : decode cX2_lay 1 = .ok (.istore 7, 2) := dk_54 7 (dk_at dksX2_lay_0 1 rfl rfl)
theorem dX2_lay_3 : decode cX2_lay 3 = .ok (.iload 7, 2) := dk_21 7 (dk_at dksX2_lay_0 3 rfl rfl)
theorem dX2_lay_5 : decode cX2_lay 5 = .ok (.aload_n 0, 1) := dk_42 (dk_at dksX2_lay_0 5 rfl rfl)
theorem dX2_lay_6 : decode cX2_lay 6 = .ok (.getfield 7, 3) := dk_180 0 7 (dk_at dksX2_lay_0 6 rfl rfl)
theorem dX2_lay_9 : decode cX2_lay 9 = .ok (.if_icmp .ge 63, 3) := dk_162 0 63 (dk_at dksX2_lay_0 9 rfl rfl)
theorem dX2_lay_12 : decode cX2_lay 12 = .ok (.aload 5, 2) := dk_25 5 (dk_at dksX2_lay_0 12 rfl rfl)
theorem dX2_lay_14 : decode cX2_lay 14 = .ok (.iload 6, 2) := dk_21 6 (dk_at dksX2_lay_0 14 rfl rfl)
theorem dX2_lay_16 : decode cX2_lay 16 = .ok (.iload 7, 2) := dk_21 7 (dk_at dksX2_lay_0 16 rfl rfl)
theorem dX2_lay_18 : decode cX2_lay 18 = .ok (.iadd, 1) := dk_96 (dk_at dksX2_lay_0 18 rfl rfl)
theorem dX2_lay_19 : decode cX2_lay 19 = .ok (.aload_n 1, 1) := dk_43 (dk_at dksX2_lay_0 19 rfl rfl)
theorem dX2_lay_20 : decode cX2_lay 20 = .ok (.iload_n 2, 1) := dk_28 (dk_at dksX2_lay_0 20 rfl rfl)
theorem dX2_lay_21 : decode cX2_lay 21 = .ok (.iload 7, 2) := dk_21 7 (dk_at dksX2_lay_0 21 rfl rfl)
theorem dX2_lay_23 : decode cX2_lay 23 = .ok (.iadd, 1) := dk_96 (dk_at dksX2_lay_0 23 rfl rfl)
theorem dX2_lay_24 : decode cX2_lay 24 = .ok (.iaload, 1) := dk_46 (dk_at dksX2_lay_1 0 rfl rfl)
theorem dX2_lay_25 : decode cX2_lay 25 = .ok (.ldc 45, 2) := dk_18 45 (dk_at dksX2_lay_1 1 rfl rfl)
theorem dX2_lay_27 : decode cX2_lay 27 = .ok (.if_icmp .ne 8, 3) := dk_160 0 8 (dk_at dksX2_lay_1 3 rfl rfl)
theorem dX2_lay_30 : decode cX2_lay 30 = .ok (.ldc 45, 2) := dk_18 45 (dk_at dksX2_lay_1 6 rfl rfl)
theorem dX2_lay_32 : decode cX2_lay 32 = .ok (.goto 33, 3) := dk_167 0 33 (dk_at dksX2_lay_1 8 rfl rfl)
theorem dX2_lay_35 : decode cX2_lay 35 = .ok (.aload_n 1, 1) := dk_43 (dk_at dksX2_lay_1 11 rfl rfl)
theorem dX2_lay_36 : decode cX2_lay 36 = .ok (.iload_n 2, 1) := dk_28 (dk_at dksX2_lay_1 12 rfl rfl)
theorem dX2_lay_37 : decode cX2_lay 37 = .ok (.iload 7, 2) := dk_21 7 (dk_at dksX2_lay_1 13 rfl rfl)
theorem dX2_lay_39 : decode cX2_lay 39 = .ok (.iadd, 1) := dk_96 (dk_at dksX2_lay_1 15 rfl rfl)
theorem dX2_lay_40 : decode cX2_lay 40 = .ok (.iaload, 1) := dk_46 (dk_at dksX2_lay_1 16 rfl rfl)
theorem dX2_lay_41 : decode cX2_lay 41 = .ok (.iload 4, 2) := dk_21 4 (dk_at dksX2_lay_1 17 rfl rfl)
theorem dX2_lay_43 : decode cX2_lay 43 = .ok (.ifCond .eq 14, 3) := dk_153 0 14 (dk_at dksX2_lay_1 19 rfl rfl)
theorem dX2_lay_46 : decode cX2_lay 46 = .ok (.aload_n 0, 1) := dk_42 (dk_at dksX2_lay_1 22 rfl rfl)
theorem dX2_lay_47 : decode cX2_lay 47 = .ok (.iload_n 3, 1) := dk_29 (dk_at dksX2_lay_1 23 rfl rfl)
theorem dX2_lay_48 : decode cX2_lay 48 = .ok (.iload 7, 2) := dk_21 7 (dk_at dksX2_lay_2 0 rfl rfl)
theorem dX2_lay_50 : decode cX2_lay 50 = .ok (.invokevirtual 46, 3) := dk_182 0 46 (dk_at dksX2_lay_2 2 rfl rfl)
theorem dX2_lay_53 : decode cX2_lay 53 = .ok (.ineg, 1) := dk_116 (dk_at dksX2_lay_2 5 rfl rfl)
theorem dX2_lay_54 : decode cX2_lay 54 = .ok (.goto 10, 3) := dk_167 0 10 (dk_at dksX2_lay_2 6 rfl rfl)
theorem dX2_lay_57 : decode cX2_lay 57 = .ok (.aload_n 0, 1) := dk_42 (dk_at dksX2_lay_2 9 rfl rfl)
theorem dX2_lay_58 : decode cX2_lay 58 = .ok (.iload_n 3, 1) := dk_29 (dk_at dksX2_lay_2 10 rfl rfl)
theorem dX2_lay_59 : decode cX2_lay 59 = .ok (.iload 7, 2) := dk_21 7 (dk_at dksX2_lay_2 11 rfl rfl)
theorem dX2_lay_61 : decode cX2_lay 61 = .ok (.invokevirtual 46, 3) := dk_182 0 46 (dk_at dksX2_lay_2 13 rfl rfl)
theorem dX2_lay_64 : decode cX2_lay 64 = .ok (.iadd, 1) := dk_96 (dk_at dksX2_lay_2 16 rfl rfl)
theorem dX2_lay_65 : decode cX2_lay 65 = .ok (.iastore, 1) := dk_79 (dk_at dksX2_lay_2 17 rfl rfl)
theorem dX2_lay_66 : decode cX2_lay 66 = .ok (.iinc 7 1, 3) := dk_132 7 1 (dk_at dksX2_lay_2 18 rfl rfl)
theorem dX2_lay_69 : decode cX2_lay 69 = .ok (.goto (-66), 3) := dk_167 255 190 (dk_at dksX2_lay_2 21 rfl rfl)
theorem dX2_lay_72 : decode cX2_lay 72 = .ok (.return_, 1) := dk_177 (dk_at dksX2_lay_3 0 rfl rfl)
abbrev cX2_change : ByteArray := prog_7_method_11_code
def yX2_change : MethodName := ⟨RX2, "change", "(II)I"⟩
def dkwX2_change_0 : List UInt8 := [42, 180, 0, 17, 16, 8, 27, 104, 28, 96, 46, 42, 180, 0, 13, 16, 8, 27, 104, 28, 96, 46, 100, 172]
abbrev dktX2_change_0 : List UInt8 := dkwX2_change_0 ++ []
theorem dksX2_change_0 : cX2_change.data.toList.drop 0 = dktX2_change_0 := by decide +kernel
theorem dX2_change_0 : decode cX2_change 0 = .ok (.aload_n 0, 1) := dk_42 (dk_at dksX2_change_0 0 rfl rfl)
theorem dX2_change_1 : decode cX2_change 1 = .ok (.getfield 17, 3) := dk_180 0 17 (dk_at dksX2_change_0 1 rfl rfl)
theorem dX2_change_4 : decode cX2_change 4 = .ok (.bipush 8, 2) := dk_16 8 (dk_at dksX2_change_0 4 rfl rfl)
theorem dX2_change_6 : decode cX2_change 6 = .ok (.iload_n 1, 1) := dk_27 (dk_at dksX2_change_0 6 rfl rfl)
theorem dX2_change_7 : decode cX2_change 7 = .ok (.imul, 1) := dk_104 (dk_at dksX2_change_0 7 rfl rfl)
theorem dX2_change_8 : decode cX2_change 8 = .ok (.iload_n 2, 1) := dk_28 (dk_at dksX2_change_0 8 rfl rfl)
theorem dX2_change_9 : decode cX2_change 9 = .ok (.iadd, 1) := dk_96 (dk_at dksX2_change_0 9 rfl rfl)
theorem dX2_change_10 : decode cX2_change 10 = .ok (.iaload, 1) := dk_46 (dk_at dksX2_change_0 10 rfl rfl)
theorem dX2_change_11 : decode cX2_change 11 = .ok (.aload_n 0, 1) := dk_42 (dk_at dksX2_change_0 11 rfl rfl)
theorem dX2_change_12 : decode cX2_change 12 = .ok (.getfield 13, 3) := dk_180 0 13 (dk_at dksX2_change_0 12 rfl rfl)
theorem dX2_change_15 : decode cX2_change 15 = .ok (.bipush 8, 2) := dk_16 8 (dk_at dksX2_change_0 15 rfl rfl)
theorem dX2_change_17 : decode cX2_change 17 = .ok (.iload_n 1, 1) := dk_27 (dk_at dksX2_change_0 17 rfl rfl)
theorem dX2_change_18 : decode cX2_change 18 = .ok (.imul, 1) := dk_104 (dk_at dksX2_change_0 18 rfl rfl)
theorem dX2_change_19 : decode cX2_change 19 = .ok (.iload_n 2, 1) := dk_28 (dk_at dksX2_change_0 19 rfl rfl)
theorem dX2_change_20 : decode cX2_change 20 = .ok (.iadd, 1) := dk_96 (dk_at dksX2_change_0 20 rfl rfl)
theorem dX2_change_21 : decode cX2_change 21 = .ok (.iaload, 1) := dk_46 (dk_at dksX2_change_0 21 rfl rfl)
theorem dX2_change_22 : decode cX2_change 22 = .ok (.isub, 1) := dk_100 (dk_at dksX2_change_0 22 rfl rfl)
theorem dX2_change_23 : decode cX2_change 23 = .ok (.ireturn, 1) := dk_172 (dk_at dksX2_change_0 23 rfl rfl)
abbrev cX2_all : ByteArray := prog_7_method_16_code
def yX2_all : MethodName := ⟨RX2, "all", "([I)I"⟩
def dkwX2_all_1 : List UInt8 := [28, 172]
abbrev dktX2_all_1 : List UInt8 := dkwX2_all_1 ++ []
def dkwX2_all_0 : List UInt8 := [3, 61, 3, 62, 29, 42, 180, 0, 7, 162, 0, 15, 28, 43, 29, 46, 96, 61, 132, 3, 1, 167, 255, 239]
abbrev dktX2_all_0 : List UInt8 := dkwX2_all_0 ++ dktX2_all_1
theorem dksX2_all_0 : cX2_all.data.toList.drop 0 = dktX2_all_0 := by decide +kernel
theorem dksX2_all_1 : cX2_all.data.toList.drop 24 = dktX2_all_1 := dk_seg dksX2_all_0 24 rfl rfl
theorem dX2_all_0 : decode cX2_all 0 = .ok (.iconst 0, 1) := dk_3 (dk_at dksX2_all_0 0 rfl rfl)
theorem dX2_all_1 : decode cX2_all 1 = .ok (.istore_n 2, 1) := dk_61 (dk_at dksX2_all_0 1 rfl rfl)
theorem dX2_all_2 : decode cX2_all 2 = .ok (.iconst 0, 1) := dk_3 (dk_at dksX2_all_0 2 rfl rfl)
theorem dX2_all_3 : decode cX2_all 3 = .ok (.istore_n 3, 1) := dk_62 (dk_at dksX2_all_0 3 rfl rfl)
theorem dX2_all_4 : decode cX2_all 4 = .ok (.iload_n 3, 1) := dk_29 (dk_at dksX2_all_0 4 rfl rfl)
theorem dX2_all_5 : decode cX2_all 5 = .ok (.aload_n 0, 1) := dk_42 (dk_at dksX2_all_0 5 rfl rfl)
theorem dX2_all_6 : decode cX2_all 6 = .ok (.getfield 7, 3) := dk_180 0 7 (dk_at dksX2_all_0 6 rfl rfl)
theorem dX2_all_9 : decode cX2_all 9 = .ok (.if_icmp .ge 15, 3) := dk_162 0 15 (dk_at dksX2_all_0 9 rfl rfl)
theorem dX2_all_12 : decode cX2_all 12 = .ok (.iload_n 2, 1) := dk_28 (dk_at dksX2_all_0 12 rfl rfl)
theorem dX2_all_13 : decode cX2_all 13 = .ok (.aload_n 1, 1) := dk_43 (dk_at dksX2_all_0 13 rfl rfl)
theorem dX2_all_14 : decode cX2_all 14 = .ok (.iload_n 3, 1) := dk_29 (dk_at dksX2_all_0 14 rfl rfl)
theorem dX2_all_15 : decode cX2_all 15 = .ok (.iaload, 1) := dk_46 (dk_at dksX2_all_0 15 rfl rfl)
theorem dX2_all_16 : decode cX2_all 16 = .ok (.iadd, 1) := dk_96 (dk_at dksX2_all_0 16 rfl rfl)
theorem dX2_all_17 : decode cX2_all 17 = .ok (.istore_n 2, 1) := dk_61 (dk_at dksX2_all_0 17 rfl rfl)
theorem dX2_all_18 : decode cX2_all 18 = .ok (.iinc 3 1, 3) := dk_132 3 1 (dk_at dksX2_all_0 18 rfl rfl)
theorem dX2_all_21 : decode cX2_all 21 = .ok (.goto (-17), 3) := dk_167 255 239 (dk_at dksX2_all_0 21 rfl rfl)
theorem dX2_all_24 : decode cX2_all 24 = .ok (.iload_n 2, 1) := dk_28 (dk_at dksX2_all_1 0 rfl rfl)
theorem dX2_all_25 : decode cX2_all 25 = .ok (.ireturn, 1) := dk_172 (dk_at dksX2_all_1 1 rfl rfl)
abbrev cX2_back : ByteArray := prog_7_method_39_code
def yX2_back : MethodName := ⟨RX2, "back", "(I)I"⟩
def dkwX2_back_0 : List UInt8 := [42, 27, 4, 182, 0, 144, 172]
abbrev dktX2_back_0 : List UInt8 := dkwX2_back_0 ++ []
theorem dksX2_back_0 : cX2_back.data.toList.drop 0 = dktX2_back_0 := by decide +kernel
theorem dX2_back_0 : decode cX2_back 0 = .ok (.aload_n 0, 1) := dk_42 (dk_at dksX2_back_0 0 rfl rfl)
theorem dX2_back_1 : decode cX2_back 1 = .ok (.iload_n 1, 1) := dk_27 (dk_at dksX2_back_0 1 rfl rfl)
theorem dX2_back_2 : decode cX2_back 2 = .ok (.iconst 1, 1) := dk_4 (dk_at dksX2_back_0 2 rfl rfl)
theorem dX2_back_3 : decode cX2_back 3 = .ok (.invokevirtual 144, 3) := dk_182 0 144 (dk_at dksX2_back_0 3 rfl rfl)
theorem dX2_back_6 : decode cX2_back 6 = .ok (.ireturn, 1) := dk_172 (dk_at dksX2_back_0 6 rfl rfl)
abbrev cX2_run : ByteArray := prog_7_method_40_code
def yX2_run : MethodName := ⟨RX2, "run", "(I)I"⟩
def dkwX2_run_3 : List UInt8 := [153, 0, 7, 4, 167, 0, 4, 3, 96, 61, 167, 255, 199, 42, 28, 182, 0, 121, 172]
abbrev dktX2_run_3 : List UInt8 := dkwX2_run_3 ++ []
def dkwX2_run_2 : List UInt8 := [154, 0, 21, 42, 42, 180, 0, 20, 21, 4, 3, 182, 0, 136, 62, 132, 4, 1, 167, 255, 228, 28, 29]
abbrev dktX2_run_2 : List UInt8 := dkwX2_run_2 ++ dktX2_run_3
def dkwX2_run_1 : List UInt8 := [162, 0, 58, 29, 153, 0, 54, 3, 62, 3, 54, 4, 21, 4, 42, 180, 0, 32, 162, 0, 25, 29]
abbrev dktX2_run_1 : List UInt8 := dkwX2_run_1 ++ dktX2_run_2
def dkwX2_run_0 : List UInt8 := [42, 27, 3, 16, 20, 184, 0, 35, 4, 182, 0, 117, 153, 0, 5, 3, 172, 3, 61, 4, 62, 28, 27]
abbrev dktX2_run_0 : List UInt8 := dkwX2_run_0 ++ dktX2_run_1
theorem dksX2_run_0 : cX2_run.data.toList.drop 0 = dktX2_run_0 := by decide +kernel
theorem dksX2_run_1 : cX2_run.data.toList.drop 23 = dktX2_run_1 := dk_seg dksX2_run_0 23 rfl rfl
theorem dksX2_run_2 : cX2_run.data.toList.drop 45 = dktX2_run_2 := dk_seg dksX2_run_1 22 rfl rfl
theorem dksX2_run_3 : cX2_run.data.toList.drop 68 = dktX2_run_3 := dk_seg dksX2_run_2 23 rfl rfl
theorem dX2_run_0 : decode cX2_run 0 = .ok (.aload_n 0, 1) := dk_42 (dk_at dksX2_run_0 0 rfl rfl)
theorem dX2_run_1 : decode cX2_run 1 = .ok (.iload_n 1, 1) := dk_27 (dk_at dksX2_run_0 1 rfl rfl)
theorem dX2_run_2 : decode cX2_run 2 = .ok (.iconst 0, 1) := dk_3 (dk_at dksX2_run_0 2 rfl rfl)
theorem dX2_run_3 : decode cX2_run 3 = .ok (.bipush 20, 2) := dk_16 20 (dk_at dksX2_run_0 3 rfl rfl)
theorem dX2_run_5 : decode cX2_run 5 = .ok (.invokestatic 35, 3) := dk_184 0 35 (dk_at dksX2_run_0 5 rfl rfl)
theorem dX2_run_8 : decode cX2_run 8 = .ok (.iconst 1, 1) := dk_4 (dk_at dksX2_run_0 8 rfl rfl)
theorem dX2_run_9 : decode cX2_run 9 = .ok (.invokevirtual 117, 3) := dk_182 0 117 (dk_at dksX2_run_0 9 rfl rfl)
theorem dX2_run_12 : decode cX2_run 12 = .ok (.ifCond .eq 5, 3) := dk_153 0 5 (dk_at dksX2_run_0 12 rfl rfl)
theorem dX2_run_15 : decode cX2_run 15 = .ok (.iconst 0, 1) := dk_3 (dk_at dksX2_run_0 15 rfl rfl)
theorem dX2_run_16 : decode cX2_run 16 = .ok (.ireturn, 1) := dk_172 (dk_at dksX2_run_0 16 rfl rfl)
theorem dX2_run_17 : decode cX2_run 17 = .ok (.iconst 0, 1) := dk_3 (dk_at dksX2_run_0 17 rfl rfl)
theorem dX2_run_18 : decode cX2_run 18 = .ok (.istore_n 2, 1) := dk_61 (dk_at dksX2_run_0 18 rfl rfl)
theorem dX2_run_19 : decode cX2_run 19 = .ok (.iconst 1, 1) := dk_4 (dk_at dksX2_run_0 19 rfl rfl)
theorem dX2_run_20 : decode cX2_run 20 = .ok (.istore_n 3, 1) := dk_62 (dk_at dksX2_run_0 20 rfl rfl)
theorem dX2_run_21 : decode cX2_run 21 = .ok (.iload_n 2, 1) := dk_28 (dk_at dksX2_run_0 21 rfl rfl)
theorem dX2_run_22 : decode cX2_run 22 = .ok (.iload_n 1, 1) := dk_27 (dk_at dksX2_run_0 22 rfl rfl)
theorem dX2_run_23 : decode cX2_run 23 = .ok (.if_icmp .ge 58, 3) := dk_162 0 58 (dk_at dksX2_run_1 0 rfl rfl)
theorem dX2_run_26 : decode cX2_run 26 = .ok (.iload_n 3, 1) := dk_29 (dk_at dksX2_run_1 3 rfl rfl)
theorem dX2_run_27 : decode cX2_run 27 = .ok (.ifCond .eq 54, 3) := dk_153 0 54 (dk_at dksX2_run_1 4 rfl rfl)
theorem dX2_run_30 : decode cX2_run 30 = .ok (.iconst 0, 1) := dk_3 (dk_at dksX2_run_1 7 rfl rfl)
theorem dX2_run_31 : decode cX2_run 31 = .ok (.istore_n 3, 1) := dk_62 (dk_at dksX2_run_1 8 rfl rfl)
theorem dX2_run_32 : decode cX2_run 32 = .ok (.iconst 0, 1) := dk_3 (dk_at dksX2_run_1 9 rfl rfl)
theorem dX2_run_33 : decode cX2_run 33 = .ok (.istore 4, 2) := dk_54 4 (dk_at dksX2_run_1 10 rfl rfl)
theorem dX2_run_35 : decode cX2_run 35 = .ok (.iload 4, 2) := dk_21 4 (dk_at dksX2_run_1 12 rfl rfl)
theorem dX2_run_37 : decode cX2_run 37 = .ok (.aload_n 0, 1) := dk_42 (dk_at dksX2_run_1 14 rfl rfl)
theorem dX2_run_38 : decode cX2_run 38 = .ok (.getfield 32, 3) := dk_180 0 32 (dk_at dksX2_run_1 15 rfl rfl)
theorem dX2_run_41 : decode cX2_run 41 = .ok (.if_icmp .ge 25, 3) := dk_162 0 25 (dk_at dksX2_run_1 18 rfl rfl)
theorem dX2_run_44 : decode cX2_run 44 = .ok (.iload_n 3, 1) := dk_29 (dk_at dksX2_run_1 21 rfl rfl)
theorem dX2_run_45 : decode cX2_run 45 = .ok (.ifCond .ne 21, 3) := dk_154 0 21 (dk_at dksX2_run_2 0 rfl rfl)
theorem dX2_run_48 : decode cX2_run 48 = .ok (.aload_n 0, 1) := dk_42 (dk_at dksX2_run_2 3 rfl rfl)
theorem dX2_run_49 : decode cX2_run 49 = .ok (.aload_n 0, 1) := dk_42 (dk_at dksX2_run_2 4 rfl rfl)
theorem dX2_run_50 : decode cX2_run 50 = .ok (.getfield 20, 3) := dk_180 0 20 (dk_at dksX2_run_2 5 rfl rfl)
theorem dX2_run_53 : decode cX2_run 53 = .ok (.iload 4, 2) := dk_21 4 (dk_at dksX2_run_2 8 rfl rfl)
theorem dX2_run_55 : decode cX2_run 55 = .ok (.iconst 0, 1) := dk_3 (dk_at dksX2_run_2 10 rfl rfl)
theorem dX2_run_56 : decode cX2_run 56 = .ok (.invokevirtual 136, 3) := dk_182 0 136 (dk_at dksX2_run_2 11 rfl rfl)
theorem dX2_run_59 : decode cX2_run 59 = .ok (.istore_n 3, 1) := dk_62 (dk_at dksX2_run_2 14 rfl rfl)
theorem dX2_run_60 : decode cX2_run 60 = .ok (.iinc 4 1, 3) := dk_132 4 1 (dk_at dksX2_run_2 15 rfl rfl)
theorem dX2_run_63 : decode cX2_run 63 = .ok (.goto (-28), 3) := dk_167 255 228 (dk_at dksX2_run_2 18 rfl rfl)
theorem dX2_run_66 : decode cX2_run 66 = .ok (.iload_n 2, 1) := dk_28 (dk_at dksX2_run_2 21 rfl rfl)
theorem dX2_run_67 : decode cX2_run 67 = .ok (.iload_n 3, 1) := dk_29 (dk_at dksX2_run_2 22 rfl rfl)
theorem dX2_run_68 : decode cX2_run 68 = .ok (.ifCond .eq 7, 3) := dk_153 0 7 (dk_at dksX2_run_3 0 rfl rfl)
theorem dX2_run_71 : decode cX2_run 71 = .ok (.iconst 1, 1) := dk_4 (dk_at dksX2_run_3 3 rfl rfl)
theorem dX2_run_72 : decode cX2_run 72 = .ok (.goto 4, 3) := dk_167 0 4 (dk_at dksX2_run_3 4 rfl rfl)
theorem dX2_run_75 : decode cX2_run 75 = .ok (.iconst 0, 1) := dk_3 (dk_at dksX2_run_3 7 rfl rfl)
theorem dX2_run_76 : decode cX2_run 76 = .ok (.iadd, 1) := dk_96 (dk_at dksX2_run_3 8 rfl rfl)
theorem dX2_run_77 : decode cX2_run 77 = .ok (.istore_n 2, 1) := dk_61 (dk_at dksX2_run_3 9 rfl rfl)
theorem dX2_run_78 : decode cX2_run 78 = .ok (.goto (-57), 3) := dk_167 255 199 (dk_at dksX2_run_3 10 rfl rfl)
theorem dX2_run_81 : decode cX2_run 81 = .ok (.aload_n 0, 1) := dk_42 (dk_at dksX2_run_3 13 rfl rfl)
theorem dX2_run_82 : decode cX2_run 82 = .ok (.iload_n 2, 1) := dk_28 (dk_at dksX2_run_3 14 rfl rfl)
theorem dX2_run_83 : decode cX2_run 83 = .ok (.invokevirtual 121, 3) := dk_182 0 121 (dk_at dksX2_run_3 15 rfl rfl)
theorem dX2_run_86 : decode cX2_run 86 = .ok (.ireturn, 1) := dk_172 (dk_at dksX2_run_3 18 rfl rfl)
abbrev cX2_keep : ByteArray := prog_7_method_41_code
def yX2_keep : MethodName := ⟨RX2, "keep", "(I)I"⟩
def dkwX2_keep_3 : List UInt8 := [4, 182, 0, 121, 172]
abbrev dktX2_keep_3 : List UInt8 := dkwX2_keep_3 ++ []
def dkwX2_keep_2 : List UInt8 := [29, 96, 42, 180, 0, 20, 29, 46, 79, 132, 3, 1, 167, 255, 230, 42, 28, 153, 0, 7, 3, 167, 0, 4]
abbrev dktX2_keep_2 : List UInt8 := dkwX2_keep_2 ++ dktX2_keep_3
def dkwX2_keep_1 : List UInt8 := [16, 8, 27, 104, 182, 0, 79, 61, 3, 62, 29, 16, 8, 162, 0, 26, 42, 180, 0, 23, 16, 8, 27, 104]
abbrev dktX2_keep_1 : List UInt8 := dkwX2_keep_1 ++ dktX2_keep_2
def dkwX2_keep_0 : List UInt8 := [42, 27, 184, 0, 147, 4, 182, 0, 117, 153, 0, 5, 3, 172, 42, 42, 180, 0, 20, 3, 42, 180, 0, 23]
abbrev dktX2_keep_0 : List UInt8 := dkwX2_keep_0 ++ dktX2_keep_1
theorem dksX2_keep_0 : cX2_keep.data.toList.drop 0 = dktX2_keep_0 := by decide +kernel
theorem dksX2_keep_1 : cX2_keep.data.toList.drop 24 = dktX2_keep_1 := dk_seg dksX2_keep_0 24 rfl rfl
theorem dksX2_keep_2 : cX2_keep.data.toList.drop 48 = dktX2_keep_2 := dk_seg dksX2_keep_1 24 rfl rfl
theorem dksX2_keep_3 : cX2_keep.data.toList.drop 72 = dktX2_keep_3 := dk_seg dksX2_keep_2 24 rfl rfl
theorem dX2_keep_0 : decode cX2_keep 0 = .ok (.aload_n 0, 1) := dk_42 (dk_at dksX2_keep_0 0 rfl rfl)
theorem dX2_keep_1 : decode cX2_keep 1 = .ok (.iload_n 1, 1) := dk_27 (dk_at dksX2_keep_0 1 rfl rfl)
theorem dX2_keep_2 : decode cX2_keep 2 = .ok (.invokestatic 147, 3) := dk_184 0 147 (dk_at dksX2_keep_0 2 rfl rfl)
theorem dX2_keep_5 : decode cX2_keep 5 = .ok (.iconst 1, 1) := dk_4 (dk_at dksX2_keep_0 5 rfl rfl)
theorem dX2_keep_6 : decode cX2_keep 6 = .ok (.invokevirtual 117, 3) := dk_182 0 117 (dk_at dksX2_keep_0 6 rfl rfl)
theorem dX2_keep_9 : decode cX2_keep 9 = .ok (.ifCond .eq 5, 3) := dk_153 0 5 (dk_at dksX2_keep_0 9 rfl rfl)
theorem dX2_keep_12 : decode cX2_keep 12 = .ok (.iconst 0, 1) := dk_3 (dk_at dksX2_keep_0 12 rfl rfl)
theorem dX2_keep_13 : decode cX2_keep 13 = .ok (.ireturn, 1) := dk_172 (dk_at dksX2_keep_0 13 rfl rfl)
theorem dX2_keep_14 : decode cX2_keep 14 = .ok (.aload_n 0, 1) := dk_42 (dk_at dksX2_keep_0 14 rfl rfl)
theorem dX2_keep_15 : decode cX2_keep 15 = .ok (.aload_n 0, 1) := dk_42 (dk_at dksX2_keep_0 15 rfl rfl)
theorem dX2_keep_16 : decode cX2_keep 16 = .ok (.getfield 20, 3) := dk_180 0 20 (dk_at dksX2_keep_0 16 rfl rfl)
theorem dX2_keep_19 : decode cX2_keep 19 = .ok (.iconst 0, 1) := dk_3 (dk_at dksX2_keep_0 19 rfl rfl)
theorem dX2_keep_20 : decode cX2_keep 20 = .ok (.aload_n 0, 1) := dk_42 (dk_at dksX2_keep_0 20 rfl rfl)
theorem dX2_keep_21 : decode cX2_keep 21 = .ok (.getfield 23, 3) := dk_180 0 23 (dk_at dksX2_keep_0 21 rfl rfl)
theorem dX2_keep_24 : decode cX2_keep 24 = .ok (.bipush 8, 2) := dk_16 8 (dk_at dksX2_keep_1 0 rfl rfl)
theorem dX2_keep_26 : decode cX2_keep 26 = .ok (.iload_n 1, 1) := dk_27 (dk_at dksX2_keep_1 2 rfl rfl)
theorem dX2_keep_27 : decode cX2_keep 27 = .ok (.imul, 1) := dk_104 (dk_at dksX2_keep_1 3 rfl rfl)
theorem dX2_keep_28 : decode cX2_keep 28 = .ok (.invokevirtual 79, 3) := dk_182 0 79 (dk_at dksX2_keep_1 4 rfl rfl)
theorem dX2_keep_31 : decode cX2_keep 31 = .ok (.istore_n 2, 1) := dk_61 (dk_at dksX2_keep_1 7 rfl rfl)
theorem dX2_keep_32 : decode cX2_keep 32 = .ok (.iconst 0, 1) := dk_3 (dk_at dksX2_keep_1 8 rfl rfl)
theorem dX2_keep_33 : decode cX2_keep 33 = .ok (.istore_n 3, 1) := dk_62 (dk_at dksX2_keep_1 9 rfl rfl)
theorem dX2_keep_34 : decode cX2_keep 34 = .ok (.iload_n 3, 1) := dk_29 (dk_at dksX2_keep_1 10 rfl rfl)
theorem dX2_keep_35 : decode cX2_keep 35 = .ok (.bipush 8, 2) := dk_16 8 (dk_at dksX2_keep_1 11 rfl rfl)
theorem dX2_keep_37 : decode cX2_keep 37 = .ok (.if_icmp .ge 26, 3) := dk_162 0 26 (dk_at dksX2_keep_1 13 rfl rfl)
theorem dX2_keep_40 : decode cX2_keep 40 = .ok (.aload_n 0, 1) := dk_42 (dk_at dksX2_keep_1 16 rfl rfl)
theorem dX2_keep_41 : decode cX2_keep 41 = .ok (.getfield 23, 3) := dk_180 0 23 (dk_at dksX2_keep_1 17 rfl rfl)
theorem dX2_keep_44 : decode cX2_keep 44 = .ok (.bipush 8, 2) := dk_16 8 (dk_at dksX2_keep_1 20 rfl rfl)
theorem dX2_keep_46 : decode cX2_keep 46 = .ok (.iload_n 1, 1) := dk_27 (dk_at dksX2_keep_1 22 rfl rfl)
theorem dX2_keep_47 : decode cX2_keep 47 = .ok (.imul, 1) := dk_104 (dk_at dksX2_keep_1 23 rfl rfl)
theorem dX2_keep_48 : decode cX2_keep 48 = .ok (.iload_n 3, 1) := dk_29 (dk_at dksX2_keep_2 0 rfl rfl)
theorem dX2_keep_49 : decode cX2_keep 49 = .ok (.iadd, 1) := dk_96 (dk_at dksX2_keep_2 1 rfl rfl)
theorem dX2_keep_50 : decode cX2_keep 50 = .ok (.aload_n 0, 1) := dk_42 (dk_at dksX2_keep_2 2 rfl rfl)
theorem dX2_keep_51 : decode cX2_keep 51 = .ok (.getfield 20, 3) := dk_180 0 20 (dk_at dksX2_keep_2 3 rfl rfl)
theorem dX2_keep_54 : decode cX2_keep 54 = .ok (.iload_n 3, 1) := dk_29 (dk_at dksX2_keep_2 6 rfl rfl)
theorem dX2_keep_55 : decode cX2_keep 55 = .ok (.iaload, 1) := dk_46 (dk_at dksX2_keep_2 7 rfl rfl)
theorem dX2_keep_56 : decode cX2_keep 56 = .ok (.iastore, 1) := dk_79 (dk_at dksX2_keep_2 8 rfl rfl)
theorem dX2_keep_57 : decode cX2_keep 57 = .ok (.iinc 3 1, 3) := dk_132 3 1 (dk_at dksX2_keep_2 9 rfl rfl)
theorem dX2_keep_60 : decode cX2_keep 60 = .ok (.goto (-26), 3) := dk_167 255 230 (dk_at dksX2_keep_2 12 rfl rfl)
theorem dX2_keep_63 : decode cX2_keep 63 = .ok (.aload_n 0, 1) := dk_42 (dk_at dksX2_keep_2 15 rfl rfl)
theorem dX2_keep_64 : decode cX2_keep 64 = .ok (.iload_n 2, 1) := dk_28 (dk_at dksX2_keep_2 16 rfl rfl)
theorem dX2_keep_65 : decode cX2_keep 65 = .ok (.ifCond .eq 7, 3) := dk_153 0 7 (dk_at dksX2_keep_2 17 rfl rfl)
theorem dX2_keep_68 : decode cX2_keep 68 = .ok (.iconst 0, 1) := dk_3 (dk_at dksX2_keep_2 20 rfl rfl)
theorem dX2_keep_69 : decode cX2_keep 69 = .ok (.goto 4, 3) := dk_167 0 4 (dk_at dksX2_keep_2 21 rfl rfl)
theorem dX2_keep_72 : decode cX2_keep 72 = .ok (.iconst 1, 1) := dk_4 (dk_at dksX2_keep_3 0 rfl rfl)
theorem dX2_keep_73 : decode cX2_keep 73 = .ok (.invokevirtual 121, 3) := dk_182 0 121 (dk_at dksX2_keep_3 1 rfl rfl)
theorem dX2_keep_76 : decode cX2_keep 76 = .ok (.ireturn, 1) := dk_172 (dk_at dksX2_keep_3 4 rfl rfl)
abbrev cX2_isKept : ByteArray := prog_7_method_7_code
def yX2_isKept : MethodName := ⟨RX2, "isKept", "(I)Z"⟩
def dkwX2_isKept_0 : List UInt8 := [26, 3, 6, 184, 0, 35, 172]
abbrev dktX2_isKept_0 : List UInt8 := dkwX2_isKept_0 ++ []
theorem dksX2_isKept_0 : cX2_isKept.data.toList.drop 0 = dktX2_isKept_0 := by decide +kernel
theorem dX2_isKept_0 : decode cX2_isKept 0 = .ok (.iload_n 0, 1) := dk_26 (dk_at dksX2_isKept_0 0 rfl rfl)
theorem dX2_isKept_1 : decode cX2_isKept 1 = .ok (.iconst 0, 1) := dk_3 (dk_at dksX2_isKept_0 1 rfl rfl)
theorem dX2_isKept_2 : decode cX2_isKept 2 = .ok (.iconst 3, 1) := dk_6 (dk_at dksX2_isKept_0 2 rfl rfl)
theorem dX2_isKept_3 : decode cX2_isKept 3 = .ok (.invokestatic 35, 3) := dk_184 0 35 (dk_at dksX2_isKept_0 3 rfl rfl)
theorem dX2_isKept_6 : decode cX2_isKept 6 = .ok (.ireturn, 1) := dk_172 (dk_at dksX2_isKept_0 6 rfl rfl)
abbrev cX2_isSame : ByteArray := prog_7_method_13_code
def yX2_isSame : MethodName := ⟨RX2, "isSame", "([II[II)Z"⟩
def dkwX2_isSame_2 : List UInt8 := [21, 5, 172]
abbrev dktX2_isSame_2 : List UInt8 := dkwX2_isSame_2 ++ []
def dkwX2_isSame_1 : List UInt8 := [21, 4, 21, 6, 96, 46, 160, 0, 7, 4, 167, 0, 4, 3, 126, 54, 5, 132, 6, 1, 167, 255, 218]
abbrev dktX2_isSame_1 : List UInt8 := dkwX2_isSame_1 ++ dktX2_isSame_2
def dkwX2_isSame_0 : List UInt8 := [4, 54, 5, 3, 54, 6, 21, 6, 42, 180, 0, 7, 162, 0, 35, 21, 5, 43, 28, 21, 6, 96, 46, 45]
abbrev dktX2_isSame_0 : List UInt8 := dkwX2_isSame_0 ++ dktX2_isSame_1
theorem dksX2_isSame_0 : cX2_isSame.data.toList.drop 0 = dktX2_isSame_0 := by decide +kernel
theorem dksX2_isSame_1 : cX2_isSame.data.toList.drop 24 = dktX2_isSame_1 := dk_seg dksX2_isSame_0 24 rfl rfl
theorem dksX2_isSame_2 : cX2_isSame.data.toList.drop 47 = dktX2_isSame_2 := dk_seg dksX2_isSame_1 23 rfl rfl
theorem dX2_isSame_0 : decode cX2_isSame 0 = .ok (.iconst 1, 1) := dk_4 (dk_at dksX2_isSame_0 0 rfl rfl)
theorem dX2_isSame_1 : decode cX2_isSame 1 = .ok (.istore 5, 2) := dk_54 5 (dk_at dksX2_isSame_0 1 rfl rfl)
theorem dX2_isSame_3 : decode cX2_isSame 3 = .ok (.iconst 0, 1) := dk_3 (dk_at dksX2_isSame_0 3 rfl rfl)
theorem dX2_isSame_4 : decode cX2_isSame 4 = .ok (.istore 6, 2) := dk_54 6 (dk_at dksX2_isSame_0 4 rfl rfl)
theorem dX2_isSame_6 : decode cX2_isSame 6 = .ok (.iload 6, 2) := dk_21 6 (dk_at dksX2_isSame_0 6 rfl rfl)
theorem dX2_isSame_8 : decode cX2_isSame 8 = .ok (.aload_n 0, 1) := dk_42 (dk_at dksX2_isSame_0 8 rfl rfl)
theorem dX2_isSame_9 : decode cX2_isSame 9 = .ok (.getfield 7, 3) := dk_180 0 7 (dk_at dksX2_isSame_0 9 rfl rfl)
theorem dX2_isSame_12 : decode cX2_isSame 12 = .ok (.if_icmp .ge 35, 3) := dk_162 0 35 (dk_at dksX2_isSame_0 12 rfl rfl)
theorem dX2_isSame_15 : decode cX2_isSame 15 = .ok (.iload 5, 2) := dk_21 5 (dk_at dksX2_isSame_0 15 rfl rfl)
theorem dX2_isSame_17 : decode cX2_isSame 17 = .ok (.aload_n 1, 1) := dk_43 (dk_at dksX2_isSame_0 17 rfl rfl)
theorem dX2_isSame_18 : decode cX2_isSame 18 = .ok (.iload_n 2, 1) := dk_28 (dk_at dksX2_isSame_0 18 rfl rfl)
theorem dX2_isSame_19 : decode cX2_isSame 19 = .ok (.iload 6, 2) := dk_21 6 (dk_at dksX2_isSame_0 19 rfl rfl)
theorem dX2_isSame_21 : decode cX2_isSame 21 = .ok (.iadd, 1) := dk_96 (dk_at dksX2_isSame_0 21 rfl rfl)
theorem dX2_isSame_22 : decode cX2_isSame 22 = .ok (.iaload, 1) := dk_46 (dk_at dksX2_isSame_0 22 rfl rfl)
theorem dX2_isSame_23 : decode cX2_isSame 23 = .ok (.aload_n 3, 1) := dk_45 (dk_at dksX2_isSame_0 23 rfl rfl)
theorem dX2_isSame_24 : decode cX2_isSame 24 = .ok (.iload 4, 2) := dk_21 4 (dk_at dksX2_isSame_1 0 rfl rfl)
theorem dX2_isSame_26 : decode cX2_isSame 26 = .ok (.iload 6, 2) := dk_21 6 (dk_at dksX2_isSame_1 2 rfl rfl)
theorem dX2_isSame_28 : decode cX2_isSame 28 = .ok (.iadd, 1) := dk_96 (dk_at dksX2_isSame_1 4 rfl rfl)
theorem dX2_isSame_29 : decode cX2_isSame 29 = .ok (.iaload, 1) := dk_46 (dk_at dksX2_isSame_1 5 rfl rfl)
theorem dX2_isSame_30 : decode cX2_isSame 30 = .ok (.if_icmp .ne 7, 3) := dk_160 0 7 (dk_at dksX2_isSame_1 6 rfl rfl)
theorem dX2_isSame_33 : decode cX2_isSame 33 = .ok (.iconst 1, 1) := dk_4 (dk_at dksX2_isSame_1 9 rfl rfl)
theorem dX2_isSame_34 : decode cX2_isSame 34 = .ok (.goto 4, 3) := dk_167 0 4 (dk_at dksX2_isSame_1 10 rfl rfl)
theorem dX2_isSame_37 : decode cX2_isSame 37 = .ok (.iconst 0, 1) := dk_3 (dk_at dksX2_isSame_1 13 rfl rfl)
theorem dX2_isSame_38 : decode cX2_isSame 38 = .ok (.iand, 1) := dk_126 (dk_at dksX2_isSame_1 14 rfl rfl)
theorem dX2_isSame_39 : decode cX2_isSame 39 = .ok (.istore 5, 2) := dk_54 5 (dk_at dksX2_isSame_1 15 rfl rfl)
theorem dX2_isSame_41 : decode cX2_isSame 41 = .ok (.iinc 6 1, 3) := dk_132 6 1 (dk_at dksX2_isSame_1 17 rfl rfl)
theorem dX2_isSame_44 : decode cX2_isSame 44 = .ok (.goto (-38), 3) := dk_167 255 218 (dk_at dksX2_isSame_1 20 rfl rfl)
theorem dX2_isSame_47 : decode cX2_isSame 47 = .ok (.iload 5, 2) := dk_21 5 (dk_at dksX2_isSame_2 0 rfl rfl)
theorem dX2_isSame_49 : decode cX2_isSame 49 = .ok (.ireturn, 1) := dk_172 (dk_at dksX2_isSame_2 2 rfl rfl)
abbrev cX2_recall : ByteArray := prog_7_method_42_code
def yX2_recall : MethodName := ⟨RX2, "recall", "(I)I"⟩
def dkwX2_recall_3 : List UInt8 := [167, 0, 4, 4, 182, 0, 121, 172]
abbrev dktX2_recall_3 : List UInt8 := dkwX2_recall_3 ++ []
def dkwX2_recall_2 : List UInt8 := [180, 0, 23, 16, 8, 27, 104, 29, 96, 46, 79, 132, 3, 1, 167, 255, 230, 42, 28, 153, 0, 7, 3]
abbrev dktX2_recall_2 : List UInt8 := dkwX2_recall_2 ++ dktX2_recall_3
def dkwX2_recall_1 : List UInt8 := [16, 8, 27, 104, 182, 0, 79, 61, 3, 62, 29, 16, 8, 162, 0, 26, 42, 180, 0, 20, 29, 42]
abbrev dktX2_recall_1 : List UInt8 := dkwX2_recall_1 ++ dktX2_recall_2
def dkwX2_recall_0 : List UInt8 := [42, 27, 184, 0, 147, 4, 182, 0, 117, 153, 0, 5, 3, 172, 42, 42, 180, 0, 20, 3, 42, 180, 0, 23]
abbrev dktX2_recall_0 : List UInt8 := dkwX2_recall_0 ++ dktX2_recall_1
theorem dksX2_recall_0 : cX2_recall.data.toList.drop 0 = dktX2_recall_0 := by decide +kernel
theorem dksX2_recall_1 : cX2_recall.data.toList.drop 24 = dktX2_recall_1 := dk_seg dksX2_recall_0 24 rfl rfl
theorem dksX2_recall_2 : cX2_recall.data.toList.drop 46 = dktX2_recall_2 := dk_seg dksX2_recall_1 22 rfl rfl
theorem dksX2_recall_3 : cX2_recall.data.toList.drop 69 = dktX2_recall_3 := dk_seg dksX2_recall_2 23 rfl rfl
theorem dX2_recall_0 : decode cX2_recall 0 = .ok (.aload_n 0, 1) := dk_42 (dk_at dksX2_recall_0 0 rfl rfl)
theorem dX2_recall_1 : decode cX2_recall 1 = .ok (.iload_n 1, 1) := dk_27 (dk_at dksX2_recall_0 1 rfl rfl)
theorem dX2_recall_2 : decode cX2_recall 2 = .ok (.invokestatic 147, 3) := dk_184 0 147 (dk_at dksX2_recall_0 2 rfl rfl)
theorem dX2_recall_5 : decode cX2_recall 5 = .ok (.iconst 1, 1) := dk_4 (dk_at dksX2_recall_0 5 rfl rfl)
theorem dX2_recall_6 : decode cX2_recall 6 = .ok (.invokevirtual 117, 3) := dk_182 0 117 (dk_at dksX2_recall_0 6 rfl rfl)
theorem dX2_recall_9 : decode cX2_recall 9 = .ok (.ifCond .eq 5, 3) := dk_153 0 5 (dk_at dksX2_recall_0 9 rfl rfl)
theorem dX2_recall_12 : decode cX2_recall 12 = .ok (.iconst 0, 1) := dk_3 (dk_at dksX2_recall_0 12 rfl rfl)
theorem dX2_recall_13 : decode cX2_recall 13 = .ok (.ireturn, 1) := dk_172 (dk_at dksX2_recall_0 13 rfl rfl)
theorem dX2_recall_14 : decode cX2_recall 14 = .ok (.aload_n 0, 1) := dk_42 (dk_at dksX2_recall_0 14 rfl rfl)
theorem dX2_recall_15 : decode cX2_recall 15 = .ok (.aload_n 0, 1) := dk_42 (dk_at dksX2_recall_0 15 rfl rfl)
theorem dX2_recall_16 : decode cX2_recall 16 = .ok (.getfield 20, 3) := dk_180 0 20 (dk_at dksX2_recall_0 16 rfl rfl)
theorem dX2_recall_19 : decode cX2_recall 19 = .ok (.iconst 0, 1) := dk_3 (dk_at dksX2_recall_0 19 rfl rfl)
theorem dX2_recall_20 : decode cX2_recall 20 = .ok (.aload_n 0, 1) := dk_42 (dk_at dksX2_recall_0 20 rfl rfl)
theorem dX2_recall_21 : decode cX2_recall 21 = .ok (.getfield 23, 3) := dk_180 0 23 (dk_at dksX2_recall_0 21 rfl rfl)
theorem dX2_recall_24 : decode cX2_recall 24 = .ok (.bipush 8, 2) := dk_16 8 (dk_at dksX2_recall_1 0 rfl rfl)
theorem dX2_recall_26 : decode cX2_recall 26 = .ok (.iload_n 1, 1) := dk_27 (dk_at dksX2_recall_1 2 rfl rfl)
theorem dX2_recall_27 : decode cX2_recall 27 = .ok (.imul, 1) := dk_104 (dk_at dksX2_recall_1 3 rfl rfl)
theorem dX2_recall_28 : decode cX2_recall 28 = .ok (.invokevirtual 79, 3) := dk_182 0 79 (dk_at dksX2_recall_1 4 rfl rfl)
theorem dX2_recall_31 : decode cX2_recall 31 = .ok (.istore_n 2, 1) := dk_61 (dk_at dksX2_recall_1 7 rfl rfl)
theorem dX2_recall_32 : decode cX2_recall 32 = .ok (.iconst 0, 1) := dk_3 (dk_at dksX2_recall_1 8 rfl rfl)
theorem dX2_recall_33 : decode cX2_recall 33 = .ok (.istore_n 3, 1) := dk_62 (dk_at dksX2_recall_1 9 rfl rfl)
theorem dX2_recall_34 : decode cX2_recall 34 = .ok (.iload_n 3, 1) := dk_29 (dk_at dksX2_recall_1 10 rfl rfl)
theorem dX2_recall_35 : decode cX2_recall 35 = .ok (.bipush 8, 2) := dk_16 8 (dk_at dksX2_recall_1 11 rfl rfl)
theorem dX2_recall_37 : decode cX2_recall 37 = .ok (.if_icmp .ge 26, 3) := dk_162 0 26 (dk_at dksX2_recall_1 13 rfl rfl)
theorem dX2_recall_40 : decode cX2_recall 40 = .ok (.aload_n 0, 1) := dk_42 (dk_at dksX2_recall_1 16 rfl rfl)
theorem dX2_recall_41 : decode cX2_recall 41 = .ok (.getfield 20, 3) := dk_180 0 20 (dk_at dksX2_recall_1 17 rfl rfl)
theorem dX2_recall_44 : decode cX2_recall 44 = .ok (.iload_n 3, 1) := dk_29 (dk_at dksX2_recall_1 20 rfl rfl)
theorem dX2_recall_45 : decode cX2_recall 45 = .ok (.aload_n 0, 1) := dk_42 (dk_at dksX2_recall_1 21 rfl rfl)
theorem dX2_recall_46 : decode cX2_recall 46 = .ok (.getfield 23, 3) := dk_180 0 23 (dk_at dksX2_recall_2 0 rfl rfl)
theorem dX2_recall_49 : decode cX2_recall 49 = .ok (.bipush 8, 2) := dk_16 8 (dk_at dksX2_recall_2 3 rfl rfl)
theorem dX2_recall_51 : decode cX2_recall 51 = .ok (.iload_n 1, 1) := dk_27 (dk_at dksX2_recall_2 5 rfl rfl)
theorem dX2_recall_52 : decode cX2_recall 52 = .ok (.imul, 1) := dk_104 (dk_at dksX2_recall_2 6 rfl rfl)
theorem dX2_recall_53 : decode cX2_recall 53 = .ok (.iload_n 3, 1) := dk_29 (dk_at dksX2_recall_2 7 rfl rfl)
theorem dX2_recall_54 : decode cX2_recall 54 = .ok (.iadd, 1) := dk_96 (dk_at dksX2_recall_2 8 rfl rfl)
theorem dX2_recall_55 : decode cX2_recall 55 = .ok (.iaload, 1) := dk_46 (dk_at dksX2_recall_2 9 rfl rfl)
theorem dX2_recall_56 : decode cX2_recall 56 = .ok (.iastore, 1) := dk_79 (dk_at dksX2_recall_2 10 rfl rfl)
theorem dX2_recall_57 : decode cX2_recall 57 = .ok (.iinc 3 1, 3) := dk_132 3 1 (dk_at dksX2_recall_2 11 rfl rfl)
theorem dX2_recall_60 : decode cX2_recall 60 = .ok (.goto (-26), 3) := dk_167 255 230 (dk_at dksX2_recall_2 14 rfl rfl)
theorem dX2_recall_63 : decode cX2_recall 63 = .ok (.aload_n 0, 1) := dk_42 (dk_at dksX2_recall_2 17 rfl rfl)
theorem dX2_recall_64 : decode cX2_recall 64 = .ok (.iload_n 2, 1) := dk_28 (dk_at dksX2_recall_2 18 rfl rfl)
theorem dX2_recall_65 : decode cX2_recall 65 = .ok (.ifCond .eq 7, 3) := dk_153 0 7 (dk_at dksX2_recall_2 19 rfl rfl)
theorem dX2_recall_68 : decode cX2_recall 68 = .ok (.iconst 0, 1) := dk_3 (dk_at dksX2_recall_2 22 rfl rfl)
theorem dX2_recall_69 : decode cX2_recall 69 = .ok (.goto 4, 3) := dk_167 0 4 (dk_at dksX2_recall_3 0 rfl rfl)
theorem dX2_recall_72 : decode cX2_recall 72 = .ok (.iconst 1, 1) := dk_4 (dk_at dksX2_recall_3 3 rfl rfl)
theorem dX2_recall_73 : decode cX2_recall 73 = .ok (.invokevirtual 121, 3) := dk_182 0 121 (dk_at dksX2_recall_3 4 rfl rfl)
theorem dX2_recall_76 : decode cX2_recall 76 = .ok (.ireturn, 1) := dk_172 (dk_at dksX2_recall_3 7 rfl rfl)
abbrev cX2_follow : ByteArray := prog_7_method_43_code
def yX2_follow : MethodName := ⟨RX2, "follow", "(I)I"⟩
def dkwX2_follow_6 : List UInt8 := [167, 255, 234, 42, 25, 5, 190, 182, 0, 121, 172]
abbrev dktX2_follow_6 : List UInt8 := dkwX2_follow_6 ++ []
def dkwX2_follow_5 : List UInt8 := [54, 6, 21, 6, 16, 8, 162, 0, 21, 42, 180, 0, 20, 21, 6, 25, 4, 21, 6, 46, 79, 132, 6, 1]
abbrev dktX2_follow_5 : List UInt8 := dkwX2_follow_5 ++ dktX2_follow_6
def dkwX2_follow_4 : List UInt8 := [42, 25, 4, 21, 9, 3, 182, 0, 136, 154, 0, 8, 42, 182, 0, 125, 172, 132, 8, 1, 167, 255, 222, 3]
abbrev dktX2_follow_4 : List UInt8 := dkwX2_follow_4 ++ dktX2_follow_5
def dkwX2_follow_3 : List UInt8 := [58, 6, 25, 6, 190, 54, 7, 3, 54, 8, 21, 8, 21, 7, 162, 0, 33, 25, 6, 21, 8, 46, 54, 9]
abbrev dktX2_follow_3 : List UInt8 := dkwX2_follow_3 ++ dktX2_follow_4
def dkwX2_follow_2 : List UInt8 := [182, 0, 125, 172, 42, 180, 0, 20, 3, 184, 0, 154, 58, 4, 44, 29, 184, 0, 158, 58, 5, 25, 5]
abbrev dktX2_follow_2 : List UInt8 := dkwX2_follow_2 ++ dktX2_follow_3
def dkwX2_follow_1 : List UInt8 := [167, 0, 16, 42, 44, 42, 180, 0, 23, 16, 8, 27, 104, 182, 0, 87, 62, 29, 2, 160, 0, 8, 42]
abbrev dktX2_follow_1 : List UInt8 := dkwX2_follow_1 ++ dktX2_follow_2
def dkwX2_follow_0 : List UInt8 := [42, 27, 184, 0, 147, 4, 182, 0, 117, 153, 0, 5, 3, 172, 42, 182, 0, 150, 77, 44, 199, 0, 7, 2]
abbrev dktX2_follow_0 : List UInt8 := dkwX2_follow_0 ++ dktX2_follow_1
theorem dksX2_follow_0 : cX2_follow.data.toList.drop 0 = dktX2_follow_0 := by decide +kernel
theorem dksX2_follow_1 : cX2_follow.data.toList.drop 24 = dktX2_follow_1 := dk_seg dksX2_follow_0 24 rfl rfl
theorem dksX2_follow_2 : cX2_follow.data.toList.drop 47 = dktX2_follow_2 := dk_seg dksX2_follow_1 23 rfl rfl
theorem dksX2_follow_3 : cX2_follow.data.toList.drop 70 = dktX2_follow_3 := dk_seg dksX2_follow_2 23 rfl rfl
theorem dksX2_follow_4 : cX2_follow.data.toList.drop 94 = dktX2_follow_4 := dk_seg dksX2_follow_3 24 rfl rfl
theorem dksX2_follow_5 : cX2_follow.data.toList.drop 118 = dktX2_follow_5 := dk_seg dksX2_follow_4 24 rfl rfl
theorem dksX2_follow_6 : cX2_follow.data.toList.drop 142 = dktX2_follow_6 := dk_seg dksX2_follow_5 24 rfl rfl
theorem dX2_follow_0 : decode cX2_follow 0 = .ok (.aload_n 0, 1) := dk_42 (dk_at dksX2_follow_0 0 rfl rfl)
theorem dX2_follow_1 : decode cX2_follow 1 = .ok (.iload_n 1, 1) := dk_27 (dk_at dksX2_follow_0 1 rfl rfl)
theorem dX2_follow_2 : decode cX2_follow 2 = .ok (.invokestatic 147, 3) := dk_184 0 147 (dk_at dksX2_follow_0 2 rfl rfl)
theorem dX2_follow_5 : decode cX2_follow 5 = .ok (.iconst 1, 1) := dk_4 (dk_at dksX2_follow_0 5 rfl rfl)
theorem dX2_follow_6 : decode cX2_follow 6 = .ok (.invokevirtual 117, 3) := dk_182 0 117 (dk_at dksX2_follow_0 6 rfl rfl)
theorem dX2_follow_9 : decode cX2_follow 9 = .ok (.ifCond .eq 5, 3) := dk_153 0 5 (dk_at dksX2_follow_0 9 rfl rfl)
theorem dX2_follow_12 : decode cX2_follow 12 = .ok (.iconst 0, 1) := dk_3 (dk_at dksX2_follow_0 12 rfl rfl)
theorem dX2_follow_13 : decode cX2_follow 13 = .ok (.ireturn, 1) := dk_172 (dk_at dksX2_follow_0 13 rfl rfl)
theorem dX2_follow_14 : decode cX2_follow 14 = .ok (.aload_n 0, 1) := dk_42 (dk_at dksX2_follow_0 14 rfl rfl)
theorem dX2_follow_15 : decode cX2_follow 15 = .ok (.invokevirtual 150, 3) := dk_182 0 150 (dk_at dksX2_follow_0 15 rfl rfl)
theorem dX2_follow_18 : decode cX2_follow 18 = .ok (.astore_n 2, 1) := dk_77 (dk_at dksX2_follow_0 18 rfl rfl)
theorem dX2_follow_19 : decode cX2_follow 19 = .ok (.aload_n 2, 1) := dk_44 (dk_at dksX2_follow_0 19 rfl rfl)
theorem dX2_follow_20 : decode cX2_follow 20 = .ok (.ifnonnull 7, 3) := dk_199 0 7 (dk_at dksX2_follow_0 20 rfl rfl)
theorem dX2_follow_23 : decode cX2_follow 23 = .ok (.iconst (-1), 1) := dk_2 (dk_at dksX2_follow_0 23 rfl rfl)
theorem dX2_follow_24 : decode cX2_follow 24 = .ok (.goto 16, 3) := dk_167 0 16 (dk_at dksX2_follow_1 0 rfl rfl)
theorem dX2_follow_27 : decode cX2_follow 27 = .ok (.aload_n 0, 1) := dk_42 (dk_at dksX2_follow_1 3 rfl rfl)
theorem dX2_follow_28 : decode cX2_follow 28 = .ok (.aload_n 2, 1) := dk_44 (dk_at dksX2_follow_1 4 rfl rfl)
theorem dX2_follow_29 : decode cX2_follow 29 = .ok (.aload_n 0, 1) := dk_42 (dk_at dksX2_follow_1 5 rfl rfl)
theorem dX2_follow_30 : decode cX2_follow 30 = .ok (.getfield 23, 3) := dk_180 0 23 (dk_at dksX2_follow_1 6 rfl rfl)
theorem dX2_follow_33 : decode cX2_follow 33 = .ok (.bipush 8, 2) := dk_16 8 (dk_at dksX2_follow_1 9 rfl rfl)
theorem dX2_follow_35 : decode cX2_follow 35 = .ok (.iload_n 1, 1) := dk_27 (dk_at dksX2_follow_1 11 rfl rfl)
theorem dX2_follow_36 : decode cX2_follow 36 = .ok (.imul, 1) := dk_104 (dk_at dksX2_follow_1 12 rfl rfl)
theorem dX2_follow_37 : decode cX2_follow 37 = .ok (.invokevirtual 87, 3) := dk_182 0 87 (dk_at dksX2_follow_1 13 rfl rfl)
theorem dX2_follow_40 : decode cX2_follow 40 = .ok (.istore_n 3, 1) := dk_62 (dk_at dksX2_follow_1 16 rfl rfl)
theorem dX2_follow_41 : decode cX2_follow 41 = .ok (.iload_n 3, 1) := dk_29 (dk_at dksX2_follow_1 17 rfl rfl)
theorem dX2_follow_42 : decode cX2_follow 42 = .ok (.iconst (-1), 1) := dk_2 (dk_at dksX2_follow_1 18 rfl rfl)
theorem dX2_follow_43 : decode cX2_follow 43 = .ok (.if_icmp .ne 8, 3) := dk_160 0 8 (dk_at dksX2_follow_1 19 rfl rfl)
theorem dX2_follow_46 : decode cX2_follow 46 = .ok (.aload_n 0, 1) := dk_42 (dk_at dksX2_follow_1 22 rfl rfl)
theorem dX2_follow_47 : decode cX2_follow 47 = .ok (.invokevirtual 125, 3) := dk_182 0 125 (dk_at dksX2_follow_2 0 rfl rfl)
theorem dX2_follow_50 : decode cX2_follow 50 = .ok (.ireturn, 1) := dk_172 (dk_at dksX2_follow_2 3 rfl rfl)
theorem dX2_follow_51 : decode cX2_follow 51 = .ok (.aload_n 0, 1) := dk_42 (dk_at dksX2_follow_2 4 rfl rfl)
theorem dX2_follow_52 : decode cX2_follow 52 = .ok (.getfield 20, 3) := dk_180 0 20 (dk_at dksX2_follow_2 5 rfl rfl)
theorem dX2_follow_55 : decode cX2_follow 55 = .ok (.iconst 0, 1) := dk_3 (dk_at dksX2_follow_2 8 rfl rfl)
theorem dX2_follow_56 : decode cX2_follow 56 = .ok (.invokestatic 154, 3) := dk_184 0 154 (dk_at dksX2_follow_2 9 rfl rfl)
theorem dX2_follow_59 : decode cX2_follow 59 = .ok (.astore 4, 2) := dk_58 4 (dk_at dksX2_follow_2 12 rfl rfl)
theorem dX2_follow_61 : decode cX2_follow 61 = .ok (.aload_n 2, 1) := dk_44 (dk_at dksX2_follow_2 14 rfl rfl)
theorem dX2_follow_62 : decode cX2_follow 62 = .ok (.iload_n 3, 1) := dk_29 (dk_at dksX2_follow_2 15 rfl rfl)
theorem dX2_follow_63 : decode cX2_follow 63 = .ok (.invokestatic 158, 3) := dk_184 0 158 (dk_at dksX2_follow_2 16 rfl rfl)
theorem dX2_follow_66 : decode cX2_follow 66 = .ok (.astore 5, 2) := dk_58 5 (dk_at dksX2_follow_2 19 rfl rfl)
theorem dX2_follow_68 : decode cX2_follow 68 = .ok (.aload 5, 2) := dk_25 5 (dk_at dksX2_follow_2 21 rfl rfl)
theorem dX2_follow_70 : decode cX2_follow 70 = .ok (.astore 6, 2) := dk_58 6 (dk_at dksX2_follow_3 0 rfl rfl)
theorem dX2_follow_72 : decode cX2_follow 72 = .ok (.aload 6, 2) := dk_25 6 (dk_at dksX2_follow_3 2 rfl rfl)
theorem dX2_follow_74 : decode cX2_follow 74 = .ok (.arraylength, 1) := dk_190 (dk_at dksX2_follow_3 4 rfl rfl)
theorem dX2_follow_75 : decode cX2_follow 75 = .ok (.istore 7, 2) := dk_54 7 (dk_at dksX2_follow_3 5 rfl rfl)
theorem dX2_follow_77 : decode cX2_follow 77 = .ok (.iconst 0, 1) := dk_3 (dk_at dksX2_follow_3 7 rfl rfl)
theorem dX2_follow_78 : decode cX2_follow 78 = .ok (.istore 8, 2) := dk_54 8 (dk_at dksX2_follow_3 8 rfl rfl)
theorem dX2_follow_80 : decode cX2_follow 80 = .ok (.iload 8, 2) := dk_21 8 (dk_at dksX2_follow_3 10 rfl rfl)
theorem dX2_follow_82 : decode cX2_follow 82 = .ok (.iload 7, 2) := dk_21 7 (dk_at dksX2_follow_3 12 rfl rfl)
theorem dX2_follow_84 : decode cX2_follow 84 = .ok (.if_icmp .ge 33, 3) := dk_162 0 33 (dk_at dksX2_follow_3 14 rfl rfl)
theorem dX2_follow_87 : decode cX2_follow 87 = .ok (.aload 6, 2) := dk_25 6 (dk_at dksX2_follow_3 17 rfl rfl)
theorem dX2_follow_89 : decode cX2_follow 89 = .ok (.iload 8, 2) := dk_21 8 (dk_at dksX2_follow_3 19 rfl rfl)
theorem dX2_follow_91 : decode cX2_follow 91 = .ok (.iaload, 1) := dk_46 (dk_at dksX2_follow_3 21 rfl rfl)
theorem dX2_follow_92 : decode cX2_follow 92 = .ok (.istore 9, 2) := dk_54 9 (dk_at dksX2_follow_3 22 rfl rfl)
theorem dX2_follow_94 : decode cX2_follow 94 = .ok (.aload_n 0, 1) := dk_42 (dk_at dksX2_follow_4 0 rfl rfl)
theorem dX2_follow_95 : decode cX2_follow 95 = .ok (.aload 4, 2) := dk_25 4 (dk_at dksX2_follow_4 1 rfl rfl)
theorem dX2_follow_97 : decode cX2_follow 97 = .ok (.iload 9, 2) := dk_21 9 (dk_at dksX2_follow_4 3 rfl rfl)
theorem dX2_follow_99 : decode cX2_follow 99 = .ok (.iconst 0, 1) := dk_3 (dk_at dksX2_follow_4 5 rfl rfl)
theorem dX2_follow_100 : decode cX2_follow 100 = .ok (.invokevirtual 136, 3) := dk_182 0 136 (dk_at dksX2_follow_4 6 rfl rfl)
theorem dX2_follow_103 : decode cX2_follow 103 = .ok (.ifCond .ne 8, 3) := dk_154 0 8 (dk_at dksX2_follow_4 9 rfl rfl)
theorem dX2_follow_106 : decode cX2_follow 106 = .ok (.aload_n 0, 1) := dk_42 (dk_at dksX2_follow_4 12 rfl rfl)
theorem dX2_follow_107 : decode cX2_follow 107 = .ok (.invokevirtual 125, 3) := dk_182 0 125 (dk_at dksX2_follow_4 13 rfl rfl)
theorem dX2_follow_110 : decode cX2_follow 110 = .ok (.ireturn, 1) := dk_172 (dk_at dksX2_follow_4 16 rfl rfl)
theorem dX2_follow_111 : decode cX2_follow 111 = .ok (.iinc 8 1, 3) := dk_132 8 1 (dk_at dksX2_follow_4 17 rfl rfl)
theorem dX2_follow_114 : decode cX2_follow 114 = .ok (.goto (-34), 3) := dk_167 255 222 (dk_at dksX2_follow_4 20 rfl rfl)
theorem dX2_follow_117 : decode cX2_follow 117 = .ok (.iconst 0, 1) := dk_3 (dk_at dksX2_follow_4 23 rfl rfl)
theorem dX2_follow_118 : decode cX2_follow 118 = .ok (.istore 6, 2) := dk_54 6 (dk_at dksX2_follow_5 0 rfl rfl)
theorem dX2_follow_120 : decode cX2_follow 120 = .ok (.iload 6, 2) := dk_21 6 (dk_at dksX2_follow_5 2 rfl rfl)
theorem dX2_follow_122 : decode cX2_follow 122 = .ok (.bipush 8, 2) := dk_16 8 (dk_at dksX2_follow_5 4 rfl rfl)
theorem dX2_follow_124 : decode cX2_follow 124 = .ok (.if_icmp .ge 21, 3) := dk_162 0 21 (dk_at dksX2_follow_5 6 rfl rfl)
theorem dX2_follow_127 : decode cX2_follow 127 = .ok (.aload_n 0, 1) := dk_42 (dk_at dksX2_follow_5 9 rfl rfl)
theorem dX2_follow_128 : decode cX2_follow 128 = .ok (.getfield 20, 3) := dk_180 0 20 (dk_at dksX2_follow_5 10 rfl rfl)
theorem dX2_follow_131 : decode cX2_follow 131 = .ok (.iload 6, 2) := dk_21 6 (dk_at dksX2_follow_5 13 rfl rfl)
theorem dX2_follow_133 : decode cX2_follow 133 = .ok (.aload 4, 2) := dk_25 4 (dk_at dksX2_follow_5 15 rfl rfl)
theorem dX2_follow_135 : decode cX2_follow 135 = .ok (.iload 6, 2) := dk_21 6 (dk_at dksX2_follow_5 17 rfl rfl)
theorem dX2_follow_137 : decode cX2_follow 137 = .ok (.iaload, 1) := dk_46 (dk_at dksX2_follow_5 19 rfl rfl)
theorem dX2_follow_138 : decode cX2_follow 138 = .ok (.iastore, 1) := dk_79 (dk_at dksX2_follow_5 20 rfl rfl)
theorem dX2_follow_139 : decode cX2_follow 139 = .ok (.iinc 6 1, 3) := dk_132 6 1 (dk_at dksX2_follow_5 21 rfl rfl)
theorem dX2_follow_142 : decode cX2_follow 142 = .ok (.goto (-22), 3) := dk_167 255 234 (dk_at dksX2_follow_6 0 rfl rfl)
theorem dX2_follow_145 : decode cX2_follow 145 = .ok (.aload_n 0, 1) := dk_42 (dk_at dksX2_follow_6 3 rfl rfl)
theorem dX2_follow_146 : decode cX2_follow 146 = .ok (.aload 5, 2) := dk_25 5 (dk_at dksX2_follow_6 4 rfl rfl)
theorem dX2_follow_148 : decode cX2_follow 148 = .ok (.arraylength, 1) := dk_190 (dk_at dksX2_follow_6 6 rfl rfl)
theorem dX2_follow_149 : decode cX2_follow 149 = .ok (.invokevirtual 121, 3) := dk_182 0 121 (dk_at dksX2_follow_6 7 rfl rfl)
theorem dX2_follow_152 : decode cX2_follow 152 = .ok (.ireturn, 1) := dk_172 (dk_at dksX2_follow_6 10 rfl rfl)
abbrev cX2_reachedAll : ByteArray := prog_7_method_18_code
def yX2_reachedAll : MethodName := ⟨RX2, "reachedAll", "()[I"⟩
def dkwX2_reachedAll_1 : List UInt8 := [176]
abbrev dktX2_reachedAll_1 : List UInt8 := dkwX2_reachedAll_1 ++ []
def dkwX2_reachedAll_0 : List UInt8 := [42, 42, 180, 0, 20, 3, 182, 0, 83, 76, 42, 180, 0, 68, 16, 16, 164, 0, 7, 1, 167, 0, 4, 43]
abbrev dktX2_reachedAll_0 : List UInt8 := dkwX2_reachedAll_0 ++ dktX2_reachedAll_1
theorem dksX2_reachedAll_0 : cX2_reachedAll.data.toList.drop 0 = dktX2_reachedAll_0 := by decide +kernel
theorem dksX2_reachedAll_1 : cX2_reachedAll.data.toList.drop 24 = dktX2_reachedAll_1 := dk_seg dksX2_reachedAll_0 24 rfl rfl
theorem dX2_reachedAll_0 : decode cX2_reachedAll 0 = .ok (.aload_n 0, 1) := dk_42 (dk_at dksX2_reachedAll_0 0 rfl rfl)
theorem dX2_reachedAll_1 : decode cX2_reachedAll 1 = .ok (.aload_n 0, 1) := dk_42 (dk_at dksX2_reachedAll_0 1 rfl rfl)
theorem dX2_reachedAll_2 : decode cX2_reachedAll 2 = .ok (.getfield 20, 3) := dk_180 0 20 (dk_at dksX2_reachedAll_0 2 rfl rfl)
theorem dX2_reachedAll_5 : decode cX2_reachedAll 5 = .ok (.iconst 0, 1) := dk_3 (dk_at dksX2_reachedAll_0 5 rfl rfl)
theorem dX2_reachedAll_6 : decode cX2_reachedAll 6 = .ok (.invokevirtual 83, 3) := dk_182 0 83 (dk_at dksX2_reachedAll_0 6 rfl rfl)
theorem dX2_reachedAll_9 : decode cX2_reachedAll 9 = .ok (.astore_n 1, 1) := dk_76 (dk_at dksX2_reachedAll_0 9 rfl rfl)
theorem dX2_reachedAll_10 : decode cX2_reachedAll 10 = .ok (.aload_n 0, 1) := dk_42 (dk_at dksX2_reachedAll_0 10 rfl rfl)
theorem dX2_reachedAll_11 : decode cX2_reachedAll 11 = .ok (.getfield 68, 3) := dk_180 0 68 (dk_at dksX2_reachedAll_0 11 rfl rfl)
theorem dX2_reachedAll_14 : decode cX2_reachedAll 14 = .ok (.bipush 16, 2) := dk_16 16 (dk_at dksX2_reachedAll_0 14 rfl rfl)
theorem dX2_reachedAll_16 : decode cX2_reachedAll 16 = .ok (.if_icmp .le 7, 3) := dk_164 0 7 (dk_at dksX2_reachedAll_0 16 rfl rfl)
theorem dX2_reachedAll_19 : decode cX2_reachedAll 19 = .ok (.aconst_null, 1) := dk_1 (dk_at dksX2_reachedAll_0 19 rfl rfl)
theorem dX2_reachedAll_20 : decode cX2_reachedAll 20 = .ok (.goto 4, 3) := dk_167 0 4 (dk_at dksX2_reachedAll_0 20 rfl rfl)
theorem dX2_reachedAll_23 : decode cX2_reachedAll 23 = .ok (.aload_n 1, 1) := dk_43 (dk_at dksX2_reachedAll_0 23 rfl rfl)
theorem dX2_reachedAll_24 : decode cX2_reachedAll 24 = .ok (.areturn, 1) := dk_176 (dk_at dksX2_reachedAll_1 0 rfl rfl)
abbrev cX2_reachedFrom : ByteArray := prog_7_method_17_code
def yX2_reachedFrom : MethodName := ⟨RX2, "reachedFrom", "([IZ)[I"⟩
def dkwX2_reachedFrom_8 : List UInt8 := [180, 0, 68, 4, 96, 181, 0, 68, 132, 5, 1, 167, 255, 115, 132, 4, 1, 167, 255, 88, 45, 176]
abbrev dktX2_reachedFrom_8 : List UInt8 := dkwX2_reachedFrom_8 ++ []
def dkwX2_reachedFrom_7 : List UInt8 := [16, 8, 96, 21, 4, 79, 45, 16, 10, 42, 180, 0, 68, 104, 16, 9, 96, 21, 5, 79, 42, 89]
abbrev dktX2_reachedFrom_7 : List UInt8 := dkwX2_reachedFrom_7 ++ dktX2_reachedFrom_8
def dkwX2_reachedFrom_6 : List UInt8 := [167, 255, 232, 21, 6, 42, 180, 0, 68, 162, 0, 6, 167, 0, 41, 45, 16, 10, 42, 180, 0, 68, 104]
abbrev dktX2_reachedFrom_6 : List UInt8 := dkwX2_reachedFrom_6 ++ dktX2_reachedFrom_7
def dkwX2_reachedFrom_5 : List UInt8 := [42, 45, 16, 10, 21, 6, 104, 45, 16, 10, 42, 180, 0, 68, 104, 182, 0, 79, 154, 0, 9, 132, 6, 1]
abbrev dktX2_reachedFrom_5 : List UInt8 := dkwX2_reachedFrom_5 ++ dktX2_reachedFrom_6
def dkwX2_reachedFrom_4 : List UInt8 := [42, 45, 16, 10, 21, 4, 104, 21, 5, 28, 45, 16, 10, 42, 180, 0, 68, 104, 182, 0, 75, 3, 54, 6]
abbrev dktX2_reachedFrom_4 : List UInt8 := dkwX2_reachedFrom_4 ++ dktX2_reachedFrom_5
def dkwX2_reachedFrom_3 : List UInt8 := [16, 16, 163, 0, 129, 42, 45, 16, 10, 21, 4, 104, 21, 5, 28, 182, 0, 71, 154, 0, 6, 167, 0, 104]
abbrev dktX2_reachedFrom_3 : List UInt8 := dkwX2_reachedFrom_3 ++ dktX2_reachedFrom_4
def dkwX2_reachedFrom_2 : List UInt8 := [180, 0, 68, 16, 16, 163, 0, 156, 3, 54, 5, 21, 5, 42, 180, 0, 32, 162, 0, 138, 42, 180, 0, 68]
abbrev dktX2_reachedFrom_2 : List UInt8 := dkwX2_reachedFrom_2 ++ dktX2_reachedFrom_3
def dkwX2_reachedFrom_1 : List UInt8 := [132, 4, 1, 167, 255, 238, 42, 4, 181, 0, 68, 3, 54, 4, 21, 4, 42, 180, 0, 68, 162, 0, 165, 42]
abbrev dktX2_reachedFrom_1 : List UInt8 := dkwX2_reachedFrom_1 ++ dktX2_reachedFrom_2
def dkwX2_reachedFrom_0 : List UInt8 := [17, 0, 180, 188, 10, 78, 3, 54, 4, 21, 4, 16, 8, 162, 0, 17, 45, 21, 4, 43, 21, 4, 46, 79]
abbrev dktX2_reachedFrom_0 : List UInt8 := dkwX2_reachedFrom_0 ++ dktX2_reachedFrom_1
theorem dksX2_reachedFrom_0 : cX2_reachedFrom.data.toList.drop 0 = dktX2_reachedFrom_0 := by decide +kernel
theorem dksX2_reachedFrom_1 : cX2_reachedFrom.data.toList.drop 24 = dktX2_reachedFrom_1 := dk_seg dksX2_reachedFrom_0 24 rfl rfl
theorem dksX2_reachedFrom_2 : cX2_reachedFrom.data.toList.drop 48 = dktX2_reachedFrom_2 := dk_seg dksX2_reachedFrom_1 24 rfl rfl
theorem dksX2_reachedFrom_3 : cX2_reachedFrom.data.toList.drop 72 = dktX2_reachedFrom_3 := dk_seg dksX2_reachedFrom_2 24 rfl rfl
theorem dksX2_reachedFrom_4 : cX2_reachedFrom.data.toList.drop 96 = dktX2_reachedFrom_4 := dk_seg dksX2_reachedFrom_3 24 rfl rfl
theorem dksX2_reachedFrom_5 : cX2_reachedFrom.data.toList.drop 120 = dktX2_reachedFrom_5 := dk_seg dksX2_reachedFrom_4 24 rfl rfl
theorem dksX2_reachedFrom_6 : cX2_reachedFrom.data.toList.drop 144 = dktX2_reachedFrom_6 := dk_seg dksX2_reachedFrom_5 24 rfl rfl
theorem dksX2_reachedFrom_7 : cX2_reachedFrom.data.toList.drop 167 = dktX2_reachedFrom_7 := dk_seg dksX2_reachedFrom_6 23 rfl rfl
theorem dksX2_reachedFrom_8 : cX2_reachedFrom.data.toList.drop 189 = dktX2_reachedFrom_8 := dk_seg dksX2_reachedFrom_7 22 rfl rfl
theorem dX2_reachedFrom_0 : decode cX2_reachedFrom 0 = .ok (.sipush 180, 3) := dk_17 0 180 (dk_at dksX2_reachedFrom_0 0 rfl rfl)
theorem dX2_reachedFrom_3 : decode cX2_reachedFrom 3 = .ok (.newarray .int, 2) := dk_188_10 (dk_at dksX2_reachedFrom_0 3 rfl rfl)
theorem dX2_reachedFrom_5 : decode cX2_reachedFrom 5 = .ok (.astore_n 3, 1) := dk_78 (dk_at dksX2_reachedFrom_0 5 rfl rfl)
theorem dX2_reachedFrom_6 : decode cX2_reachedFrom 6 = .ok (.iconst 0, 1) := dk_3 (dk_at dksX2_reachedFrom_0 6 rfl rfl)
theorem dX2_reachedFrom_7 : decode cX2_reachedFrom 7 = .ok (.istore 4, 2) := dk_54 4 (dk_at dksX2_reachedFrom_0 7 rfl rfl)
theorem dX2_reachedFrom_9 : decode cX2_reachedFrom 9 = .ok (.iload 4, 2) := dk_21 4 (dk_at dksX2_reachedFrom_0 9 rfl rfl)
theorem dX2_reachedFrom_11 : decode cX2_reachedFrom 11 = .ok (.bipush 8, 2) := dk_16 8 (dk_at dksX2_reachedFrom_0 11 rfl rfl)
theorem dX2_reachedFrom_13 : decode cX2_reachedFrom 13 = .ok (.if_icmp .ge 17, 3) := dk_162 0 17 (dk_at dksX2_reachedFrom_0 13 rfl rfl)
theorem dX2_reachedFrom_16 : decode cX2_reachedFrom 16 = .ok (.aload_n 3, 1) := dk_45 (dk_at dksX2_reachedFrom_0 16 rfl rfl)
theorem dX2_reachedFrom_17 : decode cX2_reachedFrom 17 = .ok (.iload 4, 2) := dk_21 4 (dk_at dksX2_reachedFrom_0 17 rfl rfl)
theorem dX2_reachedFrom_19 : decode cX2_reachedFrom 19 = .ok (.aload_n 1, 1) := dk_43 (dk_at dksX2_reachedFrom_0 19 rfl rfl)
theorem dX2_reachedFrom_20 : decode cX2_reachedFrom 20 = .ok (.iload 4, 2) := dk_21 4 (dk_at dksX2_reachedFrom_0 20 rfl rfl)
theorem dX2_reachedFrom_22 : decode cX2_reachedFrom 22 = .ok (.iaload, 1) := dk_46 (dk_at dksX2_reachedFrom_0 22 rfl rfl)
theorem dX2_reachedFrom_23 : decode cX2_reachedFrom 23 = .ok (.iastore, 1) := dk_79 (dk_at dksX2_reachedFrom_0 23 rfl rfl)
theorem dX2_reachedFrom_24 : decode cX2_reachedFrom 24 = .ok (.iinc 4 1, 3) := dk_132 4 1 (dk_at dksX2_reachedFrom_1 0 rfl rfl)
theorem dX2_reachedFrom_27 : decode cX2_reachedFrom 27 = .ok (.goto (-18), 3) := dk_167 255 238 (dk_at dksX2_reachedFrom_1 3 rfl rfl)
theorem dX2_reachedFrom_30 : decode cX2_reachedFrom 30 = .ok (.aload_n 0, 1) := dk_42 (dk_at dksX2_reachedFrom_1 6 rfl rfl)
theorem dX2_reachedFrom_31 : decode cX2_reachedFrom 31 = .ok (.iconst 1, 1) := dk_4 (dk_at dksX2_reachedFrom_1 7 rfl rfl)
theorem dX2_reachedFrom_32 : decode cX2_reachedFrom 32 = .ok (.putfield 68, 3) := dk_181 0 68 (dk_at dksX2_reachedFrom_1 8 rfl rfl)
theorem dX2_reachedFrom_35 : decode cX2_reachedFrom 35 = .ok (.iconst 0, 1) := dk_3 (dk_at dksX2_reachedFrom_1 11 rfl rfl)
theorem dX2_reachedFrom_36 : decode cX2_reachedFrom 36 = .ok (.istore 4, 2) := dk_54 4 (dk_at dksX2_reachedFrom_1 12 rfl rfl)
theorem dX2_reachedFrom_38 : decode cX2_reachedFrom 38 = .ok (.iload 4, 2) := dk_21 4 (dk_at dksX2_reachedFrom_1 14 rfl rfl)
theorem dX2_reachedFrom_40 : decode cX2_reachedFrom 40 = .ok (.aload_n 0, 1) := dk_42 (dk_at dksX2_reachedFrom_1 16 rfl rfl)
theorem dX2_reachedFrom_41 : decode cX2_reachedFrom 41 = .ok (.getfield 68, 3) := dk_180 0 68 (dk_at dksX2_reachedFrom_1 17 rfl rfl)
theorem dX2_reachedFrom_44 : decode cX2_reachedFrom 44 = .ok (.if_icmp .ge 165, 3) := dk_162 0 165 (dk_at dksX2_reachedFrom_1 20 rfl rfl)
theorem dX2_reachedFrom_47 : decode cX2_reachedFrom 47 = .ok (.aload_n 0, 1) := dk_42 (dk_at dksX2_reachedFrom_1 23 rfl rfl)
theorem dX2_reachedFrom_48 : decode cX2_reachedFrom 48 = .ok (.getfield 68, 3) := dk_180 0 68 (dk_at dksX2_reachedFrom_2 0 rfl rfl)
theorem dX2_reachedFrom_51 : decode cX2_reachedFrom 51 = .ok (.bipush 16, 2) := dk_16 16 (dk_at dksX2_reachedFrom_2 3 rfl rfl)
theorem dX2_reachedFrom_53 : decode cX2_reachedFrom 53 = .ok (.if_icmp .gt 156, 3) := dk_163 0 156 (dk_at dksX2_reachedFrom_2 5 rfl rfl)
theorem dX2_reachedFrom_56 : decode cX2_reachedFrom 56 = .ok (.iconst 0, 1) := dk_3 (dk_at dksX2_reachedFrom_2 8 rfl rfl)
theorem dX2_reachedFrom_57 : decode cX2_reachedFrom 57 = .ok (.istore 5, 2) := dk_54 5 (dk_at dksX2_reachedFrom_2 9 rfl rfl)
theorem dX2_reachedFrom_59 : decode cX2_reachedFrom 59 = .ok (.iload 5, 2) := dk_21 5 (dk_at dksX2_reachedFrom_2 11 rfl rfl)
theorem dX2_reachedFrom_61 : decode cX2_reachedFrom 61 = .ok (.aload_n 0, 1) := dk_42 (dk_at dksX2_reachedFrom_2 13 rfl rfl)
theorem dX2_reachedFrom_62 : decode cX2_reachedFrom 62 = .ok (.getfield 32, 3) := dk_180 0 32 (dk_at dksX2_reachedFrom_2 14 rfl rfl)
theorem dX2_reachedFrom_65 : decode cX2_reachedFrom 65 = .ok (.if_icmp .ge 138, 3) := dk_162 0 138 (dk_at dksX2_reachedFrom_2 17 rfl rfl)
theorem dX2_reachedFrom_68 : decode cX2_reachedFrom 68 = .ok (.aload_n 0, 1) := dk_42 (dk_at dksX2_reachedFrom_2 20 rfl rfl)
theorem dX2_reachedFrom_69 : decode cX2_reachedFrom 69 = .ok (.getfield 68, 3) := dk_180 0 68 (dk_at dksX2_reachedFrom_2 21 rfl rfl)
theorem dX2_reachedFrom_72 : decode cX2_reachedFrom 72 = .ok (.bipush 16, 2) := dk_16 16 (dk_at dksX2_reachedFrom_3 0 rfl rfl)
theorem dX2_reachedFrom_74 : decode cX2_reachedFrom 74 = .ok (.if_icmp .gt 129, 3) := dk_163 0 129 (dk_at dksX2_reachedFrom_3 2 rfl rfl)
theorem dX2_reachedFrom_77 : decode cX2_reachedFrom 77 = .ok (.aload_n 0, 1) := dk_42 (dk_at dksX2_reachedFrom_3 5 rfl rfl)
theorem dX2_reachedFrom_78 : decode cX2_reachedFrom 78 = .ok (.aload_n 3, 1) := dk_45 (dk_at dksX2_reachedFrom_3 6 rfl rfl)
theorem dX2_reachedFrom_79 : decode cX2_reachedFrom 79 = .ok (.bipush 10, 2) := dk_16 10 (dk_at dksX2_reachedFrom_3 7 rfl rfl)
theorem dX2_reachedFrom_81 : decode cX2_reachedFrom 81 = .ok (.iload 4, 2) := dk_21 4 (dk_at dksX2_reachedFrom_3 9 rfl rfl)
theorem dX2_reachedFrom_83 : decode cX2_reachedFrom 83 = .ok (.imul, 1) := dk_104 (dk_at dksX2_reachedFrom_3 11 rfl rfl)
theorem dX2_reachedFrom_84 : decode cX2_reachedFrom 84 = .ok (.iload 5, 2) := dk_21 5 (dk_at dksX2_reachedFrom_3 12 rfl rfl)
theorem dX2_reachedFrom_86 : decode cX2_reachedFrom 86 = .ok (.iload_n 2, 1) := dk_28 (dk_at dksX2_reachedFrom_3 14 rfl rfl)
theorem dX2_reachedFrom_87 : decode cX2_reachedFrom 87 = .ok (.invokevirtual 71, 3) := dk_182 0 71 (dk_at dksX2_reachedFrom_3 15 rfl rfl)
theorem dX2_reachedFrom_90 : decode cX2_reachedFrom 90 = .ok (.ifCond .ne 6, 3) := dk_154 0 6 (dk_at dksX2_reachedFrom_3 18 rfl rfl)
theorem dX2_reachedFrom_93 : decode cX2_reachedFrom 93 = .ok (.goto 104, 3) := dk_167 0 104 (dk_at dksX2_reachedFrom_3 21 rfl rfl)
theorem dX2_reachedFrom_96 : decode cX2_reachedFrom 96 = .ok (.aload_n 0, 1) := dk_42 (dk_at dksX2_reachedFrom_4 0 rfl rfl)
theorem dX2_reachedFrom_97 : decode cX2_reachedFrom 97 = .ok (.aload_n 3, 1) := dk_45 (dk_at dksX2_reachedFrom_4 1 rfl rfl)
theorem dX2_reachedFrom_98 : decode cX2_reachedFrom 98 = .ok (.bipush 10, 2) := dk_16 10 (dk_at dksX2_reachedFrom_4 2 rfl rfl)
theorem dX2_reachedFrom_100 : decode cX2_reachedFrom 100 = .ok (.iload 4, 2) := dk_21 4 (dk_at dksX2_reachedFrom_4 4 rfl rfl)
theorem dX2_reachedFrom_102 : decode cX2_reachedFrom 102 = .ok (.imul, 1) := dk_104 (dk_at dksX2_reachedFrom_4 6 rfl rfl)
theorem dX2_reachedFrom_103 : decode cX2_reachedFrom 103 = .ok (.iload 5, 2) := dk_21 5 (dk_at dksX2_reachedFrom_4 7 rfl rfl)
theorem dX2_reachedFrom_105 : decode cX2_reachedFrom 105 = .ok (.iload_n 2, 1) := dk_28 (dk_at dksX2_reachedFrom_4 9 rfl rfl)
theorem dX2_reachedFrom_106 : decode cX2_reachedFrom 106 = .ok (.aload_n 3, 1) := dk_45 (dk_at dksX2_reachedFrom_4 10 rfl rfl)
theorem dX2_reachedFrom_107 : decode cX2_reachedFrom 107 = .ok (.bipush 10, 2) := dk_16 10 (dk_at dksX2_reachedFrom_4 11 rfl rfl)
theorem dX2_reachedFrom_109 : decode cX2_reachedFrom 109 = .ok (.aload_n 0, 1) := dk_42 (dk_at dksX2_reachedFrom_4 13 rfl rfl)
theorem dX2_reachedFrom_110 : decode cX2_reachedFrom 110 = .ok (.getfield 68, 3) := dk_180 0 68 (dk_at dksX2_reachedFrom_4 14 rfl rfl)
theorem dX2_reachedFrom_113 : decode cX2_reachedFrom 113 = .ok (.imul, 1) := dk_104 (dk_at dksX2_reachedFrom_4 17 rfl rfl)
theorem dX2_reachedFrom_114 : decode cX2_reachedFrom 114 = .ok (.invokevirtual 75, 3) := dk_182 0 75 (dk_at dksX2_reachedFrom_4 18 rfl rfl)
theorem dX2_reachedFrom_117 : decode cX2_reachedFrom 117 = .ok (.iconst 0, 1) := dk_3 (dk_at dksX2_reachedFrom_4 21 rfl rfl)
theorem dX2_reachedFrom_118 : decode cX2_reachedFrom 118 = .ok (.istore 6, 2) := dk_54 6 (dk_at dksX2_reachedFrom_4 22 rfl rfl)
theorem dX2_reachedFrom_120 : decode cX2_reachedFrom 120 = .ok (.aload_n 0, 1) := dk_42 (dk_at dksX2_reachedFrom_5 0 rfl rfl)
theorem dX2_reachedFrom_121 : decode cX2_reachedFrom 121 = .ok (.aload_n 3, 1) := dk_45 (dk_at dksX2_reachedFrom_5 1 rfl rfl)
theorem dX2_reachedFrom_122 : decode cX2_reachedFrom 122 = .ok (.bipush 10, 2) := dk_16 10 (dk_at dksX2_reachedFrom_5 2 rfl rfl)
theorem dX2_reachedFrom_124 : decode cX2_reachedFrom 124 = .ok (.iload 6, 2) := dk_21 6 (dk_at dksX2_reachedFrom_5 4 rfl rfl)
theorem dX2_reachedFrom_126 : decode cX2_reachedFrom 126 = .ok (.imul, 1) := dk_104 (dk_at dksX2_reachedFrom_5 6 rfl rfl)
theorem dX2_reachedFrom_127 : decode cX2_reachedFrom 127 = .ok (.aload_n 3, 1) := dk_45 (dk_at dksX2_reachedFrom_5 7 rfl rfl)
theorem dX2_reachedFrom_128 : decode cX2_reachedFrom 128 = .ok (.bipush 10, 2) := dk_16 10 (dk_at dksX2_reachedFrom_5 8 rfl rfl)
theorem dX2_reachedFrom_130 : decode cX2_reachedFrom 130 = .ok (.aload_n 0, 1) := dk_42 (dk_at dksX2_reachedFrom_5 10 rfl rfl)
theorem dX2_reachedFrom_131 : decode cX2_reachedFrom 131 = .ok (.getfield 68, 3) := dk_180 0 68 (dk_at dksX2_reachedFrom_5 11 rfl rfl)
theorem dX2_reachedFrom_134 : decode cX2_reachedFrom 134 = .ok (.imul, 1) := dk_104 (dk_at dksX2_reachedFrom_5 14 rfl rfl)
theorem dX2_reachedFrom_135 : decode cX2_reachedFrom 135 = .ok (.invokevirtual 79, 3) := dk_182 0 79 (dk_at dksX2_reachedFrom_5 15 rfl rfl)
theorem dX2_reachedFrom_138 : decode cX2_reachedFrom 138 = .ok (.ifCond .ne 9, 3) := dk_154 0 9 (dk_at dksX2_reachedFrom_5 18 rfl rfl)
theorem dX2_reachedFrom_141 : decode cX2_reachedFrom 141 = .ok (.iinc 6 1, 3) := dk_132 6 1 (dk_at dksX2_reachedFrom_5 21 rfl rfl)
theorem dX2_reachedFrom_144 : decode cX2_reachedFrom 144 = .ok (.goto (-24), 3) := dk_167 255 232 (dk_at dksX2_reachedFrom_6 0 rfl rfl)
theorem dX2_reachedFrom_147 : decode cX2_reachedFrom 147 = .ok (.iload 6, 2) := dk_21 6 (dk_at dksX2_reachedFrom_6 3 rfl rfl)
theorem dX2_reachedFrom_149 : decode cX2_reachedFrom 149 = .ok (.aload_n 0, 1) := dk_42 (dk_at dksX2_reachedFrom_6 5 rfl rfl)
theorem dX2_reachedFrom_150 : decode cX2_reachedFrom 150 = .ok (.getfield 68, 3) := dk_180 0 68 (dk_at dksX2_reachedFrom_6 6 rfl rfl)
theorem dX2_reachedFrom_153 : decode cX2_reachedFrom 153 = .ok (.if_icmp .ge 6, 3) := dk_162 0 6 (dk_at dksX2_reachedFrom_6 9 rfl rfl)
theorem dX2_reachedFrom_156 : decode cX2_reachedFrom 156 = .ok (.goto 41, 3) := dk_167 0 41 (dk_at dksX2_reachedFrom_6 12 rfl rfl)
theorem dX2_reachedFrom_159 : decode cX2_reachedFrom 159 = .ok (.aload_n 3, 1) := dk_45 (dk_at dksX2_reachedFrom_6 15 rfl rfl)
theorem dX2_reachedFrom_160 : decode cX2_reachedFrom 160 = .ok (.bipush 10, 2) := dk_16 10 (dk_at dksX2_reachedFrom_6 16 rfl rfl)
theorem dX2_reachedFrom_162 : decode cX2_reachedFrom 162 = .ok (.aload_n 0, 1) := dk_42 (dk_at dksX2_reachedFrom_6 18 rfl rfl)
theorem dX2_reachedFrom_163 : decode cX2_reachedFrom 163 = .ok (.getfield 68, 3) := dk_180 0 68 (dk_at dksX2_reachedFrom_6 19 rfl rfl)
theorem dX2_reachedFrom_166 : decode cX2_reachedFrom 166 = .ok (.imul, 1) := dk_104 (dk_at dksX2_reachedFrom_6 22 rfl rfl)
theorem dX2_reachedFrom_167 : decode cX2_reachedFrom 167 = .ok (.bipush 8, 2) := dk_16 8 (dk_at dksX2_reachedFrom_7 0 rfl rfl)
theorem dX2_reachedFrom_169 : decode cX2_reachedFrom 169 = .ok (.iadd, 1) := dk_96 (dk_at dksX2_reachedFrom_7 2 rfl rfl)
theorem dX2_reachedFrom_170 : decode cX2_reachedFrom 170 = .ok (.iload 4, 2) := dk_21 4 (dk_at dksX2_reachedFrom_7 3 rfl rfl)
theorem dX2_reachedFrom_172 : decode cX2_reachedFrom 172 = .ok (.iastore, 1) := dk_79 (dk_at dksX2_reachedFrom_7 5 rfl rfl)
theorem dX2_reachedFrom_173 : decode cX2_reachedFrom 173 = .ok (.aload_n 3, 1) := dk_45 (dk_at dksX2_reachedFrom_7 6 rfl rfl)
theorem dX2_reachedFrom_174 : decode cX2_reachedFrom 174 = .ok (.bipush 10, 2) := dk_16 10 (dk_at dksX2_reachedFrom_7 7 rfl rfl)
theorem dX2_reachedFrom_176 : decode cX2_reachedFrom 176 = .ok (.aload_n 0, 1) := dk_42 (dk_at dksX2_reachedFrom_7 9 rfl rfl)
theorem dX2_reachedFrom_177 : decode cX2_reachedFrom 177 = .ok (.getfield 68, 3) := dk_180 0 68 (dk_at dksX2_reachedFrom_7 10 rfl rfl)
theorem dX2_reachedFrom_180 : decode cX2_reachedFrom 180 = .ok (.imul, 1) := dk_104 (dk_at dksX2_reachedFrom_7 13 rfl rfl)
theorem dX2_reachedFrom_181 : decode cX2_reachedFrom 181 = .ok (.bipush 9, 2) := dk_16 9 (dk_at dksX2_reachedFrom_7 14 rfl rfl)
theorem dX2_reachedFrom_183 : decode cX2_reachedFrom 183 = .ok (.iadd, 1) := dk_96 (dk_at dksX2_reachedFrom_7 16 rfl rfl)
theorem dX2_reachedFrom_184 : decode cX2_reachedFrom 184 = .ok (.iload 5, 2) := dk_21 5 (dk_at dksX2_reachedFrom_7 17 rfl rfl)
theorem dX2_reachedFrom_186 : decode cX2_reachedFrom 186 = .ok (.iastore, 1) := dk_79 (dk_at dksX2_reachedFrom_7 19 rfl rfl)
theorem dX2_reachedFrom_187 : decode cX2_reachedFrom 187 = .ok (.aload_n 0, 1) := dk_42 (dk_at dksX2_reachedFrom_7 20 rfl rfl)
theorem dX2_reachedFrom_188 : decode cX2_reachedFrom 188 = .ok (.dup, 1) := dk_89 (dk_at dksX2_reachedFrom_7 21 rfl rfl)
theorem dX2_reachedFrom_189 : decode cX2_reachedFrom 189 = .ok (.getfield 68, 3) := dk_180 0 68 (dk_at dksX2_reachedFrom_8 0 rfl rfl)
theorem dX2_reachedFrom_192 : decode cX2_reachedFrom 192 = .ok (.iconst 1, 1) := dk_4 (dk_at dksX2_reachedFrom_8 3 rfl rfl)
theorem dX2_reachedFrom_193 : decode cX2_reachedFrom 193 = .ok (.iadd, 1) := dk_96 (dk_at dksX2_reachedFrom_8 4 rfl rfl)
theorem dX2_reachedFrom_194 : decode cX2_reachedFrom 194 = .ok (.putfield 68, 3) := dk_181 0 68 (dk_at dksX2_reachedFrom_8 5 rfl rfl)
theorem dX2_reachedFrom_197 : decode cX2_reachedFrom 197 = .ok (.iinc 5 1, 3) := dk_132 5 1 (dk_at dksX2_reachedFrom_8 8 rfl rfl)
theorem dX2_reachedFrom_200 : decode cX2_reachedFrom 200 = .ok (.goto (-141), 3) := dk_167 255 115 (dk_at dksX2_reachedFrom_8 11 rfl rfl)
theorem dX2_reachedFrom_203 : decode cX2_reachedFrom 203 = .ok (.iinc 4 1, 3) := dk_132 4 1 (dk_at dksX2_reachedFrom_8 14 rfl rfl)
theorem dX2_reachedFrom_206 : decode cX2_reachedFrom 206 = .ok (.goto (-168), 3) := dk_167 255 88 (dk_at dksX2_reachedFrom_8 17 rfl rfl)
theorem dX2_reachedFrom_209 : decode cX2_reachedFrom 209 = .ok (.aload_n 3, 1) := dk_45 (dk_at dksX2_reachedFrom_8 20 rfl rfl)
theorem dX2_reachedFrom_210 : decode cX2_reachedFrom 210 = .ok (.areturn, 1) := dk_176 (dk_at dksX2_reachedFrom_8 21 rfl rfl)
abbrev cX2_numberOf : ByteArray := prog_7_method_19_code
def yX2_numberOf : MethodName := ⟨RX2, "numberOf", "([I[II)I"⟩
def dkwX2_numberOf_1 : List UInt8 := [153, 0, 6, 21, 4, 172, 132, 4, 1, 167, 255, 226, 2, 172]
abbrev dktX2_numberOf_1 : List UInt8 := dkwX2_numberOf_1 ++ []
def dkwX2_numberOf_0 : List UInt8 := [3, 54, 4, 21, 4, 42, 180, 0, 68, 162, 0, 27, 42, 43, 16, 10, 21, 4, 104, 44, 29, 182, 0, 79]
abbrev dktX2_numberOf_0 : List UInt8 := dkwX2_numberOf_0 ++ dktX2_numberOf_1
theorem dksX2_numberOf_0 : cX2_numberOf.data.toList.drop 0 = dktX2_numberOf_0 := by decide +kernel
theorem dksX2_numberOf_1 : cX2_numberOf.data.toList.drop 24 = dktX2_numberOf_1 := dk_seg dksX2_numberOf_0 24 rfl rfl
theorem dX2_numberOf_0 : decode cX2_numberOf 0 = .ok (.iconst 0, 1) := dk_3 (dk_at dksX2_numberOf_0 0 rfl rfl)
theorem dX2_numberOf_1 : decode cX2_numberOf 1 = .ok (.istore 4, 2) := dk_54 4 (dk_at dksX2_numberOf_0 1 rfl rfl)
theorem dX2_numberOf_3 : decode cX2_numberOf 3 = .ok (.iload 4, 2) := dk_21 4 (dk_at dksX2_numberOf_0 3 rfl rfl)
theorem dX2_numberOf_5 : decode cX2_numberOf 5 = .ok (.aload_n 0, 1) := dk_42 (dk_at dksX2_numberOf_0 5 rfl rfl)
theorem dX2_numberOf_6 : decode cX2_numberOf 6 = .ok (.getfield 68, 3) := dk_180 0 68 (dk_at dksX2_numberOf_0 6 rfl rfl)
theorem dX2_numberOf_9 : decode cX2_numberOf 9 = .ok (.if_icmp .ge 27, 3) := dk_162 0 27 (dk_at dksX2_numberOf_0 9 rfl rfl)
theorem dX2_numberOf_12 : decode cX2_numberOf 12 = .ok (.aload_n 0, 1) := dk_42 (dk_at dksX2_numberOf_0 12 rfl rfl)
theorem dX2_numberOf_13 : decode cX2_numberOf 13 = .ok (.aload_n 1, 1) := dk_43 (dk_at dksX2_numberOf_0 13 rfl rfl)
theorem dX2_numberOf_14 : decode cX2_numberOf 14 = .ok (.bipush 10, 2) := dk_16 10 (dk_at dksX2_numberOf_0 14 rfl rfl)
theorem dX2_numberOf_16 : decode cX2_numberOf 16 = .ok (.iload 4, 2) := dk_21 4 (dk_at dksX2_numberOf_0 16 rfl rfl)
theorem dX2_numberOf_18 : decode cX2_numberOf 18 = .ok (.imul, 1) := dk_104 (dk_at dksX2_numberOf_0 18 rfl rfl)
theorem dX2_numberOf_19 : decode cX2_numberOf 19 = .ok (.aload_n 2, 1) := dk_44 (dk_at dksX2_numberOf_0 19 rfl rfl)
theorem dX2_numberOf_20 : decode cX2_numberOf 20 = .ok (.iload_n 3, 1) := dk_29 (dk_at dksX2_numberOf_0 20 rfl rfl)
theorem dX2_numberOf_21 : decode cX2_numberOf 21 = .ok (.invokevirtual 79, 3) := dk_182 0 79 (dk_at dksX2_numberOf_0 21 rfl rfl)
theorem dX2_numberOf_24 : decode cX2_numberOf 24 = .ok (.ifCond .eq 6, 3) := dk_153 0 6 (dk_at dksX2_numberOf_1 0 rfl rfl)
theorem dX2_numberOf_27 : decode cX2_numberOf 27 = .ok (.iload 4, 2) := dk_21 4 (dk_at dksX2_numberOf_1 3 rfl rfl)
theorem dX2_numberOf_29 : decode cX2_numberOf 29 = .ok (.ireturn, 1) := dk_172 (dk_at dksX2_numberOf_1 5 rfl rfl)
theorem dX2_numberOf_30 : decode cX2_numberOf 30 = .ok (.iinc 4 1, 3) := dk_132 4 1 (dk_at dksX2_numberOf_1 6 rfl rfl)
theorem dX2_numberOf_33 : decode cX2_numberOf 33 = .ok (.goto (-30), 3) := dk_167 255 226 (dk_at dksX2_numberOf_1 9 rfl rfl)
theorem dX2_numberOf_36 : decode cX2_numberOf 36 = .ok (.iconst (-1), 1) := dk_2 (dk_at dksX2_numberOf_1 12 rfl rfl)
theorem dX2_numberOf_37 : decode cX2_numberOf 37 = .ok (.ireturn, 1) := dk_172 (dk_at dksX2_numberOf_1 13 rfl rfl)
abbrev cX2_part : ByteArray := prog_7_method_15_code
def yX2_part : MethodName := ⟨RX2, "part", "([II)[I"⟩
def dkwX2_part_1 : List UInt8 := [167, 255, 239, 44, 176]
abbrev dktX2_part_1 : List UInt8 := dkwX2_part_1 ++ []
def dkwX2_part_0 : List UInt8 := [16, 8, 188, 10, 77, 3, 62, 29, 16, 8, 162, 0, 17, 44, 29, 42, 27, 29, 96, 46, 79, 132, 3, 1]
abbrev dktX2_part_0 : List UInt8 := dkwX2_part_0 ++ dktX2_part_1
theorem dksX2_part_0 : cX2_part.data.toList.drop 0 = dktX2_part_0 := by decide +kernel
theorem dksX2_part_1 : cX2_part.data.toList.drop 24 = dktX2_part_1 := dk_seg dksX2_part_0 24 rfl rfl
theorem dX2_part_0 : decode cX2_part 0 = .ok (.bipush 8, 2) := dk_16 8 (dk_at dksX2_part_0 0 rfl rfl)
theorem dX2_part_2 : decode cX2_part 2 = .ok (.newarray .int, 2) := dk_188_10 (dk_at dksX2_part_0 2 rfl rfl)
theorem dX2_part_4 : decode cX2_part 4 = .ok (.astore_n 2, 1) := dk_77 (dk_at dksX2_part_0 4 rfl rfl)
theorem dX2_part_5 : decode cX2_part 5 = .ok (.iconst 0, 1) := dk_3 (dk_at dksX2_part_0 5 rfl rfl)
theorem dX2_part_6 : decode cX2_part 6 = .ok (.istore_n 3, 1) := dk_62 (dk_at dksX2_part_0 6 rfl rfl)
theorem dX2_part_7 : decode cX2_part 7 = .ok (.iload_n 3, 1) := dk_29 (dk_at dksX2_part_0 7 rfl rfl)
theorem dX2_part_8 : decode cX2_part 8 = .ok (.bipush 8, 2) := dk_16 8 (dk_at dksX2_part_0 8 rfl rfl)
theorem dX2_part_10 : decode cX2_part 10 = .ok (.if_icmp .ge 17, 3) := dk_162 0 17 (dk_at dksX2_part_0 10 rfl rfl)
theorem dX2_part_13 : decode cX2_part 13 = .ok (.aload_n 2, 1) := dk_44 (dk_at dksX2_part_0 13 rfl rfl)
theorem dX2_part_14 : decode cX2_part 14 = .ok (.iload_n 3, 1) := dk_29 (dk_at dksX2_part_0 14 rfl rfl)
theorem dX2_part_15 : decode cX2_part 15 = .ok (.aload_n 0, 1) := dk_42 (dk_at dksX2_part_0 15 rfl rfl)
theorem dX2_part_16 : decode cX2_part 16 = .ok (.iload_n 1, 1) := dk_27 (dk_at dksX2_part_0 16 rfl rfl)
theorem dX2_part_17 : decode cX2_part 17 = .ok (.iload_n 3, 1) := dk_29 (dk_at dksX2_part_0 17 rfl rfl)
theorem dX2_part_18 : decode cX2_part 18 = .ok (.iadd, 1) := dk_96 (dk_at dksX2_part_0 18 rfl rfl)
theorem dX2_part_19 : decode cX2_part 19 = .ok (.iaload, 1) := dk_46 (dk_at dksX2_part_0 19 rfl rfl)
theorem dX2_part_20 : decode cX2_part 20 = .ok (.iastore, 1) := dk_79 (dk_at dksX2_part_0 20 rfl rfl)
theorem dX2_part_21 : decode cX2_part 21 = .ok (.iinc 3 1, 3) := dk_132 3 1 (dk_at dksX2_part_0 21 rfl rfl)
theorem dX2_part_24 : decode cX2_part 24 = .ok (.goto (-17), 3) := dk_167 255 239 (dk_at dksX2_part_1 0 rfl rfl)
theorem dX2_part_27 : decode cX2_part 27 = .ok (.aload_n 2, 1) := dk_44 (dk_at dksX2_part_1 3 rfl rfl)
theorem dX2_part_28 : decode cX2_part 28 = .ok (.areturn, 1) := dk_176 (dk_at dksX2_part_1 4 rfl rfl)
abbrev cX2_wayTo : ByteArray := prog_7_method_22_code
def yX2_wayTo : MethodName := ⟨RX2, "wayTo", "([II)[I"⟩
def dkwX2_wayTo_2 : List UInt8 := [16, 9, 96, 46, 79, 42, 16, 10, 21, 4, 104, 16, 8, 96, 46, 54, 4, 167, 255, 223, 45, 176]
abbrev dktX2_wayTo_2 : List UInt8 := dkwX2_wayTo_2 ++ []
def dkwX2_wayTo_1 : List UInt8 := [28, 188, 10, 78, 27, 54, 4, 21, 4, 158, 0, 34, 45, 132, 2, 255, 28, 42, 16, 10, 21, 4, 104]
abbrev dktX2_wayTo_1 : List UInt8 := dkwX2_wayTo_1 ++ dktX2_wayTo_2
def dkwX2_wayTo_0 : List UInt8 := [3, 61, 27, 62, 29, 158, 0, 19, 132, 2, 1, 42, 16, 10, 29, 104, 16, 8, 96, 46, 62, 167, 255, 239]
abbrev dktX2_wayTo_0 : List UInt8 := dkwX2_wayTo_0 ++ dktX2_wayTo_1
theorem dksX2_wayTo_0 : cX2_wayTo.data.toList.drop 0 = dktX2_wayTo_0 := by decide +kernel
theorem dksX2_wayTo_1 : cX2_wayTo.data.toList.drop 24 = dktX2_wayTo_1 := dk_seg dksX2_wayTo_0 24 rfl rfl
theorem dksX2_wayTo_2 : cX2_wayTo.data.toList.drop 47 = dktX2_wayTo_2 := dk_seg dksX2_wayTo_1 23 rfl rfl
theorem dX2_wayTo_0 : decode cX2_wayTo 0 = .ok (.iconst 0, 1) := dk_3 (dk_at dksX2_wayTo_0 0 rfl rfl)
theorem dX2_wayTo_1 : decode cX2_wayTo 1 = .ok (.istore_n 2, 1) := dk_61 (dk_at dksX2_wayTo_0 1 rfl rfl)
theorem dX2_wayTo_2 : decode cX2_wayTo 2 = .ok (.iload_n 1, 1) := dk_27 (dk_at dksX2_wayTo_0 2 rfl rfl)
theorem dX2_wayTo_3 : decode cX2_wayTo 3 = .ok (.istore_n 3, 1) := dk_62 (dk_at dksX2_wayTo_0 3 rfl rfl)
theorem dX2_wayTo_4 : decode cX2_wayTo 4 = .ok (.iload_n 3, 1) := dk_29 (dk_at dksX2_wayTo_0 4 rfl rfl)
theorem dX2_wayTo_5 : decode cX2_wayTo 5 = .ok (.ifCond .le 19, 3) := dk_158 0 19 (dk_at dksX2_wayTo_0 5 rfl rfl)
theorem dX2_wayTo_8 : decode cX2_wayTo 8 = .ok (.iinc 2 1, 3) := dk_132 2 1 (dk_at dksX2_wayTo_0 8 rfl rfl)
theorem dX2_wayTo_11 : decode cX2_wayTo 11 = .ok (.aload_n 0, 1) := dk_42 (dk_at dksX2_wayTo_0 11 rfl rfl)
theorem dX2_wayTo_12 : decode cX2_wayTo 12 = .ok (.bipush 10, 2) := dk_16 10 (dk_at dksX2_wayTo_0 12 rfl rfl)
theorem dX2_wayTo_14 : decode cX2_wayTo 14 = .ok (.iload_n 3, 1) := dk_29 (dk_at dksX2_wayTo_0 14 rfl rfl)
theorem dX2_wayTo_15 : decode cX2_wayTo 15 = .ok (.imul, 1) := dk_104 (dk_at dksX2_wayTo_0 15 rfl rfl)
theorem dX2_wayTo_16 : decode cX2_wayTo 16 = .ok (.bipush 8, 2) := dk_16 8 (dk_at dksX2_wayTo_0 16 rfl rfl)
theorem dX2_wayTo_18 : decode cX2_wayTo 18 = .ok (.iadd, 1) := dk_96 (dk_at dksX2_wayTo_0 18 rfl rfl)
theorem dX2_wayTo_19 : decode cX2_wayTo 19 = .ok (.iaload, 1) := dk_46 (dk_at dksX2_wayTo_0 19 rfl rfl)
theorem dX2_wayTo_20 : decode cX2_wayTo 20 = .ok (.istore_n 3, 1) := dk_62 (dk_at dksX2_wayTo_0 20 rfl rfl)
theorem dX2_wayTo_21 : decode cX2_wayTo 21 = .ok (.goto (-17), 3) := dk_167 255 239 (dk_at dksX2_wayTo_0 21 rfl rfl)
theorem dX2_wayTo_24 : decode cX2_wayTo 24 = .ok (.iload_n 2, 1) := dk_28 (dk_at dksX2_wayTo_1 0 rfl rfl)
theorem dX2_wayTo_25 : decode cX2_wayTo 25 = .ok (.newarray .int, 2) := dk_188_10 (dk_at dksX2_wayTo_1 1 rfl rfl)
theorem dX2_wayTo_27 : decode cX2_wayTo 27 = .ok (.astore_n 3, 1) := dk_78 (dk_at dksX2_wayTo_1 3 rfl rfl)
theorem dX2_wayTo_28 : decode cX2_wayTo 28 = .ok (.iload_n 1, 1) := dk_27 (dk_at dksX2_wayTo_1 4 rfl rfl)
theorem dX2_wayTo_29 : decode cX2_wayTo 29 = .ok (.istore 4, 2) := dk_54 4 (dk_at dksX2_wayTo_1 5 rfl rfl)
theorem dX2_wayTo_31 : decode cX2_wayTo 31 = .ok (.iload 4, 2) := dk_21 4 (dk_at dksX2_wayTo_1 7 rfl rfl)
theorem dX2_wayTo_33 : decode cX2_wayTo 33 = .ok (.ifCond .le 34, 3) := dk_158 0 34 (dk_at dksX2_wayTo_1 9 rfl rfl)
theorem dX2_wayTo_36 : decode cX2_wayTo 36 = .ok (.aload_n 3, 1) := dk_45 (dk_at dksX2_wayTo_1 12 rfl rfl)
theorem dX2_wayTo_37 : decode cX2_wayTo 37 = .ok (.iinc 2 (-1), 3) := dk_132 2 255 (dk_at dksX2_wayTo_1 13 rfl rfl)
theorem dX2_wayTo_40 : decode cX2_wayTo 40 = .ok (.iload_n 2, 1) := dk_28 (dk_at dksX2_wayTo_1 16 rfl rfl)
theorem dX2_wayTo_41 : decode cX2_wayTo 41 = .ok (.aload_n 0, 1) := dk_42 (dk_at dksX2_wayTo_1 17 rfl rfl)
theorem dX2_wayTo_42 : decode cX2_wayTo 42 = .ok (.bipush 10, 2) := dk_16 10 (dk_at dksX2_wayTo_1 18 rfl rfl)
theorem dX2_wayTo_44 : decode cX2_wayTo 44 = .ok (.iload 4, 2) := dk_21 4 (dk_at dksX2_wayTo_1 20 rfl rfl)
theorem dX2_wayTo_46 : decode cX2_wayTo 46 = .ok (.imul, 1) := dk_104 (dk_at dksX2_wayTo_1 22 rfl rfl)
theorem dX2_wayTo_47 : decode cX2_wayTo 47 = .ok (.bipush 9, 2) := dk_16 9 (dk_at dksX2_wayTo_2 0 rfl rfl)
theorem dX2_wayTo_49 : decode cX2_wayTo 49 = .ok (.iadd, 1) := dk_96 (dk_at dksX2_wayTo_2 2 rfl rfl)
theorem dX2_wayTo_50 : decode cX2_wayTo 50 = .ok (.iaload, 1) := dk_46 (dk_at dksX2_wayTo_2 3 rfl rfl)
theorem dX2_wayTo_51 : decode cX2_wayTo 51 = .ok (.iastore, 1) := dk_79 (dk_at dksX2_wayTo_2 4 rfl rfl)
theorem dX2_wayTo_52 : decode cX2_wayTo 52 = .ok (.aload_n 0, 1) := dk_42 (dk_at dksX2_wayTo_2 5 rfl rfl)
theorem dX2_wayTo_53 : decode cX2_wayTo 53 = .ok (.bipush 10, 2) := dk_16 10 (dk_at dksX2_wayTo_2 6 rfl rfl)
theorem dX2_wayTo_55 : decode cX2_wayTo 55 = .ok (.iload 4, 2) := dk_21 4 (dk_at dksX2_wayTo_2 8 rfl rfl)
theorem dX2_wayTo_57 : decode cX2_wayTo 57 = .ok (.imul, 1) := dk_104 (dk_at dksX2_wayTo_2 10 rfl rfl)
theorem dX2_wayTo_58 : decode cX2_wayTo 58 = .ok (.bipush 8, 2) := dk_16 8 (dk_at dksX2_wayTo_2 11 rfl rfl)
theorem dX2_wayTo_60 : decode cX2_wayTo 60 = .ok (.iadd, 1) := dk_96 (dk_at dksX2_wayTo_2 13 rfl rfl)
theorem dX2_wayTo_61 : decode cX2_wayTo 61 = .ok (.iaload, 1) := dk_46 (dk_at dksX2_wayTo_2 14 rfl rfl)
theorem dX2_wayTo_62 : decode cX2_wayTo 62 = .ok (.istore 4, 2) := dk_54 4 (dk_at dksX2_wayTo_2 15 rfl rfl)
theorem dX2_wayTo_64 : decode cX2_wayTo 64 = .ok (.goto (-33), 3) := dk_167 255 223 (dk_at dksX2_wayTo_2 17 rfl rfl)
theorem dX2_wayTo_67 : decode cX2_wayTo 67 = .ok (.aload_n 3, 1) := dk_45 (dk_at dksX2_wayTo_2 20 rfl rfl)
theorem dX2_wayTo_68 : decode cX2_wayTo 68 = .ok (.areturn, 1) := dk_176 (dk_at dksX2_wayTo_2 21 rfl rfl)
abbrev cX2_ofArc : ByteArray := prog_7_method_44_code
def yX2_ofArc : MethodName := ⟨RX2, "ofArc", "(III)I"⟩
def dkwX2_ofArc_3 : List UInt8 := [167, 0, 9, 42, 27, 28, 182, 0, 46, 172]
abbrev dktX2_ofArc_3 : List UInt8 := dkwX2_ofArc_3 ++ []
def dkwX2_ofArc_2 : List UInt8 := [28, 96, 46, 167, 0, 28, 29, 4, 160, 0, 17, 42, 180, 0, 17, 16, 8, 27, 104, 28, 96, 46]
abbrev dktX2_ofArc_2 : List UInt8 := dkwX2_ofArc_2 ++ dktX2_ofArc_3
def dkwX2_ofArc_1 : List UInt8 := [5, 184, 0, 35, 182, 0, 117, 153, 0, 5, 3, 172, 29, 154, 0, 17, 42, 180, 0, 13, 16, 8, 27, 104]
abbrev dktX2_ofArc_1 : List UInt8 := dkwX2_ofArc_1 ++ dktX2_ofArc_2
def dkwX2_ofArc_0 : List UInt8 := [42, 42, 27, 182, 0, 129, 153, 0, 15, 42, 28, 182, 0, 133, 153, 0, 7, 4, 167, 0, 4, 3, 29, 3]
abbrev dktX2_ofArc_0 : List UInt8 := dkwX2_ofArc_0 ++ dktX2_ofArc_1
theorem dksX2_ofArc_0 : cX2_ofArc.data.toList.drop 0 = dktX2_ofArc_0 := by decide +kernel
theorem dksX2_ofArc_1 : cX2_ofArc.data.toList.drop 24 = dktX2_ofArc_1 := dk_seg dksX2_ofArc_0 24 rfl rfl
theorem dksX2_ofArc_2 : cX2_ofArc.data.toList.drop 48 = dktX2_ofArc_2 := dk_seg dksX2_ofArc_1 24 rfl rfl
theorem dksX2_ofArc_3 : cX2_ofArc.data.toList.drop 70 = dktX2_ofArc_3 := dk_seg dksX2_ofArc_2 22 rfl rfl
theorem dX2_ofArc_0 : decode cX2_ofArc 0 = .ok (.aload_n 0, 1) := dk_42 (dk_at dksX2_ofArc_0 0 rfl rfl)
theorem dX2_ofArc_1 : decode cX2_ofArc 1 = .ok (.aload_n 0, 1) := dk_42 (dk_at dksX2_ofArc_0 1 rfl rfl)
theorem dX2_ofArc_2 : decode cX2_ofArc 2 = .ok (.iload_n 1, 1) := dk_27 (dk_at dksX2_ofArc_0 2 rfl rfl)
theorem dX2_ofArc_3 : decode cX2_ofArc 3 = .ok (.invokevirtual 129, 3) := dk_182 0 129 (dk_at dksX2_ofArc_0 3 rfl rfl)
theorem dX2_ofArc_6 : decode cX2_ofArc 6 = .ok (.ifCond .eq 15, 3) := dk_153 0 15 (dk_at dksX2_ofArc_0 6 rfl rfl)
theorem dX2_ofArc_9 : decode cX2_ofArc 9 = .ok (.aload_n 0, 1) := dk_42 (dk_at dksX2_ofArc_0 9 rfl rfl)
theorem dX2_ofArc_10 : decode cX2_ofArc 10 = .ok (.iload_n 2, 1) := dk_28 (dk_at dksX2_ofArc_0 10 rfl rfl)
theorem dX2_ofArc_11 : decode cX2_ofArc 11 = .ok (.invokevirtual 133, 3) := dk_182 0 133 (dk_at dksX2_ofArc_0 11 rfl rfl)
theorem dX2_ofArc_14 : decode cX2_ofArc 14 = .ok (.ifCond .eq 7, 3) := dk_153 0 7 (dk_at dksX2_ofArc_0 14 rfl rfl)
theorem dX2_ofArc_17 : decode cX2_ofArc 17 = .ok (.iconst 1, 1) := dk_4 (dk_at dksX2_ofArc_0 17 rfl rfl)
theorem dX2_ofArc_18 : decode cX2_ofArc 18 = .ok (.goto 4, 3) := dk_167 0 4 (dk_at dksX2_ofArc_0 18 rfl rfl)
theorem dX2_ofArc_21 : decode cX2_ofArc 21 = .ok (.iconst 0, 1) := dk_3 (dk_at dksX2_ofArc_0 21 rfl rfl)
theorem dX2_ofArc_22 : decode cX2_ofArc 22 = .ok (.iload_n 3, 1) := dk_29 (dk_at dksX2_ofArc_0 22 rfl rfl)
theorem dX2_ofArc_23 : decode cX2_ofArc 23 = .ok (.iconst 0, 1) := dk_3 (dk_at dksX2_ofArc_0 23 rfl rfl)
theorem dX2_ofArc_24 : decode cX2_ofArc 24 = .ok (.iconst 2, 1) := dk_5 (dk_at dksX2_ofArc_1 0 rfl rfl)
theorem dX2_ofArc_25 : decode cX2_ofArc 25 = .ok (.invokestatic 35, 3) := dk_184 0 35 (dk_at dksX2_ofArc_1 1 rfl rfl)
theorem dX2_ofArc_28 : decode cX2_ofArc 28 = .ok (.invokevirtual 117, 3) := dk_182 0 117 (dk_at dksX2_ofArc_1 4 rfl rfl)
theorem dX2_ofArc_31 : decode cX2_ofArc 31 = .ok (.ifCond .eq 5, 3) := dk_153 0 5 (dk_at dksX2_ofArc_1 7 rfl rfl)
theorem dX2_ofArc_34 : decode cX2_ofArc 34 = .ok (.iconst 0, 1) := dk_3 (dk_at dksX2_ofArc_1 10 rfl rfl)
theorem dX2_ofArc_35 : decode cX2_ofArc 35 = .ok (.ireturn, 1) := dk_172 (dk_at dksX2_ofArc_1 11 rfl rfl)
theorem dX2_ofArc_36 : decode cX2_ofArc 36 = .ok (.iload_n 3, 1) := dk_29 (dk_at dksX2_ofArc_1 12 rfl rfl)
theorem dX2_ofArc_37 : decode cX2_ofArc 37 = .ok (.ifCond .ne 17, 3) := dk_154 0 17 (dk_at dksX2_ofArc_1 13 rfl rfl)
theorem dX2_ofArc_40 : decode cX2_ofArc 40 = .ok (.aload_n 0, 1) := dk_42 (dk_at dksX2_ofArc_1 16 rfl rfl)
theorem dX2_ofArc_41 : decode cX2_ofArc 41 = .ok (.getfield 13, 3) := dk_180 0 13 (dk_at dksX2_ofArc_1 17 rfl rfl)
theorem dX2_ofArc_44 : decode cX2_ofArc 44 = .ok (.bipush 8, 2) := dk_16 8 (dk_at dksX2_ofArc_1 20 rfl rfl)
theorem dX2_ofArc_46 : decode cX2_ofArc 46 = .ok (.iload_n 1, 1) := dk_27 (dk_at dksX2_ofArc_1 22 rfl rfl)
theorem dX2_ofArc_47 : decode cX2_ofArc 47 = .ok (.imul, 1) := dk_104 (dk_at dksX2_ofArc_1 23 rfl rfl)
theorem dX2_ofArc_48 : decode cX2_ofArc 48 = .ok (.iload_n 2, 1) := dk_28 (dk_at dksX2_ofArc_2 0 rfl rfl)
theorem dX2_ofArc_49 : decode cX2_ofArc 49 = .ok (.iadd, 1) := dk_96 (dk_at dksX2_ofArc_2 1 rfl rfl)
theorem dX2_ofArc_50 : decode cX2_ofArc 50 = .ok (.iaload, 1) := dk_46 (dk_at dksX2_ofArc_2 2 rfl rfl)
theorem dX2_ofArc_51 : decode cX2_ofArc 51 = .ok (.goto 28, 3) := dk_167 0 28 (dk_at dksX2_ofArc_2 3 rfl rfl)
theorem dX2_ofArc_54 : decode cX2_ofArc 54 = .ok (.iload_n 3, 1) := dk_29 (dk_at dksX2_ofArc_2 6 rfl rfl)
theorem dX2_ofArc_55 : decode cX2_ofArc 55 = .ok (.iconst 1, 1) := dk_4 (dk_at dksX2_ofArc_2 7 rfl rfl)
theorem dX2_ofArc_56 : decode cX2_ofArc 56 = .ok (.if_icmp .ne 17, 3) := dk_160 0 17 (dk_at dksX2_ofArc_2 8 rfl rfl)
theorem dX2_ofArc_59 : decode cX2_ofArc 59 = .ok (.aload_n 0, 1) := dk_42 (dk_at dksX2_ofArc_2 11 rfl rfl)
theorem dX2_ofArc_60 : decode cX2_ofArc 60 = .ok (.getfield 17, 3) := dk_180 0 17 (dk_at dksX2_ofArc_2 12 rfl rfl)
theorem dX2_ofArc_63 : decode cX2_ofArc 63 = .ok (.bipush 8, 2) := dk_16 8 (dk_at dksX2_ofArc_2 15 rfl rfl)
theorem dX2_ofArc_65 : decode cX2_ofArc 65 = .ok (.iload_n 1, 1) := dk_27 (dk_at dksX2_ofArc_2 17 rfl rfl)
theorem dX2_ofArc_66 : decode cX2_ofArc 66 = .ok (.imul, 1) := dk_104 (dk_at dksX2_ofArc_2 18 rfl rfl)
theorem dX2_ofArc_67 : decode cX2_ofArc 67 = .ok (.iload_n 2, 1) := dk_28 (dk_at dksX2_ofArc_2 19 rfl rfl)
theorem dX2_ofArc_68 : decode cX2_ofArc 68 = .ok (.iadd, 1) := dk_96 (dk_at dksX2_ofArc_2 20 rfl rfl)
theorem dX2_ofArc_69 : decode cX2_ofArc 69 = .ok (.iaload, 1) := dk_46 (dk_at dksX2_ofArc_2 21 rfl rfl)
theorem dX2_ofArc_70 : decode cX2_ofArc 70 = .ok (.goto 9, 3) := dk_167 0 9 (dk_at dksX2_ofArc_3 0 rfl rfl)
theorem dX2_ofArc_73 : decode cX2_ofArc 73 = .ok (.aload_n 0, 1) := dk_42 (dk_at dksX2_ofArc_3 3 rfl rfl)
theorem dX2_ofArc_74 : decode cX2_ofArc 74 = .ok (.iload_n 1, 1) := dk_27 (dk_at dksX2_ofArc_3 4 rfl rfl)
theorem dX2_ofArc_75 : decode cX2_ofArc 75 = .ok (.iload_n 2, 1) := dk_28 (dk_at dksX2_ofArc_3 5 rfl rfl)
theorem dX2_ofArc_76 : decode cX2_ofArc 76 = .ok (.invokevirtual 46, 3) := dk_182 0 46 (dk_at dksX2_ofArc_3 6 rfl rfl)
theorem dX2_ofArc_79 : decode cX2_ofArc 79 = .ok (.ireturn, 1) := dk_172 (dk_at dksX2_ofArc_3 9 rfl rfl)
abbrev cX2_marks : ByteArray := prog_7_method_45_code
def yX2_marks : MethodName := ⟨RX2, "marks", "(I)I"⟩
def dkwX2_marks_0 : List UInt8 := [42, 42, 27, 182, 0, 133, 4, 182, 0, 117, 153, 0, 7, 3, 167, 0, 9, 42, 180, 0, 20, 27, 46, 172]
abbrev dktX2_marks_0 : List UInt8 := dkwX2_marks_0 ++ []
theorem dksX2_marks_0 : cX2_marks.data.toList.drop 0 = dktX2_marks_0 := by decide +kernel
theorem dX2_marks_0 : decode cX2_marks 0 = .ok (.aload_n 0, 1) := dk_42 (dk_at dksX2_marks_0 0 rfl rfl)
theorem dX2_marks_1 : decode cX2_marks 1 = .ok (.aload_n 0, 1) := dk_42 (dk_at dksX2_marks_0 1 rfl rfl)
theorem dX2_marks_2 : decode cX2_marks 2 = .ok (.iload_n 1, 1) := dk_27 (dk_at dksX2_marks_0 2 rfl rfl)
theorem dX2_marks_3 : decode cX2_marks 3 = .ok (.invokevirtual 133, 3) := dk_182 0 133 (dk_at dksX2_marks_0 3 rfl rfl)
theorem dX2_marks_6 : decode cX2_marks 6 = .ok (.iconst 1, 1) := dk_4 (dk_at dksX2_marks_0 6 rfl rfl)
theorem dX2_marks_7 : decode cX2_marks 7 = .ok (.invokevirtual 117, 3) := dk_182 0 117 (dk_at dksX2_marks_0 7 rfl rfl)
theorem dX2_marks_10 : decode cX2_marks 10 = .ok (.ifCond .eq 7, 3) := dk_153 0 7 (dk_at dksX2_marks_0 10 rfl rfl)
theorem dX2_marks_13 : decode cX2_marks 13 = .ok (.iconst 0, 1) := dk_3 (dk_at dksX2_marks_0 13 rfl rfl)
theorem dX2_marks_14 : decode cX2_marks 14 = .ok (.goto 9, 3) := dk_167 0 9 (dk_at dksX2_marks_0 14 rfl rfl)
theorem dX2_marks_17 : decode cX2_marks 17 = .ok (.aload_n 0, 1) := dk_42 (dk_at dksX2_marks_0 17 rfl rfl)
theorem dX2_marks_18 : decode cX2_marks 18 = .ok (.getfield 20, 3) := dk_180 0 20 (dk_at dksX2_marks_0 18 rfl rfl)
theorem dX2_marks_21 : decode cX2_marks 21 = .ok (.iload_n 1, 1) := dk_27 (dk_at dksX2_marks_0 21 rfl rfl)
theorem dX2_marks_22 : decode cX2_marks 22 = .ok (.iaload, 1) := dk_46 (dk_at dksX2_marks_0 22 rfl rfl)
theorem dX2_marks_23 : decode cX2_marks 23 = .ok (.ireturn, 1) := dk_172 (dk_at dksX2_marks_0 23 rfl rfl)
abbrev cX2_text : ByteArray := prog_7_method_46_code
def yX2_text : MethodName := ⟨RX2, "text", "()Ljava/lang/String;"⟩
def dkwX2_text_0 : List UInt8 := [42, 3, 181, 0, 29, 42, 42, 180, 0, 20, 3, 182, 0, 161, 176]
abbrev dktX2_text_0 : List UInt8 := dkwX2_text_0 ++ []
theorem dksX2_text_0 : cX2_text.data.toList.drop 0 = dktX2_text_0 := by decide +kernel
theorem dX2_text_0 : decode cX2_text 0 = .ok (.aload_n 0, 1) := dk_42 (dk_at dksX2_text_0 0 rfl rfl)
theorem dX2_text_1 : decode cX2_text 1 = .ok (.iconst 0, 1) := dk_3 (dk_at dksX2_text_0 1 rfl rfl)
theorem dX2_text_2 : decode cX2_text 2 = .ok (.putfield 29, 3) := dk_181 0 29 (dk_at dksX2_text_0 2 rfl rfl)
theorem dX2_text_5 : decode cX2_text 5 = .ok (.aload_n 0, 1) := dk_42 (dk_at dksX2_text_0 5 rfl rfl)
theorem dX2_text_6 : decode cX2_text 6 = .ok (.aload_n 0, 1) := dk_42 (dk_at dksX2_text_0 6 rfl rfl)
theorem dX2_text_7 : decode cX2_text 7 = .ok (.getfield 20, 3) := dk_180 0 20 (dk_at dksX2_text_0 7 rfl rfl)
theorem dX2_text_10 : decode cX2_text 10 = .ok (.iconst 0, 1) := dk_3 (dk_at dksX2_text_0 10 rfl rfl)
theorem dX2_text_11 : decode cX2_text 11 = .ok (.invokevirtual 161, 3) := dk_182 0 161 (dk_at dksX2_text_0 11 rfl rfl)
theorem dX2_text_14 : decode cX2_text 14 = .ok (.areturn, 1) := dk_176 (dk_at dksX2_text_0 14 rfl rfl)
abbrev cX2_textOf : ByteArray := prog_7_method_14_code
def yX2_textOf : MethodName := ⟨RX2, "textOf", "([II)Ljava/lang/String;"⟩
def dkwX2_textOf_2 : List UInt8 := [132, 4, 1, 167, 255, 218, 45, 182, 0, 64, 176]
abbrev dktX2_textOf_2 : List UInt8 := dkwX2_textOf_2 ++ []
def dkwX2_textOf_1 : List UInt8 := [158, 0, 8, 18, 53, 167, 0, 5, 18, 55, 182, 0, 57, 43, 28, 21, 4, 96, 46, 182, 0, 61, 87]
abbrev dktX2_textOf_1 : List UInt8 := dkwX2_textOf_1 ++ dktX2_textOf_2
def dkwX2_textOf_0 : List UInt8 := [187, 0, 50, 89, 183, 0, 52, 78, 3, 54, 4, 21, 4, 42, 180, 0, 7, 162, 0, 35, 45, 21, 4]
abbrev dktX2_textOf_0 : List UInt8 := dkwX2_textOf_0 ++ dktX2_textOf_1
theorem dksX2_textOf_0 : cX2_textOf.data.toList.drop 0 = dktX2_textOf_0 := by decide +kernel
theorem dksX2_textOf_1 : cX2_textOf.data.toList.drop 23 = dktX2_textOf_1 := dk_seg dksX2_textOf_0 23 rfl rfl
theorem dksX2_textOf_2 : cX2_textOf.data.toList.drop 46 = dktX2_textOf_2 := dk_seg dksX2_textOf_1 23 rfl rfl
theorem dX2_textOf_0 : decode cX2_textOf 0 = .ok (.new 50, 3) := dk_187 0 50 (dk_at dksX2_textOf_0 0 rfl rfl)
theorem dX2_textOf_3 : decode cX2_textOf 3 = .ok (.dup, 1) := dk_89 (dk_at dksX2_textOf_0 3 rfl rfl)
theorem dX2_textOf_4 : decode cX2_textOf 4 = .ok (.invokespecial 52, 3) := dk_183 0 52 (dk_at dksX2_textOf_0 4 rfl rfl)
theorem dX2_textOf_7 : decode cX2_textOf 7 = .ok (.astore_n 3, 1) := dk_78 (dk_at dksX2_textOf_0 7 rfl rfl)
theorem dX2_textOf_8 : decode cX2_textOf 8 = .ok (.iconst 0, 1) := dk_3 (dk_at dksX2_textOf_0 8 rfl rfl)
theorem dX2_textOf_9 : decode cX2_textOf 9 = .ok (.istore 4, 2) := dk_54 4 (dk_at dksX2_textOf_0 9 rfl rfl)
theorem dX2_textOf_11 : decode cX2_textOf 11 = .ok (.iload 4, 2) := dk_21 4 (dk_at dksX2_textOf_0 11 rfl rfl)
theorem dX2_textOf_13 : decode cX2_textOf 13 = .ok (.aload_n 0, 1) := dk_42 (dk_at dksX2_textOf_0 13 rfl rfl)
theorem dX2_textOf_14 : decode cX2_textOf 14 = .ok (.getfield 7, 3) := dk_180 0 7 (dk_at dksX2_textOf_0 14 rfl rfl)
theorem dX2_textOf_17 : decode cX2_textOf 17 = .ok (.if_icmp .ge 35, 3) := dk_162 0 35 (dk_at dksX2_textOf_0 17 rfl rfl)
theorem dX2_textOf_20 : decode cX2_textOf 20 = .ok (.aload_n 3, 1) := dk_45 (dk_at dksX2_textOf_0 20 rfl rfl)
theorem dX2_textOf_21 : decode cX2_textOf 21 = .ok (.iload 4, 2) := dk_21 4 (dk_at dksX2_textOf_0 21 rfl rfl)
theorem dX2_textOf_23 : decode cX2_textOf 23 = .ok (.ifCond .le 8, 3) := dk_158 0 8 (dk_at dksX2_textOf_1 0 rfl rfl)
theorem dX2_textOf_26 : decode cX2_textOf 26 = .ok (.ldc 53, 2) := dk_18 53 (dk_at dksX2_textOf_1 3 rfl rfl)
theorem dX2_textOf_28 : decode cX2_textOf 28 = .ok (.goto 5, 3) := dk_167 0 5 (dk_at dksX2_textOf_1 5 rfl rfl)
theorem dX2_textOf_31 : decode cX2_textOf 31 = .ok (.ldc 55, 2) := dk_18 55 (dk_at dksX2_textOf_1 8 rfl rfl)
theorem dX2_textOf_33 : decode cX2_textOf 33 = .ok (.invokevirtual 57, 3) := dk_182 0 57 (dk_at dksX2_textOf_1 10 rfl rfl)
theorem dX2_textOf_36 : decode cX2_textOf 36 = .ok (.aload_n 1, 1) := dk_43 (dk_at dksX2_textOf_1 13 rfl rfl)
theorem dX2_textOf_37 : decode cX2_textOf 37 = .ok (.iload_n 2, 1) := dk_28 (dk_at dksX2_textOf_1 14 rfl rfl)
theorem dX2_textOf_38 : decode cX2_textOf 38 = .ok (.iload 4, 2) := dk_21 4 (dk_at dksX2_textOf_1 15 rfl rfl)
theorem dX2_textOf_40 : decode cX2_textOf 40 = .ok (.iadd, 1) := dk_96 (dk_at dksX2_textOf_1 17 rfl rfl)
theorem dX2_textOf_41 : decode cX2_textOf 41 = .ok (.iaload, 1) := dk_46 (dk_at dksX2_textOf_1 18 rfl rfl)
theorem dX2_textOf_42 : decode cX2_textOf 42 = .ok (.invokevirtual 61, 3) := dk_182 0 61 (dk_at dksX2_textOf_1 19 rfl rfl)
theorem dX2_textOf_45 : decode cX2_textOf 45 = .ok (.pop, 1) := dk_87 (dk_at dksX2_textOf_1 22 rfl rfl)
theorem dX2_textOf_46 : decode cX2_textOf 46 = .ok (.iinc 4 1, 3) := dk_132 4 1 (dk_at dksX2_textOf_2 0 rfl rfl)
theorem dX2_textOf_49 : decode cX2_textOf 49 = .ok (.goto (-38), 3) := dk_167 255 218 (dk_at dksX2_textOf_2 3 rfl rfl)
theorem dX2_textOf_52 : decode cX2_textOf 52 = .ok (.aload_n 3, 1) := dk_45 (dk_at dksX2_textOf_2 6 rfl rfl)
theorem dX2_textOf_53 : decode cX2_textOf 53 = .ok (.invokevirtual 64, 3) := dk_182 0 64 (dk_at dksX2_textOf_2 7 rfl rfl)
theorem dX2_textOf_56 : decode cX2_textOf 56 = .ok (.areturn, 1) := dk_176 (dk_at dksX2_textOf_2 10 rfl rfl)
abbrev cX2_keptText : ByteArray := prog_7_method_47_code
def yX2_keptText : MethodName := ⟨RX2, "keptText", "(I)Ljava/lang/String;"⟩
def dkwX2_keptText_1 : List UInt8 := [27, 104, 182, 0, 161, 176]
abbrev dktX2_keptText_1 : List UInt8 := dkwX2_keptText_1 ++ []
def dkwX2_keptText_0 : List UInt8 := [42, 27, 184, 0, 147, 4, 182, 0, 117, 153, 0, 8, 18, 55, 167, 0, 15, 42, 42, 180, 0, 23, 16, 8]
abbrev dktX2_keptText_0 : List UInt8 := dkwX2_keptText_0 ++ dktX2_keptText_1
theorem dksX2_keptText_0 : cX2_keptText.data.toList.drop 0 = dktX2_keptText_0 := by decide +kernel
theorem dksX2_keptText_1 : cX2_keptText.data.toList.drop 24 = dktX2_keptText_1 := dk_seg dksX2_keptText_0 24 rfl rfl
theorem dX2_keptText_0 : decode cX2_keptText 0 = .ok (.aload_n 0, 1) := dk_42 (dk_at dksX2_keptText_0 0 rfl rfl)
theorem dX2_keptText_1 : decode cX2_keptText 1 = .ok (.iload_n 1, 1) := dk_27 (dk_at dksX2_keptText_0 1 rfl rfl)
theorem dX2_keptText_2 : decode cX2_keptText 2 = .ok (.invokestatic 147, 3) := dk_184 0 147 (dk_at dksX2_keptText_0 2 rfl rfl)
theorem dX2_keptText_5 : decode cX2_keptText 5 = .ok (.iconst 1, 1) := dk_4 (dk_at dksX2_keptText_0 5 rfl rfl)
theorem dX2_keptText_6 : decode cX2_keptText 6 = .ok (.invokevirtual 117, 3) := dk_182 0 117 (dk_at dksX2_keptText_0 6 rfl rfl)
theorem dX2_keptText_9 : decode cX2_keptText 9 = .ok (.ifCond .eq 8, 3) := dk_153 0 8 (dk_at dksX2_keptText_0 9 rfl rfl)
theorem dX2_keptText_12 : decode cX2_keptText 12 = .ok (.ldc 55, 2) := dk_18 55 (dk_at dksX2_keptText_0 12 rfl rfl)
theorem dX2_keptText_14 : decode cX2_keptText 14 = .ok (.goto 15, 3) := dk_167 0 15 (dk_at dksX2_keptText_0 14 rfl rfl)
theorem dX2_keptText_17 : decode cX2_keptText 17 = .ok (.aload_n 0, 1) := dk_42 (dk_at dksX2_keptText_0 17 rfl rfl)
theorem dX2_keptText_18 : decode cX2_keptText 18 = .ok (.aload_n 0, 1) := dk_42 (dk_at dksX2_keptText_0 18 rfl rfl)
theorem dX2_keptText_19 : decode cX2_keptText 19 = .ok (.getfield 23, 3) := dk_180 0 23 (dk_at dksX2_keptText_0 19 rfl rfl)
theorem dX2_keptText_22 : decode cX2_keptText 22 = .ok (.bipush 8, 2) := dk_16 8 (dk_at dksX2_keptText_0 22 rfl rfl)
theorem dX2_keptText_24 : decode cX2_keptText 24 = .ok (.iload_n 1, 1) := dk_27 (dk_at dksX2_keptText_1 0 rfl rfl)
theorem dX2_keptText_25 : decode cX2_keptText 25 = .ok (.imul, 1) := dk_104 (dk_at dksX2_keptText_1 1 rfl rfl)
theorem dX2_keptText_26 : decode cX2_keptText 26 = .ok (.invokevirtual 161, 3) := dk_182 0 161 (dk_at dksX2_keptText_1 2 rfl rfl)
theorem dX2_keptText_29 : decode cX2_keptText 29 = .ok (.areturn, 1) := dk_176 (dk_at dksX2_keptText_1 5 rfl rfl)
abbrev cX2_can : ByteArray := prog_7_method_48_code
def yX2_can : MethodName := ⟨RX2, "can", "(IZ)Z"⟩
def dkwX2_can_1 : List UInt8 := [153, 0, 7, 4, 167, 0, 4, 3, 172]
abbrev dktX2_can_1 : List UInt8 := dkwX2_can_1 ++ []
def dkwX2_can_0 : List UInt8 := [42, 42, 27, 182, 0, 129, 4, 182, 0, 117, 154, 0, 21, 42, 42, 180, 0, 20, 3, 27, 28, 182, 0, 71]
abbrev dktX2_can_0 : List UInt8 := dkwX2_can_0 ++ dktX2_can_1
theorem dksX2_can_0 : cX2_can.data.toList.drop 0 = dktX2_can_0 := by decide +kernel
theorem dksX2_can_1 : cX2_can.data.toList.drop 24 = dktX2_can_1 := dk_seg dksX2_can_0 24 rfl rfl
theorem dX2_can_0 : decode cX2_can 0 = .ok (.aload_n 0, 1) := dk_42 (dk_at dksX2_can_0 0 rfl rfl)
theorem dX2_can_1 : decode cX2_can 1 = .ok (.aload_n 0, 1) := dk_42 (dk_at dksX2_can_0 1 rfl rfl)
theorem dX2_can_2 : decode cX2_can 2 = .ok (.iload_n 1, 1) := dk_27 (dk_at dksX2_can_0 2 rfl rfl)
theorem dX2_can_3 : decode cX2_can 3 = .ok (.invokevirtual 129, 3) := dk_182 0 129 (dk_at dksX2_can_0 3 rfl rfl)
theorem dX2_can_6 : decode cX2_can 6 = .ok (.iconst 1, 1) := dk_4 (dk_at dksX2_can_0 6 rfl rfl)
theorem dX2_can_7 : decode cX2_can 7 = .ok (.invokevirtual 117, 3) := dk_182 0 117 (dk_at dksX2_can_0 7 rfl rfl)
theorem dX2_can_10 : decode cX2_can 10 = .ok (.ifCond .ne 21, 3) := dk_154 0 21 (dk_at dksX2_can_0 10 rfl rfl)
theorem dX2_can_13 : decode cX2_can 13 = .ok (.aload_n 0, 1) := dk_42 (dk_at dksX2_can_0 13 rfl rfl)
theorem dX2_can_14 : decode cX2_can 14 = .ok (.aload_n 0, 1) := dk_42 (dk_at dksX2_can_0 14 rfl rfl)
theorem dX2_can_15 : decode cX2_can 15 = .ok (.getfield 20, 3) := dk_180 0 20 (dk_at dksX2_can_0 15 rfl rfl)
theorem dX2_can_18 : decode cX2_can 18 = .ok (.iconst 0, 1) := dk_3 (dk_at dksX2_can_0 18 rfl rfl)
theorem dX2_can_19 : decode cX2_can 19 = .ok (.iload_n 1, 1) := dk_27 (dk_at dksX2_can_0 19 rfl rfl)
theorem dX2_can_20 : decode cX2_can 20 = .ok (.iload_n 2, 1) := dk_28 (dk_at dksX2_can_0 20 rfl rfl)
theorem dX2_can_21 : decode cX2_can 21 = .ok (.invokevirtual 71, 3) := dk_182 0 71 (dk_at dksX2_can_0 21 rfl rfl)
theorem dX2_can_24 : decode cX2_can 24 = .ok (.ifCond .eq 7, 3) := dk_153 0 7 (dk_at dksX2_can_1 0 rfl rfl)
theorem dX2_can_27 : decode cX2_can 27 = .ok (.iconst 1, 1) := dk_4 (dk_at dksX2_can_1 3 rfl rfl)
theorem dX2_can_28 : decode cX2_can 28 = .ok (.goto 4, 3) := dk_167 0 4 (dk_at dksX2_can_1 4 rfl rfl)
theorem dX2_can_31 : decode cX2_can 31 = .ok (.iconst 0, 1) := dk_3 (dk_at dksX2_can_1 7 rfl rfl)
theorem dX2_can_32 : decode cX2_can 32 = .ok (.ireturn, 1) := dk_172 (dk_at dksX2_can_1 8 rfl rfl)
abbrev cX2_going : ByteArray := prog_7_method_49_code
def yX2_going : MethodName := ⟨RX2, "going", "()I"⟩
def dkwX2_going_2 : List UInt8 := [172]
abbrev dktX2_going_2 : List UInt8 := dkwX2_going_2 ++ []
def dkwX2_going_1 : List UInt8 := [28, 3, 182, 0, 71, 153, 0, 9, 4, 28, 120, 167, 0, 4, 3, 128, 60, 132, 2, 1, 167, 255, 221, 27]
abbrev dktX2_going_1 : List UInt8 := dkwX2_going_1 ++ dktX2_going_2
def dkwX2_going_0 : List UInt8 := [42, 3, 181, 0, 29, 3, 60, 3, 61, 28, 42, 180, 0, 32, 162, 0, 33, 27, 42, 42, 180, 0, 20, 3]
abbrev dktX2_going_0 : List UInt8 := dkwX2_going_0 ++ dktX2_going_1
theorem dksX2_going_0 : cX2_going.data.toList.drop 0 = dktX2_going_0 := by decide +kernel
theorem dksX2_going_1 : cX2_going.data.toList.drop 24 = dktX2_going_1 := dk_seg dksX2_going_0 24 rfl rfl
theorem dksX2_going_2 : cX2_going.data.toList.drop 48 = dktX2_going_2 := dk_seg dksX2_going_1 24 rfl rfl
theorem dX2_going_0 : decode cX2_going 0 = .ok (.aload_n 0, 1) := dk_42 (dk_at dksX2_going_0 0 rfl rfl)
theorem dX2_going_1 : decode cX2_going 1 = .ok (.iconst 0, 1) := dk_3 (dk_at dksX2_going_0 1 rfl rfl)
theorem dX2_going_2 : decode cX2_going 2 = .ok (.putfield 29, 3) := dk_181 0 29 (dk_at dksX2_going_0 2 rfl rfl)
theorem dX2_going_5 : decode cX2_going 5 = .ok (.iconst 0, 1) := dk_3 (dk_at dksX2_going_0 5 rfl rfl)
theorem dX2_going_6 : decode cX2_going 6 = .ok (.istore_n 1, 1) := dk_60 (dk_at dksX2_going_0 6 rfl rfl)
theorem dX2_going_7 : decode cX2_going 7 = .ok (.iconst 0, 1) := dk_3 (dk_at dksX2_going_0 7 rfl rfl)
theorem dX2_going_8 : decode cX2_going 8 = .ok (.istore_n 2, 1) := dk_61 (dk_at dksX2_going_0 8 rfl rfl)
theorem dX2_going_9 : decode cX2_going 9 = .ok (.iload_n 2, 1) := dk_28 (dk_at dksX2_going_0 9 rfl rfl)
theorem dX2_going_10 : decode cX2_going 10 = .ok (.aload_n 0, 1) := dk_42 (dk_at dksX2_going_0 10 rfl rfl)
theorem dX2_going_11 : decode cX2_going 11 = .ok (.getfield 32, 3) := dk_180 0 32 (dk_at dksX2_going_0 11 rfl rfl)
theorem dX2_going_14 : decode cX2_going 14 = .ok (.if_icmp .ge 33, 3) := dk_162 0 33 (dk_at dksX2_going_0 14 rfl rfl)
theorem dX2_going_17 : decode cX2_going 17 = .ok (.iload_n 1, 1) := dk_27 (dk_at dksX2_going_0 17 rfl rfl)
theorem dX2_going_18 : decode cX2_going 18 = .ok (.aload_n 0, 1) := dk_42 (dk_at dksX2_going_0 18 rfl rfl)
theorem dX2_going_19 : decode cX2_going 19 = .ok (.aload_n 0, 1) := dk_42 (dk_at dksX2_going_0 19 rfl rfl)
theorem dX2_going_20 : decode cX2_going 20 = .ok (.getfield 20, 3) := dk_180 0 20 (dk_at dksX2_going_0 20 rfl rfl)
theorem dX2_going_23 : decode cX2_going 23 = .ok (.iconst 0, 1) := dk_3 (dk_at dksX2_going_0 23 rfl rfl)
theorem dX2_going_24 : decode cX2_going 24 = .ok (.iload_n 2, 1) := dk_28 (dk_at dksX2_going_1 0 rfl rfl)
theorem dX2_going_25 : decode cX2_going 25 = .ok (.iconst 0, 1) := dk_3 (dk_at dksX2_going_1 1 rfl rfl)
theorem dX2_going_26 : decode cX2_going 26 = .ok (.invokevirtual 71, 3) := dk_182 0 71 (dk_at dksX2_going_1 2 rfl rfl)
theorem dX2_going_29 : decode cX2_going 29 = .ok (.ifCond .eq 9, 3) := dk_153 0 9 (dk_at dksX2_going_1 5 rfl rfl)
theorem dX2_going_32 : decode cX2_going 32 = .ok (.iconst 1, 1) := dk_4 (dk_at dksX2_going_1 8 rfl rfl)
theorem dX2_going_33 : decode cX2_going 33 = .ok (.iload_n 2, 1) := dk_28 (dk_at dksX2_going_1 9 rfl rfl)
theorem dX2_going_34 : decode cX2_going 34 = .ok (.ishl, 1) := dk_120 (dk_at dksX2_going_1 10 rfl rfl)
theorem dX2_going_35 : decode cX2_going 35 = .ok (.goto 4, 3) := dk_167 0 4 (dk_at dksX2_going_1 11 rfl rfl)
theorem dX2_going_38 : decode cX2_going 38 = .ok (.iconst 0, 1) := dk_3 (dk_at dksX2_going_1 14 rfl rfl)
theorem dX2_going_39 : decode cX2_going 39 = .ok (.ior, 1) := dk_128 (dk_at dksX2_going_1 15 rfl rfl)
theorem dX2_going_40 : decode cX2_going 40 = .ok (.istore_n 1, 1) := dk_60 (dk_at dksX2_going_1 16 rfl rfl)
theorem dX2_going_41 : decode cX2_going 41 = .ok (.iinc 2 1, 3) := dk_132 2 1 (dk_at dksX2_going_1 17 rfl rfl)
theorem dX2_going_44 : decode cX2_going 44 = .ok (.goto (-35), 3) := dk_167 255 221 (dk_at dksX2_going_1 20 rfl rfl)
theorem dX2_going_47 : decode cX2_going 47 = .ok (.iload_n 1, 1) := dk_27 (dk_at dksX2_going_1 23 rfl rfl)
theorem dX2_going_48 : decode cX2_going 48 = .ok (.ireturn, 1) := dk_172 (dk_at dksX2_going_2 0 rfl rfl)
abbrev cX2_touches : ByteArray := prog_7_method_51_code
def yX2_touches : MethodName := ⟨RX2, "touches", "(I)I"⟩
def dkwX2_touches_0 : List UInt8 := [42, 42, 27, 182, 0, 129, 4, 182, 0, 117, 153, 0, 7, 3, 167, 0, 8, 42, 27, 182, 0, 165, 172]
abbrev dktX2_touches_0 : List UInt8 := dkwX2_touches_0 ++ []
theorem dksX2_touches_0 : cX2_touches.data.toList.drop 0 = dktX2_touches_0 := by decide +kernel
theorem dX2_touches_0 : decode cX2_touches 0 = .ok (.aload_n 0, 1) := dk_42 (dk_at dksX2_touches_0 0 rfl rfl)
theorem dX2_touches_1 : decode cX2_touches 1 = .ok (.aload_n 0, 1) := dk_42 (dk_at dksX2_touches_0 1 rfl rfl)
theorem dX2_touches_2 : decode cX2_touches 2 = .ok (.iload_n 1, 1) := dk_27 (dk_at dksX2_touches_0 2 rfl rfl)
theorem dX2_touches_3 : decode cX2_touches 3 = .ok (.invokevirtual 129, 3) := dk_182 0 129 (dk_at dksX2_touches_0 3 rfl rfl)
theorem dX2_touches_6 : decode cX2_touches 6 = .ok (.iconst 1, 1) := dk_4 (dk_at dksX2_touches_0 6 rfl rfl)
theorem dX2_touches_7 : decode cX2_touches 7 = .ok (.invokevirtual 117, 3) := dk_182 0 117 (dk_at dksX2_touches_0 7 rfl rfl)
theorem dX2_touches_10 : decode cX2_touches 10 = .ok (.ifCond .eq 7, 3) := dk_153 0 7 (dk_at dksX2_touches_0 10 rfl rfl)
theorem dX2_touches_13 : decode cX2_touches 13 = .ok (.iconst 0, 1) := dk_3 (dk_at dksX2_touches_0 13 rfl rfl)
theorem dX2_touches_14 : decode cX2_touches 14 = .ok (.goto 8, 3) := dk_167 0 8 (dk_at dksX2_touches_0 14 rfl rfl)
theorem dX2_touches_17 : decode cX2_touches 17 = .ok (.aload_n 0, 1) := dk_42 (dk_at dksX2_touches_0 17 rfl rfl)
theorem dX2_touches_18 : decode cX2_touches 18 = .ok (.iload_n 1, 1) := dk_27 (dk_at dksX2_touches_0 18 rfl rfl)
theorem dX2_touches_19 : decode cX2_touches 19 = .ok (.invokevirtual 165, 3) := dk_182 0 165 (dk_at dksX2_touches_0 19 rfl rfl)
theorem dX2_touches_22 : decode cX2_touches 22 = .ok (.ireturn, 1) := dk_172 (dk_at dksX2_touches_0 22 rfl rfl)
abbrev cX2_touched : ByteArray := prog_7_method_50_code
def yX2_touched : MethodName := ⟨RX2, "touched", "(I)I"⟩
def dkwX2_touched_2 : List UInt8 := [132, 3, 1, 167, 255, 209, 28, 172]
abbrev dktX2_touched_2 : List UInt8 := dkwX2_touched_2 ++ []
def dkwX2_touched_1 : List UInt8 := [42, 180, 0, 17, 16, 8, 27, 104, 29, 96, 46, 96, 158, 0, 9, 4, 29, 120, 167, 0, 4, 3, 128, 61]
abbrev dktX2_touched_1 : List UInt8 := dkwX2_touched_1 ++ dktX2_touched_2
def dkwX2_touched_0 : List UInt8 := [3, 61, 3, 62, 29, 42, 180, 0, 7, 162, 0, 45, 28, 42, 180, 0, 13, 16, 8, 27, 104, 29, 96, 46]
abbrev dktX2_touched_0 : List UInt8 := dkwX2_touched_0 ++ dktX2_touched_1
theorem dksX2_touched_0 : cX2_touched.data.toList.drop 0 = dktX2_touched_0 := by decide +kernel
theorem dksX2_touched_1 : cX2_touched.data.toList.drop 24 = dktX2_touched_1 := dk_seg dksX2_touched_0 24 rfl rfl
theorem dksX2_touched_2 : cX2_touched.data.toList.drop 48 = dktX2_touched_2 := dk_seg dksX2_touched_1 24 rfl rfl
theorem dX2_touched_0 : decode cX2_touched 0 = .ok (.iconst 0, 1) := dk_3 (dk_at dksX2_touched_0 0 rfl rfl)
theorem dX2_touched_1 : decode cX2_touched 1 = .ok (.istore_n 2, 1) := dk_61 (dk_at dksX2_touched_0 1 rfl rfl)
theorem dX2_touched_2 : decode cX2_touched 2 = .ok (.iconst 0, 1) := dk_3 (dk_at dksX2_touched_0 2 rfl rfl)
theorem dX2_touched_3 : decode cX2_touched 3 = .ok (.istore_n 3, 1) := dk_62 (dk_at dksX2_touched_0 3 rfl rfl)
theorem dX2_touched_4 : decode cX2_touched 4 = .ok (.iload_n 3, 1) := dk_29 (dk_at dksX2_touched_0 4 rfl rfl)
theorem dX2_touched_5 : decode cX2_touched 5 = .ok (.aload_n 0, 1) := dk_42 (dk_at dksX2_touched_0 5 rfl rfl)
theorem dX2_touched_6 : decode cX2_touched 6 = .ok (.getfield 7, 3) := dk_180 0 7 (dk_at dksX2_touched_0 6 rfl rfl)
theorem dX2_touched_9 : decode cX2_touched 9 = .ok (.if_icmp .ge 45, 3) := dk_162 0 45 (dk_at dksX2_touched_0 9 rfl rfl)
theorem dX2_touched_12 : decode cX2_touched 12 = .ok (.iload_n 2, 1) := dk_28 (dk_at dksX2_touched_0 12 rfl rfl)
theorem dX2_touched_13 : decode cX2_touched 13 = .ok (.aload_n 0, 1) := dk_42 (dk_at dksX2_touched_0 13 rfl rfl)
theorem dX2_touched_14 : decode cX2_touched 14 = .ok (.getfield 13, 3) := dk_180 0 13 (dk_at dksX2_touched_0 14 rfl rfl)
theorem dX2_touched_17 : decode cX2_touched 17 = .ok (.bipush 8, 2) := dk_16 8 (dk_at dksX2_touched_0 17 rfl rfl)
theorem dX2_touched_19 : decode cX2_touched 19 = .ok (.iload_n 1, 1) := dk_27 (dk_at dksX2_touched_0 19 rfl rfl)
theorem dX2_touched_20 : decode cX2_touched 20 = .ok (.imul, 1) := dk_104 (dk_at dksX2_touched_0 20 rfl rfl)
theorem dX2_touched_21 : decode cX2_touched 21 = .ok (.iload_n 3, 1) := dk_29 (dk_at dksX2_touched_0 21 rfl rfl)
theorem dX2_touched_22 : decode cX2_touched 22 = .ok (.iadd, 1) := dk_96 (dk_at dksX2_touched_0 22 rfl rfl)
theorem dX2_touched_23 : decode cX2_touched 23 = .ok (.iaload, 1) := dk_46 (dk_at dksX2_touched_0 23 rfl rfl)
theorem dX2_touched_24 : decode cX2_touched 24 = .ok (.aload_n 0, 1) := dk_42 (dk_at dksX2_touched_1 0 rfl rfl)
theorem dX2_touched_25 : decode cX2_touched 25 = .ok (.getfield 17, 3) := dk_180 0 17 (dk_at dksX2_touched_1 1 rfl rfl)
theorem dX2_touched_28 : decode cX2_touched 28 = .ok (.bipush 8, 2) := dk_16 8 (dk_at dksX2_touched_1 4 rfl rfl)
theorem dX2_touched_30 : decode cX2_touched 30 = .ok (.iload_n 1, 1) := dk_27 (dk_at dksX2_touched_1 6 rfl rfl)
theorem dX2_touched_31 : decode cX2_touched 31 = .ok (.imul, 1) := dk_104 (dk_at dksX2_touched_1 7 rfl rfl)
theorem dX2_touched_32 : decode cX2_touched 32 = .ok (.iload_n 3, 1) := dk_29 (dk_at dksX2_touched_1 8 rfl rfl)
theorem dX2_touched_33 : decode cX2_touched 33 = .ok (.iadd, 1) := dk_96 (dk_at dksX2_touched_1 9 rfl rfl)
theorem dX2_touched_34 : decode cX2_touched 34 = .ok (.iaload, 1) := dk_46 (dk_at dksX2_touched_1 10 rfl rfl)
theorem dX2_touched_35 : decode cX2_touched 35 = .ok (.iadd, 1) := dk_96 (dk_at dksX2_touched_1 11 rfl rfl)
theorem dX2_touched_36 : decode cX2_touched 36 = .ok (.ifCond .le 9, 3) := dk_158 0 9 (dk_at dksX2_touched_1 12 rfl rfl)
theorem dX2_touched_39 : decode cX2_touched 39 = .ok (.iconst 1, 1) := dk_4 (dk_at dksX2_touched_1 15 rfl rfl)
theorem dX2_touched_40 : decode cX2_touched 40 = .ok (.iload_n 3, 1) := dk_29 (dk_at dksX2_touched_1 16 rfl rfl)
theorem dX2_touched_41 : decode cX2_touched 41 = .ok (.ishl, 1) := dk_120 (dk_at dksX2_touched_1 17 rfl rfl)
theorem dX2_touched_42 : decode cX2_touched 42 = .ok (.goto 4, 3) := dk_167 0 4 (dk_at dksX2_touched_1 18 rfl rfl)
theorem dX2_touched_45 : decode cX2_touched 45 = .ok (.iconst 0, 1) := dk_3 (dk_at dksX2_touched_1 21 rfl rfl)
theorem dX2_touched_46 : decode cX2_touched 46 = .ok (.ior, 1) := dk_128 (dk_at dksX2_touched_1 22 rfl rfl)
theorem dX2_touched_47 : decode cX2_touched 47 = .ok (.istore_n 2, 1) := dk_61 (dk_at dksX2_touched_1 23 rfl rfl)
theorem dX2_touched_48 : decode cX2_touched 48 = .ok (.iinc 3 1, 3) := dk_132 3 1 (dk_at dksX2_touched_2 0 rfl rfl)
theorem dX2_touched_51 : decode cX2_touched 51 = .ok (.goto (-47), 3) := dk_167 255 209 (dk_at dksX2_touched_2 3 rfl rfl)
theorem dX2_touched_54 : decode cX2_touched 54 = .ok (.iload_n 2, 1) := dk_28 (dk_at dksX2_touched_2 6 rfl rfl)
theorem dX2_touched_55 : decode cX2_touched 55 = .ok (.ireturn, 1) := dk_172 (dk_at dksX2_touched_2 7 rfl rfl)
abbrev cX2_areApart : ByteArray := prog_7_method_52_code
def yX2_areApart : MethodName := ⟨RX2, "areApart", "(II)Z"⟩
def dkwX2_areApart_2 : List UInt8 := [3, 172]
abbrev dktX2_areApart_2 : List UInt8 := dkwX2_areApart_2 ++ []
def dkwX2_areApart_1 : List UInt8 := [182, 0, 117, 154, 0, 21, 42, 27, 182, 0, 165, 42, 28, 182, 0, 165, 126, 154, 0, 7, 4, 167, 0, 4]
abbrev dktX2_areApart_1 : List UInt8 := dkwX2_areApart_1 ++ dktX2_areApart_2
def dkwX2_areApart_0 : List UInt8 := [42, 42, 27, 182, 0, 129, 153, 0, 15, 42, 28, 182, 0, 129, 153, 0, 7, 4, 167, 0, 4, 3, 4]
abbrev dktX2_areApart_0 : List UInt8 := dkwX2_areApart_0 ++ dktX2_areApart_1
theorem dksX2_areApart_0 : cX2_areApart.data.toList.drop 0 = dktX2_areApart_0 := by decide +kernel
theorem dksX2_areApart_1 : cX2_areApart.data.toList.drop 23 = dktX2_areApart_1 := dk_seg dksX2_areApart_0 23 rfl rfl
theorem dksX2_areApart_2 : cX2_areApart.data.toList.drop 47 = dktX2_areApart_2 := dk_seg dksX2_areApart_1 24 rfl rfl
theorem dX2_areApart_0 : decode cX2_areApart 0 = .ok (.aload_n 0, 1) := dk_42 (dk_at dksX2_areApart_0 0 rfl rfl)
theorem dX2_areApart_1 : decode cX2_areApart 1 = .ok (.aload_n 0, 1) := dk_42 (dk_at dksX2_areApart_0 1 rfl rfl)
theorem dX2_areApart_2 : decode cX2_areApart 2 = .ok (.iload_n 1, 1) := dk_27 (dk_at dksX2_areApart_0 2 rfl rfl)
theorem dX2_areApart_3 : decode cX2_areApart 3 = .ok (.invokevirtual 129, 3) := dk_182 0 129 (dk_at dksX2_areApart_0 3 rfl rfl)
theorem dX2_areApart_6 : decode cX2_areApart 6 = .ok (.ifCond .eq 15, 3) := dk_153 0 15 (dk_at dksX2_areApart_0 6 rfl rfl)
theorem dX2_areApart_9 : decode cX2_areApart 9 = .ok (.aload_n 0, 1) := dk_42 (dk_at dksX2_areApart_0 9 rfl rfl)
theorem dX2_areApart_10 : decode cX2_areApart 10 = .ok (.iload_n 2, 1) := dk_28 (dk_at dksX2_areApart_0 10 rfl rfl)
theorem dX2_areApart_11 : decode cX2_areApart 11 = .ok (.invokevirtual 129, 3) := dk_182 0 129 (dk_at dksX2_areApart_0 11 rfl rfl)
theorem dX2_areApart_14 : decode cX2_areApart 14 = .ok (.ifCond .eq 7, 3) := dk_153 0 7 (dk_at dksX2_areApart_0 14 rfl rfl)
theorem dX2_areApart_17 : decode cX2_areApart 17 = .ok (.iconst 1, 1) := dk_4 (dk_at dksX2_areApart_0 17 rfl rfl)
theorem dX2_areApart_18 : decode cX2_areApart 18 = .ok (.goto 4, 3) := dk_167 0 4 (dk_at dksX2_areApart_0 18 rfl rfl)
theorem dX2_areApart_21 : decode cX2_areApart 21 = .ok (.iconst 0, 1) := dk_3 (dk_at dksX2_areApart_0 21 rfl rfl)
theorem dX2_areApart_22 : decode cX2_areApart 22 = .ok (.iconst 1, 1) := dk_4 (dk_at dksX2_areApart_0 22 rfl rfl)
theorem dX2_areApart_23 : decode cX2_areApart 23 = .ok (.invokevirtual 117, 3) := dk_182 0 117 (dk_at dksX2_areApart_1 0 rfl rfl)
theorem dX2_areApart_26 : decode cX2_areApart 26 = .ok (.ifCond .ne 21, 3) := dk_154 0 21 (dk_at dksX2_areApart_1 3 rfl rfl)
theorem dX2_areApart_29 : decode cX2_areApart 29 = .ok (.aload_n 0, 1) := dk_42 (dk_at dksX2_areApart_1 6 rfl rfl)
theorem dX2_areApart_30 : decode cX2_areApart 30 = .ok (.iload_n 1, 1) := dk_27 (dk_at dksX2_areApart_1 7 rfl rfl)
theorem dX2_areApart_31 : decode cX2_areApart 31 = .ok (.invokevirtual 165, 3) := dk_182 0 165 (dk_at dksX2_areApart_1 8 rfl rfl)
theorem dX2_areApart_34 : decode cX2_areApart 34 = .ok (.aload_n 0, 1) := dk_42 (dk_at dksX2_areApart_1 11 rfl rfl)
theorem dX2_areApart_35 : decode cX2_areApart 35 = .ok (.iload_n 2, 1) := dk_28 (dk_at dksX2_areApart_1 12 rfl rfl)
theorem dX2_areApart_36 : decode cX2_areApart 36 = .ok (.invokevirtual 165, 3) := dk_182 0 165 (dk_at dksX2_areApart_1 13 rfl rfl)
theorem dX2_areApart_39 : decode cX2_areApart 39 = .ok (.iand, 1) := dk_126 (dk_at dksX2_areApart_1 16 rfl rfl)
theorem dX2_areApart_40 : decode cX2_areApart 40 = .ok (.ifCond .ne 7, 3) := dk_154 0 7 (dk_at dksX2_areApart_1 17 rfl rfl)
theorem dX2_areApart_43 : decode cX2_areApart 43 = .ok (.iconst 1, 1) := dk_4 (dk_at dksX2_areApart_1 20 rfl rfl)
theorem dX2_areApart_44 : decode cX2_areApart 44 = .ok (.goto 4, 3) := dk_167 0 4 (dk_at dksX2_areApart_1 21 rfl rfl)
theorem dX2_areApart_47 : decode cX2_areApart 47 = .ok (.iconst 0, 1) := dk_3 (dk_at dksX2_areApart_2 0 rfl rfl)
theorem dX2_areApart_48 : decode cX2_areApart 48 = .ok (.ireturn, 1) := dk_172 (dk_at dksX2_areApart_2 1 rfl rfl)
abbrev cX2_reached : ByteArray := prog_7_method_53_code
def yX2_reached : MethodName := ⟨RX2, "reached", "()I"⟩
def dkwX2_reached_0 : List UInt8 := [42, 3, 181, 0, 29, 42, 182, 0, 150, 199, 0, 8, 16, 247, 167, 0, 7, 42, 180, 0, 68, 172]
abbrev dktX2_reached_0 : List UInt8 := dkwX2_reached_0 ++ []
theorem dksX2_reached_0 : cX2_reached.data.toList.drop 0 = dktX2_reached_0 := by decide +kernel
theorem dX2_reached_0 : decode cX2_reached 0 = .ok (.aload_n 0, 1) := dk_42 (dk_at dksX2_reached_0 0 rfl rfl)
theorem dX2_reached_1 : decode cX2_reached 1 = .ok (.iconst 0, 1) := dk_3 (dk_at dksX2_reached_0 1 rfl rfl)
theorem dX2_reached_2 : decode cX2_reached 2 = .ok (.putfield 29, 3) := dk_181 0 29 (dk_at dksX2_reached_0 2 rfl rfl)
theorem dX2_reached_5 : decode cX2_reached 5 = .ok (.aload_n 0, 1) := dk_42 (dk_at dksX2_reached_0 5 rfl rfl)
theorem dX2_reached_6 : decode cX2_reached 6 = .ok (.invokevirtual 150, 3) := dk_182 0 150 (dk_at dksX2_reached_0 6 rfl rfl)
theorem dX2_reached_9 : decode cX2_reached 9 = .ok (.ifnonnull 8, 3) := dk_199 0 8 (dk_at dksX2_reached_0 9 rfl rfl)
theorem dX2_reached_12 : decode cX2_reached 12 = .ok (.bipush (-9), 2) := dk_16 247 (dk_at dksX2_reached_0 12 rfl rfl)
theorem dX2_reached_14 : decode cX2_reached 14 = .ok (.goto 7, 3) := dk_167 0 7 (dk_at dksX2_reached_0 14 rfl rfl)
theorem dX2_reached_17 : decode cX2_reached 17 = .ok (.aload_n 0, 1) := dk_42 (dk_at dksX2_reached_0 17 rfl rfl)
theorem dX2_reached_18 : decode cX2_reached 18 = .ok (.getfield 68, 3) := dk_180 0 68 (dk_at dksX2_reached_0 18 rfl rfl)
theorem dX2_reached_21 : decode cX2_reached 21 = .ok (.ireturn, 1) := dk_172 (dk_at dksX2_reached_0 21 rfl rfl)
abbrev cX2_reachedText : ByteArray := prog_7_method_54_code
def yX2_reachedText : MethodName := ⟨RX2, "reachedText", "(I)Ljava/lang/String;"⟩
def dkwX2_reachedText_2 : List UInt8 := [182, 0, 161, 167, 0, 5, 18, 55, 176]
abbrev dktX2_reachedText_2 : List UInt8 := dkwX2_reachedText_2 ++ []
def dkwX2_reachedText_1 : List UInt8 := [199, 0, 8, 18, 168, 167, 0, 25, 27, 42, 180, 0, 68, 162, 0, 15, 42, 44, 16, 10, 27, 104]
abbrev dktX2_reachedText_1 : List UInt8 := dkwX2_reachedText_1 ++ dktX2_reachedText_2
def dkwX2_reachedText_0 : List UInt8 := [42, 27, 3, 16, 15, 184, 0, 35, 4, 182, 0, 117, 153, 0, 6, 18, 55, 176, 42, 182, 0, 150, 77, 44]
abbrev dktX2_reachedText_0 : List UInt8 := dkwX2_reachedText_0 ++ dktX2_reachedText_1
theorem dksX2_reachedText_0 : cX2_reachedText.data.toList.drop 0 = dktX2_reachedText_0 := by decide +kernel
theorem dksX2_reachedText_1 : cX2_reachedText.data.toList.drop 24 = dktX2_reachedText_1 := dk_seg dksX2_reachedText_0 24 rfl rfl
theorem dksX2_reachedText_2 : cX2_reachedText.data.toList.drop 46 = dktX2_reachedText_2 := dk_seg dksX2_reachedText_1 22 rfl rfl
theorem dX2_reachedText_0 : decode cX2_reachedText 0 = .ok (.aload_n 0, 1) := dk_42 (dk_at dksX2_reachedText_0 0 rfl rfl)
theorem dX2_reachedText_1 : decode cX2_reachedText 1 = .ok (.iload_n 1, 1) := dk_27 (dk_at dksX2_reachedText_0 1 rfl rfl)
theorem dX2_reachedText_2 : decode cX2_reachedText 2 = .ok (.iconst 0, 1) := dk_3 (dk_at dksX2_reachedText_0 2 rfl rfl)
theorem dX2_reachedText_3 : decode cX2_reachedText 3 = .ok (.bipush 15, 2) := dk_16 15 (dk_at dksX2_reachedText_0 3 rfl rfl)
theorem dX2_reachedText_5 : decode cX2_reachedText 5 = .ok (.invokestatic 35, 3) := dk_184 0 35 (dk_at dksX2_reachedText_0 5 rfl rfl)
theorem dX2_reachedText_8 : decode cX2_reachedText 8 = .ok (.iconst 1, 1) := dk_4 (dk_at dksX2_reachedText_0 8 rfl rfl)
theorem dX2_reachedText_9 : decode cX2_reachedText 9 = .ok (.invokevirtual 117, 3) := dk_182 0 117 (dk_at dksX2_reachedText_0 9 rfl rfl)
theorem dX2_reachedText_12 : decode cX2_reachedText 12 = .ok (.ifCond .eq 6, 3) := dk_153 0 6 (dk_at dksX2_reachedText_0 12 rfl rfl)
theorem dX2_reachedText_15 : decode cX2_reachedText 15 = .ok (.ldc 55, 2) := dk_18 55 (dk_at dksX2_reachedText_0 15 rfl rfl)
theorem dX2_reachedText_17 : decode cX2_reachedText 17 = .ok (.areturn, 1) := dk_176 (dk_at dksX2_reachedText_0 17 rfl rfl)
theorem dX2_reachedText_18 : decode cX2_reachedText 18 = .ok (.aload_n 0, 1) := dk_42 (dk_at dksX2_reachedText_0 18 rfl rfl)
theorem dX2_reachedText_19 : decode cX2_reachedText 19 = .ok (.invokevirtual 150, 3) := dk_182 0 150 (dk_at dksX2_reachedText_0 19 rfl rfl)
theorem dX2_reachedText_22 : decode cX2_reachedText 22 = .ok (.astore_n 2, 1) := dk_77 (dk_at dksX2_reachedText_0 22 rfl rfl)
theorem dX2_reachedText_23 : decode cX2_reachedText 23 = .ok (.aload_n 2, 1) := dk_44 (dk_at dksX2_reachedText_0 23 rfl rfl)
theorem dX2_reachedText_24 : decode cX2_reachedText 24 = .ok (.ifnonnull 8, 3) := dk_199 0 8 (dk_at dksX2_reachedText_1 0 rfl rfl)
theorem dX2_reachedText_27 : decode cX2_reachedText 27 = .ok (.ldc 168, 2) := dk_18 168 (dk_at dksX2_reachedText_1 3 rfl rfl)
theorem dX2_reachedText_29 : decode cX2_reachedText 29 = .ok (.goto 25, 3) := dk_167 0 25 (dk_at dksX2_reachedText_1 5 rfl rfl)
theorem dX2_reachedText_32 : decode cX2_reachedText 32 = .ok (.iload_n 1, 1) := dk_27 (dk_at dksX2_reachedText_1 8 rfl rfl)
theorem dX2_reachedText_33 : decode cX2_reachedText 33 = .ok (.aload_n 0, 1) := dk_42 (dk_at dksX2_reachedText_1 9 rfl rfl)
theorem dX2_reachedText_34 : decode cX2_reachedText 34 = .ok (.getfield 68, 3) := dk_180 0 68 (dk_at dksX2_reachedText_1 10 rfl rfl)
theorem dX2_reachedText_37 : decode cX2_reachedText 37 = .ok (.if_icmp .ge 15, 3) := dk_162 0 15 (dk_at dksX2_reachedText_1 13 rfl rfl)
theorem dX2_reachedText_40 : decode cX2_reachedText 40 = .ok (.aload_n 0, 1) := dk_42 (dk_at dksX2_reachedText_1 16 rfl rfl)
theorem dX2_reachedText_41 : decode cX2_reachedText 41 = .ok (.aload_n 2, 1) := dk_44 (dk_at dksX2_reachedText_1 17 rfl rfl)
theorem dX2_reachedText_42 : decode cX2_reachedText 42 = .ok (.bipush 10, 2) := dk_16 10 (dk_at dksX2_reachedText_1 18 rfl rfl)
theorem dX2_reachedText_44 : decode cX2_reachedText 44 = .ok (.iload_n 1, 1) := dk_27 (dk_at dksX2_reachedText_1 20 rfl rfl)
theorem dX2_reachedText_45 : decode cX2_reachedText 45 = .ok (.imul, 1) := dk_104 (dk_at dksX2_reachedText_1 21 rfl rfl)
theorem dX2_reachedText_46 : decode cX2_reachedText 46 = .ok (.invokevirtual 161, 3) := dk_182 0 161 (dk_at dksX2_reachedText_2 0 rfl rfl)
theorem dX2_reachedText_49 : decode cX2_reachedText 49 = .ok (.goto 5, 3) := dk_167 0 5 (dk_at dksX2_reachedText_2 3 rfl rfl)
theorem dX2_reachedText_52 : decode cX2_reachedText 52 = .ok (.ldc 55, 2) := dk_18 55 (dk_at dksX2_reachedText_2 6 rfl rfl)
theorem dX2_reachedText_54 : decode cX2_reachedText 54 = .ok (.areturn, 1) := dk_176 (dk_at dksX2_reachedText_2 8 rfl rfl)
abbrev cX2_number : ByteArray := prog_7_method_55_code
def yX2_number : MethodName := ⟨RX2, "number", "(I)I"⟩
def dkwX2_number_1 : List UInt8 := [16, 247, 167, 0, 16, 42, 44, 42, 180, 0, 23, 16, 8, 27, 104, 182, 0, 87, 172]
abbrev dktX2_number_1 : List UInt8 := dkwX2_number_1 ++ []
def dkwX2_number_0 : List UInt8 := [42, 27, 184, 0, 147, 4, 182, 0, 117, 153, 0, 5, 3, 172, 42, 182, 0, 150, 77, 44, 199, 0, 8]
abbrev dktX2_number_0 : List UInt8 := dkwX2_number_0 ++ dktX2_number_1
theorem dksX2_number_0 : cX2_number.data.toList.drop 0 = dktX2_number_0 := by decide +kernel
theorem dksX2_number_1 : cX2_number.data.toList.drop 23 = dktX2_number_1 := dk_seg dksX2_number_0 23 rfl rfl
theorem dX2_number_0 : decode cX2_number 0 = .ok (.aload_n 0, 1) := dk_42 (dk_at dksX2_number_0 0 rfl rfl)
theorem dX2_number_1 : decode cX2_number 1 = .ok (.iload_n 1, 1) := dk_27 (dk_at dksX2_number_0 1 rfl rfl)
theorem dX2_number_2 : decode cX2_number 2 = .ok (.invokestatic 147, 3) := dk_184 0 147 (dk_at dksX2_number_0 2 rfl rfl)
theorem dX2_number_5 : decode cX2_number 5 = .ok (.iconst 1, 1) := dk_4 (dk_at dksX2_number_0 5 rfl rfl)
theorem dX2_number_6 : decode cX2_number 6 = .ok (.invokevirtual 117, 3) := dk_182 0 117 (dk_at dksX2_number_0 6 rfl rfl)
theorem dX2_number_9 : decode cX2_number 9 = .ok (.ifCond .eq 5, 3) := dk_153 0 5 (dk_at dksX2_number_0 9 rfl rfl)
theorem dX2_number_12 : decode cX2_number 12 = .ok (.iconst 0, 1) := dk_3 (dk_at dksX2_number_0 12 rfl rfl)
theorem dX2_number_13 : decode cX2_number 13 = .ok (.ireturn, 1) := dk_172 (dk_at dksX2_number_0 13 rfl rfl)
theorem dX2_number_14 : decode cX2_number 14 = .ok (.aload_n 0, 1) := dk_42 (dk_at dksX2_number_0 14 rfl rfl)
theorem dX2_number_15 : decode cX2_number 15 = .ok (.invokevirtual 150, 3) := dk_182 0 150 (dk_at dksX2_number_0 15 rfl rfl)
theorem dX2_number_18 : decode cX2_number 18 = .ok (.astore_n 2, 1) := dk_77 (dk_at dksX2_number_0 18 rfl rfl)
theorem dX2_number_19 : decode cX2_number 19 = .ok (.aload_n 2, 1) := dk_44 (dk_at dksX2_number_0 19 rfl rfl)
theorem dX2_number_20 : decode cX2_number 20 = .ok (.ifnonnull 8, 3) := dk_199 0 8 (dk_at dksX2_number_0 20 rfl rfl)
theorem dX2_number_23 : decode cX2_number 23 = .ok (.bipush (-9), 2) := dk_16 247 (dk_at dksX2_number_1 0 rfl rfl)
theorem dX2_number_25 : decode cX2_number 25 = .ok (.goto 16, 3) := dk_167 0 16 (dk_at dksX2_number_1 2 rfl rfl)
theorem dX2_number_28 : decode cX2_number 28 = .ok (.aload_n 0, 1) := dk_42 (dk_at dksX2_number_1 5 rfl rfl)
theorem dX2_number_29 : decode cX2_number 29 = .ok (.aload_n 2, 1) := dk_44 (dk_at dksX2_number_1 6 rfl rfl)
theorem dX2_number_30 : decode cX2_number 30 = .ok (.aload_n 0, 1) := dk_42 (dk_at dksX2_number_1 7 rfl rfl)
theorem dX2_number_31 : decode cX2_number 31 = .ok (.getfield 23, 3) := dk_180 0 23 (dk_at dksX2_number_1 8 rfl rfl)
theorem dX2_number_34 : decode cX2_number 34 = .ok (.bipush 8, 2) := dk_16 8 (dk_at dksX2_number_1 11 rfl rfl)
theorem dX2_number_36 : decode cX2_number 36 = .ok (.iload_n 1, 1) := dk_27 (dk_at dksX2_number_1 13 rfl rfl)
theorem dX2_number_37 : decode cX2_number 37 = .ok (.imul, 1) := dk_104 (dk_at dksX2_number_1 14 rfl rfl)
theorem dX2_number_38 : decode cX2_number 38 = .ok (.invokevirtual 87, 3) := dk_182 0 87 (dk_at dksX2_number_1 15 rfl rfl)
theorem dX2_number_41 : decode cX2_number 41 = .ok (.ireturn, 1) := dk_172 (dk_at dksX2_number_1 18 rfl rfl)
abbrev cX2_way : ByteArray := prog_7_method_57_code
def yX2_way : MethodName := ⟨RX2, "way", "(II)Ljava/lang/String;"⟩
def dkwX2_way_7 : List UInt8 := [21, 9, 182, 0, 61, 87, 132, 8, 1, 167, 255, 213, 25, 5, 182, 0, 64, 176]
abbrev dktX2_way_7 : List UInt8 := dkwX2_way_7 ++ []
def dkwX2_way_6 : List UInt8 := [46, 54, 9, 25, 5, 25, 5, 182, 0, 186, 158, 0, 8, 18, 53, 167, 0, 5, 18, 55, 182, 0, 57]
abbrev dktX2_way_6 : List UInt8 := dkwX2_way_6 ++ dktX2_way_7
def dkwX2_way_5 : List UInt8 := [184, 0, 158, 58, 6, 25, 6, 190, 54, 7, 3, 54, 8, 21, 8, 21, 7, 162, 0, 42, 25, 6, 21, 8]
abbrev dktX2_way_5 : List UInt8 := dkwX2_way_5 ++ dktX2_way_6
def dkwX2_way_4 : List UInt8 := [54, 4, 21, 4, 2, 160, 0, 6, 18, 170, 176, 187, 0, 50, 89, 183, 0, 52, 58, 5, 45, 21, 4]
abbrev dktX2_way_4 : List UInt8 := dkwX2_way_4 ++ dktX2_way_5
def dkwX2_way_3 : List UInt8 := [182, 0, 150, 78, 45, 199, 0, 6, 18, 168, 176, 42, 45, 42, 180, 0, 23, 16, 8, 27, 104, 182, 0, 87]
abbrev dktX2_way_3 : List UInt8 := dkwX2_way_3 ++ dktX2_way_4
def dkwX2_way_2 : List UInt8 := [42, 42, 180, 0, 20, 27, 21, 4, 18, 55, 182, 0, 178, 78, 132, 4, 1, 167, 255, 224, 45, 176, 42]
abbrev dktX2_way_2 : List UInt8 := dkwX2_way_2 ++ dktX2_way_3
def dkwX2_way_1 : List UInt8 := [160, 0, 46, 18, 170, 78, 3, 54, 4, 21, 4, 6, 162, 0, 32, 45, 18, 170, 182, 0, 182, 153, 0, 23]
abbrev dktX2_way_1 : List UInt8 := dkwX2_way_1 ++ dktX2_way_2
def dkwX2_way_0 : List UInt8 := [42, 27, 184, 0, 147, 28, 3, 4, 184, 0, 35, 182, 0, 117, 153, 0, 6, 18, 55, 176, 28, 4]
abbrev dktX2_way_0 : List UInt8 := dkwX2_way_0 ++ dktX2_way_1
theorem dksX2_way_0 : cX2_way.data.toList.drop 0 = dktX2_way_0 := by decide +kernel
theorem dksX2_way_1 : cX2_way.data.toList.drop 22 = dktX2_way_1 := dk_seg dksX2_way_0 22 rfl rfl
theorem dksX2_way_2 : cX2_way.data.toList.drop 46 = dktX2_way_2 := dk_seg dksX2_way_1 24 rfl rfl
theorem dksX2_way_3 : cX2_way.data.toList.drop 69 = dktX2_way_3 := dk_seg dksX2_way_2 23 rfl rfl
theorem dksX2_way_4 : cX2_way.data.toList.drop 93 = dktX2_way_4 := dk_seg dksX2_way_3 24 rfl rfl
theorem dksX2_way_5 : cX2_way.data.toList.drop 116 = dktX2_way_5 := dk_seg dksX2_way_4 23 rfl rfl
theorem dksX2_way_6 : cX2_way.data.toList.drop 140 = dktX2_way_6 := dk_seg dksX2_way_5 24 rfl rfl
theorem dksX2_way_7 : cX2_way.data.toList.drop 163 = dktX2_way_7 := dk_seg dksX2_way_6 23 rfl rfl
theorem dX2_way_0 : decode cX2_way 0 = .ok (.aload_n 0, 1) := dk_42 (dk_at dksX2_way_0 0 rfl rfl)
theorem dX2_way_1 : decode cX2_way 1 = .ok (.iload_n 1, 1) := dk_27 (dk_at dksX2_way_0 1 rfl rfl)
theorem dX2_way_2 : decode cX2_way 2 = .ok (.invokestatic 147, 3) := dk_184 0 147 (dk_at dksX2_way_0 2 rfl rfl)
theorem dX2_way_5 : decode cX2_way 5 = .ok (.iload_n 2, 1) := dk_28 (dk_at dksX2_way_0 5 rfl rfl)
theorem dX2_way_6 : decode cX2_way 6 = .ok (.iconst 0, 1) := dk_3 (dk_at dksX2_way_0 6 rfl rfl)
theorem dX2_way_7 : decode cX2_way 7 = .ok (.iconst 1, 1) := dk_4 (dk_at dksX2_way_0 7 rfl rfl)
theorem dX2_way_8 : decode cX2_way 8 = .ok (.invokestatic 35, 3) := dk_184 0 35 (dk_at dksX2_way_0 8 rfl rfl)
theorem dX2_way_11 : decode cX2_way 11 = .ok (.invokevirtual 117, 3) := dk_182 0 117 (dk_at dksX2_way_0 11 rfl rfl)
theorem dX2_way_14 : decode cX2_way 14 = .ok (.ifCond .eq 6, 3) := dk_153 0 6 (dk_at dksX2_way_0 14 rfl rfl)
theorem dX2_way_17 : decode cX2_way 17 = .ok (.ldc 55, 2) := dk_18 55 (dk_at dksX2_way_0 17 rfl rfl)
theorem dX2_way_19 : decode cX2_way 19 = .ok (.areturn, 1) := dk_176 (dk_at dksX2_way_0 19 rfl rfl)
theorem dX2_way_20 : decode cX2_way 20 = .ok (.iload_n 2, 1) := dk_28 (dk_at dksX2_way_0 20 rfl rfl)
theorem dX2_way_21 : decode cX2_way 21 = .ok (.iconst 1, 1) := dk_4 (dk_at dksX2_way_0 21 rfl rfl)
theorem dX2_way_22 : decode cX2_way 22 = .ok (.if_icmp .ne 46, 3) := dk_160 0 46 (dk_at dksX2_way_1 0 rfl rfl)
theorem dX2_way_25 : decode cX2_way 25 = .ok (.ldc 170, 2) := dk_18 170 (dk_at dksX2_way_1 3 rfl rfl)
theorem dX2_way_27 : decode cX2_way 27 = .ok (.astore_n 3, 1) := dk_78 (dk_at dksX2_way_1 5 rfl rfl)
theorem dX2_way_28 : decode cX2_way 28 = .ok (.iconst 0, 1) := dk_3 (dk_at dksX2_way_1 6 rfl rfl)
theorem dX2_way_29 : decode cX2_way 29 = .ok (.istore 4, 2) := dk_54 4 (dk_at dksX2_way_1 7 rfl rfl)
theorem dX2_way_31 : decode cX2_way 31 = .ok (.iload 4, 2) := dk_21 4 (dk_at dksX2_way_1 9 rfl rfl)
theorem dX2_way_33 : decode cX2_way 33 = .ok (.iconst 3, 1) := dk_6 (dk_at dksX2_way_1 11 rfl rfl)
theorem dX2_way_34 : decode cX2_way 34 = .ok (.if_icmp .ge 32, 3) := dk_162 0 32 (dk_at dksX2_way_1 12 rfl rfl)
theorem dX2_way_37 : decode cX2_way 37 = .ok (.aload_n 3, 1) := dk_45 (dk_at dksX2_way_1 15 rfl rfl)
theorem dX2_way_38 : decode cX2_way 38 = .ok (.ldc 170, 2) := dk_18 170 (dk_at dksX2_way_1 16 rfl rfl)
theorem dX2_way_40 : decode cX2_way 40 = .ok (.invokevirtual 182, 3) := dk_182 0 182 (dk_at dksX2_way_1 18 rfl rfl)
theorem dX2_way_43 : decode cX2_way 43 = .ok (.ifCond .eq 23, 3) := dk_153 0 23 (dk_at dksX2_way_1 21 rfl rfl)
theorem dX2_way_46 : decode cX2_way 46 = .ok (.aload_n 0, 1) := dk_42 (dk_at dksX2_way_2 0 rfl rfl)
theorem dX2_way_47 : decode cX2_way 47 = .ok (.aload_n 0, 1) := dk_42 (dk_at dksX2_way_2 1 rfl rfl)
theorem dX2_way_48 : decode cX2_way 48 = .ok (.getfield 20, 3) := dk_180 0 20 (dk_at dksX2_way_2 2 rfl rfl)
theorem dX2_way_51 : decode cX2_way 51 = .ok (.iload_n 1, 1) := dk_27 (dk_at dksX2_way_2 5 rfl rfl)
theorem dX2_way_52 : decode cX2_way 52 = .ok (.iload 4, 2) := dk_21 4 (dk_at dksX2_way_2 6 rfl rfl)
theorem dX2_way_54 : decode cX2_way 54 = .ok (.ldc 55, 2) := dk_18 55 (dk_at dksX2_way_2 8 rfl rfl)
theorem dX2_way_56 : decode cX2_way 56 = .ok (.invokevirtual 178, 3) := dk_182 0 178 (dk_at dksX2_way_2 10 rfl rfl)
theorem dX2_way_59 : decode cX2_way 59 = .ok (.astore_n 3, 1) := dk_78 (dk_at dksX2_way_2 13 rfl rfl)
theorem dX2_way_60 : decode cX2_way 60 = .ok (.iinc 4 1, 3) := dk_132 4 1 (dk_at dksX2_way_2 14 rfl rfl)
theorem dX2_way_63 : decode cX2_way 63 = .ok (.goto (-32), 3) := dk_167 255 224 (dk_at dksX2_way_2 17 rfl rfl)
theorem dX2_way_66 : decode cX2_way 66 = .ok (.aload_n 3, 1) := dk_45 (dk_at dksX2_way_2 20 rfl rfl)
theorem dX2_way_67 : decode cX2_way 67 = .ok (.areturn, 1) := dk_176 (dk_at dksX2_way_2 21 rfl rfl)
theorem dX2_way_68 : decode cX2_way 68 = .ok (.aload_n 0, 1) := dk_42 (dk_at dksX2_way_2 22 rfl rfl)
theorem dX2_way_69 : decode cX2_way 69 = .ok (.invokevirtual 150, 3) := dk_182 0 150 (dk_at dksX2_way_3 0 rfl rfl)
theorem dX2_way_72 : decode cX2_way 72 = .ok (.astore_n 3, 1) := dk_78 (dk_at dksX2_way_3 3 rfl rfl)
theorem dX2_way_73 : decode cX2_way 73 = .ok (.aload_n 3, 1) := dk_45 (dk_at dksX2_way_3 4 rfl rfl)
theorem dX2_way_74 : decode cX2_way 74 = .ok (.ifnonnull 6, 3) := dk_199 0 6 (dk_at dksX2_way_3 5 rfl rfl)
theorem dX2_way_77 : decode cX2_way 77 = .ok (.ldc 168, 2) := dk_18 168 (dk_at dksX2_way_3 8 rfl rfl)
theorem dX2_way_79 : decode cX2_way 79 = .ok (.areturn, 1) := dk_176 (dk_at dksX2_way_3 10 rfl rfl)
theorem dX2_way_80 : decode cX2_way 80 = .ok (.aload_n 0, 1) := dk_42 (dk_at dksX2_way_3 11 rfl rfl)
theorem dX2_way_81 : decode cX2_way 81 = .ok (.aload_n 3, 1) := dk_45 (dk_at dksX2_way_3 12 rfl rfl)
theorem dX2_way_82 : decode cX2_way 82 = .ok (.aload_n 0, 1) := dk_42 (dk_at dksX2_way_3 13 rfl rfl)
theorem dX2_way_83 : decode cX2_way 83 = .ok (.getfield 23, 3) := dk_180 0 23 (dk_at dksX2_way_3 14 rfl rfl)
theorem dX2_way_86 : decode cX2_way 86 = .ok (.bipush 8, 2) := dk_16 8 (dk_at dksX2_way_3 17 rfl rfl)
theorem dX2_way_88 : decode cX2_way 88 = .ok (.iload_n 1, 1) := dk_27 (dk_at dksX2_way_3 19 rfl rfl)
theorem dX2_way_89 : decode cX2_way 89 = .ok (.imul, 1) := dk_104 (dk_at dksX2_way_3 20 rfl rfl)
theorem dX2_way_90 : decode cX2_way 90 = .ok (.invokevirtual 87, 3) := dk_182 0 87 (dk_at dksX2_way_3 21 rfl rfl)
theorem dX2_way_93 : decode cX2_way 93 = .ok (.istore 4, 2) := dk_54 4 (dk_at dksX2_way_4 0 rfl rfl)
theorem dX2_way_95 : decode cX2_way 95 = .ok (.iload 4, 2) := dk_21 4 (dk_at dksX2_way_4 2 rfl rfl)
theorem dX2_way_97 : decode cX2_way 97 = .ok (.iconst (-1), 1) := dk_2 (dk_at dksX2_way_4 4 rfl rfl)
theorem dX2_way_98 : decode cX2_way 98 = .ok (.if_icmp .ne 6, 3) := dk_160 0 6 (dk_at dksX2_way_4 5 rfl rfl)
theorem dX2_way_101 : decode cX2_way 101 = .ok (.ldc 170, 2) := dk_18 170 (dk_at dksX2_way_4 8 rfl rfl)
theorem dX2_way_103 : decode cX2_way 103 = .ok (.areturn, 1) := dk_176 (dk_at dksX2_way_4 10 rfl rfl)
theorem dX2_way_104 : decode cX2_way 104 = .ok (.new 50, 3) := dk_187 0 50 (dk_at dksX2_way_4 11 rfl rfl)
theorem dX2_way_107 : decode cX2_way 107 = .ok (.dup, 1) := dk_89 (dk_at dksX2_way_4 14 rfl rfl)
theorem dX2_way_108 : decode cX2_way 108 = .ok (.invokespecial 52, 3) := dk_183 0 52 (dk_at dksX2_way_4 15 rfl rfl)
theorem dX2_way_111 : decode cX2_way 111 = .ok (.astore 5, 2) := dk_58 5 (dk_at dksX2_way_4 18 rfl rfl)
theorem dX2_way_113 : decode cX2_way 113 = .ok (.aload_n 3, 1) := dk_45 (dk_at dksX2_way_4 20 rfl rfl)
theorem dX2_way_114 : decode cX2_way 114 = .ok (.iload 4, 2) := dk_21 4 (dk_at dksX2_way_4 21 rfl rfl)
theorem dX2_way_116 : decode cX2_way 116 = .ok (.invokestatic 158, 3) := dk_184 0 158 (dk_at dksX2_way_5 0 rfl rfl)
theorem dX2_way_119 : decode cX2_way 119 = .ok (.astore 6, 2) := dk_58 6 (dk_at dksX2_way_5 3 rfl rfl)
theorem dX2_way_121 : decode cX2_way 121 = .ok (.aload 6, 2) := dk_25 6 (dk_at dksX2_way_5 5 rfl rfl)
theorem dX2_way_123 : decode cX2_way 123 = .ok (.arraylength, 1) := dk_190 (dk_at dksX2_way_5 7 rfl rfl)
theorem dX2_way_124 : decode cX2_way 124 = .ok (.istore 7, 2) := dk_54 7 (dk_at dksX2_way_5 8 rfl rfl)
theorem dX2_way_126 : decode cX2_way 126 = .ok (.iconst 0, 1) := dk_3 (dk_at dksX2_way_5 10 rfl rfl)
theorem dX2_way_127 : decode cX2_way 127 = .ok (.istore 8, 2) := dk_54 8 (dk_at dksX2_way_5 11 rfl rfl)
theorem dX2_way_129 : decode cX2_way 129 = .ok (.iload 8, 2) := dk_21 8 (dk_at dksX2_way_5 13 rfl rfl)
theorem dX2_way_131 : decode cX2_way 131 = .ok (.iload 7, 2) := dk_21 7 (dk_at dksX2_way_5 15 rfl rfl)
theorem dX2_way_133 : decode cX2_way 133 = .ok (.if_icmp .ge 42, 3) := dk_162 0 42 (dk_at dksX2_way_5 17 rfl rfl)
theorem dX2_way_136 : decode cX2_way 136 = .ok (.aload 6, 2) := dk_25 6 (dk_at dksX2_way_5 20 rfl rfl)
theorem dX2_way_138 : decode cX2_way 138 = .ok (.iload 8, 2) := dk_21 8 (dk_at dksX2_way_5 22 rfl rfl)
theorem dX2_way_140 : decode cX2_way 140 = .ok (.iaload, 1) := dk_46 (dk_at dksX2_way_6 0 rfl rfl)
theorem dX2_way_141 : decode cX2_way 141 = .ok (.istore 9, 2) := dk_54 9 (dk_at dksX2_way_6 1 rfl rfl)
theorem dX2_way_143 : decode cX2_way 143 = .ok (.aload 5, 2) := dk_25 5 (dk_at dksX2_way_6 3 rfl rfl)
theorem dX2_way_145 : decode cX2_way 145 = .ok (.aload 5, 2) := dk_25 5 (dk_at dksX2_way_6 5 rfl rfl)
theorem dX2_way_147 : decode cX2_way 147 = .ok (.invokevirtual 186, 3) := dk_182 0 186 (dk_at dksX2_way_6 7 rfl rfl)
theorem dX2_way_150 : decode cX2_way 150 = .ok (.ifCond .le 8, 3) := dk_158 0 8 (dk_at dksX2_way_6 10 rfl rfl)
theorem dX2_way_153 : decode cX2_way 153 = .ok (.ldc 53, 2) := dk_18 53 (dk_at dksX2_way_6 13 rfl rfl)
theorem dX2_way_155 : decode cX2_way 155 = .ok (.goto 5, 3) := dk_167 0 5 (dk_at dksX2_way_6 15 rfl rfl)
theorem dX2_way_158 : decode cX2_way 158 = .ok (.ldc 55, 2) := dk_18 55 (dk_at dksX2_way_6 18 rfl rfl)
theorem dX2_way_160 : decode cX2_way 160 = .ok (.invokevirtual 57, 3) := dk_182 0 57 (dk_at dksX2_way_6 20 rfl rfl)
theorem dX2_way_163 : decode cX2_way 163 = .ok (.iload 9, 2) := dk_21 9 (dk_at dksX2_way_7 0 rfl rfl)
theorem dX2_way_165 : decode cX2_way 165 = .ok (.invokevirtual 61, 3) := dk_182 0 61 (dk_at dksX2_way_7 2 rfl rfl)
theorem dX2_way_168 : decode cX2_way 168 = .ok (.pop, 1) := dk_87 (dk_at dksX2_way_7 5 rfl rfl)
theorem dX2_way_169 : decode cX2_way 169 = .ok (.iinc 8 1, 3) := dk_132 8 1 (dk_at dksX2_way_7 6 rfl rfl)
theorem dX2_way_172 : decode cX2_way 172 = .ok (.goto (-43), 3) := dk_167 255 213 (dk_at dksX2_way_7 9 rfl rfl)
theorem dX2_way_175 : decode cX2_way 175 = .ok (.aload 5, 2) := dk_25 5 (dk_at dksX2_way_7 12 rfl rfl)
theorem dX2_way_177 : decode cX2_way 177 = .ok (.invokevirtual 64, 3) := dk_182 0 64 (dk_at dksX2_way_7 14 rfl rfl)
theorem dX2_way_180 : decode cX2_way 180 = .ok (.areturn, 1) := dk_176 (dk_at dksX2_way_7 17 rfl rfl)
abbrev cX2_deeper : ByteArray := prog_7_method_56_code
def yX2_deeper : MethodName := ⟨RX2, "deeper", "([IIILjava/lang/String;)Ljava/lang/String;"⟩
def dkwX2_deeper_6 : List UInt8 := [18, 170, 176]
abbrev dktX2_deeper_6 : List UInt8 := dkwX2_deeper_6 ++ []
def dkwX2_deeper_5 : List UInt8 := [182, 0, 178, 58, 7, 25, 7, 18, 170, 182, 0, 182, 154, 0, 6, 25, 7, 176, 132, 5, 1, 167, 255, 148]
abbrev dktX2_deeper_5 : List UInt8 := dkwX2_deeper_5 ++ dktX2_deeper_6
def dkwX2_deeper_4 : List UInt8 := [182, 0, 172, 153, 0, 8, 18, 55, 167, 0, 5, 18, 53, 182, 0, 57, 21, 5, 182, 0, 61, 182, 0, 64]
abbrev dktX2_deeper_4 : List UInt8 := dkwX2_deeper_4 ++ dktX2_deeper_5
def dkwX2_deeper_3 : List UInt8 := [182, 0, 75, 42, 25, 6, 28, 29, 4, 100, 187, 0, 50, 89, 183, 0, 52, 25, 4, 182, 0, 57, 25, 4]
abbrev dktX2_deeper_3 : List UInt8 := dkwX2_deeper_3 ++ dktX2_deeper_4
def dkwX2_deeper_2 : List UInt8 := [182, 0, 71, 154, 0, 6, 167, 0, 84, 16, 8, 188, 10, 58, 6, 42, 43, 3, 21, 5, 3, 25, 6, 3]
abbrev dktX2_deeper_2 : List UInt8 := dkwX2_deeper_2 ++ dktX2_deeper_3
def dkwX2_deeper_1 : List UInt8 := [167, 0, 5, 18, 170, 176, 3, 54, 5, 21, 5, 42, 180, 0, 32, 162, 0, 105, 42, 43, 3, 21, 5, 3]
abbrev dktX2_deeper_1 : List UInt8 := dkwX2_deeper_1 ++ dktX2_deeper_2
def dkwX2_deeper_0 : List UInt8 := [29, 154, 0, 28, 42, 43, 3, 42, 180, 0, 23, 16, 8, 28, 104, 182, 0, 79, 153, 0, 8, 25, 4]
abbrev dktX2_deeper_0 : List UInt8 := dkwX2_deeper_0 ++ dktX2_deeper_1
theorem dksX2_deeper_0 : cX2_deeper.data.toList.drop 0 = dktX2_deeper_0 := by decide +kernel
theorem dksX2_deeper_1 : cX2_deeper.data.toList.drop 23 = dktX2_deeper_1 := dk_seg dksX2_deeper_0 23 rfl rfl
theorem dksX2_deeper_2 : cX2_deeper.data.toList.drop 47 = dktX2_deeper_2 := dk_seg dksX2_deeper_1 24 rfl rfl
theorem dksX2_deeper_3 : cX2_deeper.data.toList.drop 71 = dktX2_deeper_3 := dk_seg dksX2_deeper_2 24 rfl rfl
theorem dksX2_deeper_4 : cX2_deeper.data.toList.drop 95 = dktX2_deeper_4 := dk_seg dksX2_deeper_3 24 rfl rfl
theorem dksX2_deeper_5 : cX2_deeper.data.toList.drop 119 = dktX2_deeper_5 := dk_seg dksX2_deeper_4 24 rfl rfl
theorem dksX2_deeper_6 : cX2_deeper.data.toList.drop 143 = dktX2_deeper_6 := dk_seg dksX2_deeper_5 24 rfl rfl
theorem dX2_deeper_0 : decode cX2_deeper 0 = .ok (.iload_n 3, 1) := dk_29 (dk_at dksX2_deeper_0 0 rfl rfl)
theorem dX2_deeper_1 : decode cX2_deeper 1 = .ok (.ifCond .ne 28, 3) := dk_154 0 28 (dk_at dksX2_deeper_0 1 rfl rfl)
theorem dX2_deeper_4 : decode cX2_deeper 4 = .ok (.aload_n 0, 1) := dk_42 (dk_at dksX2_deeper_0 4 rfl rfl)
theorem dX2_deeper_5 : decode cX2_deeper 5 = .ok (.aload_n 1, 1) := dk_43 (dk_at dksX2_deeper_0 5 rfl rfl)
theorem dX2_deeper_6 : decode cX2_deeper 6 = .ok (.iconst 0, 1) := dk_3 (dk_at dksX2_deeper_0 6 rfl rfl)
theorem dX2_deeper_7 : decode cX2_deeper 7 = .ok (.aload_n 0, 1) := dk_42 (dk_at dksX2_deeper_0 7 rfl rfl)
theorem dX2_deeper_8 : decode cX2_deeper 8 = .ok (.getfield 23, 3) := dk_180 0 23 (dk_at dksX2_deeper_0 8 rfl rfl)
theorem dX2_deeper_11 : decode cX2_deeper 11 = .ok (.bipush 8, 2) := dk_16 8 (dk_at dksX2_deeper_0 11 rfl rfl)
theorem dX2_deeper_13 : decode cX2_deeper 13 = .ok (.iload_n 2, 1) := dk_28 (dk_at dksX2_deeper_0 13 rfl rfl)
theorem dX2_deeper_14 : decode cX2_deeper 14 = .ok (.imul, 1) := dk_104 (dk_at dksX2_deeper_0 14 rfl rfl)
theorem dX2_deeper_15 : decode cX2_deeper 15 = .ok (.invokevirtual 79, 3) := dk_182 0 79 (dk_at dksX2_deeper_0 15 rfl rfl)
theorem dX2_deeper_18 : decode cX2_deeper 18 = .ok (.ifCond .eq 8, 3) := dk_153 0 8 (dk_at dksX2_deeper_0 18 rfl rfl)
theorem dX2_deeper_21 : decode cX2_deeper 21 = .ok (.aload 4, 2) := dk_25 4 (dk_at dksX2_deeper_0 21 rfl rfl)
theorem dX2_deeper_23 : decode cX2_deeper 23 = .ok (.goto 5, 3) := dk_167 0 5 (dk_at dksX2_deeper_1 0 rfl rfl)
theorem dX2_deeper_26 : decode cX2_deeper 26 = .ok (.ldc 170, 2) := dk_18 170 (dk_at dksX2_deeper_1 3 rfl rfl)
theorem dX2_deeper_28 : decode cX2_deeper 28 = .ok (.areturn, 1) := dk_176 (dk_at dksX2_deeper_1 5 rfl rfl)
theorem dX2_deeper_29 : decode cX2_deeper 29 = .ok (.iconst 0, 1) := dk_3 (dk_at dksX2_deeper_1 6 rfl rfl)
theorem dX2_deeper_30 : decode cX2_deeper 30 = .ok (.istore 5, 2) := dk_54 5 (dk_at dksX2_deeper_1 7 rfl rfl)
theorem dX2_deeper_32 : decode cX2_deeper 32 = .ok (.iload 5, 2) := dk_21 5 (dk_at dksX2_deeper_1 9 rfl rfl)
theorem dX2_deeper_34 : decode cX2_deeper 34 = .ok (.aload_n 0, 1) := dk_42 (dk_at dksX2_deeper_1 11 rfl rfl)
theorem dX2_deeper_35 : decode cX2_deeper 35 = .ok (.getfield 32, 3) := dk_180 0 32 (dk_at dksX2_deeper_1 12 rfl rfl)
theorem dX2_deeper_38 : decode cX2_deeper 38 = .ok (.if_icmp .ge 105, 3) := dk_162 0 105 (dk_at dksX2_deeper_1 15 rfl rfl)
theorem dX2_deeper_41 : decode cX2_deeper 41 = .ok (.aload_n 0, 1) := dk_42 (dk_at dksX2_deeper_1 18 rfl rfl)
theorem dX2_deeper_42 : decode cX2_deeper 42 = .ok (.aload_n 1, 1) := dk_43 (dk_at dksX2_deeper_1 19 rfl rfl)
theorem dX2_deeper_43 : decode cX2_deeper 43 = .ok (.iconst 0, 1) := dk_3 (dk_at dksX2_deeper_1 20 rfl rfl)
theorem dX2_deeper_44 : decode cX2_deeper 44 = .ok (.iload 5, 2) := dk_21 5 (dk_at dksX2_deeper_1 21 rfl rfl)
theorem dX2_deeper_46 : decode cX2_deeper 46 = .ok (.iconst 0, 1) := dk_3 (dk_at dksX2_deeper_1 23 rfl rfl)
theorem dX2_deeper_47 : decode cX2_deeper 47 = .ok (.invokevirtual 71, 3) := dk_182 0 71 (dk_at dksX2_deeper_2 0 rfl rfl)
theorem dX2_deeper_50 : decode cX2_deeper 50 = .ok (.ifCond .ne 6, 3) := dk_154 0 6 (dk_at dksX2_deeper_2 3 rfl rfl)
theorem dX2_deeper_53 : decode cX2_deeper 53 = .ok (.goto 84, 3) := dk_167 0 84 (dk_at dksX2_deeper_2 6 rfl rfl)
theorem dX2_deeper_56 : decode cX2_deeper 56 = .ok (.bipush 8, 2) := dk_16 8 (dk_at dksX2_deeper_2 9 rfl rfl)
theorem dX2_deeper_58 : decode cX2_deeper 58 = .ok (.newarray .int, 2) := dk_188_10 (dk_at dksX2_deeper_2 11 rfl rfl)
theorem dX2_deeper_60 : decode cX2_deeper 60 = .ok (.astore 6, 2) := dk_58 6 (dk_at dksX2_deeper_2 13 rfl rfl)
theorem dX2_deeper_62 : decode cX2_deeper 62 = .ok (.aload_n 0, 1) := dk_42 (dk_at dksX2_deeper_2 15 rfl rfl)
theorem dX2_deeper_63 : decode cX2_deeper 63 = .ok (.aload_n 1, 1) := dk_43 (dk_at dksX2_deeper_2 16 rfl rfl)
theorem dX2_deeper_64 : decode cX2_deeper 64 = .ok (.iconst 0, 1) := dk_3 (dk_at dksX2_deeper_2 17 rfl rfl)
theorem dX2_deeper_65 : decode cX2_deeper 65 = .ok (.iload 5, 2) := dk_21 5 (dk_at dksX2_deeper_2 18 rfl rfl)
theorem dX2_deeper_67 : decode cX2_deeper 67 = .ok (.iconst 0, 1) := dk_3 (dk_at dksX2_deeper_2 20 rfl rfl)
theorem dX2_deeper_68 : decode cX2_deeper 68 = .ok (.aload 6, 2) := dk_25 6 (dk_at dksX2_deeper_2 21 rfl rfl)
theorem dX2_deeper_70 : decode cX2_deeper 70 = .ok (.iconst 0, 1) := dk_3 (dk_at dksX2_deeper_2 23 rfl rfl)
theorem dX2_deeper_71 : decode cX2_deeper 71 = .ok (.invokevirtual 75, 3) := dk_182 0 75 (dk_at dksX2_deeper_3 0 rfl rfl)
theorem dX2_deeper_74 : decode cX2_deeper 74 = .ok (.aload_n 0, 1) := dk_42 (dk_at dksX2_deeper_3 3 rfl rfl)
theorem dX2_deeper_75 : decode cX2_deeper 75 = .ok (.aload 6, 2) := dk_25 6 (dk_at dksX2_deeper_3 4 rfl rfl)
theorem dX2_deeper_77 : decode cX2_deeper 77 = .ok (.iload_n 2, 1) := dk_28 (dk_at dksX2_deeper_3 6 rfl rfl)
theorem dX2_deeper_78 : decode cX2_deeper 78 = .ok (.iload_n 3, 1) := dk_29 (dk_at dksX2_deeper_3 7 rfl rfl)
theorem dX2_deeper_79 : decode cX2_deeper 79 = .ok (.iconst 1, 1) := dk_4 (dk_at dksX2_deeper_3 8 rfl rfl)
theorem dX2_deeper_80 : decode cX2_deeper 80 = .ok (.isub, 1) := dk_100 (dk_at dksX2_deeper_3 9 rfl rfl)
theorem dX2_deeper_81 : decode cX2_deeper 81 = .ok (.new 50, 3) := dk_187 0 50 (dk_at dksX2_deeper_3 10 rfl rfl)
theorem dX2_deeper_84 : decode cX2_deeper 84 = .ok (.dup, 1) := dk_89 (dk_at dksX2_deeper_3 13 rfl rfl)
theorem dX2_deeper_85 : decode cX2_deeper 85 = .ok (.invokespecial 52, 3) := dk_183 0 52 (dk_at dksX2_deeper_3 14 rfl rfl)
theorem dX2_deeper_88 : decode cX2_deeper 88 = .ok (.aload 4, 2) := dk_25 4 (dk_at dksX2_deeper_3 17 rfl rfl)
theorem dX2_deeper_90 : decode cX2_deeper 90 = .ok (.invokevirtual 57, 3) := dk_182 0 57 (dk_at dksX2_deeper_3 19 rfl rfl)
theorem dX2_deeper_93 : decode cX2_deeper 93 = .ok (.aload 4, 2) := dk_25 4 (dk_at dksX2_deeper_3 22 rfl rfl)
theorem dX2_deeper_95 : decode cX2_deeper 95 = .ok (.invokevirtual 172, 3) := dk_182 0 172 (dk_at dksX2_deeper_4 0 rfl rfl)
theorem dX2_deeper_98 : decode cX2_deeper 98 = .ok (.ifCond .eq 8, 3) := dk_153 0 8 (dk_at dksX2_deeper_4 3 rfl rfl)
theorem dX2_deeper_101 : decode cX2_deeper 101 = .ok (.ldc 55, 2) := dk_18 55 (dk_at dksX2_deeper_4 6 rfl rfl)
theorem dX2_deeper_103 : decode cX2_deeper 103 = .ok (.goto 5, 3) := dk_167 0 5 (dk_at dksX2_deeper_4 8 rfl rfl)
theorem dX2_deeper_106 : decode cX2_deeper 106 = .ok (.ldc 53, 2) := dk_18 53 (dk_at dksX2_deeper_4 11 rfl rfl)
theorem dX2_deeper_108 : decode cX2_deeper 108 = .ok (.invokevirtual 57, 3) := dk_182 0 57 (dk_at dksX2_deeper_4 13 rfl rfl)
theorem dX2_deeper_111 : decode cX2_deeper 111 = .ok (.iload 5, 2) := dk_21 5 (dk_at dksX2_deeper_4 16 rfl rfl)
theorem dX2_deeper_113 : decode cX2_deeper 113 = .ok (.invokevirtual 61, 3) := dk_182 0 61 (dk_at dksX2_deeper_4 18 rfl rfl)
theorem dX2_deeper_116 : decode cX2_deeper 116 = .ok (.invokevirtual 64, 3) := dk_182 0 64 (dk_at dksX2_deeper_4 21 rfl rfl)
theorem dX2_deeper_119 : decode cX2_deeper 119 = .ok (.invokevirtual 178, 3) := dk_182 0 178 (dk_at dksX2_deeper_5 0 rfl rfl)
theorem dX2_deeper_122 : decode cX2_deeper 122 = .ok (.astore 7, 2) := dk_58 7 (dk_at dksX2_deeper_5 3 rfl rfl)
theorem dX2_deeper_124 : decode cX2_deeper 124 = .ok (.aload 7, 2) := dk_25 7 (dk_at dksX2_deeper_5 5 rfl rfl)
theorem dX2_deeper_126 : decode cX2_deeper 126 = .ok (.ldc 170, 2) := dk_18 170 (dk_at dksX2_deeper_5 7 rfl rfl)
theorem dX2_deeper_128 : decode cX2_deeper 128 = .ok (.invokevirtual 182, 3) := dk_182 0 182 (dk_at dksX2_deeper_5 9 rfl rfl)
theorem dX2_deeper_131 : decode cX2_deeper 131 = .ok (.ifCond .ne 6, 3) := dk_154 0 6 (dk_at dksX2_deeper_5 12 rfl rfl)
theorem dX2_deeper_134 : decode cX2_deeper 134 = .ok (.aload 7, 2) := dk_25 7 (dk_at dksX2_deeper_5 15 rfl rfl)
theorem dX2_deeper_136 : decode cX2_deeper 136 = .ok (.areturn, 1) := dk_176 (dk_at dksX2_deeper_5 17 rfl rfl)
theorem dX2_deeper_137 : decode cX2_deeper 137 = .ok (.iinc 5 1, 3) := dk_132 5 1 (dk_at dksX2_deeper_5 18 rfl rfl)
theorem dX2_deeper_140 : decode cX2_deeper 140 = .ok (.goto (-108), 3) := dk_167 255 148 (dk_at dksX2_deeper_5 21 rfl rfl)
theorem dX2_deeper_143 : decode cX2_deeper 143 = .ok (.ldc 170, 2) := dk_18 170 (dk_at dksX2_deeper_6 0 rfl rfl)
theorem dX2_deeper_145 : decode cX2_deeper 145 = .ok (.areturn, 1) := dk_176 (dk_at dksX2_deeper_6 2 rfl rfl)
abbrev cX2_deads : ByteArray := prog_7_method_58_code
def yX2_deads : MethodName := ⟨RX2, "deads", "()I"⟩
def dkwX2_deads_4 : List UInt8 := [167, 255, 184, 28, 172]
abbrev dktX2_deads_4 : List UInt8 := dkwX2_deads_4 ++ []
def dkwX2_deads_3 : List UInt8 := [132, 5, 1, 167, 255, 219, 28, 21, 4, 153, 0, 9, 4, 29, 120, 167, 0, 4, 3, 128, 61, 132, 3, 1]
abbrev dktX2_deads_3 : List UInt8 := dkwX2_deads_3 ++ dktX2_deads_4
def dkwX2_deads_2 : List UInt8 := [43, 16, 10, 29, 104, 21, 5, 3, 182, 0, 71, 154, 0, 7, 4, 167, 0, 4, 3, 126, 54, 4]
abbrev dktX2_deads_2 : List UInt8 := dkwX2_deads_2 ++ dktX2_deads_3
def dkwX2_deads_1 : List UInt8 := [180, 0, 68, 162, 0, 70, 4, 54, 4, 3, 54, 5, 21, 5, 42, 180, 0, 32, 162, 0, 34, 21, 4, 42]
abbrev dktX2_deads_1 : List UInt8 := dkwX2_deads_1 ++ dktX2_deads_2
def dkwX2_deads_0 : List UInt8 := [42, 3, 181, 0, 29, 42, 182, 0, 150, 76, 43, 199, 0, 6, 16, 247, 172, 3, 61, 3, 62, 29, 42]
abbrev dktX2_deads_0 : List UInt8 := dkwX2_deads_0 ++ dktX2_deads_1
theorem dksX2_deads_0 : cX2_deads.data.toList.drop 0 = dktX2_deads_0 := by decide +kernel
theorem dksX2_deads_1 : cX2_deads.data.toList.drop 23 = dktX2_deads_1 := dk_seg dksX2_deads_0 23 rfl rfl
theorem dksX2_deads_2 : cX2_deads.data.toList.drop 47 = dktX2_deads_2 := dk_seg dksX2_deads_1 24 rfl rfl
theorem dksX2_deads_3 : cX2_deads.data.toList.drop 69 = dktX2_deads_3 := dk_seg dksX2_deads_2 22 rfl rfl
theorem dksX2_deads_4 : cX2_deads.data.toList.drop 93 = dktX2_deads_4 := dk_seg dksX2_deads_3 24 rfl rfl
theorem dX2_deads_0 : decode cX2_deads 0 = .ok (.aload_n 0, 1) := dk_42 (dk_at dksX2_deads_0 0 rfl rfl)
theorem dX2_deads_1 : decode cX2_deads 1 = .ok (.iconst 0, 1) := dk_3 (dk_at dksX2_deads_0 1 rfl rfl)
theorem dX2_deads_2 : decode cX2_deads 2 = .ok (.putfield 29, 3) := dk_181 0 29 (dk_at dksX2_deads_0 2 rfl rfl)
theorem dX2_deads_5 : decode cX2_deads 5 = .ok (.aload_n 0, 1) := dk_42 (dk_at dksX2_deads_0 5 rfl rfl)
theorem dX2_deads_6 : decode cX2_deads 6 = .ok (.invokevirtual 150, 3) := dk_182 0 150 (dk_at dksX2_deads_0 6 rfl rfl)
theorem dX2_deads_9 : decode cX2_deads 9 = .ok (.astore_n 1, 1) := dk_76 (dk_at dksX2_deads_0 9 rfl rfl)
theorem dX2_deads_10 : decode cX2_deads 10 = .ok (.aload_n 1, 1) := dk_43 (dk_at dksX2_deads_0 10 rfl rfl)
theorem dX2_deads_11 : decode cX2_deads 11 = .ok (.ifnonnull 6, 3) := dk_199 0 6 (dk_at dksX2_deads_0 11 rfl rfl)
theorem dX2_deads_14 : decode cX2_deads 14 = .ok (.bipush (-9), 2) := dk_16 247 (dk_at dksX2_deads_0 14 rfl rfl)
theorem dX2_deads_16 : decode cX2_deads 16 = .ok (.ireturn, 1) := dk_172 (dk_at dksX2_deads_0 16 rfl rfl)
theorem dX2_deads_17 : decode cX2_deads 17 = .ok (.iconst 0, 1) := dk_3 (dk_at dksX2_deads_0 17 rfl rfl)
theorem dX2_deads_18 : decode cX2_deads 18 = .ok (.istore_n 2, 1) := dk_61 (dk_at dksX2_deads_0 18 rfl rfl)
theorem dX2_deads_19 : decode cX2_deads 19 = .ok (.iconst 0, 1) := dk_3 (dk_at dksX2_deads_0 19 rfl rfl)
theorem dX2_deads_20 : decode cX2_deads 20 = .ok (.istore_n 3, 1) := dk_62 (dk_at dksX2_deads_0 20 rfl rfl)
theorem dX2_deads_21 : decode cX2_deads 21 = .ok (.iload_n 3, 1) := dk_29 (dk_at dksX2_deads_0 21 rfl rfl)
theorem dX2_deads_22 : decode cX2_deads 22 = .ok (.aload_n 0, 1) := dk_42 (dk_at dksX2_deads_0 22 rfl rfl)
theorem dX2_deads_23 : decode cX2_deads 23 = .ok (.getfield 68, 3) := dk_180 0 68 (dk_at dksX2_deads_1 0 rfl rfl)
theorem dX2_deads_26 : decode cX2_deads 26 = .ok (.if_icmp .ge 70, 3) := dk_162 0 70 (dk_at dksX2_deads_1 3 rfl rfl)
theorem dX2_deads_29 : decode cX2_deads 29 = .ok (.iconst 1, 1) := dk_4 (dk_at dksX2_deads_1 6 rfl rfl)
theorem dX2_deads_30 : decode cX2_deads 30 = .ok (.istore 4, 2) := dk_54 4 (dk_at dksX2_deads_1 7 rfl rfl)
theorem dX2_deads_32 : decode cX2_deads 32 = .ok (.iconst 0, 1) := dk_3 (dk_at dksX2_deads_1 9 rfl rfl)
theorem dX2_deads_33 : decode cX2_deads 33 = .ok (.istore 5, 2) := dk_54 5 (dk_at dksX2_deads_1 10 rfl rfl)
theorem dX2_deads_35 : decode cX2_deads 35 = .ok (.iload 5, 2) := dk_21 5 (dk_at dksX2_deads_1 12 rfl rfl)
theorem dX2_deads_37 : decode cX2_deads 37 = .ok (.aload_n 0, 1) := dk_42 (dk_at dksX2_deads_1 14 rfl rfl)
theorem dX2_deads_38 : decode cX2_deads 38 = .ok (.getfield 32, 3) := dk_180 0 32 (dk_at dksX2_deads_1 15 rfl rfl)
theorem dX2_deads_41 : decode cX2_deads 41 = .ok (.if_icmp .ge 34, 3) := dk_162 0 34 (dk_at dksX2_deads_1 18 rfl rfl)
theorem dX2_deads_44 : decode cX2_deads 44 = .ok (.iload 4, 2) := dk_21 4 (dk_at dksX2_deads_1 21 rfl rfl)
theorem dX2_deads_46 : decode cX2_deads 46 = .ok (.aload_n 0, 1) := dk_42 (dk_at dksX2_deads_1 23 rfl rfl)
theorem dX2_deads_47 : decode cX2_deads 47 = .ok (.aload_n 1, 1) := dk_43 (dk_at dksX2_deads_2 0 rfl rfl)
theorem dX2_deads_48 : decode cX2_deads 48 = .ok (.bipush 10, 2) := dk_16 10 (dk_at dksX2_deads_2 1 rfl rfl)
theorem dX2_deads_50 : decode cX2_deads 50 = .ok (.iload_n 3, 1) := dk_29 (dk_at dksX2_deads_2 3 rfl rfl)
theorem dX2_deads_51 : decode cX2_deads 51 = .ok (.imul, 1) := dk_104 (dk_at dksX2_deads_2 4 rfl rfl)
theorem dX2_deads_52 : decode cX2_deads 52 = .ok (.iload 5, 2) := dk_21 5 (dk_at dksX2_deads_2 5 rfl rfl)
theorem dX2_deads_54 : decode cX2_deads 54 = .ok (.iconst 0, 1) := dk_3 (dk_at dksX2_deads_2 7 rfl rfl)
theorem dX2_deads_55 : decode cX2_deads 55 = .ok (.invokevirtual 71, 3) := dk_182 0 71 (dk_at dksX2_deads_2 8 rfl rfl)
theorem dX2_deads_58 : decode cX2_deads 58 = .ok (.ifCond .ne 7, 3) := dk_154 0 7 (dk_at dksX2_deads_2 11 rfl rfl)
theorem dX2_deads_61 : decode cX2_deads 61 = .ok (.iconst 1, 1) := dk_4 (dk_at dksX2_deads_2 14 rfl rfl)
theorem dX2_deads_62 : decode cX2_deads 62 = .ok (.goto 4, 3) := dk_167 0 4 (dk_at dksX2_deads_2 15 rfl rfl)
theorem dX2_deads_65 : decode cX2_deads 65 = .ok (.iconst 0, 1) := dk_3 (dk_at dksX2_deads_2 18 rfl rfl)
theorem dX2_deads_66 : decode cX2_deads 66 = .ok (.iand, 1) := dk_126 (dk_at dksX2_deads_2 19 rfl rfl)
theorem dX2_deads_67 : decode cX2_deads 67 = .ok (.istore 4, 2) := dk_54 4 (dk_at dksX2_deads_2 20 rfl rfl)
theorem dX2_deads_69 : decode cX2_deads 69 = .ok (.iinc 5 1, 3) := dk_132 5 1 (dk_at dksX2_deads_3 0 rfl rfl)
theorem dX2_deads_72 : decode cX2_deads 72 = .ok (.goto (-37), 3) := dk_167 255 219 (dk_at dksX2_deads_3 3 rfl rfl)
theorem dX2_deads_75 : decode cX2_deads 75 = .ok (.iload_n 2, 1) := dk_28 (dk_at dksX2_deads_3 6 rfl rfl)
theorem dX2_deads_76 : decode cX2_deads 76 = .ok (.iload 4, 2) := dk_21 4 (dk_at dksX2_deads_3 7 rfl rfl)
theorem dX2_deads_78 : decode cX2_deads 78 = .ok (.ifCond .eq 9, 3) := dk_153 0 9 (dk_at dksX2_deads_3 9 rfl rfl)
theorem dX2_deads_81 : decode cX2_deads 81 = .ok (.iconst 1, 1) := dk_4 (dk_at dksX2_deads_3 12 rfl rfl)
theorem dX2_deads_82 : decode cX2_deads 82 = .ok (.iload_n 3, 1) := dk_29 (dk_at dksX2_deads_3 13 rfl rfl)
theorem dX2_deads_83 : decode cX2_deads 83 = .ok (.ishl, 1) := dk_120 (dk_at dksX2_deads_3 14 rfl rfl)
theorem dX2_deads_84 : decode cX2_deads 84 = .ok (.goto 4, 3) := dk_167 0 4 (dk_at dksX2_deads_3 15 rfl rfl)
theorem dX2_deads_87 : decode cX2_deads 87 = .ok (.iconst 0, 1) := dk_3 (dk_at dksX2_deads_3 18 rfl rfl)
theorem dX2_deads_88 : decode cX2_deads 88 = .ok (.ior, 1) := dk_128 (dk_at dksX2_deads_3 19 rfl rfl)
theorem dX2_deads_89 : decode cX2_deads 89 = .ok (.istore_n 2, 1) := dk_61 (dk_at dksX2_deads_3 20 rfl rfl)
theorem dX2_deads_90 : decode cX2_deads 90 = .ok (.iinc 3 1, 3) := dk_132 3 1 (dk_at dksX2_deads_3 21 rfl rfl)
theorem dX2_deads_93 : decode cX2_deads 93 = .ok (.goto (-72), 3) := dk_167 255 184 (dk_at dksX2_deads_4 0 rfl rfl)
theorem dX2_deads_96 : decode cX2_deads 96 = .ok (.iload_n 2, 1) := dk_28 (dk_at dksX2_deads_4 3 rfl rfl)
theorem dX2_deads_97 : decode cX2_deads 97 = .ok (.ireturn, 1) := dk_172 (dk_at dksX2_deads_4 4 rfl rfl)
abbrev cX2_chances : ByteArray := prog_7_method_59_code
def yX2_chances : MethodName := ⟨RX2, "chances", "(I)I"⟩
def dkwX2_chances_2 : List UInt8 := [104, 27, 3, 182, 0, 71, 153, 0, 7, 4, 167, 0, 4, 3, 96, 62, 132, 4, 1, 167, 255, 221, 29, 172]
abbrev dktX2_chances_2 : List UInt8 := dkwX2_chances_2 ++ []
def dkwX2_chances_1 : List UInt8 := [16, 247, 172, 3, 62, 3, 54, 4, 21, 4, 42, 180, 0, 68, 162, 0, 32, 29, 42, 44, 16, 10, 21, 4]
abbrev dktX2_chances_1 : List UInt8 := dkwX2_chances_1 ++ dktX2_chances_2
def dkwX2_chances_0 : List UInt8 := [42, 42, 27, 182, 0, 129, 4, 182, 0, 117, 153, 0, 5, 3, 172, 42, 182, 0, 150, 77, 44, 199, 0, 6]
abbrev dktX2_chances_0 : List UInt8 := dkwX2_chances_0 ++ dktX2_chances_1
theorem dksX2_chances_0 : cX2_chances.data.toList.drop 0 = dktX2_chances_0 := by decide +kernel
theorem dksX2_chances_1 : cX2_chances.data.toList.drop 24 = dktX2_chances_1 := dk_seg dksX2_chances_0 24 rfl rfl
theorem dksX2_chances_2 : cX2_chances.data.toList.drop 48 = dktX2_chances_2 := dk_seg dksX2_chances_1 24 rfl rfl
theorem dX2_chances_0 : decode cX2_chances 0 = .ok (.aload_n 0, 1) := dk_42 (dk_at dksX2_chances_0 0 rfl rfl)
theorem dX2_chances_1 : decode cX2_chances 1 = .ok (.aload_n 0, 1) := dk_42 (dk_at dksX2_chances_0 1 rfl rfl)
theorem dX2_chances_2 : decode cX2_chances 2 = .ok (.iload_n 1, 1) := dk_27 (dk_at dksX2_chances_0 2 rfl rfl)
theorem dX2_chances_3 : decode cX2_chances 3 = .ok (.invokevirtual 129, 3) := dk_182 0 129 (dk_at dksX2_chances_0 3 rfl rfl)
theorem dX2_chances_6 : decode cX2_chances 6 = .ok (.iconst 1, 1) := dk_4 (dk_at dksX2_chances_0 6 rfl rfl)
theorem dX2_chances_7 : decode cX2_chances 7 = .ok (.invokevirtual 117, 3) := dk_182 0 117 (dk_at dksX2_chances_0 7 rfl rfl)
theorem dX2_chances_10 : decode cX2_chances 10 = .ok (.ifCond .eq 5, 3) := dk_153 0 5 (dk_at dksX2_chances_0 10 rfl rfl)
theorem dX2_chances_13 : decode cX2_chances 13 = .ok (.iconst 0, 1) := dk_3 (dk_at dksX2_chances_0 13 rfl rfl)
theorem dX2_chances_14 : decode cX2_chances 14 = .ok (.ireturn, 1) := dk_172 (dk_at dksX2_chances_0 14 rfl rfl)
theorem dX2_chances_15 : decode cX2_chances 15 = .ok (.aload_n 0, 1) := dk_42 (dk_at dksX2_chances_0 15 rfl rfl)
theorem dX2_chances_16 : decode cX2_chances 16 = .ok (.invokevirtual 150, 3) := dk_182 0 150 (dk_at dksX2_chances_0 16 rfl rfl)
theorem dX2_chances_19 : decode cX2_chances 19 = .ok (.astore_n 2, 1) := dk_77 (dk_at dksX2_chances_0 19 rfl rfl)
theorem dX2_chances_20 : decode cX2_chances 20 = .ok (.aload_n 2, 1) := dk_44 (dk_at dksX2_chances_0 20 rfl rfl)
theorem dX2_chances_21 : decode cX2_chances 21 = .ok (.ifnonnull 6, 3) := dk_199 0 6 (dk_at dksX2_chances_0 21 rfl rfl)
theorem dX2_chances_24 : decode cX2_chances 24 = .ok (.bipush (-9), 2) := dk_16 247 (dk_at dksX2_chances_1 0 rfl rfl)
theorem dX2_chances_26 : decode cX2_chances 26 = .ok (.ireturn, 1) := dk_172 (dk_at dksX2_chances_1 2 rfl rfl)
theorem dX2_chances_27 : decode cX2_chances 27 = .ok (.iconst 0, 1) := dk_3 (dk_at dksX2_chances_1 3 rfl rfl)
theorem dX2_chances_28 : decode cX2_chances 28 = .ok (.istore_n 3, 1) := dk_62 (dk_at dksX2_chances_1 4 rfl rfl)
theorem dX2_chances_29 : decode cX2_chances 29 = .ok (.iconst 0, 1) := dk_3 (dk_at dksX2_chances_1 5 rfl rfl)
theorem dX2_chances_30 : decode cX2_chances 30 = .ok (.istore 4, 2) := dk_54 4 (dk_at dksX2_chances_1 6 rfl rfl)
theorem dX2_chances_32 : decode cX2_chances 32 = .ok (.iload 4, 2) := dk_21 4 (dk_at dksX2_chances_1 8 rfl rfl)
theorem dX2_chances_34 : decode cX2_chances 34 = .ok (.aload_n 0, 1) := dk_42 (dk_at dksX2_chances_1 10 rfl rfl)
theorem dX2_chances_35 : decode cX2_chances 35 = .ok (.getfield 68, 3) := dk_180 0 68 (dk_at dksX2_chances_1 11 rfl rfl)
theorem dX2_chances_38 : decode cX2_chances 38 = .ok (.if_icmp .ge 32, 3) := dk_162 0 32 (dk_at dksX2_chances_1 14 rfl rfl)
theorem dX2_chances_41 : decode cX2_chances 41 = .ok (.iload_n 3, 1) := dk_29 (dk_at dksX2_chances_1 17 rfl rfl)
theorem dX2_chances_42 : decode cX2_chances 42 = .ok (.aload_n 0, 1) := dk_42 (dk_at dksX2_chances_1 18 rfl rfl)
theorem dX2_chances_43 : decode cX2_chances 43 = .ok (.aload_n 2, 1) := dk_44 (dk_at dksX2_chances_1 19 rfl rfl)
theorem dX2_chances_44 : decode cX2_chances 44 = .ok (.bipush 10, 2) := dk_16 10 (dk_at dksX2_chances_1 20 rfl rfl)
theorem dX2_chances_46 : decode cX2_chances 46 = .ok (.iload 4, 2) := dk_21 4 (dk_at dksX2_chances_1 22 rfl rfl)
theorem dX2_chances_48 : decode cX2_chances 48 = .ok (.imul, 1) := dk_104 (dk_at dksX2_chances_2 0 rfl rfl)
theorem dX2_chances_49 : decode cX2_chances 49 = .ok (.iload_n 1, 1) := dk_27 (dk_at dksX2_chances_2 1 rfl rfl)
theorem dX2_chances_50 : decode cX2_chances 50 = .ok (.iconst 0, 1) := dk_3 (dk_at dksX2_chances_2 2 rfl rfl)
theorem dX2_chances_51 : decode cX2_chances 51 = .ok (.invokevirtual 71, 3) := dk_182 0 71 (dk_at dksX2_chances_2 3 rfl rfl)
theorem dX2_chances_54 : decode cX2_chances 54 = .ok (.ifCond .eq 7, 3) := dk_153 0 7 (dk_at dksX2_chances_2 6 rfl rfl)
theorem dX2_chances_57 : decode cX2_chances 57 = .ok (.iconst 1, 1) := dk_4 (dk_at dksX2_chances_2 9 rfl rfl)
theorem dX2_chances_58 : decode cX2_chances 58 = .ok (.goto 4, 3) := dk_167 0 4 (dk_at dksX2_chances_2 10 rfl rfl)
theorem dX2_chances_61 : decode cX2_chances 61 = .ok (.iconst 0, 1) := dk_3 (dk_at dksX2_chances_2 13 rfl rfl)
theorem dX2_chances_62 : decode cX2_chances 62 = .ok (.iadd, 1) := dk_96 (dk_at dksX2_chances_2 14 rfl rfl)
theorem dX2_chances_63 : decode cX2_chances 63 = .ok (.istore_n 3, 1) := dk_62 (dk_at dksX2_chances_2 15 rfl rfl)
theorem dX2_chances_64 : decode cX2_chances 64 = .ok (.iinc 4 1, 3) := dk_132 4 1 (dk_at dksX2_chances_2 16 rfl rfl)
theorem dX2_chances_67 : decode cX2_chances 67 = .ok (.goto (-35), 3) := dk_167 255 221 (dk_at dksX2_chances_2 19 rfl rfl)
theorem dX2_chances_70 : decode cX2_chances 70 = .ok (.iload_n 3, 1) := dk_29 (dk_at dksX2_chances_2 22 rfl rfl)
theorem dX2_chances_71 : decode cX2_chances 71 = .ok (.ireturn, 1) := dk_172 (dk_at dksX2_chances_2 23 rfl rfl)
abbrev cX2_again : ByteArray := prog_7_method_60_code
def yX2_again : MethodName := ⟨RX2, "again", "(I)I"⟩
def dkwX2_again_3 : List UInt8 := [4, 172, 132, 3, 1, 167, 255, 208, 3, 172]
abbrev dktX2_again_3 : List UInt8 := dkwX2_again_3 ++ []
def dkwX2_again_2 : List UInt8 := [155, 0, 26, 21, 4, 29, 159, 0, 18, 42, 44, 21, 4, 182, 0, 189, 29, 122, 4, 126, 4, 160, 0, 5]
abbrev dktX2_again_2 : List UInt8 := dkwX2_again_2 ++ dktX2_again_3
def dkwX2_again_1 : List UInt8 := [16, 247, 172, 3, 62, 29, 42, 180, 0, 68, 162, 0, 46, 42, 44, 29, 27, 182, 0, 91, 54, 4, 21, 4]
abbrev dktX2_again_1 : List UInt8 := dkwX2_again_1 ++ dktX2_again_2
def dkwX2_again_0 : List UInt8 := [42, 42, 27, 182, 0, 129, 4, 182, 0, 117, 153, 0, 5, 3, 172, 42, 182, 0, 150, 77, 44, 199, 0, 6]
abbrev dktX2_again_0 : List UInt8 := dkwX2_again_0 ++ dktX2_again_1
theorem dksX2_again_0 : cX2_again.data.toList.drop 0 = dktX2_again_0 := by decide +kernel
theorem dksX2_again_1 : cX2_again.data.toList.drop 24 = dktX2_again_1 := dk_seg dksX2_again_0 24 rfl rfl
theorem dksX2_again_2 : cX2_again.data.toList.drop 48 = dktX2_again_2 := dk_seg dksX2_again_1 24 rfl rfl
theorem dksX2_again_3 : cX2_again.data.toList.drop 72 = dktX2_again_3 := dk_seg dksX2_again_2 24 rfl rfl
theorem dX2_again_0 : decode cX2_again 0 = .ok (.aload_n 0, 1) := dk_42 (dk_at dksX2_again_0 0 rfl rfl)
theorem dX2_again_1 : decode cX2_again 1 = .ok (.aload_n 0, 1) := dk_42 (dk_at dksX2_again_0 1 rfl rfl)
theorem dX2_again_2 : decode cX2_again 2 = .ok (.iload_n 1, 1) := dk_27 (dk_at dksX2_again_0 2 rfl rfl)
theorem dX2_again_3 : decode cX2_again 3 = .ok (.invokevirtual 129, 3) := dk_182 0 129 (dk_at dksX2_again_0 3 rfl rfl)
theorem dX2_again_6 : decode cX2_again 6 = .ok (.iconst 1, 1) := dk_4 (dk_at dksX2_again_0 6 rfl rfl)
theorem dX2_again_7 : decode cX2_again 7 = .ok (.invokevirtual 117, 3) := dk_182 0 117 (dk_at dksX2_again_0 7 rfl rfl)
theorem dX2_again_10 : decode cX2_again 10 = .ok (.ifCond .eq 5, 3) := dk_153 0 5 (dk_at dksX2_again_0 10 rfl rfl)
theorem dX2_again_13 : decode cX2_again 13 = .ok (.iconst 0, 1) := dk_3 (dk_at dksX2_again_0 13 rfl rfl)
theorem dX2_again_14 : decode cX2_again 14 = .ok (.ireturn, 1) := dk_172 (dk_at dksX2_again_0 14 rfl rfl)
theorem dX2_again_15 : decode cX2_again 15 = .ok (.aload_n 0, 1) := dk_42 (dk_at dksX2_again_0 15 rfl rfl)
theorem dX2_again_16 : decode cX2_again 16 = .ok (.invokevirtual 150, 3) := dk_182 0 150 (dk_at dksX2_again_0 16 rfl rfl)
theorem dX2_again_19 : decode cX2_again 19 = .ok (.astore_n 2, 1) := dk_77 (dk_at dksX2_again_0 19 rfl rfl)
theorem dX2_again_20 : decode cX2_again 20 = .ok (.aload_n 2, 1) := dk_44 (dk_at dksX2_again_0 20 rfl rfl)
theorem dX2_again_21 : decode cX2_again 21 = .ok (.ifnonnull 6, 3) := dk_199 0 6 (dk_at dksX2_again_0 21 rfl rfl)
theorem dX2_again_24 : decode cX2_again 24 = .ok (.bipush (-9), 2) := dk_16 247 (dk_at dksX2_again_1 0 rfl rfl)
theorem dX2_again_26 : decode cX2_again 26 = .ok (.ireturn, 1) := dk_172 (dk_at dksX2_again_1 2 rfl rfl)
theorem dX2_again_27 : decode cX2_again 27 = .ok (.iconst 0, 1) := dk_3 (dk_at dksX2_again_1 3 rfl rfl)
theorem dX2_again_28 : decode cX2_again 28 = .ok (.istore_n 3, 1) := dk_62 (dk_at dksX2_again_1 4 rfl rfl)
theorem dX2_again_29 : decode cX2_again 29 = .ok (.iload_n 3, 1) := dk_29 (dk_at dksX2_again_1 5 rfl rfl)
theorem dX2_again_30 : decode cX2_again 30 = .ok (.aload_n 0, 1) := dk_42 (dk_at dksX2_again_1 6 rfl rfl)
theorem dX2_again_31 : decode cX2_again 31 = .ok (.getfield 68, 3) := dk_180 0 68 (dk_at dksX2_again_1 7 rfl rfl)
theorem dX2_again_34 : decode cX2_again 34 = .ok (.if_icmp .ge 46, 3) := dk_162 0 46 (dk_at dksX2_again_1 10 rfl rfl)
theorem dX2_again_37 : decode cX2_again 37 = .ok (.aload_n 0, 1) := dk_42 (dk_at dksX2_again_1 13 rfl rfl)
theorem dX2_again_38 : decode cX2_again 38 = .ok (.aload_n 2, 1) := dk_44 (dk_at dksX2_again_1 14 rfl rfl)
theorem dX2_again_39 : decode cX2_again 39 = .ok (.iload_n 3, 1) := dk_29 (dk_at dksX2_again_1 15 rfl rfl)
theorem dX2_again_40 : decode cX2_again 40 = .ok (.iload_n 1, 1) := dk_27 (dk_at dksX2_again_1 16 rfl rfl)
theorem dX2_again_41 : decode cX2_again 41 = .ok (.invokevirtual 91, 3) := dk_182 0 91 (dk_at dksX2_again_1 17 rfl rfl)
theorem dX2_again_44 : decode cX2_again 44 = .ok (.istore 4, 2) := dk_54 4 (dk_at dksX2_again_1 20 rfl rfl)
theorem dX2_again_46 : decode cX2_again 46 = .ok (.iload 4, 2) := dk_21 4 (dk_at dksX2_again_1 22 rfl rfl)
theorem dX2_again_48 : decode cX2_again 48 = .ok (.ifCond .lt 26, 3) := dk_155 0 26 (dk_at dksX2_again_2 0 rfl rfl)
theorem dX2_again_51 : decode cX2_again 51 = .ok (.iload 4, 2) := dk_21 4 (dk_at dksX2_again_2 3 rfl rfl)
theorem dX2_again_53 : decode cX2_again 53 = .ok (.iload_n 3, 1) := dk_29 (dk_at dksX2_again_2 5 rfl rfl)
theorem dX2_again_54 : decode cX2_again 54 = .ok (.if_icmp .eq 18, 3) := dk_159 0 18 (dk_at dksX2_again_2 6 rfl rfl)
theorem dX2_again_57 : decode cX2_again 57 = .ok (.aload_n 0, 1) := dk_42 (dk_at dksX2_again_2 9 rfl rfl)
theorem dX2_again_58 : decode cX2_again 58 = .ok (.aload_n 2, 1) := dk_44 (dk_at dksX2_again_2 10 rfl rfl)
theorem dX2_again_59 : decode cX2_again 59 = .ok (.iload 4, 2) := dk_21 4 (dk_at dksX2_again_2 11 rfl rfl)
theorem dX2_again_61 : decode cX2_again 61 = .ok (.invokevirtual 189, 3) := dk_182 0 189 (dk_at dksX2_again_2 13 rfl rfl)
theorem dX2_again_64 : decode cX2_again 64 = .ok (.iload_n 3, 1) := dk_29 (dk_at dksX2_again_2 16 rfl rfl)
theorem dX2_again_65 : decode cX2_again 65 = .ok (.ishr, 1) := dk_122 (dk_at dksX2_again_2 17 rfl rfl)
theorem dX2_again_66 : decode cX2_again 66 = .ok (.iconst 1, 1) := dk_4 (dk_at dksX2_again_2 18 rfl rfl)
theorem dX2_again_67 : decode cX2_again 67 = .ok (.iand, 1) := dk_126 (dk_at dksX2_again_2 19 rfl rfl)
theorem dX2_again_68 : decode cX2_again 68 = .ok (.iconst 1, 1) := dk_4 (dk_at dksX2_again_2 20 rfl rfl)
theorem dX2_again_69 : decode cX2_again 69 = .ok (.if_icmp .ne 5, 3) := dk_160 0 5 (dk_at dksX2_again_2 21 rfl rfl)
theorem dX2_again_72 : decode cX2_again 72 = .ok (.iconst 1, 1) := dk_4 (dk_at dksX2_again_3 0 rfl rfl)
theorem dX2_again_73 : decode cX2_again 73 = .ok (.ireturn, 1) := dk_172 (dk_at dksX2_again_3 1 rfl rfl)
theorem dX2_again_74 : decode cX2_again 74 = .ok (.iinc 3 1, 3) := dk_132 3 1 (dk_at dksX2_again_3 2 rfl rfl)
theorem dX2_again_77 : decode cX2_again 77 = .ok (.goto (-48), 3) := dk_167 255 208 (dk_at dksX2_again_3 5 rfl rfl)
theorem dX2_again_80 : decode cX2_again 80 = .ok (.iconst 0, 1) := dk_3 (dk_at dksX2_again_3 8 rfl rfl)
theorem dX2_again_81 : decode cX2_again 81 = .ok (.ireturn, 1) := dk_172 (dk_at dksX2_again_3 9 rfl rfl)
abbrev cX2_next : ByteArray := prog_7_method_20_code
def yX2_next : MethodName := ⟨RX2, "next", "([III)I"⟩
def dkwX2_next_1 : List UInt8 := [42, 180, 0, 26, 3, 182, 0, 75, 42, 43, 42, 180, 0, 26, 3, 182, 0, 87, 172]
abbrev dktX2_next_1 : List UInt8 := dkwX2_next_1 ++ []
def dkwX2_next_0 : List UInt8 := [42, 43, 16, 10, 28, 104, 29, 3, 182, 0, 71, 154, 0, 5, 2, 172, 42, 43, 16, 10, 28, 104, 29, 3]
abbrev dktX2_next_0 : List UInt8 := dkwX2_next_0 ++ dktX2_next_1
theorem dksX2_next_0 : cX2_next.data.toList.drop 0 = dktX2_next_0 := by decide +kernel
theorem dksX2_next_1 : cX2_next.data.toList.drop 24 = dktX2_next_1 := dk_seg dksX2_next_0 24 rfl rfl
theorem dX2_next_0 : decode cX2_next 0 = .ok (.aload_n 0, 1) := dk_42 (dk_at dksX2_next_0 0 rfl rfl)
theorem dX2_next_1 : decode cX2_next 1 = .ok (.aload_n 1, 1) := dk_43 (dk_at dksX2_next_0 1 rfl rfl)
theorem dX2_next_2 : decode cX2_next 2 = .ok (.bipush 10, 2) := dk_16 10 (dk_at dksX2_next_0 2 rfl rfl)
theorem dX2_next_4 : decode cX2_next 4 = .ok (.iload_n 2, 1) := dk_28 (dk_at dksX2_next_0 4 rfl rfl)
theorem dX2_next_5 : decode cX2_next 5 = .ok (.imul, 1) := dk_104 (dk_at dksX2_next_0 5 rfl rfl)
theorem dX2_next_6 : decode cX2_next 6 = .ok (.iload_n 3, 1) := dk_29 (dk_at dksX2_next_0 6 rfl rfl)
theorem dX2_next_7 : decode cX2_next 7 = .ok (.iconst 0, 1) := dk_3 (dk_at dksX2_next_0 7 rfl rfl)
theorem dX2_next_8 : decode cX2_next 8 = .ok (.invokevirtual 71, 3) := dk_182 0 71 (dk_at dksX2_next_0 8 rfl rfl)
theorem dX2_next_11 : decode cX2_next 11 = .ok (.ifCond .ne 5, 3) := dk_154 0 5 (dk_at dksX2_next_0 11 rfl rfl)
theorem dX2_next_14 : decode cX2_next 14 = .ok (.iconst (-1), 1) := dk_2 (dk_at dksX2_next_0 14 rfl rfl)
theorem dX2_next_15 : decode cX2_next 15 = .ok (.ireturn, 1) := dk_172 (dk_at dksX2_next_0 15 rfl rfl)
theorem dX2_next_16 : decode cX2_next 16 = .ok (.aload_n 0, 1) := dk_42 (dk_at dksX2_next_0 16 rfl rfl)
theorem dX2_next_17 : decode cX2_next 17 = .ok (.aload_n 1, 1) := dk_43 (dk_at dksX2_next_0 17 rfl rfl)
theorem dX2_next_18 : decode cX2_next 18 = .ok (.bipush 10, 2) := dk_16 10 (dk_at dksX2_next_0 18 rfl rfl)
theorem dX2_next_20 : decode cX2_next 20 = .ok (.iload_n 2, 1) := dk_28 (dk_at dksX2_next_0 20 rfl rfl)
theorem dX2_next_21 : decode cX2_next 21 = .ok (.imul, 1) := dk_104 (dk_at dksX2_next_0 21 rfl rfl)
theorem dX2_next_22 : decode cX2_next 22 = .ok (.iload_n 3, 1) := dk_29 (dk_at dksX2_next_0 22 rfl rfl)
theorem dX2_next_23 : decode cX2_next 23 = .ok (.iconst 0, 1) := dk_3 (dk_at dksX2_next_0 23 rfl rfl)
theorem dX2_next_24 : decode cX2_next 24 = .ok (.aload_n 0, 1) := dk_42 (dk_at dksX2_next_1 0 rfl rfl)
theorem dX2_next_25 : decode cX2_next 25 = .ok (.getfield 26, 3) := dk_180 0 26 (dk_at dksX2_next_1 1 rfl rfl)
theorem dX2_next_28 : decode cX2_next 28 = .ok (.iconst 0, 1) := dk_3 (dk_at dksX2_next_1 4 rfl rfl)
theorem dX2_next_29 : decode cX2_next 29 = .ok (.invokevirtual 75, 3) := dk_182 0 75 (dk_at dksX2_next_1 5 rfl rfl)
theorem dX2_next_32 : decode cX2_next 32 = .ok (.aload_n 0, 1) := dk_42 (dk_at dksX2_next_1 8 rfl rfl)
theorem dX2_next_33 : decode cX2_next 33 = .ok (.aload_n 1, 1) := dk_43 (dk_at dksX2_next_1 9 rfl rfl)
theorem dX2_next_34 : decode cX2_next 34 = .ok (.aload_n 0, 1) := dk_42 (dk_at dksX2_next_1 10 rfl rfl)
theorem dX2_next_35 : decode cX2_next 35 = .ok (.getfield 26, 3) := dk_180 0 26 (dk_at dksX2_next_1 11 rfl rfl)
theorem dX2_next_38 : decode cX2_next 38 = .ok (.iconst 0, 1) := dk_3 (dk_at dksX2_next_1 14 rfl rfl)
theorem dX2_next_39 : decode cX2_next 39 = .ok (.invokevirtual 87, 3) := dk_182 0 87 (dk_at dksX2_next_1 15 rfl rfl)
theorem dX2_next_42 : decode cX2_next 42 = .ok (.ireturn, 1) := dk_172 (dk_at dksX2_next_1 18 rfl rfl)
abbrev cX2_behind : ByteArray := prog_7_method_21_code
def yX2_behind : MethodName := ⟨RX2, "behind", "([II)I"⟩
def dkwX2_behind_4 : List UInt8 := [167, 255, 182, 167, 255, 167, 29, 172]
abbrev dktX2_behind_4 : List UInt8 := dkwX2_behind_4 ++ []
def dkwX2_behind_3 : List UInt8 := [160, 0, 7, 3, 167, 0, 7, 4, 21, 7, 120, 128, 62, 132, 6, 1, 167, 255, 200, 132, 5, 1]
abbrev dktX2_behind_3 : List UInt8 := dkwX2_behind_3 ++ dktX2_behind_4
def dkwX2_behind_2 : List UInt8 := [122, 4, 126, 4, 160, 0, 37, 42, 43, 21, 5, 21, 6, 182, 0, 91, 54, 7, 29, 21, 7, 2]
abbrev dktX2_behind_2 : List UInt8 := dkwX2_behind_2 ++ dktX2_behind_3
def dkwX2_behind_1 : List UInt8 := [162, 0, 71, 3, 54, 6, 21, 6, 42, 180, 0, 32, 162, 0, 53, 21, 5, 28, 159, 0, 13, 29, 21, 5]
abbrev dktX2_behind_1 : List UInt8 := dkwX2_behind_1 ++ dktX2_behind_2
def dkwX2_behind_0 : List UInt8 := [3, 62, 4, 54, 4, 29, 21, 4, 159, 0, 89, 29, 54, 4, 3, 54, 5, 21, 5, 42, 180, 0, 68]
abbrev dktX2_behind_0 : List UInt8 := dkwX2_behind_0 ++ dktX2_behind_1
theorem dksX2_behind_0 : cX2_behind.data.toList.drop 0 = dktX2_behind_0 := by decide +kernel
theorem dksX2_behind_1 : cX2_behind.data.toList.drop 23 = dktX2_behind_1 := dk_seg dksX2_behind_0 23 rfl rfl
theorem dksX2_behind_2 : cX2_behind.data.toList.drop 47 = dktX2_behind_2 := dk_seg dksX2_behind_1 24 rfl rfl
theorem dksX2_behind_3 : cX2_behind.data.toList.drop 69 = dktX2_behind_3 := dk_seg dksX2_behind_2 22 rfl rfl
theorem dksX2_behind_4 : cX2_behind.data.toList.drop 91 = dktX2_behind_4 := dk_seg dksX2_behind_3 22 rfl rfl
theorem dX2_behind_0 : decode cX2_behind 0 = .ok (.iconst 0, 1) := dk_3 (dk_at dksX2_behind_0 0 rfl rfl)
theorem dX2_behind_1 : decode cX2_behind 1 = .ok (.istore_n 3, 1) := dk_62 (dk_at dksX2_behind_0 1 rfl rfl)
theorem dX2_behind_2 : decode cX2_behind 2 = .ok (.iconst 1, 1) := dk_4 (dk_at dksX2_behind_0 2 rfl rfl)
theorem dX2_behind_3 : decode cX2_behind 3 = .ok (.istore 4, 2) := dk_54 4 (dk_at dksX2_behind_0 3 rfl rfl)
theorem dX2_behind_5 : decode cX2_behind 5 = .ok (.iload_n 3, 1) := dk_29 (dk_at dksX2_behind_0 5 rfl rfl)
theorem dX2_behind_6 : decode cX2_behind 6 = .ok (.iload 4, 2) := dk_21 4 (dk_at dksX2_behind_0 6 rfl rfl)
theorem dX2_behind_8 : decode cX2_behind 8 = .ok (.if_icmp .eq 89, 3) := dk_159 0 89 (dk_at dksX2_behind_0 8 rfl rfl)
theorem dX2_behind_11 : decode cX2_behind 11 = .ok (.iload_n 3, 1) := dk_29 (dk_at dksX2_behind_0 11 rfl rfl)
theorem dX2_behind_12 : decode cX2_behind 12 = .ok (.istore 4, 2) := dk_54 4 (dk_at dksX2_behind_0 12 rfl rfl)
theorem dX2_behind_14 : decode cX2_behind 14 = .ok (.iconst 0, 1) := dk_3 (dk_at dksX2_behind_0 14 rfl rfl)
theorem dX2_behind_15 : decode cX2_behind 15 = .ok (.istore 5, 2) := dk_54 5 (dk_at dksX2_behind_0 15 rfl rfl)
theorem dX2_behind_17 : decode cX2_behind 17 = .ok (.iload 5, 2) := dk_21 5 (dk_at dksX2_behind_0 17 rfl rfl)
theorem dX2_behind_19 : decode cX2_behind 19 = .ok (.aload_n 0, 1) := dk_42 (dk_at dksX2_behind_0 19 rfl rfl)
theorem dX2_behind_20 : decode cX2_behind 20 = .ok (.getfield 68, 3) := dk_180 0 68 (dk_at dksX2_behind_0 20 rfl rfl)
theorem dX2_behind_23 : decode cX2_behind 23 = .ok (.if_icmp .ge 71, 3) := dk_162 0 71 (dk_at dksX2_behind_1 0 rfl rfl)
theorem dX2_behind_26 : decode cX2_behind 26 = .ok (.iconst 0, 1) := dk_3 (dk_at dksX2_behind_1 3 rfl rfl)
theorem dX2_behind_27 : decode cX2_behind 27 = .ok (.istore 6, 2) := dk_54 6 (dk_at dksX2_behind_1 4 rfl rfl)
theorem dX2_behind_29 : decode cX2_behind 29 = .ok (.iload 6, 2) := dk_21 6 (dk_at dksX2_behind_1 6 rfl rfl)
theorem dX2_behind_31 : decode cX2_behind 31 = .ok (.aload_n 0, 1) := dk_42 (dk_at dksX2_behind_1 8 rfl rfl)
theorem dX2_behind_32 : decode cX2_behind 32 = .ok (.getfield 32, 3) := dk_180 0 32 (dk_at dksX2_behind_1 9 rfl rfl)
theorem dX2_behind_35 : decode cX2_behind 35 = .ok (.if_icmp .ge 53, 3) := dk_162 0 53 (dk_at dksX2_behind_1 12 rfl rfl)
theorem dX2_behind_38 : decode cX2_behind 38 = .ok (.iload 5, 2) := dk_21 5 (dk_at dksX2_behind_1 15 rfl rfl)
theorem dX2_behind_40 : decode cX2_behind 40 = .ok (.iload_n 2, 1) := dk_28 (dk_at dksX2_behind_1 17 rfl rfl)
theorem dX2_behind_41 : decode cX2_behind 41 = .ok (.if_icmp .eq 13, 3) := dk_159 0 13 (dk_at dksX2_behind_1 18 rfl rfl)
theorem dX2_behind_44 : decode cX2_behind 44 = .ok (.iload_n 3, 1) := dk_29 (dk_at dksX2_behind_1 21 rfl rfl)
theorem dX2_behind_45 : decode cX2_behind 45 = .ok (.iload 5, 2) := dk_21 5 (dk_at dksX2_behind_1 22 rfl rfl)
theorem dX2_behind_47 : decode cX2_behind 47 = .ok (.ishr, 1) := dk_122 (dk_at dksX2_behind_2 0 rfl rfl)
theorem dX2_behind_48 : decode cX2_behind 48 = .ok (.iconst 1, 1) := dk_4 (dk_at dksX2_behind_2 1 rfl rfl)
theorem dX2_behind_49 : decode cX2_behind 49 = .ok (.iand, 1) := dk_126 (dk_at dksX2_behind_2 2 rfl rfl)
theorem dX2_behind_50 : decode cX2_behind 50 = .ok (.iconst 1, 1) := dk_4 (dk_at dksX2_behind_2 3 rfl rfl)
theorem dX2_behind_51 : decode cX2_behind 51 = .ok (.if_icmp .ne 37, 3) := dk_160 0 37 (dk_at dksX2_behind_2 4 rfl rfl)
theorem dX2_behind_54 : decode cX2_behind 54 = .ok (.aload_n 0, 1) := dk_42 (dk_at dksX2_behind_2 7 rfl rfl)
theorem dX2_behind_55 : decode cX2_behind 55 = .ok (.aload_n 1, 1) := dk_43 (dk_at dksX2_behind_2 8 rfl rfl)
theorem dX2_behind_56 : decode cX2_behind 56 = .ok (.iload 5, 2) := dk_21 5 (dk_at dksX2_behind_2 9 rfl rfl)
theorem dX2_behind_58 : decode cX2_behind 58 = .ok (.iload 6, 2) := dk_21 6 (dk_at dksX2_behind_2 11 rfl rfl)
theorem dX2_behind_60 : decode cX2_behind 60 = .ok (.invokevirtual 91, 3) := dk_182 0 91 (dk_at dksX2_behind_2 13 rfl rfl)
theorem dX2_behind_63 : decode cX2_behind 63 = .ok (.istore 7, 2) := dk_54 7 (dk_at dksX2_behind_2 16 rfl rfl)
theorem dX2_behind_65 : decode cX2_behind 65 = .ok (.iload_n 3, 1) := dk_29 (dk_at dksX2_behind_2 18 rfl rfl)
theorem dX2_behind_66 : decode cX2_behind 66 = .ok (.iload 7, 2) := dk_21 7 (dk_at dksX2_behind_2 19 rfl rfl)
theorem dX2_behind_68 : decode cX2_behind 68 = .ok (.iconst (-1), 1) := dk_2 (dk_at dksX2_behind_2 21 rfl rfl)
theorem dX2_behind_69 : decode cX2_behind 69 = .ok (.if_icmp .ne 7, 3) := dk_160 0 7 (dk_at dksX2_behind_3 0 rfl rfl)
theorem dX2_behind_72 : decode cX2_behind 72 = .ok (.iconst 0, 1) := dk_3 (dk_at dksX2_behind_3 3 rfl rfl)
theorem dX2_behind_73 : decode cX2_behind 73 = .ok (.goto 7, 3) := dk_167 0 7 (dk_at dksX2_behind_3 4 rfl rfl)
theorem dX2_behind_76 : decode cX2_behind 76 = .ok (.iconst 1, 1) := dk_4 (dk_at dksX2_behind_3 7 rfl rfl)
theorem dX2_behind_77 : decode cX2_behind 77 = .ok (.iload 7, 2) := dk_21 7 (dk_at dksX2_behind_3 8 rfl rfl)
theorem dX2_behind_79 : decode cX2_behind 79 = .ok (.ishl, 1) := dk_120 (dk_at dksX2_behind_3 10 rfl rfl)
theorem dX2_behind_80 : decode cX2_behind 80 = .ok (.ior, 1) := dk_128 (dk_at dksX2_behind_3 11 rfl rfl)
theorem dX2_behind_81 : decode cX2_behind 81 = .ok (.istore_n 3, 1) := dk_62 (dk_at dksX2_behind_3 12 rfl rfl)
theorem dX2_behind_82 : decode cX2_behind 82 = .ok (.iinc 6 1, 3) := dk_132 6 1 (dk_at dksX2_behind_3 13 rfl rfl)
theorem dX2_behind_85 : decode cX2_behind 85 = .ok (.goto (-56), 3) := dk_167 255 200 (dk_at dksX2_behind_3 16 rfl rfl)
theorem dX2_behind_88 : decode cX2_behind 88 = .ok (.iinc 5 1, 3) := dk_132 5 1 (dk_at dksX2_behind_3 19 rfl rfl)
theorem dX2_behind_91 : decode cX2_behind 91 = .ok (.goto (-74), 3) := dk_167 255 182 (dk_at dksX2_behind_4 0 rfl rfl)
theorem dX2_behind_94 : decode cX2_behind 94 = .ok (.goto (-89), 3) := dk_167 255 167 (dk_at dksX2_behind_4 3 rfl rfl)
theorem dX2_behind_97 : decode cX2_behind 97 = .ok (.iload_n 3, 1) := dk_29 (dk_at dksX2_behind_4 6 rfl rfl)
theorem dX2_behind_98 : decode cX2_behind 98 = .ok (.ireturn, 1) := dk_172 (dk_at dksX2_behind_4 7 rfl rfl)
abbrev cX2_rings : ByteArray := prog_7_method_61_code
def yX2_rings : MethodName := ⟨RX2, "rings", "()I"⟩
def dkwX2_rings_2 : List UInt8 := [167, 255, 232, 28, 172]
abbrev dktX2_rings_2 : List UInt8 := dkwX2_rings_2 ++ []
def dkwX2_rings_1 : List UInt8 := [180, 0, 68, 162, 0, 22, 28, 42, 43, 29, 182, 0, 189, 4, 29, 120, 126, 128, 61, 132, 3, 1]
abbrev dktX2_rings_1 : List UInt8 := dkwX2_rings_1 ++ dktX2_rings_2
def dkwX2_rings_0 : List UInt8 := [42, 3, 181, 0, 29, 42, 182, 0, 150, 76, 43, 199, 0, 6, 16, 247, 172, 3, 61, 3, 62, 29, 42]
abbrev dktX2_rings_0 : List UInt8 := dkwX2_rings_0 ++ dktX2_rings_1
theorem dksX2_rings_0 : cX2_rings.data.toList.drop 0 = dktX2_rings_0 := by decide +kernel
theorem dksX2_rings_1 : cX2_rings.data.toList.drop 23 = dktX2_rings_1 := dk_seg dksX2_rings_0 23 rfl rfl
theorem dksX2_rings_2 : cX2_rings.data.toList.drop 45 = dktX2_rings_2 := dk_seg dksX2_rings_1 22 rfl rfl
theorem dX2_rings_0 : decode cX2_rings 0 = .ok (.aload_n 0, 1) := dk_42 (dk_at dksX2_rings_0 0 rfl rfl)
theorem dX2_rings_1 : decode cX2_rings 1 = .ok (.iconst 0, 1) := dk_3 (dk_at dksX2_rings_0 1 rfl rfl)
theorem dX2_rings_2 : decode cX2_rings 2 = .ok (.putfield 29, 3) := dk_181 0 29 (dk_at dksX2_rings_0 2 rfl rfl)
theorem dX2_rings_5 : decode cX2_rings 5 = .ok (.aload_n 0, 1) := dk_42 (dk_at dksX2_rings_0 5 rfl rfl)
theorem dX2_rings_6 : decode cX2_rings 6 = .ok (.invokevirtual 150, 3) := dk_182 0 150 (dk_at dksX2_rings_0 6 rfl rfl)
theorem dX2_rings_9 : decode cX2_rings 9 = .ok (.astore_n 1, 1) := dk_76 (dk_at dksX2_rings_0 9 rfl rfl)
theorem dX2_rings_10 : decode cX2_rings 10 = .ok (.aload_n 1, 1) := dk_43 (dk_at dksX2_rings_0 10 rfl rfl)
theorem dX2_rings_11 : decode cX2_rings 11 = .ok (.ifnonnull 6, 3) := dk_199 0 6 (dk_at dksX2_rings_0 11 rfl rfl)
theorem dX2_rings_14 : decode cX2_rings 14 = .ok (.bipush (-9), 2) := dk_16 247 (dk_at dksX2_rings_0 14 rfl rfl)
theorem dX2_rings_16 : decode cX2_rings 16 = .ok (.ireturn, 1) := dk_172 (dk_at dksX2_rings_0 16 rfl rfl)
theorem dX2_rings_17 : decode cX2_rings 17 = .ok (.iconst 0, 1) := dk_3 (dk_at dksX2_rings_0 17 rfl rfl)
theorem dX2_rings_18 : decode cX2_rings 18 = .ok (.istore_n 2, 1) := dk_61 (dk_at dksX2_rings_0 18 rfl rfl)
theorem dX2_rings_19 : decode cX2_rings 19 = .ok (.iconst 0, 1) := dk_3 (dk_at dksX2_rings_0 19 rfl rfl)
theorem dX2_rings_20 : decode cX2_rings 20 = .ok (.istore_n 3, 1) := dk_62 (dk_at dksX2_rings_0 20 rfl rfl)
theorem dX2_rings_21 : decode cX2_rings 21 = .ok (.iload_n 3, 1) := dk_29 (dk_at dksX2_rings_0 21 rfl rfl)
theorem dX2_rings_22 : decode cX2_rings 22 = .ok (.aload_n 0, 1) := dk_42 (dk_at dksX2_rings_0 22 rfl rfl)
theorem dX2_rings_23 : decode cX2_rings 23 = .ok (.getfield 68, 3) := dk_180 0 68 (dk_at dksX2_rings_1 0 rfl rfl)
theorem dX2_rings_26 : decode cX2_rings 26 = .ok (.if_icmp .ge 22, 3) := dk_162 0 22 (dk_at dksX2_rings_1 3 rfl rfl)
theorem dX2_rings_29 : decode cX2_rings 29 = .ok (.iload_n 2, 1) := dk_28 (dk_at dksX2_rings_1 6 rfl rfl)
theorem dX2_rings_30 : decode cX2_rings 30 = .ok (.aload_n 0, 1) := dk_42 (dk_at dksX2_rings_1 7 rfl rfl)
theorem dX2_rings_31 : decode cX2_rings 31 = .ok (.aload_n 1, 1) := dk_43 (dk_at dksX2_rings_1 8 rfl rfl)
theorem dX2_rings_32 : decode cX2_rings 32 = .ok (.iload_n 3, 1) := dk_29 (dk_at dksX2_rings_1 9 rfl rfl)
theorem dX2_rings_33 : decode cX2_rings 33 = .ok (.invokevirtual 189, 3) := dk_182 0 189 (dk_at dksX2_rings_1 10 rfl rfl)
theorem dX2_rings_36 : decode cX2_rings 36 = .ok (.iconst 1, 1) := dk_4 (dk_at dksX2_rings_1 13 rfl rfl)
theorem dX2_rings_37 : decode cX2_rings 37 = .ok (.iload_n 3, 1) := dk_29 (dk_at dksX2_rings_1 14 rfl rfl)
theorem dX2_rings_38 : decode cX2_rings 38 = .ok (.ishl, 1) := dk_120 (dk_at dksX2_rings_1 15 rfl rfl)
theorem dX2_rings_39 : decode cX2_rings 39 = .ok (.iand, 1) := dk_126 (dk_at dksX2_rings_1 16 rfl rfl)
theorem dX2_rings_40 : decode cX2_rings 40 = .ok (.ior, 1) := dk_128 (dk_at dksX2_rings_1 17 rfl rfl)
theorem dX2_rings_41 : decode cX2_rings 41 = .ok (.istore_n 2, 1) := dk_61 (dk_at dksX2_rings_1 18 rfl rfl)
theorem dX2_rings_42 : decode cX2_rings 42 = .ok (.iinc 3 1, 3) := dk_132 3 1 (dk_at dksX2_rings_1 19 rfl rfl)
theorem dX2_rings_45 : decode cX2_rings 45 = .ok (.goto (-24), 3) := dk_167 255 232 (dk_at dksX2_rings_2 0 rfl rfl)
theorem dX2_rings_48 : decode cX2_rings 48 = .ok (.iload_n 2, 1) := dk_28 (dk_at dksX2_rings_2 3 rfl rfl)
theorem dX2_rings_49 : decode cX2_rings 49 = .ok (.ireturn, 1) := dk_172 (dk_at dksX2_rings_2 4 rfl rfl)
abbrev cX2_comesBack : ByteArray := prog_7_method_62_code
def yX2_comesBack : MethodName := ⟨RX2, "comesBack", "(I)I"⟩
def dkwX2_comesBack_3 : List UInt8 := [42, 180, 0, 20, 3, 182, 0, 87, 155, 0, 7, 4, 167, 0, 4, 3, 172]
abbrev dktX2_comesBack_3 : List UInt8 := dkwX2_comesBack_3 ++ []
def dkwX2_comesBack_2 : List UInt8 := [184, 0, 154, 4, 182, 0, 83, 78, 42, 180, 0, 68, 16, 16, 164, 0, 8, 16, 247, 167, 0, 21, 42, 45]
abbrev dktX2_comesBack_2 : List UInt8 := dkwX2_comesBack_2 ++ dktX2_comesBack_3
def dkwX2_comesBack_1 : List UInt8 := [199, 0, 6, 16, 247, 172, 27, 42, 180, 0, 68, 161, 0, 5, 2, 172, 42, 44, 16, 10, 27, 104]
abbrev dktX2_comesBack_1 : List UInt8 := dkwX2_comesBack_1 ++ dktX2_comesBack_2
def dkwX2_comesBack_0 : List UInt8 := [42, 27, 3, 16, 15, 184, 0, 35, 4, 182, 0, 117, 153, 0, 5, 3, 172, 42, 182, 0, 150, 77, 44]
abbrev dktX2_comesBack_0 : List UInt8 := dkwX2_comesBack_0 ++ dktX2_comesBack_1
theorem dksX2_comesBack_0 : cX2_comesBack.data.toList.drop 0 = dktX2_comesBack_0 := by decide +kernel
theorem dksX2_comesBack_1 : cX2_comesBack.data.toList.drop 23 = dktX2_comesBack_1 := dk_seg dksX2_comesBack_0 23 rfl rfl
theorem dksX2_comesBack_2 : cX2_comesBack.data.toList.drop 45 = dktX2_comesBack_2 := dk_seg dksX2_comesBack_1 22 rfl rfl
theorem dksX2_comesBack_3 : cX2_comesBack.data.toList.drop 69 = dktX2_comesBack_3 := dk_seg dksX2_comesBack_2 24 rfl rfl
theorem dX2_comesBack_0 : decode cX2_comesBack 0 = .ok (.aload_n 0, 1) := dk_42 (dk_at dksX2_comesBack_0 0 rfl rfl)
theorem dX2_comesBack_1 : decode cX2_comesBack 1 = .ok (.iload_n 1, 1) := dk_27 (dk_at dksX2_comesBack_0 1 rfl rfl)
theorem dX2_comesBack_2 : decode cX2_comesBack 2 = .ok (.iconst 0, 1) := dk_3 (dk_at dksX2_comesBack_0 2 rfl rfl)
theorem dX2_comesBack_3 : decode cX2_comesBack 3 = .ok (.bipush 15, 2) := dk_16 15 (dk_at dksX2_comesBack_0 3 rfl rfl)
theorem dX2_comesBack_5 : decode cX2_comesBack 5 = .ok (.invokestatic 35, 3) := dk_184 0 35 (dk_at dksX2_comesBack_0 5 rfl rfl)
theorem dX2_comesBack_8 : decode cX2_comesBack 8 = .ok (.iconst 1, 1) := dk_4 (dk_at dksX2_comesBack_0 8 rfl rfl)
theorem dX2_comesBack_9 : decode cX2_comesBack 9 = .ok (.invokevirtual 117, 3) := dk_182 0 117 (dk_at dksX2_comesBack_0 9 rfl rfl)
theorem dX2_comesBack_12 : decode cX2_comesBack 12 = .ok (.ifCond .eq 5, 3) := dk_153 0 5 (dk_at dksX2_comesBack_0 12 rfl rfl)
theorem dX2_comesBack_15 : decode cX2_comesBack 15 = .ok (.iconst 0, 1) := dk_3 (dk_at dksX2_comesBack_0 15 rfl rfl)
theorem dX2_comesBack_16 : decode cX2_comesBack 16 = .ok (.ireturn, 1) := dk_172 (dk_at dksX2_comesBack_0 16 rfl rfl)
theorem dX2_comesBack_17 : decode cX2_comesBack 17 = .ok (.aload_n 0, 1) := dk_42 (dk_at dksX2_comesBack_0 17 rfl rfl)
theorem dX2_comesBack_18 : decode cX2_comesBack 18 = .ok (.invokevirtual 150, 3) := dk_182 0 150 (dk_at dksX2_comesBack_0 18 rfl rfl)
theorem dX2_comesBack_21 : decode cX2_comesBack 21 = .ok (.astore_n 2, 1) := dk_77 (dk_at dksX2_comesBack_0 21 rfl rfl)
theorem dX2_comesBack_22 : decode cX2_comesBack 22 = .ok (.aload_n 2, 1) := dk_44 (dk_at dksX2_comesBack_0 22 rfl rfl)
theorem dX2_comesBack_23 : decode cX2_comesBack 23 = .ok (.ifnonnull 6, 3) := dk_199 0 6 (dk_at dksX2_comesBack_1 0 rfl rfl)
theorem dX2_comesBack_26 : decode cX2_comesBack 26 = .ok (.bipush (-9), 2) := dk_16 247 (dk_at dksX2_comesBack_1 3 rfl rfl)
theorem dX2_comesBack_28 : decode cX2_comesBack 28 = .ok (.ireturn, 1) := dk_172 (dk_at dksX2_comesBack_1 5 rfl rfl)
theorem dX2_comesBack_29 : decode cX2_comesBack 29 = .ok (.iload_n 1, 1) := dk_27 (dk_at dksX2_comesBack_1 6 rfl rfl)
theorem dX2_comesBack_30 : decode cX2_comesBack 30 = .ok (.aload_n 0, 1) := dk_42 (dk_at dksX2_comesBack_1 7 rfl rfl)
theorem dX2_comesBack_31 : decode cX2_comesBack 31 = .ok (.getfield 68, 3) := dk_180 0 68 (dk_at dksX2_comesBack_1 8 rfl rfl)
theorem dX2_comesBack_34 : decode cX2_comesBack 34 = .ok (.if_icmp .lt 5, 3) := dk_161 0 5 (dk_at dksX2_comesBack_1 11 rfl rfl)
theorem dX2_comesBack_37 : decode cX2_comesBack 37 = .ok (.iconst (-1), 1) := dk_2 (dk_at dksX2_comesBack_1 14 rfl rfl)
theorem dX2_comesBack_38 : decode cX2_comesBack 38 = .ok (.ireturn, 1) := dk_172 (dk_at dksX2_comesBack_1 15 rfl rfl)
theorem dX2_comesBack_39 : decode cX2_comesBack 39 = .ok (.aload_n 0, 1) := dk_42 (dk_at dksX2_comesBack_1 16 rfl rfl)
theorem dX2_comesBack_40 : decode cX2_comesBack 40 = .ok (.aload_n 2, 1) := dk_44 (dk_at dksX2_comesBack_1 17 rfl rfl)
theorem dX2_comesBack_41 : decode cX2_comesBack 41 = .ok (.bipush 10, 2) := dk_16 10 (dk_at dksX2_comesBack_1 18 rfl rfl)
theorem dX2_comesBack_43 : decode cX2_comesBack 43 = .ok (.iload_n 1, 1) := dk_27 (dk_at dksX2_comesBack_1 20 rfl rfl)
theorem dX2_comesBack_44 : decode cX2_comesBack 44 = .ok (.imul, 1) := dk_104 (dk_at dksX2_comesBack_1 21 rfl rfl)
theorem dX2_comesBack_45 : decode cX2_comesBack 45 = .ok (.invokestatic 154, 3) := dk_184 0 154 (dk_at dksX2_comesBack_2 0 rfl rfl)
theorem dX2_comesBack_48 : decode cX2_comesBack 48 = .ok (.iconst 1, 1) := dk_4 (dk_at dksX2_comesBack_2 3 rfl rfl)
theorem dX2_comesBack_49 : decode cX2_comesBack 49 = .ok (.invokevirtual 83, 3) := dk_182 0 83 (dk_at dksX2_comesBack_2 4 rfl rfl)
theorem dX2_comesBack_52 : decode cX2_comesBack 52 = .ok (.astore_n 3, 1) := dk_78 (dk_at dksX2_comesBack_2 7 rfl rfl)
theorem dX2_comesBack_53 : decode cX2_comesBack 53 = .ok (.aload_n 0, 1) := dk_42 (dk_at dksX2_comesBack_2 8 rfl rfl)
theorem dX2_comesBack_54 : decode cX2_comesBack 54 = .ok (.getfield 68, 3) := dk_180 0 68 (dk_at dksX2_comesBack_2 9 rfl rfl)
theorem dX2_comesBack_57 : decode cX2_comesBack 57 = .ok (.bipush 16, 2) := dk_16 16 (dk_at dksX2_comesBack_2 12 rfl rfl)
theorem dX2_comesBack_59 : decode cX2_comesBack 59 = .ok (.if_icmp .le 8, 3) := dk_164 0 8 (dk_at dksX2_comesBack_2 14 rfl rfl)
theorem dX2_comesBack_62 : decode cX2_comesBack 62 = .ok (.bipush (-9), 2) := dk_16 247 (dk_at dksX2_comesBack_2 17 rfl rfl)
theorem dX2_comesBack_64 : decode cX2_comesBack 64 = .ok (.goto 21, 3) := dk_167 0 21 (dk_at dksX2_comesBack_2 19 rfl rfl)
theorem dX2_comesBack_67 : decode cX2_comesBack 67 = .ok (.aload_n 0, 1) := dk_42 (dk_at dksX2_comesBack_2 22 rfl rfl)
theorem dX2_comesBack_68 : decode cX2_comesBack 68 = .ok (.aload_n 3, 1) := dk_45 (dk_at dksX2_comesBack_2 23 rfl rfl)
theorem dX2_comesBack_69 : decode cX2_comesBack 69 = .ok (.aload_n 0, 1) := dk_42 (dk_at dksX2_comesBack_3 0 rfl rfl)
theorem dX2_comesBack_70 : decode cX2_comesBack 70 = .ok (.getfield 20, 3) := dk_180 0 20 (dk_at dksX2_comesBack_3 1 rfl rfl)
theorem dX2_comesBack_73 : decode cX2_comesBack 73 = .ok (.iconst 0, 1) := dk_3 (dk_at dksX2_comesBack_3 4 rfl rfl)
theorem dX2_comesBack_74 : decode cX2_comesBack 74 = .ok (.invokevirtual 87, 3) := dk_182 0 87 (dk_at dksX2_comesBack_3 5 rfl rfl)
theorem dX2_comesBack_77 : decode cX2_comesBack 77 = .ok (.ifCond .lt 7, 3) := dk_155 0 7 (dk_at dksX2_comesBack_3 8 rfl rfl)
theorem dX2_comesBack_80 : decode cX2_comesBack 80 = .ok (.iconst 1, 1) := dk_4 (dk_at dksX2_comesBack_3 11 rfl rfl)
theorem dX2_comesBack_81 : decode cX2_comesBack 81 = .ok (.goto 4, 3) := dk_167 0 4 (dk_at dksX2_comesBack_3 12 rfl rfl)
theorem dX2_comesBack_84 : decode cX2_comesBack 84 = .ok (.iconst 0, 1) := dk_3 (dk_at dksX2_comesBack_3 15 rfl rfl)
theorem dX2_comesBack_85 : decode cX2_comesBack 85 = .ok (.ireturn, 1) := dk_172 (dk_at dksX2_comesBack_3 16 rfl rfl)
abbrev cX2_nodes : ByteArray := prog_7_method_63_code
def yX2_nodes : MethodName := ⟨RX2, "nodes", "()I"⟩
def dkwX2_nodes_0 : List UInt8 := [42, 3, 181, 0, 29, 42, 182, 0, 193, 199, 0, 8, 16, 247, 167, 0, 7, 42, 180, 0, 68, 172]
abbrev dktX2_nodes_0 : List UInt8 := dkwX2_nodes_0 ++ []
theorem dksX2_nodes_0 : cX2_nodes.data.toList.drop 0 = dktX2_nodes_0 := by decide +kernel
theorem dX2_nodes_0 : decode cX2_nodes 0 = .ok (.aload_n 0, 1) := dk_42 (dk_at dksX2_nodes_0 0 rfl rfl)
theorem dX2_nodes_1 : decode cX2_nodes 1 = .ok (.iconst 0, 1) := dk_3 (dk_at dksX2_nodes_0 1 rfl rfl)
theorem dX2_nodes_2 : decode cX2_nodes 2 = .ok (.putfield 29, 3) := dk_181 0 29 (dk_at dksX2_nodes_0 2 rfl rfl)
theorem dX2_nodes_5 : decode cX2_nodes 5 = .ok (.aload_n 0, 1) := dk_42 (dk_at dksX2_nodes_0 5 rfl rfl)
theorem dX2_nodes_6 : decode cX2_nodes 6 = .ok (.invokevirtual 193, 3) := dk_182 0 193 (dk_at dksX2_nodes_0 6 rfl rfl)
theorem dX2_nodes_9 : decode cX2_nodes 9 = .ok (.ifnonnull 8, 3) := dk_199 0 8 (dk_at dksX2_nodes_0 9 rfl rfl)
theorem dX2_nodes_12 : decode cX2_nodes 12 = .ok (.bipush (-9), 2) := dk_16 247 (dk_at dksX2_nodes_0 12 rfl rfl)
theorem dX2_nodes_14 : decode cX2_nodes 14 = .ok (.goto 7, 3) := dk_167 0 7 (dk_at dksX2_nodes_0 14 rfl rfl)
theorem dX2_nodes_17 : decode cX2_nodes 17 = .ok (.aload_n 0, 1) := dk_42 (dk_at dksX2_nodes_0 17 rfl rfl)
theorem dX2_nodes_18 : decode cX2_nodes 18 = .ok (.getfield 68, 3) := dk_180 0 68 (dk_at dksX2_nodes_0 18 rfl rfl)
theorem dX2_nodes_21 : decode cX2_nodes 21 = .ok (.ireturn, 1) := dk_172 (dk_at dksX2_nodes_0 21 rfl rfl)
abbrev cX2_tree : ByteArray := prog_7_method_23_code
def yX2_tree : MethodName := ⟨RX2, "tree", "()[I"⟩
def dkwX2_tree_10 : List UInt8 := [181, 0, 68, 132, 4, 1, 167, 255, 128, 132, 2, 1, 167, 255, 52, 43, 176]
abbrev dktX2_tree_10 : List UInt8 := dkwX2_tree_10 ++ []
def dkwX2_tree_9 : List UInt8 := [43, 16, 9, 21, 5, 104, 16, 8, 96, 46, 54, 5, 167, 255, 222, 42, 89, 180, 0, 68, 4, 96]
abbrev dktX2_tree_9 : List UInt8 := dkwX2_tree_9 ++ dktX2_tree_10
def dkwX2_tree_8 : List UInt8 := [54, 5, 21, 5, 155, 0, 35, 42, 43, 16, 9, 21, 5, 104, 16, 9, 42, 180, 0, 68, 104, 182, 0, 95]
abbrev dktX2_tree_8 : List UInt8 := dkwX2_tree_8 ++ dktX2_tree_9
def dkwX2_tree_7 : List UInt8 := [16, 9, 42, 180, 0, 68, 104, 182, 0, 75, 43, 16, 9, 42, 180, 0, 68, 104, 16, 8, 96, 28, 79, 28]
abbrev dktX2_tree_7 : List UInt8 := dkwX2_tree_7 ++ dktX2_tree_8
def dkwX2_tree_6 : List UInt8 := [167, 0, 97, 42, 180, 0, 68, 16, 20, 160, 0, 5, 1, 176, 42, 43, 16, 9, 28, 104, 21, 4, 3, 43]
abbrev dktX2_tree_6 : List UInt8 := dkwX2_tree_6 ++ dktX2_tree_7
def dkwX2_tree_5 : List UInt8 := [162, 0, 125, 29, 153, 0, 121, 42, 43, 16, 9, 28, 104, 21, 4, 3, 182, 0, 71, 154, 0, 6]
abbrev dktX2_tree_5 : List UInt8 := dkwX2_tree_5 ++ dktX2_tree_6
def dkwX2_tree_4 : List UInt8 := [16, 9, 21, 4, 104, 16, 8, 96, 46, 54, 4, 167, 255, 213, 3, 54, 4, 21, 4, 42, 180, 0, 32]
abbrev dktX2_tree_4 : List UInt8 := dkwX2_tree_4 ++ dktX2_tree_5
def dkwX2_tree_3 : List UInt8 := [16, 9, 21, 4, 104, 43, 16, 9, 28, 104, 182, 0, 79, 154, 0, 7, 4, 167, 0, 4, 3, 126, 62, 43]
abbrev dktX2_tree_3 : List UInt8 := dkwX2_tree_3 ++ dktX2_tree_4
def dkwX2_tree_2 : List UInt8 := [162, 0, 202, 4, 62, 43, 16, 9, 28, 104, 16, 8, 96, 46, 54, 4, 21, 4, 155, 0, 44, 29, 42, 43]
abbrev dktX2_tree_2 : List UInt8 := dkwX2_tree_2 ++ dktX2_tree_3
def dkwX2_tree_1 : List UInt8 := [132, 2, 1, 167, 255, 238, 43, 16, 8, 2, 79, 42, 4, 181, 0, 68, 3, 61, 28, 42, 180, 0, 68]
abbrev dktX2_tree_1 : List UInt8 := dkwX2_tree_1 ++ dktX2_tree_2
def dkwX2_tree_0 : List UInt8 := [17, 0, 189, 188, 10, 76, 3, 61, 28, 16, 8, 162, 0, 18, 43, 28, 42, 180, 0, 20, 28, 46, 79]
abbrev dktX2_tree_0 : List UInt8 := dkwX2_tree_0 ++ dktX2_tree_1
theorem dksX2_tree_0 : cX2_tree.data.toList.drop 0 = dktX2_tree_0 := by decide +kernel
theorem dksX2_tree_1 : cX2_tree.data.toList.drop 23 = dktX2_tree_1 := dk_seg dksX2_tree_0 23 rfl rfl
theorem dksX2_tree_2 : cX2_tree.data.toList.drop 46 = dktX2_tree_2 := dk_seg dksX2_tree_1 23 rfl rfl
theorem dksX2_tree_3 : cX2_tree.data.toList.drop 70 = dktX2_tree_3 := dk_seg dksX2_tree_2 24 rfl rfl
theorem dksX2_tree_4 : cX2_tree.data.toList.drop 94 = dktX2_tree_4 := dk_seg dksX2_tree_3 24 rfl rfl
theorem dksX2_tree_5 : cX2_tree.data.toList.drop 117 = dktX2_tree_5 := dk_seg dksX2_tree_4 23 rfl rfl
theorem dksX2_tree_6 : cX2_tree.data.toList.drop 139 = dktX2_tree_6 := dk_seg dksX2_tree_5 22 rfl rfl
theorem dksX2_tree_7 : cX2_tree.data.toList.drop 163 = dktX2_tree_7 := dk_seg dksX2_tree_6 24 rfl rfl
theorem dksX2_tree_8 : cX2_tree.data.toList.drop 187 = dktX2_tree_8 := dk_seg dksX2_tree_7 24 rfl rfl
theorem dksX2_tree_9 : cX2_tree.data.toList.drop 211 = dktX2_tree_9 := dk_seg dksX2_tree_8 24 rfl rfl
theorem dksX2_tree_10 : cX2_tree.data.toList.drop 233 = dktX2_tree_10 := dk_seg dksX2_tree_9 22 rfl rfl
theorem dX2_tree_0 : decode cX2_tree 0 = .ok (.sipush 189, 3) := dk_17 0 189 (dk_at dksX2_tree_0 0 rfl rfl)
theorem dX2_tree_3 : decode cX2_tree 3 = .ok (.newarray .int, 2) := dk_188_10 (dk_at dksX2_tree_0 3 rfl rfl)
theorem dX2_tree_5 : decode cX2_tree 5 = .ok (.astore_n 1, 1) := dk_76 (dk_at dksX2_tree_0 5 rfl rfl)
theorem dX2_tree_6 : decode cX2_tree 6 = .ok (.iconst 0, 1) := dk_3 (dk_at dksX2_tree_0 6 rfl rfl)
theorem dX2_tree_7 : decode cX2_tree 7 = .ok (.istore_n 2, 1) := dk_61 (dk_at dksX2_tree_0 7 rfl rfl)
theorem dX2_tree_8 : decode cX2_tree 8 = .ok (.iload_n 2, 1) := dk_28 (dk_at dksX2_tree_0 8 rfl rfl)
theorem dX2_tree_9 : decode cX2_tree 9 = .ok (.bipush 8, 2) := dk_16 8 (dk_at dksX2_tree_0 9 rfl rfl)
theorem dX2_tree_11 : decode cX2_tree 11 = .ok (.if_icmp .ge 18, 3) := dk_162 0 18 (dk_at dksX2_tree_0 11 rfl rfl)
theorem dX2_tree_14 : decode cX2_tree 14 = .ok (.aload_n 1, 1) := dk_43 (dk_at dksX2_tree_0 14 rfl rfl)
theorem dX2_tree_15 : decode cX2_tree 15 = .ok (.iload_n 2, 1) := dk_28 (dk_at dksX2_tree_0 15 rfl rfl)
theorem dX2_tree_16 : decode cX2_tree 16 = .ok (.aload_n 0, 1) := dk_42 (dk_at dksX2_tree_0 16 rfl rfl)
theorem dX2_tree_17 : decode cX2_tree 17 = .ok (.getfield 20, 3) := dk_180 0 20 (dk_at dksX2_tree_0 17 rfl rfl)
theorem dX2_tree_20 : decode cX2_tree 20 = .ok (.iload_n 2, 1) := dk_28 (dk_at dksX2_tree_0 20 rfl rfl)
theorem dX2_tree_21 : decode cX2_tree 21 = .ok (.iaload, 1) := dk_46 (dk_at dksX2_tree_0 21 rfl rfl)
theorem dX2_tree_22 : decode cX2_tree 22 = .ok (.iastore, 1) := dk_79 (dk_at dksX2_tree_0 22 rfl rfl)
theorem dX2_tree_23 : decode cX2_tree 23 = .ok (.iinc 2 1, 3) := dk_132 2 1 (dk_at dksX2_tree_1 0 rfl rfl)
theorem dX2_tree_26 : decode cX2_tree 26 = .ok (.goto (-18), 3) := dk_167 255 238 (dk_at dksX2_tree_1 3 rfl rfl)
theorem dX2_tree_29 : decode cX2_tree 29 = .ok (.aload_n 1, 1) := dk_43 (dk_at dksX2_tree_1 6 rfl rfl)
theorem dX2_tree_30 : decode cX2_tree 30 = .ok (.bipush 8, 2) := dk_16 8 (dk_at dksX2_tree_1 7 rfl rfl)
theorem dX2_tree_32 : decode cX2_tree 32 = .ok (.iconst (-1), 1) := dk_2 (dk_at dksX2_tree_1 9 rfl rfl)
theorem dX2_tree_33 : decode cX2_tree 33 = .ok (.iastore, 1) := dk_79 (dk_at dksX2_tree_1 10 rfl rfl)
theorem dX2_tree_34 : decode cX2_tree 34 = .ok (.aload_n 0, 1) := dk_42 (dk_at dksX2_tree_1 11 rfl rfl)
theorem dX2_tree_35 : decode cX2_tree 35 = .ok (.iconst 1, 1) := dk_4 (dk_at dksX2_tree_1 12 rfl rfl)
theorem dX2_tree_36 : decode cX2_tree 36 = .ok (.putfield 68, 3) := dk_181 0 68 (dk_at dksX2_tree_1 13 rfl rfl)
theorem dX2_tree_39 : decode cX2_tree 39 = .ok (.iconst 0, 1) := dk_3 (dk_at dksX2_tree_1 16 rfl rfl)
theorem dX2_tree_40 : decode cX2_tree 40 = .ok (.istore_n 2, 1) := dk_61 (dk_at dksX2_tree_1 17 rfl rfl)
theorem dX2_tree_41 : decode cX2_tree 41 = .ok (.iload_n 2, 1) := dk_28 (dk_at dksX2_tree_1 18 rfl rfl)
theorem dX2_tree_42 : decode cX2_tree 42 = .ok (.aload_n 0, 1) := dk_42 (dk_at dksX2_tree_1 19 rfl rfl)
theorem dX2_tree_43 : decode cX2_tree 43 = .ok (.getfield 68, 3) := dk_180 0 68 (dk_at dksX2_tree_1 20 rfl rfl)
theorem dX2_tree_46 : decode cX2_tree 46 = .ok (.if_icmp .ge 202, 3) := dk_162 0 202 (dk_at dksX2_tree_2 0 rfl rfl)
theorem dX2_tree_49 : decode cX2_tree 49 = .ok (.iconst 1, 1) := dk_4 (dk_at dksX2_tree_2 3 rfl rfl)
theorem dX2_tree_50 : decode cX2_tree 50 = .ok (.istore_n 3, 1) := dk_62 (dk_at dksX2_tree_2 4 rfl rfl)
theorem dX2_tree_51 : decode cX2_tree 51 = .ok (.aload_n 1, 1) := dk_43 (dk_at dksX2_tree_2 5 rfl rfl)
theorem dX2_tree_52 : decode cX2_tree 52 = .ok (.bipush 9, 2) := dk_16 9 (dk_at dksX2_tree_2 6 rfl rfl)
theorem dX2_tree_54 : decode cX2_tree 54 = .ok (.iload_n 2, 1) := dk_28 (dk_at dksX2_tree_2 8 rfl rfl)
theorem dX2_tree_55 : decode cX2_tree 55 = .ok (.imul, 1) := dk_104 (dk_at dksX2_tree_2 9 rfl rfl)
theorem dX2_tree_56 : decode cX2_tree 56 = .ok (.bipush 8, 2) := dk_16 8 (dk_at dksX2_tree_2 10 rfl rfl)
theorem dX2_tree_58 : decode cX2_tree 58 = .ok (.iadd, 1) := dk_96 (dk_at dksX2_tree_2 12 rfl rfl)
theorem dX2_tree_59 : decode cX2_tree 59 = .ok (.iaload, 1) := dk_46 (dk_at dksX2_tree_2 13 rfl rfl)
theorem dX2_tree_60 : decode cX2_tree 60 = .ok (.istore 4, 2) := dk_54 4 (dk_at dksX2_tree_2 14 rfl rfl)
theorem dX2_tree_62 : decode cX2_tree 62 = .ok (.iload 4, 2) := dk_21 4 (dk_at dksX2_tree_2 16 rfl rfl)
theorem dX2_tree_64 : decode cX2_tree 64 = .ok (.ifCond .lt 44, 3) := dk_155 0 44 (dk_at dksX2_tree_2 18 rfl rfl)
theorem dX2_tree_67 : decode cX2_tree 67 = .ok (.iload_n 3, 1) := dk_29 (dk_at dksX2_tree_2 21 rfl rfl)
theorem dX2_tree_68 : decode cX2_tree 68 = .ok (.aload_n 0, 1) := dk_42 (dk_at dksX2_tree_2 22 rfl rfl)
theorem dX2_tree_69 : decode cX2_tree 69 = .ok (.aload_n 1, 1) := dk_43 (dk_at dksX2_tree_2 23 rfl rfl)
theorem dX2_tree_70 : decode cX2_tree 70 = .ok (.bipush 9, 2) := dk_16 9 (dk_at dksX2_tree_3 0 rfl rfl)
theorem dX2_tree_72 : decode cX2_tree 72 = .ok (.iload 4, 2) := dk_21 4 (dk_at dksX2_tree_3 2 rfl rfl)
theorem dX2_tree_74 : decode cX2_tree 74 = .ok (.imul, 1) := dk_104 (dk_at dksX2_tree_3 4 rfl rfl)
theorem dX2_tree_75 : decode cX2_tree 75 = .ok (.aload_n 1, 1) := dk_43 (dk_at dksX2_tree_3 5 rfl rfl)
theorem dX2_tree_76 : decode cX2_tree 76 = .ok (.bipush 9, 2) := dk_16 9 (dk_at dksX2_tree_3 6 rfl rfl)
theorem dX2_tree_78 : decode cX2_tree 78 = .ok (.iload_n 2, 1) := dk_28 (dk_at dksX2_tree_3 8 rfl rfl)
theorem dX2_tree_79 : decode cX2_tree 79 = .ok (.imul, 1) := dk_104 (dk_at dksX2_tree_3 9 rfl rfl)
theorem dX2_tree_80 : decode cX2_tree 80 = .ok (.invokevirtual 79, 3) := dk_182 0 79 (dk_at dksX2_tree_3 10 rfl rfl)
theorem dX2_tree_83 : decode cX2_tree 83 = .ok (.ifCond .ne 7, 3) := dk_154 0 7 (dk_at dksX2_tree_3 13 rfl rfl)
theorem dX2_tree_86 : decode cX2_tree 86 = .ok (.iconst 1, 1) := dk_4 (dk_at dksX2_tree_3 16 rfl rfl)
theorem dX2_tree_87 : decode cX2_tree 87 = .ok (.goto 4, 3) := dk_167 0 4 (dk_at dksX2_tree_3 17 rfl rfl)
theorem dX2_tree_90 : decode cX2_tree 90 = .ok (.iconst 0, 1) := dk_3 (dk_at dksX2_tree_3 20 rfl rfl)
theorem dX2_tree_91 : decode cX2_tree 91 = .ok (.iand, 1) := dk_126 (dk_at dksX2_tree_3 21 rfl rfl)
theorem dX2_tree_92 : decode cX2_tree 92 = .ok (.istore_n 3, 1) := dk_62 (dk_at dksX2_tree_3 22 rfl rfl)
theorem dX2_tree_93 : decode cX2_tree 93 = .ok (.aload_n 1, 1) := dk_43 (dk_at dksX2_tree_3 23 rfl rfl)
theorem dX2_tree_94 : decode cX2_tree 94 = .ok (.bipush 9, 2) := dk_16 9 (dk_at dksX2_tree_4 0 rfl rfl)
theorem dX2_tree_96 : decode cX2_tree 96 = .ok (.iload 4, 2) := dk_21 4 (dk_at dksX2_tree_4 2 rfl rfl)
theorem dX2_tree_98 : decode cX2_tree 98 = .ok (.imul, 1) := dk_104 (dk_at dksX2_tree_4 4 rfl rfl)
theorem dX2_tree_99 : decode cX2_tree 99 = .ok (.bipush 8, 2) := dk_16 8 (dk_at dksX2_tree_4 5 rfl rfl)
theorem dX2_tree_101 : decode cX2_tree 101 = .ok (.iadd, 1) := dk_96 (dk_at dksX2_tree_4 7 rfl rfl)
theorem dX2_tree_102 : decode cX2_tree 102 = .ok (.iaload, 1) := dk_46 (dk_at dksX2_tree_4 8 rfl rfl)
theorem dX2_tree_103 : decode cX2_tree 103 = .ok (.istore 4, 2) := dk_54 4 (dk_at dksX2_tree_4 9 rfl rfl)
theorem dX2_tree_105 : decode cX2_tree 105 = .ok (.goto (-43), 3) := dk_167 255 213 (dk_at dksX2_tree_4 11 rfl rfl)
theorem dX2_tree_108 : decode cX2_tree 108 = .ok (.iconst 0, 1) := dk_3 (dk_at dksX2_tree_4 14 rfl rfl)
theorem dX2_tree_109 : decode cX2_tree 109 = .ok (.istore 4, 2) := dk_54 4 (dk_at dksX2_tree_4 15 rfl rfl)
theorem dX2_tree_111 : decode cX2_tree 111 = .ok (.iload 4, 2) := dk_21 4 (dk_at dksX2_tree_4 17 rfl rfl)
theorem dX2_tree_113 : decode cX2_tree 113 = .ok (.aload_n 0, 1) := dk_42 (dk_at dksX2_tree_4 19 rfl rfl)
theorem dX2_tree_114 : decode cX2_tree 114 = .ok (.getfield 32, 3) := dk_180 0 32 (dk_at dksX2_tree_4 20 rfl rfl)
theorem dX2_tree_117 : decode cX2_tree 117 = .ok (.if_icmp .ge 125, 3) := dk_162 0 125 (dk_at dksX2_tree_5 0 rfl rfl)
theorem dX2_tree_120 : decode cX2_tree 120 = .ok (.iload_n 3, 1) := dk_29 (dk_at dksX2_tree_5 3 rfl rfl)
theorem dX2_tree_121 : decode cX2_tree 121 = .ok (.ifCond .eq 121, 3) := dk_153 0 121 (dk_at dksX2_tree_5 4 rfl rfl)
theorem dX2_tree_124 : decode cX2_tree 124 = .ok (.aload_n 0, 1) := dk_42 (dk_at dksX2_tree_5 7 rfl rfl)
theorem dX2_tree_125 : decode cX2_tree 125 = .ok (.aload_n 1, 1) := dk_43 (dk_at dksX2_tree_5 8 rfl rfl)
theorem dX2_tree_126 : decode cX2_tree 126 = .ok (.bipush 9, 2) := dk_16 9 (dk_at dksX2_tree_5 9 rfl rfl)
theorem dX2_tree_128 : decode cX2_tree 128 = .ok (.iload_n 2, 1) := dk_28 (dk_at dksX2_tree_5 11 rfl rfl)
theorem dX2_tree_129 : decode cX2_tree 129 = .ok (.imul, 1) := dk_104 (dk_at dksX2_tree_5 12 rfl rfl)
theorem dX2_tree_130 : decode cX2_tree 130 = .ok (.iload 4, 2) := dk_21 4 (dk_at dksX2_tree_5 13 rfl rfl)
theorem dX2_tree_132 : decode cX2_tree 132 = .ok (.iconst 0, 1) := dk_3 (dk_at dksX2_tree_5 15 rfl rfl)
theorem dX2_tree_133 : decode cX2_tree 133 = .ok (.invokevirtual 71, 3) := dk_182 0 71 (dk_at dksX2_tree_5 16 rfl rfl)
theorem dX2_tree_136 : decode cX2_tree 136 = .ok (.ifCond .ne 6, 3) := dk_154 0 6 (dk_at dksX2_tree_5 19 rfl rfl)
theorem dX2_tree_139 : decode cX2_tree 139 = .ok (.goto 97, 3) := dk_167 0 97 (dk_at dksX2_tree_6 0 rfl rfl)
theorem dX2_tree_142 : decode cX2_tree 142 = .ok (.aload_n 0, 1) := dk_42 (dk_at dksX2_tree_6 3 rfl rfl)
theorem dX2_tree_143 : decode cX2_tree 143 = .ok (.getfield 68, 3) := dk_180 0 68 (dk_at dksX2_tree_6 4 rfl rfl)
theorem dX2_tree_146 : decode cX2_tree 146 = .ok (.bipush 20, 2) := dk_16 20 (dk_at dksX2_tree_6 7 rfl rfl)
theorem dX2_tree_148 : decode cX2_tree 148 = .ok (.if_icmp .ne 5, 3) := dk_160 0 5 (dk_at dksX2_tree_6 9 rfl rfl)
theorem dX2_tree_151 : decode cX2_tree 151 = .ok (.aconst_null, 1) := dk_1 (dk_at dksX2_tree_6 12 rfl rfl)
theorem dX2_tree_152 : decode cX2_tree 152 = .ok (.areturn, 1) := dk_176 (dk_at dksX2_tree_6 13 rfl rfl)
theorem dX2_tree_153 : decode cX2_tree 153 = .ok (.aload_n 0, 1) := dk_42 (dk_at dksX2_tree_6 14 rfl rfl)
theorem dX2_tree_154 : decode cX2_tree 154 = .ok (.aload_n 1, 1) := dk_43 (dk_at dksX2_tree_6 15 rfl rfl)
theorem dX2_tree_155 : decode cX2_tree 155 = .ok (.bipush 9, 2) := dk_16 9 (dk_at dksX2_tree_6 16 rfl rfl)
theorem dX2_tree_157 : decode cX2_tree 157 = .ok (.iload_n 2, 1) := dk_28 (dk_at dksX2_tree_6 18 rfl rfl)
theorem dX2_tree_158 : decode cX2_tree 158 = .ok (.imul, 1) := dk_104 (dk_at dksX2_tree_6 19 rfl rfl)
theorem dX2_tree_159 : decode cX2_tree 159 = .ok (.iload 4, 2) := dk_21 4 (dk_at dksX2_tree_6 20 rfl rfl)
theorem dX2_tree_161 : decode cX2_tree 161 = .ok (.iconst 0, 1) := dk_3 (dk_at dksX2_tree_6 22 rfl rfl)
theorem dX2_tree_162 : decode cX2_tree 162 = .ok (.aload_n 1, 1) := dk_43 (dk_at dksX2_tree_6 23 rfl rfl)
theorem dX2_tree_163 : decode cX2_tree 163 = .ok (.bipush 9, 2) := dk_16 9 (dk_at dksX2_tree_7 0 rfl rfl)
theorem dX2_tree_165 : decode cX2_tree 165 = .ok (.aload_n 0, 1) := dk_42 (dk_at dksX2_tree_7 2 rfl rfl)
theorem dX2_tree_166 : decode cX2_tree 166 = .ok (.getfield 68, 3) := dk_180 0 68 (dk_at dksX2_tree_7 3 rfl rfl)
theorem dX2_tree_169 : decode cX2_tree 169 = .ok (.imul, 1) := dk_104 (dk_at dksX2_tree_7 6 rfl rfl)
theorem dX2_tree_170 : decode cX2_tree 170 = .ok (.invokevirtual 75, 3) := dk_182 0 75 (dk_at dksX2_tree_7 7 rfl rfl)
theorem dX2_tree_173 : decode cX2_tree 173 = .ok (.aload_n 1, 1) := dk_43 (dk_at dksX2_tree_7 10 rfl rfl)
theorem dX2_tree_174 : decode cX2_tree 174 = .ok (.bipush 9, 2) := dk_16 9 (dk_at dksX2_tree_7 11 rfl rfl)
theorem dX2_tree_176 : decode cX2_tree 176 = .ok (.aload_n 0, 1) := dk_42 (dk_at dksX2_tree_7 13 rfl rfl)
theorem dX2_tree_177 : decode cX2_tree 177 = .ok (.getfield 68, 3) := dk_180 0 68 (dk_at dksX2_tree_7 14 rfl rfl)
theorem dX2_tree_180 : decode cX2_tree 180 = .ok (.imul, 1) := dk_104 (dk_at dksX2_tree_7 17 rfl rfl)
theorem dX2_tree_181 : decode cX2_tree 181 = .ok (.bipush 8, 2) := dk_16 8 (dk_at dksX2_tree_7 18 rfl rfl)
theorem dX2_tree_183 : decode cX2_tree 183 = .ok (.iadd, 1) := dk_96 (dk_at dksX2_tree_7 20 rfl rfl)
theorem dX2_tree_184 : decode cX2_tree 184 = .ok (.iload_n 2, 1) := dk_28 (dk_at dksX2_tree_7 21 rfl rfl)
theorem dX2_tree_185 : decode cX2_tree 185 = .ok (.iastore, 1) := dk_79 (dk_at dksX2_tree_7 22 rfl rfl)
theorem dX2_tree_186 : decode cX2_tree 186 = .ok (.iload_n 2, 1) := dk_28 (dk_at dksX2_tree_7 23 rfl rfl)
theorem dX2_tree_187 : decode cX2_tree 187 = .ok (.istore 5, 2) := dk_54 5 (dk_at dksX2_tree_8 0 rfl rfl)
theorem dX2_tree_189 : decode cX2_tree 189 = .ok (.iload 5, 2) := dk_21 5 (dk_at dksX2_tree_8 2 rfl rfl)
theorem dX2_tree_191 : decode cX2_tree 191 = .ok (.ifCond .lt 35, 3) := dk_155 0 35 (dk_at dksX2_tree_8 4 rfl rfl)
theorem dX2_tree_194 : decode cX2_tree 194 = .ok (.aload_n 0, 1) := dk_42 (dk_at dksX2_tree_8 7 rfl rfl)
theorem dX2_tree_195 : decode cX2_tree 195 = .ok (.aload_n 1, 1) := dk_43 (dk_at dksX2_tree_8 8 rfl rfl)
theorem dX2_tree_196 : decode cX2_tree 196 = .ok (.bipush 9, 2) := dk_16 9 (dk_at dksX2_tree_8 9 rfl rfl)
theorem dX2_tree_198 : decode cX2_tree 198 = .ok (.iload 5, 2) := dk_21 5 (dk_at dksX2_tree_8 11 rfl rfl)
theorem dX2_tree_200 : decode cX2_tree 200 = .ok (.imul, 1) := dk_104 (dk_at dksX2_tree_8 13 rfl rfl)
theorem dX2_tree_201 : decode cX2_tree 201 = .ok (.bipush 9, 2) := dk_16 9 (dk_at dksX2_tree_8 14 rfl rfl)
theorem dX2_tree_203 : decode cX2_tree 203 = .ok (.aload_n 0, 1) := dk_42 (dk_at dksX2_tree_8 16 rfl rfl)
theorem dX2_tree_204 : decode cX2_tree 204 = .ok (.getfield 68, 3) := dk_180 0 68 (dk_at dksX2_tree_8 17 rfl rfl)
theorem dX2_tree_207 : decode cX2_tree 207 = .ok (.imul, 1) := dk_104 (dk_at dksX2_tree_8 20 rfl rfl)
theorem dX2_tree_208 : decode cX2_tree 208 = .ok (.invokevirtual 95, 3) := dk_182 0 95 (dk_at dksX2_tree_8 21 rfl rfl)
theorem dX2_tree_211 : decode cX2_tree 211 = .ok (.aload_n 1, 1) := dk_43 (dk_at dksX2_tree_9 0 rfl rfl)
theorem dX2_tree_212 : decode cX2_tree 212 = .ok (.bipush 9, 2) := dk_16 9 (dk_at dksX2_tree_9 1 rfl rfl)
theorem dX2_tree_214 : decode cX2_tree 214 = .ok (.iload 5, 2) := dk_21 5 (dk_at dksX2_tree_9 3 rfl rfl)
theorem dX2_tree_216 : decode cX2_tree 216 = .ok (.imul, 1) := dk_104 (dk_at dksX2_tree_9 5 rfl rfl)
theorem dX2_tree_217 : decode cX2_tree 217 = .ok (.bipush 8, 2) := dk_16 8 (dk_at dksX2_tree_9 6 rfl rfl)
theorem dX2_tree_219 : decode cX2_tree 219 = .ok (.iadd, 1) := dk_96 (dk_at dksX2_tree_9 8 rfl rfl)
theorem dX2_tree_220 : decode cX2_tree 220 = .ok (.iaload, 1) := dk_46 (dk_at dksX2_tree_9 9 rfl rfl)
theorem dX2_tree_221 : decode cX2_tree 221 = .ok (.istore 5, 2) := dk_54 5 (dk_at dksX2_tree_9 10 rfl rfl)
theorem dX2_tree_223 : decode cX2_tree 223 = .ok (.goto (-34), 3) := dk_167 255 222 (dk_at dksX2_tree_9 12 rfl rfl)
theorem dX2_tree_226 : decode cX2_tree 226 = .ok (.aload_n 0, 1) := dk_42 (dk_at dksX2_tree_9 15 rfl rfl)
theorem dX2_tree_227 : decode cX2_tree 227 = .ok (.dup, 1) := dk_89 (dk_at dksX2_tree_9 16 rfl rfl)
theorem dX2_tree_228 : decode cX2_tree 228 = .ok (.getfield 68, 3) := dk_180 0 68 (dk_at dksX2_tree_9 17 rfl rfl)
theorem dX2_tree_231 : decode cX2_tree 231 = .ok (.iconst 1, 1) := dk_4 (dk_at dksX2_tree_9 20 rfl rfl)
theorem dX2_tree_232 : decode cX2_tree 232 = .ok (.iadd, 1) := dk_96 (dk_at dksX2_tree_9 21 rfl rfl)
theorem dX2_tree_233 : decode cX2_tree 233 = .ok (.putfield 68, 3) := dk_181 0 68 (dk_at dksX2_tree_10 0 rfl rfl)
theorem dX2_tree_236 : decode cX2_tree 236 = .ok (.iinc 4 1, 3) := dk_132 4 1 (dk_at dksX2_tree_10 3 rfl rfl)
theorem dX2_tree_239 : decode cX2_tree 239 = .ok (.goto (-128), 3) := dk_167 255 128 (dk_at dksX2_tree_10 6 rfl rfl)
theorem dX2_tree_242 : decode cX2_tree 242 = .ok (.iinc 2 1, 3) := dk_132 2 1 (dk_at dksX2_tree_10 9 rfl rfl)
theorem dX2_tree_245 : decode cX2_tree 245 = .ok (.goto (-204), 3) := dk_167 255 52 (dk_at dksX2_tree_10 12 rfl rfl)
theorem dX2_tree_248 : decode cX2_tree 248 = .ok (.aload_n 1, 1) := dk_43 (dk_at dksX2_tree_10 15 rfl rfl)
theorem dX2_tree_249 : decode cX2_tree 249 = .ok (.areturn, 1) := dk_176 (dk_at dksX2_tree_10 16 rfl rfl)
abbrev cX2_grow : ByteArray := prog_7_method_24_code
def yX2_grow : MethodName := ⟨RX2, "grow", "([III)V"⟩
def dkwX2_grow_3 : List UInt8 := [167, 255, 221, 177]
abbrev dktX2_grow_3 : List UInt8 := dkwX2_grow_3 ++ []
def dkwX2_grow_2 : List UInt8 := [21, 4, 96, 46, 43, 29, 21, 4, 96, 46, 162, 0, 11, 43, 29, 21, 4, 96, 18, 45, 79, 132, 4, 1]
abbrev dktX2_grow_2 : List UInt8 := dkwX2_grow_2 ++ dktX2_grow_3
def dkwX2_grow_1 : List UInt8 := [164, 0, 4, 177, 132, 4, 1, 167, 255, 228, 3, 54, 4, 21, 4, 42, 180, 0, 7, 162, 0, 32, 43, 28]
abbrev dktX2_grow_1 : List UInt8 := dkwX2_grow_1 ++ dktX2_grow_2
def dkwX2_grow_0 : List UInt8 := [3, 54, 4, 21, 4, 42, 180, 0, 7, 162, 0, 25, 43, 28, 21, 4, 96, 46, 43, 29, 21, 4, 96, 46]
abbrev dktX2_grow_0 : List UInt8 := dkwX2_grow_0 ++ dktX2_grow_1
theorem dksX2_grow_0 : cX2_grow.data.toList.drop 0 = dktX2_grow_0 := by decide +kernel
theorem dksX2_grow_1 : cX2_grow.data.toList.drop 24 = dktX2_grow_1 := dk_seg dksX2_grow_0 24 rfl rfl
theorem dksX2_grow_2 : cX2_grow.data.toList.drop 48 = dktX2_grow_2 := dk_seg dksX2_grow_1 24 rfl rfl
theorem dksX2_grow_3 : cX2_grow.data.toList.drop 72 = dktX2_grow_3 := dk_seg dksX2_grow_2 24 rfl rfl
theorem dX2_grow_0 : decode cX2_grow 0 = .ok (.iconst 0, 1) := dk_3 (dk_at dksX2_grow_0 0 rfl rfl)
theorem dX2_grow_1 : decode cX2_grow 1 = .ok (.istore 4, 2) := dk_54 4 (dk_at dksX2_grow_0 1 rfl rfl)
theorem dX2_grow_3 : decode cX2_grow 3 = .ok (.iload 4, 2) := dk_21 4 (dk_at dksX2_grow_0 3 rfl rfl)
theorem dX2_grow_5 : decode cX2_grow 5 = .ok (.aload_n 0, 1) := dk_42 (dk_at dksX2_grow_0 5 rfl rfl)
theorem dX2_grow_6 : decode cX2_grow 6 = .ok (.getfield 7, 3) := dk_180 0 7 (dk_at dksX2_grow_0 6 rfl rfl)
theorem dX2_grow_9 : decode cX2_grow 9 = .ok (.if_icmp .ge 25, 3) := dk_162 0 25 (dk_at dksX2_grow_0 9 rfl rfl)
theorem dX2_grow_12 : decode cX2_grow 12 = .ok (.aload_n 1, 1) := dk_43 (dk_at dksX2_grow_0 12 rfl rfl)
theorem dX2_grow_13 : decode cX2_grow 13 = .ok (.iload_n 2, 1) := dk_28 (dk_at dksX2_grow_0 13 rfl rfl)
theorem dX2_grow_14 : decode cX2_grow 14 = .ok (.iload 4, 2) := dk_21 4 (dk_at dksX2_grow_0 14 rfl rfl)
theorem dX2_grow_16 : decode cX2_grow 16 = .ok (.iadd, 1) := dk_96 (dk_at dksX2_grow_0 16 rfl rfl)
theorem dX2_grow_17 : decode cX2_grow 17 = .ok (.iaload, 1) := dk_46 (dk_at dksX2_grow_0 17 rfl rfl)
theorem dX2_grow_18 : decode cX2_grow 18 = .ok (.aload_n 1, 1) := dk_43 (dk_at dksX2_grow_0 18 rfl rfl)
theorem dX2_grow_19 : decode cX2_grow 19 = .ok (.iload_n 3, 1) := dk_29 (dk_at dksX2_grow_0 19 rfl rfl)
theorem dX2_grow_20 : decode cX2_grow 20 = .ok (.iload 4, 2) := dk_21 4 (dk_at dksX2_grow_0 20 rfl rfl)
theorem dX2_grow_22 : decode cX2_grow 22 = .ok (.iadd, 1) := dk_96 (dk_at dksX2_grow_0 22 rfl rfl)
theorem dX2_grow_23 : decode cX2_grow 23 = .ok (.iaload, 1) := dk_46 (dk_at dksX2_grow_0 23 rfl rfl)
theorem dX2_grow_24 : decode cX2_grow 24 = .ok (.if_icmp .le 4, 3) := dk_164 0 4 (dk_at dksX2_grow_1 0 rfl rfl)
theorem dX2_grow_27 : decode cX2_grow 27 = .ok (.return_, 1) := dk_177 (dk_at dksX2_grow_1 3 rfl rfl)
theorem dX2_grow_28 : decode cX2_grow 28 = .ok (.iinc 4 1, 3) := dk_132 4 1 (dk_at dksX2_grow_1 4 rfl rfl)
theorem dX2_grow_31 : decode cX2_grow 31 = .ok (.goto (-28), 3) := dk_167 255 228 (dk_at dksX2_grow_1 7 rfl rfl)
theorem dX2_grow_34 : decode cX2_grow 34 = .ok (.iconst 0, 1) := dk_3 (dk_at dksX2_grow_1 10 rfl rfl)
theorem dX2_grow_35 : decode cX2_grow 35 = .ok (.istore 4, 2) := dk_54 4 (dk_at dksX2_grow_1 11 rfl rfl)
theorem dX2_grow_37 : decode cX2_grow 37 = .ok (.iload 4, 2) := dk_21 4 (dk_at dksX2_grow_1 13 rfl rfl)
theorem dX2_grow_39 : decode cX2_grow 39 = .ok (.aload_n 0, 1) := dk_42 (dk_at dksX2_grow_1 15 rfl rfl)
theorem dX2_grow_40 : decode cX2_grow 40 = .ok (.getfield 7, 3) := dk_180 0 7 (dk_at dksX2_grow_1 16 rfl rfl)
theorem dX2_grow_43 : decode cX2_grow 43 = .ok (.if_icmp .ge 32, 3) := dk_162 0 32 (dk_at dksX2_grow_1 19 rfl rfl)
theorem dX2_grow_46 : decode cX2_grow 46 = .ok (.aload_n 1, 1) := dk_43 (dk_at dksX2_grow_1 22 rfl rfl)
theorem dX2_grow_47 : decode cX2_grow 47 = .ok (.iload_n 2, 1) := dk_28 (dk_at dksX2_grow_1 23 rfl rfl)
theorem dX2_grow_48 : decode cX2_grow 48 = .ok (.iload 4, 2) := dk_21 4 (dk_at dksX2_grow_2 0 rfl rfl)
theorem dX2_grow_50 : decode cX2_grow 50 = .ok (.iadd, 1) := dk_96 (dk_at dksX2_grow_2 2 rfl rfl)
theorem dX2_grow_51 : decode cX2_grow 51 = .ok (.iaload, 1) := dk_46 (dk_at dksX2_grow_2 3 rfl rfl)
theorem dX2_grow_52 : decode cX2_grow 52 = .ok (.aload_n 1, 1) := dk_43 (dk_at dksX2_grow_2 4 rfl rfl)
theorem dX2_grow_53 : decode cX2_grow 53 = .ok (.iload_n 3, 1) := dk_29 (dk_at dksX2_grow_2 5 rfl rfl)
theorem dX2_grow_54 : decode cX2_grow 54 = .ok (.iload 4, 2) := dk_21 4 (dk_at dksX2_grow_2 6 rfl rfl)
theorem dX2_grow_56 : decode cX2_grow 56 = .ok (.iadd, 1) := dk_96 (dk_at dksX2_grow_2 8 rfl rfl)
theorem dX2_grow_57 : decode cX2_grow 57 = .ok (.iaload, 1) := dk_46 (dk_at dksX2_grow_2 9 rfl rfl)
theorem dX2_grow_58 : decode cX2_grow 58 = .ok (.if_icmp .ge 11, 3) := dk_162 0 11 (dk_at dksX2_grow_2 10 rfl rfl)
theorem dX2_grow_61 : decode cX2_grow 61 = .ok (.aload_n 1, 1) := dk_43 (dk_at dksX2_grow_2 13 rfl rfl)
theorem dX2_grow_62 : decode cX2_grow 62 = .ok (.iload_n 3, 1) := dk_29 (dk_at dksX2_grow_2 14 rfl rfl)
theorem dX2_grow_63 : decode cX2_grow 63 = .ok (.iload 4, 2) := dk_21 4 (dk_at dksX2_grow_2 15 rfl rfl)
theorem dX2_grow_65 : decode cX2_grow 65 = .ok (.iadd, 1) := dk_96 (dk_at dksX2_grow_2 17 rfl rfl)
theorem dX2_grow_66 : decode cX2_grow 66 = .ok (.ldc 45, 2) := dk_18 45 (dk_at dksX2_grow_2 18 rfl rfl)
theorem dX2_grow_68 : decode cX2_grow 68 = .ok (.iastore, 1) := dk_79 (dk_at dksX2_grow_2 20 rfl rfl)
theorem dX2_grow_69 : decode cX2_grow 69 = .ok (.iinc 4 1, 3) := dk_132 4 1 (dk_at dksX2_grow_2 21 rfl rfl)
theorem dX2_grow_72 : decode cX2_grow 72 = .ok (.goto (-35), 3) := dk_167 255 221 (dk_at dksX2_grow_3 0 rfl rfl)
theorem dX2_grow_75 : decode cX2_grow 75 = .ok (.return_, 1) := dk_177 (dk_at dksX2_grow_3 3 rfl rfl)
abbrev cX2_most : ByteArray := prog_7_method_65_code
def yX2_most : MethodName := ⟨RX2, "most", "(I)I"⟩
def dkwX2_most_1 : List UInt8 := [16, 247, 172, 42, 44, 27, 182, 0, 199, 62, 29, 18, 45, 160, 0, 8, 16, 254, 167, 0, 4, 29, 172]
abbrev dktX2_most_1 : List UInt8 := dkwX2_most_1 ++ []
def dkwX2_most_0 : List UInt8 := [42, 42, 27, 182, 0, 133, 4, 182, 0, 117, 153, 0, 5, 3, 172, 42, 182, 0, 193, 77, 44, 199, 0, 6]
abbrev dktX2_most_0 : List UInt8 := dkwX2_most_0 ++ dktX2_most_1
theorem dksX2_most_0 : cX2_most.data.toList.drop 0 = dktX2_most_0 := by decide +kernel
theorem dksX2_most_1 : cX2_most.data.toList.drop 24 = dktX2_most_1 := dk_seg dksX2_most_0 24 rfl rfl
theorem dX2_most_0 : decode cX2_most 0 = .ok (.aload_n 0, 1) := dk_42 (dk_at dksX2_most_0 0 rfl rfl)
theorem dX2_most_1 : decode cX2_most 1 = .ok (.aload_n 0, 1) := dk_42 (dk_at dksX2_most_0 1 rfl rfl)
theorem dX2_most_2 : decode cX2_most 2 = .ok (.iload_n 1, 1) := dk_27 (dk_at dksX2_most_0 2 rfl rfl)
theorem dX2_most_3 : decode cX2_most 3 = .ok (.invokevirtual 133, 3) := dk_182 0 133 (dk_at dksX2_most_0 3 rfl rfl)
theorem dX2_most_6 : decode cX2_most 6 = .ok (.iconst 1, 1) := dk_4 (dk_at dksX2_most_0 6 rfl rfl)
theorem dX2_most_7 : decode cX2_most 7 = .ok (.invokevirtual 117, 3) := dk_182 0 117 (dk_at dksX2_most_0 7 rfl rfl)
theorem dX2_most_10 : decode cX2_most 10 = .ok (.ifCond .eq 5, 3) := dk_153 0 5 (dk_at dksX2_most_0 10 rfl rfl)
theorem dX2_most_13 : decode cX2_most 13 = .ok (.iconst 0, 1) := dk_3 (dk_at dksX2_most_0 13 rfl rfl)
theorem dX2_most_14 : decode cX2_most 14 = .ok (.ireturn, 1) := dk_172 (dk_at dksX2_most_0 14 rfl rfl)
theorem dX2_most_15 : decode cX2_most 15 = .ok (.aload_n 0, 1) := dk_42 (dk_at dksX2_most_0 15 rfl rfl)
theorem dX2_most_16 : decode cX2_most 16 = .ok (.invokevirtual 193, 3) := dk_182 0 193 (dk_at dksX2_most_0 16 rfl rfl)
theorem dX2_most_19 : decode cX2_most 19 = .ok (.astore_n 2, 1) := dk_77 (dk_at dksX2_most_0 19 rfl rfl)
theorem dX2_most_20 : decode cX2_most 20 = .ok (.aload_n 2, 1) := dk_44 (dk_at dksX2_most_0 20 rfl rfl)
theorem dX2_most_21 : decode cX2_most 21 = .ok (.ifnonnull 6, 3) := dk_199 0 6 (dk_at dksX2_most_0 21 rfl rfl)
theorem dX2_most_24 : decode cX2_most 24 = .ok (.bipush (-9), 2) := dk_16 247 (dk_at dksX2_most_1 0 rfl rfl)
theorem dX2_most_26 : decode cX2_most 26 = .ok (.ireturn, 1) := dk_172 (dk_at dksX2_most_1 2 rfl rfl)
theorem dX2_most_27 : decode cX2_most 27 = .ok (.aload_n 0, 1) := dk_42 (dk_at dksX2_most_1 3 rfl rfl)
theorem dX2_most_28 : decode cX2_most 28 = .ok (.aload_n 2, 1) := dk_44 (dk_at dksX2_most_1 4 rfl rfl)
theorem dX2_most_29 : decode cX2_most 29 = .ok (.iload_n 1, 1) := dk_27 (dk_at dksX2_most_1 5 rfl rfl)
theorem dX2_most_30 : decode cX2_most 30 = .ok (.invokevirtual 199, 3) := dk_182 0 199 (dk_at dksX2_most_1 6 rfl rfl)
theorem dX2_most_33 : decode cX2_most 33 = .ok (.istore_n 3, 1) := dk_62 (dk_at dksX2_most_1 9 rfl rfl)
theorem dX2_most_34 : decode cX2_most 34 = .ok (.iload_n 3, 1) := dk_29 (dk_at dksX2_most_1 10 rfl rfl)
theorem dX2_most_35 : decode cX2_most 35 = .ok (.ldc 45, 2) := dk_18 45 (dk_at dksX2_most_1 11 rfl rfl)
theorem dX2_most_37 : decode cX2_most 37 = .ok (.if_icmp .ne 8, 3) := dk_160 0 8 (dk_at dksX2_most_1 13 rfl rfl)
theorem dX2_most_40 : decode cX2_most 40 = .ok (.bipush (-2), 2) := dk_16 254 (dk_at dksX2_most_1 16 rfl rfl)
theorem dX2_most_42 : decode cX2_most 42 = .ok (.goto 4, 3) := dk_167 0 4 (dk_at dksX2_most_1 18 rfl rfl)
theorem dX2_most_45 : decode cX2_most 45 = .ok (.iload_n 3, 1) := dk_29 (dk_at dksX2_most_1 21 rfl rfl)
theorem dX2_most_46 : decode cX2_most 46 = .ok (.ireturn, 1) := dk_172 (dk_at dksX2_most_1 22 rfl rfl)
abbrev cX2_mostOf : ByteArray := prog_7_method_64_code
def yX2_mostOf : MethodName := ⟨RX2, "mostOf", "([II)I"⟩
def dkwX2_mostOf_1 : List UInt8 := [184, 0, 196, 62, 132, 4, 1, 167, 255, 230, 29, 172]
abbrev dktX2_mostOf_1 : List UInt8 := dkwX2_mostOf_1 ++ []
def dkwX2_mostOf_0 : List UInt8 := [3, 62, 3, 54, 4, 21, 4, 42, 180, 0, 68, 162, 0, 23, 29, 43, 16, 9, 21, 4, 104, 28, 96, 46]
abbrev dktX2_mostOf_0 : List UInt8 := dkwX2_mostOf_0 ++ dktX2_mostOf_1
theorem dksX2_mostOf_0 : cX2_mostOf.data.toList.drop 0 = dktX2_mostOf_0 := by decide +kernel
theorem dksX2_mostOf_1 : cX2_mostOf.data.toList.drop 24 = dktX2_mostOf_1 := dk_seg dksX2_mostOf_0 24 rfl rfl
theorem dX2_mostOf_0 : decode cX2_mostOf 0 = .ok (.iconst 0, 1) := dk_3 (dk_at dksX2_mostOf_0 0 rfl rfl)
theorem dX2_mostOf_1 : decode cX2_mostOf 1 = .ok (.istore_n 3, 1) := dk_62 (dk_at dksX2_mostOf_0 1 rfl rfl)
theorem dX2_mostOf_2 : decode cX2_mostOf 2 = .ok (.iconst 0, 1) := dk_3 (dk_at dksX2_mostOf_0 2 rfl rfl)
theorem dX2_mostOf_3 : decode cX2_mostOf 3 = .ok (.istore 4, 2) := dk_54 4 (dk_at dksX2_mostOf_0 3 rfl rfl)
theorem dX2_mostOf_5 : decode cX2_mostOf 5 = .ok (.iload 4, 2) := dk_21 4 (dk_at dksX2_mostOf_0 5 rfl rfl)
theorem dX2_mostOf_7 : decode cX2_mostOf 7 = .ok (.aload_n 0, 1) := dk_42 (dk_at dksX2_mostOf_0 7 rfl rfl)
theorem dX2_mostOf_8 : decode cX2_mostOf 8 = .ok (.getfield 68, 3) := dk_180 0 68 (dk_at dksX2_mostOf_0 8 rfl rfl)
theorem dX2_mostOf_11 : decode cX2_mostOf 11 = .ok (.if_icmp .ge 23, 3) := dk_162 0 23 (dk_at dksX2_mostOf_0 11 rfl rfl)
theorem dX2_mostOf_14 : decode cX2_mostOf 14 = .ok (.iload_n 3, 1) := dk_29 (dk_at dksX2_mostOf_0 14 rfl rfl)
theorem dX2_mostOf_15 : decode cX2_mostOf 15 = .ok (.aload_n 1, 1) := dk_43 (dk_at dksX2_mostOf_0 15 rfl rfl)
theorem dX2_mostOf_16 : decode cX2_mostOf 16 = .ok (.bipush 9, 2) := dk_16 9 (dk_at dksX2_mostOf_0 16 rfl rfl)
theorem dX2_mostOf_18 : decode cX2_mostOf 18 = .ok (.iload 4, 2) := dk_21 4 (dk_at dksX2_mostOf_0 18 rfl rfl)
theorem dX2_mostOf_20 : decode cX2_mostOf 20 = .ok (.imul, 1) := dk_104 (dk_at dksX2_mostOf_0 20 rfl rfl)
theorem dX2_mostOf_21 : decode cX2_mostOf 21 = .ok (.iload_n 2, 1) := dk_28 (dk_at dksX2_mostOf_0 21 rfl rfl)
theorem dX2_mostOf_22 : decode cX2_mostOf 22 = .ok (.iadd, 1) := dk_96 (dk_at dksX2_mostOf_0 22 rfl rfl)
theorem dX2_mostOf_23 : decode cX2_mostOf 23 = .ok (.iaload, 1) := dk_46 (dk_at dksX2_mostOf_0 23 rfl rfl)
theorem dX2_mostOf_24 : decode cX2_mostOf 24 = .ok (.invokestatic 196, 3) := dk_184 0 196 (dk_at dksX2_mostOf_1 0 rfl rfl)
theorem dX2_mostOf_27 : decode cX2_mostOf 27 = .ok (.istore_n 3, 1) := dk_62 (dk_at dksX2_mostOf_1 3 rfl rfl)
theorem dX2_mostOf_28 : decode cX2_mostOf 28 = .ok (.iinc 4 1, 3) := dk_132 4 1 (dk_at dksX2_mostOf_1 4 rfl rfl)
theorem dX2_mostOf_31 : decode cX2_mostOf 31 = .ok (.goto (-26), 3) := dk_167 255 230 (dk_at dksX2_mostOf_1 7 rfl rfl)
theorem dX2_mostOf_34 : decode cX2_mostOf 34 = .ok (.iload_n 3, 1) := dk_29 (dk_at dksX2_mostOf_1 10 rfl rfl)
theorem dX2_mostOf_35 : decode cX2_mostOf 35 = .ok (.ireturn, 1) := dk_172 (dk_at dksX2_mostOf_1 11 rfl rfl)
abbrev cX2_manies : ByteArray := prog_7_method_66_code
def yX2_manies : MethodName := ⟨RX2, "manies", "()I"⟩
def dkwX2_manies_2 : List UInt8 := [3, 128, 61, 132, 3, 1, 167, 255, 224, 28, 172]
abbrev dktX2_manies_2 : List UInt8 := dkwX2_manies_2 ++ []
def dkwX2_manies_1 : List UInt8 := [180, 0, 7, 162, 0, 30, 28, 42, 43, 29, 182, 0, 199, 18, 45, 160, 0, 9, 4, 29, 120, 167, 0, 4]
abbrev dktX2_manies_1 : List UInt8 := dkwX2_manies_1 ++ dktX2_manies_2
def dkwX2_manies_0 : List UInt8 := [42, 3, 181, 0, 29, 42, 182, 0, 193, 76, 43, 199, 0, 6, 16, 247, 172, 3, 61, 3, 62, 29, 42]
abbrev dktX2_manies_0 : List UInt8 := dkwX2_manies_0 ++ dktX2_manies_1
theorem dksX2_manies_0 : cX2_manies.data.toList.drop 0 = dktX2_manies_0 := by decide +kernel
theorem dksX2_manies_1 : cX2_manies.data.toList.drop 23 = dktX2_manies_1 := dk_seg dksX2_manies_0 23 rfl rfl
theorem dksX2_manies_2 : cX2_manies.data.toList.drop 47 = dktX2_manies_2 := dk_seg dksX2_manies_1 24 rfl rfl
theorem dX2_manies_0 : decode cX2_manies 0 = .ok (.aload_n 0, 1) := dk_42 (dk_at dksX2_manies_0 0 rfl rfl)
theorem dX2_manies_1 : decode cX2_manies 1 = .ok (.iconst 0, 1) := dk_3 (dk_at dksX2_manies_0 1 rfl rfl)
theorem dX2_manies_2 : decode cX2_manies 2 = .ok (.putfield 29, 3) := dk_181 0 29 (dk_at dksX2_manies_0 2 rfl rfl)
theorem dX2_manies_5 : decode cX2_manies 5 = .ok (.aload_n 0, 1) := dk_42 (dk_at dksX2_manies_0 5 rfl rfl)
theorem dX2_manies_6 : decode cX2_manies 6 = .ok (.invokevirtual 193, 3) := dk_182 0 193 (dk_at dksX2_manies_0 6 rfl rfl)
theorem dX2_manies_9 : decode cX2_manies 9 = .ok (.astore_n 1, 1) := dk_76 (dk_at dksX2_manies_0 9 rfl rfl)
theorem dX2_manies_10 : decode cX2_manies 10 = .ok (.aload_n 1, 1) := dk_43 (dk_at dksX2_manies_0 10 rfl rfl)
theorem dX2_manies_11 : decode cX2_manies 11 = .ok (.ifnonnull 6, 3) := dk_199 0 6 (dk_at dksX2_manies_0 11 rfl rfl)
theorem dX2_manies_14 : decode cX2_manies 14 = .ok (.bipush (-9), 2) := dk_16 247 (dk_at dksX2_manies_0 14 rfl rfl)
theorem dX2_manies_16 : decode cX2_manies 16 = .ok (.ireturn, 1) := dk_172 (dk_at dksX2_manies_0 16 rfl rfl)
theorem dX2_manies_17 : decode cX2_manies 17 = .ok (.iconst 0, 1) := dk_3 (dk_at dksX2_manies_0 17 rfl rfl)
theorem dX2_manies_18 : decode cX2_manies 18 = .ok (.istore_n 2, 1) := dk_61 (dk_at dksX2_manies_0 18 rfl rfl)
theorem dX2_manies_19 : decode cX2_manies 19 = .ok (.iconst 0, 1) := dk_3 (dk_at dksX2_manies_0 19 rfl rfl)
theorem dX2_manies_20 : decode cX2_manies 20 = .ok (.istore_n 3, 1) := dk_62 (dk_at dksX2_manies_0 20 rfl rfl)
theorem dX2_manies_21 : decode cX2_manies 21 = .ok (.iload_n 3, 1) := dk_29 (dk_at dksX2_manies_0 21 rfl rfl)
theorem dX2_manies_22 : decode cX2_manies 22 = .ok (.aload_n 0, 1) := dk_42 (dk_at dksX2_manies_0 22 rfl rfl)
theorem dX2_manies_23 : decode cX2_manies 23 = .ok (.getfield 7, 3) := dk_180 0 7 (dk_at dksX2_manies_1 0 rfl rfl)
theorem dX2_manies_26 : decode cX2_manies 26 = .ok (.if_icmp .ge 30, 3) := dk_162 0 30 (dk_at dksX2_manies_1 3 rfl rfl)
theorem dX2_manies_29 : decode cX2_manies 29 = .ok (.iload_n 2, 1) := dk_28 (dk_at dksX2_manies_1 6 rfl rfl)
theorem dX2_manies_30 : decode cX2_manies 30 = .ok (.aload_n 0, 1) := dk_42 (dk_at dksX2_manies_1 7 rfl rfl)
theorem dX2_manies_31 : decode cX2_manies 31 = .ok (.aload_n 1, 1) := dk_43 (dk_at dksX2_manies_1 8 rfl rfl)
theorem dX2_manies_32 : decode cX2_manies 32 = .ok (.iload_n 3, 1) := dk_29 (dk_at dksX2_manies_1 9 rfl rfl)
theorem dX2_manies_33 : decode cX2_manies 33 = .ok (.invokevirtual 199, 3) := dk_182 0 199 (dk_at dksX2_manies_1 10 rfl rfl)
theorem dX2_manies_36 : decode cX2_manies 36 = .ok (.ldc 45, 2) := dk_18 45 (dk_at dksX2_manies_1 13 rfl rfl)
theorem dX2_manies_38 : decode cX2_manies 38 = .ok (.if_icmp .ne 9, 3) := dk_160 0 9 (dk_at dksX2_manies_1 15 rfl rfl)
theorem dX2_manies_41 : decode cX2_manies 41 = .ok (.iconst 1, 1) := dk_4 (dk_at dksX2_manies_1 18 rfl rfl)
theorem dX2_manies_42 : decode cX2_manies 42 = .ok (.iload_n 3, 1) := dk_29 (dk_at dksX2_manies_1 19 rfl rfl)
theorem dX2_manies_43 : decode cX2_manies 43 = .ok (.ishl, 1) := dk_120 (dk_at dksX2_manies_1 20 rfl rfl)
theorem dX2_manies_44 : decode cX2_manies 44 = .ok (.goto 4, 3) := dk_167 0 4 (dk_at dksX2_manies_1 21 rfl rfl)
theorem dX2_manies_47 : decode cX2_manies 47 = .ok (.iconst 0, 1) := dk_3 (dk_at dksX2_manies_2 0 rfl rfl)
theorem dX2_manies_48 : decode cX2_manies 48 = .ok (.ior, 1) := dk_128 (dk_at dksX2_manies_2 1 rfl rfl)
theorem dX2_manies_49 : decode cX2_manies 49 = .ok (.istore_n 2, 1) := dk_61 (dk_at dksX2_manies_2 2 rfl rfl)
theorem dX2_manies_50 : decode cX2_manies 50 = .ok (.iinc 3 1, 3) := dk_132 3 1 (dk_at dksX2_manies_2 3 rfl rfl)
theorem dX2_manies_53 : decode cX2_manies 53 = .ok (.goto (-32), 3) := dk_167 255 224 (dk_at dksX2_manies_2 6 rfl rfl)
theorem dX2_manies_56 : decode cX2_manies 56 = .ok (.iload_n 2, 1) := dk_28 (dk_at dksX2_manies_2 9 rfl rfl)
theorem dX2_manies_57 : decode cX2_manies 57 = .ok (.ireturn, 1) := dk_172 (dk_at dksX2_manies_2 10 rfl rfl)
abbrev cX2_weighings : ByteArray := prog_7_method_67_code
def yX2_weighings : MethodName := ⟨RX2, "weighings", "()I"⟩
def dkwX2_weighings_0 : List UInt8 := [42, 3, 181, 0, 29, 42, 182, 0, 202, 87, 42, 180, 0, 68, 172]
abbrev dktX2_weighings_0 : List UInt8 := dkwX2_weighings_0 ++ []
theorem dksX2_weighings_0 : cX2_weighings.data.toList.drop 0 = dktX2_weighings_0 := by decide +kernel
theorem dX2_weighings_0 : decode cX2_weighings 0 = .ok (.aload_n 0, 1) := dk_42 (dk_at dksX2_weighings_0 0 rfl rfl)
theorem dX2_weighings_1 : decode cX2_weighings 1 = .ok (.iconst 0, 1) := dk_3 (dk_at dksX2_weighings_0 1 rfl rfl)
theorem dX2_weighings_2 : decode cX2_weighings 2 = .ok (.putfield 29, 3) := dk_181 0 29 (dk_at dksX2_weighings_0 2 rfl rfl)
theorem dX2_weighings_5 : decode cX2_weighings 5 = .ok (.aload_n 0, 1) := dk_42 (dk_at dksX2_weighings_0 5 rfl rfl)
theorem dX2_weighings_6 : decode cX2_weighings 6 = .ok (.invokevirtual 202, 3) := dk_182 0 202 (dk_at dksX2_weighings_0 6 rfl rfl)
theorem dX2_weighings_9 : decode cX2_weighings 9 = .ok (.pop, 1) := dk_87 (dk_at dksX2_weighings_0 9 rfl rfl)
theorem dX2_weighings_10 : decode cX2_weighings 10 = .ok (.aload_n 0, 1) := dk_42 (dk_at dksX2_weighings_0 10 rfl rfl)
theorem dX2_weighings_11 : decode cX2_weighings 11 = .ok (.getfield 68, 3) := dk_180 0 68 (dk_at dksX2_weighings_0 11 rfl rfl)
theorem dX2_weighings_14 : decode cX2_weighings 14 = .ok (.ireturn, 1) := dk_172 (dk_at dksX2_weighings_0 14 rfl rfl)
abbrev cX2_weigh : ByteArray := prog_7_method_26_code
def yX2_weigh : MethodName := ⟨RX2, "weigh", "()[I"⟩
def dkwX2_weigh_8 : List UInt8 := [180, 0, 68, 4, 96, 181, 0, 68, 132, 4, 1, 167, 255, 77, 43, 176]
abbrev dktX2_weigh_8 : List UInt8 := dkwX2_weigh_8 ++ []
def dkwX2_weigh_7 : List UInt8 := [104, 4, 96, 47, 105, 25, 5, 5, 21, 8, 104, 47, 109, 136, 79, 132, 8, 1, 167, 255, 211, 42, 89]
abbrev dktX2_weigh_7 : List UInt8 := dkwX2_weigh_7 ++ dktX2_weigh_8
def dkwX2_weigh_6 : List UInt8 := [162, 0, 45, 43, 16, 8, 42, 180, 0, 68, 104, 44, 21, 8, 46, 96, 22, 6, 117, 25, 5, 5, 21, 8]
abbrev dktX2_weigh_6 : List UInt8 := dkwX2_weigh_6 ++ dktX2_weigh_7
def dkwX2_weigh_5 : List UInt8 := [167, 255, 200, 43, 16, 8, 42, 180, 0, 68, 104, 21, 4, 96, 22, 6, 136, 79, 3, 54, 8, 21, 8, 29]
abbrev dktX2_weigh_5 : List UInt8 := dkwX2_weigh_5 ++ dktX2_weigh_6
def dkwX2_weigh_4 : List UInt8 := [184, 0, 105, 109, 55, 9, 22, 6, 22, 6, 22, 9, 184, 0, 105, 109, 22, 9, 105, 55, 6, 132, 8, 1]
abbrev dktX2_weigh_4 : List UInt8 := dkwX2_weigh_4 ++ dktX2_weigh_5
def dkwX2_weigh_3 : List UInt8 := [21, 8, 104, 47, 184, 0, 99, 25, 5, 5, 21, 8, 104, 47, 25, 5, 5, 21, 8, 104, 4, 96, 47]
abbrev dktX2_weigh_3 : List UInt8 := dkwX2_weigh_3 ++ dktX2_weigh_4
def dkwX2_weigh_2 : List UInt8 := [132, 3, 1, 21, 4, 79, 167, 0, 144, 10, 55, 6, 3, 54, 8, 21, 8, 29, 162, 0, 56, 25, 5, 5]
abbrev dktX2_weigh_2 : List UInt8 := dkwX2_weigh_2 ++ dktX2_weigh_3
def dkwX2_weigh_1 : List UInt8 := [180, 0, 7, 162, 0, 176, 42, 21, 4, 44, 29, 182, 0, 109, 58, 5, 25, 5, 199, 0, 14, 44, 29]
abbrev dktX2_weigh_1 : List UInt8 := dkwX2_weigh_1 ++ dktX2_weigh_2
def dkwX2_weigh_0 : List UInt8 := [16, 64, 188, 10, 76, 16, 8, 188, 10, 77, 3, 62, 42, 3, 181, 0, 68, 3, 54, 4, 21, 4, 42]
abbrev dktX2_weigh_0 : List UInt8 := dkwX2_weigh_0 ++ dktX2_weigh_1
theorem dksX2_weigh_0 : cX2_weigh.data.toList.drop 0 = dktX2_weigh_0 := by decide +kernel
theorem dksX2_weigh_1 : cX2_weigh.data.toList.drop 23 = dktX2_weigh_1 := dk_seg dksX2_weigh_0 23 rfl rfl
theorem dksX2_weigh_2 : cX2_weigh.data.toList.drop 46 = dktX2_weigh_2 := dk_seg dksX2_weigh_1 23 rfl rfl
theorem dksX2_weigh_3 : cX2_weigh.data.toList.drop 70 = dktX2_weigh_3 := dk_seg dksX2_weigh_2 24 rfl rfl
theorem dksX2_weigh_4 : cX2_weigh.data.toList.drop 93 = dktX2_weigh_4 := dk_seg dksX2_weigh_3 23 rfl rfl
theorem dksX2_weigh_5 : cX2_weigh.data.toList.drop 117 = dktX2_weigh_5 := dk_seg dksX2_weigh_4 24 rfl rfl
theorem dksX2_weigh_6 : cX2_weigh.data.toList.drop 141 = dktX2_weigh_6 := dk_seg dksX2_weigh_5 24 rfl rfl
theorem dksX2_weigh_7 : cX2_weigh.data.toList.drop 165 = dktX2_weigh_7 := dk_seg dksX2_weigh_6 24 rfl rfl
theorem dksX2_weigh_8 : cX2_weigh.data.toList.drop 188 = dktX2_weigh_8 := dk_seg dksX2_weigh_7 23 rfl rfl
theorem dX2_weigh_0 : decode cX2_weigh 0 = .ok (.bipush 64, 2) := dk_16 64 (dk_at dksX2_weigh_0 0 rfl rfl)
theorem dX2_weigh_2 : decode cX2_weigh 2 = .ok (.newarray .int, 2) := dk_188_10 (dk_at dksX2_weigh_0 2 rfl rfl)
theorem dX2_weigh_4 : decode cX2_weigh 4 = .ok (.astore_n 1, 1) := dk_76 (dk_at dksX2_weigh_0 4 rfl rfl)
theorem dX2_weigh_5 : decode cX2_weigh 5 = .ok (.bipush 8, 2) := dk_16 8 (dk_at dksX2_weigh_0 5 rfl rfl)
theorem dX2_weigh_7 : decode cX2_weigh 7 = .ok (.newarray .int, 2) := dk_188_10 (dk_at dksX2_weigh_0 7 rfl rfl)
theorem dX2_weigh_9 : decode cX2_weigh 9 = .ok (.astore_n 2, 1) := dk_77 (dk_at dksX2_weigh_0 9 rfl rfl)
theorem dX2_weigh_10 : decode cX2_weigh 10 = .ok (.iconst 0, 1) := dk_3 (dk_at dksX2_weigh_0 10 rfl rfl)
theorem dX2_weigh_11 : decode cX2_weigh 11 = .ok (.istore_n 3, 1) := dk_62 (dk_at dksX2_weigh_0 11 rfl rfl)
theorem dX2_weigh_12 : decode cX2_weigh 12 = .ok (.aload_n 0, 1) := dk_42 (dk_at dksX2_weigh_0 12 rfl rfl)
theorem dX2_weigh_13 : decode cX2_weigh 13 = .ok (.iconst 0, 1) := dk_3 (dk_at dksX2_weigh_0 13 rfl rfl)
theorem dX2_weigh_14 : decode cX2_weigh 14 = .ok (.putfield 68, 3) := dk_181 0 68 (dk_at dksX2_weigh_0 14 rfl rfl)
theorem dX2_weigh_17 : decode cX2_weigh 17 = .ok (.iconst 0, 1) := dk_3 (dk_at dksX2_weigh_0 17 rfl rfl)
theorem dX2_weigh_18 : decode cX2_weigh 18 = .ok (.istore 4, 2) := dk_54 4 (dk_at dksX2_weigh_0 18 rfl rfl)
theorem dX2_weigh_20 : decode cX2_weigh 20 = .ok (.iload 4, 2) := dk_21 4 (dk_at dksX2_weigh_0 20 rfl rfl)
theorem dX2_weigh_22 : decode cX2_weigh 22 = .ok (.aload_n 0, 1) := dk_42 (dk_at dksX2_weigh_0 22 rfl rfl)
theorem dX2_weigh_23 : decode cX2_weigh 23 = .ok (.getfield 7, 3) := dk_180 0 7 (dk_at dksX2_weigh_1 0 rfl rfl)
theorem dX2_weigh_26 : decode cX2_weigh 26 = .ok (.if_icmp .ge 176, 3) := dk_162 0 176 (dk_at dksX2_weigh_1 3 rfl rfl)
theorem dX2_weigh_29 : decode cX2_weigh 29 = .ok (.aload_n 0, 1) := dk_42 (dk_at dksX2_weigh_1 6 rfl rfl)
theorem dX2_weigh_30 : decode cX2_weigh 30 = .ok (.iload 4, 2) := dk_21 4 (dk_at dksX2_weigh_1 7 rfl rfl)
theorem dX2_weigh_32 : decode cX2_weigh 32 = .ok (.aload_n 2, 1) := dk_44 (dk_at dksX2_weigh_1 9 rfl rfl)
theorem dX2_weigh_33 : decode cX2_weigh 33 = .ok (.iload_n 3, 1) := dk_29 (dk_at dksX2_weigh_1 10 rfl rfl)
theorem dX2_weigh_34 : decode cX2_weigh 34 = .ok (.invokevirtual 109, 3) := dk_182 0 109 (dk_at dksX2_weigh_1 11 rfl rfl)
theorem dX2_weigh_37 : decode cX2_weigh 37 = .ok (.astore 5, 2) := dk_58 5 (dk_at dksX2_weigh_1 14 rfl rfl)
theorem dX2_weigh_39 : decode cX2_weigh 39 = .ok (.aload 5, 2) := dk_25 5 (dk_at dksX2_weigh_1 16 rfl rfl)
theorem dX2_weigh_41 : decode cX2_weigh 41 = .ok (.ifnonnull 14, 3) := dk_199 0 14 (dk_at dksX2_weigh_1 18 rfl rfl)
theorem dX2_weigh_44 : decode cX2_weigh 44 = .ok (.aload_n 2, 1) := dk_44 (dk_at dksX2_weigh_1 21 rfl rfl)
theorem dX2_weigh_45 : decode cX2_weigh 45 = .ok (.iload_n 3, 1) := dk_29 (dk_at dksX2_weigh_1 22 rfl rfl)
theorem dX2_weigh_46 : decode cX2_weigh 46 = .ok (.iinc 3 1, 3) := dk_132 3 1 (dk_at dksX2_weigh_2 0 rfl rfl)
theorem dX2_weigh_49 : decode cX2_weigh 49 = .ok (.iload 4, 2) := dk_21 4 (dk_at dksX2_weigh_2 3 rfl rfl)
theorem dX2_weigh_51 : decode cX2_weigh 51 = .ok (.iastore, 1) := dk_79 (dk_at dksX2_weigh_2 5 rfl rfl)
theorem dX2_weigh_52 : decode cX2_weigh 52 = .ok (.goto 144, 3) := dk_167 0 144 (dk_at dksX2_weigh_2 6 rfl rfl)
theorem dX2_weigh_55 : decode cX2_weigh 55 = .ok (.lconst 1, 1) := dk_10 (dk_at dksX2_weigh_2 9 rfl rfl)
theorem dX2_weigh_56 : decode cX2_weigh 56 = .ok (.lstore 6, 2) := dk_55 6 (dk_at dksX2_weigh_2 10 rfl rfl)
theorem dX2_weigh_58 : decode cX2_weigh 58 = .ok (.iconst 0, 1) := dk_3 (dk_at dksX2_weigh_2 12 rfl rfl)
theorem dX2_weigh_59 : decode cX2_weigh 59 = .ok (.istore 8, 2) := dk_54 8 (dk_at dksX2_weigh_2 13 rfl rfl)
theorem dX2_weigh_61 : decode cX2_weigh 61 = .ok (.iload 8, 2) := dk_21 8 (dk_at dksX2_weigh_2 15 rfl rfl)
theorem dX2_weigh_63 : decode cX2_weigh 63 = .ok (.iload_n 3, 1) := dk_29 (dk_at dksX2_weigh_2 17 rfl rfl)
theorem dX2_weigh_64 : decode cX2_weigh 64 = .ok (.if_icmp .ge 56, 3) := dk_162 0 56 (dk_at dksX2_weigh_2 18 rfl rfl)
theorem dX2_weigh_67 : decode cX2_weigh 67 = .ok (.aload 5, 2) := dk_25 5 (dk_at dksX2_weigh_2 21 rfl rfl)
theorem dX2_weigh_69 : decode cX2_weigh 69 = .ok (.iconst 2, 1) := dk_5 (dk_at dksX2_weigh_2 23 rfl rfl)
theorem dX2_weigh_70 : decode cX2_weigh 70 = .ok (.iload 8, 2) := dk_21 8 (dk_at dksX2_weigh_3 0 rfl rfl)
theorem dX2_weigh_72 : decode cX2_weigh 72 = .ok (.imul, 1) := dk_104 (dk_at dksX2_weigh_3 2 rfl rfl)
theorem dX2_weigh_73 : decode cX2_weigh 73 = .ok (.laload, 1) := dk_47 (dk_at dksX2_weigh_3 3 rfl rfl)
theorem dX2_weigh_74 : decode cX2_weigh 74 = .ok (.invokestatic 99, 3) := dk_184 0 99 (dk_at dksX2_weigh_3 4 rfl rfl)
theorem dX2_weigh_77 : decode cX2_weigh 77 = .ok (.aload 5, 2) := dk_25 5 (dk_at dksX2_weigh_3 7 rfl rfl)
theorem dX2_weigh_79 : decode cX2_weigh 79 = .ok (.iconst 2, 1) := dk_5 (dk_at dksX2_weigh_3 9 rfl rfl)
theorem dX2_weigh_80 : decode cX2_weigh 80 = .ok (.iload 8, 2) := dk_21 8 (dk_at dksX2_weigh_3 10 rfl rfl)
theorem dX2_weigh_82 : decode cX2_weigh 82 = .ok (.imul, 1) := dk_104 (dk_at dksX2_weigh_3 12 rfl rfl)
theorem dX2_weigh_83 : decode cX2_weigh 83 = .ok (.laload, 1) := dk_47 (dk_at dksX2_weigh_3 13 rfl rfl)
theorem dX2_weigh_84 : decode cX2_weigh 84 = .ok (.aload 5, 2) := dk_25 5 (dk_at dksX2_weigh_3 14 rfl rfl)
theorem dX2_weigh_86 : decode cX2_weigh 86 = .ok (.iconst 2, 1) := dk_5 (dk_at dksX2_weigh_3 16 rfl rfl)
theorem dX2_weigh_87 : decode cX2_weigh 87 = .ok (.iload 8, 2) := dk_21 8 (dk_at dksX2_weigh_3 17 rfl rfl)
theorem dX2_weigh_89 : decode cX2_weigh 89 = .ok (.imul, 1) := dk_104 (dk_at dksX2_weigh_3 19 rfl rfl)
theorem dX2_weigh_90 : decode cX2_weigh 90 = .ok (.iconst 1, 1) := dk_4 (dk_at dksX2_weigh_3 20 rfl rfl)
theorem dX2_weigh_91 : decode cX2_weigh 91 = .ok (.iadd, 1) := dk_96 (dk_at dksX2_weigh_3 21 rfl rfl)
theorem dX2_weigh_92 : decode cX2_weigh 92 = .ok (.laload, 1) := dk_47 (dk_at dksX2_weigh_3 22 rfl rfl)
theorem dX2_weigh_93 : decode cX2_weigh 93 = .ok (.invokestatic 105, 3) := dk_184 0 105 (dk_at dksX2_weigh_4 0 rfl rfl)
theorem dX2_weigh_96 : decode cX2_weigh 96 = .ok (.ldiv, 1) := dk_109 (dk_at dksX2_weigh_4 3 rfl rfl)
theorem dX2_weigh_97 : decode cX2_weigh 97 = .ok (.lstore 9, 2) := dk_55 9 (dk_at dksX2_weigh_4 4 rfl rfl)
theorem dX2_weigh_99 : decode cX2_weigh 99 = .ok (.lload 6, 2) := dk_22 6 (dk_at dksX2_weigh_4 6 rfl rfl)
theorem dX2_weigh_101 : decode cX2_weigh 101 = .ok (.lload 6, 2) := dk_22 6 (dk_at dksX2_weigh_4 8 rfl rfl)
theorem dX2_weigh_103 : decode cX2_weigh 103 = .ok (.lload 9, 2) := dk_22 9 (dk_at dksX2_weigh_4 10 rfl rfl)
theorem dX2_weigh_105 : decode cX2_weigh 105 = .ok (.invokestatic 105, 3) := dk_184 0 105 (dk_at dksX2_weigh_4 12 rfl rfl)
theorem dX2_weigh_108 : decode cX2_weigh 108 = .ok (.ldiv, 1) := dk_109 (dk_at dksX2_weigh_4 15 rfl rfl)
theorem dX2_weigh_109 : decode cX2_weigh 109 = .ok (.lload 9, 2) := dk_22 9 (dk_at dksX2_weigh_4 16 rfl rfl)
theorem dX2_weigh_111 : decode cX2_weigh 111 = .ok (.lmul, 1) := dk_105 (dk_at dksX2_weigh_4 18 rfl rfl)
theorem dX2_weigh_112 : decode cX2_weigh 112 = .ok (.lstore 6, 2) := dk_55 6 (dk_at dksX2_weigh_4 19 rfl rfl)
theorem dX2_weigh_114 : decode cX2_weigh 114 = .ok (.iinc 8 1, 3) := dk_132 8 1 (dk_at dksX2_weigh_4 21 rfl rfl)
theorem dX2_weigh_117 : decode cX2_weigh 117 = .ok (.goto (-56), 3) := dk_167 255 200 (dk_at dksX2_weigh_5 0 rfl rfl)
theorem dX2_weigh_120 : decode cX2_weigh 120 = .ok (.aload_n 1, 1) := dk_43 (dk_at dksX2_weigh_5 3 rfl rfl)
theorem dX2_weigh_121 : decode cX2_weigh 121 = .ok (.bipush 8, 2) := dk_16 8 (dk_at dksX2_weigh_5 4 rfl rfl)
theorem dX2_weigh_123 : decode cX2_weigh 123 = .ok (.aload_n 0, 1) := dk_42 (dk_at dksX2_weigh_5 6 rfl rfl)
theorem dX2_weigh_124 : decode cX2_weigh 124 = .ok (.getfield 68, 3) := dk_180 0 68 (dk_at dksX2_weigh_5 7 rfl rfl)
theorem dX2_weigh_127 : decode cX2_weigh 127 = .ok (.imul, 1) := dk_104 (dk_at dksX2_weigh_5 10 rfl rfl)
theorem dX2_weigh_128 : decode cX2_weigh 128 = .ok (.iload 4, 2) := dk_21 4 (dk_at dksX2_weigh_5 11 rfl rfl)
theorem dX2_weigh_130 : decode cX2_weigh 130 = .ok (.iadd, 1) := dk_96 (dk_at dksX2_weigh_5 13 rfl rfl)
theorem dX2_weigh_131 : decode cX2_weigh 131 = .ok (.lload 6, 2) := dk_22 6 (dk_at dksX2_weigh_5 14 rfl rfl)
theorem dX2_weigh_133 : decode cX2_weigh 133 = .ok (.l2i, 1) := dk_136 (dk_at dksX2_weigh_5 16 rfl rfl)
theorem dX2_weigh_134 : decode cX2_weigh 134 = .ok (.iastore, 1) := dk_79 (dk_at dksX2_weigh_5 17 rfl rfl)
theorem dX2_weigh_135 : decode cX2_weigh 135 = .ok (.iconst 0, 1) := dk_3 (dk_at dksX2_weigh_5 18 rfl rfl)
theorem dX2_weigh_136 : decode cX2_weigh 136 = .ok (.istore 8, 2) := dk_54 8 (dk_at dksX2_weigh_5 19 rfl rfl)
theorem dX2_weigh_138 : decode cX2_weigh 138 = .ok (.iload 8, 2) := dk_21 8 (dk_at dksX2_weigh_5 21 rfl rfl)
theorem dX2_weigh_140 : decode cX2_weigh 140 = .ok (.iload_n 3, 1) := dk_29 (dk_at dksX2_weigh_5 23 rfl rfl)
theorem dX2_weigh_141 : decode cX2_weigh 141 = .ok (.if_icmp .ge 45, 3) := dk_162 0 45 (dk_at dksX2_weigh_6 0 rfl rfl)
theorem dX2_weigh_144 : decode cX2_weigh 144 = .ok (.aload_n 1, 1) := dk_43 (dk_at dksX2_weigh_6 3 rfl rfl)
theorem dX2_weigh_145 : decode cX2_weigh 145 = .ok (.bipush 8, 2) := dk_16 8 (dk_at dksX2_weigh_6 4 rfl rfl)
theorem dX2_weigh_147 : decode cX2_weigh 147 = .ok (.aload_n 0, 1) := dk_42 (dk_at dksX2_weigh_6 6 rfl rfl)
theorem dX2_weigh_148 : decode cX2_weigh 148 = .ok (.getfield 68, 3) := dk_180 0 68 (dk_at dksX2_weigh_6 7 rfl rfl)
theorem dX2_weigh_151 : decode cX2_weigh 151 = .ok (.imul, 1) := dk_104 (dk_at dksX2_weigh_6 10 rfl rfl)
theorem dX2_weigh_152 : decode cX2_weigh 152 = .ok (.aload_n 2, 1) := dk_44 (dk_at dksX2_weigh_6 11 rfl rfl)
theorem dX2_weigh_153 : decode cX2_weigh 153 = .ok (.iload 8, 2) := dk_21 8 (dk_at dksX2_weigh_6 12 rfl rfl)
theorem dX2_weigh_155 : decode cX2_weigh 155 = .ok (.iaload, 1) := dk_46 (dk_at dksX2_weigh_6 14 rfl rfl)
theorem dX2_weigh_156 : decode cX2_weigh 156 = .ok (.iadd, 1) := dk_96 (dk_at dksX2_weigh_6 15 rfl rfl)
theorem dX2_weigh_157 : decode cX2_weigh 157 = .ok (.lload 6, 2) := dk_22 6 (dk_at dksX2_weigh_6 16 rfl rfl)
theorem dX2_weigh_159 : decode cX2_weigh 159 = .ok (.lneg, 1) := dk_117 (dk_at dksX2_weigh_6 18 rfl rfl)
theorem dX2_weigh_160 : decode cX2_weigh 160 = .ok (.aload 5, 2) := dk_25 5 (dk_at dksX2_weigh_6 19 rfl rfl)
theorem dX2_weigh_162 : decode cX2_weigh 162 = .ok (.iconst 2, 1) := dk_5 (dk_at dksX2_weigh_6 21 rfl rfl)
theorem dX2_weigh_163 : decode cX2_weigh 163 = .ok (.iload 8, 2) := dk_21 8 (dk_at dksX2_weigh_6 22 rfl rfl)
theorem dX2_weigh_165 : decode cX2_weigh 165 = .ok (.imul, 1) := dk_104 (dk_at dksX2_weigh_7 0 rfl rfl)
theorem dX2_weigh_166 : decode cX2_weigh 166 = .ok (.iconst 1, 1) := dk_4 (dk_at dksX2_weigh_7 1 rfl rfl)
theorem dX2_weigh_167 : decode cX2_weigh 167 = .ok (.iadd, 1) := dk_96 (dk_at dksX2_weigh_7 2 rfl rfl)
theorem dX2_weigh_168 : decode cX2_weigh 168 = .ok (.laload, 1) := dk_47 (dk_at dksX2_weigh_7 3 rfl rfl)
theorem dX2_weigh_169 : decode cX2_weigh 169 = .ok (.lmul, 1) := dk_105 (dk_at dksX2_weigh_7 4 rfl rfl)
theorem dX2_weigh_170 : decode cX2_weigh 170 = .ok (.aload 5, 2) := dk_25 5 (dk_at dksX2_weigh_7 5 rfl rfl)
theorem dX2_weigh_172 : decode cX2_weigh 172 = .ok (.iconst 2, 1) := dk_5 (dk_at dksX2_weigh_7 7 rfl rfl)
theorem dX2_weigh_173 : decode cX2_weigh 173 = .ok (.iload 8, 2) := dk_21 8 (dk_at dksX2_weigh_7 8 rfl rfl)
theorem dX2_weigh_175 : decode cX2_weigh 175 = .ok (.imul, 1) := dk_104 (dk_at dksX2_weigh_7 10 rfl rfl)
theorem dX2_weigh_176 : decode cX2_weigh 176 = .ok (.laload, 1) := dk_47 (dk_at dksX2_weigh_7 11 rfl rfl)
theorem dX2_weigh_177 : decode cX2_weigh 177 = .ok (.ldiv, 1) := dk_109 (dk_at dksX2_weigh_7 12 rfl rfl)
theorem dX2_weigh_178 : decode cX2_weigh 178 = .ok (.l2i, 1) := dk_136 (dk_at dksX2_weigh_7 13 rfl rfl)
theorem dX2_weigh_179 : decode cX2_weigh 179 = .ok (.iastore, 1) := dk_79 (dk_at dksX2_weigh_7 14 rfl rfl)
theorem dX2_weigh_180 : decode cX2_weigh 180 = .ok (.iinc 8 1, 3) := dk_132 8 1 (dk_at dksX2_weigh_7 15 rfl rfl)
theorem dX2_weigh_183 : decode cX2_weigh 183 = .ok (.goto (-45), 3) := dk_167 255 211 (dk_at dksX2_weigh_7 18 rfl rfl)
theorem dX2_weigh_186 : decode cX2_weigh 186 = .ok (.aload_n 0, 1) := dk_42 (dk_at dksX2_weigh_7 21 rfl rfl)
theorem dX2_weigh_187 : decode cX2_weigh 187 = .ok (.dup, 1) := dk_89 (dk_at dksX2_weigh_7 22 rfl rfl)
theorem dX2_weigh_188 : decode cX2_weigh 188 = .ok (.getfield 68, 3) := dk_180 0 68 (dk_at dksX2_weigh_8 0 rfl rfl)
theorem dX2_weigh_191 : decode cX2_weigh 191 = .ok (.iconst 1, 1) := dk_4 (dk_at dksX2_weigh_8 3 rfl rfl)
theorem dX2_weigh_192 : decode cX2_weigh 192 = .ok (.iadd, 1) := dk_96 (dk_at dksX2_weigh_8 4 rfl rfl)
theorem dX2_weigh_193 : decode cX2_weigh 193 = .ok (.putfield 68, 3) := dk_181 0 68 (dk_at dksX2_weigh_8 5 rfl rfl)
theorem dX2_weigh_196 : decode cX2_weigh 196 = .ok (.iinc 4 1, 3) := dk_132 4 1 (dk_at dksX2_weigh_8 8 rfl rfl)
theorem dX2_weigh_199 : decode cX2_weigh 199 = .ok (.goto (-179), 3) := dk_167 255 77 (dk_at dksX2_weigh_8 11 rfl rfl)
theorem dX2_weigh_202 : decode cX2_weigh 202 = .ok (.aload_n 1, 1) := dk_43 (dk_at dksX2_weigh_8 14 rfl rfl)
theorem dX2_weigh_203 : decode cX2_weigh 203 = .ok (.areturn, 1) := dk_176 (dk_at dksX2_weigh_8 15 rfl rfl)
abbrev cX2_solved : ByteArray := prog_7_method_27_code
def yX2_solved : MethodName := ⟨RX2, "solved", "(I[II)[J"⟩
def dkwX2_solved_14 : List UInt8 := [176]
abbrev dktX2_solved_14 : List UInt8 := dkwX2_solved_14 ++ []
def dkwX2_solved_13 : List UInt8 := [21, 7, 104, 4, 96, 25, 5, 21, 7, 21, 4, 104, 29, 96, 47, 80, 132, 7, 1, 167, 255, 210, 25, 6]
abbrev dktX2_solved_13 : List UInt8 := dkwX2_solved_13 ++ dktX2_solved_14
def dkwX2_solved_12 : List UInt8 := [162, 0, 46, 25, 6, 5, 21, 7, 104, 25, 5, 21, 7, 21, 4, 104, 21, 7, 96, 47, 80, 25, 6, 5]
abbrev dktX2_solved_12 : List UInt8 := dkwX2_solved_12 ++ dktX2_solved_13
def dkwX2_solved_11 : List UInt8 := [104, 29, 96, 47, 9, 148, 153, 0, 5, 1, 176, 132, 7, 1, 167, 255, 227, 3, 54, 7, 21, 7, 29]
abbrev dktX2_solved_11 : List UInt8 := dkwX2_solved_11 ++ dktX2_solved_12
def dkwX2_solved_10 : List UInt8 := [132, 7, 1, 167, 255, 121, 29, 54, 7, 21, 7, 42, 180, 0, 32, 162, 0, 26, 25, 5, 21, 7, 21, 4]
abbrev dktX2_solved_10 : List UInt8 := dkwX2_solved_10 ++ dktX2_solved_11
def dkwX2_solved_9 : List UInt8 := [21, 7, 159, 0, 14, 25, 5, 21, 4, 21, 9, 21, 7, 184, 0, 113, 132, 9, 1, 167, 255, 226]
abbrev dktX2_solved_9 : List UInt8 := dkwX2_solved_9 ++ dktX2_solved_10
def dkwX2_solved_8 : List UInt8 := [96, 22, 10, 80, 132, 9, 1, 167, 255, 198, 3, 54, 9, 21, 9, 42, 180, 0, 32, 162, 0, 27, 21, 9]
abbrev dktX2_solved_8 : List UInt8 := dkwX2_solved_8 ++ dktX2_solved_9
def dkwX2_solved_7 : List UInt8 := [21, 9, 96, 25, 5, 21, 7, 21, 4, 104, 21, 9, 96, 47, 80, 25, 5, 21, 7, 21, 4, 104, 21, 9]
abbrev dktX2_solved_7 : List UInt8 := dkwX2_solved_7 ++ dktX2_solved_8
def dkwX2_solved_6 : List UInt8 := [162, 0, 57, 25, 5, 21, 8, 21, 4, 104, 21, 9, 96, 47, 55, 10, 25, 5, 21, 8, 21, 4, 104]
abbrev dktX2_solved_6 : List UInt8 := dkwX2_solved_6 ++ dktX2_solved_7
def dkwX2_solved_5 : List UInt8 := [21, 7, 96, 47, 9, 148, 154, 0, 9, 132, 8, 1, 167, 255, 237, 3, 54, 9, 21, 9, 21, 4]
abbrev dktX2_solved_5 : List UInt8 := dkwX2_solved_5 ++ dktX2_solved_6
def dkwX2_solved_4 : List UInt8 := [188, 11, 58, 6, 3, 54, 7, 21, 7, 29, 162, 0, 135, 21, 7, 54, 8, 25, 5, 21, 8, 21, 4, 104]
abbrev dktX2_solved_4 : List UInt8 := dkwX2_solved_4 ++ dktX2_solved_5
def dkwX2_solved_3 : List UInt8 := [21, 4, 104, 29, 96, 42, 21, 6, 27, 182, 0, 46, 133, 80, 132, 6, 1, 167, 255, 189, 5, 29, 104]
abbrev dktX2_solved_3 : List UInt8 := dkwX2_solved_3 ++ dktX2_solved_4
def dkwX2_solved_2 : List UInt8 := [96, 42, 21, 6, 44, 21, 7, 46, 182, 0, 46, 133, 80, 132, 7, 1, 167, 255, 225, 25, 5, 21, 6]
abbrev dktX2_solved_2 : List UInt8 := dkwX2_solved_2 ++ dktX2_solved_3
def dkwX2_solved_1 : List UInt8 := [180, 0, 32, 162, 0, 64, 3, 54, 7, 21, 7, 29, 162, 0, 31, 25, 5, 21, 6, 21, 4, 104, 21, 7]
abbrev dktX2_solved_1 : List UInt8 := dkwX2_solved_1 ++ dktX2_solved_2
def dkwX2_solved_0 : List UInt8 := [29, 4, 96, 54, 4, 42, 180, 0, 32, 21, 4, 104, 188, 11, 58, 5, 3, 54, 6, 21, 6, 42]
abbrev dktX2_solved_0 : List UInt8 := dkwX2_solved_0 ++ dktX2_solved_1
theorem dksX2_solved_0 : cX2_solved.data.toList.drop 0 = dktX2_solved_0 := by decide +kernel
theorem dksX2_solved_1 : cX2_solved.data.toList.drop 22 = dktX2_solved_1 := dk_seg dksX2_solved_0 22 rfl rfl
theorem dksX2_solved_2 : cX2_solved.data.toList.drop 46 = dktX2_solved_2 := dk_seg dksX2_solved_1 24 rfl rfl
theorem dksX2_solved_3 : cX2_solved.data.toList.drop 69 = dktX2_solved_3 := dk_seg dksX2_solved_2 23 rfl rfl
theorem dksX2_solved_4 : cX2_solved.data.toList.drop 92 = dktX2_solved_4 := dk_seg dksX2_solved_3 23 rfl rfl
theorem dksX2_solved_5 : cX2_solved.data.toList.drop 116 = dktX2_solved_5 := dk_seg dksX2_solved_4 24 rfl rfl
theorem dksX2_solved_6 : cX2_solved.data.toList.drop 138 = dktX2_solved_6 := dk_seg dksX2_solved_5 22 rfl rfl
theorem dksX2_solved_7 : cX2_solved.data.toList.drop 161 = dktX2_solved_7 := dk_seg dksX2_solved_6 23 rfl rfl
theorem dksX2_solved_8 : cX2_solved.data.toList.drop 185 = dktX2_solved_8 := dk_seg dksX2_solved_7 24 rfl rfl
theorem dksX2_solved_9 : cX2_solved.data.toList.drop 209 = dktX2_solved_9 := dk_seg dksX2_solved_8 24 rfl rfl
theorem dksX2_solved_10 : cX2_solved.data.toList.drop 231 = dktX2_solved_10 := dk_seg dksX2_solved_9 22 rfl rfl
theorem dksX2_solved_11 : cX2_solved.data.toList.drop 255 = dktX2_solved_11 := dk_seg dksX2_solved_10 24 rfl rfl
theorem dksX2_solved_12 : cX2_solved.data.toList.drop 278 = dktX2_solved_12 := dk_seg dksX2_solved_11 23 rfl rfl
theorem dksX2_solved_13 : cX2_solved.data.toList.drop 302 = dktX2_solved_13 := dk_seg dksX2_solved_12 24 rfl rfl
theorem dksX2_solved_14 : cX2_solved.data.toList.drop 326 = dktX2_solved_14 := dk_seg dksX2_solved_13 24 rfl rfl
theorem dX2_solved_0 : decode cX2_solved 0 = .ok (.iload_n 3, 1) := dk_29 (dk_at dksX2_solved_0 0 rfl rfl)
theorem dX2_solved_1 : decode cX2_solved 1 = .ok (.iconst 1, 1) := dk_4 (dk_at dksX2_solved_0 1 rfl rfl)
theorem dX2_solved_2 : decode cX2_solved 2 = .ok (.iadd, 1) := dk_96 (dk_at dksX2_solved_0 2 rfl rfl)
theorem dX2_solved_3 : decode cX2_solved 3 = .ok (.istore 4, 2) := dk_54 4 (dk_at dksX2_solved_0 3 rfl rfl)
theorem dX2_solved_5 : decode cX2_solved 5 = .ok (.aload_n 0, 1) := dk_42 (dk_at dksX2_solved_0 5 rfl rfl)
theorem dX2_solved_6 : decode cX2_solved 6 = .ok (.getfield 32, 3) := dk_180 0 32 (dk_at dksX2_solved_0 6 rfl rfl)
theorem dX2_solved_9 : decode cX2_solved 9 = .ok (.iload 4, 2) := dk_21 4 (dk_at dksX2_solved_0 9 rfl rfl)
theorem dX2_solved_11 : decode cX2_solved 11 = .ok (.imul, 1) := dk_104 (dk_at dksX2_solved_0 11 rfl rfl)
theorem dX2_solved_12 : decode cX2_solved 12 = .ok (.newarray .long, 2) := dk_188_11 (dk_at dksX2_solved_0 12 rfl rfl)
theorem dX2_solved_14 : decode cX2_solved 14 = .ok (.astore 5, 2) := dk_58 5 (dk_at dksX2_solved_0 14 rfl rfl)
theorem dX2_solved_16 : decode cX2_solved 16 = .ok (.iconst 0, 1) := dk_3 (dk_at dksX2_solved_0 16 rfl rfl)
theorem dX2_solved_17 : decode cX2_solved 17 = .ok (.istore 6, 2) := dk_54 6 (dk_at dksX2_solved_0 17 rfl rfl)
theorem dX2_solved_19 : decode cX2_solved 19 = .ok (.iload 6, 2) := dk_21 6 (dk_at dksX2_solved_0 19 rfl rfl)
theorem dX2_solved_21 : decode cX2_solved 21 = .ok (.aload_n 0, 1) := dk_42 (dk_at dksX2_solved_0 21 rfl rfl)
theorem dX2_solved_22 : decode cX2_solved 22 = .ok (.getfield 32, 3) := dk_180 0 32 (dk_at dksX2_solved_1 0 rfl rfl)
theorem dX2_solved_25 : decode cX2_solved 25 = .ok (.if_icmp .ge 64, 3) := dk_162 0 64 (dk_at dksX2_solved_1 3 rfl rfl)
theorem dX2_solved_28 : decode cX2_solved 28 = .ok (.iconst 0, 1) := dk_3 (dk_at dksX2_solved_1 6 rfl rfl)
theorem dX2_solved_29 : decode cX2_solved 29 = .ok (.istore 7, 2) := dk_54 7 (dk_at dksX2_solved_1 7 rfl rfl)
theorem dX2_solved_31 : decode cX2_solved 31 = .ok (.iload 7, 2) := dk_21 7 (dk_at dksX2_solved_1 9 rfl rfl)
theorem dX2_solved_33 : decode cX2_solved 33 = .ok (.iload_n 3, 1) := dk_29 (dk_at dksX2_solved_1 11 rfl rfl)
theorem dX2_solved_34 : decode cX2_solved 34 = .ok (.if_icmp .ge 31, 3) := dk_162 0 31 (dk_at dksX2_solved_1 12 rfl rfl)
theorem dX2_solved_37 : decode cX2_solved 37 = .ok (.aload 5, 2) := dk_25 5 (dk_at dksX2_solved_1 15 rfl rfl)
theorem dX2_solved_39 : decode cX2_solved 39 = .ok (.iload 6, 2) := dk_21 6 (dk_at dksX2_solved_1 17 rfl rfl)
theorem dX2_solved_41 : decode cX2_solved 41 = .ok (.iload 4, 2) := dk_21 4 (dk_at dksX2_solved_1 19 rfl rfl)
theorem dX2_solved_43 : decode cX2_solved 43 = .ok (.imul, 1) := dk_104 (dk_at dksX2_solved_1 21 rfl rfl)
theorem dX2_solved_44 : decode cX2_solved 44 = .ok (.iload 7, 2) := dk_21 7 (dk_at dksX2_solved_1 22 rfl rfl)
theorem dX2_solved_46 : decode cX2_solved 46 = .ok (.iadd, 1) := dk_96 (dk_at dksX2_solved_2 0 rfl rfl)
theorem dX2_solved_47 : decode cX2_solved 47 = .ok (.aload_n 0, 1) := dk_42 (dk_at dksX2_solved_2 1 rfl rfl)
theorem dX2_solved_48 : decode cX2_solved 48 = .ok (.iload 6, 2) := dk_21 6 (dk_at dksX2_solved_2 2 rfl rfl)
theorem dX2_solved_50 : decode cX2_solved 50 = .ok (.aload_n 2, 1) := dk_44 (dk_at dksX2_solved_2 4 rfl rfl)
theorem dX2_solved_51 : decode cX2_solved 51 = .ok (.iload 7, 2) := dk_21 7 (dk_at dksX2_solved_2 5 rfl rfl)
theorem dX2_solved_53 : decode cX2_solved 53 = .ok (.iaload, 1) := dk_46 (dk_at dksX2_solved_2 7 rfl rfl)
theorem dX2_solved_54 : decode cX2_solved 54 = .ok (.invokevirtual 46, 3) := dk_182 0 46 (dk_at dksX2_solved_2 8 rfl rfl)
theorem dX2_solved_57 : decode cX2_solved 57 = .ok (.i2l, 1) := dk_133 (dk_at dksX2_solved_2 11 rfl rfl)
theorem dX2_solved_58 : decode cX2_solved 58 = .ok (.lastore, 1) := dk_80 (dk_at dksX2_solved_2 12 rfl rfl)
theorem dX2_solved_59 : decode cX2_solved 59 = .ok (.iinc 7 1, 3) := dk_132 7 1 (dk_at dksX2_solved_2 13 rfl rfl)
theorem dX2_solved_62 : decode cX2_solved 62 = .ok (.goto (-31), 3) := dk_167 255 225 (dk_at dksX2_solved_2 16 rfl rfl)
theorem dX2_solved_65 : decode cX2_solved 65 = .ok (.aload 5, 2) := dk_25 5 (dk_at dksX2_solved_2 19 rfl rfl)
theorem dX2_solved_67 : decode cX2_solved 67 = .ok (.iload 6, 2) := dk_21 6 (dk_at dksX2_solved_2 21 rfl rfl)
theorem dX2_solved_69 : decode cX2_solved 69 = .ok (.iload 4, 2) := dk_21 4 (dk_at dksX2_solved_3 0 rfl rfl)
theorem dX2_solved_71 : decode cX2_solved 71 = .ok (.imul, 1) := dk_104 (dk_at dksX2_solved_3 2 rfl rfl)
theorem dX2_solved_72 : decode cX2_solved 72 = .ok (.iload_n 3, 1) := dk_29 (dk_at dksX2_solved_3 3 rfl rfl)
theorem dX2_solved_73 : decode cX2_solved 73 = .ok (.iadd, 1) := dk_96 (dk_at dksX2_solved_3 4 rfl rfl)
theorem dX2_solved_74 : decode cX2_solved 74 = .ok (.aload_n 0, 1) := dk_42 (dk_at dksX2_solved_3 5 rfl rfl)
theorem dX2_solved_75 : decode cX2_solved 75 = .ok (.iload 6, 2) := dk_21 6 (dk_at dksX2_solved_3 6 rfl rfl)
theorem dX2_solved_77 : decode cX2_solved 77 = .ok (.iload_n 1, 1) := dk_27 (dk_at dksX2_solved_3 8 rfl rfl)
theorem dX2_solved_78 : decode cX2_solved 78 = .ok (.invokevirtual 46, 3) := dk_182 0 46 (dk_at dksX2_solved_3 9 rfl rfl)
theorem dX2_solved_81 : decode cX2_solved 81 = .ok (.i2l, 1) := dk_133 (dk_at dksX2_solved_3 12 rfl rfl)
theorem dX2_solved_82 : decode cX2_solved 82 = .ok (.lastore, 1) := dk_80 (dk_at dksX2_solved_3 13 rfl rfl)
theorem dX2_solved_83 : decode cX2_solved 83 = .ok (.iinc 6 1, 3) := dk_132 6 1 (dk_at dksX2_solved_3 14 rfl rfl)
theorem dX2_solved_86 : decode cX2_solved 86 = .ok (.goto (-67), 3) := dk_167 255 189 (dk_at dksX2_solved_3 17 rfl rfl)
theorem dX2_solved_89 : decode cX2_solved 89 = .ok (.iconst 2, 1) := dk_5 (dk_at dksX2_solved_3 20 rfl rfl)
theorem dX2_solved_90 : decode cX2_solved 90 = .ok (.iload_n 3, 1) := dk_29 (dk_at dksX2_solved_3 21 rfl rfl)
theorem dX2_solved_91 : decode cX2_solved 91 = .ok (.imul, 1) := dk_104 (dk_at dksX2_solved_3 22 rfl rfl)
theorem dX2_solved_92 : decode cX2_solved 92 = .ok (.newarray .long, 2) := dk_188_11 (dk_at dksX2_solved_4 0 rfl rfl)
theorem dX2_solved_94 : decode cX2_solved 94 = .ok (.astore 6, 2) := dk_58 6 (dk_at dksX2_solved_4 2 rfl rfl)
theorem dX2_solved_96 : decode cX2_solved 96 = .ok (.iconst 0, 1) := dk_3 (dk_at dksX2_solved_4 4 rfl rfl)
theorem dX2_solved_97 : decode cX2_solved 97 = .ok (.istore 7, 2) := dk_54 7 (dk_at dksX2_solved_4 5 rfl rfl)
theorem dX2_solved_99 : decode cX2_solved 99 = .ok (.iload 7, 2) := dk_21 7 (dk_at dksX2_solved_4 7 rfl rfl)
theorem dX2_solved_101 : decode cX2_solved 101 = .ok (.iload_n 3, 1) := dk_29 (dk_at dksX2_solved_4 9 rfl rfl)
theorem dX2_solved_102 : decode cX2_solved 102 = .ok (.if_icmp .ge 135, 3) := dk_162 0 135 (dk_at dksX2_solved_4 10 rfl rfl)
theorem dX2_solved_105 : decode cX2_solved 105 = .ok (.iload 7, 2) := dk_21 7 (dk_at dksX2_solved_4 13 rfl rfl)
theorem dX2_solved_107 : decode cX2_solved 107 = .ok (.istore 8, 2) := dk_54 8 (dk_at dksX2_solved_4 15 rfl rfl)
theorem dX2_solved_109 : decode cX2_solved 109 = .ok (.aload 5, 2) := dk_25 5 (dk_at dksX2_solved_4 17 rfl rfl)
theorem dX2_solved_111 : decode cX2_solved 111 = .ok (.iload 8, 2) := dk_21 8 (dk_at dksX2_solved_4 19 rfl rfl)
theorem dX2_solved_113 : decode cX2_solved 113 = .ok (.iload 4, 2) := dk_21 4 (dk_at dksX2_solved_4 21 rfl rfl)
theorem dX2_solved_115 : decode cX2_solved 115 = .ok (.imul, 1) := dk_104 (dk_at dksX2_solved_4 23 rfl rfl)
theorem dX2_solved_116 : decode cX2_solved 116 = .ok (.iload 7, 2) := dk_21 7 (dk_at dksX2_solved_5 0 rfl rfl)
theorem dX2_solved_118 : decode cX2_solved 118 = .ok (.iadd, 1) := dk_96 (dk_at dksX2_solved_5 2 rfl rfl)
theorem dX2_solved_119 : decode cX2_solved 119 = .ok (.laload, 1) := dk_47 (dk_at dksX2_solved_5 3 rfl rfl)
theorem dX2_solved_120 : decode cX2_solved 120 = .ok (.lconst 0, 1) := dk_9 (dk_at dksX2_solved_5 4 rfl rfl)
theorem dX2_solved_121 : decode cX2_solved 121 = .ok (.lcmp, 1) := dk_148 (dk_at dksX2_solved_5 5 rfl rfl)
theorem dX2_solved_122 : decode cX2_solved 122 = .ok (.ifCond .ne 9, 3) := dk_154 0 9 (dk_at dksX2_solved_5 6 rfl rfl)
theorem dX2_solved_125 : decode cX2_solved 125 = .ok (.iinc 8 1, 3) := dk_132 8 1 (dk_at dksX2_solved_5 9 rfl rfl)
theorem dX2_solved_128 : decode cX2_solved 128 = .ok (.goto (-19), 3) := dk_167 255 237 (dk_at dksX2_solved_5 12 rfl rfl)
theorem dX2_solved_131 : decode cX2_solved 131 = .ok (.iconst 0, 1) := dk_3 (dk_at dksX2_solved_5 15 rfl rfl)
theorem dX2_solved_132 : decode cX2_solved 132 = .ok (.istore 9, 2) := dk_54 9 (dk_at dksX2_solved_5 16 rfl rfl)
theorem dX2_solved_134 : decode cX2_solved 134 = .ok (.iload 9, 2) := dk_21 9 (dk_at dksX2_solved_5 18 rfl rfl)
theorem dX2_solved_136 : decode cX2_solved 136 = .ok (.iload 4, 2) := dk_21 4 (dk_at dksX2_solved_5 20 rfl rfl)
theorem dX2_solved_138 : decode cX2_solved 138 = .ok (.if_icmp .ge 57, 3) := dk_162 0 57 (dk_at dksX2_solved_6 0 rfl rfl)
theorem dX2_solved_141 : decode cX2_solved 141 = .ok (.aload 5, 2) := dk_25 5 (dk_at dksX2_solved_6 3 rfl rfl)
theorem dX2_solved_143 : decode cX2_solved 143 = .ok (.iload 8, 2) := dk_21 8 (dk_at dksX2_solved_6 5 rfl rfl)
theorem dX2_solved_145 : decode cX2_solved 145 = .ok (.iload 4, 2) := dk_21 4 (dk_at dksX2_solved_6 7 rfl rfl)
theorem dX2_solved_147 : decode cX2_solved 147 = .ok (.imul, 1) := dk_104 (dk_at dksX2_solved_6 9 rfl rfl)
theorem dX2_solved_148 : decode cX2_solved 148 = .ok (.iload 9, 2) := dk_21 9 (dk_at dksX2_solved_6 10 rfl rfl)
theorem dX2_solved_150 : decode cX2_solved 150 = .ok (.iadd, 1) := dk_96 (dk_at dksX2_solved_6 12 rfl rfl)
theorem dX2_solved_151 : decode cX2_solved 151 = .ok (.laload, 1) := dk_47 (dk_at dksX2_solved_6 13 rfl rfl)
theorem dX2_solved_152 : decode cX2_solved 152 = .ok (.lstore 10, 2) := dk_55 10 (dk_at dksX2_solved_6 14 rfl rfl)
theorem dX2_solved_154 : decode cX2_solved 154 = .ok (.aload 5, 2) := dk_25 5 (dk_at dksX2_solved_6 16 rfl rfl)
theorem dX2_solved_156 : decode cX2_solved 156 = .ok (.iload 8, 2) := dk_21 8 (dk_at dksX2_solved_6 18 rfl rfl)
theorem dX2_solved_158 : decode cX2_solved 158 = .ok (.iload 4, 2) := dk_21 4 (dk_at dksX2_solved_6 20 rfl rfl)
theorem dX2_solved_160 : decode cX2_solved 160 = .ok (.imul, 1) := dk_104 (dk_at dksX2_solved_6 22 rfl rfl)
theorem dX2_solved_161 : decode cX2_solved 161 = .ok (.iload 9, 2) := dk_21 9 (dk_at dksX2_solved_7 0 rfl rfl)
theorem dX2_solved_163 : decode cX2_solved 163 = .ok (.iadd, 1) := dk_96 (dk_at dksX2_solved_7 2 rfl rfl)
theorem dX2_solved_164 : decode cX2_solved 164 = .ok (.aload 5, 2) := dk_25 5 (dk_at dksX2_solved_7 3 rfl rfl)
theorem dX2_solved_166 : decode cX2_solved 166 = .ok (.iload 7, 2) := dk_21 7 (dk_at dksX2_solved_7 5 rfl rfl)
theorem dX2_solved_168 : decode cX2_solved 168 = .ok (.iload 4, 2) := dk_21 4 (dk_at dksX2_solved_7 7 rfl rfl)
theorem dX2_solved_170 : decode cX2_solved 170 = .ok (.imul, 1) := dk_104 (dk_at dksX2_solved_7 9 rfl rfl)
theorem dX2_solved_171 : decode cX2_solved 171 = .ok (.iload 9, 2) := dk_21 9 (dk_at dksX2_solved_7 10 rfl rfl)
theorem dX2_solved_173 : decode cX2_solved 173 = .ok (.iadd, 1) := dk_96 (dk_at dksX2_solved_7 12 rfl rfl)
theorem dX2_solved_174 : decode cX2_solved 174 = .ok (.laload, 1) := dk_47 (dk_at dksX2_solved_7 13 rfl rfl)
theorem dX2_solved_175 : decode cX2_solved 175 = .ok (.lastore, 1) := dk_80 (dk_at dksX2_solved_7 14 rfl rfl)
theorem dX2_solved_176 : decode cX2_solved 176 = .ok (.aload 5, 2) := dk_25 5 (dk_at dksX2_solved_7 15 rfl rfl)
theorem dX2_solved_178 : decode cX2_solved 178 = .ok (.iload 7, 2) := dk_21 7 (dk_at dksX2_solved_7 17 rfl rfl)
theorem dX2_solved_180 : decode cX2_solved 180 = .ok (.iload 4, 2) := dk_21 4 (dk_at dksX2_solved_7 19 rfl rfl)
theorem dX2_solved_182 : decode cX2_solved 182 = .ok (.imul, 1) := dk_104 (dk_at dksX2_solved_7 21 rfl rfl)
theorem dX2_solved_183 : decode cX2_solved 183 = .ok (.iload 9, 2) := dk_21 9 (dk_at dksX2_solved_7 22 rfl rfl)
theorem dX2_solved_185 : decode cX2_solved 185 = .ok (.iadd, 1) := dk_96 (dk_at dksX2_solved_8 0 rfl rfl)
theorem dX2_solved_186 : decode cX2_solved 186 = .ok (.lload 10, 2) := dk_22 10 (dk_at dksX2_solved_8 1 rfl rfl)
theorem dX2_solved_188 : decode cX2_solved 188 = .ok (.lastore, 1) := dk_80 (dk_at dksX2_solved_8 3 rfl rfl)
theorem dX2_solved_189 : decode cX2_solved 189 = .ok (.iinc 9 1, 3) := dk_132 9 1 (dk_at dksX2_solved_8 4 rfl rfl)
theorem dX2_solved_192 : decode cX2_solved 192 = .ok (.goto (-58), 3) := dk_167 255 198 (dk_at dksX2_solved_8 7 rfl rfl)
theorem dX2_solved_195 : decode cX2_solved 195 = .ok (.iconst 0, 1) := dk_3 (dk_at dksX2_solved_8 10 rfl rfl)
theorem dX2_solved_196 : decode cX2_solved 196 = .ok (.istore 9, 2) := dk_54 9 (dk_at dksX2_solved_8 11 rfl rfl)
theorem dX2_solved_198 : decode cX2_solved 198 = .ok (.iload 9, 2) := dk_21 9 (dk_at dksX2_solved_8 13 rfl rfl)
theorem dX2_solved_200 : decode cX2_solved 200 = .ok (.aload_n 0, 1) := dk_42 (dk_at dksX2_solved_8 15 rfl rfl)
theorem dX2_solved_201 : decode cX2_solved 201 = .ok (.getfield 32, 3) := dk_180 0 32 (dk_at dksX2_solved_8 16 rfl rfl)
theorem dX2_solved_204 : decode cX2_solved 204 = .ok (.if_icmp .ge 27, 3) := dk_162 0 27 (dk_at dksX2_solved_8 19 rfl rfl)
theorem dX2_solved_207 : decode cX2_solved 207 = .ok (.iload 9, 2) := dk_21 9 (dk_at dksX2_solved_8 22 rfl rfl)
theorem dX2_solved_209 : decode cX2_solved 209 = .ok (.iload 7, 2) := dk_21 7 (dk_at dksX2_solved_9 0 rfl rfl)
theorem dX2_solved_211 : decode cX2_solved 211 = .ok (.if_icmp .eq 14, 3) := dk_159 0 14 (dk_at dksX2_solved_9 2 rfl rfl)
theorem dX2_solved_214 : decode cX2_solved 214 = .ok (.aload 5, 2) := dk_25 5 (dk_at dksX2_solved_9 5 rfl rfl)
theorem dX2_solved_216 : decode cX2_solved 216 = .ok (.iload 4, 2) := dk_21 4 (dk_at dksX2_solved_9 7 rfl rfl)
theorem dX2_solved_218 : decode cX2_solved 218 = .ok (.iload 9, 2) := dk_21 9 (dk_at dksX2_solved_9 9 rfl rfl)
theorem dX2_solved_220 : decode cX2_solved 220 = .ok (.iload 7, 2) := dk_21 7 (dk_at dksX2_solved_9 11 rfl rfl)
theorem dX2_solved_222 : decode cX2_solved 222 = .ok (.invokestatic 113, 3) := dk_184 0 113 (dk_at dksX2_solved_9 13 rfl rfl)
theorem dX2_solved_225 : decode cX2_solved 225 = .ok (.iinc 9 1, 3) := dk_132 9 1 (dk_at dksX2_solved_9 16 rfl rfl)
theorem dX2_solved_228 : decode cX2_solved 228 = .ok (.goto (-30), 3) := dk_167 255 226 (dk_at dksX2_solved_9 19 rfl rfl)
theorem dX2_solved_231 : decode cX2_solved 231 = .ok (.iinc 7 1, 3) := dk_132 7 1 (dk_at dksX2_solved_10 0 rfl rfl)
theorem dX2_solved_234 : decode cX2_solved 234 = .ok (.goto (-135), 3) := dk_167 255 121 (dk_at dksX2_solved_10 3 rfl rfl)
theorem dX2_solved_237 : decode cX2_solved 237 = .ok (.iload_n 3, 1) := dk_29 (dk_at dksX2_solved_10 6 rfl rfl)
theorem dX2_solved_238 : decode cX2_solved 238 = .ok (.istore 7, 2) := dk_54 7 (dk_at dksX2_solved_10 7 rfl rfl)
theorem dX2_solved_240 : decode cX2_solved 240 = .ok (.iload 7, 2) := dk_21 7 (dk_at dksX2_solved_10 9 rfl rfl)
theorem dX2_solved_242 : decode cX2_solved 242 = .ok (.aload_n 0, 1) := dk_42 (dk_at dksX2_solved_10 11 rfl rfl)
theorem dX2_solved_243 : decode cX2_solved 243 = .ok (.getfield 32, 3) := dk_180 0 32 (dk_at dksX2_solved_10 12 rfl rfl)
theorem dX2_solved_246 : decode cX2_solved 246 = .ok (.if_icmp .ge 26, 3) := dk_162 0 26 (dk_at dksX2_solved_10 15 rfl rfl)
theorem dX2_solved_249 : decode cX2_solved 249 = .ok (.aload 5, 2) := dk_25 5 (dk_at dksX2_solved_10 18 rfl rfl)
theorem dX2_solved_251 : decode cX2_solved 251 = .ok (.iload 7, 2) := dk_21 7 (dk_at dksX2_solved_10 20 rfl rfl)
theorem dX2_solved_253 : decode cX2_solved 253 = .ok (.iload 4, 2) := dk_21 4 (dk_at dksX2_solved_10 22 rfl rfl)
theorem dX2_solved_255 : decode cX2_solved 255 = .ok (.imul, 1) := dk_104 (dk_at dksX2_solved_11 0 rfl rfl)
theorem dX2_solved_256 : decode cX2_solved 256 = .ok (.iload_n 3, 1) := dk_29 (dk_at dksX2_solved_11 1 rfl rfl)
theorem dX2_solved_257 : decode cX2_solved 257 = .ok (.iadd, 1) := dk_96 (dk_at dksX2_solved_11 2 rfl rfl)
theorem dX2_solved_258 : decode cX2_solved 258 = .ok (.laload, 1) := dk_47 (dk_at dksX2_solved_11 3 rfl rfl)
theorem dX2_solved_259 : decode cX2_solved 259 = .ok (.lconst 0, 1) := dk_9 (dk_at dksX2_solved_11 4 rfl rfl)
theorem dX2_solved_260 : decode cX2_solved 260 = .ok (.lcmp, 1) := dk_148 (dk_at dksX2_solved_11 5 rfl rfl)
theorem dX2_solved_261 : decode cX2_solved 261 = .ok (.ifCond .eq 5, 3) := dk_153 0 5 (dk_at dksX2_solved_11 6 rfl rfl)
theorem dX2_solved_264 : decode cX2_solved 264 = .ok (.aconst_null, 1) := dk_1 (dk_at dksX2_solved_11 9 rfl rfl)
theorem dX2_solved_265 : decode cX2_solved 265 = .ok (.areturn, 1) := dk_176 (dk_at dksX2_solved_11 10 rfl rfl)
theorem dX2_solved_266 : decode cX2_solved 266 = .ok (.iinc 7 1, 3) := dk_132 7 1 (dk_at dksX2_solved_11 11 rfl rfl)
theorem dX2_solved_269 : decode cX2_solved 269 = .ok (.goto (-29), 3) := dk_167 255 227 (dk_at dksX2_solved_11 14 rfl rfl)
theorem dX2_solved_272 : decode cX2_solved 272 = .ok (.iconst 0, 1) := dk_3 (dk_at dksX2_solved_11 17 rfl rfl)
theorem dX2_solved_273 : decode cX2_solved 273 = .ok (.istore 7, 2) := dk_54 7 (dk_at dksX2_solved_11 18 rfl rfl)
theorem dX2_solved_275 : decode cX2_solved 275 = .ok (.iload 7, 2) := dk_21 7 (dk_at dksX2_solved_11 20 rfl rfl)
theorem dX2_solved_277 : decode cX2_solved 277 = .ok (.iload_n 3, 1) := dk_29 (dk_at dksX2_solved_11 22 rfl rfl)
theorem dX2_solved_278 : decode cX2_solved 278 = .ok (.if_icmp .ge 46, 3) := dk_162 0 46 (dk_at dksX2_solved_12 0 rfl rfl)
theorem dX2_solved_281 : decode cX2_solved 281 = .ok (.aload 6, 2) := dk_25 6 (dk_at dksX2_solved_12 3 rfl rfl)
theorem dX2_solved_283 : decode cX2_solved 283 = .ok (.iconst 2, 1) := dk_5 (dk_at dksX2_solved_12 5 rfl rfl)
theorem dX2_solved_284 : decode cX2_solved 284 = .ok (.iload 7, 2) := dk_21 7 (dk_at dksX2_solved_12 6 rfl rfl)
theorem dX2_solved_286 : decode cX2_solved 286 = .ok (.imul, 1) := dk_104 (dk_at dksX2_solved_12 8 rfl rfl)
theorem dX2_solved_287 : decode cX2_solved 287 = .ok (.aload 5, 2) := dk_25 5 (dk_at dksX2_solved_12 9 rfl rfl)
theorem dX2_solved_289 : decode cX2_solved 289 = .ok (.iload 7, 2) := dk_21 7 (dk_at dksX2_solved_12 11 rfl rfl)
theorem dX2_solved_291 : decode cX2_solved 291 = .ok (.iload 4, 2) := dk_21 4 (dk_at dksX2_solved_12 13 rfl rfl)
theorem dX2_solved_293 : decode cX2_solved 293 = .ok (.imul, 1) := dk_104 (dk_at dksX2_solved_12 15 rfl rfl)
theorem dX2_solved_294 : decode cX2_solved 294 = .ok (.iload 7, 2) := dk_21 7 (dk_at dksX2_solved_12 16 rfl rfl)
theorem dX2_solved_296 : decode cX2_solved 296 = .ok (.iadd, 1) := dk_96 (dk_at dksX2_solved_12 18 rfl rfl)
theorem dX2_solved_297 : decode cX2_solved 297 = .ok (.laload, 1) := dk_47 (dk_at dksX2_solved_12 19 rfl rfl)
theorem dX2_solved_298 : decode cX2_solved 298 = .ok (.lastore, 1) := dk_80 (dk_at dksX2_solved_12 20 rfl rfl)
theorem dX2_solved_299 : decode cX2_solved 299 = .ok (.aload 6, 2) := dk_25 6 (dk_at dksX2_solved_12 21 rfl rfl)
theorem dX2_solved_301 : decode cX2_solved 301 = .ok (.iconst 2, 1) := dk_5 (dk_at dksX2_solved_12 23 rfl rfl)
theorem dX2_solved_302 : decode cX2_solved 302 = .ok (.iload 7, 2) := dk_21 7 (dk_at dksX2_solved_13 0 rfl rfl)
theorem dX2_solved_304 : decode cX2_solved 304 = .ok (.imul, 1) := dk_104 (dk_at dksX2_solved_13 2 rfl rfl)
theorem dX2_solved_305 : decode cX2_solved 305 = .ok (.iconst 1, 1) := dk_4 (dk_at dksX2_solved_13 3 rfl rfl)
theorem dX2_solved_306 : decode cX2_solved 306 = .ok (.iadd, 1) := dk_96 (dk_at dksX2_solved_13 4 rfl rfl)
theorem dX2_solved_307 : decode cX2_solved 307 = .ok (.aload 5, 2) := dk_25 5 (dk_at dksX2_solved_13 5 rfl rfl)
theorem dX2_solved_309 : decode cX2_solved 309 = .ok (.iload 7, 2) := dk_21 7 (dk_at dksX2_solved_13 7 rfl rfl)
theorem dX2_solved_311 : decode cX2_solved 311 = .ok (.iload 4, 2) := dk_21 4 (dk_at dksX2_solved_13 9 rfl rfl)
theorem dX2_solved_313 : decode cX2_solved 313 = .ok (.imul, 1) := dk_104 (dk_at dksX2_solved_13 11 rfl rfl)
theorem dX2_solved_314 : decode cX2_solved 314 = .ok (.iload_n 3, 1) := dk_29 (dk_at dksX2_solved_13 12 rfl rfl)
theorem dX2_solved_315 : decode cX2_solved 315 = .ok (.iadd, 1) := dk_96 (dk_at dksX2_solved_13 13 rfl rfl)
theorem dX2_solved_316 : decode cX2_solved 316 = .ok (.laload, 1) := dk_47 (dk_at dksX2_solved_13 14 rfl rfl)
theorem dX2_solved_317 : decode cX2_solved 317 = .ok (.lastore, 1) := dk_80 (dk_at dksX2_solved_13 15 rfl rfl)
theorem dX2_solved_318 : decode cX2_solved 318 = .ok (.iinc 7 1, 3) := dk_132 7 1 (dk_at dksX2_solved_13 16 rfl rfl)
theorem dX2_solved_321 : decode cX2_solved 321 = .ok (.goto (-46), 3) := dk_167 255 210 (dk_at dksX2_solved_13 19 rfl rfl)
theorem dX2_solved_324 : decode cX2_solved 324 = .ok (.aload 6, 2) := dk_25 6 (dk_at dksX2_solved_13 22 rfl rfl)
theorem dX2_solved_326 : decode cX2_solved 326 = .ok (.areturn, 1) := dk_176 (dk_at dksX2_solved_14 0 rfl rfl)
abbrev cX2_takeOff : ByteArray := prog_7_method_28_code
def yX2_takeOff : MethodName := ⟨RX2, "takeOff", "([JIII)V"⟩
def dkwX2_takeOff_4 : List UInt8 := [158, 0, 22, 42, 28, 27, 104, 21, 10, 96, 92, 47, 22, 8, 109, 80, 132, 10, 1, 167, 255, 227, 177]
abbrev dktX2_takeOff_4 : List UInt8 := dkwX2_takeOff_4 ++ []
def dkwX2_takeOff_3 : List UInt8 := [184, 0, 105, 55, 8, 132, 10, 1, 167, 255, 201, 3, 54, 10, 21, 10, 27, 162, 0, 29, 22, 8, 10, 148]
abbrev dktX2_takeOff_3 : List UInt8 := dkwX2_takeOff_3 ++ dktX2_takeOff_4
def dkwX2_takeOff_2 : List UInt8 := [42, 29, 27, 104, 21, 10, 96, 47, 22, 4, 105, 101, 80, 22, 8, 42, 28, 27, 104, 21, 10, 96, 47]
abbrev dktX2_takeOff_2 : List UInt8 := dkwX2_takeOff_2 ++ dktX2_takeOff_3
def dkwX2_takeOff_1 : List UInt8 := [21, 10, 27, 162, 0, 55, 42, 28, 27, 104, 21, 10, 96, 42, 28, 27, 104, 21, 10, 96, 47, 22, 6, 105]
abbrev dktX2_takeOff_1 : List UInt8 := dkwX2_takeOff_1 ++ dktX2_takeOff_2
def dkwX2_takeOff_0 : List UInt8 := [42, 28, 27, 104, 29, 96, 47, 55, 4, 42, 29, 27, 104, 29, 96, 47, 55, 6, 9, 55, 8, 3, 54, 10]
abbrev dktX2_takeOff_0 : List UInt8 := dkwX2_takeOff_0 ++ dktX2_takeOff_1
theorem dksX2_takeOff_0 : cX2_takeOff.data.toList.drop 0 = dktX2_takeOff_0 := by decide +kernel
theorem dksX2_takeOff_1 : cX2_takeOff.data.toList.drop 24 = dktX2_takeOff_1 := dk_seg dksX2_takeOff_0 24 rfl rfl
theorem dksX2_takeOff_2 : cX2_takeOff.data.toList.drop 48 = dktX2_takeOff_2 := dk_seg dksX2_takeOff_1 24 rfl rfl
theorem dksX2_takeOff_3 : cX2_takeOff.data.toList.drop 71 = dktX2_takeOff_3 := dk_seg dksX2_takeOff_2 23 rfl rfl
theorem dksX2_takeOff_4 : cX2_takeOff.data.toList.drop 95 = dktX2_takeOff_4 := dk_seg dksX2_takeOff_3 24 rfl rfl
theorem dX2_takeOff_0 : decode cX2_takeOff 0 = .ok (.aload_n 0, 1) := dk_42 (dk_at dksX2_takeOff_0 0 rfl rfl)
theorem dX2_takeOff_1 : decode cX2_takeOff 1 = .ok (.iload_n 2, 1) := dk_28 (dk_at dksX2_takeOff_0 1 rfl rfl)
theorem dX2_takeOff_2 : decode cX2_takeOff 2 = .ok (.iload_n 1, 1) := dk_27 (dk_at dksX2_takeOff_0 2 rfl rfl)
theorem dX2_takeOff_3 : decode cX2_takeOff 3 = .ok (.imul, 1) := dk_104 (dk_at dksX2_takeOff_0 3 rfl rfl)
theorem dX2_takeOff_4 : decode cX2_takeOff 4 = .ok (.iload_n 3, 1) := dk_29 (dk_at dksX2_takeOff_0 4 rfl rfl)
theorem dX2_takeOff_5 : decode cX2_takeOff 5 = .ok (.iadd, 1) := dk_96 (dk_at dksX2_takeOff_0 5 rfl rfl)
theorem dX2_takeOff_6 : decode cX2_takeOff 6 = .ok (.laload, 1) := dk_47 (dk_at dksX2_takeOff_0 6 rfl rfl)
theorem dX2_takeOff_7 : decode cX2_takeOff 7 = .ok (.lstore 4, 2) := dk_55 4 (dk_at dksX2_takeOff_0 7 rfl rfl)
theorem dX2_takeOff_9 : decode cX2_takeOff 9 = .ok (.aload_n 0, 1) := dk_42 (dk_at dksX2_takeOff_0 9 rfl rfl)
theorem dX2_takeOff_10 : decode cX2_takeOff 10 = .ok (.iload_n 3, 1) := dk_29 (dk_at dksX2_takeOff_0 10 rfl rfl)
theorem dX2_takeOff_11 : decode cX2_takeOff 11 = .ok (.iload_n 1, 1) := dk_27 (dk_at dksX2_takeOff_0 11 rfl rfl)
theorem dX2_takeOff_12 : decode cX2_takeOff 12 = .ok (.imul, 1) := dk_104 (dk_at dksX2_takeOff_0 12 rfl rfl)
theorem dX2_takeOff_13 : decode cX2_takeOff 13 = .ok (.iload_n 3, 1) := dk_29 (dk_at dksX2_takeOff_0 13 rfl rfl)
theorem dX2_takeOff_14 : decode cX2_takeOff 14 = .ok (.iadd, 1) := dk_96 (dk_at dksX2_takeOff_0 14 rfl rfl)
theorem dX2_takeOff_15 : decode cX2_takeOff 15 = .ok (.laload, 1) := dk_47 (dk_at dksX2_takeOff_0 15 rfl rfl)
theorem dX2_takeOff_16 : decode cX2_takeOff 16 = .ok (.lstore 6, 2) := dk_55 6 (dk_at dksX2_takeOff_0 16 rfl rfl)
theorem dX2_takeOff_18 : decode cX2_takeOff 18 = .ok (.lconst 0, 1) := dk_9 (dk_at dksX2_takeOff_0 18 rfl rfl)
theorem dX2_takeOff_19 : decode cX2_takeOff 19 = .ok (.lstore 8, 2) := dk_55 8 (dk_at dksX2_takeOff_0 19 rfl rfl)
theorem dX2_takeOff_21 : decode cX2_takeOff 21 = .ok (.iconst 0, 1) := dk_3 (dk_at dksX2_takeOff_0 21 rfl rfl)
theorem dX2_takeOff_22 : decode cX2_takeOff 22 = .ok (.istore 10, 2) := dk_54 10 (dk_at dksX2_takeOff_0 22 rfl rfl)
theorem dX2_takeOff_24 : decode cX2_takeOff 24 = .ok (.iload 10, 2) := dk_21 10 (dk_at dksX2_takeOff_1 0 rfl rfl)
theorem dX2_takeOff_26 : decode cX2_takeOff 26 = .ok (.iload_n 1, 1) := dk_27 (dk_at dksX2_takeOff_1 2 rfl rfl)
theorem dX2_takeOff_27 : decode cX2_takeOff 27 = .ok (.if_icmp .ge 55, 3) := dk_162 0 55 (dk_at dksX2_takeOff_1 3 rfl rfl)
theorem dX2_takeOff_30 : decode cX2_takeOff 30 = .ok (.aload_n 0, 1) := dk_42 (dk_at dksX2_takeOff_1 6 rfl rfl)
theorem dX2_takeOff_31 : decode cX2_takeOff 31 = .ok (.iload_n 2, 1) := dk_28 (dk_at dksX2_takeOff_1 7 rfl rfl)
theorem dX2_takeOff_32 : decode cX2_takeOff 32 = .ok (.iload_n 1, 1) := dk_27 (dk_at dksX2_takeOff_1 8 rfl rfl)
theorem dX2_takeOff_33 : decode cX2_takeOff 33 = .ok (.imul, 1) := dk_104 (dk_at dksX2_takeOff_1 9 rfl rfl)
theorem dX2_takeOff_34 : decode cX2_takeOff 34 = .ok (.iload 10, 2) := dk_21 10 (dk_at dksX2_takeOff_1 10 rfl rfl)
theorem dX2_takeOff_36 : decode cX2_takeOff 36 = .ok (.iadd, 1) := dk_96 (dk_at dksX2_takeOff_1 12 rfl rfl)
theorem dX2_takeOff_37 : decode cX2_takeOff 37 = .ok (.aload_n 0, 1) := dk_42 (dk_at dksX2_takeOff_1 13 rfl rfl)
theorem dX2_takeOff_38 : decode cX2_takeOff 38 = .ok (.iload_n 2, 1) := dk_28 (dk_at dksX2_takeOff_1 14 rfl rfl)
theorem dX2_takeOff_39 : decode cX2_takeOff 39 = .ok (.iload_n 1, 1) := dk_27 (dk_at dksX2_takeOff_1 15 rfl rfl)
theorem dX2_takeOff_40 : decode cX2_takeOff 40 = .ok (.imul, 1) := dk_104 (dk_at dksX2_takeOff_1 16 rfl rfl)
theorem dX2_takeOff_41 : decode cX2_takeOff 41 = .ok (.iload 10, 2) := dk_21 10 (dk_at dksX2_takeOff_1 17 rfl rfl)
theorem dX2_takeOff_43 : decode cX2_takeOff 43 = .ok (.iadd, 1) := dk_96 (dk_at dksX2_takeOff_1 19 rfl rfl)
theorem dX2_takeOff_44 : decode cX2_takeOff 44 = .ok (.laload, 1) := dk_47 (dk_at dksX2_takeOff_1 20 rfl rfl)
theorem dX2_takeOff_45 : decode cX2_takeOff 45 = .ok (.lload 6, 2) := dk_22 6 (dk_at dksX2_takeOff_1 21 rfl rfl)
theorem dX2_takeOff_47 : decode cX2_takeOff 47 = .ok (.lmul, 1) := dk_105 (dk_at dksX2_takeOff_1 23 rfl rfl)
theorem dX2_takeOff_48 : decode cX2_takeOff 48 = .ok (.aload_n 0, 1) := dk_42 (dk_at dksX2_takeOff_2 0 rfl rfl)
theorem dX2_takeOff_49 : decode cX2_takeOff 49 = .ok (.iload_n 3, 1) := dk_29 (dk_at dksX2_takeOff_2 1 rfl rfl)
theorem dX2_takeOff_50 : decode cX2_takeOff 50 = .ok (.iload_n 1, 1) := dk_27 (dk_at dksX2_takeOff_2 2 rfl rfl)
theorem dX2_takeOff_51 : decode cX2_takeOff 51 = .ok (.imul, 1) := dk_104 (dk_at dksX2_takeOff_2 3 rfl rfl)
theorem dX2_takeOff_52 : decode cX2_takeOff 52 = .ok (.iload 10, 2) := dk_21 10 (dk_at dksX2_takeOff_2 4 rfl rfl)
theorem dX2_takeOff_54 : decode cX2_takeOff 54 = .ok (.iadd, 1) := dk_96 (dk_at dksX2_takeOff_2 6 rfl rfl)
theorem dX2_takeOff_55 : decode cX2_takeOff 55 = .ok (.laload, 1) := dk_47 (dk_at dksX2_takeOff_2 7 rfl rfl)
theorem dX2_takeOff_56 : decode cX2_takeOff 56 = .ok (.lload 4, 2) := dk_22 4 (dk_at dksX2_takeOff_2 8 rfl rfl)
theorem dX2_takeOff_58 : decode cX2_takeOff 58 = .ok (.lmul, 1) := dk_105 (dk_at dksX2_takeOff_2 10 rfl rfl)
theorem dX2_takeOff_59 : decode cX2_takeOff 59 = .ok (.lsub, 1) := dk_101 (dk_at dksX2_takeOff_2 11 rfl rfl)
theorem dX2_takeOff_60 : decode cX2_takeOff 60 = .ok (.lastore, 1) := dk_80 (dk_at dksX2_takeOff_2 12 rfl rfl)
theorem dX2_takeOff_61 : decode cX2_takeOff 61 = .ok (.lload 8, 2) := dk_22 8 (dk_at dksX2_takeOff_2 13 rfl rfl)
theorem dX2_takeOff_63 : decode cX2_takeOff 63 = .ok (.aload_n 0, 1) := dk_42 (dk_at dksX2_takeOff_2 15 rfl rfl)
theorem dX2_takeOff_64 : decode cX2_takeOff 64 = .ok (.iload_n 2, 1) := dk_28 (dk_at dksX2_takeOff_2 16 rfl rfl)
theorem dX2_takeOff_65 : decode cX2_takeOff 65 = .ok (.iload_n 1, 1) := dk_27 (dk_at dksX2_takeOff_2 17 rfl rfl)
theorem dX2_takeOff_66 : decode cX2_takeOff 66 = .ok (.imul, 1) := dk_104 (dk_at dksX2_takeOff_2 18 rfl rfl)
theorem dX2_takeOff_67 : decode cX2_takeOff 67 = .ok (.iload 10, 2) := dk_21 10 (dk_at dksX2_takeOff_2 19 rfl rfl)
theorem dX2_takeOff_69 : decode cX2_takeOff 69 = .ok (.iadd, 1) := dk_96 (dk_at dksX2_takeOff_2 21 rfl rfl)
theorem dX2_takeOff_70 : decode cX2_takeOff 70 = .ok (.laload, 1) := dk_47 (dk_at dksX2_takeOff_2 22 rfl rfl)
theorem dX2_takeOff_71 : decode cX2_takeOff 71 = .ok (.invokestatic 105, 3) := dk_184 0 105 (dk_at dksX2_takeOff_3 0 rfl rfl)
theorem dX2_takeOff_74 : decode cX2_takeOff 74 = .ok (.lstore 8, 2) := dk_55 8 (dk_at dksX2_takeOff_3 3 rfl rfl)
theorem dX2_takeOff_76 : decode cX2_takeOff 76 = .ok (.iinc 10 1, 3) := dk_132 10 1 (dk_at dksX2_takeOff_3 5 rfl rfl)
theorem dX2_takeOff_79 : decode cX2_takeOff 79 = .ok (.goto (-55), 3) := dk_167 255 201 (dk_at dksX2_takeOff_3 8 rfl rfl)
theorem dX2_takeOff_82 : decode cX2_takeOff 82 = .ok (.iconst 0, 1) := dk_3 (dk_at dksX2_takeOff_3 11 rfl rfl)
theorem dX2_takeOff_83 : decode cX2_takeOff 83 = .ok (.istore 10, 2) := dk_54 10 (dk_at dksX2_takeOff_3 12 rfl rfl)
theorem dX2_takeOff_85 : decode cX2_takeOff 85 = .ok (.iload 10, 2) := dk_21 10 (dk_at dksX2_takeOff_3 14 rfl rfl)
theorem dX2_takeOff_87 : decode cX2_takeOff 87 = .ok (.iload_n 1, 1) := dk_27 (dk_at dksX2_takeOff_3 16 rfl rfl)
theorem dX2_takeOff_88 : decode cX2_takeOff 88 = .ok (.if_icmp .ge 29, 3) := dk_162 0 29 (dk_at dksX2_takeOff_3 17 rfl rfl)
theorem dX2_takeOff_91 : decode cX2_takeOff 91 = .ok (.lload 8, 2) := dk_22 8 (dk_at dksX2_takeOff_3 20 rfl rfl)
theorem dX2_takeOff_93 : decode cX2_takeOff 93 = .ok (.lconst 1, 1) := dk_10 (dk_at dksX2_takeOff_3 22 rfl rfl)
theorem dX2_takeOff_94 : decode cX2_takeOff 94 = .ok (.lcmp, 1) := dk_148 (dk_at dksX2_takeOff_3 23 rfl rfl)
theorem dX2_takeOff_95 : decode cX2_takeOff 95 = .ok (.ifCond .le 22, 3) := dk_158 0 22 (dk_at dksX2_takeOff_4 0 rfl rfl)
theorem dX2_takeOff_98 : decode cX2_takeOff 98 = .ok (.aload_n 0, 1) := dk_42 (dk_at dksX2_takeOff_4 3 rfl rfl)
theorem dX2_takeOff_99 : decode cX2_takeOff 99 = .ok (.iload_n 2, 1) := dk_28 (dk_at dksX2_takeOff_4 4 rfl rfl)
theorem dX2_takeOff_100 : decode cX2_takeOff 100 = .ok (.iload_n 1, 1) := dk_27 (dk_at dksX2_takeOff_4 5 rfl rfl)
theorem dX2_takeOff_101 : decode cX2_takeOff 101 = .ok (.imul, 1) := dk_104 (dk_at dksX2_takeOff_4 6 rfl rfl)
theorem dX2_takeOff_102 : decode cX2_takeOff 102 = .ok (.iload 10, 2) := dk_21 10 (dk_at dksX2_takeOff_4 7 rfl rfl)
theorem dX2_takeOff_104 : decode cX2_takeOff 104 = .ok (.iadd, 1) := dk_96 (dk_at dksX2_takeOff_4 9 rfl rfl)
theorem dX2_takeOff_105 : decode cX2_takeOff 105 = .ok (.dup2, 1) := dk_92 (dk_at dksX2_takeOff_4 10 rfl rfl)
theorem dX2_takeOff_106 : decode cX2_takeOff 106 = .ok (.laload, 1) := dk_47 (dk_at dksX2_takeOff_4 11 rfl rfl)
theorem dX2_takeOff_107 : decode cX2_takeOff 107 = .ok (.lload 8, 2) := dk_22 8 (dk_at dksX2_takeOff_4 12 rfl rfl)
theorem dX2_takeOff_109 : decode cX2_takeOff 109 = .ok (.ldiv, 1) := dk_109 (dk_at dksX2_takeOff_4 14 rfl rfl)
theorem dX2_takeOff_110 : decode cX2_takeOff 110 = .ok (.lastore, 1) := dk_80 (dk_at dksX2_takeOff_4 15 rfl rfl)
theorem dX2_takeOff_111 : decode cX2_takeOff 111 = .ok (.iinc 10 1, 3) := dk_132 10 1 (dk_at dksX2_takeOff_4 16 rfl rfl)
theorem dX2_takeOff_114 : decode cX2_takeOff 114 = .ok (.goto (-29), 3) := dk_167 255 227 (dk_at dksX2_takeOff_4 19 rfl rfl)
theorem dX2_takeOff_117 : decode cX2_takeOff 117 = .ok (.return_, 1) := dk_177 (dk_at dksX2_takeOff_4 22 rfl rfl)
abbrev cX2_common : ByteArray := prog_7_method_25_code
def yX2_common : MethodName := ⟨RX2, "common", "(JJ)J"⟩
def dkwX2_common_0 : List UInt8 := [32, 9, 148, 154, 0, 10, 30, 184, 0, 99, 167, 0, 10, 32, 30, 32, 113, 184, 0, 105, 173]
abbrev dktX2_common_0 : List UInt8 := dkwX2_common_0 ++ []
theorem dksX2_common_0 : cX2_common.data.toList.drop 0 = dktX2_common_0 := by decide +kernel
theorem dX2_common_0 : decode cX2_common 0 = .ok (.lload_n 2, 1) := dk_32 (dk_at dksX2_common_0 0 rfl rfl)
theorem dX2_common_1 : decode cX2_common 1 = .ok (.lconst 0, 1) := dk_9 (dk_at dksX2_common_0 1 rfl rfl)
theorem dX2_common_2 : decode cX2_common 2 = .ok (.lcmp, 1) := dk_148 (dk_at dksX2_common_0 2 rfl rfl)
theorem dX2_common_3 : decode cX2_common 3 = .ok (.ifCond .ne 10, 3) := dk_154 0 10 (dk_at dksX2_common_0 3 rfl rfl)
theorem dX2_common_6 : decode cX2_common 6 = .ok (.lload_n 0, 1) := dk_30 (dk_at dksX2_common_0 6 rfl rfl)
theorem dX2_common_7 : decode cX2_common 7 = .ok (.invokestatic 99, 3) := dk_184 0 99 (dk_at dksX2_common_0 7 rfl rfl)
theorem dX2_common_10 : decode cX2_common 10 = .ok (.goto 10, 3) := dk_167 0 10 (dk_at dksX2_common_0 10 rfl rfl)
theorem dX2_common_13 : decode cX2_common 13 = .ok (.lload_n 2, 1) := dk_32 (dk_at dksX2_common_0 13 rfl rfl)
theorem dX2_common_14 : decode cX2_common 14 = .ok (.lload_n 0, 1) := dk_30 (dk_at dksX2_common_0 14 rfl rfl)
theorem dX2_common_15 : decode cX2_common 15 = .ok (.lload_n 2, 1) := dk_32 (dk_at dksX2_common_0 15 rfl rfl)
theorem dX2_common_16 : decode cX2_common 16 = .ok (.lrem, 1) := dk_113 (dk_at dksX2_common_0 16 rfl rfl)
theorem dX2_common_17 : decode cX2_common 17 = .ok (.invokestatic 105, 3) := dk_184 0 105 (dk_at dksX2_common_0 17 rfl rfl)
theorem dX2_common_20 : decode cX2_common 20 = .ok (.lreturn, 1) := dk_173 (dk_at dksX2_common_0 20 rfl rfl)
abbrev cX2_weighing : ByteArray := prog_7_method_68_code
def yX2_weighing : MethodName := ⟨RX2, "weighing", "(II)I"⟩
def dkwX2_weighing_2 : List UInt8 := [172]
abbrev dktX2_weighing_2 : List UInt8 := dkwX2_weighing_2 ++ []
def dkwX2_weighing_1 : List UInt8 := [182, 0, 202, 78, 27, 42, 180, 0, 68, 162, 0, 14, 45, 16, 8, 27, 104, 28, 96, 46, 167, 0, 4, 3]
abbrev dktX2_weighing_1 : List UInt8 := dkwX2_weighing_1 ++ dktX2_weighing_2
def dkwX2_weighing_0 : List UInt8 := [42, 42, 28, 182, 0, 133, 27, 3, 16, 7, 184, 0, 35, 182, 0, 117, 153, 0, 5, 3, 172, 42]
abbrev dktX2_weighing_0 : List UInt8 := dkwX2_weighing_0 ++ dktX2_weighing_1
theorem dksX2_weighing_0 : cX2_weighing.data.toList.drop 0 = dktX2_weighing_0 := by decide +kernel
theorem dksX2_weighing_1 : cX2_weighing.data.toList.drop 22 = dktX2_weighing_1 := dk_seg dksX2_weighing_0 22 rfl rfl
theorem dksX2_weighing_2 : cX2_weighing.data.toList.drop 46 = dktX2_weighing_2 := dk_seg dksX2_weighing_1 24 rfl rfl
theorem dX2_weighing_0 : decode cX2_weighing 0 = .ok (.aload_n 0, 1) := dk_42 (dk_at dksX2_weighing_0 0 rfl rfl)
theorem dX2_weighing_1 : decode cX2_weighing 1 = .ok (.aload_n 0, 1) := dk_42 (dk_at dksX2_weighing_0 1 rfl rfl)
theorem dX2_weighing_2 : decode cX2_weighing 2 = .ok (.iload_n 2, 1) := dk_28 (dk_at dksX2_weighing_0 2 rfl rfl)
theorem dX2_weighing_3 : decode cX2_weighing 3 = .ok (.invokevirtual 133, 3) := dk_182 0 133 (dk_at dksX2_weighing_0 3 rfl rfl)
theorem dX2_weighing_6 : decode cX2_weighing 6 = .ok (.iload_n 1, 1) := dk_27 (dk_at dksX2_weighing_0 6 rfl rfl)
theorem dX2_weighing_7 : decode cX2_weighing 7 = .ok (.iconst 0, 1) := dk_3 (dk_at dksX2_weighing_0 7 rfl rfl)
theorem dX2_weighing_8 : decode cX2_weighing 8 = .ok (.bipush 7, 2) := dk_16 7 (dk_at dksX2_weighing_0 8 rfl rfl)
theorem dX2_weighing_10 : decode cX2_weighing 10 = .ok (.invokestatic 35, 3) := dk_184 0 35 (dk_at dksX2_weighing_0 10 rfl rfl)
theorem dX2_weighing_13 : decode cX2_weighing 13 = .ok (.invokevirtual 117, 3) := dk_182 0 117 (dk_at dksX2_weighing_0 13 rfl rfl)
theorem dX2_weighing_16 : decode cX2_weighing 16 = .ok (.ifCond .eq 5, 3) := dk_153 0 5 (dk_at dksX2_weighing_0 16 rfl rfl)
theorem dX2_weighing_19 : decode cX2_weighing 19 = .ok (.iconst 0, 1) := dk_3 (dk_at dksX2_weighing_0 19 rfl rfl)
theorem dX2_weighing_20 : decode cX2_weighing 20 = .ok (.ireturn, 1) := dk_172 (dk_at dksX2_weighing_0 20 rfl rfl)
theorem dX2_weighing_21 : decode cX2_weighing 21 = .ok (.aload_n 0, 1) := dk_42 (dk_at dksX2_weighing_0 21 rfl rfl)
theorem dX2_weighing_22 : decode cX2_weighing 22 = .ok (.invokevirtual 202, 3) := dk_182 0 202 (dk_at dksX2_weighing_1 0 rfl rfl)
theorem dX2_weighing_25 : decode cX2_weighing 25 = .ok (.astore_n 3, 1) := dk_78 (dk_at dksX2_weighing_1 3 rfl rfl)
theorem dX2_weighing_26 : decode cX2_weighing 26 = .ok (.iload_n 1, 1) := dk_27 (dk_at dksX2_weighing_1 4 rfl rfl)
theorem dX2_weighing_27 : decode cX2_weighing 27 = .ok (.aload_n 0, 1) := dk_42 (dk_at dksX2_weighing_1 5 rfl rfl)
theorem dX2_weighing_28 : decode cX2_weighing 28 = .ok (.getfield 68, 3) := dk_180 0 68 (dk_at dksX2_weighing_1 6 rfl rfl)
theorem dX2_weighing_31 : decode cX2_weighing 31 = .ok (.if_icmp .ge 14, 3) := dk_162 0 14 (dk_at dksX2_weighing_1 9 rfl rfl)
theorem dX2_weighing_34 : decode cX2_weighing 34 = .ok (.aload_n 3, 1) := dk_45 (dk_at dksX2_weighing_1 12 rfl rfl)
theorem dX2_weighing_35 : decode cX2_weighing 35 = .ok (.bipush 8, 2) := dk_16 8 (dk_at dksX2_weighing_1 13 rfl rfl)
theorem dX2_weighing_37 : decode cX2_weighing 37 = .ok (.iload_n 1, 1) := dk_27 (dk_at dksX2_weighing_1 15 rfl rfl)
theorem dX2_weighing_38 : decode cX2_weighing 38 = .ok (.imul, 1) := dk_104 (dk_at dksX2_weighing_1 16 rfl rfl)
theorem dX2_weighing_39 : decode cX2_weighing 39 = .ok (.iload_n 2, 1) := dk_28 (dk_at dksX2_weighing_1 17 rfl rfl)
theorem dX2_weighing_40 : decode cX2_weighing 40 = .ok (.iadd, 1) := dk_96 (dk_at dksX2_weighing_1 18 rfl rfl)
theorem dX2_weighing_41 : decode cX2_weighing 41 = .ok (.iaload, 1) := dk_46 (dk_at dksX2_weighing_1 19 rfl rfl)
theorem dX2_weighing_42 : decode cX2_weighing 42 = .ok (.goto 4, 3) := dk_167 0 4 (dk_at dksX2_weighing_1 20 rfl rfl)
theorem dX2_weighing_45 : decode cX2_weighing 45 = .ok (.iconst 0, 1) := dk_3 (dk_at dksX2_weighing_1 23 rfl rfl)
theorem dX2_weighing_46 : decode cX2_weighing 46 = .ok (.ireturn, 1) := dk_172 (dk_at dksX2_weighing_2 0 rfl rfl)
abbrev cX2_weight : ByteArray := prog_7_method_69_code
def yX2_weight : MethodName := ⟨RX2, "weight", "(II)I"⟩
def dkwX2_weight_4 : List UInt8 := [104, 21, 5, 96, 46, 104, 96, 54, 4, 132, 5, 1, 167, 255, 194, 21, 4, 172]
abbrev dktX2_weight_4 : List UInt8 := dkwX2_weight_4 ++ []
def dkwX2_weight_3 : List UInt8 := [96, 46, 28, 2, 160, 0, 13, 42, 180, 0, 20, 21, 5, 46, 167, 0, 15, 42, 180, 0, 23, 16, 8, 28]
abbrev dktX2_weight_3 : List UInt8 := dkwX2_weight_3 ++ dktX2_weight_4
def dkwX2_weight_2 : List UInt8 := [42, 180, 0, 7, 162, 0, 59, 27, 42, 180, 0, 68, 162, 0, 51, 21, 4, 45, 16, 8, 27, 104, 21, 5]
abbrev dktX2_weight_2 : List UInt8 := dkwX2_weight_2 ++ dktX2_weight_3
def dkwX2_weight_1 : List UInt8 := [184, 0, 35, 182, 0, 117, 153, 0, 5, 3, 172, 42, 182, 0, 202, 78, 3, 54, 4, 3, 54, 5, 21, 5]
abbrev dktX2_weight_1 : List UInt8 := dkwX2_weight_1 ++ dktX2_weight_2
def dkwX2_weight_0 : List UInt8 := [42, 28, 2, 159, 0, 10, 28, 184, 0, 147, 153, 0, 7, 4, 167, 0, 4, 3, 27, 3, 16, 7]
abbrev dktX2_weight_0 : List UInt8 := dkwX2_weight_0 ++ dktX2_weight_1
theorem dksX2_weight_0 : cX2_weight.data.toList.drop 0 = dktX2_weight_0 := by decide +kernel
theorem dksX2_weight_1 : cX2_weight.data.toList.drop 22 = dktX2_weight_1 := dk_seg dksX2_weight_0 22 rfl rfl
theorem dksX2_weight_2 : cX2_weight.data.toList.drop 46 = dktX2_weight_2 := dk_seg dksX2_weight_1 24 rfl rfl
theorem dksX2_weight_3 : cX2_weight.data.toList.drop 70 = dktX2_weight_3 := dk_seg dksX2_weight_2 24 rfl rfl
theorem dksX2_weight_4 : cX2_weight.data.toList.drop 94 = dktX2_weight_4 := dk_seg dksX2_weight_3 24 rfl rfl
theorem dX2_weight_0 : decode cX2_weight 0 = .ok (.aload_n 0, 1) := dk_42 (dk_at dksX2_weight_0 0 rfl rfl)
theorem dX2_weight_1 : decode cX2_weight 1 = .ok (.iload_n 2, 1) := dk_28 (dk_at dksX2_weight_0 1 rfl rfl)
theorem dX2_weight_2 : decode cX2_weight 2 = .ok (.iconst (-1), 1) := dk_2 (dk_at dksX2_weight_0 2 rfl rfl)
theorem dX2_weight_3 : decode cX2_weight 3 = .ok (.if_icmp .eq 10, 3) := dk_159 0 10 (dk_at dksX2_weight_0 3 rfl rfl)
theorem dX2_weight_6 : decode cX2_weight 6 = .ok (.iload_n 2, 1) := dk_28 (dk_at dksX2_weight_0 6 rfl rfl)
theorem dX2_weight_7 : decode cX2_weight 7 = .ok (.invokestatic 147, 3) := dk_184 0 147 (dk_at dksX2_weight_0 7 rfl rfl)
theorem dX2_weight_10 : decode cX2_weight 10 = .ok (.ifCond .eq 7, 3) := dk_153 0 7 (dk_at dksX2_weight_0 10 rfl rfl)
theorem dX2_weight_13 : decode cX2_weight 13 = .ok (.iconst 1, 1) := dk_4 (dk_at dksX2_weight_0 13 rfl rfl)
theorem dX2_weight_14 : decode cX2_weight 14 = .ok (.goto 4, 3) := dk_167 0 4 (dk_at dksX2_weight_0 14 rfl rfl)
theorem dX2_weight_17 : decode cX2_weight 17 = .ok (.iconst 0, 1) := dk_3 (dk_at dksX2_weight_0 17 rfl rfl)
theorem dX2_weight_18 : decode cX2_weight 18 = .ok (.iload_n 1, 1) := dk_27 (dk_at dksX2_weight_0 18 rfl rfl)
theorem dX2_weight_19 : decode cX2_weight 19 = .ok (.iconst 0, 1) := dk_3 (dk_at dksX2_weight_0 19 rfl rfl)
theorem dX2_weight_20 : decode cX2_weight 20 = .ok (.bipush 7, 2) := dk_16 7 (dk_at dksX2_weight_0 20 rfl rfl)
theorem dX2_weight_22 : decode cX2_weight 22 = .ok (.invokestatic 35, 3) := dk_184 0 35 (dk_at dksX2_weight_1 0 rfl rfl)
theorem dX2_weight_25 : decode cX2_weight 25 = .ok (.invokevirtual 117, 3) := dk_182 0 117 (dk_at dksX2_weight_1 3 rfl rfl)
theorem dX2_weight_28 : decode cX2_weight 28 = .ok (.ifCond .eq 5, 3) := dk_153 0 5 (dk_at dksX2_weight_1 6 rfl rfl)
theorem dX2_weight_31 : decode cX2_weight 31 = .ok (.iconst 0, 1) := dk_3 (dk_at dksX2_weight_1 9 rfl rfl)
theorem dX2_weight_32 : decode cX2_weight 32 = .ok (.ireturn, 1) := dk_172 (dk_at dksX2_weight_1 10 rfl rfl)
theorem dX2_weight_33 : decode cX2_weight 33 = .ok (.aload_n 0, 1) := dk_42 (dk_at dksX2_weight_1 11 rfl rfl)
theorem dX2_weight_34 : decode cX2_weight 34 = .ok (.invokevirtual 202, 3) := dk_182 0 202 (dk_at dksX2_weight_1 12 rfl rfl)
theorem dX2_weight_37 : decode cX2_weight 37 = .ok (.astore_n 3, 1) := dk_78 (dk_at dksX2_weight_1 15 rfl rfl)
theorem dX2_weight_38 : decode cX2_weight 38 = .ok (.iconst 0, 1) := dk_3 (dk_at dksX2_weight_1 16 rfl rfl)
theorem dX2_weight_39 : decode cX2_weight 39 = .ok (.istore 4, 2) := dk_54 4 (dk_at dksX2_weight_1 17 rfl rfl)
theorem dX2_weight_41 : decode cX2_weight 41 = .ok (.iconst 0, 1) := dk_3 (dk_at dksX2_weight_1 19 rfl rfl)
theorem dX2_weight_42 : decode cX2_weight 42 = .ok (.istore 5, 2) := dk_54 5 (dk_at dksX2_weight_1 20 rfl rfl)
theorem dX2_weight_44 : decode cX2_weight 44 = .ok (.iload 5, 2) := dk_21 5 (dk_at dksX2_weight_1 22 rfl rfl)
theorem dX2_weight_46 : decode cX2_weight 46 = .ok (.aload_n 0, 1) := dk_42 (dk_at dksX2_weight_2 0 rfl rfl)
theorem dX2_weight_47 : decode cX2_weight 47 = .ok (.getfield 7, 3) := dk_180 0 7 (dk_at dksX2_weight_2 1 rfl rfl)
theorem dX2_weight_50 : decode cX2_weight 50 = .ok (.if_icmp .ge 59, 3) := dk_162 0 59 (dk_at dksX2_weight_2 4 rfl rfl)
theorem dX2_weight_53 : decode cX2_weight 53 = .ok (.iload_n 1, 1) := dk_27 (dk_at dksX2_weight_2 7 rfl rfl)
theorem dX2_weight_54 : decode cX2_weight 54 = .ok (.aload_n 0, 1) := dk_42 (dk_at dksX2_weight_2 8 rfl rfl)
theorem dX2_weight_55 : decode cX2_weight 55 = .ok (.getfield 68, 3) := dk_180 0 68 (dk_at dksX2_weight_2 9 rfl rfl)
theorem dX2_weight_58 : decode cX2_weight 58 = .ok (.if_icmp .ge 51, 3) := dk_162 0 51 (dk_at dksX2_weight_2 12 rfl rfl)
theorem dX2_weight_61 : decode cX2_weight 61 = .ok (.iload 4, 2) := dk_21 4 (dk_at dksX2_weight_2 15 rfl rfl)
theorem dX2_weight_63 : decode cX2_weight 63 = .ok (.aload_n 3, 1) := dk_45 (dk_at dksX2_weight_2 17 rfl rfl)
theorem dX2_weight_64 : decode cX2_weight 64 = .ok (.bipush 8, 2) := dk_16 8 (dk_at dksX2_weight_2 18 rfl rfl)
theorem dX2_weight_66 : decode cX2_weight 66 = .ok (.iload_n 1, 1) := dk_27 (dk_at dksX2_weight_2 20 rfl rfl)
theorem dX2_weight_67 : decode cX2_weight 67 = .ok (.imul, 1) := dk_104 (dk_at dksX2_weight_2 21 rfl rfl)
theorem dX2_weight_68 : decode cX2_weight 68 = .ok (.iload 5, 2) := dk_21 5 (dk_at dksX2_weight_2 22 rfl rfl)
theorem dX2_weight_70 : decode cX2_weight 70 = .ok (.iadd, 1) := dk_96 (dk_at dksX2_weight_3 0 rfl rfl)
theorem dX2_weight_71 : decode cX2_weight 71 = .ok (.iaload, 1) := dk_46 (dk_at dksX2_weight_3 1 rfl rfl)
theorem dX2_weight_72 : decode cX2_weight 72 = .ok (.iload_n 2, 1) := dk_28 (dk_at dksX2_weight_3 2 rfl rfl)
theorem dX2_weight_73 : decode cX2_weight 73 = .ok (.iconst (-1), 1) := dk_2 (dk_at dksX2_weight_3 3 rfl rfl)
theorem dX2_weight_74 : decode cX2_weight 74 = .ok (.if_icmp .ne 13, 3) := dk_160 0 13 (dk_at dksX2_weight_3 4 rfl rfl)
theorem dX2_weight_77 : decode cX2_weight 77 = .ok (.aload_n 0, 1) := dk_42 (dk_at dksX2_weight_3 7 rfl rfl)
theorem dX2_weight_78 : decode cX2_weight 78 = .ok (.getfield 20, 3) := dk_180 0 20 (dk_at dksX2_weight_3 8 rfl rfl)
theorem dX2_weight_81 : decode cX2_weight 81 = .ok (.iload 5, 2) := dk_21 5 (dk_at dksX2_weight_3 11 rfl rfl)
theorem dX2_weight_83 : decode cX2_weight 83 = .ok (.iaload, 1) := dk_46 (dk_at dksX2_weight_3 13 rfl rfl)
theorem dX2_weight_84 : decode cX2_weight 84 = .ok (.goto 15, 3) := dk_167 0 15 (dk_at dksX2_weight_3 14 rfl rfl)
theorem dX2_weight_87 : decode cX2_weight 87 = .ok (.aload_n 0, 1) := dk_42 (dk_at dksX2_weight_3 17 rfl rfl)
theorem dX2_weight_88 : decode cX2_weight 88 = .ok (.getfield 23, 3) := dk_180 0 23 (dk_at dksX2_weight_3 18 rfl rfl)
theorem dX2_weight_91 : decode cX2_weight 91 = .ok (.bipush 8, 2) := dk_16 8 (dk_at dksX2_weight_3 21 rfl rfl)
theorem dX2_weight_93 : decode cX2_weight 93 = .ok (.iload_n 2, 1) := dk_28 (dk_at dksX2_weight_3 23 rfl rfl)
theorem dX2_weight_94 : decode cX2_weight 94 = .ok (.imul, 1) := dk_104 (dk_at dksX2_weight_4 0 rfl rfl)
theorem dX2_weight_95 : decode cX2_weight 95 = .ok (.iload 5, 2) := dk_21 5 (dk_at dksX2_weight_4 1 rfl rfl)
theorem dX2_weight_97 : decode cX2_weight 97 = .ok (.iadd, 1) := dk_96 (dk_at dksX2_weight_4 3 rfl rfl)
theorem dX2_weight_98 : decode cX2_weight 98 = .ok (.iaload, 1) := dk_46 (dk_at dksX2_weight_4 4 rfl rfl)
theorem dX2_weight_99 : decode cX2_weight 99 = .ok (.imul, 1) := dk_104 (dk_at dksX2_weight_4 5 rfl rfl)
theorem dX2_weight_100 : decode cX2_weight 100 = .ok (.iadd, 1) := dk_96 (dk_at dksX2_weight_4 6 rfl rfl)
theorem dX2_weight_101 : decode cX2_weight 101 = .ok (.istore 4, 2) := dk_54 4 (dk_at dksX2_weight_4 7 rfl rfl)
theorem dX2_weight_103 : decode cX2_weight 103 = .ok (.iinc 5 1, 3) := dk_132 5 1 (dk_at dksX2_weight_4 9 rfl rfl)
theorem dX2_weight_106 : decode cX2_weight 106 = .ok (.goto (-62), 3) := dk_167 255 194 (dk_at dksX2_weight_4 12 rfl rfl)
theorem dX2_weight_109 : decode cX2_weight 109 = .ok (.iload 4, 2) := dk_21 4 (dk_at dksX2_weight_4 15 rfl rfl)
theorem dX2_weight_111 : decode cX2_weight 111 = .ok (.ireturn, 1) := dk_172 (dk_at dksX2_weight_4 17 rfl rfl)
abbrev cX2_house : ByteArray := prog_7_method_70_code
def yX2_house : MethodName := ⟨RX2, "house", "(I)I"⟩
def dkwX2_house_3 : List UInt8 := [180, 0, 32, 167, 0, 11, 42, 42, 180, 0, 20, 182, 0, 140, 172]
abbrev dktX2_house_3 : List UInt8 := dkwX2_house_3 ++ []
def dkwX2_house_2 : List UInt8 := [180, 0, 205, 172, 27, 6, 160, 0, 10, 42, 180, 0, 7, 167, 0, 23, 27, 7, 160, 0, 10, 42]
abbrev dktX2_house_2 : List UInt8 := dkwX2_house_2 ++ dktX2_house_3
def dkwX2_house_1 : List UInt8 := [154, 0, 10, 42, 180, 0, 39, 167, 0, 19, 27, 4, 160, 0, 10, 42, 180, 0, 42, 167, 0, 7, 42]
abbrev dktX2_house_1 : List UInt8 := dkwX2_house_1 ++ dktX2_house_2
def dkwX2_house_0 : List UInt8 := [42, 27, 3, 8, 184, 0, 35, 4, 182, 0, 117, 153, 0, 5, 3, 172, 27, 6, 162, 0, 31, 27]
abbrev dktX2_house_0 : List UInt8 := dkwX2_house_0 ++ dktX2_house_1
theorem dksX2_house_0 : cX2_house.data.toList.drop 0 = dktX2_house_0 := by decide +kernel
theorem dksX2_house_1 : cX2_house.data.toList.drop 22 = dktX2_house_1 := dk_seg dksX2_house_0 22 rfl rfl
theorem dksX2_house_2 : cX2_house.data.toList.drop 45 = dktX2_house_2 := dk_seg dksX2_house_1 23 rfl rfl
theorem dksX2_house_3 : cX2_house.data.toList.drop 67 = dktX2_house_3 := dk_seg dksX2_house_2 22 rfl rfl
theorem dX2_house_0 : decode cX2_house 0 = .ok (.aload_n 0, 1) := dk_42 (dk_at dksX2_house_0 0 rfl rfl)
theorem dX2_house_1 : decode cX2_house 1 = .ok (.iload_n 1, 1) := dk_27 (dk_at dksX2_house_0 1 rfl rfl)
theorem dX2_house_2 : decode cX2_house 2 = .ok (.iconst 0, 1) := dk_3 (dk_at dksX2_house_0 2 rfl rfl)
theorem dX2_house_3 : decode cX2_house 3 = .ok (.iconst 5, 1) := dk_8 (dk_at dksX2_house_0 3 rfl rfl)
theorem dX2_house_4 : decode cX2_house 4 = .ok (.invokestatic 35, 3) := dk_184 0 35 (dk_at dksX2_house_0 4 rfl rfl)
theorem dX2_house_7 : decode cX2_house 7 = .ok (.iconst 1, 1) := dk_4 (dk_at dksX2_house_0 7 rfl rfl)
theorem dX2_house_8 : decode cX2_house 8 = .ok (.invokevirtual 117, 3) := dk_182 0 117 (dk_at dksX2_house_0 8 rfl rfl)
theorem dX2_house_11 : decode cX2_house 11 = .ok (.ifCond .eq 5, 3) := dk_153 0 5 (dk_at dksX2_house_0 11 rfl rfl)
theorem dX2_house_14 : decode cX2_house 14 = .ok (.iconst 0, 1) := dk_3 (dk_at dksX2_house_0 14 rfl rfl)
theorem dX2_house_15 : decode cX2_house 15 = .ok (.ireturn, 1) := dk_172 (dk_at dksX2_house_0 15 rfl rfl)
theorem dX2_house_16 : decode cX2_house 16 = .ok (.iload_n 1, 1) := dk_27 (dk_at dksX2_house_0 16 rfl rfl)
theorem dX2_house_17 : decode cX2_house 17 = .ok (.iconst 3, 1) := dk_6 (dk_at dksX2_house_0 17 rfl rfl)
theorem dX2_house_18 : decode cX2_house 18 = .ok (.if_icmp .ge 31, 3) := dk_162 0 31 (dk_at dksX2_house_0 18 rfl rfl)
theorem dX2_house_21 : decode cX2_house 21 = .ok (.iload_n 1, 1) := dk_27 (dk_at dksX2_house_0 21 rfl rfl)
theorem dX2_house_22 : decode cX2_house 22 = .ok (.ifCond .ne 10, 3) := dk_154 0 10 (dk_at dksX2_house_1 0 rfl rfl)
theorem dX2_house_25 : decode cX2_house 25 = .ok (.aload_n 0, 1) := dk_42 (dk_at dksX2_house_1 3 rfl rfl)
theorem dX2_house_26 : decode cX2_house 26 = .ok (.getfield 39, 3) := dk_180 0 39 (dk_at dksX2_house_1 4 rfl rfl)
theorem dX2_house_29 : decode cX2_house 29 = .ok (.goto 19, 3) := dk_167 0 19 (dk_at dksX2_house_1 7 rfl rfl)
theorem dX2_house_32 : decode cX2_house 32 = .ok (.iload_n 1, 1) := dk_27 (dk_at dksX2_house_1 10 rfl rfl)
theorem dX2_house_33 : decode cX2_house 33 = .ok (.iconst 1, 1) := dk_4 (dk_at dksX2_house_1 11 rfl rfl)
theorem dX2_house_34 : decode cX2_house 34 = .ok (.if_icmp .ne 10, 3) := dk_160 0 10 (dk_at dksX2_house_1 12 rfl rfl)
theorem dX2_house_37 : decode cX2_house 37 = .ok (.aload_n 0, 1) := dk_42 (dk_at dksX2_house_1 15 rfl rfl)
theorem dX2_house_38 : decode cX2_house 38 = .ok (.getfield 42, 3) := dk_180 0 42 (dk_at dksX2_house_1 16 rfl rfl)
theorem dX2_house_41 : decode cX2_house 41 = .ok (.goto 7, 3) := dk_167 0 7 (dk_at dksX2_house_1 19 rfl rfl)
theorem dX2_house_44 : decode cX2_house 44 = .ok (.aload_n 0, 1) := dk_42 (dk_at dksX2_house_1 22 rfl rfl)
theorem dX2_house_45 : decode cX2_house 45 = .ok (.getfield 205, 3) := dk_180 0 205 (dk_at dksX2_house_2 0 rfl rfl)
theorem dX2_house_48 : decode cX2_house 48 = .ok (.ireturn, 1) := dk_172 (dk_at dksX2_house_2 3 rfl rfl)
theorem dX2_house_49 : decode cX2_house 49 = .ok (.iload_n 1, 1) := dk_27 (dk_at dksX2_house_2 4 rfl rfl)
theorem dX2_house_50 : decode cX2_house 50 = .ok (.iconst 3, 1) := dk_6 (dk_at dksX2_house_2 5 rfl rfl)
theorem dX2_house_51 : decode cX2_house 51 = .ok (.if_icmp .ne 10, 3) := dk_160 0 10 (dk_at dksX2_house_2 6 rfl rfl)
theorem dX2_house_54 : decode cX2_house 54 = .ok (.aload_n 0, 1) := dk_42 (dk_at dksX2_house_2 9 rfl rfl)
theorem dX2_house_55 : decode cX2_house 55 = .ok (.getfield 7, 3) := dk_180 0 7 (dk_at dksX2_house_2 10 rfl rfl)
theorem dX2_house_58 : decode cX2_house 58 = .ok (.goto 23, 3) := dk_167 0 23 (dk_at dksX2_house_2 13 rfl rfl)
theorem dX2_house_61 : decode cX2_house 61 = .ok (.iload_n 1, 1) := dk_27 (dk_at dksX2_house_2 16 rfl rfl)
theorem dX2_house_62 : decode cX2_house 62 = .ok (.iconst 4, 1) := dk_7 (dk_at dksX2_house_2 17 rfl rfl)
theorem dX2_house_63 : decode cX2_house 63 = .ok (.if_icmp .ne 10, 3) := dk_160 0 10 (dk_at dksX2_house_2 18 rfl rfl)
theorem dX2_house_66 : decode cX2_house 66 = .ok (.aload_n 0, 1) := dk_42 (dk_at dksX2_house_2 21 rfl rfl)
theorem dX2_house_67 : decode cX2_house 67 = .ok (.getfield 32, 3) := dk_180 0 32 (dk_at dksX2_house_3 0 rfl rfl)
theorem dX2_house_70 : decode cX2_house 70 = .ok (.goto 11, 3) := dk_167 0 11 (dk_at dksX2_house_3 3 rfl rfl)
theorem dX2_house_73 : decode cX2_house 73 = .ok (.aload_n 0, 1) := dk_42 (dk_at dksX2_house_3 6 rfl rfl)
theorem dX2_house_74 : decode cX2_house 74 = .ok (.aload_n 0, 1) := dk_42 (dk_at dksX2_house_3 7 rfl rfl)
theorem dX2_house_75 : decode cX2_house 75 = .ok (.getfield 20, 3) := dk_180 0 20 (dk_at dksX2_house_3 8 rfl rfl)
theorem dX2_house_78 : decode cX2_house 78 = .ok (.invokevirtual 140, 3) := dk_182 0 140 (dk_at dksX2_house_3 11 rfl rfl)
theorem dX2_house_81 : decode cX2_house 81 = .ok (.ireturn, 1) := dk_172 (dk_at dksX2_house_3 14 rfl rfl)
abbrev cX2_knock : ByteArray := prog_7_method_71_code
def yX2_knock : MethodName := ⟨RX2, "knock", "()I"⟩
def dkwX2_knock_0 : List UInt8 := [42, 3, 181, 0, 29, 42, 89, 180, 0, 205, 4, 96, 181, 0, 205, 42, 180, 0, 205, 172]
abbrev dktX2_knock_0 : List UInt8 := dkwX2_knock_0 ++ []
theorem dksX2_knock_0 : cX2_knock.data.toList.drop 0 = dktX2_knock_0 := by decide +kernel
theorem dX2_knock_0 : decode cX2_knock 0 = .ok (.aload_n 0, 1) := dk_42 (dk_at dksX2_knock_0 0 rfl rfl)
theorem dX2_knock_1 : decode cX2_knock 1 = .ok (.iconst 0, 1) := dk_3 (dk_at dksX2_knock_0 1 rfl rfl)
theorem dX2_knock_2 : decode cX2_knock 2 = .ok (.putfield 29, 3) := dk_181 0 29 (dk_at dksX2_knock_0 2 rfl rfl)
theorem dX2_knock_5 : decode cX2_knock 5 = .ok (.aload_n 0, 1) := dk_42 (dk_at dksX2_knock_0 5 rfl rfl)
theorem dX2_knock_6 : decode cX2_knock 6 = .ok (.dup, 1) := dk_89 (dk_at dksX2_knock_0 6 rfl rfl)
theorem dX2_knock_7 : decode cX2_knock 7 = .ok (.getfield 205, 3) := dk_180 0 205 (dk_at dksX2_knock_0 7 rfl rfl)
theorem dX2_knock_10 : decode cX2_knock 10 = .ok (.iconst 1, 1) := dk_4 (dk_at dksX2_knock_0 10 rfl rfl)
theorem dX2_knock_11 : decode cX2_knock 11 = .ok (.iadd, 1) := dk_96 (dk_at dksX2_knock_0 11 rfl rfl)
theorem dX2_knock_12 : decode cX2_knock 12 = .ok (.putfield 205, 3) := dk_181 0 205 (dk_at dksX2_knock_0 12 rfl rfl)
theorem dX2_knock_15 : decode cX2_knock 15 = .ok (.aload_n 0, 1) := dk_42 (dk_at dksX2_knock_0 15 rfl rfl)
theorem dX2_knock_16 : decode cX2_knock 16 = .ok (.getfield 205, 3) := dk_180 0 205 (dk_at dksX2_knock_0 16 rfl rfl)
theorem dX2_knock_19 : decode cX2_knock 19 = .ok (.ireturn, 1) := dk_172 (dk_at dksX2_knock_0 19 rfl rfl)
abbrev cX2_isSound : ByteArray := prog_7_method_72_code
def yX2_isSound : MethodName := ⟨RX2, "isSound", "()Z"⟩
def dkwX2_isSound_0 : List UInt8 := [42, 3, 181, 0, 29, 4, 172]
abbrev dktX2_isSound_0 : List UInt8 := dkwX2_isSound_0 ++ []
theorem dksX2_isSound_0 : cX2_isSound.data.toList.drop 0 = dktX2_isSound_0 := by decide +kernel
theorem dX2_isSound_0 : decode cX2_isSound 0 = .ok (.aload_n 0, 1) := dk_42 (dk_at dksX2_isSound_0 0 rfl rfl)
theorem dX2_isSound_1 : decode cX2_isSound 1 = .ok (.iconst 0, 1) := dk_3 (dk_at dksX2_isSound_0 1 rfl rfl)
theorem dX2_isSound_2 : decode cX2_isSound 2 = .ok (.putfield 29, 3) := dk_181 0 29 (dk_at dksX2_isSound_0 2 rfl rfl)
theorem dX2_isSound_5 : decode cX2_isSound 5 = .ok (.iconst 1, 1) := dk_4 (dk_at dksX2_isSound_0 5 rfl rfl)
theorem dX2_isSound_6 : decode cX2_isSound 6 = .ok (.ireturn, 1) := dk_172 (dk_at dksX2_isSound_0 6 rfl rfl)
abbrev cX2_digest : ByteArray := prog_7_method_73_code
def yX2_digest : MethodName := ⟨RX2, "digest", "()J"⟩
def dkwX2_digest_11 : List UInt8 := [97, 20, 0, 210, 105, 42, 42, 180, 0, 20, 182, 0, 140, 133, 97, 64, 31, 20, 0, 210, 105, 10, 97, 173]
abbrev dktX2_digest_11 : List UInt8 := dkwX2_digest_11 ++ []
def dkwX2_digest_10 : List UInt8 := [180, 0, 39, 133, 97, 20, 0, 210, 105, 42, 180, 0, 42, 133, 97, 20, 0, 210, 105, 42, 180, 0, 205, 133]
abbrev dktX2_digest_10 : List UInt8 := dkwX2_digest_10 ++ dktX2_digest_11
def dkwX2_digest_9 : List UInt8 := [42, 182, 0, 227, 133, 97, 20, 0, 210, 105, 42, 182, 0, 230, 133, 97, 64, 31, 20, 0, 210, 105, 42]
abbrev dktX2_digest_9 : List UInt8 := dkwX2_digest_9 ++ dktX2_digest_10
def dkwX2_digest_8 : List UInt8 := [20, 0, 210, 105, 42, 182, 0, 221, 133, 97, 20, 0, 210, 105, 42, 182, 0, 224, 133, 97, 20, 0, 210, 105]
abbrev dktX2_digest_8 : List UInt8 := dkwX2_digest_8 ++ dktX2_digest_9
def dkwX2_digest_7 : List UInt8 := [133, 97, 20, 0, 210, 105, 42, 182, 0, 215, 133, 97, 20, 0, 210, 105, 42, 182, 0, 218, 133, 97, 64, 31]
abbrev dktX2_digest_7 : List UInt8 := dkwX2_digest_7 ++ dktX2_digest_8
def dkwX2_digest_6 : List UInt8 := [133, 97, 64, 132, 4, 1, 167, 255, 224, 132, 3, 1, 167, 255, 210, 31, 20, 0, 210, 105, 42, 182, 0, 212]
abbrev dktX2_digest_6 : List UInt8 := dkwX2_digest_6 ++ dktX2_digest_7
def dkwX2_digest_5 : List UInt8 := [42, 180, 0, 7, 162, 0, 29, 31, 20, 0, 210, 105, 42, 180, 0, 23, 16, 8, 29, 104, 21, 4, 96, 46]
abbrev dktX2_digest_5 : List UInt8 := dkwX2_digest_5 ++ dktX2_digest_6
def dkwX2_digest_4 : List UInt8 := [132, 4, 1, 167, 255, 206, 132, 3, 1, 167, 255, 175, 3, 62, 29, 7, 162, 0, 47, 3, 54, 4, 21, 4]
abbrev dktX2_digest_4 : List UInt8 := dkwX2_digest_4 ++ dktX2_digest_5
def dkwX2_digest_3 : List UInt8 := [96, 46, 133, 97, 20, 0, 210, 105, 42, 180, 0, 17, 16, 8, 21, 4, 104, 29, 96, 46, 133, 97, 64]
abbrev dktX2_digest_3 : List UInt8 := dkwX2_digest_3 ++ dktX2_digest_4
def dkwX2_digest_2 : List UInt8 := [21, 4, 42, 180, 0, 32, 162, 0, 47, 31, 20, 0, 210, 105, 42, 180, 0, 13, 16, 8, 21, 4, 104, 29]
abbrev dktX2_digest_2 : List UInt8 := dkwX2_digest_2 ++ dktX2_digest_3
def dkwX2_digest_1 : List UInt8 := [180, 0, 7, 162, 0, 79, 31, 20, 0, 210, 105, 42, 180, 0, 20, 29, 46, 133, 97, 64, 3, 54, 4]
abbrev dktX2_digest_1 : List UInt8 := dkwX2_digest_1 ++ dktX2_digest_2
def dkwX2_digest_0 : List UInt8 := [20, 0, 208, 42, 180, 0, 7, 133, 97, 20, 0, 210, 105, 42, 180, 0, 32, 133, 97, 64, 3, 62, 29, 42]
abbrev dktX2_digest_0 : List UInt8 := dkwX2_digest_0 ++ dktX2_digest_1
theorem dksX2_digest_0 : cX2_digest.data.toList.drop 0 = dktX2_digest_0 := by decide +kernel
theorem dksX2_digest_1 : cX2_digest.data.toList.drop 24 = dktX2_digest_1 := dk_seg dksX2_digest_0 24 rfl rfl
theorem dksX2_digest_2 : cX2_digest.data.toList.drop 47 = dktX2_digest_2 := dk_seg dksX2_digest_1 23 rfl rfl
theorem dksX2_digest_3 : cX2_digest.data.toList.drop 71 = dktX2_digest_3 := dk_seg dksX2_digest_2 24 rfl rfl
theorem dksX2_digest_4 : cX2_digest.data.toList.drop 94 = dktX2_digest_4 := dk_seg dksX2_digest_3 23 rfl rfl
theorem dksX2_digest_5 : cX2_digest.data.toList.drop 118 = dktX2_digest_5 := dk_seg dksX2_digest_4 24 rfl rfl
theorem dksX2_digest_6 : cX2_digest.data.toList.drop 142 = dktX2_digest_6 := dk_seg dksX2_digest_5 24 rfl rfl
theorem dksX2_digest_7 : cX2_digest.data.toList.drop 166 = dktX2_digest_7 := dk_seg dksX2_digest_6 24 rfl rfl
theorem dksX2_digest_8 : cX2_digest.data.toList.drop 190 = dktX2_digest_8 := dk_seg dksX2_digest_7 24 rfl rfl
theorem dksX2_digest_9 : cX2_digest.data.toList.drop 214 = dktX2_digest_9 := dk_seg dksX2_digest_8 24 rfl rfl
theorem dksX2_digest_10 : cX2_digest.data.toList.drop 237 = dktX2_digest_10 := dk_seg dksX2_digest_9 23 rfl rfl
theorem dksX2_digest_11 : cX2_digest.data.toList.drop 261 = dktX2_digest_11 := dk_seg dksX2_digest_10 24 rfl rfl
theorem dX2_digest_0 : decode cX2_digest 0 = .ok (.ldc2_w 208, 3) := dk_20 0 208 (dk_at dksX2_digest_0 0 rfl rfl)
theorem dX2_digest_3 : decode cX2_digest 3 = .ok (.aload_n 0, 1) := dk_42 (dk_at dksX2_digest_0 3 rfl rfl)
theorem dX2_digest_4 : decode cX2_digest 4 = .ok (.getfield 7, 3) := dk_180 0 7 (dk_at dksX2_digest_0 4 rfl rfl)
theorem dX2_digest_7 : decode cX2_digest 7 = .ok (.i2l, 1) := dk_133 (dk_at dksX2_digest_0 7 rfl rfl)
theorem dX2_digest_8 : decode cX2_digest 8 = .ok (.ladd, 1) := dk_97 (dk_at dksX2_digest_0 8 rfl rfl)
theorem dX2_digest_9 : decode cX2_digest 9 = .ok (.ldc2_w 210, 3) := dk_20 0 210 (dk_at dksX2_digest_0 9 rfl rfl)
theorem dX2_digest_12 : decode cX2_digest 12 = .ok (.lmul, 1) := dk_105 (dk_at dksX2_digest_0 12 rfl rfl)
theorem dX2_digest_13 : decode cX2_digest 13 = .ok (.aload_n 0, 1) := dk_42 (dk_at dksX2_digest_0 13 rfl rfl)
theorem dX2_digest_14 : decode cX2_digest 14 = .ok (.getfield 32, 3) := dk_180 0 32 (dk_at dksX2_digest_0 14 rfl rfl)
theorem dX2_digest_17 : decode cX2_digest 17 = .ok (.i2l, 1) := dk_133 (dk_at dksX2_digest_0 17 rfl rfl)
theorem dX2_digest_18 : decode cX2_digest 18 = .ok (.ladd, 1) := dk_97 (dk_at dksX2_digest_0 18 rfl rfl)
theorem dX2_digest_19 : decode cX2_digest 19 = .ok (.lstore_n 1, 1) := dk_64 (dk_at dksX2_digest_0 19 rfl rfl)
theorem dX2_digest_20 : decode cX2_digest 20 = .ok (.iconst 0, 1) := dk_3 (dk_at dksX2_digest_0 20 rfl rfl)
theorem dX2_digest_21 : decode cX2_digest 21 = .ok (.istore_n 3, 1) := dk_62 (dk_at dksX2_digest_0 21 rfl rfl)
theorem dX2_digest_22 : decode cX2_digest 22 = .ok (.iload_n 3, 1) := dk_29 (dk_at dksX2_digest_0 22 rfl rfl)
theorem dX2_digest_23 : decode cX2_digest 23 = .ok (.aload_n 0, 1) := dk_42 (dk_at dksX2_digest_0 23 rfl rfl)
theorem dX2_digest_24 : decode cX2_digest 24 = .ok (.getfield 7, 3) := dk_180 0 7 (dk_at dksX2_digest_1 0 rfl rfl)
theorem dX2_digest_27 : decode cX2_digest 27 = .ok (.if_icmp .ge 79, 3) := dk_162 0 79 (dk_at dksX2_digest_1 3 rfl rfl)
theorem dX2_digest_30 : decode cX2_digest 30 = .ok (.lload_n 1, 1) := dk_31 (dk_at dksX2_digest_1 6 rfl rfl)
theorem dX2_digest_31 : decode cX2_digest 31 = .ok (.ldc2_w 210, 3) := dk_20 0 210 (dk_at dksX2_digest_1 7 rfl rfl)
theorem dX2_digest_34 : decode cX2_digest 34 = .ok (.lmul, 1) := dk_105 (dk_at dksX2_digest_1 10 rfl rfl)
theorem dX2_digest_35 : decode cX2_digest 35 = .ok (.aload_n 0, 1) := dk_42 (dk_at dksX2_digest_1 11 rfl rfl)
theorem dX2_digest_36 : decode cX2_digest 36 = .ok (.getfield 20, 3) := dk_180 0 20 (dk_at dksX2_digest_1 12 rfl rfl)
theorem dX2_digest_39 : decode cX2_digest 39 = .ok (.iload_n 3, 1) := dk_29 (dk_at dksX2_digest_1 15 rfl rfl)
theorem dX2_digest_40 : decode cX2_digest 40 = .ok (.iaload, 1) := dk_46 (dk_at dksX2_digest_1 16 rfl rfl)
theorem dX2_digest_41 : decode cX2_digest 41 = .ok (.i2l, 1) := dk_133 (dk_at dksX2_digest_1 17 rfl rfl)
theorem dX2_digest_42 : decode cX2_digest 42 = .ok (.ladd, 1) := dk_97 (dk_at dksX2_digest_1 18 rfl rfl)
theorem dX2_digest_43 : decode cX2_digest 43 = .ok (.lstore_n 1, 1) := dk_64 (dk_at dksX2_digest_1 19 rfl rfl)
theorem dX2_digest_44 : decode cX2_digest 44 = .ok (.iconst 0, 1) := dk_3 (dk_at dksX2_digest_1 20 rfl rfl)
theorem dX2_digest_45 : decode cX2_digest 45 = .ok (.istore 4, 2) := dk_54 4 (dk_at dksX2_digest_1 21 rfl rfl)
theorem dX2_digest_47 : decode cX2_digest 47 = .ok (.iload 4, 2) := dk_21 4 (dk_at dksX2_digest_2 0 rfl rfl)
theorem dX2_digest_49 : decode cX2_digest 49 = .ok (.aload_n 0, 1) := dk_42 (dk_at dksX2_digest_2 2 rfl rfl)
theorem dX2_digest_50 : decode cX2_digest 50 = .ok (.getfield 32, 3) := dk_180 0 32 (dk_at dksX2_digest_2 3 rfl rfl)
theorem dX2_digest_53 : decode cX2_digest 53 = .ok (.if_icmp .ge 47, 3) := dk_162 0 47 (dk_at dksX2_digest_2 6 rfl rfl)
theorem dX2_digest_56 : decode cX2_digest 56 = .ok (.lload_n 1, 1) := dk_31 (dk_at dksX2_digest_2 9 rfl rfl)
theorem dX2_digest_57 : decode cX2_digest 57 = .ok (.ldc2_w 210, 3) := dk_20 0 210 (dk_at dksX2_digest_2 10 rfl rfl)
theorem dX2_digest_60 : decode cX2_digest 60 = .ok (.lmul, 1) := dk_105 (dk_at dksX2_digest_2 13 rfl rfl)
theorem dX2_digest_61 : decode cX2_digest 61 = .ok (.aload_n 0, 1) := dk_42 (dk_at dksX2_digest_2 14 rfl rfl)
theorem dX2_digest_62 : decode cX2_digest 62 = .ok (.getfield 13, 3) := dk_180 0 13 (dk_at dksX2_digest_2 15 rfl rfl)
theorem dX2_digest_65 : decode cX2_digest 65 = .ok (.bipush 8, 2) := dk_16 8 (dk_at dksX2_digest_2 18 rfl rfl)
theorem dX2_digest_67 : decode cX2_digest 67 = .ok (.iload 4, 2) := dk_21 4 (dk_at dksX2_digest_2 20 rfl rfl)
theorem dX2_digest_69 : decode cX2_digest 69 = .ok (.imul, 1) := dk_104 (dk_at dksX2_digest_2 22 rfl rfl)
theorem dX2_digest_70 : decode cX2_digest 70 = .ok (.iload_n 3, 1) := dk_29 (dk_at dksX2_digest_2 23 rfl rfl)
theorem dX2_digest_71 : decode cX2_digest 71 = .ok (.iadd, 1) := dk_96 (dk_at dksX2_digest_3 0 rfl rfl)
theorem dX2_digest_72 : decode cX2_digest 72 = .ok (.iaload, 1) := dk_46 (dk_at dksX2_digest_3 1 rfl rfl)
theorem dX2_digest_73 : decode cX2_digest 73 = .ok (.i2l, 1) := dk_133 (dk_at dksX2_digest_3 2 rfl rfl)
theorem dX2_digest_74 : decode cX2_digest 74 = .ok (.ladd, 1) := dk_97 (dk_at dksX2_digest_3 3 rfl rfl)
theorem dX2_digest_75 : decode cX2_digest 75 = .ok (.ldc2_w 210, 3) := dk_20 0 210 (dk_at dksX2_digest_3 4 rfl rfl)
theorem dX2_digest_78 : decode cX2_digest 78 = .ok (.lmul, 1) := dk_105 (dk_at dksX2_digest_3 7 rfl rfl)
theorem dX2_digest_79 : decode cX2_digest 79 = .ok (.aload_n 0, 1) := dk_42 (dk_at dksX2_digest_3 8 rfl rfl)
theorem dX2_digest_80 : decode cX2_digest 80 = .ok (.getfield 17, 3) := dk_180 0 17 (dk_at dksX2_digest_3 9 rfl rfl)
theorem dX2_digest_83 : decode cX2_digest 83 = .ok (.bipush 8, 2) := dk_16 8 (dk_at dksX2_digest_3 12 rfl rfl)
theorem dX2_digest_85 : decode cX2_digest 85 = .ok (.iload 4, 2) := dk_21 4 (dk_at dksX2_digest_3 14 rfl rfl)
theorem dX2_digest_87 : decode cX2_digest 87 = .ok (.imul, 1) := dk_104 (dk_at dksX2_digest_3 16 rfl rfl)
theorem dX2_digest_88 : decode cX2_digest 88 = .ok (.iload_n 3, 1) := dk_29 (dk_at dksX2_digest_3 17 rfl rfl)
theorem dX2_digest_89 : decode cX2_digest 89 = .ok (.iadd, 1) := dk_96 (dk_at dksX2_digest_3 18 rfl rfl)
theorem dX2_digest_90 : decode cX2_digest 90 = .ok (.iaload, 1) := dk_46 (dk_at dksX2_digest_3 19 rfl rfl)
theorem dX2_digest_91 : decode cX2_digest 91 = .ok (.i2l, 1) := dk_133 (dk_at dksX2_digest_3 20 rfl rfl)
theorem dX2_digest_92 : decode cX2_digest 92 = .ok (.ladd, 1) := dk_97 (dk_at dksX2_digest_3 21 rfl rfl)
theorem dX2_digest_93 : decode cX2_digest 93 = .ok (.lstore_n 1, 1) := dk_64 (dk_at dksX2_digest_3 22 rfl rfl)
theorem dX2_digest_94 : decode cX2_digest 94 = .ok (.iinc 4 1, 3) := dk_132 4 1 (dk_at dksX2_digest_4 0 rfl rfl)
theorem dX2_digest_97 : decode cX2_digest 97 = .ok (.goto (-50), 3) := dk_167 255 206 (dk_at dksX2_digest_4 3 rfl rfl)
theorem dX2_digest_100 : decode cX2_digest 100 = .ok (.iinc 3 1, 3) := dk_132 3 1 (dk_at dksX2_digest_4 6 rfl rfl)
theorem dX2_digest_103 : decode cX2_digest 103 = .ok (.goto (-81), 3) := dk_167 255 175 (dk_at dksX2_digest_4 9 rfl rfl)
theorem dX2_digest_106 : decode cX2_digest 106 = .ok (.iconst 0, 1) := dk_3 (dk_at dksX2_digest_4 12 rfl rfl)
theorem dX2_digest_107 : decode cX2_digest 107 = .ok (.istore_n 3, 1) := dk_62 (dk_at dksX2_digest_4 13 rfl rfl)
theorem dX2_digest_108 : decode cX2_digest 108 = .ok (.iload_n 3, 1) := dk_29 (dk_at dksX2_digest_4 14 rfl rfl)
theorem dX2_digest_109 : decode cX2_digest 109 = .ok (.iconst 4, 1) := dk_7 (dk_at dksX2_digest_4 15 rfl rfl)
theorem dX2_digest_110 : decode cX2_digest 110 = .ok (.if_icmp .ge 47, 3) := dk_162 0 47 (dk_at dksX2_digest_4 16 rfl rfl)
theorem dX2_digest_113 : decode cX2_digest 113 = .ok (.iconst 0, 1) := dk_3 (dk_at dksX2_digest_4 19 rfl rfl)
theorem dX2_digest_114 : decode cX2_digest 114 = .ok (.istore 4, 2) := dk_54 4 (dk_at dksX2_digest_4 20 rfl rfl)
theorem dX2_digest_116 : decode cX2_digest 116 = .ok (.iload 4, 2) := dk_21 4 (dk_at dksX2_digest_4 22 rfl rfl)
theorem dX2_digest_118 : decode cX2_digest 118 = .ok (.aload_n 0, 1) := dk_42 (dk_at dksX2_digest_5 0 rfl rfl)
theorem dX2_digest_119 : decode cX2_digest 119 = .ok (.getfield 7, 3) := dk_180 0 7 (dk_at dksX2_digest_5 1 rfl rfl)
theorem dX2_digest_122 : decode cX2_digest 122 = .ok (.if_icmp .ge 29, 3) := dk_162 0 29 (dk_at dksX2_digest_5 4 rfl rfl)
theorem dX2_digest_125 : decode cX2_digest 125 = .ok (.lload_n 1, 1) := dk_31 (dk_at dksX2_digest_5 7 rfl rfl)
theorem dX2_digest_126 : decode cX2_digest 126 = .ok (.ldc2_w 210, 3) := dk_20 0 210 (dk_at dksX2_digest_5 8 rfl rfl)
theorem dX2_digest_129 : decode cX2_digest 129 = .ok (.lmul, 1) := dk_105 (dk_at dksX2_digest_5 11 rfl rfl)
theorem dX2_digest_130 : decode cX2_digest 130 = .ok (.aload_n 0, 1) := dk_42 (dk_at dksX2_digest_5 12 rfl rfl)
theorem dX2_digest_131 : decode cX2_digest 131 = .ok (.getfield 23, 3) := dk_180 0 23 (dk_at dksX2_digest_5 13 rfl rfl)
theorem dX2_digest_134 : decode cX2_digest 134 = .ok (.bipush 8, 2) := dk_16 8 (dk_at dksX2_digest_5 16 rfl rfl)
theorem dX2_digest_136 : decode cX2_digest 136 = .ok (.iload_n 3, 1) := dk_29 (dk_at dksX2_digest_5 18 rfl rfl)
theorem dX2_digest_137 : decode cX2_digest 137 = .ok (.imul, 1) := dk_104 (dk_at dksX2_digest_5 19 rfl rfl)
theorem dX2_digest_138 : decode cX2_digest 138 = .ok (.iload 4, 2) := dk_21 4 (dk_at dksX2_digest_5 20 rfl rfl)
theorem dX2_digest_140 : decode cX2_digest 140 = .ok (.iadd, 1) := dk_96 (dk_at dksX2_digest_5 22 rfl rfl)
theorem dX2_digest_141 : decode cX2_digest 141 = .ok (.iaload, 1) := dk_46 (dk_at dksX2_digest_5 23 rfl rfl)
theorem dX2_digest_142 : decode cX2_digest 142 = .ok (.i2l, 1) := dk_133 (dk_at dksX2_digest_6 0 rfl rfl)
theorem dX2_digest_143 : decode cX2_digest 143 = .ok (.ladd, 1) := dk_97 (dk_at dksX2_digest_6 1 rfl rfl)
theorem dX2_digest_144 : decode cX2_digest 144 = .ok (.lstore_n 1, 1) := dk_64 (dk_at dksX2_digest_6 2 rfl rfl)
theorem dX2_digest_145 : decode cX2_digest 145 = .ok (.iinc 4 1, 3) := dk_132 4 1 (dk_at dksX2_digest_6 3 rfl rfl)
theorem dX2_digest_148 : decode cX2_digest 148 = .ok (.goto (-32), 3) := dk_167 255 224 (dk_at dksX2_digest_6 6 rfl rfl)
theorem dX2_digest_151 : decode cX2_digest 151 = .ok (.iinc 3 1, 3) := dk_132 3 1 (dk_at dksX2_digest_6 9 rfl rfl)
theorem dX2_digest_154 : decode cX2_digest 154 = .ok (.goto (-46), 3) := dk_167 255 210 (dk_at dksX2_digest_6 12 rfl rfl)
theorem dX2_digest_157 : decode cX2_digest 157 = .ok (.lload_n 1, 1) := dk_31 (dk_at dksX2_digest_6 15 rfl rfl)
theorem dX2_digest_158 : decode cX2_digest 158 = .ok (.ldc2_w 210, 3) := dk_20 0 210 (dk_at dksX2_digest_6 16 rfl rfl)
theorem dX2_digest_161 : decode cX2_digest 161 = .ok (.lmul, 1) := dk_105 (dk_at dksX2_digest_6 19 rfl rfl)
theorem dX2_digest_162 : decode cX2_digest 162 = .ok (.aload_n 0, 1) := dk_42 (dk_at dksX2_digest_6 20 rfl rfl)
theorem dX2_digest_163 : decode cX2_digest 163 = .ok (.invokevirtual 212, 3) := dk_182 0 212 (dk_at dksX2_digest_6 21 rfl rfl)
theorem dX2_digest_166 : decode cX2_digest 166 = .ok (.i2l, 1) := dk_133 (dk_at dksX2_digest_7 0 rfl rfl)
theorem dX2_digest_167 : decode cX2_digest 167 = .ok (.ladd, 1) := dk_97 (dk_at dksX2_digest_7 1 rfl rfl)
theorem dX2_digest_168 : decode cX2_digest 168 = .ok (.ldc2_w 210, 3) := dk_20 0 210 (dk_at dksX2_digest_7 2 rfl rfl)
theorem dX2_digest_171 : decode cX2_digest 171 = .ok (.lmul, 1) := dk_105 (dk_at dksX2_digest_7 5 rfl rfl)
theorem dX2_digest_172 : decode cX2_digest 172 = .ok (.aload_n 0, 1) := dk_42 (dk_at dksX2_digest_7 6 rfl rfl)
theorem dX2_digest_173 : decode cX2_digest 173 = .ok (.invokevirtual 215, 3) := dk_182 0 215 (dk_at dksX2_digest_7 7 rfl rfl)
theorem dX2_digest_176 : decode cX2_digest 176 = .ok (.i2l, 1) := dk_133 (dk_at dksX2_digest_7 10 rfl rfl)
theorem dX2_digest_177 : decode cX2_digest 177 = .ok (.ladd, 1) := dk_97 (dk_at dksX2_digest_7 11 rfl rfl)
theorem dX2_digest_178 : decode cX2_digest 178 = .ok (.ldc2_w 210, 3) := dk_20 0 210 (dk_at dksX2_digest_7 12 rfl rfl)
theorem dX2_digest_181 : decode cX2_digest 181 = .ok (.lmul, 1) := dk_105 (dk_at dksX2_digest_7 15 rfl rfl)
theorem dX2_digest_182 : decode cX2_digest 182 = .ok (.aload_n 0, 1) := dk_42 (dk_at dksX2_digest_7 16 rfl rfl)
theorem dX2_digest_183 : decode cX2_digest 183 = .ok (.invokevirtual 218, 3) := dk_182 0 218 (dk_at dksX2_digest_7 17 rfl rfl)
theorem dX2_digest_186 : decode cX2_digest 186 = .ok (.i2l, 1) := dk_133 (dk_at dksX2_digest_7 20 rfl rfl)
theorem dX2_digest_187 : decode cX2_digest 187 = .ok (.ladd, 1) := dk_97 (dk_at dksX2_digest_7 21 rfl rfl)
theorem dX2_digest_188 : decode cX2_digest 188 = .ok (.lstore_n 1, 1) := dk_64 (dk_at dksX2_digest_7 22 rfl rfl)
theorem dX2_digest_189 : decode cX2_digest 189 = .ok (.lload_n 1, 1) := dk_31 (dk_at dksX2_digest_7 23 rfl rfl)
theorem dX2_digest_190 : decode cX2_digest 190 = .ok (.ldc2_w 210, 3) := dk_20 0 210 (dk_at dksX2_digest_8 0 rfl rfl)
theorem dX2_digest_193 : decode cX2_digest 193 = .ok (.lmul, 1) := dk_105 (dk_at dksX2_digest_8 3 rfl rfl)
theorem dX2_digest_194 : decode cX2_digest 194 = .ok (.aload_n 0, 1) := dk_42 (dk_at dksX2_digest_8 4 rfl rfl)
theorem dX2_digest_195 : decode cX2_digest 195 = .ok (.invokevirtual 221, 3) := dk_182 0 221 (dk_at dksX2_digest_8 5 rfl rfl)
theorem dX2_digest_198 : decode cX2_digest 198 = .ok (.i2l, 1) := dk_133 (dk_at dksX2_digest_8 8 rfl rfl)
theorem dX2_digest_199 : decode cX2_digest 199 = .ok (.ladd, 1) := dk_97 (dk_at dksX2_digest_8 9 rfl rfl)
theorem dX2_digest_200 : decode cX2_digest 200 = .ok (.ldc2_w 210, 3) := dk_20 0 210 (dk_at dksX2_digest_8 10 rfl rfl)
theorem dX2_digest_203 : decode cX2_digest 203 = .ok (.lmul, 1) := dk_105 (dk_at dksX2_digest_8 13 rfl rfl)
theorem dX2_digest_204 : decode cX2_digest 204 = .ok (.aload_n 0, 1) := dk_42 (dk_at dksX2_digest_8 14 rfl rfl)
theorem dX2_digest_205 : decode cX2_digest 205 = .ok (.invokevirtual 224, 3) := dk_182 0 224 (dk_at dksX2_digest_8 15 rfl rfl)
theorem dX2_digest_208 : decode cX2_digest 208 = .ok (.i2l, 1) := dk_133 (dk_at dksX2_digest_8 18 rfl rfl)
theorem dX2_digest_209 : decode cX2_digest 209 = .ok (.ladd, 1) := dk_97 (dk_at dksX2_digest_8 19 rfl rfl)
theorem dX2_digest_210 : decode cX2_digest 210 = .ok (.ldc2_w 210, 3) := dk_20 0 210 (dk_at dksX2_digest_8 20 rfl rfl)
theorem dX2_digest_213 : decode cX2_digest 213 = .ok (.lmul, 1) := dk_105 (dk_at dksX2_digest_8 23 rfl rfl)
theorem dX2_digest_214 : decode cX2_digest 214 = .ok (.aload_n 0, 1) := dk_42 (dk_at dksX2_digest_9 0 rfl rfl)
theorem dX2_digest_215 : decode cX2_digest 215 = .ok (.invokevirtual 227, 3) := dk_182 0 227 (dk_at dksX2_digest_9 1 rfl rfl)
theorem dX2_digest_218 : decode cX2_digest 218 = .ok (.i2l, 1) := dk_133 (dk_at dksX2_digest_9 4 rfl rfl)
theorem dX2_digest_219 : decode cX2_digest 219 = .ok (.ladd, 1) := dk_97 (dk_at dksX2_digest_9 5 rfl rfl)
theorem dX2_digest_220 : decode cX2_digest 220 = .ok (.ldc2_w 210, 3) := dk_20 0 210 (dk_at dksX2_digest_9 6 rfl rfl)
theorem dX2_digest_223 : decode cX2_digest 223 = .ok (.lmul, 1) := dk_105 (dk_at dksX2_digest_9 9 rfl rfl)
theorem dX2_digest_224 : decode cX2_digest 224 = .ok (.aload_n 0, 1) := dk_42 (dk_at dksX2_digest_9 10 rfl rfl)
theorem dX2_digest_225 : decode cX2_digest 225 = .ok (.invokevirtual 230, 3) := dk_182 0 230 (dk_at dksX2_digest_9 11 rfl rfl)
theorem dX2_digest_228 : decode cX2_digest 228 = .ok (.i2l, 1) := dk_133 (dk_at dksX2_digest_9 14 rfl rfl)
theorem dX2_digest_229 : decode cX2_digest 229 = .ok (.ladd, 1) := dk_97 (dk_at dksX2_digest_9 15 rfl rfl)
theorem dX2_digest_230 : decode cX2_digest 230 = .ok (.lstore_n 1, 1) := dk_64 (dk_at dksX2_digest_9 16 rfl rfl)
theorem dX2_digest_231 : decode cX2_digest 231 = .ok (.lload_n 1, 1) := dk_31 (dk_at dksX2_digest_9 17 rfl rfl)
theorem dX2_digest_232 : decode cX2_digest 232 = .ok (.ldc2_w 210, 3) := dk_20 0 210 (dk_at dksX2_digest_9 18 rfl rfl)
theorem dX2_digest_235 : decode cX2_digest 235 = .ok (.lmul, 1) := dk_105 (dk_at dksX2_digest_9 21 rfl rfl)
theorem dX2_digest_236 : decode cX2_digest 236 = .ok (.aload_n 0, 1) := dk_42 (dk_at dksX2_digest_9 22 rfl rfl)
theorem dX2_digest_237 : decode cX2_digest 237 = .ok (.getfield 39, 3) := dk_180 0 39 (dk_at dksX2_digest_10 0 rfl rfl)
theorem dX2_digest_240 : decode cX2_digest 240 = .ok (.i2l, 1) := dk_133 (dk_at dksX2_digest_10 3 rfl rfl)
theorem dX2_digest_241 : decode cX2_digest 241 = .ok (.ladd, 1) := dk_97 (dk_at dksX2_digest_10 4 rfl rfl)
theorem dX2_digest_242 : decode cX2_digest 242 = .ok (.ldc2_w 210, 3) := dk_20 0 210 (dk_at dksX2_digest_10 5 rfl rfl)
theorem dX2_digest_245 : decode cX2_digest 245 = .ok (.lmul, 1) := dk_105 (dk_at dksX2_digest_10 8 rfl rfl)
theorem dX2_digest_246 : decode cX2_digest 246 = .ok (.aload_n 0, 1) := dk_42 (dk_at dksX2_digest_10 9 rfl rfl)
theorem dX2_digest_247 : decode cX2_digest 247 = .ok (.getfield 42, 3) := dk_180 0 42 (dk_at dksX2_digest_10 10 rfl rfl)
theorem dX2_digest_250 : decode cX2_digest 250 = .ok (.i2l, 1) := dk_133 (dk_at dksX2_digest_10 13 rfl rfl)
theorem dX2_digest_251 : decode cX2_digest 251 = .ok (.ladd, 1) := dk_97 (dk_at dksX2_digest_10 14 rfl rfl)
theorem dX2_digest_252 : decode cX2_digest 252 = .ok (.ldc2_w 210, 3) := dk_20 0 210 (dk_at dksX2_digest_10 15 rfl rfl)
theorem dX2_digest_255 : decode cX2_digest 255 = .ok (.lmul, 1) := dk_105 (dk_at dksX2_digest_10 18 rfl rfl)
theorem dX2_digest_256 : decode cX2_digest 256 = .ok (.aload_n 0, 1) := dk_42 (dk_at dksX2_digest_10 19 rfl rfl)
theorem dX2_digest_257 : decode cX2_digest 257 = .ok (.getfield 205, 3) := dk_180 0 205 (dk_at dksX2_digest_10 20 rfl rfl)
theorem dX2_digest_260 : decode cX2_digest 260 = .ok (.i2l, 1) := dk_133 (dk_at dksX2_digest_10 23 rfl rfl)
theorem dX2_digest_261 : decode cX2_digest 261 = .ok (.ladd, 1) := dk_97 (dk_at dksX2_digest_11 0 rfl rfl)
theorem dX2_digest_262 : decode cX2_digest 262 = .ok (.ldc2_w 210, 3) := dk_20 0 210 (dk_at dksX2_digest_11 1 rfl rfl)
theorem dX2_digest_265 : decode cX2_digest 265 = .ok (.lmul, 1) := dk_105 (dk_at dksX2_digest_11 4 rfl rfl)
theorem dX2_digest_266 : decode cX2_digest 266 = .ok (.aload_n 0, 1) := dk_42 (dk_at dksX2_digest_11 5 rfl rfl)
theorem dX2_digest_267 : decode cX2_digest 267 = .ok (.aload_n 0, 1) := dk_42 (dk_at dksX2_digest_11 6 rfl rfl)
theorem dX2_digest_268 : decode cX2_digest 268 = .ok (.getfield 20, 3) := dk_180 0 20 (dk_at dksX2_digest_11 7 rfl rfl)
theorem dX2_digest_271 : decode cX2_digest 271 = .ok (.invokevirtual 140, 3) := dk_182 0 140 (dk_at dksX2_digest_11 10 rfl rfl)
theorem dX2_digest_274 : decode cX2_digest 274 = .ok (.i2l, 1) := dk_133 (dk_at dksX2_digest_11 13 rfl rfl)
theorem dX2_digest_275 : decode cX2_digest 275 = .ok (.ladd, 1) := dk_97 (dk_at dksX2_digest_11 14 rfl rfl)
theorem dX2_digest_276 : decode cX2_digest 276 = .ok (.lstore_n 1, 1) := dk_64 (dk_at dksX2_digest_11 15 rfl rfl)
theorem dX2_digest_277 : decode cX2_digest 277 = .ok (.lload_n 1, 1) := dk_31 (dk_at dksX2_digest_11 16 rfl rfl)
theorem dX2_digest_278 : decode cX2_digest 278 = .ok (.ldc2_w 210, 3) := dk_20 0 210 (dk_at dksX2_digest_11 17 rfl rfl)
theorem dX2_digest_281 : decode cX2_digest 281 = .ok (.lmul, 1) := dk_105 (dk_at dksX2_digest_11 20 rfl rfl)
theorem dX2_digest_282 : decode cX2_digest 282 = .ok (.lconst 1, 1) := dk_10 (dk_at dksX2_digest_11 21 rfl rfl)
theorem dX2_digest_283 : decode cX2_digest 283 = .ok (.ladd, 1) := dk_97 (dk_at dksX2_digest_11 22 rfl rfl)
theorem dX2_digest_284 : decode cX2_digest 284 = .ok (.lreturn, 1) := dk_173 (dk_at dksX2_digest_11 23 rfl rfl)
theorem q78 : (Jvm.Cond.initialized "PebblegateModel") ∈ lw_all := lw_g (lw_at lw_m1 7 rfl) rfl
theorem q273 : (Jvm.Cond.selects "PebblegateModel" ({ cls := "java/lang/Object", name := "getClass", desc := "()Ljava/lang/Class;" } : Jvm.MethodName) ({ cls := "java/lang/Object", name := "getClass", desc := "()Ljava/lang/Class;" } : Jvm.MethodName)) ∈ lw_all := lw_g (lw_at lw_m1 202 rfl) rfl
theorem q1821 : (Jvm.Cond.instantiable "PebblegateModel" (12 : Nat)) ∈ lw_all := lw_g (lw_at lw_m8 70 rfl) rfl
theorem q1823 : (Jvm.Cond.instanceMethod ({ cls := "PebblegateModel", name := "<init>", desc := "()V" } : Jvm.MethodName)) ∈ lw_all := lw_g (lw_at lw_m8 72 rfl) rfl
theorem q1824 : (Jvm.Cond.code ({ cls := "PebblegateModel", name := "<init>", desc := "()V" } : Jvm.MethodName) prog_7_method_1_code (1 : Nat) (Option.none : Option Jvm.ClassFile.FieldType)) ∈ lw_all := lw_g (lw_at lw_m8 73 rfl) rfl
theorem q1825 : (Jvm.Cond.methodLink "PebblegateModel" (1 : Nat) ({ cls := "java/lang/Object", name := "<init>", desc := "()V" } : Jvm.MethodName)) ∈ lw_all := lw_g (lw_at lw_m8 74 rfl) rfl
theorem q1826 : (Jvm.Cond.fieldLink "PebblegateModel" (7 : Nat) "PebblegateModel" "places" "I") ∈ lw_all := lw_g (lw_at lw_m8 75 rfl) rfl
theorem q1827 : (Jvm.Cond.fieldLink "PebblegateModel" (32 : Nat) "PebblegateModel" "steps" "I") ∈ lw_all := lw_g (lw_at lw_m8 76 rfl) rfl
theorem q1828 : (Jvm.Cond.fieldLink "PebblegateModel" (13 : Nat) "PebblegateModel" "takes" "[I") ∈ lw_all := lw_g (lw_at lw_m8 77 rfl) rfl
theorem q1829 : (Jvm.Cond.fieldLink "PebblegateModel" (17 : Nat) "PebblegateModel" "lays" "[I") ∈ lw_all := lw_g (lw_at lw_m8 78 rfl) rfl
theorem q1830 : (Jvm.Cond.fieldLink "PebblegateModel" (20 : Nat) "PebblegateModel" "marks" "[I") ∈ lw_all := lw_g (lw_at lw_m8 79 rfl) rfl
theorem q1831 : (Jvm.Cond.fieldLink "PebblegateModel" (23 : Nat) "PebblegateModel" "kept" "[I") ∈ lw_all := lw_g (lw_at lw_m8 80 rfl) rfl
theorem q1832 : (Jvm.Cond.fieldLink "PebblegateModel" (26 : Nat) "PebblegateModel" "work" "[I") ∈ lw_all := lw_g (lw_at lw_m8 81 rfl) rfl
theorem q1833 : (Jvm.Cond.fieldLink "PebblegateModel" (39 : Nat) "PebblegateModel" "done" "I") ∈ lw_all := lw_g (lw_at lw_m8 82 rfl) rfl
theorem q1834 : (Jvm.Cond.fieldLink "PebblegateModel" (42 : Nat) "PebblegateModel" "refused" "I") ∈ lw_all := lw_g (lw_at lw_m8 83 rfl) rfl
theorem q1835 : (Jvm.Cond.fieldLink "PebblegateModel" (205 : Nat) "PebblegateModel" "knocks" "I") ∈ lw_all := lw_g (lw_at lw_m8 84 rfl) rfl
theorem q1836 : (Jvm.Cond.fieldLink "PebblegateModel" (29 : Nat) "PebblegateModel" "thrown" "I") ∈ lw_all := lw_g (lw_at lw_m8 85 rfl) rfl
theorem q1837 : (Jvm.Cond.fieldLink "PebblegateModel" (68 : Nat) "PebblegateModel" "found" "I") ∈ lw_all := lw_g (lw_at lw_m8 86 rfl) rfl
theorem q1838 : (Jvm.Cond.lays "PebblegateModel" "PebblegateModel" "places" "I") ∈ lw_all := lw_g (lw_at lw_m8 87 rfl) rfl
theorem q1839 : (Jvm.Cond.soleField "PebblegateModel" "places") ∈ lw_all := lw_g (lw_at lw_m8 88 rfl) rfl
theorem q1840 : (Jvm.Cond.lays "PebblegateModel" "PebblegateModel" "steps" "I") ∈ lw_all := lw_g (lw_at lw_m8 89 rfl) rfl
theorem q1841 : (Jvm.Cond.soleField "PebblegateModel" "steps") ∈ lw_all := lw_g (lw_at lw_m8 90 rfl) rfl
theorem q1842 : (Jvm.Cond.laysFinal "PebblegateModel" "PebblegateModel" "takes" "[I") ∈ lw_all := lw_g (lw_at lw_m8 91 rfl) rfl
theorem q1843 : (Jvm.Cond.soleField "PebblegateModel" "takes") ∈ lw_all := lw_g (lw_at lw_m8 92 rfl) rfl
theorem q1844 : (Jvm.Cond.laysFinal "PebblegateModel" "PebblegateModel" "lays" "[I") ∈ lw_all := lw_g (lw_at lw_m8 93 rfl) rfl
theorem q1845 : (Jvm.Cond.soleField "PebblegateModel" "lays") ∈ lw_all := lw_g (lw_at lw_m8 94 rfl) rfl
theorem q1846 : (Jvm.Cond.laysFinal "PebblegateModel" "PebblegateModel" "marks" "[I") ∈ lw_all := lw_g (lw_at lw_m8 95 rfl) rfl
theorem q1847 : (Jvm.Cond.soleField "PebblegateModel" "marks") ∈ lw_all := lw_g (lw_at lw_m8 96 rfl) rfl
theorem q1848 : (Jvm.Cond.laysFinal "PebblegateModel" "PebblegateModel" "kept" "[I") ∈ lw_all := lw_g (lw_at lw_m8 97 rfl) rfl
theorem q1849 : (Jvm.Cond.soleField "PebblegateModel" "kept") ∈ lw_all := lw_g (lw_at lw_m8 98 rfl) rfl
theorem q1850 : (Jvm.Cond.laysFinal "PebblegateModel" "PebblegateModel" "work" "[I") ∈ lw_all := lw_g (lw_at lw_m8 99 rfl) rfl
theorem q1851 : (Jvm.Cond.soleField "PebblegateModel" "work") ∈ lw_all := lw_g (lw_at lw_m8 100 rfl) rfl
theorem q1852 : (Jvm.Cond.lays "PebblegateModel" "PebblegateModel" "done" "I") ∈ lw_all := lw_g (lw_at lw_m8 101 rfl) rfl
theorem q1853 : (Jvm.Cond.soleField "PebblegateModel" "done") ∈ lw_all := lw_g (lw_at lw_m8 102 rfl) rfl
theorem q1854 : (Jvm.Cond.lays "PebblegateModel" "PebblegateModel" "refused" "I") ∈ lw_all := lw_g (lw_at lw_m8 103 rfl) rfl
theorem q1855 : (Jvm.Cond.soleField "PebblegateModel" "refused") ∈ lw_all := lw_g (lw_at lw_m8 104 rfl) rfl
theorem q1856 : (Jvm.Cond.lays "PebblegateModel" "PebblegateModel" "knocks" "I") ∈ lw_all := lw_g (lw_at lw_m8 105 rfl) rfl
theorem q1857 : (Jvm.Cond.soleField "PebblegateModel" "knocks") ∈ lw_all := lw_g (lw_at lw_m8 106 rfl) rfl
theorem q1858 : (Jvm.Cond.lays "PebblegateModel" "PebblegateModel" "thrown" "I") ∈ lw_all := lw_g (lw_at lw_m8 107 rfl) rfl
theorem q1859 : (Jvm.Cond.soleField "PebblegateModel" "thrown") ∈ lw_all := lw_g (lw_at lw_m8 108 rfl) rfl
theorem q1860 : (Jvm.Cond.lays "PebblegateModel" "PebblegateModel" "found" "I") ∈ lw_all := lw_g (lw_at lw_m8 109 rfl) rfl
theorem q1861 : (Jvm.Cond.soleField "PebblegateModel" "found") ∈ lw_all := lw_g (lw_at lw_m8 110 rfl) rfl
theorem q1862 : (Jvm.Cond.superclass "PebblegateModel" "java/lang/Object") ∈ lw_all := lw_g (lw_at lw_m8 111 rfl) rfl
theorem q1864 : (Jvm.Cond.instanceMethod ({ cls := "PebblegateModel", name := "thrown", desc := "()I" } : Jvm.MethodName)) ∈ lw_all := lw_g (lw_at lw_m8 113 rfl) rfl
theorem q1865 : (Jvm.Cond.selects "PebblegateModel" ({ cls := "PebblegateModel", name := "thrown", desc := "()I" } : Jvm.MethodName) ({ cls := "PebblegateModel", name := "thrown", desc := "()I" } : Jvm.MethodName)) ∈ lw_all := lw_g (lw_at lw_m8 114 rfl) rfl
theorem q1866 : (Jvm.Cond.code ({ cls := "PebblegateModel", name := "thrown", desc := "()I" } : Jvm.MethodName) prog_7_method_2_code (1 : Nat) (Option.some Jvm.ClassFile.FieldType.int)) ∈ lw_all := lw_g (lw_at lw_m8 115 rfl) rfl
theorem q1868 : (Jvm.Cond.instanceMethod ({ cls := "PebblegateModel", name := "begin", desc := "(I)I" } : Jvm.MethodName)) ∈ lw_all := lw_g (lw_at lw_m8 117 rfl) rfl
theorem q1869 : (Jvm.Cond.selects "PebblegateModel" ({ cls := "PebblegateModel", name := "begin", desc := "(I)I" } : Jvm.MethodName) ({ cls := "PebblegateModel", name := "begin", desc := "(I)I" } : Jvm.MethodName)) ∈ lw_all := lw_g (lw_at lw_m8 118 rfl) rfl
theorem q1870 : (Jvm.Cond.code ({ cls := "PebblegateModel", name := "begin", desc := "(I)I" } : Jvm.MethodName) prog_7_method_29_code (4 : Nat) (Option.some Jvm.ClassFile.FieldType.int)) ∈ lw_all := lw_g (lw_at lw_m8 119 rfl) rfl
theorem q1871 : (Jvm.Cond.methodLink "PebblegateModel" (35 : Nat) ({ cls := "PebblegateModel", name := "isIn", desc := "(III)Z" } : Jvm.MethodName)) ∈ lw_all := lw_g (lw_at lw_m8 120 rfl) rfl
theorem q1872 : (Jvm.Cond.static ({ cls := "PebblegateModel", name := "isIn", desc := "(III)Z" } : Jvm.MethodName)) ∈ lw_all := lw_g (lw_at lw_m8 121 rfl) rfl
theorem q1873 : (Jvm.Cond.code ({ cls := "PebblegateModel", name := "isIn", desc := "(III)Z" } : Jvm.MethodName) prog_7_method_3_code (3 : Nat) (Option.some Jvm.ClassFile.FieldType.boolean)) ∈ lw_all := lw_g (lw_at lw_m8 122 rfl) rfl
theorem q1874 : (Jvm.Cond.methodLink "PebblegateModel" (117 : Nat) ({ cls := "PebblegateModel", name := "isThrown", desc := "(ZZ)Z" } : Jvm.MethodName)) ∈ lw_all := lw_g (lw_at lw_m8 123 rfl) rfl
theorem q1875 : (Jvm.Cond.privateMethod ({ cls := "PebblegateModel", name := "isThrown", desc := "(ZZ)Z" } : Jvm.MethodName)) ∈ lw_tbl := lw_at lw_m8 124 rfl
theorem q1876 : (Jvm.Cond.instanceMethod ({ cls := "PebblegateModel", name := "isThrown", desc := "(ZZ)Z" } : Jvm.MethodName)) ∈ lw_all := lw_g (lw_at lw_m8 125 rfl) rfl
theorem q1877 : (Jvm.Cond.code ({ cls := "PebblegateModel", name := "isThrown", desc := "(ZZ)Z" } : Jvm.MethodName) prog_7_method_4_code (3 : Nat) (Option.some Jvm.ClassFile.FieldType.boolean)) ∈ lw_all := lw_g (lw_at lw_m8 126 rfl) rfl
theorem q1878 : (Jvm.Cond.methodLink "PebblegateModel" (121 : Nat) ({ cls := "PebblegateModel", name := "did", desc := "(I)I" } : Jvm.MethodName)) ∈ lw_all := lw_g (lw_at lw_m8 127 rfl) rfl
theorem q1879 : (Jvm.Cond.privateMethod ({ cls := "PebblegateModel", name := "did", desc := "(I)I" } : Jvm.MethodName)) ∈ lw_tbl := lw_at lw_m8 128 rfl
theorem q1880 : (Jvm.Cond.instanceMethod ({ cls := "PebblegateModel", name := "did", desc := "(I)I" } : Jvm.MethodName)) ∈ lw_all := lw_g (lw_at lw_m8 129 rfl) rfl
theorem q1881 : (Jvm.Cond.code ({ cls := "PebblegateModel", name := "did", desc := "(I)I" } : Jvm.MethodName) prog_7_method_8_code (2 : Nat) (Option.some Jvm.ClassFile.FieldType.int)) ∈ lw_all := lw_g (lw_at lw_m8 130 rfl) rfl
theorem q1883 : (Jvm.Cond.instanceMethod ({ cls := "PebblegateModel", name := "step", desc := "()I" } : Jvm.MethodName)) ∈ lw_all := lw_g (lw_at lw_m8 132 rfl) rfl
theorem q1884 : (Jvm.Cond.selects "PebblegateModel" ({ cls := "PebblegateModel", name := "step", desc := "()I" } : Jvm.MethodName) ({ cls := "PebblegateModel", name := "step", desc := "()I" } : Jvm.MethodName)) ∈ lw_all := lw_g (lw_at lw_m8 133 rfl) rfl
theorem q1885 : (Jvm.Cond.code ({ cls := "PebblegateModel", name := "step", desc := "()I" } : Jvm.MethodName) prog_7_method_30_code (2 : Nat) (Option.some Jvm.ClassFile.FieldType.int)) ∈ lw_all := lw_g (lw_at lw_m8 134 rfl) rfl
theorem q1886 : (Jvm.Cond.methodLink "PebblegateModel" (125 : Nat) ({ cls := "PebblegateModel", name := "refuse", desc := "()I" } : Jvm.MethodName)) ∈ lw_all := lw_g (lw_at lw_m8 135 rfl) rfl
theorem q1887 : (Jvm.Cond.privateMethod ({ cls := "PebblegateModel", name := "refuse", desc := "()I" } : Jvm.MethodName)) ∈ lw_tbl := lw_at lw_m8 136 rfl
theorem q1888 : (Jvm.Cond.instanceMethod ({ cls := "PebblegateModel", name := "refuse", desc := "()I" } : Jvm.MethodName)) ∈ lw_all := lw_g (lw_at lw_m8 137 rfl) rfl
theorem q1889 : (Jvm.Cond.code ({ cls := "PebblegateModel", name := "refuse", desc := "()I" } : Jvm.MethodName) prog_7_method_9_code (1 : Nat) (Option.some Jvm.ClassFile.FieldType.int)) ∈ lw_all := lw_g (lw_at lw_m8 138 rfl) rfl
theorem q1891 : (Jvm.Cond.instanceMethod ({ cls := "PebblegateModel", name := "arc", desc := "(IIII)I" } : Jvm.MethodName)) ∈ lw_all := lw_g (lw_at lw_m8 140 rfl) rfl
theorem q1892 : (Jvm.Cond.selects "PebblegateModel" ({ cls := "PebblegateModel", name := "arc", desc := "(IIII)I" } : Jvm.MethodName) ({ cls := "PebblegateModel", name := "arc", desc := "(IIII)I" } : Jvm.MethodName)) ∈ lw_all := lw_g (lw_at lw_m8 141 rfl) rfl
theorem q1893 : (Jvm.Cond.code ({ cls := "PebblegateModel", name := "arc", desc := "(IIII)I" } : Jvm.MethodName) prog_7_method_31_code (7 : Nat) (Option.some Jvm.ClassFile.FieldType.int)) ∈ lw_all := lw_g (lw_at lw_m8 142 rfl) rfl
theorem q1894 : (Jvm.Cond.methodLink "PebblegateModel" (129 : Nat) ({ cls := "PebblegateModel", name := "isStep", desc := "(I)Z" } : Jvm.MethodName)) ∈ lw_all := lw_g (lw_at lw_m8 143 rfl) rfl
theorem q1895 : (Jvm.Cond.privateMethod ({ cls := "PebblegateModel", name := "isStep", desc := "(I)Z" } : Jvm.MethodName)) ∈ lw_tbl := lw_at lw_m8 144 rfl
theorem q1896 : (Jvm.Cond.instanceMethod ({ cls := "PebblegateModel", name := "isStep", desc := "(I)Z" } : Jvm.MethodName)) ∈ lw_all := lw_g (lw_at lw_m8 145 rfl) rfl
theorem q1897 : (Jvm.Cond.code ({ cls := "PebblegateModel", name := "isStep", desc := "(I)Z" } : Jvm.MethodName) prog_7_method_5_code (2 : Nat) (Option.some Jvm.ClassFile.FieldType.boolean)) ∈ lw_all := lw_g (lw_at lw_m8 146 rfl) rfl
theorem q1898 : (Jvm.Cond.methodLink "PebblegateModel" (133 : Nat) ({ cls := "PebblegateModel", name := "isPlace", desc := "(I)Z" } : Jvm.MethodName)) ∈ lw_all := lw_g (lw_at lw_m8 147 rfl) rfl
theorem q1899 : (Jvm.Cond.privateMethod ({ cls := "PebblegateModel", name := "isPlace", desc := "(I)Z" } : Jvm.MethodName)) ∈ lw_tbl := lw_at lw_m8 148 rfl
theorem q1900 : (Jvm.Cond.instanceMethod ({ cls := "PebblegateModel", name := "isPlace", desc := "(I)Z" } : Jvm.MethodName)) ∈ lw_all := lw_g (lw_at lw_m8 149 rfl) rfl
theorem q1901 : (Jvm.Cond.code ({ cls := "PebblegateModel", name := "isPlace", desc := "(I)Z" } : Jvm.MethodName) prog_7_method_6_code (2 : Nat) (Option.some Jvm.ClassFile.FieldType.boolean)) ∈ lw_all := lw_g (lw_at lw_m8 150 rfl) rfl
theorem q1903 : (Jvm.Cond.instanceMethod ({ cls := "PebblegateModel", name := "strike", desc := "(I)I" } : Jvm.MethodName)) ∈ lw_all := lw_g (lw_at lw_m8 152 rfl) rfl
theorem q1904 : (Jvm.Cond.selects "PebblegateModel" ({ cls := "PebblegateModel", name := "strike", desc := "(I)I" } : Jvm.MethodName) ({ cls := "PebblegateModel", name := "strike", desc := "(I)I" } : Jvm.MethodName)) ∈ lw_all := lw_g (lw_at lw_m8 153 rfl) rfl
theorem q1905 : (Jvm.Cond.code ({ cls := "PebblegateModel", name := "strike", desc := "(I)I" } : Jvm.MethodName) prog_7_method_32_code (3 : Nat) (Option.some Jvm.ClassFile.FieldType.int)) ∈ lw_all := lw_g (lw_at lw_m8 154 rfl) rfl
theorem q1907 : (Jvm.Cond.instanceMethod ({ cls := "PebblegateModel", name := "turn", desc := "()I" } : Jvm.MethodName)) ∈ lw_all := lw_g (lw_at lw_m8 156 rfl) rfl
theorem q1908 : (Jvm.Cond.selects "PebblegateModel" ({ cls := "PebblegateModel", name := "turn", desc := "()I" } : Jvm.MethodName) ({ cls := "PebblegateModel", name := "turn", desc := "()I" } : Jvm.MethodName)) ∈ lw_all := lw_g (lw_at lw_m8 157 rfl) rfl
theorem q1909 : (Jvm.Cond.code ({ cls := "PebblegateModel", name := "turn", desc := "()I" } : Jvm.MethodName) prog_7_method_33_code (6 : Nat) (Option.some Jvm.ClassFile.FieldType.int)) ∈ lw_all := lw_g (lw_at lw_m8 158 rfl) rfl
theorem q1911 : (Jvm.Cond.instanceMethod ({ cls := "PebblegateModel", name := "set", desc := "(II)I" } : Jvm.MethodName)) ∈ lw_all := lw_g (lw_at lw_m8 160 rfl) rfl
theorem q1912 : (Jvm.Cond.selects "PebblegateModel" ({ cls := "PebblegateModel", name := "set", desc := "(II)I" } : Jvm.MethodName) ({ cls := "PebblegateModel", name := "set", desc := "(II)I" } : Jvm.MethodName)) ∈ lw_all := lw_g (lw_at lw_m8 161 rfl) rfl
theorem q1913 : (Jvm.Cond.code ({ cls := "PebblegateModel", name := "set", desc := "(II)I" } : Jvm.MethodName) prog_7_method_34_code (4 : Nat) (Option.some Jvm.ClassFile.FieldType.int)) ∈ lw_all := lw_g (lw_at lw_m8 162 rfl) rfl
theorem q1915 : (Jvm.Cond.instanceMethod ({ cls := "PebblegateModel", name := "add", desc := "(II)I" } : Jvm.MethodName)) ∈ lw_all := lw_g (lw_at lw_m8 164 rfl) rfl
theorem q1916 : (Jvm.Cond.selects "PebblegateModel" ({ cls := "PebblegateModel", name := "add", desc := "(II)I" } : Jvm.MethodName) ({ cls := "PebblegateModel", name := "add", desc := "(II)I" } : Jvm.MethodName)) ∈ lw_all := lw_g (lw_at lw_m8 165 rfl) rfl
theorem q1917 : (Jvm.Cond.code ({ cls := "PebblegateModel", name := "add", desc := "(II)I" } : Jvm.MethodName) prog_7_method_35_code (3 : Nat) (Option.some Jvm.ClassFile.FieldType.int)) ∈ lw_all := lw_g (lw_at lw_m8 166 rfl) rfl
theorem q1919 : (Jvm.Cond.instanceMethod ({ cls := "PebblegateModel", name := "go", desc := "(I)I" } : Jvm.MethodName)) ∈ lw_all := lw_g (lw_at lw_m8 168 rfl) rfl
theorem q1920 : (Jvm.Cond.selects "PebblegateModel" ({ cls := "PebblegateModel", name := "go", desc := "(I)I" } : Jvm.MethodName) ({ cls := "PebblegateModel", name := "go", desc := "(I)I" } : Jvm.MethodName)) ∈ lw_all := lw_g (lw_at lw_m8 169 rfl) rfl
theorem q1921 : (Jvm.Cond.code ({ cls := "PebblegateModel", name := "go", desc := "(I)I" } : Jvm.MethodName) prog_7_method_38_code (2 : Nat) (Option.some Jvm.ClassFile.FieldType.int)) ∈ lw_all := lw_g (lw_at lw_m8 170 rfl) rfl
theorem q1922 : (Jvm.Cond.methodLink "PebblegateModel" (144 : Nat) ({ cls := "PebblegateModel", name := "went", desc := "(IZ)I" } : Jvm.MethodName)) ∈ lw_all := lw_g (lw_at lw_m8 171 rfl) rfl
theorem q1923 : (Jvm.Cond.privateMethod ({ cls := "PebblegateModel", name := "went", desc := "(IZ)I" } : Jvm.MethodName)) ∈ lw_tbl := lw_at lw_m8 172 rfl
theorem q1924 : (Jvm.Cond.instanceMethod ({ cls := "PebblegateModel", name := "went", desc := "(IZ)I" } : Jvm.MethodName)) ∈ lw_all := lw_g (lw_at lw_m8 173 rfl) rfl
theorem q1925 : (Jvm.Cond.code ({ cls := "PebblegateModel", name := "went", desc := "(IZ)I" } : Jvm.MethodName) prog_7_method_37_code (3 : Nat) (Option.some Jvm.ClassFile.FieldType.int)) ∈ lw_all := lw_g (lw_at lw_m8 174 rfl) rfl
theorem q1926 : (Jvm.Cond.methodLink "PebblegateModel" (136 : Nat) ({ cls := "PebblegateModel", name := "went", desc := "([IIZ)Z" } : Jvm.MethodName)) ∈ lw_all := lw_g (lw_at lw_m8 175 rfl) rfl
theorem q1927 : (Jvm.Cond.privateMethod ({ cls := "PebblegateModel", name := "went", desc := "([IIZ)Z" } : Jvm.MethodName)) ∈ lw_tbl := lw_at lw_m8 176 rfl
theorem q1928 : (Jvm.Cond.instanceMethod ({ cls := "PebblegateModel", name := "went", desc := "([IIZ)Z" } : Jvm.MethodName)) ∈ lw_all := lw_g (lw_at lw_m8 177 rfl) rfl
theorem q1929 : (Jvm.Cond.code ({ cls := "PebblegateModel", name := "went", desc := "([IIZ)Z" } : Jvm.MethodName) prog_7_method_36_code (5 : Nat) (Option.some Jvm.ClassFile.FieldType.boolean)) ∈ lw_all := lw_g (lw_at lw_m8 178 rfl) rfl
theorem q1930 : (Jvm.Cond.methodLink "PebblegateModel" (71 : Nat) ({ cls := "PebblegateModel", name := "goes", desc := "([IIIZ)Z" } : Jvm.MethodName)) ∈ lw_all := lw_g (lw_at lw_m8 179 rfl) rfl
theorem q1931 : (Jvm.Cond.privateMethod ({ cls := "PebblegateModel", name := "goes", desc := "([IIIZ)Z" } : Jvm.MethodName)) ∈ lw_tbl := lw_at lw_m8 180 rfl
theorem q1932 : (Jvm.Cond.instanceMethod ({ cls := "PebblegateModel", name := "goes", desc := "([IIIZ)Z" } : Jvm.MethodName)) ∈ lw_all := lw_g (lw_at lw_m8 181 rfl) rfl
theorem q1933 : (Jvm.Cond.code ({ cls := "PebblegateModel", name := "goes", desc := "([IIIZ)Z" } : Jvm.MethodName) prog_7_method_10_code (7 : Nat) (Option.some Jvm.ClassFile.FieldType.boolean)) ∈ lw_all := lw_g (lw_at lw_m8 182 rfl) rfl
theorem q1934 : (Jvm.Cond.methodLink "PebblegateModel" (75 : Nat) ({ cls := "PebblegateModel", name := "lay", desc := "([IIIZ[II)V" } : Jvm.MethodName)) ∈ lw_all := lw_g (lw_at lw_m8 183 rfl) rfl
theorem q1935 : (Jvm.Cond.privateMethod ({ cls := "PebblegateModel", name := "lay", desc := "([IIIZ[II)V" } : Jvm.MethodName)) ∈ lw_tbl := lw_at lw_m8 184 rfl
theorem q1936 : (Jvm.Cond.instanceMethod ({ cls := "PebblegateModel", name := "lay", desc := "([IIIZ[II)V" } : Jvm.MethodName)) ∈ lw_all := lw_g (lw_at lw_m8 185 rfl) rfl
theorem q1937 : (Jvm.Cond.code ({ cls := "PebblegateModel", name := "lay", desc := "([IIIZ[II)V" } : Jvm.MethodName) prog_7_method_12_code (8 : Nat) (Option.none : Option Jvm.ClassFile.FieldType)) ∈ lw_all := lw_g (lw_at lw_m8 186 rfl) rfl
theorem q1938 : (Jvm.Cond.constant "PebblegateModel" (45 : Nat) (1073741824 : Int32)) ∈ lw_all := lw_g (lw_at lw_m8 187 rfl) rfl
theorem q1939 : (Jvm.Cond.methodLink "PebblegateModel" (46 : Nat) ({ cls := "PebblegateModel", name := "change", desc := "(II)I" } : Jvm.MethodName)) ∈ lw_all := lw_g (lw_at lw_m8 188 rfl) rfl
theorem q1940 : (Jvm.Cond.privateMethod ({ cls := "PebblegateModel", name := "change", desc := "(II)I" } : Jvm.MethodName)) ∈ lw_tbl := lw_at lw_m8 189 rfl
theorem q1941 : (Jvm.Cond.instanceMethod ({ cls := "PebblegateModel", name := "change", desc := "(II)I" } : Jvm.MethodName)) ∈ lw_all := lw_g (lw_at lw_m8 190 rfl) rfl
theorem q1942 : (Jvm.Cond.code ({ cls := "PebblegateModel", name := "change", desc := "(II)I" } : Jvm.MethodName) prog_7_method_11_code (3 : Nat) (Option.some Jvm.ClassFile.FieldType.int)) ∈ lw_all := lw_g (lw_at lw_m8 191 rfl) rfl
theorem q1943 : (Jvm.Cond.methodLink "PebblegateModel" (140 : Nat) ({ cls := "PebblegateModel", name := "all", desc := "([I)I" } : Jvm.MethodName)) ∈ lw_all := lw_g (lw_at lw_m8 192 rfl) rfl
theorem q1944 : (Jvm.Cond.privateMethod ({ cls := "PebblegateModel", name := "all", desc := "([I)I" } : Jvm.MethodName)) ∈ lw_tbl := lw_at lw_m8 193 rfl
theorem q1945 : (Jvm.Cond.instanceMethod ({ cls := "PebblegateModel", name := "all", desc := "([I)I" } : Jvm.MethodName)) ∈ lw_all := lw_g (lw_at lw_m8 194 rfl) rfl
theorem q1946 : (Jvm.Cond.code ({ cls := "PebblegateModel", name := "all", desc := "([I)I" } : Jvm.MethodName) prog_7_method_16_code (4 : Nat) (Option.some Jvm.ClassFile.FieldType.int)) ∈ lw_all := lw_g (lw_at lw_m8 195 rfl) rfl
theorem q1948 : (Jvm.Cond.instanceMethod ({ cls := "PebblegateModel", name := "back", desc := "(I)I" } : Jvm.MethodName)) ∈ lw_all := lw_g (lw_at lw_m8 197 rfl) rfl
theorem q1949 : (Jvm.Cond.selects "PebblegateModel" ({ cls := "PebblegateModel", name := "back", desc := "(I)I" } : Jvm.MethodName) ({ cls := "PebblegateModel", name := "back", desc := "(I)I" } : Jvm.MethodName)) ∈ lw_all := lw_g (lw_at lw_m8 198 rfl) rfl
theorem q1950 : (Jvm.Cond.code ({ cls := "PebblegateModel", name := "back", desc := "(I)I" } : Jvm.MethodName) prog_7_method_39_code (2 : Nat) (Option.some Jvm.ClassFile.FieldType.int)) ∈ lw_all := lw_g (lw_at lw_m8 199 rfl) rfl
theorem q1952 : (Jvm.Cond.instanceMethod ({ cls := "PebblegateModel", name := "run", desc := "(I)I" } : Jvm.MethodName)) ∈ lw_all := lw_g (lw_at lw_m8 201 rfl) rfl
theorem q1953 : (Jvm.Cond.selects "PebblegateModel" ({ cls := "PebblegateModel", name := "run", desc := "(I)I" } : Jvm.MethodName) ({ cls := "PebblegateModel", name := "run", desc := "(I)I" } : Jvm.MethodName)) ∈ lw_all := lw_g (lw_at lw_m8 202 rfl) rfl
theorem q1954 : (Jvm.Cond.code ({ cls := "PebblegateModel", name := "run", desc := "(I)I" } : Jvm.MethodName) prog_7_method_40_code (5 : Nat) (Option.some Jvm.ClassFile.FieldType.int)) ∈ lw_all := lw_g (lw_at lw_m8 203 rfl) rfl
theorem q1956 : (Jvm.Cond.instanceMethod ({ cls := "PebblegateModel", name := "keep", desc := "(I)I" } : Jvm.MethodName)) ∈ lw_all := lw_g (lw_at lw_m8 205 rfl) rfl
theorem q1957 : (Jvm.Cond.selects "PebblegateModel" ({ cls := "PebblegateModel", name := "keep", desc := "(I)I" } : Jvm.MethodName) ({ cls := "PebblegateModel", name := "keep", desc := "(I)I" } : Jvm.MethodName)) ∈ lw_all := lw_g (lw_at lw_m8 206 rfl) rfl
theorem q1958 : (Jvm.Cond.code ({ cls := "PebblegateModel", name := "keep", desc := "(I)I" } : Jvm.MethodName) prog_7_method_41_code (4 : Nat) (Option.some Jvm.ClassFile.FieldType.int)) ∈ lw_all := lw_g (lw_at lw_m8 207 rfl) rfl
theorem q1959 : (Jvm.Cond.methodLink "PebblegateModel" (147 : Nat) ({ cls := "PebblegateModel", name := "isKept", desc := "(I)Z" } : Jvm.MethodName)) ∈ lw_all := lw_g (lw_at lw_m8 208 rfl) rfl
theorem q1960 : (Jvm.Cond.static ({ cls := "PebblegateModel", name := "isKept", desc := "(I)Z" } : Jvm.MethodName)) ∈ lw_all := lw_g (lw_at lw_m8 209 rfl) rfl
theorem q1961 : (Jvm.Cond.code ({ cls := "PebblegateModel", name := "isKept", desc := "(I)Z" } : Jvm.MethodName) prog_7_method_7_code (1 : Nat) (Option.some Jvm.ClassFile.FieldType.boolean)) ∈ lw_all := lw_g (lw_at lw_m8 210 rfl) rfl
theorem q1962 : (Jvm.Cond.methodLink "PebblegateModel" (79 : Nat) ({ cls := "PebblegateModel", name := "isSame", desc := "([II[II)Z" } : Jvm.MethodName)) ∈ lw_all := lw_g (lw_at lw_m8 211 rfl) rfl
theorem q1963 : (Jvm.Cond.privateMethod ({ cls := "PebblegateModel", name := "isSame", desc := "([II[II)Z" } : Jvm.MethodName)) ∈ lw_tbl := lw_at lw_m8 212 rfl
theorem q1964 : (Jvm.Cond.instanceMethod ({ cls := "PebblegateModel", name := "isSame", desc := "([II[II)Z" } : Jvm.MethodName)) ∈ lw_all := lw_g (lw_at lw_m8 213 rfl) rfl
theorem q1965 : (Jvm.Cond.code ({ cls := "PebblegateModel", name := "isSame", desc := "([II[II)Z" } : Jvm.MethodName) prog_7_method_13_code (7 : Nat) (Option.some Jvm.ClassFile.FieldType.boolean)) ∈ lw_all := lw_g (lw_at lw_m8 214 rfl) rfl
theorem q1967 : (Jvm.Cond.instanceMethod ({ cls := "PebblegateModel", name := "recall", desc := "(I)I" } : Jvm.MethodName)) ∈ lw_all := lw_g (lw_at lw_m8 216 rfl) rfl
theorem q1968 : (Jvm.Cond.selects "PebblegateModel" ({ cls := "PebblegateModel", name := "recall", desc := "(I)I" } : Jvm.MethodName) ({ cls := "PebblegateModel", name := "recall", desc := "(I)I" } : Jvm.MethodName)) ∈ lw_all := lw_g (lw_at lw_m8 217 rfl) rfl
theorem q1969 : (Jvm.Cond.code ({ cls := "PebblegateModel", name := "recall", desc := "(I)I" } : Jvm.MethodName) prog_7_method_42_code (4 : Nat) (Option.some Jvm.ClassFile.FieldType.int)) ∈ lw_all := lw_g (lw_at lw_m8 218 rfl) rfl
theorem q1971 : (Jvm.Cond.instanceMethod ({ cls := "PebblegateModel", name := "follow", desc := "(I)I" } : Jvm.MethodName)) ∈ lw_all := lw_g (lw_at lw_m8 220 rfl) rfl
theorem q1972 : (Jvm.Cond.selects "PebblegateModel" ({ cls := "PebblegateModel", name := "follow", desc := "(I)I" } : Jvm.MethodName) ({ cls := "PebblegateModel", name := "follow", desc := "(I)I" } : Jvm.MethodName)) ∈ lw_all := lw_g (lw_at lw_m8 221 rfl) rfl
theorem q1973 : (Jvm.Cond.code ({ cls := "PebblegateModel", name := "follow", desc := "(I)I" } : Jvm.MethodName) prog_7_method_43_code (10 : Nat) (Option.some Jvm.ClassFile.FieldType.int)) ∈ lw_all := lw_g (lw_at lw_m8 222 rfl) rfl
theorem q1974 : (Jvm.Cond.methodLink "PebblegateModel" (150 : Nat) ({ cls := "PebblegateModel", name := "reachedAll", desc := "()[I" } : Jvm.MethodName)) ∈ lw_all := lw_g (lw_at lw_m8 223 rfl) rfl
theorem q1975 : (Jvm.Cond.privateMethod ({ cls := "PebblegateModel", name := "reachedAll", desc := "()[I" } : Jvm.MethodName)) ∈ lw_tbl := lw_at lw_m8 224 rfl
theorem q1976 : (Jvm.Cond.instanceMethod ({ cls := "PebblegateModel", name := "reachedAll", desc := "()[I" } : Jvm.MethodName)) ∈ lw_all := lw_g (lw_at lw_m8 225 rfl) rfl
theorem q1977 : (Jvm.Cond.code ({ cls := "PebblegateModel", name := "reachedAll", desc := "()[I" } : Jvm.MethodName) prog_7_method_18_code (2 : Nat) (Option.some (Jvm.ClassFile.FieldType.array Jvm.ClassFile.FieldType.int))) ∈ lw_all := lw_g (lw_at lw_m8 226 rfl) rfl
theorem q1978 : (Jvm.Cond.methodLink "PebblegateModel" (83 : Nat) ({ cls := "PebblegateModel", name := "reachedFrom", desc := "([IZ)[I" } : Jvm.MethodName)) ∈ lw_all := lw_g (lw_at lw_m8 227 rfl) rfl
theorem q1979 : (Jvm.Cond.privateMethod ({ cls := "PebblegateModel", name := "reachedFrom", desc := "([IZ)[I" } : Jvm.MethodName)) ∈ lw_tbl := lw_at lw_m8 228 rfl
theorem q1980 : (Jvm.Cond.instanceMethod ({ cls := "PebblegateModel", name := "reachedFrom", desc := "([IZ)[I" } : Jvm.MethodName)) ∈ lw_all := lw_g (lw_at lw_m8 229 rfl) rfl
theorem q1981 : (Jvm.Cond.code ({ cls := "PebblegateModel", name := "reachedFrom", desc := "([IZ)[I" } : Jvm.MethodName) prog_7_method_17_code (7 : Nat) (Option.some (Jvm.ClassFile.FieldType.array Jvm.ClassFile.FieldType.int))) ∈ lw_all := lw_g (lw_at lw_m8 230 rfl) rfl
theorem q1982 : (Jvm.Cond.methodLink "PebblegateModel" (87 : Nat) ({ cls := "PebblegateModel", name := "numberOf", desc := "([I[II)I" } : Jvm.MethodName)) ∈ lw_all := lw_g (lw_at lw_m8 231 rfl) rfl
theorem q1983 : (Jvm.Cond.privateMethod ({ cls := "PebblegateModel", name := "numberOf", desc := "([I[II)I" } : Jvm.MethodName)) ∈ lw_tbl := lw_at lw_m8 232 rfl
theorem q1984 : (Jvm.Cond.instanceMethod ({ cls := "PebblegateModel", name := "numberOf", desc := "([I[II)I" } : Jvm.MethodName)) ∈ lw_all := lw_g (lw_at lw_m8 233 rfl) rfl
theorem q1985 : (Jvm.Cond.code ({ cls := "PebblegateModel", name := "numberOf", desc := "([I[II)I" } : Jvm.MethodName) prog_7_method_19_code (5 : Nat) (Option.some Jvm.ClassFile.FieldType.int)) ∈ lw_all := lw_g (lw_at lw_m8 234 rfl) rfl
theorem q1986 : (Jvm.Cond.methodLink "PebblegateModel" (154 : Nat) ({ cls := "PebblegateModel", name := "part", desc := "([II)[I" } : Jvm.MethodName)) ∈ lw_all := lw_g (lw_at lw_m8 235 rfl) rfl
theorem q1987 : (Jvm.Cond.static ({ cls := "PebblegateModel", name := "part", desc := "([II)[I" } : Jvm.MethodName)) ∈ lw_all := lw_g (lw_at lw_m8 236 rfl) rfl
theorem q1988 : (Jvm.Cond.code ({ cls := "PebblegateModel", name := "part", desc := "([II)[I" } : Jvm.MethodName) prog_7_method_15_code (4 : Nat) (Option.some (Jvm.ClassFile.FieldType.array Jvm.ClassFile.FieldType.int))) ∈ lw_all := lw_g (lw_at lw_m8 237 rfl) rfl
theorem q1989 : (Jvm.Cond.methodLink "PebblegateModel" (158 : Nat) ({ cls := "PebblegateModel", name := "wayTo", desc := "([II)[I" } : Jvm.MethodName)) ∈ lw_all := lw_g (lw_at lw_m8 238 rfl) rfl
theorem q1990 : (Jvm.Cond.static ({ cls := "PebblegateModel", name := "wayTo", desc := "([II)[I" } : Jvm.MethodName)) ∈ lw_all := lw_g (lw_at lw_m8 239 rfl) rfl
theorem q1991 : (Jvm.Cond.code ({ cls := "PebblegateModel", name := "wayTo", desc := "([II)[I" } : Jvm.MethodName) prog_7_method_22_code (5 : Nat) (Option.some (Jvm.ClassFile.FieldType.array Jvm.ClassFile.FieldType.int))) ∈ lw_all := lw_g (lw_at lw_m9 0 rfl) rfl
theorem q1993 : (Jvm.Cond.instanceMethod ({ cls := "PebblegateModel", name := "ofArc", desc := "(III)I" } : Jvm.MethodName)) ∈ lw_all := lw_g (lw_at lw_m9 2 rfl) rfl
theorem q1994 : (Jvm.Cond.selects "PebblegateModel" ({ cls := "PebblegateModel", name := "ofArc", desc := "(III)I" } : Jvm.MethodName) ({ cls := "PebblegateModel", name := "ofArc", desc := "(III)I" } : Jvm.MethodName)) ∈ lw_all := lw_g (lw_at lw_m9 3 rfl) rfl
theorem q1995 : (Jvm.Cond.code ({ cls := "PebblegateModel", name := "ofArc", desc := "(III)I" } : Jvm.MethodName) prog_7_method_44_code (4 : Nat) (Option.some Jvm.ClassFile.FieldType.int)) ∈ lw_all := lw_g (lw_at lw_m9 4 rfl) rfl
theorem q1997 : (Jvm.Cond.instanceMethod ({ cls := "PebblegateModel", name := "marks", desc := "(I)I" } : Jvm.MethodName)) ∈ lw_all := lw_g (lw_at lw_m9 6 rfl) rfl
theorem q1998 : (Jvm.Cond.selects "PebblegateModel" ({ cls := "PebblegateModel", name := "marks", desc := "(I)I" } : Jvm.MethodName) ({ cls := "PebblegateModel", name := "marks", desc := "(I)I" } : Jvm.MethodName)) ∈ lw_all := lw_g (lw_at lw_m9 7 rfl) rfl
theorem q1999 : (Jvm.Cond.code ({ cls := "PebblegateModel", name := "marks", desc := "(I)I" } : Jvm.MethodName) prog_7_method_45_code (2 : Nat) (Option.some Jvm.ClassFile.FieldType.int)) ∈ lw_all := lw_g (lw_at lw_m9 8 rfl) rfl
theorem q2001 : (Jvm.Cond.instanceMethod ({ cls := "PebblegateModel", name := "text", desc := "()Ljava/lang/String;" } : Jvm.MethodName)) ∈ lw_all := lw_g (lw_at lw_m9 10 rfl) rfl
theorem q2002 : (Jvm.Cond.selects "PebblegateModel" ({ cls := "PebblegateModel", name := "text", desc := "()Ljava/lang/String;" } : Jvm.MethodName) ({ cls := "PebblegateModel", name := "text", desc := "()Ljava/lang/String;" } : Jvm.MethodName)) ∈ lw_all := lw_g (lw_at lw_m9 11 rfl) rfl
theorem q2003 : (Jvm.Cond.code ({ cls := "PebblegateModel", name := "text", desc := "()Ljava/lang/String;" } : Jvm.MethodName) prog_7_method_46_code (1 : Nat) (Option.some (Jvm.ClassFile.FieldType.object "java/lang/String"))) ∈ lw_all := lw_g (lw_at lw_m9 12 rfl) rfl
theorem q2004 : (Jvm.Cond.methodLink "PebblegateModel" (161 : Nat) ({ cls := "PebblegateModel", name := "textOf", desc := "([II)Ljava/lang/String;" } : Jvm.MethodName)) ∈ lw_all := lw_g (lw_at lw_m9 13 rfl) rfl
theorem q2005 : (Jvm.Cond.privateMethod ({ cls := "PebblegateModel", name := "textOf", desc := "([II)Ljava/lang/String;" } : Jvm.MethodName)) ∈ lw_tbl := lw_at lw_m9 14 rfl
theorem q2006 : (Jvm.Cond.instanceMethod ({ cls := "PebblegateModel", name := "textOf", desc := "([II)Ljava/lang/String;" } : Jvm.MethodName)) ∈ lw_all := lw_g (lw_at lw_m9 15 rfl) rfl
theorem q2007 : (Jvm.Cond.code ({ cls := "PebblegateModel", name := "textOf", desc := "([II)Ljava/lang/String;" } : Jvm.MethodName) prog_7_method_14_code (5 : Nat) (Option.some (Jvm.ClassFile.FieldType.object "java/lang/String"))) ∈ lw_all := lw_g (lw_at lw_m9 16 rfl) rfl
theorem q2008 : (Jvm.Cond.classLink "PebblegateModel" (50 : Nat) "java/lang/StringBuilder") ∈ lw_all := lw_g (lw_at lw_m9 17 rfl) rfl
theorem q2009 : (Jvm.Cond.methodLink "PebblegateModel" (52 : Nat) ({ cls := "java/lang/StringBuilder", name := "<init>", desc := "()V" } : Jvm.MethodName)) ∈ lw_all := lw_g (lw_at lw_m9 18 rfl) rfl
theorem q2010 : (Jvm.Cond.stringRef "PebblegateModel" (53 : Nat) " ") ∈ lw_tbl := lw_at lw_m9 19 rfl
theorem q2011 : (Jvm.Cond.stringRef "PebblegateModel" (55 : Nat) "") ∈ lw_tbl := lw_at lw_m9 20 rfl
theorem q2012 : (Jvm.Cond.methodLink "PebblegateModel" (57 : Nat) ({ cls := "java/lang/StringBuilder", name := "append", desc := "(Ljava/lang/String;)Ljava/lang/StringBuilder;" } : Jvm.MethodName)) ∈ lw_all := lw_g (lw_at lw_m9 21 rfl) rfl
theorem q2013 : (Jvm.Cond.methodLink "PebblegateModel" (61 : Nat) ({ cls := "java/lang/StringBuilder", name := "append", desc := "(I)Ljava/lang/StringBuilder;" } : Jvm.MethodName)) ∈ lw_all := lw_g (lw_at lw_m9 22 rfl) rfl
theorem q2014 : (Jvm.Cond.methodLink "PebblegateModel" (64 : Nat) ({ cls := "java/lang/StringBuilder", name := "toString", desc := "()Ljava/lang/String;" } : Jvm.MethodName)) ∈ lw_all := lw_g (lw_at lw_m9 23 rfl) rfl
theorem q2016 : (Jvm.Cond.instanceMethod ({ cls := "PebblegateModel", name := "keptText", desc := "(I)Ljava/lang/String;" } : Jvm.MethodName)) ∈ lw_all := lw_g (lw_at lw_m9 25 rfl) rfl
theorem q2017 : (Jvm.Cond.selects "PebblegateModel" ({ cls := "PebblegateModel", name := "keptText", desc := "(I)Ljava/lang/String;" } : Jvm.MethodName) ({ cls := "PebblegateModel", name := "keptText", desc := "(I)Ljava/lang/String;" } : Jvm.MethodName)) ∈ lw_all := lw_g (lw_at lw_m9 26 rfl) rfl
theorem q2018 : (Jvm.Cond.code ({ cls := "PebblegateModel", name := "keptText", desc := "(I)Ljava/lang/String;" } : Jvm.MethodName) prog_7_method_47_code (2 : Nat) (Option.some (Jvm.ClassFile.FieldType.object "java/lang/String"))) ∈ lw_all := lw_g (lw_at lw_m9 27 rfl) rfl
theorem q2020 : (Jvm.Cond.instanceMethod ({ cls := "PebblegateModel", name := "can", desc := "(IZ)Z" } : Jvm.MethodName)) ∈ lw_all := lw_g (lw_at lw_m9 29 rfl) rfl
theorem q2021 : (Jvm.Cond.selects "PebblegateModel" ({ cls := "PebblegateModel", name := "can", desc := "(IZ)Z" } : Jvm.MethodName) ({ cls := "PebblegateModel", name := "can", desc := "(IZ)Z" } : Jvm.MethodName)) ∈ lw_all := lw_g (lw_at lw_m9 30 rfl) rfl
theorem q2022 : (Jvm.Cond.code ({ cls := "PebblegateModel", name := "can", desc := "(IZ)Z" } : Jvm.MethodName) prog_7_method_48_code (3 : Nat) (Option.some Jvm.ClassFile.FieldType.boolean)) ∈ lw_all := lw_g (lw_at lw_m9 31 rfl) rfl
theorem q2024 : (Jvm.Cond.instanceMethod ({ cls := "PebblegateModel", name := "going", desc := "()I" } : Jvm.MethodName)) ∈ lw_all := lw_g (lw_at lw_m9 33 rfl) rfl
theorem q2025 : (Jvm.Cond.selects "PebblegateModel" ({ cls := "PebblegateModel", name := "going", desc := "()I" } : Jvm.MethodName) ({ cls := "PebblegateModel", name := "going", desc := "()I" } : Jvm.MethodName)) ∈ lw_all := lw_g (lw_at lw_m9 34 rfl) rfl
theorem q2026 : (Jvm.Cond.code ({ cls := "PebblegateModel", name := "going", desc := "()I" } : Jvm.MethodName) prog_7_method_49_code (3 : Nat) (Option.some Jvm.ClassFile.FieldType.int)) ∈ lw_all := lw_g (lw_at lw_m9 35 rfl) rfl
theorem q2028 : (Jvm.Cond.instanceMethod ({ cls := "PebblegateModel", name := "touches", desc := "(I)I" } : Jvm.MethodName)) ∈ lw_all := lw_g (lw_at lw_m9 37 rfl) rfl
theorem q2029 : (Jvm.Cond.selects "PebblegateModel" ({ cls := "PebblegateModel", name := "touches", desc := "(I)I" } : Jvm.MethodName) ({ cls := "PebblegateModel", name := "touches", desc := "(I)I" } : Jvm.MethodName)) ∈ lw_all := lw_g (lw_at lw_m9 38 rfl) rfl
theorem q2030 : (Jvm.Cond.code ({ cls := "PebblegateModel", name := "touches", desc := "(I)I" } : Jvm.MethodName) prog_7_method_51_code (2 : Nat) (Option.some Jvm.ClassFile.FieldType.int)) ∈ lw_all := lw_g (lw_at lw_m9 39 rfl) rfl
theorem q2031 : (Jvm.Cond.methodLink "PebblegateModel" (165 : Nat) ({ cls := "PebblegateModel", name := "touched", desc := "(I)I" } : Jvm.MethodName)) ∈ lw_all := lw_g (lw_at lw_m9 40 rfl) rfl
theorem q2032 : (Jvm.Cond.privateMethod ({ cls := "PebblegateModel", name := "touched", desc := "(I)I" } : Jvm.MethodName)) ∈ lw_tbl := lw_at lw_m9 41 rfl
theorem q2033 : (Jvm.Cond.instanceMethod ({ cls := "PebblegateModel", name := "touched", desc := "(I)I" } : Jvm.MethodName)) ∈ lw_all := lw_g (lw_at lw_m9 42 rfl) rfl
theorem q2034 : (Jvm.Cond.code ({ cls := "PebblegateModel", name := "touched", desc := "(I)I" } : Jvm.MethodName) prog_7_method_50_code (4 : Nat) (Option.some Jvm.ClassFile.FieldType.int)) ∈ lw_all := lw_g (lw_at lw_m9 43 rfl) rfl
theorem q2036 : (Jvm.Cond.instanceMethod ({ cls := "PebblegateModel", name := "areApart", desc := "(II)Z" } : Jvm.MethodName)) ∈ lw_all := lw_g (lw_at lw_m9 45 rfl) rfl
theorem q2037 : (Jvm.Cond.selects "PebblegateModel" ({ cls := "PebblegateModel", name := "areApart", desc := "(II)Z" } : Jvm.MethodName) ({ cls := "PebblegateModel", name := "areApart", desc := "(II)Z" } : Jvm.MethodName)) ∈ lw_all := lw_g (lw_at lw_m9 46 rfl) rfl
theorem q2038 : (Jvm.Cond.code ({ cls := "PebblegateModel", name := "areApart", desc := "(II)Z" } : Jvm.MethodName) prog_7_method_52_code (3 : Nat) (Option.some Jvm.ClassFile.FieldType.boolean)) ∈ lw_all := lw_g (lw_at lw_m9 47 rfl) rfl
theorem q2040 : (Jvm.Cond.instanceMethod ({ cls := "PebblegateModel", name := "reached", desc := "()I" } : Jvm.MethodName)) ∈ lw_all := lw_g (lw_at lw_m9 49 rfl) rfl
theorem q2041 : (Jvm.Cond.selects "PebblegateModel" ({ cls := "PebblegateModel", name := "reached", desc := "()I" } : Jvm.MethodName) ({ cls := "PebblegateModel", name := "reached", desc := "()I" } : Jvm.MethodName)) ∈ lw_all := lw_g (lw_at lw_m9 50 rfl) rfl
theorem q2042 : (Jvm.Cond.code ({ cls := "PebblegateModel", name := "reached", desc := "()I" } : Jvm.MethodName) prog_7_method_53_code (1 : Nat) (Option.some Jvm.ClassFile.FieldType.int)) ∈ lw_all := lw_g (lw_at lw_m9 51 rfl) rfl
theorem q2044 : (Jvm.Cond.instanceMethod ({ cls := "PebblegateModel", name := "reachedText", desc := "(I)Ljava/lang/String;" } : Jvm.MethodName)) ∈ lw_all := lw_g (lw_at lw_m9 53 rfl) rfl
theorem q2045 : (Jvm.Cond.selects "PebblegateModel" ({ cls := "PebblegateModel", name := "reachedText", desc := "(I)Ljava/lang/String;" } : Jvm.MethodName) ({ cls := "PebblegateModel", name := "reachedText", desc := "(I)Ljava/lang/String;" } : Jvm.MethodName)) ∈ lw_all := lw_g (lw_at lw_m9 54 rfl) rfl
theorem q2046 : (Jvm.Cond.code ({ cls := "PebblegateModel", name := "reachedText", desc := "(I)Ljava/lang/String;" } : Jvm.MethodName) prog_7_method_54_code (3 : Nat) (Option.some (Jvm.ClassFile.FieldType.object "java/lang/String"))) ∈ lw_all := lw_g (lw_at lw_m9 55 rfl) rfl
theorem q2047 : (Jvm.Cond.stringRef "PebblegateModel" (168 : Nat) "?") ∈ lw_tbl := lw_at lw_m9 56 rfl
theorem q2049 : (Jvm.Cond.instanceMethod ({ cls := "PebblegateModel", name := "number", desc := "(I)I" } : Jvm.MethodName)) ∈ lw_all := lw_g (lw_at lw_m9 58 rfl) rfl
theorem q2050 : (Jvm.Cond.selects "PebblegateModel" ({ cls := "PebblegateModel", name := "number", desc := "(I)I" } : Jvm.MethodName) ({ cls := "PebblegateModel", name := "number", desc := "(I)I" } : Jvm.MethodName)) ∈ lw_all := lw_g (lw_at lw_m9 59 rfl) rfl
theorem q2051 : (Jvm.Cond.code ({ cls := "PebblegateModel", name := "number", desc := "(I)I" } : Jvm.MethodName) prog_7_method_55_code (3 : Nat) (Option.some Jvm.ClassFile.FieldType.int)) ∈ lw_all := lw_g (lw_at lw_m9 60 rfl) rfl
theorem q2053 : (Jvm.Cond.instanceMethod ({ cls := "PebblegateModel", name := "way", desc := "(II)Ljava/lang/String;" } : Jvm.MethodName)) ∈ lw_all := lw_g (lw_at lw_m9 62 rfl) rfl
theorem q2054 : (Jvm.Cond.selects "PebblegateModel" ({ cls := "PebblegateModel", name := "way", desc := "(II)Ljava/lang/String;" } : Jvm.MethodName) ({ cls := "PebblegateModel", name := "way", desc := "(II)Ljava/lang/String;" } : Jvm.MethodName)) ∈ lw_all := lw_g (lw_at lw_m9 63 rfl) rfl
theorem q2055 : (Jvm.Cond.code ({ cls := "PebblegateModel", name := "way", desc := "(II)Ljava/lang/String;" } : Jvm.MethodName) prog_7_method_57_code (10 : Nat) (Option.some (Jvm.ClassFile.FieldType.object "java/lang/String"))) ∈ lw_all := lw_g (lw_at lw_m9 64 rfl) rfl
theorem q2056 : (Jvm.Cond.stringRef "PebblegateModel" (170 : Nat) "none") ∈ lw_tbl := lw_at lw_m9 65 rfl
theorem q2057 : (Jvm.Cond.methodLink "PebblegateModel" (182 : Nat) ({ cls := "java/lang/String", name := "equals", desc := "(Ljava/lang/Object;)Z" } : Jvm.MethodName)) ∈ lw_all := lw_g (lw_at lw_m9 66 rfl) rfl
theorem q2064 : (Jvm.Cond.methodLink "PebblegateModel" (178 : Nat) ({ cls := "PebblegateModel", name := "deeper", desc := "([IIILjava/lang/String;)Ljava/lang/String;" } : Jvm.MethodName)) ∈ lw_all := lw_g (lw_at lw_m9 73 rfl) rfl
theorem q2065 : (Jvm.Cond.privateMethod ({ cls := "PebblegateModel", name := "deeper", desc := "([IIILjava/lang/String;)Ljava/lang/String;" } : Jvm.MethodName)) ∈ lw_tbl := lw_at lw_m9 74 rfl
theorem q2066 : (Jvm.Cond.instanceMethod ({ cls := "PebblegateModel", name := "deeper", desc := "([IIILjava/lang/String;)Ljava/lang/String;" } : Jvm.MethodName)) ∈ lw_all := lw_g (lw_at lw_m9 75 rfl) rfl
theorem q2067 : (Jvm.Cond.code ({ cls := "PebblegateModel", name := "deeper", desc := "([IIILjava/lang/String;)Ljava/lang/String;" } : Jvm.MethodName) prog_7_method_56_code (8 : Nat) (Option.some (Jvm.ClassFile.FieldType.object "java/lang/String"))) ∈ lw_all := lw_g (lw_at lw_m9 76 rfl) rfl
theorem q2068 : (Jvm.Cond.methodLink "PebblegateModel" (172 : Nat) ({ cls := "java/lang/String", name := "isEmpty", desc := "()Z" } : Jvm.MethodName)) ∈ lw_all := lw_g (lw_at lw_m9 77 rfl) rfl
theorem q2072 : (Jvm.Cond.methodLink "PebblegateModel" (186 : Nat) ({ cls := "java/lang/StringBuilder", name := "length", desc := "()I" } : Jvm.MethodName)) ∈ lw_all := lw_g (lw_at lw_m9 81 rfl) rfl
theorem q2074 : (Jvm.Cond.instanceMethod ({ cls := "PebblegateModel", name := "deads", desc := "()I" } : Jvm.MethodName)) ∈ lw_all := lw_g (lw_at lw_m9 83 rfl) rfl
theorem q2075 : (Jvm.Cond.selects "PebblegateModel" ({ cls := "PebblegateModel", name := "deads", desc := "()I" } : Jvm.MethodName) ({ cls := "PebblegateModel", name := "deads", desc := "()I" } : Jvm.MethodName)) ∈ lw_all := lw_g (lw_at lw_m9 84 rfl) rfl
theorem q2076 : (Jvm.Cond.code ({ cls := "PebblegateModel", name := "deads", desc := "()I" } : Jvm.MethodName) prog_7_method_58_code (6 : Nat) (Option.some Jvm.ClassFile.FieldType.int)) ∈ lw_all := lw_g (lw_at lw_m9 85 rfl) rfl
theorem q2078 : (Jvm.Cond.instanceMethod ({ cls := "PebblegateModel", name := "chances", desc := "(I)I" } : Jvm.MethodName)) ∈ lw_all := lw_g (lw_at lw_m9 87 rfl) rfl
theorem q2079 : (Jvm.Cond.selects "PebblegateModel" ({ cls := "PebblegateModel", name := "chances", desc := "(I)I" } : Jvm.MethodName) ({ cls := "PebblegateModel", name := "chances", desc := "(I)I" } : Jvm.MethodName)) ∈ lw_all := lw_g (lw_at lw_m9 88 rfl) rfl
theorem q2080 : (Jvm.Cond.code ({ cls := "PebblegateModel", name := "chances", desc := "(I)I" } : Jvm.MethodName) prog_7_method_59_code (5 : Nat) (Option.some Jvm.ClassFile.FieldType.int)) ∈ lw_all := lw_g (lw_at lw_m9 89 rfl) rfl
theorem q2082 : (Jvm.Cond.instanceMethod ({ cls := "PebblegateModel", name := "again", desc := "(I)I" } : Jvm.MethodName)) ∈ lw_all := lw_g (lw_at lw_m9 91 rfl) rfl
theorem q2083 : (Jvm.Cond.selects "PebblegateModel" ({ cls := "PebblegateModel", name := "again", desc := "(I)I" } : Jvm.MethodName) ({ cls := "PebblegateModel", name := "again", desc := "(I)I" } : Jvm.MethodName)) ∈ lw_all := lw_g (lw_at lw_m9 92 rfl) rfl
theorem q2084 : (Jvm.Cond.code ({ cls := "PebblegateModel", name := "again", desc := "(I)I" } : Jvm.MethodName) prog_7_method_60_code (5 : Nat) (Option.some Jvm.ClassFile.FieldType.int)) ∈ lw_all := lw_g (lw_at lw_m9 93 rfl) rfl
theorem q2085 : (Jvm.Cond.methodLink "PebblegateModel" (91 : Nat) ({ cls := "PebblegateModel", name := "next", desc := "([III)I" } : Jvm.MethodName)) ∈ lw_all := lw_g (lw_at lw_m9 94 rfl) rfl
theorem q2086 : (Jvm.Cond.privateMethod ({ cls := "PebblegateModel", name := "next", desc := "([III)I" } : Jvm.MethodName)) ∈ lw_tbl := lw_at lw_m9 95 rfl
theorem q2087 : (Jvm.Cond.instanceMethod ({ cls := "PebblegateModel", name := "next", desc := "([III)I" } : Jvm.MethodName)) ∈ lw_all := lw_g (lw_at lw_m9 96 rfl) rfl
theorem q2088 : (Jvm.Cond.code ({ cls := "PebblegateModel", name := "next", desc := "([III)I" } : Jvm.MethodName) prog_7_method_20_code (4 : Nat) (Option.some Jvm.ClassFile.FieldType.int)) ∈ lw_all := lw_g (lw_at lw_m9 97 rfl) rfl
theorem q2089 : (Jvm.Cond.methodLink "PebblegateModel" (189 : Nat) ({ cls := "PebblegateModel", name := "behind", desc := "([II)I" } : Jvm.MethodName)) ∈ lw_all := lw_g (lw_at lw_m9 98 rfl) rfl
theorem q2090 : (Jvm.Cond.privateMethod ({ cls := "PebblegateModel", name := "behind", desc := "([II)I" } : Jvm.MethodName)) ∈ lw_tbl := lw_at lw_m9 99 rfl
theorem q2091 : (Jvm.Cond.instanceMethod ({ cls := "PebblegateModel", name := "behind", desc := "([II)I" } : Jvm.MethodName)) ∈ lw_all := lw_g (lw_at lw_m9 100 rfl) rfl
theorem q2092 : (Jvm.Cond.code ({ cls := "PebblegateModel", name := "behind", desc := "([II)I" } : Jvm.MethodName) prog_7_method_21_code (8 : Nat) (Option.some Jvm.ClassFile.FieldType.int)) ∈ lw_all := lw_g (lw_at lw_m9 101 rfl) rfl
theorem q2094 : (Jvm.Cond.instanceMethod ({ cls := "PebblegateModel", name := "rings", desc := "()I" } : Jvm.MethodName)) ∈ lw_all := lw_g (lw_at lw_m9 103 rfl) rfl
theorem q2095 : (Jvm.Cond.selects "PebblegateModel" ({ cls := "PebblegateModel", name := "rings", desc := "()I" } : Jvm.MethodName) ({ cls := "PebblegateModel", name := "rings", desc := "()I" } : Jvm.MethodName)) ∈ lw_all := lw_g (lw_at lw_m9 104 rfl) rfl
theorem q2096 : (Jvm.Cond.code ({ cls := "PebblegateModel", name := "rings", desc := "()I" } : Jvm.MethodName) prog_7_method_61_code (4 : Nat) (Option.some Jvm.ClassFile.FieldType.int)) ∈ lw_all := lw_g (lw_at lw_m9 105 rfl) rfl
theorem q2098 : (Jvm.Cond.instanceMethod ({ cls := "PebblegateModel", name := "comesBack", desc := "(I)I" } : Jvm.MethodName)) ∈ lw_all := lw_g (lw_at lw_m9 107 rfl) rfl
theorem q2099 : (Jvm.Cond.selects "PebblegateModel" ({ cls := "PebblegateModel", name := "comesBack", desc := "(I)I" } : Jvm.MethodName) ({ cls := "PebblegateModel", name := "comesBack", desc := "(I)I" } : Jvm.MethodName)) ∈ lw_all := lw_g (lw_at lw_m9 108 rfl) rfl
theorem q2100 : (Jvm.Cond.code ({ cls := "PebblegateModel", name := "comesBack", desc := "(I)I" } : Jvm.MethodName) prog_7_method_62_code (4 : Nat) (Option.some Jvm.ClassFile.FieldType.int)) ∈ lw_all := lw_g (lw_at lw_m9 109 rfl) rfl
theorem q2102 : (Jvm.Cond.instanceMethod ({ cls := "PebblegateModel", name := "nodes", desc := "()I" } : Jvm.MethodName)) ∈ lw_all := lw_g (lw_at lw_m9 111 rfl) rfl
theorem q2103 : (Jvm.Cond.selects "PebblegateModel" ({ cls := "PebblegateModel", name := "nodes", desc := "()I" } : Jvm.MethodName) ({ cls := "PebblegateModel", name := "nodes", desc := "()I" } : Jvm.MethodName)) ∈ lw_all := lw_g (lw_at lw_m9 112 rfl) rfl
theorem q2104 : (Jvm.Cond.code ({ cls := "PebblegateModel", name := "nodes", desc := "()I" } : Jvm.MethodName) prog_7_method_63_code (1 : Nat) (Option.some Jvm.ClassFile.FieldType.int)) ∈ lw_all := lw_g (lw_at lw_m9 113 rfl) rfl
theorem q2105 : (Jvm.Cond.methodLink "PebblegateModel" (193 : Nat) ({ cls := "PebblegateModel", name := "tree", desc := "()[I" } : Jvm.MethodName)) ∈ lw_all := lw_g (lw_at lw_m9 114 rfl) rfl
theorem q2106 : (Jvm.Cond.privateMethod ({ cls := "PebblegateModel", name := "tree", desc := "()[I" } : Jvm.MethodName)) ∈ lw_tbl := lw_at lw_m9 115 rfl
theorem q2107 : (Jvm.Cond.instanceMethod ({ cls := "PebblegateModel", name := "tree", desc := "()[I" } : Jvm.MethodName)) ∈ lw_all := lw_g (lw_at lw_m9 116 rfl) rfl
theorem q2108 : (Jvm.Cond.code ({ cls := "PebblegateModel", name := "tree", desc := "()[I" } : Jvm.MethodName) prog_7_method_23_code (6 : Nat) (Option.some (Jvm.ClassFile.FieldType.array Jvm.ClassFile.FieldType.int))) ∈ lw_all := lw_g (lw_at lw_m9 117 rfl) rfl
theorem q2109 : (Jvm.Cond.methodLink "PebblegateModel" (95 : Nat) ({ cls := "PebblegateModel", name := "grow", desc := "([III)V" } : Jvm.MethodName)) ∈ lw_all := lw_g (lw_at lw_m9 118 rfl) rfl
theorem q2110 : (Jvm.Cond.privateMethod ({ cls := "PebblegateModel", name := "grow", desc := "([III)V" } : Jvm.MethodName)) ∈ lw_tbl := lw_at lw_m9 119 rfl
theorem q2111 : (Jvm.Cond.instanceMethod ({ cls := "PebblegateModel", name := "grow", desc := "([III)V" } : Jvm.MethodName)) ∈ lw_all := lw_g (lw_at lw_m9 120 rfl) rfl
theorem q2112 : (Jvm.Cond.code ({ cls := "PebblegateModel", name := "grow", desc := "([III)V" } : Jvm.MethodName) prog_7_method_24_code (5 : Nat) (Option.none : Option Jvm.ClassFile.FieldType)) ∈ lw_all := lw_g (lw_at lw_m9 121 rfl) rfl
theorem q2114 : (Jvm.Cond.instanceMethod ({ cls := "PebblegateModel", name := "most", desc := "(I)I" } : Jvm.MethodName)) ∈ lw_all := lw_g (lw_at lw_m9 123 rfl) rfl
theorem q2115 : (Jvm.Cond.selects "PebblegateModel" ({ cls := "PebblegateModel", name := "most", desc := "(I)I" } : Jvm.MethodName) ({ cls := "PebblegateModel", name := "most", desc := "(I)I" } : Jvm.MethodName)) ∈ lw_all := lw_g (lw_at lw_m9 124 rfl) rfl
theorem q2116 : (Jvm.Cond.code ({ cls := "PebblegateModel", name := "most", desc := "(I)I" } : Jvm.MethodName) prog_7_method_65_code (4 : Nat) (Option.some Jvm.ClassFile.FieldType.int)) ∈ lw_all := lw_g (lw_at lw_m9 125 rfl) rfl
theorem q2117 : (Jvm.Cond.methodLink "PebblegateModel" (199 : Nat) ({ cls := "PebblegateModel", name := "mostOf", desc := "([II)I" } : Jvm.MethodName)) ∈ lw_all := lw_g (lw_at lw_m9 126 rfl) rfl
theorem q2118 : (Jvm.Cond.privateMethod ({ cls := "PebblegateModel", name := "mostOf", desc := "([II)I" } : Jvm.MethodName)) ∈ lw_tbl := lw_at lw_m9 127 rfl
theorem q2119 : (Jvm.Cond.instanceMethod ({ cls := "PebblegateModel", name := "mostOf", desc := "([II)I" } : Jvm.MethodName)) ∈ lw_all := lw_g (lw_at lw_m9 128 rfl) rfl
theorem q2120 : (Jvm.Cond.code ({ cls := "PebblegateModel", name := "mostOf", desc := "([II)I" } : Jvm.MethodName) prog_7_method_64_code (5 : Nat) (Option.some Jvm.ClassFile.FieldType.int)) ∈ lw_all := lw_g (lw_at lw_m9 129 rfl) rfl
theorem q2121 : (Jvm.Cond.methodLink "PebblegateModel" (196 : Nat) ({ cls := "java/lang/Math", name := "max", desc := "(II)I" } : Jvm.MethodName)) ∈ lw_all := lw_g (lw_at lw_m9 130 rfl) rfl
theorem q2123 : (Jvm.Cond.instanceMethod ({ cls := "PebblegateModel", name := "manies", desc := "()I" } : Jvm.MethodName)) ∈ lw_all := lw_g (lw_at lw_m9 132 rfl) rfl
theorem q2124 : (Jvm.Cond.selects "PebblegateModel" ({ cls := "PebblegateModel", name := "manies", desc := "()I" } : Jvm.MethodName) ({ cls := "PebblegateModel", name := "manies", desc := "()I" } : Jvm.MethodName)) ∈ lw_all := lw_g (lw_at lw_m9 133 rfl) rfl
theorem q2125 : (Jvm.Cond.code ({ cls := "PebblegateModel", name := "manies", desc := "()I" } : Jvm.MethodName) prog_7_method_66_code (4 : Nat) (Option.some Jvm.ClassFile.FieldType.int)) ∈ lw_all := lw_g (lw_at lw_m9 134 rfl) rfl
theorem q2127 : (Jvm.Cond.instanceMethod ({ cls := "PebblegateModel", name := "weighings", desc := "()I" } : Jvm.MethodName)) ∈ lw_all := lw_g (lw_at lw_m9 136 rfl) rfl
theorem q2128 : (Jvm.Cond.selects "PebblegateModel" ({ cls := "PebblegateModel", name := "weighings", desc := "()I" } : Jvm.MethodName) ({ cls := "PebblegateModel", name := "weighings", desc := "()I" } : Jvm.MethodName)) ∈ lw_all := lw_g (lw_at lw_m9 137 rfl) rfl
theorem q2129 : (Jvm.Cond.code ({ cls := "PebblegateModel", name := "weighings", desc := "()I" } : Jvm.MethodName) prog_7_method_67_code (1 : Nat) (Option.some Jvm.ClassFile.FieldType.int)) ∈ lw_all := lw_g (lw_at lw_m9 138 rfl) rfl
theorem q2130 : (Jvm.Cond.methodLink "PebblegateModel" (202 : Nat) ({ cls := "PebblegateModel", name := "weigh", desc := "()[I" } : Jvm.MethodName)) ∈ lw_all := lw_g (lw_at lw_m9 139 rfl) rfl
theorem q2131 : (Jvm.Cond.privateMethod ({ cls := "PebblegateModel", name := "weigh", desc := "()[I" } : Jvm.MethodName)) ∈ lw_tbl := lw_at lw_m9 140 rfl
theorem q2132 : (Jvm.Cond.instanceMethod ({ cls := "PebblegateModel", name := "weigh", desc := "()[I" } : Jvm.MethodName)) ∈ lw_all := lw_g (lw_at lw_m9 141 rfl) rfl
theorem q2133 : (Jvm.Cond.code ({ cls := "PebblegateModel", name := "weigh", desc := "()[I" } : Jvm.MethodName) prog_7_method_26_code (11 : Nat) (Option.some (Jvm.ClassFile.FieldType.array Jvm.ClassFile.FieldType.int))) ∈ lw_all := lw_g (lw_at lw_m9 142 rfl) rfl
theorem q2134 : (Jvm.Cond.methodLink "PebblegateModel" (109 : Nat) ({ cls := "PebblegateModel", name := "solved", desc := "(I[II)[J" } : Jvm.MethodName)) ∈ lw_all := lw_g (lw_at lw_m9 143 rfl) rfl
theorem q2135 : (Jvm.Cond.privateMethod ({ cls := "PebblegateModel", name := "solved", desc := "(I[II)[J" } : Jvm.MethodName)) ∈ lw_tbl := lw_at lw_m9 144 rfl
theorem q2136 : (Jvm.Cond.instanceMethod ({ cls := "PebblegateModel", name := "solved", desc := "(I[II)[J" } : Jvm.MethodName)) ∈ lw_all := lw_g (lw_at lw_m9 145 rfl) rfl
theorem q2137 : (Jvm.Cond.code ({ cls := "PebblegateModel", name := "solved", desc := "(I[II)[J" } : Jvm.MethodName) prog_7_method_27_code (12 : Nat) (Option.some (Jvm.ClassFile.FieldType.array Jvm.ClassFile.FieldType.long))) ∈ lw_all := lw_g (lw_at lw_m9 146 rfl) rfl
theorem q2138 : (Jvm.Cond.methodLink "PebblegateModel" (113 : Nat) ({ cls := "PebblegateModel", name := "takeOff", desc := "([JIII)V" } : Jvm.MethodName)) ∈ lw_all := lw_g (lw_at lw_m9 147 rfl) rfl
theorem q2139 : (Jvm.Cond.static ({ cls := "PebblegateModel", name := "takeOff", desc := "([JIII)V" } : Jvm.MethodName)) ∈ lw_all := lw_g (lw_at lw_m9 148 rfl) rfl
theorem q2140 : (Jvm.Cond.code ({ cls := "PebblegateModel", name := "takeOff", desc := "([JIII)V" } : Jvm.MethodName) prog_7_method_28_code (11 : Nat) (Option.none : Option Jvm.ClassFile.FieldType)) ∈ lw_all := lw_g (lw_at lw_m9 149 rfl) rfl
theorem q2141 : (Jvm.Cond.methodLink "PebblegateModel" (105 : Nat) ({ cls := "PebblegateModel", name := "common", desc := "(JJ)J" } : Jvm.MethodName)) ∈ lw_all := lw_g (lw_at lw_m9 150 rfl) rfl
theorem q2142 : (Jvm.Cond.static ({ cls := "PebblegateModel", name := "common", desc := "(JJ)J" } : Jvm.MethodName)) ∈ lw_all := lw_g (lw_at lw_m9 151 rfl) rfl
theorem q2143 : (Jvm.Cond.code ({ cls := "PebblegateModel", name := "common", desc := "(JJ)J" } : Jvm.MethodName) prog_7_method_25_code (4 : Nat) (Option.some Jvm.ClassFile.FieldType.long)) ∈ lw_all := lw_g (lw_at lw_m9 152 rfl) rfl
theorem q2144 : (Jvm.Cond.methodLink "PebblegateModel" (99 : Nat) ({ cls := "java/lang/Math", name := "abs", desc := "(J)J" } : Jvm.MethodName)) ∈ lw_all := lw_g (lw_at lw_m9 153 rfl) rfl
theorem q2146 : (Jvm.Cond.instanceMethod ({ cls := "PebblegateModel", name := "weighing", desc := "(II)I" } : Jvm.MethodName)) ∈ lw_all := lw_g (lw_at lw_m9 155 rfl) rfl
theorem q2147 : (Jvm.Cond.selects "PebblegateModel" ({ cls := "PebblegateModel", name := "weighing", desc := "(II)I" } : Jvm.MethodName) ({ cls := "PebblegateModel", name := "weighing", desc := "(II)I" } : Jvm.MethodName)) ∈ lw_all := lw_g (lw_at lw_m9 156 rfl) rfl
theorem q2148 : (Jvm.Cond.code ({ cls := "PebblegateModel", name := "weighing", desc := "(II)I" } : Jvm.MethodName) prog_7_method_68_code (4 : Nat) (Option.some Jvm.ClassFile.FieldType.int)) ∈ lw_all := lw_g (lw_at lw_m9 157 rfl) rfl
theorem q2150 : (Jvm.Cond.instanceMethod ({ cls := "PebblegateModel", name := "weight", desc := "(II)I" } : Jvm.MethodName)) ∈ lw_all := lw_g (lw_at lw_m9 159 rfl) rfl
theorem q2151 : (Jvm.Cond.selects "PebblegateModel" ({ cls := "PebblegateModel", name := "weight", desc := "(II)I" } : Jvm.MethodName) ({ cls := "PebblegateModel", name := "weight", desc := "(II)I" } : Jvm.MethodName)) ∈ lw_all := lw_g (lw_at lw_m9 160 rfl) rfl
theorem q2152 : (Jvm.Cond.code ({ cls := "PebblegateModel", name := "weight", desc := "(II)I" } : Jvm.MethodName) prog_7_method_69_code (6 : Nat) (Option.some Jvm.ClassFile.FieldType.int)) ∈ lw_all := lw_g (lw_at lw_m9 161 rfl) rfl
theorem q2154 : (Jvm.Cond.instanceMethod ({ cls := "PebblegateModel", name := "house", desc := "(I)I" } : Jvm.MethodName)) ∈ lw_all := lw_g (lw_at lw_m9 163 rfl) rfl
theorem q2155 : (Jvm.Cond.selects "PebblegateModel" ({ cls := "PebblegateModel", name := "house", desc := "(I)I" } : Jvm.MethodName) ({ cls := "PebblegateModel", name := "house", desc := "(I)I" } : Jvm.MethodName)) ∈ lw_all := lw_g (lw_at lw_m9 164 rfl) rfl
theorem q2156 : (Jvm.Cond.code ({ cls := "PebblegateModel", name := "house", desc := "(I)I" } : Jvm.MethodName) prog_7_method_70_code (2 : Nat) (Option.some Jvm.ClassFile.FieldType.int)) ∈ lw_all := lw_g (lw_at lw_m9 165 rfl) rfl
theorem q2158 : (Jvm.Cond.instanceMethod ({ cls := "PebblegateModel", name := "knock", desc := "()I" } : Jvm.MethodName)) ∈ lw_all := lw_g (lw_at lw_m9 167 rfl) rfl
theorem q2159 : (Jvm.Cond.selects "PebblegateModel" ({ cls := "PebblegateModel", name := "knock", desc := "()I" } : Jvm.MethodName) ({ cls := "PebblegateModel", name := "knock", desc := "()I" } : Jvm.MethodName)) ∈ lw_all := lw_g (lw_at lw_m9 168 rfl) rfl
theorem q2160 : (Jvm.Cond.code ({ cls := "PebblegateModel", name := "knock", desc := "()I" } : Jvm.MethodName) prog_7_method_71_code (1 : Nat) (Option.some Jvm.ClassFile.FieldType.int)) ∈ lw_all := lw_g (lw_at lw_m9 169 rfl) rfl
theorem q2162 : (Jvm.Cond.instanceMethod ({ cls := "PebblegateModel", name := "isSound", desc := "()Z" } : Jvm.MethodName)) ∈ lw_all := lw_g (lw_at lw_m9 171 rfl) rfl
theorem q2163 : (Jvm.Cond.selects "PebblegateModel" ({ cls := "PebblegateModel", name := "isSound", desc := "()Z" } : Jvm.MethodName) ({ cls := "PebblegateModel", name := "isSound", desc := "()Z" } : Jvm.MethodName)) ∈ lw_all := lw_g (lw_at lw_m9 172 rfl) rfl
theorem q2164 : (Jvm.Cond.code ({ cls := "PebblegateModel", name := "isSound", desc := "()Z" } : Jvm.MethodName) prog_7_method_72_code (1 : Nat) (Option.some Jvm.ClassFile.FieldType.boolean)) ∈ lw_all := lw_g (lw_at lw_m9 173 rfl) rfl
theorem q2166 : (Jvm.Cond.instanceMethod ({ cls := "PebblegateModel", name := "digest", desc := "()J" } : Jvm.MethodName)) ∈ lw_all := lw_g (lw_at lw_m9 175 rfl) rfl
theorem q2167 : (Jvm.Cond.selects "PebblegateModel" ({ cls := "PebblegateModel", name := "digest", desc := "()J" } : Jvm.MethodName) ({ cls := "PebblegateModel", name := "digest", desc := "()J" } : Jvm.MethodName)) ∈ lw_all := lw_g (lw_at lw_m9 176 rfl) rfl
theorem q2168 : (Jvm.Cond.code ({ cls := "PebblegateModel", name := "digest", desc := "()J" } : Jvm.MethodName) prog_7_method_73_code (5 : Nat) (Option.some Jvm.ClassFile.FieldType.long)) ∈ lw_all := lw_g (lw_at lw_m9 177 rfl) rfl
theorem q2169 : (Jvm.Cond.constantLong "PebblegateModel" (208 : Nat) (248713 : Int64)) ∈ lw_all := lw_g (lw_at lw_m9 178 rfl) rfl
theorem q2170 : (Jvm.Cond.constantLong "PebblegateModel" (210 : Nat) (31 : Int64)) ∈ lw_all := lw_g (lw_at lw_m9 179 rfl) rfl
theorem q2171 : (Jvm.Cond.methodLink "PebblegateModel" (212 : Nat) ({ cls := "PebblegateModel", name := "going", desc := "()I" } : Jvm.MethodName)) ∈ lw_all := lw_g (lw_at lw_m9 180 rfl) rfl
theorem q2172 : (Jvm.Cond.methodLink "PebblegateModel" (215 : Nat) ({ cls := "PebblegateModel", name := "reached", desc := "()I" } : Jvm.MethodName)) ∈ lw_all := lw_g (lw_at lw_m9 181 rfl) rfl
theorem q2173 : (Jvm.Cond.methodLink "PebblegateModel" (218 : Nat) ({ cls := "PebblegateModel", name := "deads", desc := "()I" } : Jvm.MethodName)) ∈ lw_all := lw_g (lw_at lw_m9 182 rfl) rfl
theorem q2174 : (Jvm.Cond.methodLink "PebblegateModel" (221 : Nat) ({ cls := "PebblegateModel", name := "rings", desc := "()I" } : Jvm.MethodName)) ∈ lw_all := lw_g (lw_at lw_m9 183 rfl) rfl
theorem q2175 : (Jvm.Cond.methodLink "PebblegateModel" (224 : Nat) ({ cls := "PebblegateModel", name := "nodes", desc := "()I" } : Jvm.MethodName)) ∈ lw_all := lw_g (lw_at lw_m9 184 rfl) rfl
theorem q2176 : (Jvm.Cond.methodLink "PebblegateModel" (227 : Nat) ({ cls := "PebblegateModel", name := "manies", desc := "()I" } : Jvm.MethodName)) ∈ lw_all := lw_g (lw_at lw_m9 185 rfl) rfl
theorem q2177 : (Jvm.Cond.methodLink "PebblegateModel" (230 : Nat) ({ cls := "PebblegateModel", name := "weighings", desc := "()I" } : Jvm.MethodName)) ∈ lw_all := lw_g (lw_at lw_m9 186 rfl) rfl
theorem q2196 : (Jvm.Cond.castable "PebblegateModel" "java/lang/Object") ∈ lw_tbl := lw_at lw_m9 205 rfl
theorem in_X2 : ∀ w ∈ wsX20, w ∈ lw_all := lw_in wsX20 [1838, 1840, 1842, 1844, 1846, 1848, 1850, 1852, 1854, 1856, 1858, 1860] (by decide +kernel) (by decide +kernel)

