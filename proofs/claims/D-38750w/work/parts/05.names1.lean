-- X1.Pebblegate.lean.txt
/-! Pebblegate -/
set_option maxRecDepth 100000
def RX1 : String := "Pebblegate"
def TX1 : u_T := fun k => match k with
  | 0 => ("Pebblegate", "places", "I", false)
  | 1 => ("Pebblegate", "steps", "Ljava/util/ArrayList;", true)
  | 2 => ("Pebblegate", "marks", "Ljava/util/TreeMap;", true)
  | 3 => ("Pebblegate", "kept", "[[I", true)
  | 4 => ("Pebblegate", "acts", "I", false)
  | 5 => ("Pebblegate", "refused", "I", false)
  | _ => ("Pebblegate", "knocks", "I", false)
def tyX1 : Nat → FieldType := fun k => match k with
  | 0 => .int
  | 1 => .object "java/util/ArrayList"
  | 2 => .object "java/util/TreeMap"
  | 3 => .array (.array .int)
  | 4 => .int
  | 5 => .int
  | _ => .int
abbrev wsX10 : List Cond := u_ws RX1 TX1 7
theorem nmX1 : ∀ a, a < 7 → ∀ b, b < 7 → a ≠ b → (TX1 a).2.1 ≠ (TX1 b).2.1 := by decide +kernel
theorem tyX1_ok : ∀ k, k < 7 → parseFieldDescriptor (TX1 k).2.2.1 = some (tyX1 k) := by decide +kernel
abbrev cX1_init : ByteArray := prog_1_method_9_code
def yX1_init : MethodName := ⟨RX1, "<init>", "()V"⟩
def dkwX1_init_2 : List UInt8 := [180, 0, 109, 27, 42, 180, 0, 93, 188, 10, 83, 132, 1, 1, 167, 255, 236, 177]
abbrev dktX1_init_2 : List UInt8 := dkwX1_init_2 ++ []
def dkwX1_init_1 : List UInt8 := [89, 183, 0, 103, 181, 0, 104, 42, 7, 189, 0, 108, 181, 0, 109, 3, 60, 27, 7, 162, 0, 21, 42]
abbrev dktX1_init_1 : List UInt8 := dkwX1_init_1 ++ dktX1_init_2
def dkwX1_init_0 : List UInt8 := [42, 183, 0, 90, 42, 7, 181, 0, 93, 42, 187, 0, 38, 89, 183, 0, 40, 181, 0, 97, 42, 187, 0, 101]
abbrev dktX1_init_0 : List UInt8 := dkwX1_init_0 ++ dktX1_init_1
theorem dksX1_init_0 : cX1_init.data.toList.drop 0 = dktX1_init_0 := by decide +kernel
theorem dksX1_init_1 : cX1_init.data.toList.drop 24 = dktX1_init_1 := dk_seg dksX1_init_0 24 rfl rfl
theorem dksX1_init_2 : cX1_init.data.toList.drop 47 = dktX1_init_2 := dk_seg dksX1_init_1 23 rfl rfl
theorem dX1_init_0 : decode cX1_init 0 = .ok (.aload_n 0, 1) := dk_42 (dk_at dksX1_init_0 0 rfl rfl)
theorem dX1_init_1 : decode cX1_init 1 = .ok (.invokespecial 90, 3) := dk_183 0 90 (dk_at dksX1_init_0 1 rfl rfl)
theorem dX1_init_4 : decode cX1_init 4 = .ok (.aload_n 0, 1) := dk_42 (dk_at dksX1_init_0 4 rfl rfl)
theorem dX1_init_5 : decode cX1_init 5 = .ok (.iconst 4, 1) := dk_7 (dk_at dksX1_init_0 5 rfl rfl)
theorem dX1_init_6 : decode cX1_init 6 = .ok (.putfield 93, 3) := dk_181 0 93 (dk_at dksX1_init_0 6 rfl rfl)
theorem dX1_init_9 : decode cX1_init 9 = .ok (.aload_n 0, 1) := dk_42 (dk_at dksX1_init_0 9 rfl rfl)
theorem dX1_init_10 : decode cX1_init 10 = .ok (.new 38, 3) := dk_187 0 38 (dk_at dksX1_init_0 10 rfl rfl)
theorem dX1_init_13 : decode cX1_init 13 = .ok (.dup, 1) := dk_89 (dk_at dksX1_init_0 13 rfl rfl)
theorem dX1_init_14 : decode cX1_init 14 = .ok (.invokespecial 40, 3) := dk_183 0 40 (dk_at dksX1_init_0 14 rfl rfl)
theorem dX1_init_17 : decode cX1_init 17 = .ok (.putfield 97, 3) := dk_181 0 97 (dk_at dksX1_init_0 17 rfl rfl)
theorem dX1_init_20 : decode cX1_init 20 = .ok (.aload_n 0, 1) := dk_42 (dk_at dksX1_init_0 20 rfl rfl)
theorem dX1_init_21 : decode cX1_init 21 = .ok (.new 101, 3) := dk_187 0 101 (dk_at dksX1_init_0 21 rfl rfl)
theorem dX1_init_24 : decode cX1_init 24 = .ok (.dup, 1) := dk_89 (dk_at dksX1_init_1 0 rfl rfl)
theorem dX1_init_25 : decode cX1_init 25 = .ok (.invokespecial 103, 3) := dk_183 0 103 (dk_at dksX1_init_1 1 rfl rfl)
theorem dX1_init_28 : decode cX1_init 28 = .ok (.putfield 104, 3) := dk_181 0 104 (dk_at dksX1_init_1 4 rfl rfl)
theorem dX1_init_31 : decode cX1_init 31 = .ok (.aload_n 0, 1) := dk_42 (dk_at dksX1_init_1 7 rfl rfl)
theorem dX1_init_32 : decode cX1_init 32 = .ok (.iconst 4, 1) := dk_7 (dk_at dksX1_init_1 8 rfl rfl)
theorem dX1_init_33 : decode cX1_init 33 = .ok (.anewarray 108, 3) := dk_189 0 108 (dk_at dksX1_init_1 9 rfl rfl)
theorem dX1_init_36 : decode cX1_init 36 = .ok (.putfield 109, 3) := dk_181 0 109 (dk_at dksX1_init_1 12 rfl rfl)
theorem dX1_init_39 : decode cX1_init 39 = .ok (.iconst 0, 1) := dk_3 (dk_at dksX1_init_1 15 rfl rfl)
theorem dX1_init_40 : decode cX1_init 40 = .ok (.istore_n 1, 1) := dk_60 (dk_at dksX1_init_1 16 rfl rfl)
theorem dX1_init_41 : decode cX1_init 41 = .ok (.iload_n 1, 1) := dk_27 (dk_at dksX1_init_1 17 rfl rfl)
theorem dX1_init_42 : decode cX1_init 42 = .ok (.iconst 4, 1) := dk_7 (dk_at dksX1_init_1 18 rfl rfl)
theorem dX1_init_43 : decode cX1_init 43 = .ok (.if_icmp .ge 21, 3) := dk_162 0 21 (dk_at dksX1_init_1 19 rfl rfl)
theorem dX1_init_46 : decode cX1_init 46 = .ok (.aload_n 0, 1) := dk_42 (dk_at dksX1_init_1 22 rfl rfl)
theorem dX1_init_47 : decode cX1_init 47 = .ok (.getfield 109, 3) := dk_180 0 109 (dk_at dksX1_init_2 0 rfl rfl)
theorem dX1_init_50 : decode cX1_init 50 = .ok (.iload_n 1, 1) := dk_27 (dk_at dksX1_init_2 3 rfl rfl)
theorem dX1_init_51 : decode cX1_init 51 = .ok (.aload_n 0, 1) := dk_42 (dk_at dksX1_init_2 4 rfl rfl)
theorem dX1_init_52 : decode cX1_init 52 = .ok (.getfield 93, 3) := dk_180 0 93 (dk_at dksX1_init_2 5 rfl rfl)
theorem dX1_init_55 : decode cX1_init 55 = .ok (.newarray .int, 2) := dk_188_10 (dk_at dksX1_init_2 8 rfl rfl)
theorem dX1_init_57 : decode cX1_init 57 = .ok (.aastore, 1) := dk_83 (dk_at dksX1_init_2 10 rfl rfl)
theorem dX1_init_58 : decode cX1_init 58 = .ok (.iinc 1 1, 3) := dk_132 1 1 (dk_at dksX1_init_2 11 rfl rfl)
theorem dX1_init_61 : decode cX1_init 61 = .ok (.goto (-20), 3) := dk_167 255 236 (dk_at dksX1_init_2 14 rfl rfl)
theorem dX1_init_64 : decode cX1_init 64 = .ok (.return_, 1) := dk_177 (dk_at dksX1_init_2 17 rfl rfl)
abbrev cX1_step : ByteArray := prog_1_method_27_code
def yX1_step : MethodName := ⟨RX1, "step", "()I"⟩
def dkwX1_step_2 : List UInt8 := [182, 0, 178, 172]
abbrev dktX1_step_2 : List UInt8 := dkwX1_step_2 ++ []
def dkwX1_step_1 : List UInt8 := [89, 42, 180, 0, 93, 183, 0, 184, 182, 0, 64, 87, 42, 42, 180, 0, 97, 182, 0, 68, 4, 100]
abbrev dktX1_step_1 : List UInt8 := dkwX1_step_1 ++ dktX1_step_2
def dkwX1_step_0 : List UInt8 := [42, 180, 0, 97, 182, 0, 68, 16, 8, 160, 0, 8, 42, 182, 0, 181, 172, 42, 180, 0, 97, 187, 0, 55]
abbrev dktX1_step_0 : List UInt8 := dkwX1_step_0 ++ dktX1_step_1
theorem dksX1_step_0 : cX1_step.data.toList.drop 0 = dktX1_step_0 := by decide +kernel
theorem dksX1_step_1 : cX1_step.data.toList.drop 24 = dktX1_step_1 := dk_seg dksX1_step_0 24 rfl rfl
theorem dksX1_step_2 : cX1_step.data.toList.drop 46 = dktX1_step_2 := dk_seg dksX1_step_1 22 rfl rfl
theorem dX1_step_0 : decode cX1_step 0 = .ok (.aload_n 0, 1) := dk_42 (dk_at dksX1_step_0 0 rfl rfl)
theorem dX1_step_1 : decode cX1_step 1 = .ok (.getfield 97, 3) := dk_180 0 97 (dk_at dksX1_step_0 1 rfl rfl)
theorem dX1_step_4 : decode cX1_step 4 = .ok (.invokevirtual 68, 3) := dk_182 0 68 (dk_at dksX1_step_0 4 rfl rfl)
theorem dX1_step_7 : decode cX1_step 7 = .ok (.bipush 8, 2) := dk_16 8 (dk_at dksX1_step_0 7 rfl rfl)
theorem dX1_step_9 : decode cX1_step 9 = .ok (.if_icmp .ne 8, 3) := dk_160 0 8 (dk_at dksX1_step_0 9 rfl rfl)
theorem dX1_step_12 : decode cX1_step 12 = .ok (.aload_n 0, 1) := dk_42 (dk_at dksX1_step_0 12 rfl rfl)
theorem dX1_step_13 : decode cX1_step 13 = .ok (.invokevirtual 181, 3) := dk_182 0 181 (dk_at dksX1_step_0 13 rfl rfl)
theorem dX1_step_16 : decode cX1_step 16 = .ok (.ireturn, 1) := dk_172 (dk_at dksX1_step_0 16 rfl rfl)
theorem dX1_step_17 : decode cX1_step 17 = .ok (.aload_n 0, 1) := dk_42 (dk_at dksX1_step_0 17 rfl rfl)
theorem dX1_step_18 : decode cX1_step 18 = .ok (.getfield 97, 3) := dk_180 0 97 (dk_at dksX1_step_0 18 rfl rfl)
theorem dX1_step_21 : decode cX1_step 21 = .ok (.new 55, 3) := dk_187 0 55 (dk_at dksX1_step_0 21 rfl rfl)
theorem dX1_step_24 : decode cX1_step 24 = .ok (.dup, 1) := dk_89 (dk_at dksX1_step_1 0 rfl rfl)
theorem dX1_step_25 : decode cX1_step 25 = .ok (.aload_n 0, 1) := dk_42 (dk_at dksX1_step_1 1 rfl rfl)
theorem dX1_step_26 : decode cX1_step 26 = .ok (.getfield 93, 3) := dk_180 0 93 (dk_at dksX1_step_1 2 rfl rfl)
theorem dX1_step_29 : decode cX1_step 29 = .ok (.invokespecial 184, 3) := dk_183 0 184 (dk_at dksX1_step_1 5 rfl rfl)
theorem dX1_step_32 : decode cX1_step 32 = .ok (.invokevirtual 64, 3) := dk_182 0 64 (dk_at dksX1_step_1 8 rfl rfl)
theorem dX1_step_35 : decode cX1_step 35 = .ok (.pop, 1) := dk_87 (dk_at dksX1_step_1 11 rfl rfl)
theorem dX1_step_36 : decode cX1_step 36 = .ok (.aload_n 0, 1) := dk_42 (dk_at dksX1_step_1 12 rfl rfl)
theorem dX1_step_37 : decode cX1_step 37 = .ok (.aload_n 0, 1) := dk_42 (dk_at dksX1_step_1 13 rfl rfl)
theorem dX1_step_38 : decode cX1_step 38 = .ok (.getfield 97, 3) := dk_180 0 97 (dk_at dksX1_step_1 14 rfl rfl)
theorem dX1_step_41 : decode cX1_step 41 = .ok (.invokevirtual 68, 3) := dk_182 0 68 (dk_at dksX1_step_1 17 rfl rfl)
theorem dX1_step_44 : decode cX1_step 44 = .ok (.iconst 1, 1) := dk_4 (dk_at dksX1_step_1 20 rfl rfl)
theorem dX1_step_45 : decode cX1_step 45 = .ok (.isub, 1) := dk_100 (dk_at dksX1_step_1 21 rfl rfl)
theorem dX1_step_46 : decode cX1_step 46 = .ok (.invokevirtual 178, 3) := dk_182 0 178 (dk_at dksX1_step_2 0 rfl rfl)
theorem dX1_step_49 : decode cX1_step 49 = .ok (.ireturn, 1) := dk_172 (dk_at dksX1_step_2 3 rfl rfl)
abbrev cX1_no : ByteArray := prog_1_method_18_code
def yX1_no : MethodName := ⟨RX1, "no", "()I"⟩
def dkwX1_no_0 : List UInt8 := [42, 89, 180, 0, 130, 4, 96, 181, 0, 130, 16, 247, 172]
abbrev dktX1_no_0 : List UInt8 := dkwX1_no_0 ++ []
theorem dksX1_no_0 : cX1_no.data.toList.drop 0 = dktX1_no_0 := by decide +kernel
theorem dX1_no_0 : decode cX1_no 0 = .ok (.aload_n 0, 1) := dk_42 (dk_at dksX1_no_0 0 rfl rfl)
theorem dX1_no_1 : decode cX1_no 1 = .ok (.dup, 1) := dk_89 (dk_at dksX1_no_0 1 rfl rfl)
theorem dX1_no_2 : decode cX1_no 2 = .ok (.getfield 130, 3) := dk_180 0 130 (dk_at dksX1_no_0 2 rfl rfl)
theorem dX1_no_5 : decode cX1_no 5 = .ok (.iconst 1, 1) := dk_4 (dk_at dksX1_no_0 5 rfl rfl)
theorem dX1_no_6 : decode cX1_no 6 = .ok (.iadd, 1) := dk_96 (dk_at dksX1_no_0 6 rfl rfl)
theorem dX1_no_7 : decode cX1_no 7 = .ok (.putfield 130, 3) := dk_181 0 130 (dk_at dksX1_no_0 7 rfl rfl)
theorem dX1_no_10 : decode cX1_no 10 = .ok (.bipush (-9), 2) := dk_16 247 (dk_at dksX1_no_0 10 rfl rfl)
theorem dX1_no_12 : decode cX1_no 12 = .ok (.ireturn, 1) := dk_172 (dk_at dksX1_no_0 12 rfl rfl)
abbrev cX1_done : ByteArray := prog_1_method_17_code
def yX1_done : MethodName := ⟨RX1, "done", "(I)I"⟩
def dkwX1_done_0 : List UInt8 := [42, 89, 180, 0, 127, 4, 96, 181, 0, 127, 27, 172]
abbrev dktX1_done_0 : List UInt8 := dkwX1_done_0 ++ []
theorem dksX1_done_0 : cX1_done.data.toList.drop 0 = dktX1_done_0 := by decide +kernel
theorem dX1_done_0 : decode cX1_done 0 = .ok (.aload_n 0, 1) := dk_42 (dk_at dksX1_done_0 0 rfl rfl)
theorem dX1_done_1 : decode cX1_done 1 = .ok (.dup, 1) := dk_89 (dk_at dksX1_done_0 1 rfl rfl)
theorem dX1_done_2 : decode cX1_done 2 = .ok (.getfield 127, 3) := dk_180 0 127 (dk_at dksX1_done_0 2 rfl rfl)
theorem dX1_done_5 : decode cX1_done 5 = .ok (.iconst 1, 1) := dk_4 (dk_at dksX1_done_0 5 rfl rfl)
theorem dX1_done_6 : decode cX1_done 6 = .ok (.iadd, 1) := dk_96 (dk_at dksX1_done_0 6 rfl rfl)
theorem dX1_done_7 : decode cX1_done 7 = .ok (.putfield 127, 3) := dk_181 0 127 (dk_at dksX1_done_0 7 rfl rfl)
theorem dX1_done_10 : decode cX1_done 10 = .ok (.iload_n 1, 1) := dk_27 (dk_at dksX1_done_0 10 rfl rfl)
theorem dX1_done_11 : decode cX1_done 11 = .ok (.ireturn, 1) := dk_172 (dk_at dksX1_done_0 11 rfl rfl)
abbrev cX1_turn : ByteArray := prog_1_method_31_code
def yX1_turn : MethodName := ⟨RX1, "turn", "()I"⟩
def dkwX1_turn_2 : List UInt8 := [192, 0, 55, 182, 0, 200, 182, 0, 78, 87, 132, 2, 1, 167, 255, 199, 42, 27, 182, 0, 178, 172]
abbrev dktX1_turn_2 : List UInt8 := dkwX1_turn_2 ++ []
def dkwX1_turn_1 : List UInt8 := [192, 0, 55, 182, 0, 204, 184, 0, 194, 96, 60, 42, 180, 0, 97, 28, 42, 180, 0, 97, 28, 182, 0, 72]
abbrev dktX1_turn_1 : List UInt8 := dkwX1_turn_1 ++ dktX1_turn_2
def dkwX1_turn_0 : List UInt8 := [3, 60, 3, 61, 28, 42, 180, 0, 97, 182, 0, 68, 162, 0, 52, 27, 42, 180, 0, 97, 28, 182, 0, 72]
abbrev dktX1_turn_0 : List UInt8 := dkwX1_turn_0 ++ dktX1_turn_1
theorem dksX1_turn_0 : cX1_turn.data.toList.drop 0 = dktX1_turn_0 := by decide +kernel
theorem dksX1_turn_1 : cX1_turn.data.toList.drop 24 = dktX1_turn_1 := dk_seg dksX1_turn_0 24 rfl rfl
theorem dksX1_turn_2 : cX1_turn.data.toList.drop 48 = dktX1_turn_2 := dk_seg dksX1_turn_1 24 rfl rfl
theorem dX1_turn_0 : decode cX1_turn 0 = .ok (.iconst 0, 1) := dk_3 (dk_at dksX1_turn_0 0 rfl rfl)
theorem dX1_turn_1 : decode cX1_turn 1 = .ok (.istore_n 1, 1) := dk_60 (dk_at dksX1_turn_0 1 rfl rfl)
theorem dX1_turn_2 : decode cX1_turn 2 = .ok (.iconst 0, 1) := dk_3 (dk_at dksX1_turn_0 2 rfl rfl)
theorem dX1_turn_3 : decode cX1_turn 3 = .ok (.istore_n 2, 1) := dk_61 (dk_at dksX1_turn_0 3 rfl rfl)
theorem dX1_turn_4 : decode cX1_turn 4 = .ok (.iload_n 2, 1) := dk_28 (dk_at dksX1_turn_0 4 rfl rfl)
theorem dX1_turn_5 : decode cX1_turn 5 = .ok (.aload_n 0, 1) := dk_42 (dk_at dksX1_turn_0 5 rfl rfl)
theorem dX1_turn_6 : decode cX1_turn 6 = .ok (.getfield 97, 3) := dk_180 0 97 (dk_at dksX1_turn_0 6 rfl rfl)
theorem dX1_turn_9 : decode cX1_turn 9 = .ok (.invokevirtual 68, 3) := dk_182 0 68 (dk_at dksX1_turn_0 9 rfl rfl)
theorem dX1_turn_12 : decode cX1_turn 12 = .ok (.if_icmp .ge 52, 3) := dk_162 0 52 (dk_at dksX1_turn_0 12 rfl rfl)
theorem dX1_turn_15 : decode cX1_turn 15 = .ok (.iload_n 1, 1) := dk_27 (dk_at dksX1_turn_0 15 rfl rfl)
theorem dX1_turn_16 : decode cX1_turn 16 = .ok (.aload_n 0, 1) := dk_42 (dk_at dksX1_turn_0 16 rfl rfl)
theorem dX1_turn_17 : decode cX1_turn 17 = .ok (.getfield 97, 3) := dk_180 0 97 (dk_at dksX1_turn_0 17 rfl rfl)
theorem dX1_turn_20 : decode cX1_turn 20 = .ok (.iload_n 2, 1) := dk_28 (dk_at dksX1_turn_0 20 rfl rfl)
theorem dX1_turn_21 : decode cX1_turn 21 = .ok (.invokevirtual 72, 3) := dk_182 0 72 (dk_at dksX1_turn_0 21 rfl rfl)
theorem dX1_turn_24 : decode cX1_turn 24 = .ok (.checkcast 55, 3) := dk_192 0 55 (dk_at dksX1_turn_1 0 rfl rfl)
theorem dX1_turn_27 : decode cX1_turn 27 = .ok (.invokevirtual 204, 3) := dk_182 0 204 (dk_at dksX1_turn_1 3 rfl rfl)
theorem dX1_turn_30 : decode cX1_turn 30 = .ok (.invokestatic 194, 3) := dk_184 0 194 (dk_at dksX1_turn_1 6 rfl rfl)
theorem dX1_turn_33 : decode cX1_turn 33 = .ok (.iadd, 1) := dk_96 (dk_at dksX1_turn_1 9 rfl rfl)
theorem dX1_turn_34 : decode cX1_turn 34 = .ok (.istore_n 1, 1) := dk_60 (dk_at dksX1_turn_1 10 rfl rfl)
theorem dX1_turn_35 : decode cX1_turn 35 = .ok (.aload_n 0, 1) := dk_42 (dk_at dksX1_turn_1 11 rfl rfl)
theorem dX1_turn_36 : decode cX1_turn 36 = .ok (.getfield 97, 3) := dk_180 0 97 (dk_at dksX1_turn_1 12 rfl rfl)
theorem dX1_turn_39 : decode cX1_turn 39 = .ok (.iload_n 2, 1) := dk_28 (dk_at dksX1_turn_1 15 rfl rfl)
theorem dX1_turn_40 : decode cX1_turn 40 = .ok (.aload_n 0, 1) := dk_42 (dk_at dksX1_turn_1 16 rfl rfl)
theorem dX1_turn_41 : decode cX1_turn 41 = .ok (.getfield 97, 3) := dk_180 0 97 (dk_at dksX1_turn_1 17 rfl rfl)
theorem dX1_turn_44 : decode cX1_turn 44 = .ok (.iload_n 2, 1) := dk_28 (dk_at dksX1_turn_1 20 rfl rfl)
theorem dX1_turn_45 : decode cX1_turn 45 = .ok (.invokevirtual 72, 3) := dk_182 0 72 (dk_at dksX1_turn_1 21 rfl rfl)
theorem dX1_turn_48 : decode cX1_turn 48 = .ok (.checkcast 55, 3) := dk_192 0 55 (dk_at dksX1_turn_2 0 rfl rfl)
theorem dX1_turn_51 : decode cX1_turn 51 = .ok (.invokevirtual 200, 3) := dk_182 0 200 (dk_at dksX1_turn_2 3 rfl rfl)
theorem dX1_turn_54 : decode cX1_turn 54 = .ok (.invokevirtual 78, 3) := dk_182 0 78 (dk_at dksX1_turn_2 6 rfl rfl)
theorem dX1_turn_57 : decode cX1_turn 57 = .ok (.pop, 1) := dk_87 (dk_at dksX1_turn_2 9 rfl rfl)
theorem dX1_turn_58 : decode cX1_turn 58 = .ok (.iinc 2 1, 3) := dk_132 2 1 (dk_at dksX1_turn_2 10 rfl rfl)
theorem dX1_turn_61 : decode cX1_turn 61 = .ok (.goto (-57), 3) := dk_167 255 199 (dk_at dksX1_turn_2 13 rfl rfl)
theorem dX1_turn_64 : decode cX1_turn 64 = .ok (.aload_n 0, 1) := dk_42 (dk_at dksX1_turn_2 16 rfl rfl)
theorem dX1_turn_65 : decode cX1_turn 65 = .ok (.iload_n 1, 1) := dk_27 (dk_at dksX1_turn_2 17 rfl rfl)
theorem dX1_turn_66 : decode cX1_turn 66 = .ok (.invokevirtual 178, 3) := dk_182 0 178 (dk_at dksX1_turn_2 18 rfl rfl)
theorem dX1_turn_69 : decode cX1_turn 69 = .ok (.ireturn, 1) := dk_172 (dk_at dksX1_turn_2 21 rfl rfl)
abbrev cX1_bit : ByteArray := prog_1_method_10_code
def yX1_bit : MethodName := ⟨RX1, "bit", "(Z)I"⟩
def dkwX1_bit_0 : List UInt8 := [26, 153, 0, 7, 4, 167, 0, 4, 3, 172]
abbrev dktX1_bit_0 : List UInt8 := dkwX1_bit_0 ++ []
theorem dksX1_bit_0 : cX1_bit.data.toList.drop 0 = dktX1_bit_0 := by decide +kernel
theorem dX1_bit_0 : decode cX1_bit 0 = .ok (.iload_n 0, 1) := dk_26 (dk_at dksX1_bit_0 0 rfl rfl)
theorem dX1_bit_1 : decode cX1_bit 1 = .ok (.ifCond .eq 7, 3) := dk_153 0 7 (dk_at dksX1_bit_0 1 rfl rfl)
theorem dX1_bit_4 : decode cX1_bit 4 = .ok (.iconst 1, 1) := dk_4 (dk_at dksX1_bit_0 4 rfl rfl)
theorem dX1_bit_5 : decode cX1_bit 5 = .ok (.goto 4, 3) := dk_167 0 4 (dk_at dksX1_bit_0 5 rfl rfl)
theorem dX1_bit_8 : decode cX1_bit 8 = .ok (.iconst 0, 1) := dk_3 (dk_at dksX1_bit_0 8 rfl rfl)
theorem dX1_bit_9 : decode cX1_bit 9 = .ok (.ireturn, 1) := dk_172 (dk_at dksX1_bit_0 9 rfl rfl)
abbrev cX1_text : ByteArray := prog_1_method_44_code
def yX1_text : MethodName := ⟨RX1, "text", "()Ljava/lang/String;"⟩
def dkwX1_text_0 : List UInt8 := [42, 182, 0, 207, 184, 1, 10, 176]
abbrev dktX1_text_0 : List UInt8 := dkwX1_text_0 ++ []
theorem dksX1_text_0 : cX1_text.data.toList.drop 0 = dktX1_text_0 := by decide +kernel
theorem dX1_text_0 : decode cX1_text 0 = .ok (.aload_n 0, 1) := dk_42 (dk_at dksX1_text_0 0 rfl rfl)
theorem dX1_text_1 : decode cX1_text 1 = .ok (.invokevirtual 207, 3) := dk_182 0 207 (dk_at dksX1_text_0 1 rfl rfl)
theorem dX1_text_4 : decode cX1_text 4 = .ok (.invokestatic 266, 3) := dk_184 1 10 (dk_at dksX1_text_0 4 rfl rfl)
theorem dX1_text_7 : decode cX1_text 7 = .ok (.areturn, 1) := dk_176 (dk_at dksX1_text_0 7 rfl rfl)
abbrev cX1_now : ByteArray := prog_1_method_21_code
def yX1_now : MethodName := ⟨RX1, "now", "()[I"⟩
def dkwX1_now_1 : List UInt8 := [79, 132, 2, 1, 167, 255, 237, 43, 176]
abbrev dktX1_now_1 : List UInt8 := dkwX1_now_1 ++ []
def dkwX1_now_0 : List UInt8 := [42, 180, 0, 93, 188, 10, 76, 3, 61, 28, 42, 180, 0, 93, 162, 0, 17, 43, 28, 42, 28, 182, 0, 152]
abbrev dktX1_now_0 : List UInt8 := dkwX1_now_0 ++ dktX1_now_1
theorem dksX1_now_0 : cX1_now.data.toList.drop 0 = dktX1_now_0 := by decide +kernel
theorem dksX1_now_1 : cX1_now.data.toList.drop 24 = dktX1_now_1 := dk_seg dksX1_now_0 24 rfl rfl
theorem dX1_now_0 : decode cX1_now 0 = .ok (.aload_n 0, 1) := dk_42 (dk_at dksX1_now_0 0 rfl rfl)
theorem dX1_now_1 : decode cX1_now 1 = .ok (.getfield 93, 3) := dk_180 0 93 (dk_at dksX1_now_0 1 rfl rfl)
theorem dX1_now_4 : decode cX1_now 4 = .ok (.newarray .int, 2) := dk_188_10 (dk_at dksX1_now_0 4 rfl rfl)
theorem dX1_now_6 : decode cX1_now 6 = .ok (.astore_n 1, 1) := dk_76 (dk_at dksX1_now_0 6 rfl rfl)
theorem dX1_now_7 : decode cX1_now 7 = .ok (.iconst 0, 1) := dk_3 (dk_at dksX1_now_0 7 rfl rfl)
theorem dX1_now_8 : decode cX1_now 8 = .ok (.istore_n 2, 1) := dk_61 (dk_at dksX1_now_0 8 rfl rfl)
theorem dX1_now_9 : decode cX1_now 9 = .ok (.iload_n 2, 1) := dk_28 (dk_at dksX1_now_0 9 rfl rfl)
theorem dX1_now_10 : decode cX1_now 10 = .ok (.aload_n 0, 1) := dk_42 (dk_at dksX1_now_0 10 rfl rfl)
theorem dX1_now_11 : decode cX1_now 11 = .ok (.getfield 93, 3) := dk_180 0 93 (dk_at dksX1_now_0 11 rfl rfl)
theorem dX1_now_14 : decode cX1_now 14 = .ok (.if_icmp .ge 17, 3) := dk_162 0 17 (dk_at dksX1_now_0 14 rfl rfl)
theorem dX1_now_17 : decode cX1_now 17 = .ok (.aload_n 1, 1) := dk_43 (dk_at dksX1_now_0 17 rfl rfl)
theorem dX1_now_18 : decode cX1_now 18 = .ok (.iload_n 2, 1) := dk_28 (dk_at dksX1_now_0 18 rfl rfl)
theorem dX1_now_19 : decode cX1_now 19 = .ok (.aload_n 0, 1) := dk_42 (dk_at dksX1_now_0 19 rfl rfl)
theorem dX1_now_20 : decode cX1_now 20 = .ok (.iload_n 2, 1) := dk_28 (dk_at dksX1_now_0 20 rfl rfl)
theorem dX1_now_21 : decode cX1_now 21 = .ok (.invokevirtual 152, 3) := dk_182 0 152 (dk_at dksX1_now_0 21 rfl rfl)
theorem dX1_now_24 : decode cX1_now 24 = .ok (.iastore, 1) := dk_79 (dk_at dksX1_now_1 0 rfl rfl)
theorem dX1_now_25 : decode cX1_now 25 = .ok (.iinc 2 1, 3) := dk_132 2 1 (dk_at dksX1_now_1 1 rfl rfl)
theorem dX1_now_28 : decode cX1_now 28 = .ok (.goto (-19), 3) := dk_167 255 237 (dk_at dksX1_now_1 4 rfl rfl)
theorem dX1_now_31 : decode cX1_now 31 = .ok (.aload_n 1, 1) := dk_43 (dk_at dksX1_now_1 7 rfl rfl)
theorem dX1_now_32 : decode cX1_now 32 = .ok (.areturn, 1) := dk_176 (dk_at dksX1_now_1 8 rfl rfl)
abbrev cX1_at : ByteArray := prog_1_method_19_code
def yX1_at : MethodName := ⟨RX1, "at", "(I)I"⟩
def dkwX1_at_1 : List UInt8 := [182, 0, 142, 172]
abbrev dktX1_at_1 : List UInt8 := dkwX1_at_1 ++ []
def dkwX1_at_0 : List UInt8 := [42, 180, 0, 104, 27, 184, 0, 133, 182, 0, 139, 192, 0, 134, 77, 44, 199, 0, 7, 3, 167, 0, 7, 44]
abbrev dktX1_at_0 : List UInt8 := dkwX1_at_0 ++ dktX1_at_1
theorem dksX1_at_0 : cX1_at.data.toList.drop 0 = dktX1_at_0 := by decide +kernel
theorem dksX1_at_1 : cX1_at.data.toList.drop 24 = dktX1_at_1 := dk_seg dksX1_at_0 24 rfl rfl
theorem dX1_at_0 : decode cX1_at 0 = .ok (.aload_n 0, 1) := dk_42 (dk_at dksX1_at_0 0 rfl rfl)
theorem dX1_at_1 : decode cX1_at 1 = .ok (.getfield 104, 3) := dk_180 0 104 (dk_at dksX1_at_0 1 rfl rfl)
theorem dX1_at_4 : decode cX1_at 4 = .ok (.iload_n 1, 1) := dk_27 (dk_at dksX1_at_0 4 rfl rfl)
theorem dX1_at_5 : decode cX1_at 5 = .ok (.invokestatic 133, 3) := dk_184 0 133 (dk_at dksX1_at_0 5 rfl rfl)
theorem dX1_at_8 : decode cX1_at 8 = .ok (.invokevirtual 139, 3) := dk_182 0 139 (dk_at dksX1_at_0 8 rfl rfl)
theorem dX1_at_11 : decode cX1_at 11 = .ok (.checkcast 134, 3) := dk_192 0 134 (dk_at dksX1_at_0 11 rfl rfl)
theorem dX1_at_14 : decode cX1_at 14 = .ok (.astore_n 2, 1) := dk_77 (dk_at dksX1_at_0 14 rfl rfl)
theorem dX1_at_15 : decode cX1_at 15 = .ok (.aload_n 2, 1) := dk_44 (dk_at dksX1_at_0 15 rfl rfl)
theorem dX1_at_16 : decode cX1_at 16 = .ok (.ifnonnull 7, 3) := dk_199 0 7 (dk_at dksX1_at_0 16 rfl rfl)
theorem dX1_at_19 : decode cX1_at 19 = .ok (.iconst 0, 1) := dk_3 (dk_at dksX1_at_0 19 rfl rfl)
theorem dX1_at_20 : decode cX1_at 20 = .ok (.goto 7, 3) := dk_167 0 7 (dk_at dksX1_at_0 20 rfl rfl)
theorem dX1_at_23 : decode cX1_at 23 = .ok (.aload_n 2, 1) := dk_44 (dk_at dksX1_at_0 23 rfl rfl)
theorem dX1_at_24 : decode cX1_at 24 = .ok (.invokevirtual 142, 3) := dk_182 0 142 (dk_at dksX1_at_1 0 rfl rfl)
theorem dX1_at_27 : decode cX1_at 27 = .ok (.ireturn, 1) := dk_172 (dk_at dksX1_at_1 3 rfl rfl)
abbrev cX1_textOf : ByteArray := prog_1_method_1_code
def yX1_textOf : MethodName := ⟨RX1, "textOf", "([I)Ljava/lang/String;"⟩
def dkwX1_textOf_2 : List UInt8 := [182, 0, 18, 176]
abbrev dktX1_textOf_2 : List UInt8 := dkwX1_textOf_2 ++ []
def dkwX1_textOf_1 : List UInt8 := [167, 0, 5, 18, 9, 182, 0, 11, 42, 28, 46, 182, 0, 15, 87, 132, 2, 1, 167, 255, 225, 43]
abbrev dktX1_textOf_1 : List UInt8 := dkwX1_textOf_1 ++ dktX1_textOf_2
def dkwX1_textOf_0 : List UInt8 := [187, 0, 1, 89, 183, 0, 3, 76, 3, 61, 28, 42, 190, 162, 0, 31, 43, 28, 154, 0, 8, 18, 7]
abbrev dktX1_textOf_0 : List UInt8 := dkwX1_textOf_0 ++ dktX1_textOf_1
theorem dksX1_textOf_0 : cX1_textOf.data.toList.drop 0 = dktX1_textOf_0 := by decide +kernel
theorem dksX1_textOf_1 : cX1_textOf.data.toList.drop 23 = dktX1_textOf_1 := dk_seg dksX1_textOf_0 23 rfl rfl
theorem dksX1_textOf_2 : cX1_textOf.data.toList.drop 45 = dktX1_textOf_2 := dk_seg dksX1_textOf_1 22 rfl rfl
theorem dX1_textOf_0 : decode cX1_textOf 0 = .ok (.new 1, 3) := dk_187 0 1 (dk_at dksX1_textOf_0 0 rfl rfl)
theorem dX1_textOf_3 : decode cX1_textOf 3 = .ok (.dup, 1) := dk_89 (dk_at dksX1_textOf_0 3 rfl rfl)
theorem dX1_textOf_4 : decode cX1_textOf 4 = .ok (.invokespecial 3, 3) := dk_183 0 3 (dk_at dksX1_textOf_0 4 rfl rfl)
theorem dX1_textOf_7 : decode cX1_textOf 7 = .ok (.astore_n 1, 1) := dk_76 (dk_at dksX1_textOf_0 7 rfl rfl)
theorem dX1_textOf_8 : decode cX1_textOf 8 = .ok (.iconst 0, 1) := dk_3 (dk_at dksX1_textOf_0 8 rfl rfl)
theorem dX1_textOf_9 : decode cX1_textOf 9 = .ok (.istore_n 2, 1) := dk_61 (dk_at dksX1_textOf_0 9 rfl rfl)
theorem dX1_textOf_10 : decode cX1_textOf 10 = .ok (.iload_n 2, 1) := dk_28 (dk_at dksX1_textOf_0 10 rfl rfl)
theorem dX1_textOf_11 : decode cX1_textOf 11 = .ok (.aload_n 0, 1) := dk_42 (dk_at dksX1_textOf_0 11 rfl rfl)
theorem dX1_textOf_12 : decode cX1_textOf 12 = .ok (.arraylength, 1) := dk_190 (dk_at dksX1_textOf_0 12 rfl rfl)
theorem dX1_textOf_13 : decode cX1_textOf 13 = .ok (.if_icmp .ge 31, 3) := dk_162 0 31 (dk_at dksX1_textOf_0 13 rfl rfl)
theorem dX1_textOf_16 : decode cX1_textOf 16 = .ok (.aload_n 1, 1) := dk_43 (dk_at dksX1_textOf_0 16 rfl rfl)
theorem dX1_textOf_17 : decode cX1_textOf 17 = .ok (.iload_n 2, 1) := dk_28 (dk_at dksX1_textOf_0 17 rfl rfl)
theorem dX1_textOf_18 : decode cX1_textOf 18 = .ok (.ifCond .ne 8, 3) := dk_154 0 8 (dk_at dksX1_textOf_0 18 rfl rfl)
theorem dX1_textOf_21 : decode cX1_textOf 21 = .ok (.ldc 7, 2) := dk_18 7 (dk_at dksX1_textOf_0 21 rfl rfl)
theorem dX1_textOf_23 : decode cX1_textOf 23 = .ok (.goto 5, 3) := dk_167 0 5 (dk_at dksX1_textOf_1 0 rfl rfl)
theorem dX1_textOf_26 : decode cX1_textOf 26 = .ok (.ldc 9, 2) := dk_18 9 (dk_at dksX1_textOf_1 3 rfl rfl)
theorem dX1_textOf_28 : decode cX1_textOf 28 = .ok (.invokevirtual 11, 3) := dk_182 0 11 (dk_at dksX1_textOf_1 5 rfl rfl)
theorem dX1_textOf_31 : decode cX1_textOf 31 = .ok (.aload_n 0, 1) := dk_42 (dk_at dksX1_textOf_1 8 rfl rfl)
theorem dX1_textOf_32 : decode cX1_textOf 32 = .ok (.iload_n 2, 1) := dk_28 (dk_at dksX1_textOf_1 9 rfl rfl)
theorem dX1_textOf_33 : decode cX1_textOf 33 = .ok (.iaload, 1) := dk_46 (dk_at dksX1_textOf_1 10 rfl rfl)
theorem dX1_textOf_34 : decode cX1_textOf 34 = .ok (.invokevirtual 15, 3) := dk_182 0 15 (dk_at dksX1_textOf_1 11 rfl rfl)
theorem dX1_textOf_37 : decode cX1_textOf 37 = .ok (.pop, 1) := dk_87 (dk_at dksX1_textOf_1 14 rfl rfl)
theorem dX1_textOf_38 : decode cX1_textOf 38 = .ok (.iinc 2 1, 3) := dk_132 2 1 (dk_at dksX1_textOf_1 15 rfl rfl)
theorem dX1_textOf_41 : decode cX1_textOf 41 = .ok (.goto (-31), 3) := dk_167 255 225 (dk_at dksX1_textOf_1 18 rfl rfl)
theorem dX1_textOf_44 : decode cX1_textOf 44 = .ok (.aload_n 1, 1) := dk_43 (dk_at dksX1_textOf_1 21 rfl rfl)
theorem dX1_textOf_45 : decode cX1_textOf 45 = .ok (.invokevirtual 18, 3) := dk_182 0 18 (dk_at dksX1_textOf_2 0 rfl rfl)
theorem dX1_textOf_48 : decode cX1_textOf 48 = .ok (.areturn, 1) := dk_176 (dk_at dksX1_textOf_2 3 rfl rfl)
abbrev cX1_going : ByteArray := prog_1_method_48_code
def yX1_going : MethodName := ⟨RX1, "going", "()I"⟩
def dkwX1_going_0 : List UInt8 := [42, 182, 1, 18, 184, 1, 22, 172]
abbrev dktX1_going_0 : List UInt8 := dkwX1_going_0 ++ []
theorem dksX1_going_0 : cX1_going.data.toList.drop 0 = dktX1_going_0 := by decide +kernel
theorem dX1_going_0 : decode cX1_going 0 = .ok (.aload_n 0, 1) := dk_42 (dk_at dksX1_going_0 0 rfl rfl)
theorem dX1_going_1 : decode cX1_going 1 = .ok (.invokevirtual 274, 3) := dk_182 1 18 (dk_at dksX1_going_0 1 rfl rfl)
theorem dX1_going_4 : decode cX1_going 4 = .ok (.invokestatic 278, 3) := dk_184 1 22 (dk_at dksX1_going_0 4 rfl rfl)
theorem dX1_going_7 : decode cX1_going 7 = .ok (.ireturn, 1) := dk_172 (dk_at dksX1_going_0 7 rfl rfl)
abbrev cX1_goingNow : ByteArray := prog_1_method_47_code
def yX1_goingNow : MethodName := ⟨RX1, "goingNow", "()Ljava/util/BitSet;"⟩
def dkwX1_goingNow_2 : List UInt8 := [132, 3, 1, 167, 255, 222, 43, 176]
abbrev dktX1_goingNow_2 : List UInt8 := dkwX1_goingNow_2 ++ []
def dkwX1_goingNow_1 : List UInt8 := [162, 0, 29, 43, 29, 42, 180, 0, 97, 29, 182, 0, 72, 192, 0, 55, 44, 182, 0, 211, 182, 1, 15]
abbrev dktX1_goingNow_1 : List UInt8 := dkwX1_goingNow_1 ++ dktX1_goingNow_2
def dkwX1_goingNow_0 : List UInt8 := [187, 0, 167, 89, 183, 1, 14, 76, 42, 182, 0, 207, 77, 3, 62, 29, 42, 180, 0, 97, 182, 0, 68]
abbrev dktX1_goingNow_0 : List UInt8 := dkwX1_goingNow_0 ++ dktX1_goingNow_1
theorem dksX1_goingNow_0 : cX1_goingNow.data.toList.drop 0 = dktX1_goingNow_0 := by decide +kernel
theorem dksX1_goingNow_1 : cX1_goingNow.data.toList.drop 23 = dktX1_goingNow_1 := dk_seg dksX1_goingNow_0 23 rfl rfl
theorem dksX1_goingNow_2 : cX1_goingNow.data.toList.drop 46 = dktX1_goingNow_2 := dk_seg dksX1_goingNow_1 23 rfl rfl
theorem dX1_goingNow_0 : decode cX1_goingNow 0 = .ok (.new 167, 3) := dk_187 0 167 (dk_at dksX1_goingNow_0 0 rfl rfl)
theorem dX1_goingNow_3 : decode cX1_goingNow 3 = .ok (.dup, 1) := dk_89 (dk_at dksX1_goingNow_0 3 rfl rfl)
theorem dX1_goingNow_4 : decode cX1_goingNow 4 = .ok (.invokespecial 270, 3) := dk_183 1 14 (dk_at dksX1_goingNow_0 4 rfl rfl)
theorem dX1_goingNow_7 : decode cX1_goingNow 7 = .ok (.astore_n 1, 1) := dk_76 (dk_at dksX1_goingNow_0 7 rfl rfl)
theorem dX1_goingNow_8 : decode cX1_goingNow 8 = .ok (.aload_n 0, 1) := dk_42 (dk_at dksX1_goingNow_0 8 rfl rfl)
theorem dX1_goingNow_9 : decode cX1_goingNow 9 = .ok (.invokevirtual 207, 3) := dk_182 0 207 (dk_at dksX1_goingNow_0 9 rfl rfl)
theorem dX1_goingNow_12 : decode cX1_goingNow 12 = .ok (.astore_n 2, 1) := dk_77 (dk_at dksX1_goingNow_0 12 rfl rfl)
theorem dX1_goingNow_13 : decode cX1_goingNow 13 = .ok (.iconst 0, 1) := dk_3 (dk_at dksX1_goingNow_0 13 rfl rfl)
theorem dX1_goingNow_14 : decode cX1_goingNow 14 = .ok (.istore_n 3, 1) := dk_62 (dk_at dksX1_goingNow_0 14 rfl rfl)
theorem dX1_goingNow_15 : decode cX1_goingNow 15 = .ok (.iload_n 3, 1) := dk_29 (dk_at dksX1_goingNow_0 15 rfl rfl)
theorem dX1_goingNow_16 : decode cX1_goingNow 16 = .ok (.aload_n 0, 1) := dk_42 (dk_at dksX1_goingNow_0 16 rfl rfl)
theorem dX1_goingNow_17 : decode cX1_goingNow 17 = .ok (.getfield 97, 3) := dk_180 0 97 (dk_at dksX1_goingNow_0 17 rfl rfl)
theorem dX1_goingNow_20 : decode cX1_goingNow 20 = .ok (.invokevirtual 68, 3) := dk_182 0 68 (dk_at dksX1_goingNow_0 20 rfl rfl)
theorem dX1_goingNow_23 : decode cX1_goingNow 23 = .ok (.if_icmp .ge 29, 3) := dk_162 0 29 (dk_at dksX1_goingNow_1 0 rfl rfl)
theorem dX1_goingNow_26 : decode cX1_goingNow 26 = .ok (.aload_n 1, 1) := dk_43 (dk_at dksX1_goingNow_1 3 rfl rfl)
theorem dX1_goingNow_27 : decode cX1_goingNow 27 = .ok (.iload_n 3, 1) := dk_29 (dk_at dksX1_goingNow_1 4 rfl rfl)
theorem dX1_goingNow_28 : decode cX1_goingNow 28 = .ok (.aload_n 0, 1) := dk_42 (dk_at dksX1_goingNow_1 5 rfl rfl)
theorem dX1_goingNow_29 : decode cX1_goingNow 29 = .ok (.getfield 97, 3) := dk_180 0 97 (dk_at dksX1_goingNow_1 6 rfl rfl)
theorem dX1_goingNow_32 : decode cX1_goingNow 32 = .ok (.iload_n 3, 1) := dk_29 (dk_at dksX1_goingNow_1 9 rfl rfl)
theorem dX1_goingNow_33 : decode cX1_goingNow 33 = .ok (.invokevirtual 72, 3) := dk_182 0 72 (dk_at dksX1_goingNow_1 10 rfl rfl)
theorem dX1_goingNow_36 : decode cX1_goingNow 36 = .ok (.checkcast 55, 3) := dk_192 0 55 (dk_at dksX1_goingNow_1 13 rfl rfl)
theorem dX1_goingNow_39 : decode cX1_goingNow 39 = .ok (.aload_n 2, 1) := dk_44 (dk_at dksX1_goingNow_1 16 rfl rfl)
theorem dX1_goingNow_40 : decode cX1_goingNow 40 = .ok (.invokevirtual 211, 3) := dk_182 0 211 (dk_at dksX1_goingNow_1 17 rfl rfl)
theorem dX1_goingNow_43 : decode cX1_goingNow 43 = .ok (.invokevirtual 271, 3) := dk_182 1 15 (dk_at dksX1_goingNow_1 20 rfl rfl)
theorem dX1_goingNow_46 : decode cX1_goingNow 46 = .ok (.iinc 3 1, 3) := dk_132 3 1 (dk_at dksX1_goingNow_2 0 rfl rfl)
theorem dX1_goingNow_49 : decode cX1_goingNow 49 = .ok (.goto (-34), 3) := dk_167 255 222 (dk_at dksX1_goingNow_2 3 rfl rfl)
theorem dX1_goingNow_52 : decode cX1_goingNow 52 = .ok (.aload_n 1, 1) := dk_43 (dk_at dksX1_goingNow_2 6 rfl rfl)
theorem dX1_goingNow_53 : decode cX1_goingNow 53 = .ok (.areturn, 1) := dk_176 (dk_at dksX1_goingNow_2 7 rfl rfl)
abbrev cX1_setOf : ByteArray := prog_1_method_25_code
def yX1_setOf : MethodName := ⟨RX1, "setOf", "(Ljava/util/BitSet;)I"⟩
def dkwX1_setOf_1 : List UInt8 := [182, 0, 166, 61, 167, 255, 238, 27, 172]
abbrev dktX1_setOf_1 : List UInt8 := dkwX1_setOf_1 ++ []
def dkwX1_setOf_0 : List UInt8 := [3, 60, 42, 3, 182, 0, 166, 61, 28, 155, 0, 20, 27, 4, 28, 120, 128, 60, 42, 28, 4, 96]
abbrev dktX1_setOf_0 : List UInt8 := dkwX1_setOf_0 ++ dktX1_setOf_1
theorem dksX1_setOf_0 : cX1_setOf.data.toList.drop 0 = dktX1_setOf_0 := by decide +kernel
theorem dksX1_setOf_1 : cX1_setOf.data.toList.drop 22 = dktX1_setOf_1 := dk_seg dksX1_setOf_0 22 rfl rfl
theorem dX1_setOf_0 : decode cX1_setOf 0 = .ok (.iconst 0, 1) := dk_3 (dk_at dksX1_setOf_0 0 rfl rfl)
theorem dX1_setOf_1 : decode cX1_setOf 1 = .ok (.istore_n 1, 1) := dk_60 (dk_at dksX1_setOf_0 1 rfl rfl)
theorem dX1_setOf_2 : decode cX1_setOf 2 = .ok (.aload_n 0, 1) := dk_42 (dk_at dksX1_setOf_0 2 rfl rfl)
theorem dX1_setOf_3 : decode cX1_setOf 3 = .ok (.iconst 0, 1) := dk_3 (dk_at dksX1_setOf_0 3 rfl rfl)
theorem dX1_setOf_4 : decode cX1_setOf 4 = .ok (.invokevirtual 166, 3) := dk_182 0 166 (dk_at dksX1_setOf_0 4 rfl rfl)
theorem dX1_setOf_7 : decode cX1_setOf 7 = .ok (.istore_n 2, 1) := dk_61 (dk_at dksX1_setOf_0 7 rfl rfl)
theorem dX1_setOf_8 : decode cX1_setOf 8 = .ok (.iload_n 2, 1) := dk_28 (dk_at dksX1_setOf_0 8 rfl rfl)
theorem dX1_setOf_9 : decode cX1_setOf 9 = .ok (.ifCond .lt 20, 3) := dk_155 0 20 (dk_at dksX1_setOf_0 9 rfl rfl)
theorem dX1_setOf_12 : decode cX1_setOf 12 = .ok (.iload_n 1, 1) := dk_27 (dk_at dksX1_setOf_0 12 rfl rfl)
theorem dX1_setOf_13 : decode cX1_setOf 13 = .ok (.iconst 1, 1) := dk_4 (dk_at dksX1_setOf_0 13 rfl rfl)
theorem dX1_setOf_14 : decode cX1_setOf 14 = .ok (.iload_n 2, 1) := dk_28 (dk_at dksX1_setOf_0 14 rfl rfl)
theorem dX1_setOf_15 : decode cX1_setOf 15 = .ok (.ishl, 1) := dk_120 (dk_at dksX1_setOf_0 15 rfl rfl)
theorem dX1_setOf_16 : decode cX1_setOf 16 = .ok (.ior, 1) := dk_128 (dk_at dksX1_setOf_0 16 rfl rfl)
theorem dX1_setOf_17 : decode cX1_setOf 17 = .ok (.istore_n 1, 1) := dk_60 (dk_at dksX1_setOf_0 17 rfl rfl)
theorem dX1_setOf_18 : decode cX1_setOf 18 = .ok (.aload_n 0, 1) := dk_42 (dk_at dksX1_setOf_0 18 rfl rfl)
theorem dX1_setOf_19 : decode cX1_setOf 19 = .ok (.iload_n 2, 1) := dk_28 (dk_at dksX1_setOf_0 19 rfl rfl)
theorem dX1_setOf_20 : decode cX1_setOf 20 = .ok (.iconst 1, 1) := dk_4 (dk_at dksX1_setOf_0 20 rfl rfl)
theorem dX1_setOf_21 : decode cX1_setOf 21 = .ok (.iadd, 1) := dk_96 (dk_at dksX1_setOf_0 21 rfl rfl)
theorem dX1_setOf_22 : decode cX1_setOf 22 = .ok (.invokevirtual 166, 3) := dk_182 0 166 (dk_at dksX1_setOf_1 0 rfl rfl)
theorem dX1_setOf_25 : decode cX1_setOf 25 = .ok (.istore_n 2, 1) := dk_61 (dk_at dksX1_setOf_1 3 rfl rfl)
theorem dX1_setOf_26 : decode cX1_setOf 26 = .ok (.goto (-18), 3) := dk_167 255 238 (dk_at dksX1_setOf_1 4 rfl rfl)
theorem dX1_setOf_29 : decode cX1_setOf 29 = .ok (.iload_n 1, 1) := dk_27 (dk_at dksX1_setOf_1 7 rfl rfl)
theorem dX1_setOf_30 : decode cX1_setOf 30 = .ok (.ireturn, 1) := dk_172 (dk_at dksX1_setOf_1 8 rfl rfl)
abbrev cX1_reached : ByteArray := prog_1_method_52_code
def yX1_reached : MethodName := ⟨RX1, "reached", "()I"⟩
def dkwX1_reached_1 : List UInt8 := [172]
abbrev dktX1_reached_1 : List UInt8 := dkwX1_reached_1 ++ []
def dkwX1_reached_0 : List UInt8 := [42, 182, 0, 243, 76, 43, 180, 0, 247, 153, 0, 8, 16, 247, 167, 0, 10, 43, 180, 1, 1, 182, 0, 68]
abbrev dktX1_reached_0 : List UInt8 := dkwX1_reached_0 ++ dktX1_reached_1
theorem dksX1_reached_0 : cX1_reached.data.toList.drop 0 = dktX1_reached_0 := by decide +kernel
theorem dksX1_reached_1 : cX1_reached.data.toList.drop 24 = dktX1_reached_1 := dk_seg dksX1_reached_0 24 rfl rfl
theorem dX1_reached_0 : decode cX1_reached 0 = .ok (.aload_n 0, 1) := dk_42 (dk_at dksX1_reached_0 0 rfl rfl)
theorem dX1_reached_1 : decode cX1_reached 1 = .ok (.invokevirtual 243, 3) := dk_182 0 243 (dk_at dksX1_reached_0 1 rfl rfl)
theorem dX1_reached_4 : decode cX1_reached 4 = .ok (.astore_n 1, 1) := dk_76 (dk_at dksX1_reached_0 4 rfl rfl)
theorem dX1_reached_5 : decode cX1_reached 5 = .ok (.aload_n 1, 1) := dk_43 (dk_at dksX1_reached_0 5 rfl rfl)
theorem dX1_reached_6 : decode cX1_reached 6 = .ok (.getfield 247, 3) := dk_180 0 247 (dk_at dksX1_reached_0 6 rfl rfl)
theorem dX1_reached_9 : decode cX1_reached 9 = .ok (.ifCond .eq 8, 3) := dk_153 0 8 (dk_at dksX1_reached_0 9 rfl rfl)
theorem dX1_reached_12 : decode cX1_reached 12 = .ok (.bipush (-9), 2) := dk_16 247 (dk_at dksX1_reached_0 12 rfl rfl)
theorem dX1_reached_14 : decode cX1_reached 14 = .ok (.goto 10, 3) := dk_167 0 10 (dk_at dksX1_reached_0 14 rfl rfl)
theorem dX1_reached_17 : decode cX1_reached 17 = .ok (.aload_n 1, 1) := dk_43 (dk_at dksX1_reached_0 17 rfl rfl)
theorem dX1_reached_18 : decode cX1_reached 18 = .ok (.getfield 257, 3) := dk_180 1 1 (dk_at dksX1_reached_0 18 rfl rfl)
theorem dX1_reached_21 : decode cX1_reached 21 = .ok (.invokevirtual 68, 3) := dk_182 0 68 (dk_at dksX1_reached_0 21 rfl rfl)
theorem dX1_reached_24 : decode cX1_reached 24 = .ok (.ireturn, 1) := dk_172 (dk_at dksX1_reached_1 0 rfl rfl)
abbrev cX1_reach : ByteArray := prog_1_method_51_code
def yX1_reach : MethodName := ⟨RX1, "reach", "()LPebblegate$Reach;"⟩
def dkwX1_reach_0 : List UInt8 := [187, 0, 248, 89, 42, 182, 0, 207, 42, 180, 0, 97, 183, 1, 33, 176]
abbrev dktX1_reach_0 : List UInt8 := dkwX1_reach_0 ++ []
theorem dksX1_reach_0 : cX1_reach.data.toList.drop 0 = dktX1_reach_0 := by decide +kernel
theorem dX1_reach_0 : decode cX1_reach 0 = .ok (.new 248, 3) := dk_187 0 248 (dk_at dksX1_reach_0 0 rfl rfl)
theorem dX1_reach_3 : decode cX1_reach 3 = .ok (.dup, 1) := dk_89 (dk_at dksX1_reach_0 3 rfl rfl)
theorem dX1_reach_4 : decode cX1_reach 4 = .ok (.aload_n 0, 1) := dk_42 (dk_at dksX1_reach_0 4 rfl rfl)
theorem dX1_reach_5 : decode cX1_reach 5 = .ok (.invokevirtual 207, 3) := dk_182 0 207 (dk_at dksX1_reach_0 5 rfl rfl)
theorem dX1_reach_8 : decode cX1_reach 8 = .ok (.aload_n 0, 1) := dk_42 (dk_at dksX1_reach_0 8 rfl rfl)
theorem dX1_reach_9 : decode cX1_reach 9 = .ok (.getfield 97, 3) := dk_180 0 97 (dk_at dksX1_reach_0 9 rfl rfl)
theorem dX1_reach_12 : decode cX1_reach 12 = .ok (.invokespecial 289, 3) := dk_183 1 33 (dk_at dksX1_reach_0 12 rfl rfl)
theorem dX1_reach_15 : decode cX1_reach 15 = .ok (.areturn, 1) := dk_176 (dk_at dksX1_reach_0 15 rfl rfl)
abbrev cX1_deads : ByteArray := prog_1_method_60_code
def yX1_deads : MethodName := ⟨RX1, "deads", "()I"⟩
def dkwX1_deads_1 : List UInt8 := [172]
abbrev dktX1_deads_1 : List UInt8 := dkwX1_deads_1 ++ []
def dkwX1_deads_0 : List UInt8 := [42, 182, 0, 243, 76, 43, 180, 0, 247, 153, 0, 8, 16, 247, 167, 0, 10, 43, 182, 1, 59, 184, 1, 22]
abbrev dktX1_deads_0 : List UInt8 := dkwX1_deads_0 ++ dktX1_deads_1
theorem dksX1_deads_0 : cX1_deads.data.toList.drop 0 = dktX1_deads_0 := by decide +kernel
theorem dksX1_deads_1 : cX1_deads.data.toList.drop 24 = dktX1_deads_1 := dk_seg dksX1_deads_0 24 rfl rfl
theorem dX1_deads_0 : decode cX1_deads 0 = .ok (.aload_n 0, 1) := dk_42 (dk_at dksX1_deads_0 0 rfl rfl)
theorem dX1_deads_1 : decode cX1_deads 1 = .ok (.invokevirtual 243, 3) := dk_182 0 243 (dk_at dksX1_deads_0 1 rfl rfl)
theorem dX1_deads_4 : decode cX1_deads 4 = .ok (.astore_n 1, 1) := dk_76 (dk_at dksX1_deads_0 4 rfl rfl)
theorem dX1_deads_5 : decode cX1_deads 5 = .ok (.aload_n 1, 1) := dk_43 (dk_at dksX1_deads_0 5 rfl rfl)
theorem dX1_deads_6 : decode cX1_deads 6 = .ok (.getfield 247, 3) := dk_180 0 247 (dk_at dksX1_deads_0 6 rfl rfl)
theorem dX1_deads_9 : decode cX1_deads 9 = .ok (.ifCond .eq 8, 3) := dk_153 0 8 (dk_at dksX1_deads_0 9 rfl rfl)
theorem dX1_deads_12 : decode cX1_deads 12 = .ok (.bipush (-9), 2) := dk_16 247 (dk_at dksX1_deads_0 12 rfl rfl)
theorem dX1_deads_14 : decode cX1_deads 14 = .ok (.goto 10, 3) := dk_167 0 10 (dk_at dksX1_deads_0 14 rfl rfl)
theorem dX1_deads_17 : decode cX1_deads 17 = .ok (.aload_n 1, 1) := dk_43 (dk_at dksX1_deads_0 17 rfl rfl)
theorem dX1_deads_18 : decode cX1_deads 18 = .ok (.invokevirtual 315, 3) := dk_182 1 59 (dk_at dksX1_deads_0 18 rfl rfl)
theorem dX1_deads_21 : decode cX1_deads 21 = .ok (.invokestatic 278, 3) := dk_184 1 22 (dk_at dksX1_deads_0 21 rfl rfl)
theorem dX1_deads_24 : decode cX1_deads 24 = .ok (.ireturn, 1) := dk_172 (dk_at dksX1_deads_1 0 rfl rfl)
abbrev cX1_rings : ByteArray := prog_1_method_63_code
def yX1_rings : MethodName := ⟨RX1, "rings", "()I"⟩
def dkwX1_rings_1 : List UInt8 := [172]
abbrev dktX1_rings_1 : List UInt8 := dkwX1_rings_1 ++ []
def dkwX1_rings_0 : List UInt8 := [42, 182, 0, 243, 76, 43, 180, 0, 247, 153, 0, 8, 16, 247, 167, 0, 10, 43, 182, 1, 66, 184, 1, 22]
abbrev dktX1_rings_0 : List UInt8 := dkwX1_rings_0 ++ dktX1_rings_1
theorem dksX1_rings_0 : cX1_rings.data.toList.drop 0 = dktX1_rings_0 := by decide +kernel
theorem dksX1_rings_1 : cX1_rings.data.toList.drop 24 = dktX1_rings_1 := dk_seg dksX1_rings_0 24 rfl rfl
theorem dX1_rings_0 : decode cX1_rings 0 = .ok (.aload_n 0, 1) := dk_42 (dk_at dksX1_rings_0 0 rfl rfl)
theorem dX1_rings_1 : decode cX1_rings 1 = .ok (.invokevirtual 243, 3) := dk_182 0 243 (dk_at dksX1_rings_0 1 rfl rfl)
theorem dX1_rings_4 : decode cX1_rings 4 = .ok (.astore_n 1, 1) := dk_76 (dk_at dksX1_rings_0 4 rfl rfl)
theorem dX1_rings_5 : decode cX1_rings 5 = .ok (.aload_n 1, 1) := dk_43 (dk_at dksX1_rings_0 5 rfl rfl)
theorem dX1_rings_6 : decode cX1_rings 6 = .ok (.getfield 247, 3) := dk_180 0 247 (dk_at dksX1_rings_0 6 rfl rfl)
theorem dX1_rings_9 : decode cX1_rings 9 = .ok (.ifCond .eq 8, 3) := dk_153 0 8 (dk_at dksX1_rings_0 9 rfl rfl)
theorem dX1_rings_12 : decode cX1_rings 12 = .ok (.bipush (-9), 2) := dk_16 247 (dk_at dksX1_rings_0 12 rfl rfl)
theorem dX1_rings_14 : decode cX1_rings 14 = .ok (.goto 10, 3) := dk_167 0 10 (dk_at dksX1_rings_0 14 rfl rfl)
theorem dX1_rings_17 : decode cX1_rings 17 = .ok (.aload_n 1, 1) := dk_43 (dk_at dksX1_rings_0 17 rfl rfl)
theorem dX1_rings_18 : decode cX1_rings 18 = .ok (.invokevirtual 322, 3) := dk_182 1 66 (dk_at dksX1_rings_0 18 rfl rfl)
theorem dX1_rings_21 : decode cX1_rings 21 = .ok (.invokestatic 278, 3) := dk_184 1 22 (dk_at dksX1_rings_0 21 rfl rfl)
theorem dX1_rings_24 : decode cX1_rings 24 = .ok (.ireturn, 1) := dk_172 (dk_at dksX1_rings_1 0 rfl rfl)
abbrev cX1_nodes : ByteArray := prog_1_method_66_code
def yX1_nodes : MethodName := ⟨RX1, "nodes", "()I"⟩
def dkwX1_nodes_1 : List UInt8 := [172]
abbrev dktX1_nodes_1 : List UInt8 := dkwX1_nodes_1 ++ []
def dkwX1_nodes_0 : List UInt8 := [42, 182, 1, 75, 76, 43, 180, 1, 79, 153, 0, 8, 16, 247, 167, 0, 10, 43, 180, 1, 80, 182, 0, 68]
abbrev dktX1_nodes_0 : List UInt8 := dkwX1_nodes_0 ++ dktX1_nodes_1
theorem dksX1_nodes_0 : cX1_nodes.data.toList.drop 0 = dktX1_nodes_0 := by decide +kernel
theorem dksX1_nodes_1 : cX1_nodes.data.toList.drop 24 = dktX1_nodes_1 := dk_seg dksX1_nodes_0 24 rfl rfl
theorem dX1_nodes_0 : decode cX1_nodes 0 = .ok (.aload_n 0, 1) := dk_42 (dk_at dksX1_nodes_0 0 rfl rfl)
theorem dX1_nodes_1 : decode cX1_nodes 1 = .ok (.invokevirtual 331, 3) := dk_182 1 75 (dk_at dksX1_nodes_0 1 rfl rfl)
theorem dX1_nodes_4 : decode cX1_nodes 4 = .ok (.astore_n 1, 1) := dk_76 (dk_at dksX1_nodes_0 4 rfl rfl)
theorem dX1_nodes_5 : decode cX1_nodes 5 = .ok (.aload_n 1, 1) := dk_43 (dk_at dksX1_nodes_0 5 rfl rfl)
theorem dX1_nodes_6 : decode cX1_nodes 6 = .ok (.getfield 335, 3) := dk_180 1 79 (dk_at dksX1_nodes_0 6 rfl rfl)
theorem dX1_nodes_9 : decode cX1_nodes 9 = .ok (.ifCond .eq 8, 3) := dk_153 0 8 (dk_at dksX1_nodes_0 9 rfl rfl)
theorem dX1_nodes_12 : decode cX1_nodes 12 = .ok (.bipush (-9), 2) := dk_16 247 (dk_at dksX1_nodes_0 12 rfl rfl)
theorem dX1_nodes_14 : decode cX1_nodes 14 = .ok (.goto 10, 3) := dk_167 0 10 (dk_at dksX1_nodes_0 14 rfl rfl)
theorem dX1_nodes_17 : decode cX1_nodes 17 = .ok (.aload_n 1, 1) := dk_43 (dk_at dksX1_nodes_0 17 rfl rfl)
theorem dX1_nodes_18 : decode cX1_nodes 18 = .ok (.getfield 336, 3) := dk_180 1 80 (dk_at dksX1_nodes_0 18 rfl rfl)
theorem dX1_nodes_21 : decode cX1_nodes 21 = .ok (.invokevirtual 68, 3) := dk_182 0 68 (dk_at dksX1_nodes_0 21 rfl rfl)
theorem dX1_nodes_24 : decode cX1_nodes 24 = .ok (.ireturn, 1) := dk_172 (dk_at dksX1_nodes_1 0 rfl rfl)
abbrev cX1_tree : ByteArray := prog_1_method_65_code
def yX1_tree : MethodName := ⟨RX1, "tree", "()LPebblegate$Tree;"⟩
def dkwX1_tree_0 : List UInt8 := [187, 1, 72, 89, 42, 182, 0, 207, 42, 180, 0, 97, 183, 1, 74, 176]
abbrev dktX1_tree_0 : List UInt8 := dkwX1_tree_0 ++ []
theorem dksX1_tree_0 : cX1_tree.data.toList.drop 0 = dktX1_tree_0 := by decide +kernel
theorem dX1_tree_0 : decode cX1_tree 0 = .ok (.new 328, 3) := dk_187 1 72 (dk_at dksX1_tree_0 0 rfl rfl)
theorem dX1_tree_3 : decode cX1_tree 3 = .ok (.dup, 1) := dk_89 (dk_at dksX1_tree_0 3 rfl rfl)
theorem dX1_tree_4 : decode cX1_tree 4 = .ok (.aload_n 0, 1) := dk_42 (dk_at dksX1_tree_0 4 rfl rfl)
theorem dX1_tree_5 : decode cX1_tree 5 = .ok (.invokevirtual 207, 3) := dk_182 0 207 (dk_at dksX1_tree_0 5 rfl rfl)
theorem dX1_tree_8 : decode cX1_tree 8 = .ok (.aload_n 0, 1) := dk_42 (dk_at dksX1_tree_0 8 rfl rfl)
theorem dX1_tree_9 : decode cX1_tree 9 = .ok (.getfield 97, 3) := dk_180 0 97 (dk_at dksX1_tree_0 9 rfl rfl)
theorem dX1_tree_12 : decode cX1_tree 12 = .ok (.invokespecial 330, 3) := dk_183 1 74 (dk_at dksX1_tree_0 12 rfl rfl)
theorem dX1_tree_15 : decode cX1_tree 15 = .ok (.areturn, 1) := dk_176 (dk_at dksX1_tree_0 15 rfl rfl)
abbrev cX1_isSame : ByteArray := prog_1_method_2_code
def yX1_isSame : MethodName := ⟨RX1, "isSame", "([I[I)Z"⟩
def dkwX1_isSame_1 : List UInt8 := [167, 255, 236, 4, 172]
abbrev dktX1_isSame_1 : List UInt8 := dkwX1_isSame_1 ++ []
def dkwX1_isSame_0 : List UInt8 := [3, 61, 28, 42, 190, 162, 0, 20, 42, 28, 46, 43, 28, 46, 159, 0, 5, 3, 172, 132, 2, 1]
abbrev dktX1_isSame_0 : List UInt8 := dkwX1_isSame_0 ++ dktX1_isSame_1
theorem dksX1_isSame_0 : cX1_isSame.data.toList.drop 0 = dktX1_isSame_0 := by decide +kernel
theorem dksX1_isSame_1 : cX1_isSame.data.toList.drop 22 = dktX1_isSame_1 := dk_seg dksX1_isSame_0 22 rfl rfl
theorem dX1_isSame_0 : decode cX1_isSame 0 = .ok (.iconst 0, 1) := dk_3 (dk_at dksX1_isSame_0 0 rfl rfl)
theorem dX1_isSame_1 : decode cX1_isSame 1 = .ok (.istore_n 2, 1) := dk_61 (dk_at dksX1_isSame_0 1 rfl rfl)
theorem dX1_isSame_2 : decode cX1_isSame 2 = .ok (.iload_n 2, 1) := dk_28 (dk_at dksX1_isSame_0 2 rfl rfl)
theorem dX1_isSame_3 : decode cX1_isSame 3 = .ok (.aload_n 0, 1) := dk_42 (dk_at dksX1_isSame_0 3 rfl rfl)
theorem dX1_isSame_4 : decode cX1_isSame 4 = .ok (.arraylength, 1) := dk_190 (dk_at dksX1_isSame_0 4 rfl rfl)
theorem dX1_isSame_5 : decode cX1_isSame 5 = .ok (.if_icmp .ge 20, 3) := dk_162 0 20 (dk_at dksX1_isSame_0 5 rfl rfl)
theorem dX1_isSame_8 : decode cX1_isSame 8 = .ok (.aload_n 0, 1) := dk_42 (dk_at dksX1_isSame_0 8 rfl rfl)
theorem dX1_isSame_9 : decode cX1_isSame 9 = .ok (.iload_n 2, 1) := dk_28 (dk_at dksX1_isSame_0 9 rfl rfl)
theorem dX1_isSame_10 : decode cX1_isSame 10 = .ok (.iaload, 1) := dk_46 (dk_at dksX1_isSame_0 10 rfl rfl)
theorem dX1_isSame_11 : decode cX1_isSame 11 = .ok (.aload_n 1, 1) := dk_43 (dk_at dksX1_isSame_0 11 rfl rfl)
theorem dX1_isSame_12 : decode cX1_isSame 12 = .ok (.iload_n 2, 1) := dk_28 (dk_at dksX1_isSame_0 12 rfl rfl)
theorem dX1_isSame_13 : decode cX1_isSame 13 = .ok (.iaload, 1) := dk_46 (dk_at dksX1_isSame_0 13 rfl rfl)
theorem dX1_isSame_14 : decode cX1_isSame 14 = .ok (.if_icmp .eq 5, 3) := dk_159 0 5 (dk_at dksX1_isSame_0 14 rfl rfl)
theorem dX1_isSame_17 : decode cX1_isSame 17 = .ok (.iconst 0, 1) := dk_3 (dk_at dksX1_isSame_0 17 rfl rfl)
theorem dX1_isSame_18 : decode cX1_isSame 18 = .ok (.ireturn, 1) := dk_172 (dk_at dksX1_isSame_0 18 rfl rfl)
theorem dX1_isSame_19 : decode cX1_isSame 19 = .ok (.iinc 2 1, 3) := dk_132 2 1 (dk_at dksX1_isSame_0 19 rfl rfl)
theorem dX1_isSame_22 : decode cX1_isSame 22 = .ok (.goto (-20), 3) := dk_167 255 236 (dk_at dksX1_isSame_1 0 rfl rfl)
theorem dX1_isSame_25 : decode cX1_isSame 25 = .ok (.iconst 1, 1) := dk_4 (dk_at dksX1_isSame_1 3 rfl rfl)
theorem dX1_isSame_26 : decode cX1_isSame 26 = .ok (.ireturn, 1) := dk_172 (dk_at dksX1_isSame_1 4 rfl rfl)
abbrev cX1_manies : ByteArray := prog_1_method_68_code
def yX1_manies : MethodName := ⟨RX1, "manies", "()I"⟩
def dkwX1_manies_1 : List UInt8 := [182, 1, 85, 172]
abbrev dktX1_manies_1 : List UInt8 := dkwX1_manies_1 ++ []
def dkwX1_manies_0 : List UInt8 := [42, 182, 1, 75, 76, 43, 180, 1, 79, 153, 0, 8, 16, 247, 167, 0, 11, 43, 42, 180, 0, 93]
abbrev dktX1_manies_0 : List UInt8 := dkwX1_manies_0 ++ dktX1_manies_1
theorem dksX1_manies_0 : cX1_manies.data.toList.drop 0 = dktX1_manies_0 := by decide +kernel
theorem dksX1_manies_1 : cX1_manies.data.toList.drop 22 = dktX1_manies_1 := dk_seg dksX1_manies_0 22 rfl rfl
theorem dX1_manies_0 : decode cX1_manies 0 = .ok (.aload_n 0, 1) := dk_42 (dk_at dksX1_manies_0 0 rfl rfl)
theorem dX1_manies_1 : decode cX1_manies 1 = .ok (.invokevirtual 331, 3) := dk_182 1 75 (dk_at dksX1_manies_0 1 rfl rfl)
theorem dX1_manies_4 : decode cX1_manies 4 = .ok (.astore_n 1, 1) := dk_76 (dk_at dksX1_manies_0 4 rfl rfl)
theorem dX1_manies_5 : decode cX1_manies 5 = .ok (.aload_n 1, 1) := dk_43 (dk_at dksX1_manies_0 5 rfl rfl)
theorem dX1_manies_6 : decode cX1_manies 6 = .ok (.getfield 335, 3) := dk_180 1 79 (dk_at dksX1_manies_0 6 rfl rfl)
theorem dX1_manies_9 : decode cX1_manies 9 = .ok (.ifCond .eq 8, 3) := dk_153 0 8 (dk_at dksX1_manies_0 9 rfl rfl)
theorem dX1_manies_12 : decode cX1_manies 12 = .ok (.bipush (-9), 2) := dk_16 247 (dk_at dksX1_manies_0 12 rfl rfl)
theorem dX1_manies_14 : decode cX1_manies 14 = .ok (.goto 11, 3) := dk_167 0 11 (dk_at dksX1_manies_0 14 rfl rfl)
theorem dX1_manies_17 : decode cX1_manies 17 = .ok (.aload_n 1, 1) := dk_43 (dk_at dksX1_manies_0 17 rfl rfl)
theorem dX1_manies_18 : decode cX1_manies 18 = .ok (.aload_n 0, 1) := dk_42 (dk_at dksX1_manies_0 18 rfl rfl)
theorem dX1_manies_19 : decode cX1_manies 19 = .ok (.getfield 93, 3) := dk_180 0 93 (dk_at dksX1_manies_0 19 rfl rfl)
theorem dX1_manies_22 : decode cX1_manies 22 = .ok (.invokevirtual 341, 3) := dk_182 1 85 (dk_at dksX1_manies_1 0 rfl rfl)
theorem dX1_manies_25 : decode cX1_manies 25 = .ok (.ireturn, 1) := dk_172 (dk_at dksX1_manies_1 3 rfl rfl)
abbrev cX1_weighings : ByteArray := prog_1_method_69_code
def yX1_weighings : MethodName := ⟨RX1, "weighings", "()I"⟩
def dkwX1_weighings_0 : List UInt8 := [42, 180, 0, 97, 42, 180, 0, 93, 184, 1, 88, 182, 0, 68, 172]
abbrev dktX1_weighings_0 : List UInt8 := dkwX1_weighings_0 ++ []
theorem dksX1_weighings_0 : cX1_weighings.data.toList.drop 0 = dktX1_weighings_0 := by decide +kernel
theorem dX1_weighings_0 : decode cX1_weighings 0 = .ok (.aload_n 0, 1) := dk_42 (dk_at dksX1_weighings_0 0 rfl rfl)
theorem dX1_weighings_1 : decode cX1_weighings 1 = .ok (.getfield 97, 3) := dk_180 0 97 (dk_at dksX1_weighings_0 1 rfl rfl)
theorem dX1_weighings_4 : decode cX1_weighings 4 = .ok (.aload_n 0, 1) := dk_42 (dk_at dksX1_weighings_0 4 rfl rfl)
theorem dX1_weighings_5 : decode cX1_weighings 5 = .ok (.getfield 93, 3) := dk_180 0 93 (dk_at dksX1_weighings_0 5 rfl rfl)
theorem dX1_weighings_8 : decode cX1_weighings 8 = .ok (.invokestatic 344, 3) := dk_184 1 88 (dk_at dksX1_weighings_0 8 rfl rfl)
theorem dX1_weighings_11 : decode cX1_weighings 11 = .ok (.invokevirtual 68, 3) := dk_182 0 68 (dk_at dksX1_weighings_0 11 rfl rfl)
theorem dX1_weighings_14 : decode cX1_weighings 14 = .ok (.ireturn, 1) := dk_172 (dk_at dksX1_weighings_0 14 rfl rfl)
abbrev cX1_weighingsOf : ByteArray := prog_1_method_7_code
def yX1_weighingsOf : MethodName := ⟨RX1, "weighingsOf", "(Ljava/util/ArrayList;I)Ljava/util/ArrayList;"⟩
def dkwX1_weighingsOf_9 : List UInt8 := [167, 255, 70, 25, 4, 176]
abbrev dktX1_weighingsOf_9 : List UInt8 := dkwX1_weighingsOf_9 ++ []
def dkwX1_weighingsOf_8 : List UInt8 := [21, 9, 47, 109, 136, 79, 132, 9, 1, 167, 255, 199, 25, 4, 25, 8, 182, 0, 64, 87, 132, 5, 1]
abbrev dktX1_weighingsOf_8 : List UInt8 := dkwX1_weighingsOf_8 ++ dktX1_weighingsOf_9
def dkwX1_weighingsOf_7 : List UInt8 := [182, 0, 72, 192, 0, 76, 21, 5, 47, 117, 22, 6, 105, 45, 44, 21, 9, 46, 182, 0, 72, 192, 0, 76]
abbrev dktX1_weighingsOf_7 : List UInt8 := dkwX1_weighingsOf_7 ++ dktX1_weighingsOf_8
def dkwX1_weighingsOf_6 : List UInt8 := [21, 5, 162, 0, 56, 44, 21, 9, 46, 2, 159, 0, 42, 25, 8, 21, 9, 45, 44, 21, 9, 46]
abbrev dktX1_weighingsOf_6 : List UInt8 := dkwX1_weighingsOf_6 ++ dktX1_weighingsOf_7
def dkwX1_weighingsOf_5 : List UInt8 := [132, 8, 1, 167, 255, 183, 27, 188, 10, 58, 8, 25, 8, 21, 5, 22, 6, 136, 79, 3, 54, 9, 21, 9]
abbrev dktX1_weighingsOf_5 : List UInt8 := dkwX1_weighingsOf_5 ++ dktX1_weighingsOf_6
def dkwX1_weighingsOf_4 : List UInt8 := [21, 5, 47, 184, 0, 28, 109, 55, 10, 22, 6, 22, 6, 22, 10, 184, 0, 28, 109, 22, 10, 105, 55, 6]
abbrev dktX1_weighingsOf_4 : List UInt8 := dkwX1_weighingsOf_4 ++ dktX1_weighingsOf_5
def dkwX1_weighingsOf_3 : List UInt8 := [182, 0, 72, 192, 0, 76, 58, 9, 25, 9, 21, 8, 47, 184, 0, 22, 25, 9, 21, 8, 47, 25, 9]
abbrev dktX1_weighingsOf_3 : List UInt8 := dkwX1_weighingsOf_3 ++ dktX1_weighingsOf_4
def dkwX1_weighingsOf_2 : List UInt8 := [21, 8, 21, 5, 162, 0, 72, 44, 21, 8, 46, 2, 160, 0, 6, 167, 0, 55, 45, 44, 21, 8, 46]
abbrev dktX1_weighingsOf_2 : List UInt8 := dkwX1_weighingsOf_2 ++ dktX1_weighingsOf_3
def dkwX1_weighingsOf_1 : List UInt8 := [21, 5, 27, 162, 0, 186, 44, 21, 5, 46, 2, 159, 0, 6, 167, 0, 169, 10, 55, 6, 3, 54, 8]
abbrev dktX1_weighingsOf_1 : List UInt8 := dkwX1_weighingsOf_1 ++ dktX1_weighingsOf_2
def dkwX1_weighingsOf_0 : List UInt8 := [27, 188, 10, 77, 42, 27, 44, 184, 0, 86, 78, 187, 0, 38, 89, 183, 0, 40, 58, 4, 3, 54, 5]
abbrev dktX1_weighingsOf_0 : List UInt8 := dkwX1_weighingsOf_0 ++ dktX1_weighingsOf_1
theorem dksX1_weighingsOf_0 : cX1_weighingsOf.data.toList.drop 0 = dktX1_weighingsOf_0 := by decide +kernel
theorem dksX1_weighingsOf_1 : cX1_weighingsOf.data.toList.drop 23 = dktX1_weighingsOf_1 := dk_seg dksX1_weighingsOf_0 23 rfl rfl
theorem dksX1_weighingsOf_2 : cX1_weighingsOf.data.toList.drop 46 = dktX1_weighingsOf_2 := dk_seg dksX1_weighingsOf_1 23 rfl rfl
theorem dksX1_weighingsOf_3 : cX1_weighingsOf.data.toList.drop 69 = dktX1_weighingsOf_3 := dk_seg dksX1_weighingsOf_2 23 rfl rfl
theorem dksX1_weighingsOf_4 : cX1_weighingsOf.data.toList.drop 92 = dktX1_weighingsOf_4 := dk_seg dksX1_weighingsOf_3 23 rfl rfl
theorem dksX1_weighingsOf_5 : cX1_weighingsOf.data.toList.drop 116 = dktX1_weighingsOf_5 := dk_seg dksX1_weighingsOf_4 24 rfl rfl
theorem dksX1_weighingsOf_6 : cX1_weighingsOf.data.toList.drop 140 = dktX1_weighingsOf_6 := dk_seg dksX1_weighingsOf_5 24 rfl rfl
theorem dksX1_weighingsOf_7 : cX1_weighingsOf.data.toList.drop 162 = dktX1_weighingsOf_7 := dk_seg dksX1_weighingsOf_6 22 rfl rfl
theorem dksX1_weighingsOf_8 : cX1_weighingsOf.data.toList.drop 186 = dktX1_weighingsOf_8 := dk_seg dksX1_weighingsOf_7 24 rfl rfl
theorem dksX1_weighingsOf_9 : cX1_weighingsOf.data.toList.drop 209 = dktX1_weighingsOf_9 := dk_seg dksX1_weighingsOf_8 23 rfl rfl
theorem dX1_weighingsOf_0 : decode cX1_weighingsOf 0 = .ok (.iload_n 1, 1) := dk_27 (dk_at dksX1_weighingsOf_0 0 rfl rfl)
theorem dX1_weighingsOf_1 : decode cX1_weighingsOf 1 = .ok (.newarray .int, 2) := dk_188_10 (dk_at dksX1_weighingsOf_0 1 rfl rfl)
theorem dX1_weighingsOf_3 : decode cX1_weighingsOf 3 = .ok (.astore_n 2, 1) := dk_77 (dk_at dksX1_weighingsOf_0 3 rfl rfl)
theorem dX1_weighingsOf_4 : decode cX1_weighingsOf 4 = .ok (.aload_n 0, 1) := dk_42 (dk_at dksX1_weighingsOf_0 4 rfl rfl)
theorem dX1_weighingsOf_5 : decode cX1_weighingsOf 5 = .ok (.iload_n 1, 1) := dk_27 (dk_at dksX1_weighingsOf_0 5 rfl rfl)
theorem dX1_weighingsOf_6 : decode cX1_weighingsOf 6 = .ok (.aload_n 2, 1) := dk_44 (dk_at dksX1_weighingsOf_0 6 rfl rfl)
theorem dX1_weighingsOf_7 : decode cX1_weighingsOf 7 = .ok (.invokestatic 86, 3) := dk_184 0 86 (dk_at dksX1_weighingsOf_0 7 rfl rfl)
theorem dX1_weighingsOf_10 : decode cX1_weighingsOf 10 = .ok (.astore_n 3, 1) := dk_78 (dk_at dksX1_weighingsOf_0 10 rfl rfl)
theorem dX1_weighingsOf_11 : decode cX1_weighingsOf 11 = .ok (.new 38, 3) := dk_187 0 38 (dk_at dksX1_weighingsOf_0 11 rfl rfl)
theorem dX1_weighingsOf_14 : decode cX1_weighingsOf 14 = .ok (.dup, 1) := dk_89 (dk_at dksX1_weighingsOf_0 14 rfl rfl)
theorem dX1_weighingsOf_15 : decode cX1_weighingsOf 15 = .ok (.invokespecial 40, 3) := dk_183 0 40 (dk_at dksX1_weighingsOf_0 15 rfl rfl)
theorem dX1_weighingsOf_18 : decode cX1_weighingsOf 18 = .ok (.astore 4, 2) := dk_58 4 (dk_at dksX1_weighingsOf_0 18 rfl rfl)
theorem dX1_weighingsOf_20 : decode cX1_weighingsOf 20 = .ok (.iconst 0, 1) := dk_3 (dk_at dksX1_weighingsOf_0 20 rfl rfl)
theorem dX1_weighingsOf_21 : decode cX1_weighingsOf 21 = .ok (.istore 5, 2) := dk_54 5 (dk_at dksX1_weighingsOf_0 21 rfl rfl)
theorem dX1_weighingsOf_23 : decode cX1_weighingsOf 23 = .ok (.iload 5, 2) := dk_21 5 (dk_at dksX1_weighingsOf_1 0 rfl rfl)
theorem dX1_weighingsOf_25 : decode cX1_weighingsOf 25 = .ok (.iload_n 1, 1) := dk_27 (dk_at dksX1_weighingsOf_1 2 rfl rfl)
theorem dX1_weighingsOf_26 : decode cX1_weighingsOf 26 = .ok (.if_icmp .ge 186, 3) := dk_162 0 186 (dk_at dksX1_weighingsOf_1 3 rfl rfl)
theorem dX1_weighingsOf_29 : decode cX1_weighingsOf 29 = .ok (.aload_n 2, 1) := dk_44 (dk_at dksX1_weighingsOf_1 6 rfl rfl)
theorem dX1_weighingsOf_30 : decode cX1_weighingsOf 30 = .ok (.iload 5, 2) := dk_21 5 (dk_at dksX1_weighingsOf_1 7 rfl rfl)
theorem dX1_weighingsOf_32 : decode cX1_weighingsOf 32 = .ok (.iaload, 1) := dk_46 (dk_at dksX1_weighingsOf_1 9 rfl rfl)
theorem dX1_weighingsOf_33 : decode cX1_weighingsOf 33 = .ok (.iconst (-1), 1) := dk_2 (dk_at dksX1_weighingsOf_1 10 rfl rfl)
theorem dX1_weighingsOf_34 : decode cX1_weighingsOf 34 = .ok (.if_icmp .eq 6, 3) := dk_159 0 6 (dk_at dksX1_weighingsOf_1 11 rfl rfl)
theorem dX1_weighingsOf_37 : decode cX1_weighingsOf 37 = .ok (.goto 169, 3) := dk_167 0 169 (dk_at dksX1_weighingsOf_1 14 rfl rfl)
theorem dX1_weighingsOf_40 : decode cX1_weighingsOf 40 = .ok (.lconst 1, 1) := dk_10 (dk_at dksX1_weighingsOf_1 17 rfl rfl)
theorem dX1_weighingsOf_41 : decode cX1_weighingsOf 41 = .ok (.lstore 6, 2) := dk_55 6 (dk_at dksX1_weighingsOf_1 18 rfl rfl)
theorem dX1_weighingsOf_43 : decode cX1_weighingsOf 43 = .ok (.iconst 0, 1) := dk_3 (dk_at dksX1_weighingsOf_1 20 rfl rfl)
theorem dX1_weighingsOf_44 : decode cX1_weighingsOf 44 = .ok (.istore 8, 2) := dk_54 8 (dk_at dksX1_weighingsOf_1 21 rfl rfl)
theorem dX1_weighingsOf_46 : decode cX1_weighingsOf 46 = .ok (.iload 8, 2) := dk_21 8 (dk_at dksX1_weighingsOf_2 0 rfl rfl)
theorem dX1_weighingsOf_48 : decode cX1_weighingsOf 48 = .ok (.iload 5, 2) := dk_21 5 (dk_at dksX1_weighingsOf_2 2 rfl rfl)
theorem dX1_weighingsOf_50 : decode cX1_weighingsOf 50 = .ok (.if_icmp .ge 72, 3) := dk_162 0 72 (dk_at dksX1_weighingsOf_2 4 rfl rfl)
theorem dX1_weighingsOf_53 : decode cX1_weighingsOf 53 = .ok (.aload_n 2, 1) := dk_44 (dk_at dksX1_weighingsOf_2 7 rfl rfl)
theorem dX1_weighingsOf_54 : decode cX1_weighingsOf 54 = .ok (.iload 8, 2) := dk_21 8 (dk_at dksX1_weighingsOf_2 8 rfl rfl)
theorem dX1_weighingsOf_56 : decode cX1_weighingsOf 56 = .ok (.iaload, 1) := dk_46 (dk_at dksX1_weighingsOf_2 10 rfl rfl)
theorem dX1_weighingsOf_57 : decode cX1_weighingsOf 57 = .ok (.iconst (-1), 1) := dk_2 (dk_at dksX1_weighingsOf_2 11 rfl rfl)
theorem dX1_weighingsOf_58 : decode cX1_weighingsOf 58 = .ok (.if_icmp .ne 6, 3) := dk_160 0 6 (dk_at dksX1_weighingsOf_2 12 rfl rfl)
theorem dX1_weighingsOf_61 : decode cX1_weighingsOf 61 = .ok (.goto 55, 3) := dk_167 0 55 (dk_at dksX1_weighingsOf_2 15 rfl rfl)
theorem dX1_weighingsOf_64 : decode cX1_weighingsOf 64 = .ok (.aload_n 3, 1) := dk_45 (dk_at dksX1_weighingsOf_2 18 rfl rfl)
theorem dX1_weighingsOf_65 : decode cX1_weighingsOf 65 = .ok (.aload_n 2, 1) := dk_44 (dk_at dksX1_weighingsOf_2 19 rfl rfl)
theorem dX1_weighingsOf_66 : decode cX1_weighingsOf 66 = .ok (.iload 8, 2) := dk_21 8 (dk_at dksX1_weighingsOf_2 20 rfl rfl)
theorem dX1_weighingsOf_68 : decode cX1_weighingsOf 68 = .ok (.iaload, 1) := dk_46 (dk_at dksX1_weighingsOf_2 22 rfl rfl)
theorem dX1_weighingsOf_69 : decode cX1_weighingsOf 69 = .ok (.invokevirtual 72, 3) := dk_182 0 72 (dk_at dksX1_weighingsOf_3 0 rfl rfl)
theorem dX1_weighingsOf_72 : decode cX1_weighingsOf 72 = .ok (.checkcast 76, 3) := dk_192 0 76 (dk_at dksX1_weighingsOf_3 3 rfl rfl)
theorem dX1_weighingsOf_75 : decode cX1_weighingsOf 75 = .ok (.astore 9, 2) := dk_58 9 (dk_at dksX1_weighingsOf_3 6 rfl rfl)
theorem dX1_weighingsOf_77 : decode cX1_weighingsOf 77 = .ok (.aload 9, 2) := dk_25 9 (dk_at dksX1_weighingsOf_3 8 rfl rfl)
theorem dX1_weighingsOf_79 : decode cX1_weighingsOf 79 = .ok (.iload 8, 2) := dk_21 8 (dk_at dksX1_weighingsOf_3 10 rfl rfl)
theorem dX1_weighingsOf_81 : decode cX1_weighingsOf 81 = .ok (.laload, 1) := dk_47 (dk_at dksX1_weighingsOf_3 12 rfl rfl)
theorem dX1_weighingsOf_82 : decode cX1_weighingsOf 82 = .ok (.invokestatic 22, 3) := dk_184 0 22 (dk_at dksX1_weighingsOf_3 13 rfl rfl)
theorem dX1_weighingsOf_85 : decode cX1_weighingsOf 85 = .ok (.aload 9, 2) := dk_25 9 (dk_at dksX1_weighingsOf_3 16 rfl rfl)
theorem dX1_weighingsOf_87 : decode cX1_weighingsOf 87 = .ok (.iload 8, 2) := dk_21 8 (dk_at dksX1_weighingsOf_3 18 rfl rfl)
theorem dX1_weighingsOf_89 : decode cX1_weighingsOf 89 = .ok (.laload, 1) := dk_47 (dk_at dksX1_weighingsOf_3 20 rfl rfl)
theorem dX1_weighingsOf_90 : decode cX1_weighingsOf 90 = .ok (.aload 9, 2) := dk_25 9 (dk_at dksX1_weighingsOf_3 21 rfl rfl)
theorem dX1_weighingsOf_92 : decode cX1_weighingsOf 92 = .ok (.iload 5, 2) := dk_21 5 (dk_at dksX1_weighingsOf_4 0 rfl rfl)
theorem dX1_weighingsOf_94 : decode cX1_weighingsOf 94 = .ok (.laload, 1) := dk_47 (dk_at dksX1_weighingsOf_4 2 rfl rfl)
theorem dX1_weighingsOf_95 : decode cX1_weighingsOf 95 = .ok (.invokestatic 28, 3) := dk_184 0 28 (dk_at dksX1_weighingsOf_4 3 rfl rfl)
theorem dX1_weighingsOf_98 : decode cX1_weighingsOf 98 = .ok (.ldiv, 1) := dk_109 (dk_at dksX1_weighingsOf_4 6 rfl rfl)
theorem dX1_weighingsOf_99 : decode cX1_weighingsOf 99 = .ok (.lstore 10, 2) := dk_55 10 (dk_at dksX1_weighingsOf_4 7 rfl rfl)
theorem dX1_weighingsOf_101 : decode cX1_weighingsOf 101 = .ok (.lload 6, 2) := dk_22 6 (dk_at dksX1_weighingsOf_4 9 rfl rfl)
theorem dX1_weighingsOf_103 : decode cX1_weighingsOf 103 = .ok (.lload 6, 2) := dk_22 6 (dk_at dksX1_weighingsOf_4 11 rfl rfl)
theorem dX1_weighingsOf_105 : decode cX1_weighingsOf 105 = .ok (.lload 10, 2) := dk_22 10 (dk_at dksX1_weighingsOf_4 13 rfl rfl)
theorem dX1_weighingsOf_107 : decode cX1_weighingsOf 107 = .ok (.invokestatic 28, 3) := dk_184 0 28 (dk_at dksX1_weighingsOf_4 15 rfl rfl)
theorem dX1_weighingsOf_110 : decode cX1_weighingsOf 110 = .ok (.ldiv, 1) := dk_109 (dk_at dksX1_weighingsOf_4 18 rfl rfl)
theorem dX1_weighingsOf_111 : decode cX1_weighingsOf 111 = .ok (.lload 10, 2) := dk_22 10 (dk_at dksX1_weighingsOf_4 19 rfl rfl)
theorem dX1_weighingsOf_113 : decode cX1_weighingsOf 113 = .ok (.lmul, 1) := dk_105 (dk_at dksX1_weighingsOf_4 21 rfl rfl)
theorem dX1_weighingsOf_114 : decode cX1_weighingsOf 114 = .ok (.lstore 6, 2) := dk_55 6 (dk_at dksX1_weighingsOf_4 22 rfl rfl)
theorem dX1_weighingsOf_116 : decode cX1_weighingsOf 116 = .ok (.iinc 8 1, 3) := dk_132 8 1 (dk_at dksX1_weighingsOf_5 0 rfl rfl)
theorem dX1_weighingsOf_119 : decode cX1_weighingsOf 119 = .ok (.goto (-73), 3) := dk_167 255 183 (dk_at dksX1_weighingsOf_5 3 rfl rfl)
theorem dX1_weighingsOf_122 : decode cX1_weighingsOf 122 = .ok (.iload_n 1, 1) := dk_27 (dk_at dksX1_weighingsOf_5 6 rfl rfl)
theorem dX1_weighingsOf_123 : decode cX1_weighingsOf 123 = .ok (.newarray .int, 2) := dk_188_10 (dk_at dksX1_weighingsOf_5 7 rfl rfl)
theorem dX1_weighingsOf_125 : decode cX1_weighingsOf 125 = .ok (.astore 8, 2) := dk_58 8 (dk_at dksX1_weighingsOf_5 9 rfl rfl)
theorem dX1_weighingsOf_127 : decode cX1_weighingsOf 127 = .ok (.aload 8, 2) := dk_25 8 (dk_at dksX1_weighingsOf_5 11 rfl rfl)
theorem dX1_weighingsOf_129 : decode cX1_weighingsOf 129 = .ok (.iload 5, 2) := dk_21 5 (dk_at dksX1_weighingsOf_5 13 rfl rfl)
theorem dX1_weighingsOf_131 : decode cX1_weighingsOf 131 = .ok (.lload 6, 2) := dk_22 6 (dk_at dksX1_weighingsOf_5 15 rfl rfl)
theorem dX1_weighingsOf_133 : decode cX1_weighingsOf 133 = .ok (.l2i, 1) := dk_136 (dk_at dksX1_weighingsOf_5 17 rfl rfl)
theorem dX1_weighingsOf_134 : decode cX1_weighingsOf 134 = .ok (.iastore, 1) := dk_79 (dk_at dksX1_weighingsOf_5 18 rfl rfl)
theorem dX1_weighingsOf_135 : decode cX1_weighingsOf 135 = .ok (.iconst 0, 1) := dk_3 (dk_at dksX1_weighingsOf_5 19 rfl rfl)
theorem dX1_weighingsOf_136 : decode cX1_weighingsOf 136 = .ok (.istore 9, 2) := dk_54 9 (dk_at dksX1_weighingsOf_5 20 rfl rfl)
theorem dX1_weighingsOf_138 : decode cX1_weighingsOf 138 = .ok (.iload 9, 2) := dk_21 9 (dk_at dksX1_weighingsOf_5 22 rfl rfl)
theorem dX1_weighingsOf_140 : decode cX1_weighingsOf 140 = .ok (.iload 5, 2) := dk_21 5 (dk_at dksX1_weighingsOf_6 0 rfl rfl)
theorem dX1_weighingsOf_142 : decode cX1_weighingsOf 142 = .ok (.if_icmp .ge 56, 3) := dk_162 0 56 (dk_at dksX1_weighingsOf_6 2 rfl rfl)
theorem dX1_weighingsOf_145 : decode cX1_weighingsOf 145 = .ok (.aload_n 2, 1) := dk_44 (dk_at dksX1_weighingsOf_6 5 rfl rfl)
theorem dX1_weighingsOf_146 : decode cX1_weighingsOf 146 = .ok (.iload 9, 2) := dk_21 9 (dk_at dksX1_weighingsOf_6 6 rfl rfl)
theorem dX1_weighingsOf_148 : decode cX1_weighingsOf 148 = .ok (.iaload, 1) := dk_46 (dk_at dksX1_weighingsOf_6 8 rfl rfl)
theorem dX1_weighingsOf_149 : decode cX1_weighingsOf 149 = .ok (.iconst (-1), 1) := dk_2 (dk_at dksX1_weighingsOf_6 9 rfl rfl)
theorem dX1_weighingsOf_150 : decode cX1_weighingsOf 150 = .ok (.if_icmp .eq 42, 3) := dk_159 0 42 (dk_at dksX1_weighingsOf_6 10 rfl rfl)
theorem dX1_weighingsOf_153 : decode cX1_weighingsOf 153 = .ok (.aload 8, 2) := dk_25 8 (dk_at dksX1_weighingsOf_6 13 rfl rfl)
theorem dX1_weighingsOf_155 : decode cX1_weighingsOf 155 = .ok (.iload 9, 2) := dk_21 9 (dk_at dksX1_weighingsOf_6 15 rfl rfl)
theorem dX1_weighingsOf_157 : decode cX1_weighingsOf 157 = .ok (.aload_n 3, 1) := dk_45 (dk_at dksX1_weighingsOf_6 17 rfl rfl)
theorem dX1_weighingsOf_158 : decode cX1_weighingsOf 158 = .ok (.aload_n 2, 1) := dk_44 (dk_at dksX1_weighingsOf_6 18 rfl rfl)
theorem dX1_weighingsOf_159 : decode cX1_weighingsOf 159 = .ok (.iload 9, 2) := dk_21 9 (dk_at dksX1_weighingsOf_6 19 rfl rfl)
theorem dX1_weighingsOf_161 : decode cX1_weighingsOf 161 = .ok (.iaload, 1) := dk_46 (dk_at dksX1_weighingsOf_6 21 rfl rfl)
theorem dX1_weighingsOf_162 : decode cX1_weighingsOf 162 = .ok (.invokevirtual 72, 3) := dk_182 0 72 (dk_at dksX1_weighingsOf_7 0 rfl rfl)
theorem dX1_weighingsOf_165 : decode cX1_weighingsOf 165 = .ok (.checkcast 76, 3) := dk_192 0 76 (dk_at dksX1_weighingsOf_7 3 rfl rfl)
theorem dX1_weighingsOf_168 : decode cX1_weighingsOf 168 = .ok (.iload 5, 2) := dk_21 5 (dk_at dksX1_weighingsOf_7 6 rfl rfl)
theorem dX1_weighingsOf_170 : decode cX1_weighingsOf 170 = .ok (.laload, 1) := dk_47 (dk_at dksX1_weighingsOf_7 8 rfl rfl)
theorem dX1_weighingsOf_171 : decode cX1_weighingsOf 171 = .ok (.lneg, 1) := dk_117 (dk_at dksX1_weighingsOf_7 9 rfl rfl)
theorem dX1_weighingsOf_172 : decode cX1_weighingsOf 172 = .ok (.lload 6, 2) := dk_22 6 (dk_at dksX1_weighingsOf_7 10 rfl rfl)
theorem dX1_weighingsOf_174 : decode cX1_weighingsOf 174 = .ok (.lmul, 1) := dk_105 (dk_at dksX1_weighingsOf_7 12 rfl rfl)
theorem dX1_weighingsOf_175 : decode cX1_weighingsOf 175 = .ok (.aload_n 3, 1) := dk_45 (dk_at dksX1_weighingsOf_7 13 rfl rfl)
theorem dX1_weighingsOf_176 : decode cX1_weighingsOf 176 = .ok (.aload_n 2, 1) := dk_44 (dk_at dksX1_weighingsOf_7 14 rfl rfl)
theorem dX1_weighingsOf_177 : decode cX1_weighingsOf 177 = .ok (.iload 9, 2) := dk_21 9 (dk_at dksX1_weighingsOf_7 15 rfl rfl)
theorem dX1_weighingsOf_179 : decode cX1_weighingsOf 179 = .ok (.iaload, 1) := dk_46 (dk_at dksX1_weighingsOf_7 17 rfl rfl)
theorem dX1_weighingsOf_180 : decode cX1_weighingsOf 180 = .ok (.invokevirtual 72, 3) := dk_182 0 72 (dk_at dksX1_weighingsOf_7 18 rfl rfl)
theorem dX1_weighingsOf_183 : decode cX1_weighingsOf 183 = .ok (.checkcast 76, 3) := dk_192 0 76 (dk_at dksX1_weighingsOf_7 21 rfl rfl)
theorem dX1_weighingsOf_186 : decode cX1_weighingsOf 186 = .ok (.iload 9, 2) := dk_21 9 (dk_at dksX1_weighingsOf_8 0 rfl rfl)
theorem dX1_weighingsOf_188 : decode cX1_weighingsOf 188 = .ok (.laload, 1) := dk_47 (dk_at dksX1_weighingsOf_8 2 rfl rfl)
theorem dX1_weighingsOf_189 : decode cX1_weighingsOf 189 = .ok (.ldiv, 1) := dk_109 (dk_at dksX1_weighingsOf_8 3 rfl rfl)
theorem dX1_weighingsOf_190 : decode cX1_weighingsOf 190 = .ok (.l2i, 1) := dk_136 (dk_at dksX1_weighingsOf_8 4 rfl rfl)
theorem dX1_weighingsOf_191 : decode cX1_weighingsOf 191 = .ok (.iastore, 1) := dk_79 (dk_at dksX1_weighingsOf_8 5 rfl rfl)
theorem dX1_weighingsOf_192 : decode cX1_weighingsOf 192 = .ok (.iinc 9 1, 3) := dk_132 9 1 (dk_at dksX1_weighingsOf_8 6 rfl rfl)
theorem dX1_weighingsOf_195 : decode cX1_weighingsOf 195 = .ok (.goto (-57), 3) := dk_167 255 199 (dk_at dksX1_weighingsOf_8 9 rfl rfl)
theorem dX1_weighingsOf_198 : decode cX1_weighingsOf 198 = .ok (.aload 4, 2) := dk_25 4 (dk_at dksX1_weighingsOf_8 12 rfl rfl)
theorem dX1_weighingsOf_200 : decode cX1_weighingsOf 200 = .ok (.aload 8, 2) := dk_25 8 (dk_at dksX1_weighingsOf_8 14 rfl rfl)
theorem dX1_weighingsOf_202 : decode cX1_weighingsOf 202 = .ok (.invokevirtual 64, 3) := dk_182 0 64 (dk_at dksX1_weighingsOf_8 16 rfl rfl)
theorem dX1_weighingsOf_205 : decode cX1_weighingsOf 205 = .ok (.pop, 1) := dk_87 (dk_at dksX1_weighingsOf_8 19 rfl rfl)
theorem dX1_weighingsOf_206 : decode cX1_weighingsOf 206 = .ok (.iinc 5 1, 3) := dk_132 5 1 (dk_at dksX1_weighingsOf_8 20 rfl rfl)
theorem dX1_weighingsOf_209 : decode cX1_weighingsOf 209 = .ok (.goto (-186), 3) := dk_167 255 70 (dk_at dksX1_weighingsOf_9 0 rfl rfl)
theorem dX1_weighingsOf_212 : decode cX1_weighingsOf 212 = .ok (.aload 4, 2) := dk_25 4 (dk_at dksX1_weighingsOf_9 3 rfl rfl)
theorem dX1_weighingsOf_214 : decode cX1_weighingsOf 214 = .ok (.areturn, 1) := dk_176 (dk_at dksX1_weighingsOf_9 5 rfl rfl)
abbrev cX1_rowsOf : ByteArray := prog_1_method_6_code
def yX1_rowsOf : MethodName := ⟨RX1, "rowsOf", "(Ljava/util/ArrayList;I[I)Ljava/util/ArrayList;"⟩
def dkwX1_rowsOf_10 : List UInt8 := [132, 4, 1, 132, 5, 1, 167, 255, 109, 45, 176]
abbrev dktX1_rowsOf_10 : List UInt8 := dkwX1_rowsOf_10 ++ []
def dkwX1_rowsOf_9 : List UInt8 := [192, 0, 76, 58, 9, 25, 9, 25, 7, 21, 5, 184, 0, 82, 167, 255, 225, 44, 21, 5, 21, 4, 79]
abbrev dktX1_rowsOf_9 : List UInt8 := dkwX1_rowsOf_9 ++ dktX1_rowsOf_10
def dkwX1_rowsOf_8 : List UInt8 := [45, 182, 0, 41, 58, 8, 25, 8, 185, 0, 45, 1, 0, 153, 0, 27, 25, 8, 185, 0, 51, 1, 0]
abbrev dktX1_rowsOf_8 : List UInt8 := dkwX1_rowsOf_8 ++ dktX1_rowsOf_9
def dkwX1_rowsOf_7 : List UInt8 := [21, 6, 45, 21, 4, 182, 0, 72, 192, 0, 76, 182, 0, 78, 87, 45, 21, 4, 25, 7, 182, 0, 78, 87]
abbrev dktX1_rowsOf_7 : List UInt8 := dkwX1_rowsOf_7 ++ dktX1_rowsOf_8
def dkwX1_rowsOf_6 : List UInt8 := [21, 6, 45, 182, 0, 68, 160, 0, 6, 167, 0, 88, 45, 21, 6, 182, 0, 72, 192, 0, 76, 58, 7, 45]
abbrev dktX1_rowsOf_6 : List UInt8 := dkwX1_rowsOf_6 ++ dktX1_rowsOf_7
def dkwX1_rowsOf_5 : List UInt8 := [45, 21, 6, 182, 0, 72, 192, 0, 76, 21, 5, 47, 9, 148, 154, 0, 9, 132, 6, 1, 167, 255, 227]
abbrev dktX1_rowsOf_5 : List UInt8 := dkwX1_rowsOf_5 ++ dktX1_rowsOf_6
def dkwX1_rowsOf_4 : List UInt8 := [21, 5, 27, 162, 0, 147, 44, 21, 5, 2, 79, 21, 4, 54, 6, 21, 6, 45, 182, 0, 68, 162, 0, 26]
abbrev dktX1_rowsOf_4 : List UInt8 := dkwX1_rowsOf_4 ++ dktX1_rowsOf_5
def dkwX1_rowsOf_3 : List UInt8 := [133, 80, 132, 7, 1, 167, 255, 224, 45, 25, 6, 182, 0, 64, 87, 167, 255, 184, 3, 54, 4, 3, 54, 5]
abbrev dktX1_rowsOf_3 : List UInt8 := dkwX1_rowsOf_3 ++ dktX1_rowsOf_4
def dkwX1_rowsOf_2 : List UInt8 := [162, 0, 32, 25, 6, 21, 7, 25, 5, 180, 0, 57, 21, 7, 46, 25, 5, 180, 0, 61, 21, 7, 46, 100]
abbrev dktX1_rowsOf_2 : List UInt8 := dkwX1_rowsOf_2 ++ dktX1_rowsOf_3
def dkwX1_rowsOf_1 : List UInt8 := [25, 4, 185, 0, 51, 1, 0, 192, 0, 55, 58, 5, 27, 188, 11, 58, 6, 3, 54, 7, 21, 7, 27]
abbrev dktX1_rowsOf_1 : List UInt8 := dkwX1_rowsOf_1 ++ dktX1_rowsOf_2
def dkwX1_rowsOf_0 : List UInt8 := [187, 0, 38, 89, 183, 0, 40, 78, 42, 182, 0, 41, 58, 4, 25, 4, 185, 0, 45, 1, 0, 153, 0, 68]
abbrev dktX1_rowsOf_0 : List UInt8 := dkwX1_rowsOf_0 ++ dktX1_rowsOf_1
theorem dksX1_rowsOf_0 : cX1_rowsOf.data.toList.drop 0 = dktX1_rowsOf_0 := by decide +kernel
theorem dksX1_rowsOf_1 : cX1_rowsOf.data.toList.drop 24 = dktX1_rowsOf_1 := dk_seg dksX1_rowsOf_0 24 rfl rfl
theorem dksX1_rowsOf_2 : cX1_rowsOf.data.toList.drop 47 = dktX1_rowsOf_2 := dk_seg dksX1_rowsOf_1 23 rfl rfl
theorem dksX1_rowsOf_3 : cX1_rowsOf.data.toList.drop 71 = dktX1_rowsOf_3 := dk_seg dksX1_rowsOf_2 24 rfl rfl
theorem dksX1_rowsOf_4 : cX1_rowsOf.data.toList.drop 95 = dktX1_rowsOf_4 := dk_seg dksX1_rowsOf_3 24 rfl rfl
theorem dksX1_rowsOf_5 : cX1_rowsOf.data.toList.drop 119 = dktX1_rowsOf_5 := dk_seg dksX1_rowsOf_4 24 rfl rfl
theorem dksX1_rowsOf_6 : cX1_rowsOf.data.toList.drop 142 = dktX1_rowsOf_6 := dk_seg dksX1_rowsOf_5 23 rfl rfl
theorem dksX1_rowsOf_7 : cX1_rowsOf.data.toList.drop 166 = dktX1_rowsOf_7 := dk_seg dksX1_rowsOf_6 24 rfl rfl
theorem dksX1_rowsOf_8 : cX1_rowsOf.data.toList.drop 190 = dktX1_rowsOf_8 := dk_seg dksX1_rowsOf_7 24 rfl rfl
theorem dksX1_rowsOf_9 : cX1_rowsOf.data.toList.drop 213 = dktX1_rowsOf_9 := dk_seg dksX1_rowsOf_8 23 rfl rfl
theorem dksX1_rowsOf_10 : cX1_rowsOf.data.toList.drop 236 = dktX1_rowsOf_10 := dk_seg dksX1_rowsOf_9 23 rfl rfl
theorem dX1_rowsOf_0 : decode cX1_rowsOf 0 = .ok (.new 38, 3) := dk_187 0 38 (dk_at dksX1_rowsOf_0 0 rfl rfl)
theorem dX1_rowsOf_3 : decode cX1_rowsOf 3 = .ok (.dup, 1) := dk_89 (dk_at dksX1_rowsOf_0 3 rfl rfl)
theorem dX1_rowsOf_4 : decode cX1_rowsOf 4 = .ok (.invokespecial 40, 3) := dk_183 0 40 (dk_at dksX1_rowsOf_0 4 rfl rfl)
theorem dX1_rowsOf_7 : decode cX1_rowsOf 7 = .ok (.astore_n 3, 1) := dk_78 (dk_at dksX1_rowsOf_0 7 rfl rfl)
theorem dX1_rowsOf_8 : decode cX1_rowsOf 8 = .ok (.aload_n 0, 1) := dk_42 (dk_at dksX1_rowsOf_0 8 rfl rfl)
theorem dX1_rowsOf_9 : decode cX1_rowsOf 9 = .ok (.invokevirtual 41, 3) := dk_182 0 41 (dk_at dksX1_rowsOf_0 9 rfl rfl)
theorem dX1_rowsOf_12 : decode cX1_rowsOf 12 = .ok (.astore 4, 2) := dk_58 4 (dk_at dksX1_rowsOf_0 12 rfl rfl)
theorem dX1_rowsOf_14 : decode cX1_rowsOf 14 = .ok (.aload 4, 2) := dk_25 4 (dk_at dksX1_rowsOf_0 14 rfl rfl)
theorem dX1_rowsOf_16 : decode cX1_rowsOf 16 = .ok (.invokeinterface 45 1, 5) := by decide +kernel
theorem dX1_rowsOf_21 : decode cX1_rowsOf 21 = .ok (.ifCond .eq 68, 3) := dk_153 0 68 (dk_at dksX1_rowsOf_0 21 rfl rfl)
theorem dX1_rowsOf_24 : decode cX1_rowsOf 24 = .ok (.aload 4, 2) := dk_25 4 (dk_at dksX1_rowsOf_1 0 rfl rfl)
theorem dX1_rowsOf_26 : decode cX1_rowsOf 26 = .ok (.invokeinterface 51 1, 5) := by decide +kernel
theorem dX1_rowsOf_31 : decode cX1_rowsOf 31 = .ok (.checkcast 55, 3) := dk_192 0 55 (dk_at dksX1_rowsOf_1 7 rfl rfl)
theorem dX1_rowsOf_34 : decode cX1_rowsOf 34 = .ok (.astore 5, 2) := dk_58 5 (dk_at dksX1_rowsOf_1 10 rfl rfl)
theorem dX1_rowsOf_36 : decode cX1_rowsOf 36 = .ok (.iload_n 1, 1) := dk_27 (dk_at dksX1_rowsOf_1 12 rfl rfl)
theorem dX1_rowsOf_37 : decode cX1_rowsOf 37 = .ok (.newarray .long, 2) := dk_188_11 (dk_at dksX1_rowsOf_1 13 rfl rfl)
theorem dX1_rowsOf_39 : decode cX1_rowsOf 39 = .ok (.astore 6, 2) := dk_58 6 (dk_at dksX1_rowsOf_1 15 rfl rfl)
theorem dX1_rowsOf_41 : decode cX1_rowsOf 41 = .ok (.iconst 0, 1) := dk_3 (dk_at dksX1_rowsOf_1 17 rfl rfl)
theorem dX1_rowsOf_42 : decode cX1_rowsOf 42 = .ok (.istore 7, 2) := dk_54 7 (dk_at dksX1_rowsOf_1 18 rfl rfl)
theorem dX1_rowsOf_44 : decode cX1_rowsOf 44 = .ok (.iload 7, 2) := dk_21 7 (dk_at dksX1_rowsOf_1 20 rfl rfl)
theorem dX1_rowsOf_46 : decode cX1_rowsOf 46 = .ok (.iload_n 1, 1) := dk_27 (dk_at dksX1_rowsOf_1 22 rfl rfl)
theorem dX1_rowsOf_47 : decode cX1_rowsOf 47 = .ok (.if_icmp .ge 32, 3) := dk_162 0 32 (dk_at dksX1_rowsOf_2 0 rfl rfl)
theorem dX1_rowsOf_50 : decode cX1_rowsOf 50 = .ok (.aload 6, 2) := dk_25 6 (dk_at dksX1_rowsOf_2 3 rfl rfl)
theorem dX1_rowsOf_52 : decode cX1_rowsOf 52 = .ok (.iload 7, 2) := dk_21 7 (dk_at dksX1_rowsOf_2 5 rfl rfl)
theorem dX1_rowsOf_54 : decode cX1_rowsOf 54 = .ok (.aload 5, 2) := dk_25 5 (dk_at dksX1_rowsOf_2 7 rfl rfl)
theorem dX1_rowsOf_56 : decode cX1_rowsOf 56 = .ok (.getfield 57, 3) := dk_180 0 57 (dk_at dksX1_rowsOf_2 9 rfl rfl)
theorem dX1_rowsOf_59 : decode cX1_rowsOf 59 = .ok (.iload 7, 2) := dk_21 7 (dk_at dksX1_rowsOf_2 12 rfl rfl)
theorem dX1_rowsOf_61 : decode cX1_rowsOf 61 = .ok (.iaload, 1) := dk_46 (dk_at dksX1_rowsOf_2 14 rfl rfl)
theorem dX1_rowsOf_62 : decode cX1_rowsOf 62 = .ok (.aload 5, 2) := dk_25 5 (dk_at dksX1_rowsOf_2 15 rfl rfl)
theorem dX1_rowsOf_64 : decode cX1_rowsOf 64 = .ok (.getfield 61, 3) := dk_180 0 61 (dk_at dksX1_rowsOf_2 17 rfl rfl)
theorem dX1_rowsOf_67 : decode cX1_rowsOf 67 = .ok (.iload 7, 2) := dk_21 7 (dk_at dksX1_rowsOf_2 20 rfl rfl)
theorem dX1_rowsOf_69 : decode cX1_rowsOf 69 = .ok (.iaload, 1) := dk_46 (dk_at dksX1_rowsOf_2 22 rfl rfl)
theorem dX1_rowsOf_70 : decode cX1_rowsOf 70 = .ok (.isub, 1) := dk_100 (dk_at dksX1_rowsOf_2 23 rfl rfl)
theorem dX1_rowsOf_71 : decode cX1_rowsOf 71 = .ok (.i2l, 1) := dk_133 (dk_at dksX1_rowsOf_3 0 rfl rfl)
theorem dX1_rowsOf_72 : decode cX1_rowsOf 72 = .ok (.lastore, 1) := dk_80 (dk_at dksX1_rowsOf_3 1 rfl rfl)
theorem dX1_rowsOf_73 : decode cX1_rowsOf 73 = .ok (.iinc 7 1, 3) := dk_132 7 1 (dk_at dksX1_rowsOf_3 2 rfl rfl)
theorem dX1_rowsOf_76 : decode cX1_rowsOf 76 = .ok (.goto (-32), 3) := dk_167 255 224 (dk_at dksX1_rowsOf_3 5 rfl rfl)
theorem dX1_rowsOf_79 : decode cX1_rowsOf 79 = .ok (.aload_n 3, 1) := dk_45 (dk_at dksX1_rowsOf_3 8 rfl rfl)
theorem dX1_rowsOf_80 : decode cX1_rowsOf 80 = .ok (.aload 6, 2) := dk_25 6 (dk_at dksX1_rowsOf_3 9 rfl rfl)
theorem dX1_rowsOf_82 : decode cX1_rowsOf 82 = .ok (.invokevirtual 64, 3) := dk_182 0 64 (dk_at dksX1_rowsOf_3 11 rfl rfl)
theorem dX1_rowsOf_85 : decode cX1_rowsOf 85 = .ok (.pop, 1) := dk_87 (dk_at dksX1_rowsOf_3 14 rfl rfl)
theorem dX1_rowsOf_86 : decode cX1_rowsOf 86 = .ok (.goto (-72), 3) := dk_167 255 184 (dk_at dksX1_rowsOf_3 15 rfl rfl)
theorem dX1_rowsOf_89 : decode cX1_rowsOf 89 = .ok (.iconst 0, 1) := dk_3 (dk_at dksX1_rowsOf_3 18 rfl rfl)
theorem dX1_rowsOf_90 : decode cX1_rowsOf 90 = .ok (.istore 4, 2) := dk_54 4 (dk_at dksX1_rowsOf_3 19 rfl rfl)
theorem dX1_rowsOf_92 : decode cX1_rowsOf 92 = .ok (.iconst 0, 1) := dk_3 (dk_at dksX1_rowsOf_3 21 rfl rfl)
theorem dX1_rowsOf_93 : decode cX1_rowsOf 93 = .ok (.istore 5, 2) := dk_54 5 (dk_at dksX1_rowsOf_3 22 rfl rfl)
theorem dX1_rowsOf_95 : decode cX1_rowsOf 95 = .ok (.iload 5, 2) := dk_21 5 (dk_at dksX1_rowsOf_4 0 rfl rfl)
theorem dX1_rowsOf_97 : decode cX1_rowsOf 97 = .ok (.iload_n 1, 1) := dk_27 (dk_at dksX1_rowsOf_4 2 rfl rfl)
theorem dX1_rowsOf_98 : decode cX1_rowsOf 98 = .ok (.if_icmp .ge 147, 3) := dk_162 0 147 (dk_at dksX1_rowsOf_4 3 rfl rfl)
theorem dX1_rowsOf_101 : decode cX1_rowsOf 101 = .ok (.aload_n 2, 1) := dk_44 (dk_at dksX1_rowsOf_4 6 rfl rfl)
theorem dX1_rowsOf_102 : decode cX1_rowsOf 102 = .ok (.iload 5, 2) := dk_21 5 (dk_at dksX1_rowsOf_4 7 rfl rfl)
theorem dX1_rowsOf_104 : decode cX1_rowsOf 104 = .ok (.iconst (-1), 1) := dk_2 (dk_at dksX1_rowsOf_4 9 rfl rfl)
theorem dX1_rowsOf_105 : decode cX1_rowsOf 105 = .ok (.iastore, 1) := dk_79 (dk_at dksX1_rowsOf_4 10 rfl rfl)
theorem dX1_rowsOf_106 : decode cX1_rowsOf 106 = .ok (.iload 4, 2) := dk_21 4 (dk_at dksX1_rowsOf_4 11 rfl rfl)
theorem dX1_rowsOf_108 : decode cX1_rowsOf 108 = .ok (.istore 6, 2) := dk_54 6 (dk_at dksX1_rowsOf_4 13 rfl rfl)
theorem dX1_rowsOf_110 : decode cX1_rowsOf 110 = .ok (.iload 6, 2) := dk_21 6 (dk_at dksX1_rowsOf_4 15 rfl rfl)
theorem dX1_rowsOf_112 : decode cX1_rowsOf 112 = .ok (.aload_n 3, 1) := dk_45 (dk_at dksX1_rowsOf_4 17 rfl rfl)
theorem dX1_rowsOf_113 : decode cX1_rowsOf 113 = .ok (.invokevirtual 68, 3) := dk_182 0 68 (dk_at dksX1_rowsOf_4 18 rfl rfl)
theorem dX1_rowsOf_116 : decode cX1_rowsOf 116 = .ok (.if_icmp .ge 26, 3) := dk_162 0 26 (dk_at dksX1_rowsOf_4 21 rfl rfl)
theorem dX1_rowsOf_119 : decode cX1_rowsOf 119 = .ok (.aload_n 3, 1) := dk_45 (dk_at dksX1_rowsOf_5 0 rfl rfl)
theorem dX1_rowsOf_120 : decode cX1_rowsOf 120 = .ok (.iload 6, 2) := dk_21 6 (dk_at dksX1_rowsOf_5 1 rfl rfl)
theorem dX1_rowsOf_122 : decode cX1_rowsOf 122 = .ok (.invokevirtual 72, 3) := dk_182 0 72 (dk_at dksX1_rowsOf_5 3 rfl rfl)
theorem dX1_rowsOf_125 : decode cX1_rowsOf 125 = .ok (.checkcast 76, 3) := dk_192 0 76 (dk_at dksX1_rowsOf_5 6 rfl rfl)
theorem dX1_rowsOf_128 : decode cX1_rowsOf 128 = .ok (.iload 5, 2) := dk_21 5 (dk_at dksX1_rowsOf_5 9 rfl rfl)
theorem dX1_rowsOf_130 : decode cX1_rowsOf 130 = .ok (.laload, 1) := dk_47 (dk_at dksX1_rowsOf_5 11 rfl rfl)
theorem dX1_rowsOf_131 : decode cX1_rowsOf 131 = .ok (.lconst 0, 1) := dk_9 (dk_at dksX1_rowsOf_5 12 rfl rfl)
theorem dX1_rowsOf_132 : decode cX1_rowsOf 132 = .ok (.lcmp, 1) := dk_148 (dk_at dksX1_rowsOf_5 13 rfl rfl)
theorem dX1_rowsOf_133 : decode cX1_rowsOf 133 = .ok (.ifCond .ne 9, 3) := dk_154 0 9 (dk_at dksX1_rowsOf_5 14 rfl rfl)
theorem dX1_rowsOf_136 : decode cX1_rowsOf 136 = .ok (.iinc 6 1, 3) := dk_132 6 1 (dk_at dksX1_rowsOf_5 17 rfl rfl)
theorem dX1_rowsOf_139 : decode cX1_rowsOf 139 = .ok (.goto (-29), 3) := dk_167 255 227 (dk_at dksX1_rowsOf_5 20 rfl rfl)
theorem dX1_rowsOf_142 : decode cX1_rowsOf 142 = .ok (.iload 6, 2) := dk_21 6 (dk_at dksX1_rowsOf_6 0 rfl rfl)
theorem dX1_rowsOf_144 : decode cX1_rowsOf 144 = .ok (.aload_n 3, 1) := dk_45 (dk_at dksX1_rowsOf_6 2 rfl rfl)
theorem dX1_rowsOf_145 : decode cX1_rowsOf 145 = .ok (.invokevirtual 68, 3) := dk_182 0 68 (dk_at dksX1_rowsOf_6 3 rfl rfl)
theorem dX1_rowsOf_148 : decode cX1_rowsOf 148 = .ok (.if_icmp .ne 6, 3) := dk_160 0 6 (dk_at dksX1_rowsOf_6 6 rfl rfl)
theorem dX1_rowsOf_151 : decode cX1_rowsOf 151 = .ok (.goto 88, 3) := dk_167 0 88 (dk_at dksX1_rowsOf_6 9 rfl rfl)
theorem dX1_rowsOf_154 : decode cX1_rowsOf 154 = .ok (.aload_n 3, 1) := dk_45 (dk_at dksX1_rowsOf_6 12 rfl rfl)
theorem dX1_rowsOf_155 : decode cX1_rowsOf 155 = .ok (.iload 6, 2) := dk_21 6 (dk_at dksX1_rowsOf_6 13 rfl rfl)
theorem dX1_rowsOf_157 : decode cX1_rowsOf 157 = .ok (.invokevirtual 72, 3) := dk_182 0 72 (dk_at dksX1_rowsOf_6 15 rfl rfl)
theorem dX1_rowsOf_160 : decode cX1_rowsOf 160 = .ok (.checkcast 76, 3) := dk_192 0 76 (dk_at dksX1_rowsOf_6 18 rfl rfl)
theorem dX1_rowsOf_163 : decode cX1_rowsOf 163 = .ok (.astore 7, 2) := dk_58 7 (dk_at dksX1_rowsOf_6 21 rfl rfl)
theorem dX1_rowsOf_165 : decode cX1_rowsOf 165 = .ok (.aload_n 3, 1) := dk_45 (dk_at dksX1_rowsOf_6 23 rfl rfl)
theorem dX1_rowsOf_166 : decode cX1_rowsOf 166 = .ok (.iload 6, 2) := dk_21 6 (dk_at dksX1_rowsOf_7 0 rfl rfl)
theorem dX1_rowsOf_168 : decode cX1_rowsOf 168 = .ok (.aload_n 3, 1) := dk_45 (dk_at dksX1_rowsOf_7 2 rfl rfl)
theorem dX1_rowsOf_169 : decode cX1_rowsOf 169 = .ok (.iload 4, 2) := dk_21 4 (dk_at dksX1_rowsOf_7 3 rfl rfl)
theorem dX1_rowsOf_171 : decode cX1_rowsOf 171 = .ok (.invokevirtual 72, 3) := dk_182 0 72 (dk_at dksX1_rowsOf_7 5 rfl rfl)
theorem dX1_rowsOf_174 : decode cX1_rowsOf 174 = .ok (.checkcast 76, 3) := dk_192 0 76 (dk_at dksX1_rowsOf_7 8 rfl rfl)
theorem dX1_rowsOf_177 : decode cX1_rowsOf 177 = .ok (.invokevirtual 78, 3) := dk_182 0 78 (dk_at dksX1_rowsOf_7 11 rfl rfl)
theorem dX1_rowsOf_180 : decode cX1_rowsOf 180 = .ok (.pop, 1) := dk_87 (dk_at dksX1_rowsOf_7 14 rfl rfl)
theorem dX1_rowsOf_181 : decode cX1_rowsOf 181 = .ok (.aload_n 3, 1) := dk_45 (dk_at dksX1_rowsOf_7 15 rfl rfl)
theorem dX1_rowsOf_182 : decode cX1_rowsOf 182 = .ok (.iload 4, 2) := dk_21 4 (dk_at dksX1_rowsOf_7 16 rfl rfl)
theorem dX1_rowsOf_184 : decode cX1_rowsOf 184 = .ok (.aload 7, 2) := dk_25 7 (dk_at dksX1_rowsOf_7 18 rfl rfl)
theorem dX1_rowsOf_186 : decode cX1_rowsOf 186 = .ok (.invokevirtual 78, 3) := dk_182 0 78 (dk_at dksX1_rowsOf_7 20 rfl rfl)
theorem dX1_rowsOf_189 : decode cX1_rowsOf 189 = .ok (.pop, 1) := dk_87 (dk_at dksX1_rowsOf_7 23 rfl rfl)
theorem dX1_rowsOf_190 : decode cX1_rowsOf 190 = .ok (.aload_n 3, 1) := dk_45 (dk_at dksX1_rowsOf_8 0 rfl rfl)
theorem dX1_rowsOf_191 : decode cX1_rowsOf 191 = .ok (.invokevirtual 41, 3) := dk_182 0 41 (dk_at dksX1_rowsOf_8 1 rfl rfl)
theorem dX1_rowsOf_194 : decode cX1_rowsOf 194 = .ok (.astore 8, 2) := dk_58 8 (dk_at dksX1_rowsOf_8 4 rfl rfl)
theorem dX1_rowsOf_196 : decode cX1_rowsOf 196 = .ok (.aload 8, 2) := dk_25 8 (dk_at dksX1_rowsOf_8 6 rfl rfl)
theorem dX1_rowsOf_198 : decode cX1_rowsOf 198 = .ok (.invokeinterface 45 1, 5) := by decide +kernel
theorem dX1_rowsOf_203 : decode cX1_rowsOf 203 = .ok (.ifCond .eq 27, 3) := dk_153 0 27 (dk_at dksX1_rowsOf_8 13 rfl rfl)
theorem dX1_rowsOf_206 : decode cX1_rowsOf 206 = .ok (.aload 8, 2) := dk_25 8 (dk_at dksX1_rowsOf_8 16 rfl rfl)
theorem dX1_rowsOf_208 : decode cX1_rowsOf 208 = .ok (.invokeinterface 51 1, 5) := by decide +kernel
theorem dX1_rowsOf_213 : decode cX1_rowsOf 213 = .ok (.checkcast 76, 3) := dk_192 0 76 (dk_at dksX1_rowsOf_9 0 rfl rfl)
theorem dX1_rowsOf_216 : decode cX1_rowsOf 216 = .ok (.astore 9, 2) := dk_58 9 (dk_at dksX1_rowsOf_9 3 rfl rfl)
theorem dX1_rowsOf_218 : decode cX1_rowsOf 218 = .ok (.aload 9, 2) := dk_25 9 (dk_at dksX1_rowsOf_9 5 rfl rfl)
theorem dX1_rowsOf_220 : decode cX1_rowsOf 220 = .ok (.aload 7, 2) := dk_25 7 (dk_at dksX1_rowsOf_9 7 rfl rfl)
theorem dX1_rowsOf_222 : decode cX1_rowsOf 222 = .ok (.iload 5, 2) := dk_21 5 (dk_at dksX1_rowsOf_9 9 rfl rfl)
theorem dX1_rowsOf_224 : decode cX1_rowsOf 224 = .ok (.invokestatic 82, 3) := dk_184 0 82 (dk_at dksX1_rowsOf_9 11 rfl rfl)
theorem dX1_rowsOf_227 : decode cX1_rowsOf 227 = .ok (.goto (-31), 3) := dk_167 255 225 (dk_at dksX1_rowsOf_9 14 rfl rfl)
theorem dX1_rowsOf_230 : decode cX1_rowsOf 230 = .ok (.aload_n 2, 1) := dk_44 (dk_at dksX1_rowsOf_9 17 rfl rfl)
theorem dX1_rowsOf_231 : decode cX1_rowsOf 231 = .ok (.iload 5, 2) := dk_21 5 (dk_at dksX1_rowsOf_9 18 rfl rfl)
theorem dX1_rowsOf_233 : decode cX1_rowsOf 233 = .ok (.iload 4, 2) := dk_21 4 (dk_at dksX1_rowsOf_9 20 rfl rfl)
theorem dX1_rowsOf_235 : decode cX1_rowsOf 235 = .ok (.iastore, 1) := dk_79 (dk_at dksX1_rowsOf_9 22 rfl rfl)
theorem dX1_rowsOf_236 : decode cX1_rowsOf 236 = .ok (.iinc 4 1, 3) := dk_132 4 1 (dk_at dksX1_rowsOf_10 0 rfl rfl)
theorem dX1_rowsOf_239 : decode cX1_rowsOf 239 = .ok (.iinc 5 1, 3) := dk_132 5 1 (dk_at dksX1_rowsOf_10 3 rfl rfl)
theorem dX1_rowsOf_242 : decode cX1_rowsOf 242 = .ok (.goto (-147), 3) := dk_167 255 109 (dk_at dksX1_rowsOf_10 6 rfl rfl)
theorem dX1_rowsOf_245 : decode cX1_rowsOf 245 = .ok (.aload_n 3, 1) := dk_45 (dk_at dksX1_rowsOf_10 9 rfl rfl)
theorem dX1_rowsOf_246 : decode cX1_rowsOf 246 = .ok (.areturn, 1) := dk_176 (dk_at dksX1_rowsOf_10 10 rfl rfl)
abbrev cX1_takeAway : ByteArray := prog_1_method_5_code
def yX1_takeAway : MethodName := ⟨RX1, "takeAway", "([J[JI)V"⟩
def dkwX1_takeAway_2 : List UInt8 := [105, 101, 80, 132, 7, 1, 167, 255, 228, 42, 184, 0, 34, 177]
abbrev dktX1_takeAway_2 : List UInt8 := dkwX1_takeAway_2 ++ []
def dkwX1_takeAway_1 : List UInt8 := [54, 7, 21, 7, 42, 190, 162, 0, 27, 42, 21, 7, 42, 21, 7, 47, 33, 105, 43, 21, 7, 47, 22, 5]
abbrev dktX1_takeAway_1 : List UInt8 := dkwX1_takeAway_1 ++ dktX1_takeAway_2
def dkwX1_takeAway_0 : List UInt8 := [42, 43, 165, 0, 11, 42, 28, 47, 9, 148, 154, 0, 4, 177, 43, 28, 47, 66, 42, 28, 47, 55, 5, 3]
abbrev dktX1_takeAway_0 : List UInt8 := dkwX1_takeAway_0 ++ dktX1_takeAway_1
theorem dksX1_takeAway_0 : cX1_takeAway.data.toList.drop 0 = dktX1_takeAway_0 := by decide +kernel
theorem dksX1_takeAway_1 : cX1_takeAway.data.toList.drop 24 = dktX1_takeAway_1 := dk_seg dksX1_takeAway_0 24 rfl rfl
theorem dksX1_takeAway_2 : cX1_takeAway.data.toList.drop 48 = dktX1_takeAway_2 := dk_seg dksX1_takeAway_1 24 rfl rfl
theorem dX1_takeAway_0 : decode cX1_takeAway 0 = .ok (.aload_n 0, 1) := dk_42 (dk_at dksX1_takeAway_0 0 rfl rfl)
theorem dX1_takeAway_1 : decode cX1_takeAway 1 = .ok (.aload_n 1, 1) := dk_43 (dk_at dksX1_takeAway_0 1 rfl rfl)
theorem dX1_takeAway_2 : decode cX1_takeAway 2 = .ok (.if_acmp .eq 11, 3) := dk_165 0 11 (dk_at dksX1_takeAway_0 2 rfl rfl)
theorem dX1_takeAway_5 : decode cX1_takeAway 5 = .ok (.aload_n 0, 1) := dk_42 (dk_at dksX1_takeAway_0 5 rfl rfl)
theorem dX1_takeAway_6 : decode cX1_takeAway 6 = .ok (.iload_n 2, 1) := dk_28 (dk_at dksX1_takeAway_0 6 rfl rfl)
theorem dX1_takeAway_7 : decode cX1_takeAway 7 = .ok (.laload, 1) := dk_47 (dk_at dksX1_takeAway_0 7 rfl rfl)
theorem dX1_takeAway_8 : decode cX1_takeAway 8 = .ok (.lconst 0, 1) := dk_9 (dk_at dksX1_takeAway_0 8 rfl rfl)
theorem dX1_takeAway_9 : decode cX1_takeAway 9 = .ok (.lcmp, 1) := dk_148 (dk_at dksX1_takeAway_0 9 rfl rfl)
theorem dX1_takeAway_10 : decode cX1_takeAway 10 = .ok (.ifCond .ne 4, 3) := dk_154 0 4 (dk_at dksX1_takeAway_0 10 rfl rfl)
theorem dX1_takeAway_13 : decode cX1_takeAway 13 = .ok (.return_, 1) := dk_177 (dk_at dksX1_takeAway_0 13 rfl rfl)
theorem dX1_takeAway_14 : decode cX1_takeAway 14 = .ok (.aload_n 1, 1) := dk_43 (dk_at dksX1_takeAway_0 14 rfl rfl)
theorem dX1_takeAway_15 : decode cX1_takeAway 15 = .ok (.iload_n 2, 1) := dk_28 (dk_at dksX1_takeAway_0 15 rfl rfl)
theorem dX1_takeAway_16 : decode cX1_takeAway 16 = .ok (.laload, 1) := dk_47 (dk_at dksX1_takeAway_0 16 rfl rfl)
theorem dX1_takeAway_17 : decode cX1_takeAway 17 = .ok (.lstore_n 3, 1) := dk_66 (dk_at dksX1_takeAway_0 17 rfl rfl)
theorem dX1_takeAway_18 : decode cX1_takeAway 18 = .ok (.aload_n 0, 1) := dk_42 (dk_at dksX1_takeAway_0 18 rfl rfl)
theorem dX1_takeAway_19 : decode cX1_takeAway 19 = .ok (.iload_n 2, 1) := dk_28 (dk_at dksX1_takeAway_0 19 rfl rfl)
theorem dX1_takeAway_20 : decode cX1_takeAway 20 = .ok (.laload, 1) := dk_47 (dk_at dksX1_takeAway_0 20 rfl rfl)
theorem dX1_takeAway_21 : decode cX1_takeAway 21 = .ok (.lstore 5, 2) := dk_55 5 (dk_at dksX1_takeAway_0 21 rfl rfl)
theorem dX1_takeAway_23 : decode cX1_takeAway 23 = .ok (.iconst 0, 1) := dk_3 (dk_at dksX1_takeAway_0 23 rfl rfl)
theorem dX1_takeAway_24 : decode cX1_takeAway 24 = .ok (.istore 7, 2) := dk_54 7 (dk_at dksX1_takeAway_1 0 rfl rfl)
theorem dX1_takeAway_26 : decode cX1_takeAway 26 = .ok (.iload 7, 2) := dk_21 7 (dk_at dksX1_takeAway_1 2 rfl rfl)
theorem dX1_takeAway_28 : decode cX1_takeAway 28 = .ok (.aload_n 0, 1) := dk_42 (dk_at dksX1_takeAway_1 4 rfl rfl)
theorem dX1_takeAway_29 : decode cX1_takeAway 29 = .ok (.arraylength, 1) := dk_190 (dk_at dksX1_takeAway_1 5 rfl rfl)
theorem dX1_takeAway_30 : decode cX1_takeAway 30 = .ok (.if_icmp .ge 27, 3) := dk_162 0 27 (dk_at dksX1_takeAway_1 6 rfl rfl)
theorem dX1_takeAway_33 : decode cX1_takeAway 33 = .ok (.aload_n 0, 1) := dk_42 (dk_at dksX1_takeAway_1 9 rfl rfl)
theorem dX1_takeAway_34 : decode cX1_takeAway 34 = .ok (.iload 7, 2) := dk_21 7 (dk_at dksX1_takeAway_1 10 rfl rfl)
theorem dX1_takeAway_36 : decode cX1_takeAway 36 = .ok (.aload_n 0, 1) := dk_42 (dk_at dksX1_takeAway_1 12 rfl rfl)
theorem dX1_takeAway_37 : decode cX1_takeAway 37 = .ok (.iload 7, 2) := dk_21 7 (dk_at dksX1_takeAway_1 13 rfl rfl)
theorem dX1_takeAway_39 : decode cX1_takeAway 39 = .ok (.laload, 1) := dk_47 (dk_at dksX1_takeAway_1 15 rfl rfl)
theorem dX1_takeAway_40 : decode cX1_takeAway 40 = .ok (.lload_n 3, 1) := dk_33 (dk_at dksX1_takeAway_1 16 rfl rfl)
theorem dX1_takeAway_41 : decode cX1_takeAway 41 = .ok (.lmul, 1) := dk_105 (dk_at dksX1_takeAway_1 17 rfl rfl)
theorem dX1_takeAway_42 : decode cX1_takeAway 42 = .ok (.aload_n 1, 1) := dk_43 (dk_at dksX1_takeAway_1 18 rfl rfl)
theorem dX1_takeAway_43 : decode cX1_takeAway 43 = .ok (.iload 7, 2) := dk_21 7 (dk_at dksX1_takeAway_1 19 rfl rfl)
theorem dX1_takeAway_45 : decode cX1_takeAway 45 = .ok (.laload, 1) := dk_47 (dk_at dksX1_takeAway_1 21 rfl rfl)
theorem dX1_takeAway_46 : decode cX1_takeAway 46 = .ok (.lload 5, 2) := dk_22 5 (dk_at dksX1_takeAway_1 22 rfl rfl)
theorem dX1_takeAway_48 : decode cX1_takeAway 48 = .ok (.lmul, 1) := dk_105 (dk_at dksX1_takeAway_2 0 rfl rfl)
theorem dX1_takeAway_49 : decode cX1_takeAway 49 = .ok (.lsub, 1) := dk_101 (dk_at dksX1_takeAway_2 1 rfl rfl)
theorem dX1_takeAway_50 : decode cX1_takeAway 50 = .ok (.lastore, 1) := dk_80 (dk_at dksX1_takeAway_2 2 rfl rfl)
theorem dX1_takeAway_51 : decode cX1_takeAway 51 = .ok (.iinc 7 1, 3) := dk_132 7 1 (dk_at dksX1_takeAway_2 3 rfl rfl)
theorem dX1_takeAway_54 : decode cX1_takeAway 54 = .ok (.goto (-28), 3) := dk_167 255 228 (dk_at dksX1_takeAway_2 6 rfl rfl)
theorem dX1_takeAway_57 : decode cX1_takeAway 57 = .ok (.aload_n 0, 1) := dk_42 (dk_at dksX1_takeAway_2 9 rfl rfl)
theorem dX1_takeAway_58 : decode cX1_takeAway 58 = .ok (.invokestatic 34, 3) := dk_184 0 34 (dk_at dksX1_takeAway_2 10 rfl rfl)
theorem dX1_takeAway_61 : decode cX1_takeAway 61 = .ok (.return_, 1) := dk_177 (dk_at dksX1_takeAway_2 13 rfl rfl)
abbrev cX1_lessen : ByteArray := prog_1_method_4_code
def yX1_lessen : MethodName := ⟨RX1, "lessen", "([J)V"⟩
def dkwX1_lessen_2 : List UInt8 := [162, 0, 16, 42, 29, 92, 47, 31, 109, 80, 132, 3, 1, 167, 255, 240, 177]
abbrev dktX1_lessen_2 : List UInt8 := dkwX1_lessen_2 ++ []
def dkwX1_lessen_1 : List UInt8 := [31, 22, 6, 184, 0, 28, 64, 132, 5, 1, 167, 255, 233, 31, 10, 148, 158, 0, 24, 3, 62, 29, 42, 190]
abbrev dktX1_lessen_1 : List UInt8 := dkwX1_lessen_1 ++ dktX1_lessen_2
def dkwX1_lessen_0 : List UInt8 := [9, 64, 42, 78, 45, 190, 54, 4, 3, 54, 5, 21, 5, 21, 4, 162, 0, 22, 45, 21, 5, 47, 55, 6]
abbrev dktX1_lessen_0 : List UInt8 := dkwX1_lessen_0 ++ dktX1_lessen_1
theorem dksX1_lessen_0 : cX1_lessen.data.toList.drop 0 = dktX1_lessen_0 := by decide +kernel
theorem dksX1_lessen_1 : cX1_lessen.data.toList.drop 24 = dktX1_lessen_1 := dk_seg dksX1_lessen_0 24 rfl rfl
theorem dksX1_lessen_2 : cX1_lessen.data.toList.drop 48 = dktX1_lessen_2 := dk_seg dksX1_lessen_1 24 rfl rfl
theorem dX1_lessen_0 : decode cX1_lessen 0 = .ok (.lconst 0, 1) := dk_9 (dk_at dksX1_lessen_0 0 rfl rfl)
theorem dX1_lessen_1 : decode cX1_lessen 1 = .ok (.lstore_n 1, 1) := dk_64 (dk_at dksX1_lessen_0 1 rfl rfl)
theorem dX1_lessen_2 : decode cX1_lessen 2 = .ok (.aload_n 0, 1) := dk_42 (dk_at dksX1_lessen_0 2 rfl rfl)
theorem dX1_lessen_3 : decode cX1_lessen 3 = .ok (.astore_n 3, 1) := dk_78 (dk_at dksX1_lessen_0 3 rfl rfl)
theorem dX1_lessen_4 : decode cX1_lessen 4 = .ok (.aload_n 3, 1) := dk_45 (dk_at dksX1_lessen_0 4 rfl rfl)
theorem dX1_lessen_5 : decode cX1_lessen 5 = .ok (.arraylength, 1) := dk_190 (dk_at dksX1_lessen_0 5 rfl rfl)
theorem dX1_lessen_6 : decode cX1_lessen 6 = .ok (.istore 4, 2) := dk_54 4 (dk_at dksX1_lessen_0 6 rfl rfl)
theorem dX1_lessen_8 : decode cX1_lessen 8 = .ok (.iconst 0, 1) := dk_3 (dk_at dksX1_lessen_0 8 rfl rfl)
theorem dX1_lessen_9 : decode cX1_lessen 9 = .ok (.istore 5, 2) := dk_54 5 (dk_at dksX1_lessen_0 9 rfl rfl)
theorem dX1_lessen_11 : decode cX1_lessen 11 = .ok (.iload 5, 2) := dk_21 5 (dk_at dksX1_lessen_0 11 rfl rfl)
theorem dX1_lessen_13 : decode cX1_lessen 13 = .ok (.iload 4, 2) := dk_21 4 (dk_at dksX1_lessen_0 13 rfl rfl)
theorem dX1_lessen_15 : decode cX1_lessen 15 = .ok (.if_icmp .ge 22, 3) := dk_162 0 22 (dk_at dksX1_lessen_0 15 rfl rfl)
theorem dX1_lessen_18 : decode cX1_lessen 18 = .ok (.aload_n 3, 1) := dk_45 (dk_at dksX1_lessen_0 18 rfl rfl)
theorem dX1_lessen_19 : decode cX1_lessen 19 = .ok (.iload 5, 2) := dk_21 5 (dk_at dksX1_lessen_0 19 rfl rfl)
theorem dX1_lessen_21 : decode cX1_lessen 21 = .ok (.laload, 1) := dk_47 (dk_at dksX1_lessen_0 21 rfl rfl)
theorem dX1_lessen_22 : decode cX1_lessen 22 = .ok (.lstore 6, 2) := dk_55 6 (dk_at dksX1_lessen_0 22 rfl rfl)
theorem dX1_lessen_24 : decode cX1_lessen 24 = .ok (.lload_n 1, 1) := dk_31 (dk_at dksX1_lessen_1 0 rfl rfl)
theorem dX1_lessen_25 : decode cX1_lessen 25 = .ok (.lload 6, 2) := dk_22 6 (dk_at dksX1_lessen_1 1 rfl rfl)
theorem dX1_lessen_27 : decode cX1_lessen 27 = .ok (.invokestatic 28, 3) := dk_184 0 28 (dk_at dksX1_lessen_1 3 rfl rfl)
theorem dX1_lessen_30 : decode cX1_lessen 30 = .ok (.lstore_n 1, 1) := dk_64 (dk_at dksX1_lessen_1 6 rfl rfl)
theorem dX1_lessen_31 : decode cX1_lessen 31 = .ok (.iinc 5 1, 3) := dk_132 5 1 (dk_at dksX1_lessen_1 7 rfl rfl)
theorem dX1_lessen_34 : decode cX1_lessen 34 = .ok (.goto (-23), 3) := dk_167 255 233 (dk_at dksX1_lessen_1 10 rfl rfl)
theorem dX1_lessen_37 : decode cX1_lessen 37 = .ok (.lload_n 1, 1) := dk_31 (dk_at dksX1_lessen_1 13 rfl rfl)
theorem dX1_lessen_38 : decode cX1_lessen 38 = .ok (.lconst 1, 1) := dk_10 (dk_at dksX1_lessen_1 14 rfl rfl)
theorem dX1_lessen_39 : decode cX1_lessen 39 = .ok (.lcmp, 1) := dk_148 (dk_at dksX1_lessen_1 15 rfl rfl)
theorem dX1_lessen_40 : decode cX1_lessen 40 = .ok (.ifCond .le 24, 3) := dk_158 0 24 (dk_at dksX1_lessen_1 16 rfl rfl)
theorem dX1_lessen_43 : decode cX1_lessen 43 = .ok (.iconst 0, 1) := dk_3 (dk_at dksX1_lessen_1 19 rfl rfl)
theorem dX1_lessen_44 : decode cX1_lessen 44 = .ok (.istore_n 3, 1) := dk_62 (dk_at dksX1_lessen_1 20 rfl rfl)
theorem dX1_lessen_45 : decode cX1_lessen 45 = .ok (.iload_n 3, 1) := dk_29 (dk_at dksX1_lessen_1 21 rfl rfl)
theorem dX1_lessen_46 : decode cX1_lessen 46 = .ok (.aload_n 0, 1) := dk_42 (dk_at dksX1_lessen_1 22 rfl rfl)
theorem dX1_lessen_47 : decode cX1_lessen 47 = .ok (.arraylength, 1) := dk_190 (dk_at dksX1_lessen_1 23 rfl rfl)
theorem dX1_lessen_48 : decode cX1_lessen 48 = .ok (.if_icmp .ge 16, 3) := dk_162 0 16 (dk_at dksX1_lessen_2 0 rfl rfl)
theorem dX1_lessen_51 : decode cX1_lessen 51 = .ok (.aload_n 0, 1) := dk_42 (dk_at dksX1_lessen_2 3 rfl rfl)
theorem dX1_lessen_52 : decode cX1_lessen 52 = .ok (.iload_n 3, 1) := dk_29 (dk_at dksX1_lessen_2 4 rfl rfl)
theorem dX1_lessen_53 : decode cX1_lessen 53 = .ok (.dup2, 1) := dk_92 (dk_at dksX1_lessen_2 5 rfl rfl)
theorem dX1_lessen_54 : decode cX1_lessen 54 = .ok (.laload, 1) := dk_47 (dk_at dksX1_lessen_2 6 rfl rfl)
theorem dX1_lessen_55 : decode cX1_lessen 55 = .ok (.lload_n 1, 1) := dk_31 (dk_at dksX1_lessen_2 7 rfl rfl)
theorem dX1_lessen_56 : decode cX1_lessen 56 = .ok (.ldiv, 1) := dk_109 (dk_at dksX1_lessen_2 8 rfl rfl)
theorem dX1_lessen_57 : decode cX1_lessen 57 = .ok (.lastore, 1) := dk_80 (dk_at dksX1_lessen_2 9 rfl rfl)
theorem dX1_lessen_58 : decode cX1_lessen 58 = .ok (.iinc 3 1, 3) := dk_132 3 1 (dk_at dksX1_lessen_2 10 rfl rfl)
theorem dX1_lessen_61 : decode cX1_lessen 61 = .ok (.goto (-16), 3) := dk_167 255 240 (dk_at dksX1_lessen_2 13 rfl rfl)
theorem dX1_lessen_64 : decode cX1_lessen 64 = .ok (.return_, 1) := dk_177 (dk_at dksX1_lessen_2 16 rfl rfl)
abbrev cX1_gcd : ByteArray := prog_1_method_3_code
def yX1_gcd : MethodName := ⟨RX1, "gcd", "(JJ)J"⟩
def dkwX1_gcd_1 : List UInt8 := [55, 8, 22, 6, 55, 4, 22, 8, 55, 6, 167, 255, 234, 22, 4, 173]
abbrev dktX1_gcd_1 : List UInt8 := dkwX1_gcd_1 ++ []
def dkwX1_gcd_0 : List UInt8 := [30, 184, 0, 22, 55, 4, 32, 184, 0, 22, 55, 6, 22, 6, 9, 148, 153, 0, 21, 22, 4, 22, 6, 113]
abbrev dktX1_gcd_0 : List UInt8 := dkwX1_gcd_0 ++ dktX1_gcd_1
theorem dksX1_gcd_0 : cX1_gcd.data.toList.drop 0 = dktX1_gcd_0 := by decide +kernel
theorem dksX1_gcd_1 : cX1_gcd.data.toList.drop 24 = dktX1_gcd_1 := dk_seg dksX1_gcd_0 24 rfl rfl
theorem dX1_gcd_0 : decode cX1_gcd 0 = .ok (.lload_n 0, 1) := dk_30 (dk_at dksX1_gcd_0 0 rfl rfl)
theorem dX1_gcd_1 : decode cX1_gcd 1 = .ok (.invokestatic 22, 3) := dk_184 0 22 (dk_at dksX1_gcd_0 1 rfl rfl)
theorem dX1_gcd_4 : decode cX1_gcd 4 = .ok (.lstore 4, 2) := dk_55 4 (dk_at dksX1_gcd_0 4 rfl rfl)
theorem dX1_gcd_6 : decode cX1_gcd 6 = .ok (.lload_n 2, 1) := dk_32 (dk_at dksX1_gcd_0 6 rfl rfl)
theorem dX1_gcd_7 : decode cX1_gcd 7 = .ok (.invokestatic 22, 3) := dk_184 0 22 (dk_at dksX1_gcd_0 7 rfl rfl)
theorem dX1_gcd_10 : decode cX1_gcd 10 = .ok (.lstore 6, 2) := dk_55 6 (dk_at dksX1_gcd_0 10 rfl rfl)
theorem dX1_gcd_12 : decode cX1_gcd 12 = .ok (.lload 6, 2) := dk_22 6 (dk_at dksX1_gcd_0 12 rfl rfl)
theorem dX1_gcd_14 : decode cX1_gcd 14 = .ok (.lconst 0, 1) := dk_9 (dk_at dksX1_gcd_0 14 rfl rfl)
theorem dX1_gcd_15 : decode cX1_gcd 15 = .ok (.lcmp, 1) := dk_148 (dk_at dksX1_gcd_0 15 rfl rfl)
theorem dX1_gcd_16 : decode cX1_gcd 16 = .ok (.ifCond .eq 21, 3) := dk_153 0 21 (dk_at dksX1_gcd_0 16 rfl rfl)
theorem dX1_gcd_19 : decode cX1_gcd 19 = .ok (.lload 4, 2) := dk_22 4 (dk_at dksX1_gcd_0 19 rfl rfl)
theorem dX1_gcd_21 : decode cX1_gcd 21 = .ok (.lload 6, 2) := dk_22 6 (dk_at dksX1_gcd_0 21 rfl rfl)
theorem dX1_gcd_23 : decode cX1_gcd 23 = .ok (.lrem, 1) := dk_113 (dk_at dksX1_gcd_0 23 rfl rfl)
theorem dX1_gcd_24 : decode cX1_gcd 24 = .ok (.lstore 8, 2) := dk_55 8 (dk_at dksX1_gcd_1 0 rfl rfl)
theorem dX1_gcd_26 : decode cX1_gcd 26 = .ok (.lload 6, 2) := dk_22 6 (dk_at dksX1_gcd_1 2 rfl rfl)
theorem dX1_gcd_28 : decode cX1_gcd 28 = .ok (.lstore 4, 2) := dk_55 4 (dk_at dksX1_gcd_1 4 rfl rfl)
theorem dX1_gcd_30 : decode cX1_gcd 30 = .ok (.lload 8, 2) := dk_22 8 (dk_at dksX1_gcd_1 6 rfl rfl)
theorem dX1_gcd_32 : decode cX1_gcd 32 = .ok (.lstore 6, 2) := dk_55 6 (dk_at dksX1_gcd_1 8 rfl rfl)
theorem dX1_gcd_34 : decode cX1_gcd 34 = .ok (.goto (-22), 3) := dk_167 255 234 (dk_at dksX1_gcd_1 10 rfl rfl)
theorem dX1_gcd_37 : decode cX1_gcd 37 = .ok (.lload 4, 2) := dk_22 4 (dk_at dksX1_gcd_1 13 rfl rfl)
theorem dX1_gcd_39 : decode cX1_gcd 39 = .ok (.lreturn, 1) := dk_173 (dk_at dksX1_gcd_1 15 rfl rfl)
abbrev cX1_knock : ByteArray := prog_1_method_74_code
def yX1_knock : MethodName := ⟨RX1, "knock", "()I"⟩
def dkwX1_knock_0 : List UInt8 := [42, 89, 180, 1, 96, 4, 96, 181, 1, 96, 42, 180, 1, 96, 172]
abbrev dktX1_knock_0 : List UInt8 := dkwX1_knock_0 ++ []
theorem dksX1_knock_0 : cX1_knock.data.toList.drop 0 = dktX1_knock_0 := by decide +kernel
theorem dX1_knock_0 : decode cX1_knock 0 = .ok (.aload_n 0, 1) := dk_42 (dk_at dksX1_knock_0 0 rfl rfl)
theorem dX1_knock_1 : decode cX1_knock 1 = .ok (.dup, 1) := dk_89 (dk_at dksX1_knock_0 1 rfl rfl)
theorem dX1_knock_2 : decode cX1_knock 2 = .ok (.getfield 352, 3) := dk_180 1 96 (dk_at dksX1_knock_0 2 rfl rfl)
theorem dX1_knock_5 : decode cX1_knock 5 = .ok (.iconst 1, 1) := dk_4 (dk_at dksX1_knock_0 5 rfl rfl)
theorem dX1_knock_6 : decode cX1_knock 6 = .ok (.iadd, 1) := dk_96 (dk_at dksX1_knock_0 6 rfl rfl)
theorem dX1_knock_7 : decode cX1_knock 7 = .ok (.putfield 352, 3) := dk_181 1 96 (dk_at dksX1_knock_0 7 rfl rfl)
theorem dX1_knock_10 : decode cX1_knock 10 = .ok (.aload_n 0, 1) := dk_42 (dk_at dksX1_knock_0 10 rfl rfl)
theorem dX1_knock_11 : decode cX1_knock 11 = .ok (.getfield 352, 3) := dk_180 1 96 (dk_at dksX1_knock_0 11 rfl rfl)
theorem dX1_knock_14 : decode cX1_knock 14 = .ok (.ireturn, 1) := dk_172 (dk_at dksX1_knock_0 14 rfl rfl)
abbrev cX1_isSound : ByteArray := prog_1_method_78_code
def yX1_isSound : MethodName := ⟨RX1, "isSound", "()Z"⟩
def dkwX1_isSound_3 : List UInt8 := [43, 182, 1, 112, 126, 62, 29, 172]
abbrev dktX1_isSound_3 : List UInt8 := dkwX1_isSound_3 ++ []
def dkwX1_isSound_2 : List UInt8 := [180, 1, 79, 154, 0, 12, 29, 42, 43, 44, 182, 1, 108, 126, 62, 43, 180, 0, 247, 154, 0, 11, 29, 42]
abbrev dktX1_isSound_2 : List UInt8 := dkwX1_isSound_2 ++ dktX1_isSound_3
def dkwX1_isSound_1 : List UInt8 := [182, 0, 207, 182, 1, 105, 153, 0, 7, 4, 167, 0, 4, 3, 62, 43, 180, 0, 247, 154, 0, 19, 44]
abbrev dktX1_isSound_1 : List UInt8 := dkwX1_isSound_1 ++ dktX1_isSound_2
def dkwX1_isSound_0 : List UInt8 := [42, 182, 0, 243, 76, 42, 182, 1, 75, 77, 42, 182, 0, 207, 184, 0, 219, 153, 0, 18, 42, 42]
abbrev dktX1_isSound_0 : List UInt8 := dkwX1_isSound_0 ++ dktX1_isSound_1
theorem dksX1_isSound_0 : cX1_isSound.data.toList.drop 0 = dktX1_isSound_0 := by decide +kernel
theorem dksX1_isSound_1 : cX1_isSound.data.toList.drop 22 = dktX1_isSound_1 := dk_seg dksX1_isSound_0 22 rfl rfl
theorem dksX1_isSound_2 : cX1_isSound.data.toList.drop 45 = dktX1_isSound_2 := dk_seg dksX1_isSound_1 23 rfl rfl
theorem dksX1_isSound_3 : cX1_isSound.data.toList.drop 69 = dktX1_isSound_3 := dk_seg dksX1_isSound_2 24 rfl rfl
theorem dX1_isSound_0 : decode cX1_isSound 0 = .ok (.aload_n 0, 1) := dk_42 (dk_at dksX1_isSound_0 0 rfl rfl)
theorem dX1_isSound_1 : decode cX1_isSound 1 = .ok (.invokevirtual 243, 3) := dk_182 0 243 (dk_at dksX1_isSound_0 1 rfl rfl)
theorem dX1_isSound_4 : decode cX1_isSound 4 = .ok (.astore_n 1, 1) := dk_76 (dk_at dksX1_isSound_0 4 rfl rfl)
theorem dX1_isSound_5 : decode cX1_isSound 5 = .ok (.aload_n 0, 1) := dk_42 (dk_at dksX1_isSound_0 5 rfl rfl)
theorem dX1_isSound_6 : decode cX1_isSound 6 = .ok (.invokevirtual 331, 3) := dk_182 1 75 (dk_at dksX1_isSound_0 6 rfl rfl)
theorem dX1_isSound_9 : decode cX1_isSound 9 = .ok (.astore_n 2, 1) := dk_77 (dk_at dksX1_isSound_0 9 rfl rfl)
theorem dX1_isSound_10 : decode cX1_isSound 10 = .ok (.aload_n 0, 1) := dk_42 (dk_at dksX1_isSound_0 10 rfl rfl)
theorem dX1_isSound_11 : decode cX1_isSound 11 = .ok (.invokevirtual 207, 3) := dk_182 0 207 (dk_at dksX1_isSound_0 11 rfl rfl)
theorem dX1_isSound_14 : decode cX1_isSound 14 = .ok (.invokestatic 219, 3) := dk_184 0 219 (dk_at dksX1_isSound_0 14 rfl rfl)
theorem dX1_isSound_17 : decode cX1_isSound 17 = .ok (.ifCond .eq 18, 3) := dk_153 0 18 (dk_at dksX1_isSound_0 17 rfl rfl)
theorem dX1_isSound_20 : decode cX1_isSound 20 = .ok (.aload_n 0, 1) := dk_42 (dk_at dksX1_isSound_0 20 rfl rfl)
theorem dX1_isSound_21 : decode cX1_isSound 21 = .ok (.aload_n 0, 1) := dk_42 (dk_at dksX1_isSound_0 21 rfl rfl)
theorem dX1_isSound_22 : decode cX1_isSound 22 = .ok (.invokevirtual 207, 3) := dk_182 0 207 (dk_at dksX1_isSound_1 0 rfl rfl)
theorem dX1_isSound_25 : decode cX1_isSound 25 = .ok (.invokevirtual 361, 3) := dk_182 1 105 (dk_at dksX1_isSound_1 3 rfl rfl)
theorem dX1_isSound_28 : decode cX1_isSound 28 = .ok (.ifCond .eq 7, 3) := dk_153 0 7 (dk_at dksX1_isSound_1 6 rfl rfl)
theorem dX1_isSound_31 : decode cX1_isSound 31 = .ok (.iconst 1, 1) := dk_4 (dk_at dksX1_isSound_1 9 rfl rfl)
theorem dX1_isSound_32 : decode cX1_isSound 32 = .ok (.goto 4, 3) := dk_167 0 4 (dk_at dksX1_isSound_1 10 rfl rfl)
theorem dX1_isSound_35 : decode cX1_isSound 35 = .ok (.iconst 0, 1) := dk_3 (dk_at dksX1_isSound_1 13 rfl rfl)
theorem dX1_isSound_36 : decode cX1_isSound 36 = .ok (.istore_n 3, 1) := dk_62 (dk_at dksX1_isSound_1 14 rfl rfl)
theorem dX1_isSound_37 : decode cX1_isSound 37 = .ok (.aload_n 1, 1) := dk_43 (dk_at dksX1_isSound_1 15 rfl rfl)
theorem dX1_isSound_38 : decode cX1_isSound 38 = .ok (.getfield 247, 3) := dk_180 0 247 (dk_at dksX1_isSound_1 16 rfl rfl)
theorem dX1_isSound_41 : decode cX1_isSound 41 = .ok (.ifCond .ne 19, 3) := dk_154 0 19 (dk_at dksX1_isSound_1 19 rfl rfl)
theorem dX1_isSound_44 : decode cX1_isSound 44 = .ok (.aload_n 2, 1) := dk_44 (dk_at dksX1_isSound_1 22 rfl rfl)
theorem dX1_isSound_45 : decode cX1_isSound 45 = .ok (.getfield 335, 3) := dk_180 1 79 (dk_at dksX1_isSound_2 0 rfl rfl)
theorem dX1_isSound_48 : decode cX1_isSound 48 = .ok (.ifCond .ne 12, 3) := dk_154 0 12 (dk_at dksX1_isSound_2 3 rfl rfl)
theorem dX1_isSound_51 : decode cX1_isSound 51 = .ok (.iload_n 3, 1) := dk_29 (dk_at dksX1_isSound_2 6 rfl rfl)
theorem dX1_isSound_52 : decode cX1_isSound 52 = .ok (.aload_n 0, 1) := dk_42 (dk_at dksX1_isSound_2 7 rfl rfl)
theorem dX1_isSound_53 : decode cX1_isSound 53 = .ok (.aload_n 1, 1) := dk_43 (dk_at dksX1_isSound_2 8 rfl rfl)
theorem dX1_isSound_54 : decode cX1_isSound 54 = .ok (.aload_n 2, 1) := dk_44 (dk_at dksX1_isSound_2 9 rfl rfl)
theorem dX1_isSound_55 : decode cX1_isSound 55 = .ok (.invokevirtual 364, 3) := dk_182 1 108 (dk_at dksX1_isSound_2 10 rfl rfl)
theorem dX1_isSound_58 : decode cX1_isSound 58 = .ok (.iand, 1) := dk_126 (dk_at dksX1_isSound_2 13 rfl rfl)
theorem dX1_isSound_59 : decode cX1_isSound 59 = .ok (.istore_n 3, 1) := dk_62 (dk_at dksX1_isSound_2 14 rfl rfl)
theorem dX1_isSound_60 : decode cX1_isSound 60 = .ok (.aload_n 1, 1) := dk_43 (dk_at dksX1_isSound_2 15 rfl rfl)
theorem dX1_isSound_61 : decode cX1_isSound 61 = .ok (.getfield 247, 3) := dk_180 0 247 (dk_at dksX1_isSound_2 16 rfl rfl)
theorem dX1_isSound_64 : decode cX1_isSound 64 = .ok (.ifCond .ne 11, 3) := dk_154 0 11 (dk_at dksX1_isSound_2 19 rfl rfl)
theorem dX1_isSound_67 : decode cX1_isSound 67 = .ok (.iload_n 3, 1) := dk_29 (dk_at dksX1_isSound_2 22 rfl rfl)
theorem dX1_isSound_68 : decode cX1_isSound 68 = .ok (.aload_n 0, 1) := dk_42 (dk_at dksX1_isSound_2 23 rfl rfl)
theorem dX1_isSound_69 : decode cX1_isSound 69 = .ok (.aload_n 1, 1) := dk_43 (dk_at dksX1_isSound_3 0 rfl rfl)
theorem dX1_isSound_70 : decode cX1_isSound 70 = .ok (.invokevirtual 368, 3) := dk_182 1 112 (dk_at dksX1_isSound_3 1 rfl rfl)
theorem dX1_isSound_73 : decode cX1_isSound 73 = .ok (.iand, 1) := dk_126 (dk_at dksX1_isSound_3 4 rfl rfl)
theorem dX1_isSound_74 : decode cX1_isSound 74 = .ok (.istore_n 3, 1) := dk_62 (dk_at dksX1_isSound_3 5 rfl rfl)
theorem dX1_isSound_75 : decode cX1_isSound 75 = .ok (.iload_n 3, 1) := dk_29 (dk_at dksX1_isSound_3 6 rfl rfl)
theorem dX1_isSound_76 : decode cX1_isSound 76 = .ok (.ireturn, 1) := dk_172 (dk_at dksX1_isSound_3 7 rfl rfl)
abbrev cX1_isLet : ByteArray := prog_1_method_24_code
def yX1_isLet : MethodName := ⟨RX1, "isLet", "([I)Z"⟩
def dkwX1_isLet_1 : List UInt8 := [3, 172, 132, 3, 1, 167, 255, 234, 4, 172]
abbrev dktX1_isLet_1 : List UInt8 := dkwX1_isLet_1 ++ []
def dkwX1_isLet_0 : List UInt8 := [42, 76, 43, 190, 61, 3, 62, 29, 28, 162, 0, 23, 43, 29, 46, 54, 4, 21, 4, 16, 99, 164, 0, 5]
abbrev dktX1_isLet_0 : List UInt8 := dkwX1_isLet_0 ++ dktX1_isLet_1
theorem dksX1_isLet_0 : cX1_isLet.data.toList.drop 0 = dktX1_isLet_0 := by decide +kernel
theorem dksX1_isLet_1 : cX1_isLet.data.toList.drop 24 = dktX1_isLet_1 := dk_seg dksX1_isLet_0 24 rfl rfl
theorem dX1_isLet_0 : decode cX1_isLet 0 = .ok (.aload_n 0, 1) := dk_42 (dk_at dksX1_isLet_0 0 rfl rfl)
theorem dX1_isLet_1 : decode cX1_isLet 1 = .ok (.astore_n 1, 1) := dk_76 (dk_at dksX1_isLet_0 1 rfl rfl)
theorem dX1_isLet_2 : decode cX1_isLet 2 = .ok (.aload_n 1, 1) := dk_43 (dk_at dksX1_isLet_0 2 rfl rfl)
theorem dX1_isLet_3 : decode cX1_isLet 3 = .ok (.arraylength, 1) := dk_190 (dk_at dksX1_isLet_0 3 rfl rfl)
theorem dX1_isLet_4 : decode cX1_isLet 4 = .ok (.istore_n 2, 1) := dk_61 (dk_at dksX1_isLet_0 4 rfl rfl)
theorem dX1_isLet_5 : decode cX1_isLet 5 = .ok (.iconst 0, 1) := dk_3 (dk_at dksX1_isLet_0 5 rfl rfl)
theorem dX1_isLet_6 : decode cX1_isLet 6 = .ok (.istore_n 3, 1) := dk_62 (dk_at dksX1_isLet_0 6 rfl rfl)
theorem dX1_isLet_7 : decode cX1_isLet 7 = .ok (.iload_n 3, 1) := dk_29 (dk_at dksX1_isLet_0 7 rfl rfl)
theorem dX1_isLet_8 : decode cX1_isLet 8 = .ok (.iload_n 2, 1) := dk_28 (dk_at dksX1_isLet_0 8 rfl rfl)
theorem dX1_isLet_9 : decode cX1_isLet 9 = .ok (.if_icmp .ge 23, 3) := dk_162 0 23 (dk_at dksX1_isLet_0 9 rfl rfl)
theorem dX1_isLet_12 : decode cX1_isLet 12 = .ok (.aload_n 1, 1) := dk_43 (dk_at dksX1_isLet_0 12 rfl rfl)
theorem dX1_isLet_13 : decode cX1_isLet 13 = .ok (.iload_n 3, 1) := dk_29 (dk_at dksX1_isLet_0 13 rfl rfl)
theorem dX1_isLet_14 : decode cX1_isLet 14 = .ok (.iaload, 1) := dk_46 (dk_at dksX1_isLet_0 14 rfl rfl)
theorem dX1_isLet_15 : decode cX1_isLet 15 = .ok (.istore 4, 2) := dk_54 4 (dk_at dksX1_isLet_0 15 rfl rfl)
theorem dX1_isLet_17 : decode cX1_isLet 17 = .ok (.iload 4, 2) := dk_21 4 (dk_at dksX1_isLet_0 17 rfl rfl)
theorem dX1_isLet_19 : decode cX1_isLet 19 = .ok (.bipush 99, 2) := dk_16 99 (dk_at dksX1_isLet_0 19 rfl rfl)
theorem dX1_isLet_21 : decode cX1_isLet 21 = .ok (.if_icmp .le 5, 3) := dk_164 0 5 (dk_at dksX1_isLet_0 21 rfl rfl)
theorem dX1_isLet_24 : decode cX1_isLet 24 = .ok (.iconst 0, 1) := dk_3 (dk_at dksX1_isLet_1 0 rfl rfl)
theorem dX1_isLet_25 : decode cX1_isLet 25 = .ok (.ireturn, 1) := dk_172 (dk_at dksX1_isLet_1 1 rfl rfl)
theorem dX1_isLet_26 : decode cX1_isLet 26 = .ok (.iinc 3 1, 3) := dk_132 3 1 (dk_at dksX1_isLet_1 2 rfl rfl)
theorem dX1_isLet_29 : decode cX1_isLet 29 = .ok (.goto (-22), 3) := dk_167 255 234 (dk_at dksX1_isLet_1 5 rfl rfl)
theorem dX1_isLet_32 : decode cX1_isLet 32 = .ok (.iconst 1, 1) := dk_4 (dk_at dksX1_isLet_1 8 rfl rfl)
theorem dX1_isLet_33 : decode cX1_isLet 33 = .ok (.ireturn, 1) := dk_172 (dk_at dksX1_isLet_1 9 rfl rfl)
abbrev cX1_areWeighed : ByteArray := prog_1_method_75_code
def yX1_areWeighed : MethodName := ⟨RX1, "areWeighed", "([I)Z"⟩
def dkwX1_areWeighed_4 : List UInt8 := [3, 172, 167, 255, 205, 167, 255, 174, 4, 172]
abbrev dktX1_areWeighed_4 : List UInt8 := dkwX1_areWeighed_4 ++ []
def dkwX1_areWeighed_3 : List UInt8 := [182, 0, 211, 153, 0, 23, 45, 25, 5, 43, 182, 0, 215, 184, 1, 92, 45, 43, 184, 1, 92, 159, 0, 5]
abbrev dktX1_areWeighed_3 : List UInt8 := dkwX1_areWeighed_3 ++ dktX1_areWeighed_4
def dkwX1_areWeighed_2 : List UInt8 := [185, 0, 45, 1, 0, 153, 0, 47, 25, 4, 185, 0, 51, 1, 0, 192, 0, 55, 58, 5, 25, 5, 43]
abbrev dktX1_areWeighed_2 : List UInt8 := dkwX1_areWeighed_2 ++ dktX1_areWeighed_3
def dkwX1_areWeighed_1 : List UInt8 := [44, 185, 0, 51, 1, 0, 192, 0, 108, 78, 42, 180, 0, 97, 182, 0, 41, 58, 4, 25, 4]
abbrev dktX1_areWeighed_1 : List UInt8 := dkwX1_areWeighed_1 ++ dktX1_areWeighed_2
def dkwX1_areWeighed_0 : List UInt8 := [42, 180, 0, 97, 42, 180, 0, 93, 184, 1, 88, 182, 0, 41, 77, 44, 185, 0, 45, 1, 0, 153, 0, 79]
abbrev dktX1_areWeighed_0 : List UInt8 := dkwX1_areWeighed_0 ++ dktX1_areWeighed_1
theorem dksX1_areWeighed_0 : cX1_areWeighed.data.toList.drop 0 = dktX1_areWeighed_0 := by decide +kernel
theorem dksX1_areWeighed_1 : cX1_areWeighed.data.toList.drop 24 = dktX1_areWeighed_1 := dk_seg dksX1_areWeighed_0 24 rfl rfl
theorem dksX1_areWeighed_2 : cX1_areWeighed.data.toList.drop 45 = dktX1_areWeighed_2 := dk_seg dksX1_areWeighed_1 21 rfl rfl
theorem dksX1_areWeighed_3 : cX1_areWeighed.data.toList.drop 68 = dktX1_areWeighed_3 := dk_seg dksX1_areWeighed_2 23 rfl rfl
theorem dksX1_areWeighed_4 : cX1_areWeighed.data.toList.drop 92 = dktX1_areWeighed_4 := dk_seg dksX1_areWeighed_3 24 rfl rfl
theorem dX1_areWeighed_0 : decode cX1_areWeighed 0 = .ok (.aload_n 0, 1) := dk_42 (dk_at dksX1_areWeighed_0 0 rfl rfl)
theorem dX1_areWeighed_1 : decode cX1_areWeighed 1 = .ok (.getfield 97, 3) := dk_180 0 97 (dk_at dksX1_areWeighed_0 1 rfl rfl)
theorem dX1_areWeighed_4 : decode cX1_areWeighed 4 = .ok (.aload_n 0, 1) := dk_42 (dk_at dksX1_areWeighed_0 4 rfl rfl)
theorem dX1_areWeighed_5 : decode cX1_areWeighed 5 = .ok (.getfield 93, 3) := dk_180 0 93 (dk_at dksX1_areWeighed_0 5 rfl rfl)
theorem dX1_areWeighed_8 : decode cX1_areWeighed 8 = .ok (.invokestatic 344, 3) := dk_184 1 88 (dk_at dksX1_areWeighed_0 8 rfl rfl)
theorem dX1_areWeighed_11 : decode cX1_areWeighed 11 = .ok (.invokevirtual 41, 3) := dk_182 0 41 (dk_at dksX1_areWeighed_0 11 rfl rfl)
theorem dX1_areWeighed_14 : decode cX1_areWeighed 14 = .ok (.astore_n 2, 1) := dk_77 (dk_at dksX1_areWeighed_0 14 rfl rfl)
theorem dX1_areWeighed_15 : decode cX1_areWeighed 15 = .ok (.aload_n 2, 1) := dk_44 (dk_at dksX1_areWeighed_0 15 rfl rfl)
theorem dX1_areWeighed_16 : decode cX1_areWeighed 16 = .ok (.invokeinterface 45 1, 5) := by decide +kernel
theorem dX1_areWeighed_21 : decode cX1_areWeighed 21 = .ok (.ifCond .eq 79, 3) := dk_153 0 79 (dk_at dksX1_areWeighed_0 21 rfl rfl)
theorem dX1_areWeighed_24 : decode cX1_areWeighed 24 = .ok (.aload_n 2, 1) := dk_44 (dk_at dksX1_areWeighed_1 0 rfl rfl)
theorem dX1_areWeighed_25 : decode cX1_areWeighed 25 = .ok (.invokeinterface 51 1, 5) := by decide +kernel
theorem dX1_areWeighed_30 : decode cX1_areWeighed 30 = .ok (.checkcast 108, 3) := dk_192 0 108 (dk_at dksX1_areWeighed_1 6 rfl rfl)
theorem dX1_areWeighed_33 : decode cX1_areWeighed 33 = .ok (.astore_n 3, 1) := dk_78 (dk_at dksX1_areWeighed_1 9 rfl rfl)
theorem dX1_areWeighed_34 : decode cX1_areWeighed 34 = .ok (.aload_n 0, 1) := dk_42 (dk_at dksX1_areWeighed_1 10 rfl rfl)
theorem dX1_areWeighed_35 : decode cX1_areWeighed 35 = .ok (.getfield 97, 3) := dk_180 0 97 (dk_at dksX1_areWeighed_1 11 rfl rfl)
theorem dX1_areWeighed_38 : decode cX1_areWeighed 38 = .ok (.invokevirtual 41, 3) := dk_182 0 41 (dk_at dksX1_areWeighed_1 14 rfl rfl)
theorem dX1_areWeighed_41 : decode cX1_areWeighed 41 = .ok (.astore 4, 2) := dk_58 4 (dk_at dksX1_areWeighed_1 17 rfl rfl)
theorem dX1_areWeighed_43 : decode cX1_areWeighed 43 = .ok (.aload 4, 2) := dk_25 4 (dk_at dksX1_areWeighed_1 19 rfl rfl)
theorem dX1_areWeighed_45 : decode cX1_areWeighed 45 = .ok (.invokeinterface 45 1, 5) := by decide +kernel
theorem dX1_areWeighed_50 : decode cX1_areWeighed 50 = .ok (.ifCond .eq 47, 3) := dk_153 0 47 (dk_at dksX1_areWeighed_2 5 rfl rfl)
theorem dX1_areWeighed_53 : decode cX1_areWeighed 53 = .ok (.aload 4, 2) := dk_25 4 (dk_at dksX1_areWeighed_2 8 rfl rfl)
theorem dX1_areWeighed_55 : decode cX1_areWeighed 55 = .ok (.invokeinterface 51 1, 5) := by decide +kernel
theorem dX1_areWeighed_60 : decode cX1_areWeighed 60 = .ok (.checkcast 55, 3) := dk_192 0 55 (dk_at dksX1_areWeighed_2 15 rfl rfl)
theorem dX1_areWeighed_63 : decode cX1_areWeighed 63 = .ok (.astore 5, 2) := dk_58 5 (dk_at dksX1_areWeighed_2 18 rfl rfl)
theorem dX1_areWeighed_65 : decode cX1_areWeighed 65 = .ok (.aload 5, 2) := dk_25 5 (dk_at dksX1_areWeighed_2 20 rfl rfl)
theorem dX1_areWeighed_67 : decode cX1_areWeighed 67 = .ok (.aload_n 1, 1) := dk_43 (dk_at dksX1_areWeighed_2 22 rfl rfl)
theorem dX1_areWeighed_68 : decode cX1_areWeighed 68 = .ok (.invokevirtual 211, 3) := dk_182 0 211 (dk_at dksX1_areWeighed_3 0 rfl rfl)
theorem dX1_areWeighed_71 : decode cX1_areWeighed 71 = .ok (.ifCond .eq 23, 3) := dk_153 0 23 (dk_at dksX1_areWeighed_3 3 rfl rfl)
theorem dX1_areWeighed_74 : decode cX1_areWeighed 74 = .ok (.aload_n 3, 1) := dk_45 (dk_at dksX1_areWeighed_3 6 rfl rfl)
theorem dX1_areWeighed_75 : decode cX1_areWeighed 75 = .ok (.aload 5, 2) := dk_25 5 (dk_at dksX1_areWeighed_3 7 rfl rfl)
theorem dX1_areWeighed_77 : decode cX1_areWeighed 77 = .ok (.aload_n 1, 1) := dk_43 (dk_at dksX1_areWeighed_3 9 rfl rfl)
theorem dX1_areWeighed_78 : decode cX1_areWeighed 78 = .ok (.invokevirtual 215, 3) := dk_182 0 215 (dk_at dksX1_areWeighed_3 10 rfl rfl)
theorem dX1_areWeighed_81 : decode cX1_areWeighed 81 = .ok (.invokestatic 348, 3) := dk_184 1 92 (dk_at dksX1_areWeighed_3 13 rfl rfl)
theorem dX1_areWeighed_84 : decode cX1_areWeighed 84 = .ok (.aload_n 3, 1) := dk_45 (dk_at dksX1_areWeighed_3 16 rfl rfl)
theorem dX1_areWeighed_85 : decode cX1_areWeighed 85 = .ok (.aload_n 1, 1) := dk_43 (dk_at dksX1_areWeighed_3 17 rfl rfl)
theorem dX1_areWeighed_86 : decode cX1_areWeighed 86 = .ok (.invokestatic 348, 3) := dk_184 1 92 (dk_at dksX1_areWeighed_3 18 rfl rfl)
theorem dX1_areWeighed_89 : decode cX1_areWeighed 89 = .ok (.if_icmp .eq 5, 3) := dk_159 0 5 (dk_at dksX1_areWeighed_3 21 rfl rfl)
theorem dX1_areWeighed_92 : decode cX1_areWeighed 92 = .ok (.iconst 0, 1) := dk_3 (dk_at dksX1_areWeighed_4 0 rfl rfl)
theorem dX1_areWeighed_93 : decode cX1_areWeighed 93 = .ok (.ireturn, 1) := dk_172 (dk_at dksX1_areWeighed_4 1 rfl rfl)
theorem dX1_areWeighed_94 : decode cX1_areWeighed 94 = .ok (.goto (-51), 3) := dk_167 255 205 (dk_at dksX1_areWeighed_4 2 rfl rfl)
theorem dX1_areWeighed_97 : decode cX1_areWeighed 97 = .ok (.goto (-82), 3) := dk_167 255 174 (dk_at dksX1_areWeighed_4 5 rfl rfl)
theorem dX1_areWeighed_100 : decode cX1_areWeighed 100 = .ok (.iconst 1, 1) := dk_4 (dk_at dksX1_areWeighed_4 8 rfl rfl)
theorem dX1_areWeighed_101 : decode cX1_areWeighed 101 = .ok (.ireturn, 1) := dk_172 (dk_at dksX1_areWeighed_4 9 rfl rfl)
abbrev cX1_weigh : ByteArray := prog_1_method_8_code
def yX1_weigh : MethodName := ⟨RX1, "weigh", "([I[I)I"⟩
def dkwX1_weigh_1 : List UInt8 := [167, 255, 237, 28, 172]
abbrev dktX1_weigh_1 : List UInt8 := dkwX1_weigh_1 ++ []
def dkwX1_weigh_0 : List UInt8 := [3, 61, 3, 62, 29, 43, 190, 162, 0, 19, 28, 42, 29, 46, 43, 29, 46, 104, 96, 61, 132, 3, 1]
abbrev dktX1_weigh_0 : List UInt8 := dkwX1_weigh_0 ++ dktX1_weigh_1
theorem dksX1_weigh_0 : cX1_weigh.data.toList.drop 0 = dktX1_weigh_0 := by decide +kernel
theorem dksX1_weigh_1 : cX1_weigh.data.toList.drop 23 = dktX1_weigh_1 := dk_seg dksX1_weigh_0 23 rfl rfl
theorem dX1_weigh_0 : decode cX1_weigh 0 = .ok (.iconst 0, 1) := dk_3 (dk_at dksX1_weigh_0 0 rfl rfl)
theorem dX1_weigh_1 : decode cX1_weigh 1 = .ok (.istore_n 2, 1) := dk_61 (dk_at dksX1_weigh_0 1 rfl rfl)
theorem dX1_weigh_2 : decode cX1_weigh 2 = .ok (.iconst 0, 1) := dk_3 (dk_at dksX1_weigh_0 2 rfl rfl)
theorem dX1_weigh_3 : decode cX1_weigh 3 = .ok (.istore_n 3, 1) := dk_62 (dk_at dksX1_weigh_0 3 rfl rfl)
theorem dX1_weigh_4 : decode cX1_weigh 4 = .ok (.iload_n 3, 1) := dk_29 (dk_at dksX1_weigh_0 4 rfl rfl)
theorem dX1_weigh_5 : decode cX1_weigh 5 = .ok (.aload_n 1, 1) := dk_43 (dk_at dksX1_weigh_0 5 rfl rfl)
theorem dX1_weigh_6 : decode cX1_weigh 6 = .ok (.arraylength, 1) := dk_190 (dk_at dksX1_weigh_0 6 rfl rfl)
theorem dX1_weigh_7 : decode cX1_weigh 7 = .ok (.if_icmp .ge 19, 3) := dk_162 0 19 (dk_at dksX1_weigh_0 7 rfl rfl)
theorem dX1_weigh_10 : decode cX1_weigh 10 = .ok (.iload_n 2, 1) := dk_28 (dk_at dksX1_weigh_0 10 rfl rfl)
theorem dX1_weigh_11 : decode cX1_weigh 11 = .ok (.aload_n 0, 1) := dk_42 (dk_at dksX1_weigh_0 11 rfl rfl)
theorem dX1_weigh_12 : decode cX1_weigh 12 = .ok (.iload_n 3, 1) := dk_29 (dk_at dksX1_weigh_0 12 rfl rfl)
theorem dX1_weigh_13 : decode cX1_weigh 13 = .ok (.iaload, 1) := dk_46 (dk_at dksX1_weigh_0 13 rfl rfl)
theorem dX1_weigh_14 : decode cX1_weigh 14 = .ok (.aload_n 1, 1) := dk_43 (dk_at dksX1_weigh_0 14 rfl rfl)
theorem dX1_weigh_15 : decode cX1_weigh 15 = .ok (.iload_n 3, 1) := dk_29 (dk_at dksX1_weigh_0 15 rfl rfl)
theorem dX1_weigh_16 : decode cX1_weigh 16 = .ok (.iaload, 1) := dk_46 (dk_at dksX1_weigh_0 16 rfl rfl)
theorem dX1_weigh_17 : decode cX1_weigh 17 = .ok (.imul, 1) := dk_104 (dk_at dksX1_weigh_0 17 rfl rfl)
theorem dX1_weigh_18 : decode cX1_weigh 18 = .ok (.iadd, 1) := dk_96 (dk_at dksX1_weigh_0 18 rfl rfl)
theorem dX1_weigh_19 : decode cX1_weigh 19 = .ok (.istore_n 2, 1) := dk_61 (dk_at dksX1_weigh_0 19 rfl rfl)
theorem dX1_weigh_20 : decode cX1_weigh 20 = .ok (.iinc 3 1, 3) := dk_132 3 1 (dk_at dksX1_weigh_0 20 rfl rfl)
theorem dX1_weigh_23 : decode cX1_weigh 23 = .ok (.goto (-19), 3) := dk_167 255 237 (dk_at dksX1_weigh_1 0 rfl rfl)
theorem dX1_weigh_26 : decode cX1_weigh 26 = .ok (.iload_n 2, 1) := dk_28 (dk_at dksX1_weigh_1 3 rfl rfl)
theorem dX1_weigh_27 : decode cX1_weigh 27 = .ok (.ireturn, 1) := dk_172 (dk_at dksX1_weigh_1 4 rfl rfl)
abbrev cX1_isTold : ByteArray := prog_1_method_76_code
def yX1_isTold : MethodName := ⟨RX1, "isTold", "(LPebblegate$Reach;LPebblegate$Tree;)Z"⟩
def dkwX1_isTold_1 : List UInt8 := [172, 132, 3, 1, 167, 255, 230, 4, 172]
abbrev dktX1_isTold_1 : List UInt8 := dkwX1_isTold_1 ++ []
def dkwX1_isTold_0 : List UInt8 := [3, 62, 29, 42, 180, 0, 93, 162, 0, 24, 44, 29, 182, 1, 81, 43, 29, 182, 1, 102, 159, 0, 5, 3]
abbrev dktX1_isTold_0 : List UInt8 := dkwX1_isTold_0 ++ dktX1_isTold_1
theorem dksX1_isTold_0 : cX1_isTold.data.toList.drop 0 = dktX1_isTold_0 := by decide +kernel
theorem dksX1_isTold_1 : cX1_isTold.data.toList.drop 24 = dktX1_isTold_1 := dk_seg dksX1_isTold_0 24 rfl rfl
theorem dX1_isTold_0 : decode cX1_isTold 0 = .ok (.iconst 0, 1) := dk_3 (dk_at dksX1_isTold_0 0 rfl rfl)
theorem dX1_isTold_1 : decode cX1_isTold 1 = .ok (.istore_n 3, 1) := dk_62 (dk_at dksX1_isTold_0 1 rfl rfl)
theorem dX1_isTold_2 : decode cX1_isTold 2 = .ok (.iload_n 3, 1) := dk_29 (dk_at dksX1_isTold_0 2 rfl rfl)
theorem dX1_isTold_3 : decode cX1_isTold 3 = .ok (.aload_n 0, 1) := dk_42 (dk_at dksX1_isTold_0 3 rfl rfl)
theorem dX1_isTold_4 : decode cX1_isTold 4 = .ok (.getfield 93, 3) := dk_180 0 93 (dk_at dksX1_isTold_0 4 rfl rfl)
theorem dX1_isTold_7 : decode cX1_isTold 7 = .ok (.if_icmp .ge 24, 3) := dk_162 0 24 (dk_at dksX1_isTold_0 7 rfl rfl)
theorem dX1_isTold_10 : decode cX1_isTold 10 = .ok (.aload_n 2, 1) := dk_44 (dk_at dksX1_isTold_0 10 rfl rfl)
theorem dX1_isTold_11 : decode cX1_isTold 11 = .ok (.iload_n 3, 1) := dk_29 (dk_at dksX1_isTold_0 11 rfl rfl)
theorem dX1_isTold_12 : decode cX1_isTold 12 = .ok (.invokevirtual 337, 3) := dk_182 1 81 (dk_at dksX1_isTold_0 12 rfl rfl)
theorem dX1_isTold_15 : decode cX1_isTold 15 = .ok (.aload_n 1, 1) := dk_43 (dk_at dksX1_isTold_0 15 rfl rfl)
theorem dX1_isTold_16 : decode cX1_isTold 16 = .ok (.iload_n 3, 1) := dk_29 (dk_at dksX1_isTold_0 16 rfl rfl)
theorem dX1_isTold_17 : decode cX1_isTold 17 = .ok (.invokevirtual 358, 3) := dk_182 1 102 (dk_at dksX1_isTold_0 17 rfl rfl)
theorem dX1_isTold_20 : decode cX1_isTold 20 = .ok (.if_icmp .eq 5, 3) := dk_159 0 5 (dk_at dksX1_isTold_0 20 rfl rfl)
theorem dX1_isTold_23 : decode cX1_isTold 23 = .ok (.iconst 0, 1) := dk_3 (dk_at dksX1_isTold_0 23 rfl rfl)
theorem dX1_isTold_24 : decode cX1_isTold 24 = .ok (.ireturn, 1) := dk_172 (dk_at dksX1_isTold_1 0 rfl rfl)
theorem dX1_isTold_25 : decode cX1_isTold 25 = .ok (.iinc 3 1, 3) := dk_132 3 1 (dk_at dksX1_isTold_1 1 rfl rfl)
theorem dX1_isTold_28 : decode cX1_isTold 28 = .ok (.goto (-26), 3) := dk_167 255 230 (dk_at dksX1_isTold_1 4 rfl rfl)
theorem dX1_isTold_31 : decode cX1_isTold 31 = .ok (.iconst 1, 1) := dk_4 (dk_at dksX1_isTold_1 7 rfl rfl)
theorem dX1_isTold_32 : decode cX1_isTold 32 = .ok (.ireturn, 1) := dk_172 (dk_at dksX1_isTold_1 8 rfl rfl)
abbrev cX1_areDead : ByteArray := prog_1_method_77_code
def yX1_areDead : MethodName := ⟨RX1, "areDead", "(LPebblegate$Reach;)Z"⟩
def dkwX1_areDead_4 : List UInt8 := [182, 1, 103, 159, 0, 5, 3, 172, 132, 3, 1, 167, 255, 164, 4, 172]
abbrev dktX1_areDead_4 : List UInt8 := dkwX1_areDead_4 ++ []
def dkwX1_areDead_3 : List UInt8 := [192, 0, 108, 182, 0, 211, 154, 0, 7, 4, 167, 0, 4, 3, 126, 54, 4, 167, 255, 205, 21, 4, 44, 29]
abbrev dktX1_areDead_3 : List UInt8 := dkwX1_areDead_3 ++ dktX1_areDead_4
def dkwX1_areDead_2 : List UInt8 := [185, 0, 51, 1, 0, 192, 0, 55, 58, 6, 21, 4, 25, 6, 43, 180, 1, 1, 29, 182, 0, 72]
abbrev dktX1_areDead_2 : List UInt8 := dkwX1_areDead_2 ++ dktX1_areDead_3
def dkwX1_areDead_1 : List UInt8 := [180, 0, 97, 182, 0, 41, 58, 5, 25, 5, 185, 0, 45, 1, 0, 153, 0, 47, 25, 5]
abbrev dktX1_areDead_1 : List UInt8 := dkwX1_areDead_1 ++ dktX1_areDead_2
def dkwX1_areDead_0 : List UInt8 := [43, 182, 1, 59, 77, 3, 62, 29, 43, 180, 1, 1, 182, 0, 68, 162, 0, 87, 4, 54, 4, 42]
abbrev dktX1_areDead_0 : List UInt8 := dkwX1_areDead_0 ++ dktX1_areDead_1
theorem dksX1_areDead_0 : cX1_areDead.data.toList.drop 0 = dktX1_areDead_0 := by decide +kernel
theorem dksX1_areDead_1 : cX1_areDead.data.toList.drop 22 = dktX1_areDead_1 := dk_seg dksX1_areDead_0 22 rfl rfl
theorem dksX1_areDead_2 : cX1_areDead.data.toList.drop 42 = dktX1_areDead_2 := dk_seg dksX1_areDead_1 20 rfl rfl
theorem dksX1_areDead_3 : cX1_areDead.data.toList.drop 64 = dktX1_areDead_3 := dk_seg dksX1_areDead_2 22 rfl rfl
theorem dksX1_areDead_4 : cX1_areDead.data.toList.drop 88 = dktX1_areDead_4 := dk_seg dksX1_areDead_3 24 rfl rfl
theorem dX1_areDead_0 : decode cX1_areDead 0 = .ok (.aload_n 1, 1) := dk_43 (dk_at dksX1_areDead_0 0 rfl rfl)
theorem dX1_areDead_1 : decode cX1_areDead 1 = .ok (.invokevirtual 315, 3) := dk_182 1 59 (dk_at dksX1_areDead_0 1 rfl rfl)
theorem dX1_areDead_4 : decode cX1_areDead 4 = .ok (.astore_n 2, 1) := dk_77 (dk_at dksX1_areDead_0 4 rfl rfl)
theorem dX1_areDead_5 : decode cX1_areDead 5 = .ok (.iconst 0, 1) := dk_3 (dk_at dksX1_areDead_0 5 rfl rfl)
theorem dX1_areDead_6 : decode cX1_areDead 6 = .ok (.istore_n 3, 1) := dk_62 (dk_at dksX1_areDead_0 6 rfl rfl)
theorem dX1_areDead_7 : decode cX1_areDead 7 = .ok (.iload_n 3, 1) := dk_29 (dk_at dksX1_areDead_0 7 rfl rfl)
theorem dX1_areDead_8 : decode cX1_areDead 8 = .ok (.aload_n 1, 1) := dk_43 (dk_at dksX1_areDead_0 8 rfl rfl)
theorem dX1_areDead_9 : decode cX1_areDead 9 = .ok (.getfield 257, 3) := dk_180 1 1 (dk_at dksX1_areDead_0 9 rfl rfl)
theorem dX1_areDead_12 : decode cX1_areDead 12 = .ok (.invokevirtual 68, 3) := dk_182 0 68 (dk_at dksX1_areDead_0 12 rfl rfl)
theorem dX1_areDead_15 : decode cX1_areDead 15 = .ok (.if_icmp .ge 87, 3) := dk_162 0 87 (dk_at dksX1_areDead_0 15 rfl rfl)
theorem dX1_areDead_18 : decode cX1_areDead 18 = .ok (.iconst 1, 1) := dk_4 (dk_at dksX1_areDead_0 18 rfl rfl)
theorem dX1_areDead_19 : decode cX1_areDead 19 = .ok (.istore 4, 2) := dk_54 4 (dk_at dksX1_areDead_0 19 rfl rfl)
theorem dX1_areDead_21 : decode cX1_areDead 21 = .ok (.aload_n 0, 1) := dk_42 (dk_at dksX1_areDead_0 21 rfl rfl)
theorem dX1_areDead_22 : decode cX1_areDead 22 = .ok (.getfield 97, 3) := dk_180 0 97 (dk_at dksX1_areDead_1 0 rfl rfl)
theorem dX1_areDead_25 : decode cX1_areDead 25 = .ok (.invokevirtual 41, 3) := dk_182 0 41 (dk_at dksX1_areDead_1 3 rfl rfl)
theorem dX1_areDead_28 : decode cX1_areDead 28 = .ok (.astore 5, 2) := dk_58 5 (dk_at dksX1_areDead_1 6 rfl rfl)
theorem dX1_areDead_30 : decode cX1_areDead 30 = .ok (.aload 5, 2) := dk_25 5 (dk_at dksX1_areDead_1 8 rfl rfl)
theorem dX1_areDead_32 : decode cX1_areDead 32 = .ok (.invokeinterface 45 1, 5) := by decide +kernel
theorem dX1_areDead_37 : decode cX1_areDead 37 = .ok (.ifCond .eq 47, 3) := dk_153 0 47 (dk_at dksX1_areDead_1 15 rfl rfl)
theorem dX1_areDead_40 : decode cX1_areDead 40 = .ok (.aload 5, 2) := dk_25 5 (dk_at dksX1_areDead_1 18 rfl rfl)
theorem dX1_areDead_42 : decode cX1_areDead 42 = .ok (.invokeinterface 51 1, 5) := by decide +kernel
theorem dX1_areDead_47 : decode cX1_areDead 47 = .ok (.checkcast 55, 3) := dk_192 0 55 (dk_at dksX1_areDead_2 5 rfl rfl)
theorem dX1_areDead_50 : decode cX1_areDead 50 = .ok (.astore 6, 2) := dk_58 6 (dk_at dksX1_areDead_2 8 rfl rfl)
theorem dX1_areDead_52 : decode cX1_areDead 52 = .ok (.iload 4, 2) := dk_21 4 (dk_at dksX1_areDead_2 10 rfl rfl)
theorem dX1_areDead_54 : decode cX1_areDead 54 = .ok (.aload 6, 2) := dk_25 6 (dk_at dksX1_areDead_2 12 rfl rfl)
theorem dX1_areDead_56 : decode cX1_areDead 56 = .ok (.aload_n 1, 1) := dk_43 (dk_at dksX1_areDead_2 14 rfl rfl)
theorem dX1_areDead_57 : decode cX1_areDead 57 = .ok (.getfield 257, 3) := dk_180 1 1 (dk_at dksX1_areDead_2 15 rfl rfl)
theorem dX1_areDead_60 : decode cX1_areDead 60 = .ok (.iload_n 3, 1) := dk_29 (dk_at dksX1_areDead_2 18 rfl rfl)
theorem dX1_areDead_61 : decode cX1_areDead 61 = .ok (.invokevirtual 72, 3) := dk_182 0 72 (dk_at dksX1_areDead_2 19 rfl rfl)
theorem dX1_areDead_64 : decode cX1_areDead 64 = .ok (.checkcast 108, 3) := dk_192 0 108 (dk_at dksX1_areDead_3 0 rfl rfl)
theorem dX1_areDead_67 : decode cX1_areDead 67 = .ok (.invokevirtual 211, 3) := dk_182 0 211 (dk_at dksX1_areDead_3 3 rfl rfl)
theorem dX1_areDead_70 : decode cX1_areDead 70 = .ok (.ifCond .ne 7, 3) := dk_154 0 7 (dk_at dksX1_areDead_3 6 rfl rfl)
theorem dX1_areDead_73 : decode cX1_areDead 73 = .ok (.iconst 1, 1) := dk_4 (dk_at dksX1_areDead_3 9 rfl rfl)
theorem dX1_areDead_74 : decode cX1_areDead 74 = .ok (.goto 4, 3) := dk_167 0 4 (dk_at dksX1_areDead_3 10 rfl rfl)
theorem dX1_areDead_77 : decode cX1_areDead 77 = .ok (.iconst 0, 1) := dk_3 (dk_at dksX1_areDead_3 13 rfl rfl)
theorem dX1_areDead_78 : decode cX1_areDead 78 = .ok (.iand, 1) := dk_126 (dk_at dksX1_areDead_3 14 rfl rfl)
theorem dX1_areDead_79 : decode cX1_areDead 79 = .ok (.istore 4, 2) := dk_54 4 (dk_at dksX1_areDead_3 15 rfl rfl)
theorem dX1_areDead_81 : decode cX1_areDead 81 = .ok (.goto (-51), 3) := dk_167 255 205 (dk_at dksX1_areDead_3 17 rfl rfl)
theorem dX1_areDead_84 : decode cX1_areDead 84 = .ok (.iload 4, 2) := dk_21 4 (dk_at dksX1_areDead_3 20 rfl rfl)
theorem dX1_areDead_86 : decode cX1_areDead 86 = .ok (.aload_n 2, 1) := dk_44 (dk_at dksX1_areDead_3 22 rfl rfl)
theorem dX1_areDead_87 : decode cX1_areDead 87 = .ok (.iload_n 3, 1) := dk_29 (dk_at dksX1_areDead_3 23 rfl rfl)
theorem dX1_areDead_88 : decode cX1_areDead 88 = .ok (.invokevirtual 359, 3) := dk_182 1 103 (dk_at dksX1_areDead_4 0 rfl rfl)
theorem dX1_areDead_91 : decode cX1_areDead 91 = .ok (.if_icmp .eq 5, 3) := dk_159 0 5 (dk_at dksX1_areDead_4 3 rfl rfl)
theorem dX1_areDead_94 : decode cX1_areDead 94 = .ok (.iconst 0, 1) := dk_3 (dk_at dksX1_areDead_4 6 rfl rfl)
theorem dX1_areDead_95 : decode cX1_areDead 95 = .ok (.ireturn, 1) := dk_172 (dk_at dksX1_areDead_4 7 rfl rfl)
theorem dX1_areDead_96 : decode cX1_areDead 96 = .ok (.iinc 3 1, 3) := dk_132 3 1 (dk_at dksX1_areDead_4 8 rfl rfl)
theorem dX1_areDead_99 : decode cX1_areDead 99 = .ok (.goto (-92), 3) := dk_167 255 164 (dk_at dksX1_areDead_4 11 rfl rfl)
theorem dX1_areDead_102 : decode cX1_areDead 102 = .ok (.iconst 1, 1) := dk_4 (dk_at dksX1_areDead_4 14 rfl rfl)
theorem dX1_areDead_103 : decode cX1_areDead 103 = .ok (.ireturn, 1) := dk_172 (dk_at dksX1_areDead_4 15 rfl rfl)
abbrev cX1_digest : ByteArray := prog_1_method_80_code
def yX1_digest : MethodName := ⟨RX1, "digest", "()J"⟩
def dkwX1_digest_16 : List UInt8 := [184, 1, 120, 42, 182, 1, 130, 184, 0, 194, 133, 184, 1, 120, 173]
abbrev dktX1_digest_16 : List UInt8 := dkwX1_digest_16 ++ []
def dkwX1_digest_15 : List UInt8 := [42, 21, 5, 182, 1, 99, 133, 184, 1, 120, 64, 132, 5, 1, 167, 255, 235, 31, 42, 8, 182, 1, 99, 133]
abbrev dktX1_digest_15 : List UInt8 := dkwX1_digest_15 ++ dktX1_digest_16
def dkwX1_digest_14 : List UInt8 := [184, 1, 120, 64, 31, 42, 182, 1, 127, 133, 184, 1, 120, 64, 3, 54, 5, 21, 5, 6, 162, 0, 21, 31]
abbrev dktX1_digest_14 : List UInt8 := dkwX1_digest_14 ++ dktX1_digest_15
def dkwX1_digest_13 : List UInt8 := [25, 4, 180, 1, 79, 153, 0, 9, 20, 1, 125, 167, 0, 13, 25, 4, 42, 180, 0, 93, 182, 1, 85, 133]
abbrev dktX1_digest_13 : List UInt8 := dkwX1_digest_13 ++ dktX1_digest_14
def dkwX1_digest_12 : List UInt8 := [153, 0, 9, 20, 1, 125, 167, 0, 12, 25, 4, 180, 1, 80, 182, 0, 68, 133, 184, 1, 120, 64, 31]
abbrev dktX1_digest_12 : List UInt8 := dkwX1_digest_12 ++ dktX1_digest_13
def dkwX1_digest_11 : List UInt8 := [20, 1, 125, 167, 0, 11, 45, 182, 1, 66, 184, 1, 22, 133, 184, 1, 120, 64, 31, 25, 4, 180, 1, 79]
abbrev dktX1_digest_11 : List UInt8 := dkwX1_digest_11 ++ dktX1_digest_12
def dkwX1_digest_10 : List UInt8 := [167, 0, 11, 45, 182, 1, 59, 184, 1, 22, 133, 184, 1, 120, 64, 31, 45, 180, 0, 247, 153, 0, 9]
abbrev dktX1_digest_10 : List UInt8 := dkwX1_digest_10 ++ dktX1_digest_11
def dkwX1_digest_9 : List UInt8 := [45, 180, 1, 1, 182, 0, 68, 133, 184, 1, 120, 64, 31, 45, 180, 0, 247, 153, 0, 9, 20, 1, 125]
abbrev dktX1_digest_9 : List UInt8 := dkwX1_digest_9 ++ dktX1_digest_10
def dkwX1_digest_8 : List UInt8 := [31, 42, 182, 1, 122, 133, 184, 1, 120, 64, 31, 45, 180, 0, 247, 153, 0, 9, 20, 1, 125, 167, 0, 11]
abbrev dktX1_digest_8 : List UInt8 := dkwX1_digest_8 ++ dktX1_digest_9
def dkwX1_digest_7 : List UInt8 := [64, 132, 9, 1, 167, 255, 231, 132, 5, 1, 167, 255, 200, 42, 182, 0, 243, 78, 42, 182, 1, 75, 58, 4]
abbrev dktX1_digest_7 : List UInt8 := dkwX1_digest_7 ++ dktX1_digest_8
def dkwX1_digest_6 : List UInt8 := [3, 54, 9, 21, 9, 21, 8, 162, 0, 24, 25, 7, 21, 9, 46, 54, 10, 31, 21, 10, 133, 184, 1, 120]
abbrev dktX1_digest_6 : List UInt8 := dkwX1_digest_6 ++ dktX1_digest_7
def dkwX1_digest_5 : List UInt8 := [54, 5, 21, 5, 21, 4, 162, 0, 55, 45, 21, 5, 50, 58, 6, 25, 6, 58, 7, 25, 7, 190, 54, 8]
abbrev dktX1_digest_5 : List UInt8 := dkwX1_digest_5 ++ dktX1_digest_6
def dkwX1_digest_4 : List UInt8 := [133, 184, 1, 120, 64, 167, 255, 210, 132, 3, 1, 167, 255, 176, 42, 180, 0, 109, 78, 45, 190, 54, 4, 3]
abbrev dktX1_digest_4 : List UInt8 := dkwX1_digest_4 ++ dktX1_digest_5
def dkwX1_digest_3 : List UInt8 := [192, 0, 55, 58, 5, 31, 25, 5, 180, 0, 61, 29, 46, 133, 184, 1, 120, 25, 5, 180, 0, 57, 29, 46]
abbrev dktX1_digest_3 : List UInt8 := dkwX1_digest_3 ++ dktX1_digest_4
def dkwX1_digest_2 : List UInt8 := [182, 0, 41, 58, 4, 25, 4, 185, 0, 45, 1, 0, 153, 0, 42, 25, 4, 185, 0, 51, 1, 0]
abbrev dktX1_digest_2 : List UInt8 := dkwX1_digest_2 ++ dktX1_digest_3
def dkwX1_digest_1 : List UInt8 := [62, 29, 42, 180, 0, 93, 162, 0, 78, 31, 42, 29, 182, 0, 152, 133, 184, 1, 120, 64, 42, 180, 0, 97]
abbrev dktX1_digest_1 : List UInt8 := dkwX1_digest_1 ++ dktX1_digest_2
def dkwX1_digest_0 : List UInt8 := [20, 1, 118, 42, 180, 0, 93, 133, 184, 1, 120, 42, 180, 0, 97, 182, 0, 68, 133, 184, 1, 120, 64, 3]
abbrev dktX1_digest_0 : List UInt8 := dkwX1_digest_0 ++ dktX1_digest_1
theorem dksX1_digest_0 : cX1_digest.data.toList.drop 0 = dktX1_digest_0 := by decide +kernel
theorem dksX1_digest_1 : cX1_digest.data.toList.drop 24 = dktX1_digest_1 := dk_seg dksX1_digest_0 24 rfl rfl
theorem dksX1_digest_2 : cX1_digest.data.toList.drop 48 = dktX1_digest_2 := dk_seg dksX1_digest_1 24 rfl rfl
theorem dksX1_digest_3 : cX1_digest.data.toList.drop 70 = dktX1_digest_3 := dk_seg dksX1_digest_2 22 rfl rfl
theorem dksX1_digest_4 : cX1_digest.data.toList.drop 94 = dktX1_digest_4 := dk_seg dksX1_digest_3 24 rfl rfl
theorem dksX1_digest_5 : cX1_digest.data.toList.drop 118 = dktX1_digest_5 := dk_seg dksX1_digest_4 24 rfl rfl
theorem dksX1_digest_6 : cX1_digest.data.toList.drop 142 = dktX1_digest_6 := dk_seg dksX1_digest_5 24 rfl rfl
theorem dksX1_digest_7 : cX1_digest.data.toList.drop 166 = dktX1_digest_7 := dk_seg dksX1_digest_6 24 rfl rfl
theorem dksX1_digest_8 : cX1_digest.data.toList.drop 190 = dktX1_digest_8 := dk_seg dksX1_digest_7 24 rfl rfl
theorem dksX1_digest_9 : cX1_digest.data.toList.drop 214 = dktX1_digest_9 := dk_seg dksX1_digest_8 24 rfl rfl
theorem dksX1_digest_10 : cX1_digest.data.toList.drop 237 = dktX1_digest_10 := dk_seg dksX1_digest_9 23 rfl rfl
theorem dksX1_digest_11 : cX1_digest.data.toList.drop 260 = dktX1_digest_11 := dk_seg dksX1_digest_10 23 rfl rfl
theorem dksX1_digest_12 : cX1_digest.data.toList.drop 284 = dktX1_digest_12 := dk_seg dksX1_digest_11 24 rfl rfl
theorem dksX1_digest_13 : cX1_digest.data.toList.drop 307 = dktX1_digest_13 := dk_seg dksX1_digest_12 23 rfl rfl
theorem dksX1_digest_14 : cX1_digest.data.toList.drop 331 = dktX1_digest_14 := dk_seg dksX1_digest_13 24 rfl rfl
theorem dksX1_digest_15 : cX1_digest.data.toList.drop 355 = dktX1_digest_15 := dk_seg dksX1_digest_14 24 rfl rfl
theorem dksX1_digest_16 : cX1_digest.data.toList.drop 379 = dktX1_digest_16 := dk_seg dksX1_digest_15 24 rfl rfl
theorem dX1_digest_0 : decode cX1_digest 0 = .ok (.ldc2_w 374, 3) := dk_20 1 118 (dk_at dksX1_digest_0 0 rfl rfl)
theorem dX1_digest_3 : decode cX1_digest 3 = .ok (.aload_n 0, 1) := dk_42 (dk_at dksX1_digest_0 3 rfl rfl)
theorem dX1_digest_4 : decode cX1_digest 4 = .ok (.getfield 93, 3) := dk_180 0 93 (dk_at dksX1_digest_0 4 rfl rfl)
theorem dX1_digest_7 : decode cX1_digest 7 = .ok (.i2l, 1) := dk_133 (dk_at dksX1_digest_0 7 rfl rfl)
theorem dX1_digest_8 : decode cX1_digest 8 = .ok (.invokestatic 376, 3) := dk_184 1 120 (dk_at dksX1_digest_0 8 rfl rfl)
theorem dX1_digest_11 : decode cX1_digest 11 = .ok (.aload_n 0, 1) := dk_42 (dk_at dksX1_digest_0 11 rfl rfl)
theorem dX1_digest_12 : decode cX1_digest 12 = .ok (.getfield 97, 3) := dk_180 0 97 (dk_at dksX1_digest_0 12 rfl rfl)
theorem dX1_digest_15 : decode cX1_digest 15 = .ok (.invokevirtual 68, 3) := dk_182 0 68 (dk_at dksX1_digest_0 15 rfl rfl)
theorem dX1_digest_18 : decode cX1_digest 18 = .ok (.i2l, 1) := dk_133 (dk_at dksX1_digest_0 18 rfl rfl)
theorem dX1_digest_19 : decode cX1_digest 19 = .ok (.invokestatic 376, 3) := dk_184 1 120 (dk_at dksX1_digest_0 19 rfl rfl)
theorem dX1_digest_22 : decode cX1_digest 22 = .ok (.lstore_n 1, 1) := dk_64 (dk_at dksX1_digest_0 22 rfl rfl)
theorem dX1_digest_23 : decode cX1_digest 23 = .ok (.iconst 0, 1) := dk_3 (dk_at dksX1_digest_0 23 rfl rfl)
theorem dX1_digest_24 : decode cX1_digest 24 = .ok (.istore_n 3, 1) := dk_62 (dk_at dksX1_digest_1 0 rfl rfl)
theorem dX1_digest_25 : decode cX1_digest 25 = .ok (.iload_n 3, 1) := dk_29 (dk_at dksX1_digest_1 1 rfl rfl)
theorem dX1_digest_26 : decode cX1_digest 26 = .ok (.aload_n 0, 1) := dk_42 (dk_at dksX1_digest_1 2 rfl rfl)
theorem dX1_digest_27 : decode cX1_digest 27 = .ok (.getfield 93, 3) := dk_180 0 93 (dk_at dksX1_digest_1 3 rfl rfl)
theorem dX1_digest_30 : decode cX1_digest 30 = .ok (.if_icmp .ge 78, 3) := dk_162 0 78 (dk_at dksX1_digest_1 6 rfl rfl)
theorem dX1_digest_33 : decode cX1_digest 33 = .ok (.lload_n 1, 1) := dk_31 (dk_at dksX1_digest_1 9 rfl rfl)
theorem dX1_digest_34 : decode cX1_digest 34 = .ok (.aload_n 0, 1) := dk_42 (dk_at dksX1_digest_1 10 rfl rfl)
theorem dX1_digest_35 : decode cX1_digest 35 = .ok (.iload_n 3, 1) := dk_29 (dk_at dksX1_digest_1 11 rfl rfl)
theorem dX1_digest_36 : decode cX1_digest 36 = .ok (.invokevirtual 152, 3) := dk_182 0 152 (dk_at dksX1_digest_1 12 rfl rfl)
theorem dX1_digest_39 : decode cX1_digest 39 = .ok (.i2l, 1) := dk_133 (dk_at dksX1_digest_1 15 rfl rfl)
theorem dX1_digest_40 : decode cX1_digest 40 = .ok (.invokestatic 376, 3) := dk_184 1 120 (dk_at dksX1_digest_1 16 rfl rfl)
theorem dX1_digest_43 : decode cX1_digest 43 = .ok (.lstore_n 1, 1) := dk_64 (dk_at dksX1_digest_1 19 rfl rfl)
theorem dX1_digest_44 : decode cX1_digest 44 = .ok (.aload_n 0, 1) := dk_42 (dk_at dksX1_digest_1 20 rfl rfl)
theorem dX1_digest_45 : decode cX1_digest 45 = .ok (.getfield 97, 3) := dk_180 0 97 (dk_at dksX1_digest_1 21 rfl rfl)
theorem dX1_digest_48 : decode cX1_digest 48 = .ok (.invokevirtual 41, 3) := dk_182 0 41 (dk_at dksX1_digest_2 0 rfl rfl)
theorem dX1_digest_51 : decode cX1_digest 51 = .ok (.astore 4, 2) := dk_58 4 (dk_at dksX1_digest_2 3 rfl rfl)
theorem dX1_digest_53 : decode cX1_digest 53 = .ok (.aload 4, 2) := dk_25 4 (dk_at dksX1_digest_2 5 rfl rfl)
theorem dX1_digest_55 : decode cX1_digest 55 = .ok (.invokeinterface 45 1, 5) := by decide +kernel
theorem dX1_digest_60 : decode cX1_digest 60 = .ok (.ifCond .eq 42, 3) := dk_153 0 42 (dk_at dksX1_digest_2 12 rfl rfl)
theorem dX1_digest_63 : decode cX1_digest 63 = .ok (.aload 4, 2) := dk_25 4 (dk_at dksX1_digest_2 15 rfl rfl)
theorem dX1_digest_65 : decode cX1_digest 65 = .ok (.invokeinterface 51 1, 5) := by decide +kernel
theorem dX1_digest_70 : decode cX1_digest 70 = .ok (.checkcast 55, 3) := dk_192 0 55 (dk_at dksX1_digest_3 0 rfl rfl)
theorem dX1_digest_73 : decode cX1_digest 73 = .ok (.astore 5, 2) := dk_58 5 (dk_at dksX1_digest_3 3 rfl rfl)
theorem dX1_digest_75 : decode cX1_digest 75 = .ok (.lload_n 1, 1) := dk_31 (dk_at dksX1_digest_3 5 rfl rfl)
theorem dX1_digest_76 : decode cX1_digest 76 = .ok (.aload 5, 2) := dk_25 5 (dk_at dksX1_digest_3 6 rfl rfl)
theorem dX1_digest_78 : decode cX1_digest 78 = .ok (.getfield 61, 3) := dk_180 0 61 (dk_at dksX1_digest_3 8 rfl rfl)
theorem dX1_digest_81 : decode cX1_digest 81 = .ok (.iload_n 3, 1) := dk_29 (dk_at dksX1_digest_3 11 rfl rfl)
theorem dX1_digest_82 : decode cX1_digest 82 = .ok (.iaload, 1) := dk_46 (dk_at dksX1_digest_3 12 rfl rfl)
theorem dX1_digest_83 : decode cX1_digest 83 = .ok (.i2l, 1) := dk_133 (dk_at dksX1_digest_3 13 rfl rfl)
theorem dX1_digest_84 : decode cX1_digest 84 = .ok (.invokestatic 376, 3) := dk_184 1 120 (dk_at dksX1_digest_3 14 rfl rfl)
theorem dX1_digest_87 : decode cX1_digest 87 = .ok (.aload 5, 2) := dk_25 5 (dk_at dksX1_digest_3 17 rfl rfl)
theorem dX1_digest_89 : decode cX1_digest 89 = .ok (.getfield 57, 3) := dk_180 0 57 (dk_at dksX1_digest_3 19 rfl rfl)
theorem dX1_digest_92 : decode cX1_digest 92 = .ok (.iload_n 3, 1) := dk_29 (dk_at dksX1_digest_3 22 rfl rfl)
theorem dX1_digest_93 : decode cX1_digest 93 = .ok (.iaload, 1) := dk_46 (dk_at dksX1_digest_3 23 rfl rfl)
theorem dX1_digest_94 : decode cX1_digest 94 = .ok (.i2l, 1) := dk_133 (dk_at dksX1_digest_4 0 rfl rfl)
theorem dX1_digest_95 : decode cX1_digest 95 = .ok (.invokestatic 376, 3) := dk_184 1 120 (dk_at dksX1_digest_4 1 rfl rfl)
theorem dX1_digest_98 : decode cX1_digest 98 = .ok (.lstore_n 1, 1) := dk_64 (dk_at dksX1_digest_4 4 rfl rfl)
theorem dX1_digest_99 : decode cX1_digest 99 = .ok (.goto (-46), 3) := dk_167 255 210 (dk_at dksX1_digest_4 5 rfl rfl)
theorem dX1_digest_102 : decode cX1_digest 102 = .ok (.iinc 3 1, 3) := dk_132 3 1 (dk_at dksX1_digest_4 8 rfl rfl)
theorem dX1_digest_105 : decode cX1_digest 105 = .ok (.goto (-80), 3) := dk_167 255 176 (dk_at dksX1_digest_4 11 rfl rfl)
theorem dX1_digest_108 : decode cX1_digest 108 = .ok (.aload_n 0, 1) := dk_42 (dk_at dksX1_digest_4 14 rfl rfl)
theorem dX1_digest_109 : decode cX1_digest 109 = .ok (.getfield 109, 3) := dk_180 0 109 (dk_at dksX1_digest_4 15 rfl rfl)
theorem dX1_digest_112 : decode cX1_digest 112 = .ok (.astore_n 3, 1) := dk_78 (dk_at dksX1_digest_4 18 rfl rfl)
theorem dX1_digest_113 : decode cX1_digest 113 = .ok (.aload_n 3, 1) := dk_45 (dk_at dksX1_digest_4 19 rfl rfl)
theorem dX1_digest_114 : decode cX1_digest 114 = .ok (.arraylength, 1) := dk_190 (dk_at dksX1_digest_4 20 rfl rfl)
theorem dX1_digest_115 : decode cX1_digest 115 = .ok (.istore 4, 2) := dk_54 4 (dk_at dksX1_digest_4 21 rfl rfl)
theorem dX1_digest_117 : decode cX1_digest 117 = .ok (.iconst 0, 1) := dk_3 (dk_at dksX1_digest_4 23 rfl rfl)
theorem dX1_digest_118 : decode cX1_digest 118 = .ok (.istore 5, 2) := dk_54 5 (dk_at dksX1_digest_5 0 rfl rfl)
theorem dX1_digest_120 : decode cX1_digest 120 = .ok (.iload 5, 2) := dk_21 5 (dk_at dksX1_digest_5 2 rfl rfl)
theorem dX1_digest_122 : decode cX1_digest 122 = .ok (.iload 4, 2) := dk_21 4 (dk_at dksX1_digest_5 4 rfl rfl)
theorem dX1_digest_124 : decode cX1_digest 124 = .ok (.if_icmp .ge 55, 3) := dk_162 0 55 (dk_at dksX1_digest_5 6 rfl rfl)
theorem dX1_digest_127 : decode cX1_digest 127 = .ok (.aload_n 3, 1) := dk_45 (dk_at dksX1_digest_5 9 rfl rfl)
theorem dX1_digest_128 : decode cX1_digest 128 = .ok (.iload 5, 2) := dk_21 5 (dk_at dksX1_digest_5 10 rfl rfl)
theorem dX1_digest_130 : decode cX1_digest 130 = .ok (.aaload, 1) := dk_50 (dk_at dksX1_digest_5 12 rfl rfl)
theorem dX1_digest_131 : decode cX1_digest 131 = .ok (.astore 6, 2) := dk_58 6 (dk_at dksX1_digest_5 13 rfl rfl)
theorem dX1_digest_133 : decode cX1_digest 133 = .ok (.aload 6, 2) := dk_25 6 (dk_at dksX1_digest_5 15 rfl rfl)
theorem dX1_digest_135 : decode cX1_digest 135 = .ok (.astore 7, 2) := dk_58 7 (dk_at dksX1_digest_5 17 rfl rfl)
theorem dX1_digest_137 : decode cX1_digest 137 = .ok (.aload 7, 2) := dk_25 7 (dk_at dksX1_digest_5 19 rfl rfl)
theorem dX1_digest_139 : decode cX1_digest 139 = .ok (.arraylength, 1) := dk_190 (dk_at dksX1_digest_5 21 rfl rfl)
theorem dX1_digest_140 : decode cX1_digest 140 = .ok (.istore 8, 2) := dk_54 8 (dk_at dksX1_digest_5 22 rfl rfl)
theorem dX1_digest_142 : decode cX1_digest 142 = .ok (.iconst 0, 1) := dk_3 (dk_at dksX1_digest_6 0 rfl rfl)
theorem dX1_digest_143 : decode cX1_digest 143 = .ok (.istore 9, 2) := dk_54 9 (dk_at dksX1_digest_6 1 rfl rfl)
theorem dX1_digest_145 : decode cX1_digest 145 = .ok (.iload 9, 2) := dk_21 9 (dk_at dksX1_digest_6 3 rfl rfl)
theorem dX1_digest_147 : decode cX1_digest 147 = .ok (.iload 8, 2) := dk_21 8 (dk_at dksX1_digest_6 5 rfl rfl)
theorem dX1_digest_149 : decode cX1_digest 149 = .ok (.if_icmp .ge 24, 3) := dk_162 0 24 (dk_at dksX1_digest_6 7 rfl rfl)
theorem dX1_digest_152 : decode cX1_digest 152 = .ok (.aload 7, 2) := dk_25 7 (dk_at dksX1_digest_6 10 rfl rfl)
theorem dX1_digest_154 : decode cX1_digest 154 = .ok (.iload 9, 2) := dk_21 9 (dk_at dksX1_digest_6 12 rfl rfl)
theorem dX1_digest_156 : decode cX1_digest 156 = .ok (.iaload, 1) := dk_46 (dk_at dksX1_digest_6 14 rfl rfl)
theorem dX1_digest_157 : decode cX1_digest 157 = .ok (.istore 10, 2) := dk_54 10 (dk_at dksX1_digest_6 15 rfl rfl)
theorem dX1_digest_159 : decode cX1_digest 159 = .ok (.lload_n 1, 1) := dk_31 (dk_at dksX1_digest_6 17 rfl rfl)
theorem dX1_digest_160 : decode cX1_digest 160 = .ok (.iload 10, 2) := dk_21 10 (dk_at dksX1_digest_6 18 rfl rfl)
theorem dX1_digest_162 : decode cX1_digest 162 = .ok (.i2l, 1) := dk_133 (dk_at dksX1_digest_6 20 rfl rfl)
theorem dX1_digest_163 : decode cX1_digest 163 = .ok (.invokestatic 376, 3) := dk_184 1 120 (dk_at dksX1_digest_6 21 rfl rfl)
theorem dX1_digest_166 : decode cX1_digest 166 = .ok (.lstore_n 1, 1) := dk_64 (dk_at dksX1_digest_7 0 rfl rfl)
theorem dX1_digest_167 : decode cX1_digest 167 = .ok (.iinc 9 1, 3) := dk_132 9 1 (dk_at dksX1_digest_7 1 rfl rfl)
theorem dX1_digest_170 : decode cX1_digest 170 = .ok (.goto (-25), 3) := dk_167 255 231 (dk_at dksX1_digest_7 4 rfl rfl)
theorem dX1_digest_173 : decode cX1_digest 173 = .ok (.iinc 5 1, 3) := dk_132 5 1 (dk_at dksX1_digest_7 7 rfl rfl)
theorem dX1_digest_176 : decode cX1_digest 176 = .ok (.goto (-56), 3) := dk_167 255 200 (dk_at dksX1_digest_7 10 rfl rfl)
theorem dX1_digest_179 : decode cX1_digest 179 = .ok (.aload_n 0, 1) := dk_42 (dk_at dksX1_digest_7 13 rfl rfl)
theorem dX1_digest_180 : decode cX1_digest 180 = .ok (.invokevirtual 243, 3) := dk_182 0 243 (dk_at dksX1_digest_7 14 rfl rfl)
theorem dX1_digest_183 : decode cX1_digest 183 = .ok (.astore_n 3, 1) := dk_78 (dk_at dksX1_digest_7 17 rfl rfl)
theorem dX1_digest_184 : decode cX1_digest 184 = .ok (.aload_n 0, 1) := dk_42 (dk_at dksX1_digest_7 18 rfl rfl)
theorem dX1_digest_185 : decode cX1_digest 185 = .ok (.invokevirtual 331, 3) := dk_182 1 75 (dk_at dksX1_digest_7 19 rfl rfl)
theorem dX1_digest_188 : decode cX1_digest 188 = .ok (.astore 4, 2) := dk_58 4 (dk_at dksX1_digest_7 22 rfl rfl)
theorem dX1_digest_190 : decode cX1_digest 190 = .ok (.lload_n 1, 1) := dk_31 (dk_at dksX1_digest_8 0 rfl rfl)
theorem dX1_digest_191 : decode cX1_digest 191 = .ok (.aload_n 0, 1) := dk_42 (dk_at dksX1_digest_8 1 rfl rfl)
theorem dX1_digest_192 : decode cX1_digest 192 = .ok (.invokevirtual 378, 3) := dk_182 1 122 (dk_at dksX1_digest_8 2 rfl rfl)
theorem dX1_digest_195 : decode cX1_digest 195 = .ok (.i2l, 1) := dk_133 (dk_at dksX1_digest_8 5 rfl rfl)
theorem dX1_digest_196 : decode cX1_digest 196 = .ok (.invokestatic 376, 3) := dk_184 1 120 (dk_at dksX1_digest_8 6 rfl rfl)
theorem dX1_digest_199 : decode cX1_digest 199 = .ok (.lstore_n 1, 1) := dk_64 (dk_at dksX1_digest_8 9 rfl rfl)
theorem dX1_digest_200 : decode cX1_digest 200 = .ok (.lload_n 1, 1) := dk_31 (dk_at dksX1_digest_8 10 rfl rfl)
theorem dX1_digest_201 : decode cX1_digest 201 = .ok (.aload_n 3, 1) := dk_45 (dk_at dksX1_digest_8 11 rfl rfl)
theorem dX1_digest_202 : decode cX1_digest 202 = .ok (.getfield 247, 3) := dk_180 0 247 (dk_at dksX1_digest_8 12 rfl rfl)
theorem dX1_digest_205 : decode cX1_digest 205 = .ok (.ifCond .eq 9, 3) := dk_153 0 9 (dk_at dksX1_digest_8 15 rfl rfl)
theorem dX1_digest_208 : decode cX1_digest 208 = .ok (.ldc2_w 381, 3) := dk_20 1 125 (dk_at dksX1_digest_8 18 rfl rfl)
theorem dX1_digest_211 : decode cX1_digest 211 = .ok (.goto 11, 3) := dk_167 0 11 (dk_at dksX1_digest_8 21 rfl rfl)
theorem dX1_digest_214 : decode cX1_digest 214 = .ok (.aload_n 3, 1) := dk_45 (dk_at dksX1_digest_9 0 rfl rfl)
theorem dX1_digest_215 : decode cX1_digest 215 = .ok (.getfield 257, 3) := dk_180 1 1 (dk_at dksX1_digest_9 1 rfl rfl)
theorem dX1_digest_218 : decode cX1_digest 218 = .ok (.invokevirtual 68, 3) := dk_182 0 68 (dk_at dksX1_digest_9 4 rfl rfl)
theorem dX1_digest_221 : decode cX1_digest 221 = .ok (.i2l, 1) := dk_133 (dk_at dksX1_digest_9 7 rfl rfl)
theorem dX1_digest_222 : decode cX1_digest 222 = .ok (.invokestatic 376, 3) := dk_184 1 120 (dk_at dksX1_digest_9 8 rfl rfl)
theorem dX1_digest_225 : decode cX1_digest 225 = .ok (.lstore_n 1, 1) := dk_64 (dk_at dksX1_digest_9 11 rfl rfl)
theorem dX1_digest_226 : decode cX1_digest 226 = .ok (.lload_n 1, 1) := dk_31 (dk_at dksX1_digest_9 12 rfl rfl)
theorem dX1_digest_227 : decode cX1_digest 227 = .ok (.aload_n 3, 1) := dk_45 (dk_at dksX1_digest_9 13 rfl rfl)
theorem dX1_digest_228 : decode cX1_digest 228 = .ok (.getfield 247, 3) := dk_180 0 247 (dk_at dksX1_digest_9 14 rfl rfl)
theorem dX1_digest_231 : decode cX1_digest 231 = .ok (.ifCond .eq 9, 3) := dk_153 0 9 (dk_at dksX1_digest_9 17 rfl rfl)
theorem dX1_digest_234 : decode cX1_digest 234 = .ok (.ldc2_w 381, 3) := dk_20 1 125 (dk_at dksX1_digest_9 20 rfl rfl)
theorem dX1_digest_237 : decode cX1_digest 237 = .ok (.goto 11, 3) := dk_167 0 11 (dk_at dksX1_digest_10 0 rfl rfl)
theorem dX1_digest_240 : decode cX1_digest 240 = .ok (.aload_n 3, 1) := dk_45 (dk_at dksX1_digest_10 3 rfl rfl)
theorem dX1_digest_241 : decode cX1_digest 241 = .ok (.invokevirtual 315, 3) := dk_182 1 59 (dk_at dksX1_digest_10 4 rfl rfl)
theorem dX1_digest_244 : decode cX1_digest 244 = .ok (.invokestatic 278, 3) := dk_184 1 22 (dk_at dksX1_digest_10 7 rfl rfl)
theorem dX1_digest_247 : decode cX1_digest 247 = .ok (.i2l, 1) := dk_133 (dk_at dksX1_digest_10 10 rfl rfl)
theorem dX1_digest_248 : decode cX1_digest 248 = .ok (.invokestatic 376, 3) := dk_184 1 120 (dk_at dksX1_digest_10 11 rfl rfl)
theorem dX1_digest_251 : decode cX1_digest 251 = .ok (.lstore_n 1, 1) := dk_64 (dk_at dksX1_digest_10 14 rfl rfl)
theorem dX1_digest_252 : decode cX1_digest 252 = .ok (.lload_n 1, 1) := dk_31 (dk_at dksX1_digest_10 15 rfl rfl)
theorem dX1_digest_253 : decode cX1_digest 253 = .ok (.aload_n 3, 1) := dk_45 (dk_at dksX1_digest_10 16 rfl rfl)
theorem dX1_digest_254 : decode cX1_digest 254 = .ok (.getfield 247, 3) := dk_180 0 247 (dk_at dksX1_digest_10 17 rfl rfl)
theorem dX1_digest_257 : decode cX1_digest 257 = .ok (.ifCond .eq 9, 3) := dk_153 0 9 (dk_at dksX1_digest_10 20 rfl rfl)
theorem dX1_digest_260 : decode cX1_digest 260 = .ok (.ldc2_w 381, 3) := dk_20 1 125 (dk_at dksX1_digest_11 0 rfl rfl)
theorem dX1_digest_263 : decode cX1_digest 263 = .ok (.goto 11, 3) := dk_167 0 11 (dk_at dksX1_digest_11 3 rfl rfl)
theorem dX1_digest_266 : decode cX1_digest 266 = .ok (.aload_n 3, 1) := dk_45 (dk_at dksX1_digest_11 6 rfl rfl)
theorem dX1_digest_267 : decode cX1_digest 267 = .ok (.invokevirtual 322, 3) := dk_182 1 66 (dk_at dksX1_digest_11 7 rfl rfl)
theorem dX1_digest_270 : decode cX1_digest 270 = .ok (.invokestatic 278, 3) := dk_184 1 22 (dk_at dksX1_digest_11 10 rfl rfl)
theorem dX1_digest_273 : decode cX1_digest 273 = .ok (.i2l, 1) := dk_133 (dk_at dksX1_digest_11 13 rfl rfl)
theorem dX1_digest_274 : decode cX1_digest 274 = .ok (.invokestatic 376, 3) := dk_184 1 120 (dk_at dksX1_digest_11 14 rfl rfl)
theorem dX1_digest_277 : decode cX1_digest 277 = .ok (.lstore_n 1, 1) := dk_64 (dk_at dksX1_digest_11 17 rfl rfl)
theorem dX1_digest_278 : decode cX1_digest 278 = .ok (.lload_n 1, 1) := dk_31 (dk_at dksX1_digest_11 18 rfl rfl)
theorem dX1_digest_279 : decode cX1_digest 279 = .ok (.aload 4, 2) := dk_25 4 (dk_at dksX1_digest_11 19 rfl rfl)
theorem dX1_digest_281 : decode cX1_digest 281 = .ok (.getfield 335, 3) := dk_180 1 79 (dk_at dksX1_digest_11 21 rfl rfl)
theorem dX1_digest_284 : decode cX1_digest 284 = .ok (.ifCond .eq 9, 3) := dk_153 0 9 (dk_at dksX1_digest_12 0 rfl rfl)
theorem dX1_digest_287 : decode cX1_digest 287 = .ok (.ldc2_w 381, 3) := dk_20 1 125 (dk_at dksX1_digest_12 3 rfl rfl)
theorem dX1_digest_290 : decode cX1_digest 290 = .ok (.goto 12, 3) := dk_167 0 12 (dk_at dksX1_digest_12 6 rfl rfl)
theorem dX1_digest_293 : decode cX1_digest 293 = .ok (.aload 4, 2) := dk_25 4 (dk_at dksX1_digest_12 9 rfl rfl)
theorem dX1_digest_295 : decode cX1_digest 295 = .ok (.getfield 336, 3) := dk_180 1 80 (dk_at dksX1_digest_12 11 rfl rfl)
theorem dX1_digest_298 : decode cX1_digest 298 = .ok (.invokevirtual 68, 3) := dk_182 0 68 (dk_at dksX1_digest_12 14 rfl rfl)
theorem dX1_digest_301 : decode cX1_digest 301 = .ok (.i2l, 1) := dk_133 (dk_at dksX1_digest_12 17 rfl rfl)
theorem dX1_digest_302 : decode cX1_digest 302 = .ok (.invokestatic 376, 3) := dk_184 1 120 (dk_at dksX1_digest_12 18 rfl rfl)
theorem dX1_digest_305 : decode cX1_digest 305 = .ok (.lstore_n 1, 1) := dk_64 (dk_at dksX1_digest_12 21 rfl rfl)
theorem dX1_digest_306 : decode cX1_digest 306 = .ok (.lload_n 1, 1) := dk_31 (dk_at dksX1_digest_12 22 rfl rfl)
theorem dX1_digest_307 : decode cX1_digest 307 = .ok (.aload 4, 2) := dk_25 4 (dk_at dksX1_digest_13 0 rfl rfl)
theorem dX1_digest_309 : decode cX1_digest 309 = .ok (.getfield 335, 3) := dk_180 1 79 (dk_at dksX1_digest_13 2 rfl rfl)
theorem dX1_digest_312 : decode cX1_digest 312 = .ok (.ifCond .eq 9, 3) := dk_153 0 9 (dk_at dksX1_digest_13 5 rfl rfl)
theorem dX1_digest_315 : decode cX1_digest 315 = .ok (.ldc2_w 381, 3) := dk_20 1 125 (dk_at dksX1_digest_13 8 rfl rfl)
theorem dX1_digest_318 : decode cX1_digest 318 = .ok (.goto 13, 3) := dk_167 0 13 (dk_at dksX1_digest_13 11 rfl rfl)
theorem dX1_digest_321 : decode cX1_digest 321 = .ok (.aload 4, 2) := dk_25 4 (dk_at dksX1_digest_13 14 rfl rfl)
theorem dX1_digest_323 : decode cX1_digest 323 = .ok (.aload_n 0, 1) := dk_42 (dk_at dksX1_digest_13 16 rfl rfl)
theorem dX1_digest_324 : decode cX1_digest 324 = .ok (.getfield 93, 3) := dk_180 0 93 (dk_at dksX1_digest_13 17 rfl rfl)
theorem dX1_digest_327 : decode cX1_digest 327 = .ok (.invokevirtual 341, 3) := dk_182 1 85 (dk_at dksX1_digest_13 20 rfl rfl)
theorem dX1_digest_330 : decode cX1_digest 330 = .ok (.i2l, 1) := dk_133 (dk_at dksX1_digest_13 23 rfl rfl)
theorem dX1_digest_331 : decode cX1_digest 331 = .ok (.invokestatic 376, 3) := dk_184 1 120 (dk_at dksX1_digest_14 0 rfl rfl)
theorem dX1_digest_334 : decode cX1_digest 334 = .ok (.lstore_n 1, 1) := dk_64 (dk_at dksX1_digest_14 3 rfl rfl)
theorem dX1_digest_335 : decode cX1_digest 335 = .ok (.lload_n 1, 1) := dk_31 (dk_at dksX1_digest_14 4 rfl rfl)
theorem dX1_digest_336 : decode cX1_digest 336 = .ok (.aload_n 0, 1) := dk_42 (dk_at dksX1_digest_14 5 rfl rfl)
theorem dX1_digest_337 : decode cX1_digest 337 = .ok (.invokevirtual 383, 3) := dk_182 1 127 (dk_at dksX1_digest_14 6 rfl rfl)
theorem dX1_digest_340 : decode cX1_digest 340 = .ok (.i2l, 1) := dk_133 (dk_at dksX1_digest_14 9 rfl rfl)
theorem dX1_digest_341 : decode cX1_digest 341 = .ok (.invokestatic 376, 3) := dk_184 1 120 (dk_at dksX1_digest_14 10 rfl rfl)
theorem dX1_digest_344 : decode cX1_digest 344 = .ok (.lstore_n 1, 1) := dk_64 (dk_at dksX1_digest_14 13 rfl rfl)
theorem dX1_digest_345 : decode cX1_digest 345 = .ok (.iconst 0, 1) := dk_3 (dk_at dksX1_digest_14 14 rfl rfl)
theorem dX1_digest_346 : decode cX1_digest 346 = .ok (.istore 5, 2) := dk_54 5 (dk_at dksX1_digest_14 15 rfl rfl)
theorem dX1_digest_348 : decode cX1_digest 348 = .ok (.iload 5, 2) := dk_21 5 (dk_at dksX1_digest_14 17 rfl rfl)
theorem dX1_digest_350 : decode cX1_digest 350 = .ok (.iconst 3, 1) := dk_6 (dk_at dksX1_digest_14 19 rfl rfl)
theorem dX1_digest_351 : decode cX1_digest 351 = .ok (.if_icmp .ge 21, 3) := dk_162 0 21 (dk_at dksX1_digest_14 20 rfl rfl)
theorem dX1_digest_354 : decode cX1_digest 354 = .ok (.lload_n 1, 1) := dk_31 (dk_at dksX1_digest_14 23 rfl rfl)
theorem dX1_digest_355 : decode cX1_digest 355 = .ok (.aload_n 0, 1) := dk_42 (dk_at dksX1_digest_15 0 rfl rfl)
theorem dX1_digest_356 : decode cX1_digest 356 = .ok (.iload 5, 2) := dk_21 5 (dk_at dksX1_digest_15 1 rfl rfl)
theorem dX1_digest_358 : decode cX1_digest 358 = .ok (.invokevirtual 355, 3) := dk_182 1 99 (dk_at dksX1_digest_15 3 rfl rfl)
theorem dX1_digest_361 : decode cX1_digest 361 = .ok (.i2l, 1) := dk_133 (dk_at dksX1_digest_15 6 rfl rfl)
theorem dX1_digest_362 : decode cX1_digest 362 = .ok (.invokestatic 376, 3) := dk_184 1 120 (dk_at dksX1_digest_15 7 rfl rfl)
theorem dX1_digest_365 : decode cX1_digest 365 = .ok (.lstore_n 1, 1) := dk_64 (dk_at dksX1_digest_15 10 rfl rfl)
theorem dX1_digest_366 : decode cX1_digest 366 = .ok (.iinc 5 1, 3) := dk_132 5 1 (dk_at dksX1_digest_15 11 rfl rfl)
theorem dX1_digest_369 : decode cX1_digest 369 = .ok (.goto (-21), 3) := dk_167 255 235 (dk_at dksX1_digest_15 14 rfl rfl)
theorem dX1_digest_372 : decode cX1_digest 372 = .ok (.lload_n 1, 1) := dk_31 (dk_at dksX1_digest_15 17 rfl rfl)
theorem dX1_digest_373 : decode cX1_digest 373 = .ok (.aload_n 0, 1) := dk_42 (dk_at dksX1_digest_15 18 rfl rfl)
theorem dX1_digest_374 : decode cX1_digest 374 = .ok (.iconst 5, 1) := dk_8 (dk_at dksX1_digest_15 19 rfl rfl)
theorem dX1_digest_375 : decode cX1_digest 375 = .ok (.invokevirtual 355, 3) := dk_182 1 99 (dk_at dksX1_digest_15 20 rfl rfl)
theorem dX1_digest_378 : decode cX1_digest 378 = .ok (.i2l, 1) := dk_133 (dk_at dksX1_digest_15 23 rfl rfl)
theorem dX1_digest_379 : decode cX1_digest 379 = .ok (.invokestatic 376, 3) := dk_184 1 120 (dk_at dksX1_digest_16 0 rfl rfl)
theorem dX1_digest_382 : decode cX1_digest 382 = .ok (.aload_n 0, 1) := dk_42 (dk_at dksX1_digest_16 3 rfl rfl)
theorem dX1_digest_383 : decode cX1_digest 383 = .ok (.invokevirtual 386, 3) := dk_182 1 130 (dk_at dksX1_digest_16 4 rfl rfl)
theorem dX1_digest_386 : decode cX1_digest 386 = .ok (.invokestatic 194, 3) := dk_184 0 194 (dk_at dksX1_digest_16 7 rfl rfl)
theorem dX1_digest_389 : decode cX1_digest 389 = .ok (.i2l, 1) := dk_133 (dk_at dksX1_digest_16 10 rfl rfl)
theorem dX1_digest_390 : decode cX1_digest 390 = .ok (.invokestatic 376, 3) := dk_184 1 120 (dk_at dksX1_digest_16 11 rfl rfl)
theorem dX1_digest_393 : decode cX1_digest 393 = .ok (.lreturn, 1) := dk_173 (dk_at dksX1_digest_16 14 rfl rfl)
abbrev cX1_next : ByteArray := prog_1_method_79_code
def yX1_next : MethodName := ⟨RX1, "next", "(JJ)J"⟩
def dkwX1_next_0 : List UInt8 := [30, 20, 1, 116, 105, 32, 97, 173]
abbrev dktX1_next_0 : List UInt8 := dkwX1_next_0 ++ []
theorem dksX1_next_0 : cX1_next.data.toList.drop 0 = dktX1_next_0 := by decide +kernel
theorem dX1_next_0 : decode cX1_next 0 = .ok (.lload_n 0, 1) := dk_30 (dk_at dksX1_next_0 0 rfl rfl)
theorem dX1_next_1 : decode cX1_next 1 = .ok (.ldc2_w 372, 3) := dk_20 1 116 (dk_at dksX1_next_0 1 rfl rfl)
theorem dX1_next_4 : decode cX1_next 4 = .ok (.lmul, 1) := dk_105 (dk_at dksX1_next_0 4 rfl rfl)
theorem dX1_next_5 : decode cX1_next 5 = .ok (.lload_n 2, 1) := dk_32 (dk_at dksX1_next_0 5 rfl rfl)
theorem dX1_next_6 : decode cX1_next 6 = .ok (.ladd, 1) := dk_97 (dk_at dksX1_next_0 6 rfl rfl)
theorem dX1_next_7 : decode cX1_next 7 = .ok (.lreturn, 1) := dk_173 (dk_at dksX1_next_0 7 rfl rfl)
abbrev cX1_houseNow : ByteArray := prog_1_method_72_code
def yX1_houseNow : MethodName := ⟨RX1, "houseNow", "(I)I"⟩
def dkwX1_houseNow_2 : List UInt8 := [7, 160, 0, 13, 42, 180, 0, 97, 182, 0, 68, 167, 0, 7, 42, 182, 0, 226, 172]
abbrev dktX1_houseNow_2 : List UInt8 := dkwX1_houseNow_2 ++ []
def dkwX1_houseNow_1 : List UInt8 := [180, 0, 130, 167, 0, 7, 42, 180, 1, 96, 172, 27, 6, 160, 0, 10, 42, 180, 0, 93, 167, 0, 22, 27]
abbrev dktX1_houseNow_1 : List UInt8 := dkwX1_houseNow_1 ++ dktX1_houseNow_2
def dkwX1_houseNow_0 : List UInt8 := [27, 6, 162, 0, 31, 27, 154, 0, 10, 42, 180, 0, 127, 167, 0, 19, 27, 4, 160, 0, 10, 42]
abbrev dktX1_houseNow_0 : List UInt8 := dkwX1_houseNow_0 ++ dktX1_houseNow_1
theorem dksX1_houseNow_0 : cX1_houseNow.data.toList.drop 0 = dktX1_houseNow_0 := by decide +kernel
theorem dksX1_houseNow_1 : cX1_houseNow.data.toList.drop 22 = dktX1_houseNow_1 := dk_seg dksX1_houseNow_0 22 rfl rfl
theorem dksX1_houseNow_2 : cX1_houseNow.data.toList.drop 46 = dktX1_houseNow_2 := dk_seg dksX1_houseNow_1 24 rfl rfl
theorem dX1_houseNow_0 : decode cX1_houseNow 0 = .ok (.iload_n 1, 1) := dk_27 (dk_at dksX1_houseNow_0 0 rfl rfl)
theorem dX1_houseNow_1 : decode cX1_houseNow 1 = .ok (.iconst 3, 1) := dk_6 (dk_at dksX1_houseNow_0 1 rfl rfl)
theorem dX1_houseNow_2 : decode cX1_houseNow 2 = .ok (.if_icmp .ge 31, 3) := dk_162 0 31 (dk_at dksX1_houseNow_0 2 rfl rfl)
theorem dX1_houseNow_5 : decode cX1_houseNow 5 = .ok (.iload_n 1, 1) := dk_27 (dk_at dksX1_houseNow_0 5 rfl rfl)
theorem dX1_houseNow_6 : decode cX1_houseNow 6 = .ok (.ifCond .ne 10, 3) := dk_154 0 10 (dk_at dksX1_houseNow_0 6 rfl rfl)
theorem dX1_houseNow_9 : decode cX1_houseNow 9 = .ok (.aload_n 0, 1) := dk_42 (dk_at dksX1_houseNow_0 9 rfl rfl)
theorem dX1_houseNow_10 : decode cX1_houseNow 10 = .ok (.getfield 127, 3) := dk_180 0 127 (dk_at dksX1_houseNow_0 10 rfl rfl)
theorem dX1_houseNow_13 : decode cX1_houseNow 13 = .ok (.goto 19, 3) := dk_167 0 19 (dk_at dksX1_houseNow_0 13 rfl rfl)
theorem dX1_houseNow_16 : decode cX1_houseNow 16 = .ok (.iload_n 1, 1) := dk_27 (dk_at dksX1_houseNow_0 16 rfl rfl)
theorem dX1_houseNow_17 : decode cX1_houseNow 17 = .ok (.iconst 1, 1) := dk_4 (dk_at dksX1_houseNow_0 17 rfl rfl)
theorem dX1_houseNow_18 : decode cX1_houseNow 18 = .ok (.if_icmp .ne 10, 3) := dk_160 0 10 (dk_at dksX1_houseNow_0 18 rfl rfl)
theorem dX1_houseNow_21 : decode cX1_houseNow 21 = .ok (.aload_n 0, 1) := dk_42 (dk_at dksX1_houseNow_0 21 rfl rfl)
theorem dX1_houseNow_22 : decode cX1_houseNow 22 = .ok (.getfield 130, 3) := dk_180 0 130 (dk_at dksX1_houseNow_1 0 rfl rfl)
theorem dX1_houseNow_25 : decode cX1_houseNow 25 = .ok (.goto 7, 3) := dk_167 0 7 (dk_at dksX1_houseNow_1 3 rfl rfl)
theorem dX1_houseNow_28 : decode cX1_houseNow 28 = .ok (.aload_n 0, 1) := dk_42 (dk_at dksX1_houseNow_1 6 rfl rfl)
theorem dX1_houseNow_29 : decode cX1_houseNow 29 = .ok (.getfield 352, 3) := dk_180 1 96 (dk_at dksX1_houseNow_1 7 rfl rfl)
theorem dX1_houseNow_32 : decode cX1_houseNow 32 = .ok (.ireturn, 1) := dk_172 (dk_at dksX1_houseNow_1 10 rfl rfl)
theorem dX1_houseNow_33 : decode cX1_houseNow 33 = .ok (.iload_n 1, 1) := dk_27 (dk_at dksX1_houseNow_1 11 rfl rfl)
theorem dX1_houseNow_34 : decode cX1_houseNow 34 = .ok (.iconst 3, 1) := dk_6 (dk_at dksX1_houseNow_1 12 rfl rfl)
theorem dX1_houseNow_35 : decode cX1_houseNow 35 = .ok (.if_icmp .ne 10, 3) := dk_160 0 10 (dk_at dksX1_houseNow_1 13 rfl rfl)
theorem dX1_houseNow_38 : decode cX1_houseNow 38 = .ok (.aload_n 0, 1) := dk_42 (dk_at dksX1_houseNow_1 16 rfl rfl)
theorem dX1_houseNow_39 : decode cX1_houseNow 39 = .ok (.getfield 93, 3) := dk_180 0 93 (dk_at dksX1_houseNow_1 17 rfl rfl)
theorem dX1_houseNow_42 : decode cX1_houseNow 42 = .ok (.goto 22, 3) := dk_167 0 22 (dk_at dksX1_houseNow_1 20 rfl rfl)
theorem dX1_houseNow_45 : decode cX1_houseNow 45 = .ok (.iload_n 1, 1) := dk_27 (dk_at dksX1_houseNow_1 23 rfl rfl)
theorem dX1_houseNow_46 : decode cX1_houseNow 46 = .ok (.iconst 4, 1) := dk_7 (dk_at dksX1_houseNow_2 0 rfl rfl)
theorem dX1_houseNow_47 : decode cX1_houseNow 47 = .ok (.if_icmp .ne 13, 3) := dk_160 0 13 (dk_at dksX1_houseNow_2 1 rfl rfl)
theorem dX1_houseNow_50 : decode cX1_houseNow 50 = .ok (.aload_n 0, 1) := dk_42 (dk_at dksX1_houseNow_2 4 rfl rfl)
theorem dX1_houseNow_51 : decode cX1_houseNow 51 = .ok (.getfield 97, 3) := dk_180 0 97 (dk_at dksX1_houseNow_2 5 rfl rfl)
theorem dX1_houseNow_54 : decode cX1_houseNow 54 = .ok (.invokevirtual 68, 3) := dk_182 0 68 (dk_at dksX1_houseNow_2 8 rfl rfl)
theorem dX1_houseNow_57 : decode cX1_houseNow 57 = .ok (.goto 7, 3) := dk_167 0 7 (dk_at dksX1_houseNow_2 11 rfl rfl)
theorem dX1_houseNow_60 : decode cX1_houseNow 60 = .ok (.aload_n 0, 1) := dk_42 (dk_at dksX1_houseNow_2 14 rfl rfl)
theorem dX1_houseNow_61 : decode cX1_houseNow 61 = .ok (.invokevirtual 226, 3) := dk_182 0 226 (dk_at dksX1_houseNow_2 15 rfl rfl)
theorem dX1_houseNow_64 : decode cX1_houseNow 64 = .ok (.ireturn, 1) := dk_172 (dk_at dksX1_houseNow_2 18 rfl rfl)
abbrev cX1_all : ByteArray := prog_1_method_23_code
def yX1_all : MethodName := ⟨RX1, "all", "()I"⟩
def dkwX1_all_1 : List UInt8 := [44, 185, 0, 51, 1, 0, 192, 0, 134, 182, 0, 142, 62, 27, 29, 96, 60, 167, 255, 230, 27, 172]
abbrev dktX1_all_1 : List UInt8 := dkwX1_all_1 ++ []
def dkwX1_all_0 : List UInt8 := [3, 60, 42, 180, 0, 104, 182, 0, 159, 185, 0, 163, 1, 0, 77, 44, 185, 0, 45, 1, 0, 153, 0, 23]
abbrev dktX1_all_0 : List UInt8 := dkwX1_all_0 ++ dktX1_all_1
theorem dksX1_all_0 : cX1_all.data.toList.drop 0 = dktX1_all_0 := by decide +kernel
theorem dksX1_all_1 : cX1_all.data.toList.drop 24 = dktX1_all_1 := dk_seg dksX1_all_0 24 rfl rfl
theorem dX1_all_0 : decode cX1_all 0 = .ok (.iconst 0, 1) := dk_3 (dk_at dksX1_all_0 0 rfl rfl)
theorem dX1_all_1 : decode cX1_all 1 = .ok (.istore_n 1, 1) := dk_60 (dk_at dksX1_all_0 1 rfl rfl)
theorem dX1_all_2 : decode cX1_all 2 = .ok (.aload_n 0, 1) := dk_42 (dk_at dksX1_all_0 2 rfl rfl)
theorem dX1_all_3 : decode cX1_all 3 = .ok (.getfield 104, 3) := dk_180 0 104 (dk_at dksX1_all_0 3 rfl rfl)
theorem dX1_all_6 : decode cX1_all 6 = .ok (.invokevirtual 159, 3) := dk_182 0 159 (dk_at dksX1_all_0 6 rfl rfl)
theorem dX1_all_9 : decode cX1_all 9 = .ok (.invokeinterface 163 1, 5) := by decide +kernel
theorem dX1_all_14 : decode cX1_all 14 = .ok (.astore_n 2, 1) := dk_77 (dk_at dksX1_all_0 14 rfl rfl)
theorem dX1_all_15 : decode cX1_all 15 = .ok (.aload_n 2, 1) := dk_44 (dk_at dksX1_all_0 15 rfl rfl)
theorem dX1_all_16 : decode cX1_all 16 = .ok (.invokeinterface 45 1, 5) := by decide +kernel
theorem dX1_all_21 : decode cX1_all 21 = .ok (.ifCond .eq 23, 3) := dk_153 0 23 (dk_at dksX1_all_0 21 rfl rfl)
theorem dX1_all_24 : decode cX1_all 24 = .ok (.aload_n 2, 1) := dk_44 (dk_at dksX1_all_1 0 rfl rfl)
theorem dX1_all_25 : decode cX1_all 25 = .ok (.invokeinterface 51 1, 5) := by decide +kernel
theorem dX1_all_30 : decode cX1_all 30 = .ok (.checkcast 134, 3) := dk_192 0 134 (dk_at dksX1_all_1 6 rfl rfl)
theorem dX1_all_33 : decode cX1_all 33 = .ok (.invokevirtual 142, 3) := dk_182 0 142 (dk_at dksX1_all_1 9 rfl rfl)
theorem dX1_all_36 : decode cX1_all 36 = .ok (.istore_n 3, 1) := dk_62 (dk_at dksX1_all_1 12 rfl rfl)
theorem dX1_all_37 : decode cX1_all 37 = .ok (.iload_n 1, 1) := dk_27 (dk_at dksX1_all_1 13 rfl rfl)
theorem dX1_all_38 : decode cX1_all 38 = .ok (.iload_n 3, 1) := dk_29 (dk_at dksX1_all_1 14 rfl rfl)
theorem dX1_all_39 : decode cX1_all 39 = .ok (.iadd, 1) := dk_96 (dk_at dksX1_all_1 15 rfl rfl)
theorem dX1_all_40 : decode cX1_all 40 = .ok (.istore_n 1, 1) := dk_60 (dk_at dksX1_all_1 16 rfl rfl)
theorem dX1_all_41 : decode cX1_all 41 = .ok (.goto (-26), 3) := dk_167 255 230 (dk_at dksX1_all_1 17 rfl rfl)
theorem dX1_all_44 : decode cX1_all 44 = .ok (.iload_n 1, 1) := dk_27 (dk_at dksX1_all_1 20 rfl rfl)
theorem dX1_all_45 : decode cX1_all 45 = .ok (.ireturn, 1) := dk_172 (dk_at dksX1_all_1 21 rfl rfl)
abbrev cX1_begin : ByteArray := prog_1_method_26_code
def yX1_begin : MethodName := ⟨RX1, "begin", "(I)I"⟩
def dkwX1_begin_2 : List UInt8 := [188, 10, 83, 132, 3, 1, 167, 255, 239, 42, 28, 182, 0, 178, 172]
abbrev dktX1_begin_2 : List UInt8 := dkwX1_begin_2 ++ []
def dkwX1_begin_1 : List UInt8 := [182, 0, 174, 42, 180, 0, 104, 182, 0, 177, 3, 62, 29, 7, 162, 0, 18, 42, 180, 0, 109, 29, 27]
abbrev dktX1_begin_1 : List UInt8 := dkwX1_begin_1 ++ dktX1_begin_2
def dkwX1_begin_0 : List UInt8 := [27, 4, 16, 8, 184, 0, 119, 184, 0, 171, 42, 180, 0, 93, 61, 42, 27, 181, 0, 93, 42, 180, 0, 97]
abbrev dktX1_begin_0 : List UInt8 := dkwX1_begin_0 ++ dktX1_begin_1
theorem dksX1_begin_0 : cX1_begin.data.toList.drop 0 = dktX1_begin_0 := by decide +kernel
theorem dksX1_begin_1 : cX1_begin.data.toList.drop 24 = dktX1_begin_1 := dk_seg dksX1_begin_0 24 rfl rfl
theorem dksX1_begin_2 : cX1_begin.data.toList.drop 47 = dktX1_begin_2 := dk_seg dksX1_begin_1 23 rfl rfl
theorem dX1_begin_0 : decode cX1_begin 0 = .ok (.iload_n 1, 1) := dk_27 (dk_at dksX1_begin_0 0 rfl rfl)
theorem dX1_begin_1 : decode cX1_begin 1 = .ok (.iconst 1, 1) := dk_4 (dk_at dksX1_begin_0 1 rfl rfl)
theorem dX1_begin_2 : decode cX1_begin 2 = .ok (.bipush 8, 2) := dk_16 8 (dk_at dksX1_begin_0 2 rfl rfl)
theorem dX1_begin_4 : decode cX1_begin 4 = .ok (.invokestatic 119, 3) := dk_184 0 119 (dk_at dksX1_begin_0 4 rfl rfl)
theorem dX1_begin_7 : decode cX1_begin 7 = .ok (.invokestatic 171, 3) := dk_184 0 171 (dk_at dksX1_begin_0 7 rfl rfl)
theorem dX1_begin_10 : decode cX1_begin 10 = .ok (.aload_n 0, 1) := dk_42 (dk_at dksX1_begin_0 10 rfl rfl)
theorem dX1_begin_11 : decode cX1_begin 11 = .ok (.getfield 93, 3) := dk_180 0 93 (dk_at dksX1_begin_0 11 rfl rfl)
theorem dX1_begin_14 : decode cX1_begin 14 = .ok (.istore_n 2, 1) := dk_61 (dk_at dksX1_begin_0 14 rfl rfl)
theorem dX1_begin_15 : decode cX1_begin 15 = .ok (.aload_n 0, 1) := dk_42 (dk_at dksX1_begin_0 15 rfl rfl)
theorem dX1_begin_16 : decode cX1_begin 16 = .ok (.iload_n 1, 1) := dk_27 (dk_at dksX1_begin_0 16 rfl rfl)
theorem dX1_begin_17 : decode cX1_begin 17 = .ok (.putfield 93, 3) := dk_181 0 93 (dk_at dksX1_begin_0 17 rfl rfl)
theorem dX1_begin_20 : decode cX1_begin 20 = .ok (.aload_n 0, 1) := dk_42 (dk_at dksX1_begin_0 20 rfl rfl)
theorem dX1_begin_21 : decode cX1_begin 21 = .ok (.getfield 97, 3) := dk_180 0 97 (dk_at dksX1_begin_0 21 rfl rfl)
theorem dX1_begin_24 : decode cX1_begin 24 = .ok (.invokevirtual 174, 3) := dk_182 0 174 (dk_at dksX1_begin_1 0 rfl rfl)
theorem dX1_begin_27 : decode cX1_begin 27 = .ok (.aload_n 0, 1) := dk_42 (dk_at dksX1_begin_1 3 rfl rfl)
theorem dX1_begin_28 : decode cX1_begin 28 = .ok (.getfield 104, 3) := dk_180 0 104 (dk_at dksX1_begin_1 4 rfl rfl)
theorem dX1_begin_31 : decode cX1_begin 31 = .ok (.invokevirtual 177, 3) := dk_182 0 177 (dk_at dksX1_begin_1 7 rfl rfl)
theorem dX1_begin_34 : decode cX1_begin 34 = .ok (.iconst 0, 1) := dk_3 (dk_at dksX1_begin_1 10 rfl rfl)
theorem dX1_begin_35 : decode cX1_begin 35 = .ok (.istore_n 3, 1) := dk_62 (dk_at dksX1_begin_1 11 rfl rfl)
theorem dX1_begin_36 : decode cX1_begin 36 = .ok (.iload_n 3, 1) := dk_29 (dk_at dksX1_begin_1 12 rfl rfl)
theorem dX1_begin_37 : decode cX1_begin 37 = .ok (.iconst 4, 1) := dk_7 (dk_at dksX1_begin_1 13 rfl rfl)
theorem dX1_begin_38 : decode cX1_begin 38 = .ok (.if_icmp .ge 18, 3) := dk_162 0 18 (dk_at dksX1_begin_1 14 rfl rfl)
theorem dX1_begin_41 : decode cX1_begin 41 = .ok (.aload_n 0, 1) := dk_42 (dk_at dksX1_begin_1 17 rfl rfl)
theorem dX1_begin_42 : decode cX1_begin 42 = .ok (.getfield 109, 3) := dk_180 0 109 (dk_at dksX1_begin_1 18 rfl rfl)
theorem dX1_begin_45 : decode cX1_begin 45 = .ok (.iload_n 3, 1) := dk_29 (dk_at dksX1_begin_1 21 rfl rfl)
theorem dX1_begin_46 : decode cX1_begin 46 = .ok (.iload_n 1, 1) := dk_27 (dk_at dksX1_begin_1 22 rfl rfl)
theorem dX1_begin_47 : decode cX1_begin 47 = .ok (.newarray .int, 2) := dk_188_10 (dk_at dksX1_begin_2 0 rfl rfl)
theorem dX1_begin_49 : decode cX1_begin 49 = .ok (.aastore, 1) := dk_83 (dk_at dksX1_begin_2 2 rfl rfl)
theorem dX1_begin_50 : decode cX1_begin 50 = .ok (.iinc 3 1, 3) := dk_132 3 1 (dk_at dksX1_begin_2 3 rfl rfl)
theorem dX1_begin_53 : decode cX1_begin 53 = .ok (.goto (-17), 3) := dk_167 255 239 (dk_at dksX1_begin_2 6 rfl rfl)
theorem dX1_begin_56 : decode cX1_begin 56 = .ok (.aload_n 0, 1) := dk_42 (dk_at dksX1_begin_2 9 rfl rfl)
theorem dX1_begin_57 : decode cX1_begin 57 = .ok (.iload_n 2, 1) := dk_28 (dk_at dksX1_begin_2 10 rfl rfl)
theorem dX1_begin_58 : decode cX1_begin 58 = .ok (.invokevirtual 178, 3) := dk_182 0 178 (dk_at dksX1_begin_2 11 rfl rfl)
theorem dX1_begin_61 : decode cX1_begin 61 = .ok (.ireturn, 1) := dk_172 (dk_at dksX1_begin_2 14 rfl rfl)
abbrev cX1_isIn : ByteArray := prog_1_method_11_code
def yX1_isIn : MethodName := ⟨RX1, "isIn", "(III)Z"⟩
def dkwX1_isIn_0 : List UInt8 := [26, 27, 161, 0, 12, 26, 28, 163, 0, 7, 4, 167, 0, 4, 3, 172]
abbrev dktX1_isIn_0 : List UInt8 := dkwX1_isIn_0 ++ []
theorem dksX1_isIn_0 : cX1_isIn.data.toList.drop 0 = dktX1_isIn_0 := by decide +kernel
theorem dX1_isIn_0 : decode cX1_isIn 0 = .ok (.iload_n 0, 1) := dk_26 (dk_at dksX1_isIn_0 0 rfl rfl)
theorem dX1_isIn_1 : decode cX1_isIn 1 = .ok (.iload_n 1, 1) := dk_27 (dk_at dksX1_isIn_0 1 rfl rfl)
theorem dX1_isIn_2 : decode cX1_isIn 2 = .ok (.if_icmp .lt 12, 3) := dk_161 0 12 (dk_at dksX1_isIn_0 2 rfl rfl)
theorem dX1_isIn_5 : decode cX1_isIn 5 = .ok (.iload_n 0, 1) := dk_26 (dk_at dksX1_isIn_0 5 rfl rfl)
theorem dX1_isIn_6 : decode cX1_isIn 6 = .ok (.iload_n 2, 1) := dk_28 (dk_at dksX1_isIn_0 6 rfl rfl)
theorem dX1_isIn_7 : decode cX1_isIn 7 = .ok (.if_icmp .gt 7, 3) := dk_163 0 7 (dk_at dksX1_isIn_0 7 rfl rfl)
theorem dX1_isIn_10 : decode cX1_isIn 10 = .ok (.iconst 1, 1) := dk_4 (dk_at dksX1_isIn_0 10 rfl rfl)
theorem dX1_isIn_11 : decode cX1_isIn 11 = .ok (.goto 4, 3) := dk_167 0 4 (dk_at dksX1_isIn_0 11 rfl rfl)
theorem dX1_isIn_14 : decode cX1_isIn 14 = .ok (.iconst 0, 1) := dk_3 (dk_at dksX1_isIn_0 14 rfl rfl)
theorem dX1_isIn_15 : decode cX1_isIn 15 = .ok (.ireturn, 1) := dk_172 (dk_at dksX1_isIn_0 15 rfl rfl)
abbrev cX1_mustFit : ByteArray := prog_1_method_13_code
def yX1_mustFit : MethodName := ⟨RX1, "mustFit", "(Z)V"⟩
def dkwX1_mustFit_0 : List UInt8 := [26, 154, 0, 11, 187, 0, 116, 89, 183, 0, 118, 191, 177]
abbrev dktX1_mustFit_0 : List UInt8 := dkwX1_mustFit_0 ++ []
theorem dksX1_mustFit_0 : cX1_mustFit.data.toList.drop 0 = dktX1_mustFit_0 := by decide +kernel
theorem dX1_mustFit_0 : decode cX1_mustFit 0 = .ok (.iload_n 0, 1) := dk_26 (dk_at dksX1_mustFit_0 0 rfl rfl)
theorem dX1_mustFit_1 : decode cX1_mustFit 1 = .ok (.ifCond .ne 11, 3) := dk_154 0 11 (dk_at dksX1_mustFit_0 1 rfl rfl)
theorem dX1_mustFit_4 : decode cX1_mustFit 4 = .ok (.new 116, 3) := dk_187 0 116 (dk_at dksX1_mustFit_0 4 rfl rfl)
theorem dX1_mustFit_7 : decode cX1_mustFit 7 = .ok (.dup, 1) := dk_89 (dk_at dksX1_mustFit_0 7 rfl rfl)
theorem dX1_mustFit_8 : decode cX1_mustFit 8 = .ok (.invokespecial 118, 3) := dk_183 0 118 (dk_at dksX1_mustFit_0 8 rfl rfl)
theorem dX1_mustFit_11 : decode cX1_mustFit 11 = .ok (.athrow, 1) := dk_191 (dk_at dksX1_mustFit_0 11 rfl rfl)
theorem dX1_mustFit_12 : decode cX1_mustFit 12 = .ok (.return_, 1) := dk_177 (dk_at dksX1_mustFit_0 12 rfl rfl)
abbrev cX1_arc : ByteArray := prog_1_method_28_code
def yX1_arc : MethodName := ⟨RX1, "arc", "(IIII)I"⟩
def dkwX1_arc_4 : List UInt8 := [172]
abbrev dktX1_arc_4 : List UInt8 := dkwX1_arc_4 ++ []
def dkwX1_arc_3 : List UInt8 := [180, 0, 61, 28, 29, 79, 25, 5, 180, 0, 57, 28, 21, 4, 79, 42, 21, 6, 184, 0, 194, 182, 0, 178]
abbrev dktX1_arc_3 : List UInt8 := dkwX1_arc_3 ++ dktX1_arc_4
def dkwX1_arc_2 : List UInt8 := [160, 0, 15, 25, 5, 180, 0, 57, 28, 46, 21, 4, 159, 0, 7, 4, 167, 0, 4, 3, 54, 6, 25, 5]
abbrev dktX1_arc_2 : List UInt8 := dkwX1_arc_2 ++ dktX1_arc_3
def dkwX1_arc_1 : List UInt8 := [6, 184, 0, 119, 153, 0, 7, 4, 167, 0, 4, 3, 184, 0, 171, 25, 5, 180, 0, 61, 28, 46, 29]
abbrev dktX1_arc_1 : List UInt8 := dkwX1_arc_1 ++ dktX1_arc_2
def dkwX1_arc_0 : List UInt8 := [42, 27, 182, 0, 187, 58, 5, 42, 28, 182, 0, 191, 29, 3, 6, 184, 0, 119, 153, 0, 17, 21, 4, 3]
abbrev dktX1_arc_0 : List UInt8 := dkwX1_arc_0 ++ dktX1_arc_1
theorem dksX1_arc_0 : cX1_arc.data.toList.drop 0 = dktX1_arc_0 := by decide +kernel
theorem dksX1_arc_1 : cX1_arc.data.toList.drop 24 = dktX1_arc_1 := dk_seg dksX1_arc_0 24 rfl rfl
theorem dksX1_arc_2 : cX1_arc.data.toList.drop 47 = dktX1_arc_2 := dk_seg dksX1_arc_1 23 rfl rfl
theorem dksX1_arc_3 : cX1_arc.data.toList.drop 71 = dktX1_arc_3 := dk_seg dksX1_arc_2 24 rfl rfl
theorem dksX1_arc_4 : cX1_arc.data.toList.drop 95 = dktX1_arc_4 := dk_seg dksX1_arc_3 24 rfl rfl
theorem dX1_arc_0 : decode cX1_arc 0 = .ok (.aload_n 0, 1) := dk_42 (dk_at dksX1_arc_0 0 rfl rfl)
theorem dX1_arc_1 : decode cX1_arc 1 = .ok (.iload_n 1, 1) := dk_27 (dk_at dksX1_arc_0 1 rfl rfl)
theorem dX1_arc_2 : decode cX1_arc 2 = .ok (.invokevirtual 187, 3) := dk_182 0 187 (dk_at dksX1_arc_0 2 rfl rfl)
theorem dX1_arc_5 : decode cX1_arc 5 = .ok (.astore 5, 2) := dk_58 5 (dk_at dksX1_arc_0 5 rfl rfl)
theorem dX1_arc_7 : decode cX1_arc 7 = .ok (.aload_n 0, 1) := dk_42 (dk_at dksX1_arc_0 7 rfl rfl)
theorem dX1_arc_8 : decode cX1_arc 8 = .ok (.iload_n 2, 1) := dk_28 (dk_at dksX1_arc_0 8 rfl rfl)
theorem dX1_arc_9 : decode cX1_arc 9 = .ok (.invokevirtual 191, 3) := dk_182 0 191 (dk_at dksX1_arc_0 9 rfl rfl)
theorem dX1_arc_12 : decode cX1_arc 12 = .ok (.iload_n 3, 1) := dk_29 (dk_at dksX1_arc_0 12 rfl rfl)
theorem dX1_arc_13 : decode cX1_arc 13 = .ok (.iconst 0, 1) := dk_3 (dk_at dksX1_arc_0 13 rfl rfl)
theorem dX1_arc_14 : decode cX1_arc 14 = .ok (.iconst 3, 1) := dk_6 (dk_at dksX1_arc_0 14 rfl rfl)
theorem dX1_arc_15 : decode cX1_arc 15 = .ok (.invokestatic 119, 3) := dk_184 0 119 (dk_at dksX1_arc_0 15 rfl rfl)
theorem dX1_arc_18 : decode cX1_arc 18 = .ok (.ifCond .eq 17, 3) := dk_153 0 17 (dk_at dksX1_arc_0 18 rfl rfl)
theorem dX1_arc_21 : decode cX1_arc 21 = .ok (.iload 4, 2) := dk_21 4 (dk_at dksX1_arc_0 21 rfl rfl)
theorem dX1_arc_23 : decode cX1_arc 23 = .ok (.iconst 0, 1) := dk_3 (dk_at dksX1_arc_0 23 rfl rfl)
theorem dX1_arc_24 : decode cX1_arc 24 = .ok (.iconst 3, 1) := dk_6 (dk_at dksX1_arc_1 0 rfl rfl)
theorem dX1_arc_25 : decode cX1_arc 25 = .ok (.invokestatic 119, 3) := dk_184 0 119 (dk_at dksX1_arc_1 1 rfl rfl)
theorem dX1_arc_28 : decode cX1_arc 28 = .ok (.ifCond .eq 7, 3) := dk_153 0 7 (dk_at dksX1_arc_1 4 rfl rfl)
theorem dX1_arc_31 : decode cX1_arc 31 = .ok (.iconst 1, 1) := dk_4 (dk_at dksX1_arc_1 7 rfl rfl)
theorem dX1_arc_32 : decode cX1_arc 32 = .ok (.goto 4, 3) := dk_167 0 4 (dk_at dksX1_arc_1 8 rfl rfl)
theorem dX1_arc_35 : decode cX1_arc 35 = .ok (.iconst 0, 1) := dk_3 (dk_at dksX1_arc_1 11 rfl rfl)
theorem dX1_arc_36 : decode cX1_arc 36 = .ok (.invokestatic 171, 3) := dk_184 0 171 (dk_at dksX1_arc_1 12 rfl rfl)
theorem dX1_arc_39 : decode cX1_arc 39 = .ok (.aload 5, 2) := dk_25 5 (dk_at dksX1_arc_1 15 rfl rfl)
theorem dX1_arc_41 : decode cX1_arc 41 = .ok (.getfield 61, 3) := dk_180 0 61 (dk_at dksX1_arc_1 17 rfl rfl)
theorem dX1_arc_44 : decode cX1_arc 44 = .ok (.iload_n 2, 1) := dk_28 (dk_at dksX1_arc_1 20 rfl rfl)
theorem dX1_arc_45 : decode cX1_arc 45 = .ok (.iaload, 1) := dk_46 (dk_at dksX1_arc_1 21 rfl rfl)
theorem dX1_arc_46 : decode cX1_arc 46 = .ok (.iload_n 3, 1) := dk_29 (dk_at dksX1_arc_1 22 rfl rfl)
theorem dX1_arc_47 : decode cX1_arc 47 = .ok (.if_icmp .ne 15, 3) := dk_160 0 15 (dk_at dksX1_arc_2 0 rfl rfl)
theorem dX1_arc_50 : decode cX1_arc 50 = .ok (.aload 5, 2) := dk_25 5 (dk_at dksX1_arc_2 3 rfl rfl)
theorem dX1_arc_52 : decode cX1_arc 52 = .ok (.getfield 57, 3) := dk_180 0 57 (dk_at dksX1_arc_2 5 rfl rfl)
theorem dX1_arc_55 : decode cX1_arc 55 = .ok (.iload_n 2, 1) := dk_28 (dk_at dksX1_arc_2 8 rfl rfl)
theorem dX1_arc_56 : decode cX1_arc 56 = .ok (.iaload, 1) := dk_46 (dk_at dksX1_arc_2 9 rfl rfl)
theorem dX1_arc_57 : decode cX1_arc 57 = .ok (.iload 4, 2) := dk_21 4 (dk_at dksX1_arc_2 10 rfl rfl)
theorem dX1_arc_59 : decode cX1_arc 59 = .ok (.if_icmp .eq 7, 3) := dk_159 0 7 (dk_at dksX1_arc_2 12 rfl rfl)
theorem dX1_arc_62 : decode cX1_arc 62 = .ok (.iconst 1, 1) := dk_4 (dk_at dksX1_arc_2 15 rfl rfl)
theorem dX1_arc_63 : decode cX1_arc 63 = .ok (.goto 4, 3) := dk_167 0 4 (dk_at dksX1_arc_2 16 rfl rfl)
theorem dX1_arc_66 : decode cX1_arc 66 = .ok (.iconst 0, 1) := dk_3 (dk_at dksX1_arc_2 19 rfl rfl)
theorem dX1_arc_67 : decode cX1_arc 67 = .ok (.istore 6, 2) := dk_54 6 (dk_at dksX1_arc_2 20 rfl rfl)
theorem dX1_arc_69 : decode cX1_arc 69 = .ok (.aload 5, 2) := dk_25 5 (dk_at dksX1_arc_2 22 rfl rfl)
theorem dX1_arc_71 : decode cX1_arc 71 = .ok (.getfield 61, 3) := dk_180 0 61 (dk_at dksX1_arc_3 0 rfl rfl)
theorem dX1_arc_74 : decode cX1_arc 74 = .ok (.iload_n 2, 1) := dk_28 (dk_at dksX1_arc_3 3 rfl rfl)
theorem dX1_arc_75 : decode cX1_arc 75 = .ok (.iload_n 3, 1) := dk_29 (dk_at dksX1_arc_3 4 rfl rfl)
theorem dX1_arc_76 : decode cX1_arc 76 = .ok (.iastore, 1) := dk_79 (dk_at dksX1_arc_3 5 rfl rfl)
theorem dX1_arc_77 : decode cX1_arc 77 = .ok (.aload 5, 2) := dk_25 5 (dk_at dksX1_arc_3 6 rfl rfl)
theorem dX1_arc_79 : decode cX1_arc 79 = .ok (.getfield 57, 3) := dk_180 0 57 (dk_at dksX1_arc_3 8 rfl rfl)
theorem dX1_arc_82 : decode cX1_arc 82 = .ok (.iload_n 2, 1) := dk_28 (dk_at dksX1_arc_3 11 rfl rfl)
theorem dX1_arc_83 : decode cX1_arc 83 = .ok (.iload 4, 2) := dk_21 4 (dk_at dksX1_arc_3 12 rfl rfl)
theorem dX1_arc_85 : decode cX1_arc 85 = .ok (.iastore, 1) := dk_79 (dk_at dksX1_arc_3 14 rfl rfl)
theorem dX1_arc_86 : decode cX1_arc 86 = .ok (.aload_n 0, 1) := dk_42 (dk_at dksX1_arc_3 15 rfl rfl)
theorem dX1_arc_87 : decode cX1_arc 87 = .ok (.iload 6, 2) := dk_21 6 (dk_at dksX1_arc_3 16 rfl rfl)
theorem dX1_arc_89 : decode cX1_arc 89 = .ok (.invokestatic 194, 3) := dk_184 0 194 (dk_at dksX1_arc_3 18 rfl rfl)
theorem dX1_arc_92 : decode cX1_arc 92 = .ok (.invokevirtual 178, 3) := dk_182 0 178 (dk_at dksX1_arc_3 21 rfl rfl)
theorem dX1_arc_95 : decode cX1_arc 95 = .ok (.ireturn, 1) := dk_172 (dk_at dksX1_arc_4 0 rfl rfl)
abbrev cX1_its : ByteArray := prog_1_method_14_code
def yX1_its : MethodName := ⟨RX1, "its", "(I)LPebblegate$Step;"⟩
def dkwX1_its_1 : List UInt8 := [182, 0, 72, 192, 0, 55, 176]
abbrev dktX1_its_1 : List UInt8 := dkwX1_its_1 ++ []
def dkwX1_its_0 : List UInt8 := [27, 3, 42, 180, 0, 97, 182, 0, 68, 4, 100, 184, 0, 119, 184, 0, 123, 42, 180, 0, 97, 27]
abbrev dktX1_its_0 : List UInt8 := dkwX1_its_0 ++ dktX1_its_1
theorem dksX1_its_0 : cX1_its.data.toList.drop 0 = dktX1_its_0 := by decide +kernel
theorem dksX1_its_1 : cX1_its.data.toList.drop 22 = dktX1_its_1 := dk_seg dksX1_its_0 22 rfl rfl
theorem dX1_its_0 : decode cX1_its 0 = .ok (.iload_n 1, 1) := dk_27 (dk_at dksX1_its_0 0 rfl rfl)
theorem dX1_its_1 : decode cX1_its 1 = .ok (.iconst 0, 1) := dk_3 (dk_at dksX1_its_0 1 rfl rfl)
theorem dX1_its_2 : decode cX1_its 2 = .ok (.aload_n 0, 1) := dk_42 (dk_at dksX1_its_0 2 rfl rfl)
theorem dX1_its_3 : decode cX1_its 3 = .ok (.getfield 97, 3) := dk_180 0 97 (dk_at dksX1_its_0 3 rfl rfl)
theorem dX1_its_6 : decode cX1_its 6 = .ok (.invokevirtual 68, 3) := dk_182 0 68 (dk_at dksX1_its_0 6 rfl rfl)
theorem dX1_its_9 : decode cX1_its 9 = .ok (.iconst 1, 1) := dk_4 (dk_at dksX1_its_0 9 rfl rfl)
theorem dX1_its_10 : decode cX1_its 10 = .ok (.isub, 1) := dk_100 (dk_at dksX1_its_0 10 rfl rfl)
theorem dX1_its_11 : decode cX1_its 11 = .ok (.invokestatic 119, 3) := dk_184 0 119 (dk_at dksX1_its_0 11 rfl rfl)
theorem dX1_its_14 : decode cX1_its 14 = .ok (.invokestatic 123, 3) := dk_184 0 123 (dk_at dksX1_its_0 14 rfl rfl)
theorem dX1_its_17 : decode cX1_its 17 = .ok (.aload_n 0, 1) := dk_42 (dk_at dksX1_its_0 17 rfl rfl)
theorem dX1_its_18 : decode cX1_its 18 = .ok (.getfield 97, 3) := dk_180 0 97 (dk_at dksX1_its_0 18 rfl rfl)
theorem dX1_its_21 : decode cX1_its 21 = .ok (.iload_n 1, 1) := dk_27 (dk_at dksX1_its_0 21 rfl rfl)
theorem dX1_its_22 : decode cX1_its 22 = .ok (.invokevirtual 72, 3) := dk_182 0 72 (dk_at dksX1_its_1 0 rfl rfl)
theorem dX1_its_25 : decode cX1_its 25 = .ok (.checkcast 55, 3) := dk_192 0 55 (dk_at dksX1_its_1 3 rfl rfl)
theorem dX1_its_28 : decode cX1_its 28 = .ok (.areturn, 1) := dk_176 (dk_at dksX1_its_1 6 rfl rfl)
abbrev cX1_mustBe : ByteArray := prog_1_method_12_code
def yX1_mustBe : MethodName := ⟨RX1, "mustBe", "(Z)V"⟩
def dkwX1_mustBe_0 : List UInt8 := [26, 154, 0, 11, 187, 0, 113, 89, 183, 0, 115, 191, 177]
abbrev dktX1_mustBe_0 : List UInt8 := dkwX1_mustBe_0 ++ []
theorem dksX1_mustBe_0 : cX1_mustBe.data.toList.drop 0 = dktX1_mustBe_0 := by decide +kernel
theorem dX1_mustBe_0 : decode cX1_mustBe 0 = .ok (.iload_n 0, 1) := dk_26 (dk_at dksX1_mustBe_0 0 rfl rfl)
theorem dX1_mustBe_1 : decode cX1_mustBe 1 = .ok (.ifCond .ne 11, 3) := dk_154 0 11 (dk_at dksX1_mustBe_0 1 rfl rfl)
theorem dX1_mustBe_4 : decode cX1_mustBe 4 = .ok (.new 113, 3) := dk_187 0 113 (dk_at dksX1_mustBe_0 4 rfl rfl)
theorem dX1_mustBe_7 : decode cX1_mustBe 7 = .ok (.dup, 1) := dk_89 (dk_at dksX1_mustBe_0 7 rfl rfl)
theorem dX1_mustBe_8 : decode cX1_mustBe 8 = .ok (.invokespecial 115, 3) := dk_183 0 115 (dk_at dksX1_mustBe_0 8 rfl rfl)
theorem dX1_mustBe_11 : decode cX1_mustBe 11 = .ok (.athrow, 1) := dk_191 (dk_at dksX1_mustBe_0 11 rfl rfl)
theorem dX1_mustBe_12 : decode cX1_mustBe 12 = .ok (.return_, 1) := dk_177 (dk_at dksX1_mustBe_0 12 rfl rfl)
abbrev cX1_mustBePlace : ByteArray := prog_1_method_15_code
def yX1_mustBePlace : MethodName := ⟨RX1, "mustBePlace", "(I)V"⟩
def dkwX1_mustBePlace_0 : List UInt8 := [27, 3, 42, 180, 0, 93, 4, 100, 184, 0, 119, 184, 0, 123, 177]
abbrev dktX1_mustBePlace_0 : List UInt8 := dkwX1_mustBePlace_0 ++ []
theorem dksX1_mustBePlace_0 : cX1_mustBePlace.data.toList.drop 0 = dktX1_mustBePlace_0 := by decide +kernel
theorem dX1_mustBePlace_0 : decode cX1_mustBePlace 0 = .ok (.iload_n 1, 1) := dk_27 (dk_at dksX1_mustBePlace_0 0 rfl rfl)
theorem dX1_mustBePlace_1 : decode cX1_mustBePlace 1 = .ok (.iconst 0, 1) := dk_3 (dk_at dksX1_mustBePlace_0 1 rfl rfl)
theorem dX1_mustBePlace_2 : decode cX1_mustBePlace 2 = .ok (.aload_n 0, 1) := dk_42 (dk_at dksX1_mustBePlace_0 2 rfl rfl)
theorem dX1_mustBePlace_3 : decode cX1_mustBePlace 3 = .ok (.getfield 93, 3) := dk_180 0 93 (dk_at dksX1_mustBePlace_0 3 rfl rfl)
theorem dX1_mustBePlace_6 : decode cX1_mustBePlace 6 = .ok (.iconst 1, 1) := dk_4 (dk_at dksX1_mustBePlace_0 6 rfl rfl)
theorem dX1_mustBePlace_7 : decode cX1_mustBePlace 7 = .ok (.isub, 1) := dk_100 (dk_at dksX1_mustBePlace_0 7 rfl rfl)
theorem dX1_mustBePlace_8 : decode cX1_mustBePlace 8 = .ok (.invokestatic 119, 3) := dk_184 0 119 (dk_at dksX1_mustBePlace_0 8 rfl rfl)
theorem dX1_mustBePlace_11 : decode cX1_mustBePlace 11 = .ok (.invokestatic 123, 3) := dk_184 0 123 (dk_at dksX1_mustBePlace_0 11 rfl rfl)
theorem dX1_mustBePlace_14 : decode cX1_mustBePlace 14 = .ok (.return_, 1) := dk_177 (dk_at dksX1_mustBePlace_0 14 rfl rfl)
abbrev cX1_strike : ByteArray := prog_1_method_29_code
def yX1_strike : MethodName := ⟨RX1, "strike", "(I)I"⟩
def dkwX1_strike_1 : List UInt8 := [182, 0, 178, 172]
abbrev dktX1_strike_1 : List UInt8 := dkwX1_strike_1 ++ []
def dkwX1_strike_0 : List UInt8 := [42, 27, 182, 0, 187, 87, 42, 180, 0, 97, 27, 182, 0, 198, 87, 42, 42, 180, 0, 97, 182, 0, 68]
abbrev dktX1_strike_0 : List UInt8 := dkwX1_strike_0 ++ dktX1_strike_1
theorem dksX1_strike_0 : cX1_strike.data.toList.drop 0 = dktX1_strike_0 := by decide +kernel
theorem dksX1_strike_1 : cX1_strike.data.toList.drop 23 = dktX1_strike_1 := dk_seg dksX1_strike_0 23 rfl rfl
theorem dX1_strike_0 : decode cX1_strike 0 = .ok (.aload_n 0, 1) := dk_42 (dk_at dksX1_strike_0 0 rfl rfl)
theorem dX1_strike_1 : decode cX1_strike 1 = .ok (.iload_n 1, 1) := dk_27 (dk_at dksX1_strike_0 1 rfl rfl)
theorem dX1_strike_2 : decode cX1_strike 2 = .ok (.invokevirtual 187, 3) := dk_182 0 187 (dk_at dksX1_strike_0 2 rfl rfl)
theorem dX1_strike_5 : decode cX1_strike 5 = .ok (.pop, 1) := dk_87 (dk_at dksX1_strike_0 5 rfl rfl)
theorem dX1_strike_6 : decode cX1_strike 6 = .ok (.aload_n 0, 1) := dk_42 (dk_at dksX1_strike_0 6 rfl rfl)
theorem dX1_strike_7 : decode cX1_strike 7 = .ok (.getfield 97, 3) := dk_180 0 97 (dk_at dksX1_strike_0 7 rfl rfl)
theorem dX1_strike_10 : decode cX1_strike 10 = .ok (.iload_n 1, 1) := dk_27 (dk_at dksX1_strike_0 10 rfl rfl)
theorem dX1_strike_11 : decode cX1_strike 11 = .ok (.invokevirtual 198, 3) := dk_182 0 198 (dk_at dksX1_strike_0 11 rfl rfl)
theorem dX1_strike_14 : decode cX1_strike 14 = .ok (.pop, 1) := dk_87 (dk_at dksX1_strike_0 14 rfl rfl)
theorem dX1_strike_15 : decode cX1_strike 15 = .ok (.aload_n 0, 1) := dk_42 (dk_at dksX1_strike_0 15 rfl rfl)
theorem dX1_strike_16 : decode cX1_strike 16 = .ok (.aload_n 0, 1) := dk_42 (dk_at dksX1_strike_0 16 rfl rfl)
theorem dX1_strike_17 : decode cX1_strike 17 = .ok (.getfield 97, 3) := dk_180 0 97 (dk_at dksX1_strike_0 17 rfl rfl)
theorem dX1_strike_20 : decode cX1_strike 20 = .ok (.invokevirtual 68, 3) := dk_182 0 68 (dk_at dksX1_strike_0 20 rfl rfl)
theorem dX1_strike_23 : decode cX1_strike 23 = .ok (.invokevirtual 178, 3) := dk_182 0 178 (dk_at dksX1_strike_1 0 rfl rfl)
theorem dX1_strike_26 : decode cX1_strike 26 = .ok (.ireturn, 1) := dk_172 (dk_at dksX1_strike_1 3 rfl rfl)
abbrev cX1_set : ByteArray := prog_1_method_32_code
def yX1_set : MethodName := ⟨RX1, "set", "(II)I"⟩
def dkwX1_set_1 : List UInt8 := [182, 0, 156, 42, 29, 182, 0, 178, 172]
abbrev dktX1_set_1 : List UInt8 := dkwX1_set_1 ++ []
def dkwX1_set_0 : List UInt8 := [42, 27, 182, 0, 191, 28, 3, 16, 99, 184, 0, 119, 184, 0, 171, 42, 27, 182, 0, 152, 62, 42, 27, 28]
abbrev dktX1_set_0 : List UInt8 := dkwX1_set_0 ++ dktX1_set_1
theorem dksX1_set_0 : cX1_set.data.toList.drop 0 = dktX1_set_0 := by decide +kernel
theorem dksX1_set_1 : cX1_set.data.toList.drop 24 = dktX1_set_1 := dk_seg dksX1_set_0 24 rfl rfl
theorem dX1_set_0 : decode cX1_set 0 = .ok (.aload_n 0, 1) := dk_42 (dk_at dksX1_set_0 0 rfl rfl)
theorem dX1_set_1 : decode cX1_set 1 = .ok (.iload_n 1, 1) := dk_27 (dk_at dksX1_set_0 1 rfl rfl)
theorem dX1_set_2 : decode cX1_set 2 = .ok (.invokevirtual 191, 3) := dk_182 0 191 (dk_at dksX1_set_0 2 rfl rfl)
theorem dX1_set_5 : decode cX1_set 5 = .ok (.iload_n 2, 1) := dk_28 (dk_at dksX1_set_0 5 rfl rfl)
theorem dX1_set_6 : decode cX1_set 6 = .ok (.iconst 0, 1) := dk_3 (dk_at dksX1_set_0 6 rfl rfl)
theorem dX1_set_7 : decode cX1_set 7 = .ok (.bipush 99, 2) := dk_16 99 (dk_at dksX1_set_0 7 rfl rfl)
theorem dX1_set_9 : decode cX1_set 9 = .ok (.invokestatic 119, 3) := dk_184 0 119 (dk_at dksX1_set_0 9 rfl rfl)
theorem dX1_set_12 : decode cX1_set 12 = .ok (.invokestatic 171, 3) := dk_184 0 171 (dk_at dksX1_set_0 12 rfl rfl)
theorem dX1_set_15 : decode cX1_set 15 = .ok (.aload_n 0, 1) := dk_42 (dk_at dksX1_set_0 15 rfl rfl)
theorem dX1_set_16 : decode cX1_set 16 = .ok (.iload_n 1, 1) := dk_27 (dk_at dksX1_set_0 16 rfl rfl)
theorem dX1_set_17 : decode cX1_set 17 = .ok (.invokevirtual 152, 3) := dk_182 0 152 (dk_at dksX1_set_0 17 rfl rfl)
theorem dX1_set_20 : decode cX1_set 20 = .ok (.istore_n 3, 1) := dk_62 (dk_at dksX1_set_0 20 rfl rfl)
theorem dX1_set_21 : decode cX1_set 21 = .ok (.aload_n 0, 1) := dk_42 (dk_at dksX1_set_0 21 rfl rfl)
theorem dX1_set_22 : decode cX1_set 22 = .ok (.iload_n 1, 1) := dk_27 (dk_at dksX1_set_0 22 rfl rfl)
theorem dX1_set_23 : decode cX1_set 23 = .ok (.iload_n 2, 1) := dk_28 (dk_at dksX1_set_0 23 rfl rfl)
theorem dX1_set_24 : decode cX1_set 24 = .ok (.invokevirtual 156, 3) := dk_182 0 156 (dk_at dksX1_set_1 0 rfl rfl)
theorem dX1_set_27 : decode cX1_set 27 = .ok (.aload_n 0, 1) := dk_42 (dk_at dksX1_set_1 3 rfl rfl)
theorem dX1_set_28 : decode cX1_set 28 = .ok (.iload_n 3, 1) := dk_29 (dk_at dksX1_set_1 4 rfl rfl)
theorem dX1_set_29 : decode cX1_set 29 = .ok (.invokevirtual 178, 3) := dk_182 0 178 (dk_at dksX1_set_1 5 rfl rfl)
theorem dX1_set_32 : decode cX1_set 32 = .ok (.ireturn, 1) := dk_172 (dk_at dksX1_set_1 8 rfl rfl)
abbrev cX1_lay : ByteArray := prog_1_method_20_code
def yX1_lay : MethodName := ⟨RX1, "lay", "(II)V"⟩
def dkwX1_lay_1 : List UInt8 := [184, 0, 133, 28, 184, 0, 133, 182, 0, 148, 87, 177]
abbrev dktX1_lay_1 : List UInt8 := dkwX1_lay_1 ++ []
def dkwX1_lay_0 : List UInt8 := [28, 154, 0, 18, 42, 180, 0, 104, 27, 184, 0, 133, 182, 0, 145, 87, 167, 0, 19, 42, 180, 0, 104, 27]
abbrev dktX1_lay_0 : List UInt8 := dkwX1_lay_0 ++ dktX1_lay_1
theorem dksX1_lay_0 : cX1_lay.data.toList.drop 0 = dktX1_lay_0 := by decide +kernel
theorem dksX1_lay_1 : cX1_lay.data.toList.drop 24 = dktX1_lay_1 := dk_seg dksX1_lay_0 24 rfl rfl
theorem dX1_lay_0 : decode cX1_lay 0 = .ok (.iload_n 2, 1) := dk_28 (dk_at dksX1_lay_0 0 rfl rfl)
theorem dX1_lay_1 : decode cX1_lay 1 = .ok (.ifCond .ne 18, 3) := dk_154 0 18 (dk_at dksX1_lay_0 1 rfl rfl)
theorem dX1_lay_4 : decode cX1_lay 4 = .ok (.aload_n 0, 1) := dk_42 (dk_at dksX1_lay_0 4 rfl rfl)
theorem dX1_lay_5 : decode cX1_lay 5 = .ok (.getfield 104, 3) := dk_180 0 104 (dk_at dksX1_lay_0 5 rfl rfl)
theorem dX1_lay_8 : decode cX1_lay 8 = .ok (.iload_n 1, 1) := dk_27 (dk_at dksX1_lay_0 8 rfl rfl)
theorem dX1_lay_9 : decode cX1_lay 9 = .ok (.invokestatic 133, 3) := dk_184 0 133 (dk_at dksX1_lay_0 9 rfl rfl)
theorem dX1_lay_12 : decode cX1_lay 12 = .ok (.invokevirtual 145, 3) := dk_182 0 145 (dk_at dksX1_lay_0 12 rfl rfl)
theorem dX1_lay_15 : decode cX1_lay 15 = .ok (.pop, 1) := dk_87 (dk_at dksX1_lay_0 15 rfl rfl)
theorem dX1_lay_16 : decode cX1_lay 16 = .ok (.goto 19, 3) := dk_167 0 19 (dk_at dksX1_lay_0 16 rfl rfl)
theorem dX1_lay_19 : decode cX1_lay 19 = .ok (.aload_n 0, 1) := dk_42 (dk_at dksX1_lay_0 19 rfl rfl)
theorem dX1_lay_20 : decode cX1_lay 20 = .ok (.getfield 104, 3) := dk_180 0 104 (dk_at dksX1_lay_0 20 rfl rfl)
theorem dX1_lay_23 : decode cX1_lay 23 = .ok (.iload_n 1, 1) := dk_27 (dk_at dksX1_lay_0 23 rfl rfl)
theorem dX1_lay_24 : decode cX1_lay 24 = .ok (.invokestatic 133, 3) := dk_184 0 133 (dk_at dksX1_lay_1 0 rfl rfl)
theorem dX1_lay_27 : decode cX1_lay 27 = .ok (.iload_n 2, 1) := dk_28 (dk_at dksX1_lay_1 3 rfl rfl)
theorem dX1_lay_28 : decode cX1_lay 28 = .ok (.invokestatic 133, 3) := dk_184 0 133 (dk_at dksX1_lay_1 4 rfl rfl)
theorem dX1_lay_31 : decode cX1_lay 31 = .ok (.invokevirtual 148, 3) := dk_182 0 148 (dk_at dksX1_lay_1 7 rfl rfl)
theorem dX1_lay_34 : decode cX1_lay 34 = .ok (.pop, 1) := dk_87 (dk_at dksX1_lay_1 10 rfl rfl)
theorem dX1_lay_35 : decode cX1_lay 35 = .ok (.return_, 1) := dk_177 (dk_at dksX1_lay_1 11 rfl rfl)
abbrev cX1_add : ByteArray := prog_1_method_33_code
def yX1_add : MethodName := ⟨RX1, "add", "(II)I"⟩
def dkwX1_add_2 : List UInt8 := [182, 0, 156, 42, 42, 27, 182, 0, 152, 182, 0, 178, 172]
abbrev dktX1_add_2 : List UInt8 := dkwX1_add_2 ++ []
def dkwX1_add_1 : List UInt8 := [16, 99, 184, 0, 119, 154, 0, 8, 42, 182, 0, 181, 172, 42, 27, 42, 27, 182, 0, 152, 28, 96]
abbrev dktX1_add_1 : List UInt8 := dkwX1_add_1 ++ dktX1_add_2
def dkwX1_add_0 : List UInt8 := [42, 27, 182, 0, 191, 28, 16, 157, 16, 99, 184, 0, 119, 184, 0, 171, 42, 27, 182, 0, 152, 28, 96, 3]
abbrev dktX1_add_0 : List UInt8 := dkwX1_add_0 ++ dktX1_add_1
theorem dksX1_add_0 : cX1_add.data.toList.drop 0 = dktX1_add_0 := by decide +kernel
theorem dksX1_add_1 : cX1_add.data.toList.drop 24 = dktX1_add_1 := dk_seg dksX1_add_0 24 rfl rfl
theorem dksX1_add_2 : cX1_add.data.toList.drop 46 = dktX1_add_2 := dk_seg dksX1_add_1 22 rfl rfl
theorem dX1_add_0 : decode cX1_add 0 = .ok (.aload_n 0, 1) := dk_42 (dk_at dksX1_add_0 0 rfl rfl)
theorem dX1_add_1 : decode cX1_add 1 = .ok (.iload_n 1, 1) := dk_27 (dk_at dksX1_add_0 1 rfl rfl)
theorem dX1_add_2 : decode cX1_add 2 = .ok (.invokevirtual 191, 3) := dk_182 0 191 (dk_at dksX1_add_0 2 rfl rfl)
theorem dX1_add_5 : decode cX1_add 5 = .ok (.iload_n 2, 1) := dk_28 (dk_at dksX1_add_0 5 rfl rfl)
theorem dX1_add_6 : decode cX1_add 6 = .ok (.bipush (-99), 2) := dk_16 157 (dk_at dksX1_add_0 6 rfl rfl)
theorem dX1_add_8 : decode cX1_add 8 = .ok (.bipush 99, 2) := dk_16 99 (dk_at dksX1_add_0 8 rfl rfl)
theorem dX1_add_10 : decode cX1_add 10 = .ok (.invokestatic 119, 3) := dk_184 0 119 (dk_at dksX1_add_0 10 rfl rfl)
theorem dX1_add_13 : decode cX1_add 13 = .ok (.invokestatic 171, 3) := dk_184 0 171 (dk_at dksX1_add_0 13 rfl rfl)
theorem dX1_add_16 : decode cX1_add 16 = .ok (.aload_n 0, 1) := dk_42 (dk_at dksX1_add_0 16 rfl rfl)
theorem dX1_add_17 : decode cX1_add 17 = .ok (.iload_n 1, 1) := dk_27 (dk_at dksX1_add_0 17 rfl rfl)
theorem dX1_add_18 : decode cX1_add 18 = .ok (.invokevirtual 152, 3) := dk_182 0 152 (dk_at dksX1_add_0 18 rfl rfl)
theorem dX1_add_21 : decode cX1_add 21 = .ok (.iload_n 2, 1) := dk_28 (dk_at dksX1_add_0 21 rfl rfl)
theorem dX1_add_22 : decode cX1_add 22 = .ok (.iadd, 1) := dk_96 (dk_at dksX1_add_0 22 rfl rfl)
theorem dX1_add_23 : decode cX1_add 23 = .ok (.iconst 0, 1) := dk_3 (dk_at dksX1_add_0 23 rfl rfl)
theorem dX1_add_24 : decode cX1_add 24 = .ok (.bipush 99, 2) := dk_16 99 (dk_at dksX1_add_1 0 rfl rfl)
theorem dX1_add_26 : decode cX1_add 26 = .ok (.invokestatic 119, 3) := dk_184 0 119 (dk_at dksX1_add_1 2 rfl rfl)
theorem dX1_add_29 : decode cX1_add 29 = .ok (.ifCond .ne 8, 3) := dk_154 0 8 (dk_at dksX1_add_1 5 rfl rfl)
theorem dX1_add_32 : decode cX1_add 32 = .ok (.aload_n 0, 1) := dk_42 (dk_at dksX1_add_1 8 rfl rfl)
theorem dX1_add_33 : decode cX1_add 33 = .ok (.invokevirtual 181, 3) := dk_182 0 181 (dk_at dksX1_add_1 9 rfl rfl)
theorem dX1_add_36 : decode cX1_add 36 = .ok (.ireturn, 1) := dk_172 (dk_at dksX1_add_1 12 rfl rfl)
theorem dX1_add_37 : decode cX1_add 37 = .ok (.aload_n 0, 1) := dk_42 (dk_at dksX1_add_1 13 rfl rfl)
theorem dX1_add_38 : decode cX1_add 38 = .ok (.iload_n 1, 1) := dk_27 (dk_at dksX1_add_1 14 rfl rfl)
theorem dX1_add_39 : decode cX1_add 39 = .ok (.aload_n 0, 1) := dk_42 (dk_at dksX1_add_1 15 rfl rfl)
theorem dX1_add_40 : decode cX1_add 40 = .ok (.iload_n 1, 1) := dk_27 (dk_at dksX1_add_1 16 rfl rfl)
theorem dX1_add_41 : decode cX1_add 41 = .ok (.invokevirtual 152, 3) := dk_182 0 152 (dk_at dksX1_add_1 17 rfl rfl)
theorem dX1_add_44 : decode cX1_add 44 = .ok (.iload_n 2, 1) := dk_28 (dk_at dksX1_add_1 20 rfl rfl)
theorem dX1_add_45 : decode cX1_add 45 = .ok (.iadd, 1) := dk_96 (dk_at dksX1_add_1 21 rfl rfl)
theorem dX1_add_46 : decode cX1_add 46 = .ok (.invokevirtual 156, 3) := dk_182 0 156 (dk_at dksX1_add_2 0 rfl rfl)
theorem dX1_add_49 : decode cX1_add 49 = .ok (.aload_n 0, 1) := dk_42 (dk_at dksX1_add_2 3 rfl rfl)
theorem dX1_add_50 : decode cX1_add 50 = .ok (.aload_n 0, 1) := dk_42 (dk_at dksX1_add_2 4 rfl rfl)
theorem dX1_add_51 : decode cX1_add 51 = .ok (.iload_n 1, 1) := dk_27 (dk_at dksX1_add_2 5 rfl rfl)
theorem dX1_add_52 : decode cX1_add 52 = .ok (.invokevirtual 152, 3) := dk_182 0 152 (dk_at dksX1_add_2 6 rfl rfl)
theorem dX1_add_55 : decode cX1_add 55 = .ok (.invokevirtual 178, 3) := dk_182 0 178 (dk_at dksX1_add_2 9 rfl rfl)
theorem dX1_add_58 : decode cX1_add 58 = .ok (.ireturn, 1) := dk_172 (dk_at dksX1_add_2 12 rfl rfl)
abbrev cX1_go : ByteArray := prog_1_method_35_code
def yX1_go : MethodName := ⟨RX1, "go", "(I)I"⟩
def dkwX1_go_0 : List UInt8 := [42, 42, 27, 182, 0, 187, 182, 0, 229, 172]
abbrev dktX1_go_0 : List UInt8 := dkwX1_go_0 ++ []
theorem dksX1_go_0 : cX1_go.data.toList.drop 0 = dktX1_go_0 := by decide +kernel
theorem dX1_go_0 : decode cX1_go 0 = .ok (.aload_n 0, 1) := dk_42 (dk_at dksX1_go_0 0 rfl rfl)
theorem dX1_go_1 : decode cX1_go 1 = .ok (.aload_n 0, 1) := dk_42 (dk_at dksX1_go_0 1 rfl rfl)
theorem dX1_go_2 : decode cX1_go 2 = .ok (.iload_n 1, 1) := dk_27 (dk_at dksX1_go_0 2 rfl rfl)
theorem dX1_go_3 : decode cX1_go 3 = .ok (.invokevirtual 187, 3) := dk_182 0 187 (dk_at dksX1_go_0 3 rfl rfl)
theorem dX1_go_6 : decode cX1_go 6 = .ok (.invokevirtual 229, 3) := dk_182 0 229 (dk_at dksX1_go_0 6 rfl rfl)
theorem dX1_go_9 : decode cX1_go 9 = .ok (.ireturn, 1) := dk_172 (dk_at dksX1_go_0 9 rfl rfl)
abbrev cX1_goBy : ByteArray := prog_1_method_34_code
def yX1_goBy : MethodName := ⟨RX1, "goBy", "(LPebblegate$Step;)I"⟩
def dkwX1_goBy_2 : List UInt8 := [182, 0, 178, 172]
abbrev dktX1_goBy_2 : List UInt8 := dkwX1_goBy_2 ++ []
def dkwX1_goBy_1 : List UInt8 := [77, 44, 184, 0, 219, 154, 0, 8, 42, 182, 0, 181, 172, 42, 44, 182, 0, 222, 42, 42, 182, 0, 226]
abbrev dktX1_goBy_1 : List UInt8 := dkwX1_goBy_1 ++ dktX1_goBy_2
def dkwX1_goBy_0 : List UInt8 := [43, 42, 182, 0, 207, 182, 0, 211, 154, 0, 8, 42, 182, 0, 181, 172, 43, 42, 182, 0, 207, 182, 0, 215]
abbrev dktX1_goBy_0 : List UInt8 := dkwX1_goBy_0 ++ dktX1_goBy_1
theorem dksX1_goBy_0 : cX1_goBy.data.toList.drop 0 = dktX1_goBy_0 := by decide +kernel
theorem dksX1_goBy_1 : cX1_goBy.data.toList.drop 24 = dktX1_goBy_1 := dk_seg dksX1_goBy_0 24 rfl rfl
theorem dksX1_goBy_2 : cX1_goBy.data.toList.drop 47 = dktX1_goBy_2 := dk_seg dksX1_goBy_1 23 rfl rfl
theorem dX1_goBy_0 : decode cX1_goBy 0 = .ok (.aload_n 1, 1) := dk_43 (dk_at dksX1_goBy_0 0 rfl rfl)
theorem dX1_goBy_1 : decode cX1_goBy 1 = .ok (.aload_n 0, 1) := dk_42 (dk_at dksX1_goBy_0 1 rfl rfl)
theorem dX1_goBy_2 : decode cX1_goBy 2 = .ok (.invokevirtual 207, 3) := dk_182 0 207 (dk_at dksX1_goBy_0 2 rfl rfl)
theorem dX1_goBy_5 : decode cX1_goBy 5 = .ok (.invokevirtual 211, 3) := dk_182 0 211 (dk_at dksX1_goBy_0 5 rfl rfl)
theorem dX1_goBy_8 : decode cX1_goBy 8 = .ok (.ifCond .ne 8, 3) := dk_154 0 8 (dk_at dksX1_goBy_0 8 rfl rfl)
theorem dX1_goBy_11 : decode cX1_goBy 11 = .ok (.aload_n 0, 1) := dk_42 (dk_at dksX1_goBy_0 11 rfl rfl)
theorem dX1_goBy_12 : decode cX1_goBy 12 = .ok (.invokevirtual 181, 3) := dk_182 0 181 (dk_at dksX1_goBy_0 12 rfl rfl)
theorem dX1_goBy_15 : decode cX1_goBy 15 = .ok (.ireturn, 1) := dk_172 (dk_at dksX1_goBy_0 15 rfl rfl)
theorem dX1_goBy_16 : decode cX1_goBy 16 = .ok (.aload_n 1, 1) := dk_43 (dk_at dksX1_goBy_0 16 rfl rfl)
theorem dX1_goBy_17 : decode cX1_goBy 17 = .ok (.aload_n 0, 1) := dk_42 (dk_at dksX1_goBy_0 17 rfl rfl)
theorem dX1_goBy_18 : decode cX1_goBy 18 = .ok (.invokevirtual 207, 3) := dk_182 0 207 (dk_at dksX1_goBy_0 18 rfl rfl)
theorem dX1_goBy_21 : decode cX1_goBy 21 = .ok (.invokevirtual 215, 3) := dk_182 0 215 (dk_at dksX1_goBy_0 21 rfl rfl)
theorem dX1_goBy_24 : decode cX1_goBy 24 = .ok (.astore_n 2, 1) := dk_77 (dk_at dksX1_goBy_1 0 rfl rfl)
theorem dX1_goBy_25 : decode cX1_goBy 25 = .ok (.aload_n 2, 1) := dk_44 (dk_at dksX1_goBy_1 1 rfl rfl)
theorem dX1_goBy_26 : decode cX1_goBy 26 = .ok (.invokestatic 219, 3) := dk_184 0 219 (dk_at dksX1_goBy_1 2 rfl rfl)
theorem dX1_goBy_29 : decode cX1_goBy 29 = .ok (.ifCond .ne 8, 3) := dk_154 0 8 (dk_at dksX1_goBy_1 5 rfl rfl)
theorem dX1_goBy_32 : decode cX1_goBy 32 = .ok (.aload_n 0, 1) := dk_42 (dk_at dksX1_goBy_1 8 rfl rfl)
theorem dX1_goBy_33 : decode cX1_goBy 33 = .ok (.invokevirtual 181, 3) := dk_182 0 181 (dk_at dksX1_goBy_1 9 rfl rfl)
theorem dX1_goBy_36 : decode cX1_goBy 36 = .ok (.ireturn, 1) := dk_172 (dk_at dksX1_goBy_1 12 rfl rfl)
theorem dX1_goBy_37 : decode cX1_goBy 37 = .ok (.aload_n 0, 1) := dk_42 (dk_at dksX1_goBy_1 13 rfl rfl)
theorem dX1_goBy_38 : decode cX1_goBy 38 = .ok (.aload_n 2, 1) := dk_44 (dk_at dksX1_goBy_1 14 rfl rfl)
theorem dX1_goBy_39 : decode cX1_goBy 39 = .ok (.invokevirtual 222, 3) := dk_182 0 222 (dk_at dksX1_goBy_1 15 rfl rfl)
theorem dX1_goBy_42 : decode cX1_goBy 42 = .ok (.aload_n 0, 1) := dk_42 (dk_at dksX1_goBy_1 18 rfl rfl)
theorem dX1_goBy_43 : decode cX1_goBy 43 = .ok (.aload_n 0, 1) := dk_42 (dk_at dksX1_goBy_1 19 rfl rfl)
theorem dX1_goBy_44 : decode cX1_goBy 44 = .ok (.invokevirtual 226, 3) := dk_182 0 226 (dk_at dksX1_goBy_1 20 rfl rfl)
theorem dX1_goBy_47 : decode cX1_goBy 47 = .ok (.invokevirtual 178, 3) := dk_182 0 178 (dk_at dksX1_goBy_2 0 rfl rfl)
theorem dX1_goBy_50 : decode cX1_goBy 50 = .ok (.ireturn, 1) := dk_172 (dk_at dksX1_goBy_2 3 rfl rfl)
abbrev cX1_become : ByteArray := prog_1_method_22_code
def yX1_become : MethodName := ⟨RX1, "become", "([I)V"⟩
def dkwX1_become_1 : List UInt8 := [177]
abbrev dktX1_become_1 : List UInt8 := dkwX1_become_1 ++ []
def dkwX1_become_0 : List UInt8 := [3, 61, 28, 42, 180, 0, 93, 162, 0, 17, 42, 28, 43, 28, 46, 182, 0, 156, 132, 2, 1, 167, 255, 237]
abbrev dktX1_become_0 : List UInt8 := dkwX1_become_0 ++ dktX1_become_1
theorem dksX1_become_0 : cX1_become.data.toList.drop 0 = dktX1_become_0 := by decide +kernel
theorem dksX1_become_1 : cX1_become.data.toList.drop 24 = dktX1_become_1 := dk_seg dksX1_become_0 24 rfl rfl
theorem dX1_become_0 : decode cX1_become 0 = .ok (.iconst 0, 1) := dk_3 (dk_at dksX1_become_0 0 rfl rfl)
theorem dX1_become_1 : decode cX1_become 1 = .ok (.istore_n 2, 1) := dk_61 (dk_at dksX1_become_0 1 rfl rfl)
theorem dX1_become_2 : decode cX1_become 2 = .ok (.iload_n 2, 1) := dk_28 (dk_at dksX1_become_0 2 rfl rfl)
theorem dX1_become_3 : decode cX1_become 3 = .ok (.aload_n 0, 1) := dk_42 (dk_at dksX1_become_0 3 rfl rfl)
theorem dX1_become_4 : decode cX1_become 4 = .ok (.getfield 93, 3) := dk_180 0 93 (dk_at dksX1_become_0 4 rfl rfl)
theorem dX1_become_7 : decode cX1_become 7 = .ok (.if_icmp .ge 17, 3) := dk_162 0 17 (dk_at dksX1_become_0 7 rfl rfl)
theorem dX1_become_10 : decode cX1_become 10 = .ok (.aload_n 0, 1) := dk_42 (dk_at dksX1_become_0 10 rfl rfl)
theorem dX1_become_11 : decode cX1_become 11 = .ok (.iload_n 2, 1) := dk_28 (dk_at dksX1_become_0 11 rfl rfl)
theorem dX1_become_12 : decode cX1_become 12 = .ok (.aload_n 1, 1) := dk_43 (dk_at dksX1_become_0 12 rfl rfl)
theorem dX1_become_13 : decode cX1_become 13 = .ok (.iload_n 2, 1) := dk_28 (dk_at dksX1_become_0 13 rfl rfl)
theorem dX1_become_14 : decode cX1_become 14 = .ok (.iaload, 1) := dk_46 (dk_at dksX1_become_0 14 rfl rfl)
theorem dX1_become_15 : decode cX1_become 15 = .ok (.invokevirtual 156, 3) := dk_182 0 156 (dk_at dksX1_become_0 15 rfl rfl)
theorem dX1_become_18 : decode cX1_become 18 = .ok (.iinc 2 1, 3) := dk_132 2 1 (dk_at dksX1_become_0 18 rfl rfl)
theorem dX1_become_21 : decode cX1_become 21 = .ok (.goto (-19), 3) := dk_167 255 237 (dk_at dksX1_become_0 21 rfl rfl)
theorem dX1_become_24 : decode cX1_become 24 = .ok (.return_, 1) := dk_177 (dk_at dksX1_become_1 0 rfl rfl)
abbrev cX1_back : ByteArray := prog_1_method_36_code
def yX1_back : MethodName := ⟨RX1, "back", "(I)I"⟩
def dkwX1_back_0 : List UInt8 := [42, 42, 27, 182, 0, 187, 182, 0, 200, 182, 0, 229, 172]
abbrev dktX1_back_0 : List UInt8 := dkwX1_back_0 ++ []
theorem dksX1_back_0 : cX1_back.data.toList.drop 0 = dktX1_back_0 := by decide +kernel
theorem dX1_back_0 : decode cX1_back 0 = .ok (.aload_n 0, 1) := dk_42 (dk_at dksX1_back_0 0 rfl rfl)
theorem dX1_back_1 : decode cX1_back 1 = .ok (.aload_n 0, 1) := dk_42 (dk_at dksX1_back_0 1 rfl rfl)
theorem dX1_back_2 : decode cX1_back 2 = .ok (.iload_n 1, 1) := dk_27 (dk_at dksX1_back_0 2 rfl rfl)
theorem dX1_back_3 : decode cX1_back 3 = .ok (.invokevirtual 187, 3) := dk_182 0 187 (dk_at dksX1_back_0 3 rfl rfl)
theorem dX1_back_6 : decode cX1_back 6 = .ok (.invokevirtual 200, 3) := dk_182 0 200 (dk_at dksX1_back_0 6 rfl rfl)
theorem dX1_back_9 : decode cX1_back 9 = .ok (.invokevirtual 229, 3) := dk_182 0 229 (dk_at dksX1_back_0 9 rfl rfl)
theorem dX1_back_12 : decode cX1_back 12 = .ok (.ireturn, 1) := dk_172 (dk_at dksX1_back_0 12 rfl rfl)
abbrev cX1_run : ByteArray := prog_1_method_38_code
def yX1_run : MethodName := ⟨RX1, "run", "(I)I"⟩
def dkwX1_run_1 : List UInt8 := [132, 2, 1, 167, 255, 241, 42, 28, 182, 0, 178, 172]
abbrev dktX1_run_1 : List UInt8 := dkwX1_run_1 ++ []
def dkwX1_run_0 : List UInt8 := [27, 3, 16, 20, 184, 0, 119, 184, 0, 171, 3, 61, 28, 27, 162, 0, 16, 42, 182, 0, 233, 153, 0, 9]
abbrev dktX1_run_0 : List UInt8 := dkwX1_run_0 ++ dktX1_run_1
theorem dksX1_run_0 : cX1_run.data.toList.drop 0 = dktX1_run_0 := by decide +kernel
theorem dksX1_run_1 : cX1_run.data.toList.drop 24 = dktX1_run_1 := dk_seg dksX1_run_0 24 rfl rfl
theorem dX1_run_0 : decode cX1_run 0 = .ok (.iload_n 1, 1) := dk_27 (dk_at dksX1_run_0 0 rfl rfl)
theorem dX1_run_1 : decode cX1_run 1 = .ok (.iconst 0, 1) := dk_3 (dk_at dksX1_run_0 1 rfl rfl)
theorem dX1_run_2 : decode cX1_run 2 = .ok (.bipush 20, 2) := dk_16 20 (dk_at dksX1_run_0 2 rfl rfl)
theorem dX1_run_4 : decode cX1_run 4 = .ok (.invokestatic 119, 3) := dk_184 0 119 (dk_at dksX1_run_0 4 rfl rfl)
theorem dX1_run_7 : decode cX1_run 7 = .ok (.invokestatic 171, 3) := dk_184 0 171 (dk_at dksX1_run_0 7 rfl rfl)
theorem dX1_run_10 : decode cX1_run 10 = .ok (.iconst 0, 1) := dk_3 (dk_at dksX1_run_0 10 rfl rfl)
theorem dX1_run_11 : decode cX1_run 11 = .ok (.istore_n 2, 1) := dk_61 (dk_at dksX1_run_0 11 rfl rfl)
theorem dX1_run_12 : decode cX1_run 12 = .ok (.iload_n 2, 1) := dk_28 (dk_at dksX1_run_0 12 rfl rfl)
theorem dX1_run_13 : decode cX1_run 13 = .ok (.iload_n 1, 1) := dk_27 (dk_at dksX1_run_0 13 rfl rfl)
theorem dX1_run_14 : decode cX1_run 14 = .ok (.if_icmp .ge 16, 3) := dk_162 0 16 (dk_at dksX1_run_0 14 rfl rfl)
theorem dX1_run_17 : decode cX1_run 17 = .ok (.aload_n 0, 1) := dk_42 (dk_at dksX1_run_0 17 rfl rfl)
theorem dX1_run_18 : decode cX1_run 18 = .ok (.invokevirtual 233, 3) := dk_182 0 233 (dk_at dksX1_run_0 18 rfl rfl)
theorem dX1_run_21 : decode cX1_run 21 = .ok (.ifCond .eq 9, 3) := dk_153 0 9 (dk_at dksX1_run_0 21 rfl rfl)
theorem dX1_run_24 : decode cX1_run 24 = .ok (.iinc 2 1, 3) := dk_132 2 1 (dk_at dksX1_run_1 0 rfl rfl)
theorem dX1_run_27 : decode cX1_run 27 = .ok (.goto (-15), 3) := dk_167 255 241 (dk_at dksX1_run_1 3 rfl rfl)
theorem dX1_run_30 : decode cX1_run 30 = .ok (.aload_n 0, 1) := dk_42 (dk_at dksX1_run_1 6 rfl rfl)
theorem dX1_run_31 : decode cX1_run 31 = .ok (.iload_n 2, 1) := dk_28 (dk_at dksX1_run_1 7 rfl rfl)
theorem dX1_run_32 : decode cX1_run 32 = .ok (.invokevirtual 178, 3) := dk_182 0 178 (dk_at dksX1_run_1 8 rfl rfl)
theorem dX1_run_35 : decode cX1_run 35 = .ok (.ireturn, 1) := dk_172 (dk_at dksX1_run_1 11 rfl rfl)
abbrev cX1_isRun : ByteArray := prog_1_method_37_code
def yX1_isRun : MethodName := ⟨RX1, "isRun", "()Z"⟩
def dkwX1_isRun_3 : List UInt8 := [3, 172]
abbrev dktX1_isRun_3 : List UInt8 := dkwX1_isRun_3 ++ []
def dkwX1_isRun_2 : List UInt8 := [182, 0, 215, 58, 4, 25, 4, 184, 0, 219, 154, 0, 6, 167, 255, 211, 42, 25, 4, 182, 0, 222, 4, 172]
abbrev dktX1_isRun_2 : List UInt8 := dkwX1_isRun_2 ++ dktX1_isRun_3
def dkwX1_isRun_1 : List UInt8 := [185, 0, 51, 1, 0, 192, 0, 55, 78, 45, 43, 182, 0, 211, 154, 0, 6, 167, 255, 229, 45, 43]
abbrev dktX1_isRun_1 : List UInt8 := dkwX1_isRun_1 ++ dktX1_isRun_2
def dkwX1_isRun_0 : List UInt8 := [42, 182, 0, 207, 76, 42, 180, 0, 97, 182, 0, 41, 77, 44, 185, 0, 45, 1, 0, 153, 0, 50, 44]
abbrev dktX1_isRun_0 : List UInt8 := dkwX1_isRun_0 ++ dktX1_isRun_1
theorem dksX1_isRun_0 : cX1_isRun.data.toList.drop 0 = dktX1_isRun_0 := by decide +kernel
theorem dksX1_isRun_1 : cX1_isRun.data.toList.drop 23 = dktX1_isRun_1 := dk_seg dksX1_isRun_0 23 rfl rfl
theorem dksX1_isRun_2 : cX1_isRun.data.toList.drop 45 = dktX1_isRun_2 := dk_seg dksX1_isRun_1 22 rfl rfl
theorem dksX1_isRun_3 : cX1_isRun.data.toList.drop 69 = dktX1_isRun_3 := dk_seg dksX1_isRun_2 24 rfl rfl
theorem dX1_isRun_0 : decode cX1_isRun 0 = .ok (.aload_n 0, 1) := dk_42 (dk_at dksX1_isRun_0 0 rfl rfl)
theorem dX1_isRun_1 : decode cX1_isRun 1 = .ok (.invokevirtual 207, 3) := dk_182 0 207 (dk_at dksX1_isRun_0 1 rfl rfl)
theorem dX1_isRun_4 : decode cX1_isRun 4 = .ok (.astore_n 1, 1) := dk_76 (dk_at dksX1_isRun_0 4 rfl rfl)
theorem dX1_isRun_5 : decode cX1_isRun 5 = .ok (.aload_n 0, 1) := dk_42 (dk_at dksX1_isRun_0 5 rfl rfl)
theorem dX1_isRun_6 : decode cX1_isRun 6 = .ok (.getfield 97, 3) := dk_180 0 97 (dk_at dksX1_isRun_0 6 rfl rfl)
theorem dX1_isRun_9 : decode cX1_isRun 9 = .ok (.invokevirtual 41, 3) := dk_182 0 41 (dk_at dksX1_isRun_0 9 rfl rfl)
theorem dX1_isRun_12 : decode cX1_isRun 12 = .ok (.astore_n 2, 1) := dk_77 (dk_at dksX1_isRun_0 12 rfl rfl)
theorem dX1_isRun_13 : decode cX1_isRun 13 = .ok (.aload_n 2, 1) := dk_44 (dk_at dksX1_isRun_0 13 rfl rfl)
theorem dX1_isRun_14 : decode cX1_isRun 14 = .ok (.invokeinterface 45 1, 5) := by decide +kernel
theorem dX1_isRun_19 : decode cX1_isRun 19 = .ok (.ifCond .eq 50, 3) := dk_153 0 50 (dk_at dksX1_isRun_0 19 rfl rfl)
theorem dX1_isRun_22 : decode cX1_isRun 22 = .ok (.aload_n 2, 1) := dk_44 (dk_at dksX1_isRun_0 22 rfl rfl)
theorem dX1_isRun_23 : decode cX1_isRun 23 = .ok (.invokeinterface 51 1, 5) := by decide +kernel
theorem dX1_isRun_28 : decode cX1_isRun 28 = .ok (.checkcast 55, 3) := dk_192 0 55 (dk_at dksX1_isRun_1 5 rfl rfl)
theorem dX1_isRun_31 : decode cX1_isRun 31 = .ok (.astore_n 3, 1) := dk_78 (dk_at dksX1_isRun_1 8 rfl rfl)
theorem dX1_isRun_32 : decode cX1_isRun 32 = .ok (.aload_n 3, 1) := dk_45 (dk_at dksX1_isRun_1 9 rfl rfl)
theorem dX1_isRun_33 : decode cX1_isRun 33 = .ok (.aload_n 1, 1) := dk_43 (dk_at dksX1_isRun_1 10 rfl rfl)
theorem dX1_isRun_34 : decode cX1_isRun 34 = .ok (.invokevirtual 211, 3) := dk_182 0 211 (dk_at dksX1_isRun_1 11 rfl rfl)
theorem dX1_isRun_37 : decode cX1_isRun 37 = .ok (.ifCond .ne 6, 3) := dk_154 0 6 (dk_at dksX1_isRun_1 14 rfl rfl)
theorem dX1_isRun_40 : decode cX1_isRun 40 = .ok (.goto (-27), 3) := dk_167 255 229 (dk_at dksX1_isRun_1 17 rfl rfl)
theorem dX1_isRun_43 : decode cX1_isRun 43 = .ok (.aload_n 3, 1) := dk_45 (dk_at dksX1_isRun_1 20 rfl rfl)
theorem dX1_isRun_44 : decode cX1_isRun 44 = .ok (.aload_n 1, 1) := dk_43 (dk_at dksX1_isRun_1 21 rfl rfl)
theorem dX1_isRun_45 : decode cX1_isRun 45 = .ok (.invokevirtual 215, 3) := dk_182 0 215 (dk_at dksX1_isRun_2 0 rfl rfl)
theorem dX1_isRun_48 : decode cX1_isRun 48 = .ok (.astore 4, 2) := dk_58 4 (dk_at dksX1_isRun_2 3 rfl rfl)
theorem dX1_isRun_50 : decode cX1_isRun 50 = .ok (.aload 4, 2) := dk_25 4 (dk_at dksX1_isRun_2 5 rfl rfl)
theorem dX1_isRun_52 : decode cX1_isRun 52 = .ok (.invokestatic 219, 3) := dk_184 0 219 (dk_at dksX1_isRun_2 7 rfl rfl)
theorem dX1_isRun_55 : decode cX1_isRun 55 = .ok (.ifCond .ne 6, 3) := dk_154 0 6 (dk_at dksX1_isRun_2 10 rfl rfl)
theorem dX1_isRun_58 : decode cX1_isRun 58 = .ok (.goto (-45), 3) := dk_167 255 211 (dk_at dksX1_isRun_2 13 rfl rfl)
theorem dX1_isRun_61 : decode cX1_isRun 61 = .ok (.aload_n 0, 1) := dk_42 (dk_at dksX1_isRun_2 16 rfl rfl)
theorem dX1_isRun_62 : decode cX1_isRun 62 = .ok (.aload 4, 2) := dk_25 4 (dk_at dksX1_isRun_2 17 rfl rfl)
theorem dX1_isRun_64 : decode cX1_isRun 64 = .ok (.invokevirtual 222, 3) := dk_182 0 222 (dk_at dksX1_isRun_2 19 rfl rfl)
theorem dX1_isRun_67 : decode cX1_isRun 67 = .ok (.iconst 1, 1) := dk_4 (dk_at dksX1_isRun_2 22 rfl rfl)
theorem dX1_isRun_68 : decode cX1_isRun 68 = .ok (.ireturn, 1) := dk_172 (dk_at dksX1_isRun_2 23 rfl rfl)
theorem dX1_isRun_69 : decode cX1_isRun 69 = .ok (.iconst 0, 1) := dk_3 (dk_at dksX1_isRun_3 0 rfl rfl)
theorem dX1_isRun_70 : decode cX1_isRun 70 = .ok (.ireturn, 1) := dk_172 (dk_at dksX1_isRun_3 1 rfl rfl)
abbrev cX1_keep : ByteArray := prog_1_method_39_code
def yX1_keep : MethodName := ⟨RX1, "keep", "(I)I"⟩
def dkwX1_keep_1 : List UInt8 := [184, 0, 239, 154, 0, 7, 4, 167, 0, 4, 3, 184, 0, 194, 182, 0, 178, 172]
abbrev dktX1_keep_1 : List UInt8 := dkwX1_keep_1 ++ []
def dkwX1_keep_0 : List UInt8 := [42, 27, 182, 0, 236, 77, 42, 180, 0, 109, 27, 42, 182, 0, 207, 83, 42, 44, 42, 180, 0, 109, 27, 50]
abbrev dktX1_keep_0 : List UInt8 := dkwX1_keep_0 ++ dktX1_keep_1
theorem dksX1_keep_0 : cX1_keep.data.toList.drop 0 = dktX1_keep_0 := by decide +kernel
theorem dksX1_keep_1 : cX1_keep.data.toList.drop 24 = dktX1_keep_1 := dk_seg dksX1_keep_0 24 rfl rfl
theorem dX1_keep_0 : decode cX1_keep 0 = .ok (.aload_n 0, 1) := dk_42 (dk_at dksX1_keep_0 0 rfl rfl)
theorem dX1_keep_1 : decode cX1_keep 1 = .ok (.iload_n 1, 1) := dk_27 (dk_at dksX1_keep_0 1 rfl rfl)
theorem dX1_keep_2 : decode cX1_keep 2 = .ok (.invokevirtual 236, 3) := dk_182 0 236 (dk_at dksX1_keep_0 2 rfl rfl)
theorem dX1_keep_5 : decode cX1_keep 5 = .ok (.astore_n 2, 1) := dk_77 (dk_at dksX1_keep_0 5 rfl rfl)
theorem dX1_keep_6 : decode cX1_keep 6 = .ok (.aload_n 0, 1) := dk_42 (dk_at dksX1_keep_0 6 rfl rfl)
theorem dX1_keep_7 : decode cX1_keep 7 = .ok (.getfield 109, 3) := dk_180 0 109 (dk_at dksX1_keep_0 7 rfl rfl)
theorem dX1_keep_10 : decode cX1_keep 10 = .ok (.iload_n 1, 1) := dk_27 (dk_at dksX1_keep_0 10 rfl rfl)
theorem dX1_keep_11 : decode cX1_keep 11 = .ok (.aload_n 0, 1) := dk_42 (dk_at dksX1_keep_0 11 rfl rfl)
theorem dX1_keep_12 : decode cX1_keep 12 = .ok (.invokevirtual 207, 3) := dk_182 0 207 (dk_at dksX1_keep_0 12 rfl rfl)
theorem dX1_keep_15 : decode cX1_keep 15 = .ok (.aastore, 1) := dk_83 (dk_at dksX1_keep_0 15 rfl rfl)
theorem dX1_keep_16 : decode cX1_keep 16 = .ok (.aload_n 0, 1) := dk_42 (dk_at dksX1_keep_0 16 rfl rfl)
theorem dX1_keep_17 : decode cX1_keep 17 = .ok (.aload_n 2, 1) := dk_44 (dk_at dksX1_keep_0 17 rfl rfl)
theorem dX1_keep_18 : decode cX1_keep 18 = .ok (.aload_n 0, 1) := dk_42 (dk_at dksX1_keep_0 18 rfl rfl)
theorem dX1_keep_19 : decode cX1_keep 19 = .ok (.getfield 109, 3) := dk_180 0 109 (dk_at dksX1_keep_0 19 rfl rfl)
theorem dX1_keep_22 : decode cX1_keep 22 = .ok (.iload_n 1, 1) := dk_27 (dk_at dksX1_keep_0 22 rfl rfl)
theorem dX1_keep_23 : decode cX1_keep 23 = .ok (.aaload, 1) := dk_50 (dk_at dksX1_keep_0 23 rfl rfl)
theorem dX1_keep_24 : decode cX1_keep 24 = .ok (.invokestatic 239, 3) := dk_184 0 239 (dk_at dksX1_keep_1 0 rfl rfl)
theorem dX1_keep_27 : decode cX1_keep 27 = .ok (.ifCond .ne 7, 3) := dk_154 0 7 (dk_at dksX1_keep_1 3 rfl rfl)
theorem dX1_keep_30 : decode cX1_keep 30 = .ok (.iconst 1, 1) := dk_4 (dk_at dksX1_keep_1 6 rfl rfl)
theorem dX1_keep_31 : decode cX1_keep 31 = .ok (.goto 4, 3) := dk_167 0 4 (dk_at dksX1_keep_1 7 rfl rfl)
theorem dX1_keep_34 : decode cX1_keep 34 = .ok (.iconst 0, 1) := dk_3 (dk_at dksX1_keep_1 10 rfl rfl)
theorem dX1_keep_35 : decode cX1_keep 35 = .ok (.invokestatic 194, 3) := dk_184 0 194 (dk_at dksX1_keep_1 11 rfl rfl)
theorem dX1_keep_38 : decode cX1_keep 38 = .ok (.invokevirtual 178, 3) := dk_182 0 178 (dk_at dksX1_keep_1 14 rfl rfl)
theorem dX1_keep_41 : decode cX1_keep 41 = .ok (.ireturn, 1) := dk_172 (dk_at dksX1_keep_1 17 rfl rfl)
abbrev cX1_kept : ByteArray := prog_1_method_16_code
def yX1_kept : MethodName := ⟨RX1, "kept", "(I)[I"⟩
def dkwX1_kept_0 : List UInt8 := [27, 3, 6, 184, 0, 119, 184, 0, 123, 42, 180, 0, 109, 27, 50, 176]
abbrev dktX1_kept_0 : List UInt8 := dkwX1_kept_0 ++ []
theorem dksX1_kept_0 : cX1_kept.data.toList.drop 0 = dktX1_kept_0 := by decide +kernel
theorem dX1_kept_0 : decode cX1_kept 0 = .ok (.iload_n 1, 1) := dk_27 (dk_at dksX1_kept_0 0 rfl rfl)
theorem dX1_kept_1 : decode cX1_kept 1 = .ok (.iconst 0, 1) := dk_3 (dk_at dksX1_kept_0 1 rfl rfl)
theorem dX1_kept_2 : decode cX1_kept 2 = .ok (.iconst 3, 1) := dk_6 (dk_at dksX1_kept_0 2 rfl rfl)
theorem dX1_kept_3 : decode cX1_kept 3 = .ok (.invokestatic 119, 3) := dk_184 0 119 (dk_at dksX1_kept_0 3 rfl rfl)
theorem dX1_kept_6 : decode cX1_kept 6 = .ok (.invokestatic 123, 3) := dk_184 0 123 (dk_at dksX1_kept_0 6 rfl rfl)
theorem dX1_kept_9 : decode cX1_kept 9 = .ok (.aload_n 0, 1) := dk_42 (dk_at dksX1_kept_0 9 rfl rfl)
theorem dX1_kept_10 : decode cX1_kept 10 = .ok (.getfield 109, 3) := dk_180 0 109 (dk_at dksX1_kept_0 10 rfl rfl)
theorem dX1_kept_13 : decode cX1_kept 13 = .ok (.iload_n 1, 1) := dk_27 (dk_at dksX1_kept_0 13 rfl rfl)
theorem dX1_kept_14 : decode cX1_kept 14 = .ok (.aaload, 1) := dk_50 (dk_at dksX1_kept_0 14 rfl rfl)
theorem dX1_kept_15 : decode cX1_kept 15 = .ok (.areturn, 1) := dk_176 (dk_at dksX1_kept_0 15 rfl rfl)
abbrev cX1_recall : ByteArray := prog_1_method_40_code
def yX1_recall : MethodName := ⟨RX1, "recall", "(I)I"⟩
def dkwX1_recall_1 : List UInt8 := [44, 182, 0, 222, 42, 29, 184, 0, 194, 182, 0, 178, 172]
abbrev dktX1_recall_1 : List UInt8 := dkwX1_recall_1 ++ []
def dkwX1_recall_0 : List UInt8 := [42, 27, 182, 0, 236, 77, 44, 42, 182, 0, 207, 184, 0, 239, 154, 0, 7, 4, 167, 0, 4, 3, 62, 42]
abbrev dktX1_recall_0 : List UInt8 := dkwX1_recall_0 ++ dktX1_recall_1
theorem dksX1_recall_0 : cX1_recall.data.toList.drop 0 = dktX1_recall_0 := by decide +kernel
theorem dksX1_recall_1 : cX1_recall.data.toList.drop 24 = dktX1_recall_1 := dk_seg dksX1_recall_0 24 rfl rfl
theorem dX1_recall_0 : decode cX1_recall 0 = .ok (.aload_n 0, 1) := dk_42 (dk_at dksX1_recall_0 0 rfl rfl)
theorem dX1_recall_1 : decode cX1_recall 1 = .ok (.iload_n 1, 1) := dk_27 (dk_at dksX1_recall_0 1 rfl rfl)
theorem dX1_recall_2 : decode cX1_recall 2 = .ok (.invokevirtual 236, 3) := dk_182 0 236 (dk_at dksX1_recall_0 2 rfl rfl)
theorem dX1_recall_5 : decode cX1_recall 5 = .ok (.astore_n 2, 1) := dk_77 (dk_at dksX1_recall_0 5 rfl rfl)
theorem dX1_recall_6 : decode cX1_recall 6 = .ok (.aload_n 2, 1) := dk_44 (dk_at dksX1_recall_0 6 rfl rfl)
theorem dX1_recall_7 : decode cX1_recall 7 = .ok (.aload_n 0, 1) := dk_42 (dk_at dksX1_recall_0 7 rfl rfl)
theorem dX1_recall_8 : decode cX1_recall 8 = .ok (.invokevirtual 207, 3) := dk_182 0 207 (dk_at dksX1_recall_0 8 rfl rfl)
theorem dX1_recall_11 : decode cX1_recall 11 = .ok (.invokestatic 239, 3) := dk_184 0 239 (dk_at dksX1_recall_0 11 rfl rfl)
theorem dX1_recall_14 : decode cX1_recall 14 = .ok (.ifCond .ne 7, 3) := dk_154 0 7 (dk_at dksX1_recall_0 14 rfl rfl)
theorem dX1_recall_17 : decode cX1_recall 17 = .ok (.iconst 1, 1) := dk_4 (dk_at dksX1_recall_0 17 rfl rfl)
theorem dX1_recall_18 : decode cX1_recall 18 = .ok (.goto 4, 3) := dk_167 0 4 (dk_at dksX1_recall_0 18 rfl rfl)
theorem dX1_recall_21 : decode cX1_recall 21 = .ok (.iconst 0, 1) := dk_3 (dk_at dksX1_recall_0 21 rfl rfl)
theorem dX1_recall_22 : decode cX1_recall 22 = .ok (.istore_n 3, 1) := dk_62 (dk_at dksX1_recall_0 22 rfl rfl)
theorem dX1_recall_23 : decode cX1_recall 23 = .ok (.aload_n 0, 1) := dk_42 (dk_at dksX1_recall_0 23 rfl rfl)
theorem dX1_recall_24 : decode cX1_recall 24 = .ok (.aload_n 2, 1) := dk_44 (dk_at dksX1_recall_1 0 rfl rfl)
theorem dX1_recall_25 : decode cX1_recall 25 = .ok (.invokevirtual 222, 3) := dk_182 0 222 (dk_at dksX1_recall_1 1 rfl rfl)
theorem dX1_recall_28 : decode cX1_recall 28 = .ok (.aload_n 0, 1) := dk_42 (dk_at dksX1_recall_1 4 rfl rfl)
theorem dX1_recall_29 : decode cX1_recall 29 = .ok (.iload_n 3, 1) := dk_29 (dk_at dksX1_recall_1 5 rfl rfl)
theorem dX1_recall_30 : decode cX1_recall 30 = .ok (.invokestatic 194, 3) := dk_184 0 194 (dk_at dksX1_recall_1 6 rfl rfl)
theorem dX1_recall_33 : decode cX1_recall 33 = .ok (.invokevirtual 178, 3) := dk_182 0 178 (dk_at dksX1_recall_1 9 rfl rfl)
theorem dX1_recall_36 : decode cX1_recall 36 = .ok (.ireturn, 1) := dk_172 (dk_at dksX1_recall_1 12 rfl rfl)
abbrev cX1_follow : ByteArray := prog_1_method_41_code
def yX1_follow : MethodName := ⟨RX1, "follow", "(I)I"⟩
def dkwX1_follow_4 : List UInt8 := [21, 4, 182, 1, 6, 182, 0, 68, 182, 0, 178, 172]
abbrev dktX1_follow_4 : List UInt8 := dkwX1_follow_4 ++ []
def dkwX1_follow_3 : List UInt8 := [182, 0, 181, 172, 45, 180, 1, 3, 21, 5, 46, 54, 5, 167, 255, 218, 42, 44, 182, 0, 222, 42, 45]
abbrev dktX1_follow_3 : List UInt8 := dkwX1_follow_3 ++ dktX1_follow_4
def dkwX1_follow_2 : List UInt8 := [159, 0, 38, 45, 180, 1, 1, 21, 5, 182, 0, 72, 192, 0, 108, 184, 0, 219, 154, 0, 8, 42]
abbrev dktX1_follow_2 : List UInt8 := dkwX1_follow_2 ++ dktX1_follow_3
def dkwX1_follow_1 : List UInt8 := [182, 0, 253, 54, 4, 21, 4, 2, 160, 0, 8, 42, 182, 0, 181, 172, 21, 4, 54, 5, 21, 5, 2]
abbrev dktX1_follow_1 : List UInt8 := dkwX1_follow_1 ++ dktX1_follow_2
def dkwX1_follow_0 : List UInt8 := [42, 27, 182, 0, 236, 77, 42, 182, 0, 243, 78, 45, 180, 0, 247, 153, 0, 7, 2, 167, 0, 8, 45, 44]
abbrev dktX1_follow_0 : List UInt8 := dkwX1_follow_0 ++ dktX1_follow_1
theorem dksX1_follow_0 : cX1_follow.data.toList.drop 0 = dktX1_follow_0 := by decide +kernel
theorem dksX1_follow_1 : cX1_follow.data.toList.drop 24 = dktX1_follow_1 := dk_seg dksX1_follow_0 24 rfl rfl
theorem dksX1_follow_2 : cX1_follow.data.toList.drop 47 = dktX1_follow_2 := dk_seg dksX1_follow_1 23 rfl rfl
theorem dksX1_follow_3 : cX1_follow.data.toList.drop 69 = dktX1_follow_3 := dk_seg dksX1_follow_2 22 rfl rfl
theorem dksX1_follow_4 : cX1_follow.data.toList.drop 92 = dktX1_follow_4 := dk_seg dksX1_follow_3 23 rfl rfl
theorem dX1_follow_0 : decode cX1_follow 0 = .ok (.aload_n 0, 1) := dk_42 (dk_at dksX1_follow_0 0 rfl rfl)
theorem dX1_follow_1 : decode cX1_follow 1 = .ok (.iload_n 1, 1) := dk_27 (dk_at dksX1_follow_0 1 rfl rfl)
theorem dX1_follow_2 : decode cX1_follow 2 = .ok (.invokevirtual 236, 3) := dk_182 0 236 (dk_at dksX1_follow_0 2 rfl rfl)
theorem dX1_follow_5 : decode cX1_follow 5 = .ok (.astore_n 2, 1) := dk_77 (dk_at dksX1_follow_0 5 rfl rfl)
theorem dX1_follow_6 : decode cX1_follow 6 = .ok (.aload_n 0, 1) := dk_42 (dk_at dksX1_follow_0 6 rfl rfl)
theorem dX1_follow_7 : decode cX1_follow 7 = .ok (.invokevirtual 243, 3) := dk_182 0 243 (dk_at dksX1_follow_0 7 rfl rfl)
theorem dX1_follow_10 : decode cX1_follow 10 = .ok (.astore_n 3, 1) := dk_78 (dk_at dksX1_follow_0 10 rfl rfl)
theorem dX1_follow_11 : decode cX1_follow 11 = .ok (.aload_n 3, 1) := dk_45 (dk_at dksX1_follow_0 11 rfl rfl)
theorem dX1_follow_12 : decode cX1_follow 12 = .ok (.getfield 247, 3) := dk_180 0 247 (dk_at dksX1_follow_0 12 rfl rfl)
theorem dX1_follow_15 : decode cX1_follow 15 = .ok (.ifCond .eq 7, 3) := dk_153 0 7 (dk_at dksX1_follow_0 15 rfl rfl)
theorem dX1_follow_18 : decode cX1_follow 18 = .ok (.iconst (-1), 1) := dk_2 (dk_at dksX1_follow_0 18 rfl rfl)
theorem dX1_follow_19 : decode cX1_follow 19 = .ok (.goto 8, 3) := dk_167 0 8 (dk_at dksX1_follow_0 19 rfl rfl)
theorem dX1_follow_22 : decode cX1_follow 22 = .ok (.aload_n 3, 1) := dk_45 (dk_at dksX1_follow_0 22 rfl rfl)
theorem dX1_follow_23 : decode cX1_follow 23 = .ok (.aload_n 2, 1) := dk_44 (dk_at dksX1_follow_0 23 rfl rfl)
theorem dX1_follow_24 : decode cX1_follow 24 = .ok (.invokevirtual 253, 3) := dk_182 0 253 (dk_at dksX1_follow_1 0 rfl rfl)
theorem dX1_follow_27 : decode cX1_follow 27 = .ok (.istore 4, 2) := dk_54 4 (dk_at dksX1_follow_1 3 rfl rfl)
theorem dX1_follow_29 : decode cX1_follow 29 = .ok (.iload 4, 2) := dk_21 4 (dk_at dksX1_follow_1 5 rfl rfl)
theorem dX1_follow_31 : decode cX1_follow 31 = .ok (.iconst (-1), 1) := dk_2 (dk_at dksX1_follow_1 7 rfl rfl)
theorem dX1_follow_32 : decode cX1_follow 32 = .ok (.if_icmp .ne 8, 3) := dk_160 0 8 (dk_at dksX1_follow_1 8 rfl rfl)
theorem dX1_follow_35 : decode cX1_follow 35 = .ok (.aload_n 0, 1) := dk_42 (dk_at dksX1_follow_1 11 rfl rfl)
theorem dX1_follow_36 : decode cX1_follow 36 = .ok (.invokevirtual 181, 3) := dk_182 0 181 (dk_at dksX1_follow_1 12 rfl rfl)
theorem dX1_follow_39 : decode cX1_follow 39 = .ok (.ireturn, 1) := dk_172 (dk_at dksX1_follow_1 15 rfl rfl)
theorem dX1_follow_40 : decode cX1_follow 40 = .ok (.iload 4, 2) := dk_21 4 (dk_at dksX1_follow_1 16 rfl rfl)
theorem dX1_follow_42 : decode cX1_follow 42 = .ok (.istore 5, 2) := dk_54 5 (dk_at dksX1_follow_1 18 rfl rfl)
theorem dX1_follow_44 : decode cX1_follow 44 = .ok (.iload 5, 2) := dk_21 5 (dk_at dksX1_follow_1 20 rfl rfl)
theorem dX1_follow_46 : decode cX1_follow 46 = .ok (.iconst (-1), 1) := dk_2 (dk_at dksX1_follow_1 22 rfl rfl)
theorem dX1_follow_47 : decode cX1_follow 47 = .ok (.if_icmp .eq 38, 3) := dk_159 0 38 (dk_at dksX1_follow_2 0 rfl rfl)
theorem dX1_follow_50 : decode cX1_follow 50 = .ok (.aload_n 3, 1) := dk_45 (dk_at dksX1_follow_2 3 rfl rfl)
theorem dX1_follow_51 : decode cX1_follow 51 = .ok (.getfield 257, 3) := dk_180 1 1 (dk_at dksX1_follow_2 4 rfl rfl)
theorem dX1_follow_54 : decode cX1_follow 54 = .ok (.iload 5, 2) := dk_21 5 (dk_at dksX1_follow_2 7 rfl rfl)
theorem dX1_follow_56 : decode cX1_follow 56 = .ok (.invokevirtual 72, 3) := dk_182 0 72 (dk_at dksX1_follow_2 9 rfl rfl)
theorem dX1_follow_59 : decode cX1_follow 59 = .ok (.checkcast 108, 3) := dk_192 0 108 (dk_at dksX1_follow_2 12 rfl rfl)
theorem dX1_follow_62 : decode cX1_follow 62 = .ok (.invokestatic 219, 3) := dk_184 0 219 (dk_at dksX1_follow_2 15 rfl rfl)
theorem dX1_follow_65 : decode cX1_follow 65 = .ok (.ifCond .ne 8, 3) := dk_154 0 8 (dk_at dksX1_follow_2 18 rfl rfl)
theorem dX1_follow_68 : decode cX1_follow 68 = .ok (.aload_n 0, 1) := dk_42 (dk_at dksX1_follow_2 21 rfl rfl)
theorem dX1_follow_69 : decode cX1_follow 69 = .ok (.invokevirtual 181, 3) := dk_182 0 181 (dk_at dksX1_follow_3 0 rfl rfl)
theorem dX1_follow_72 : decode cX1_follow 72 = .ok (.ireturn, 1) := dk_172 (dk_at dksX1_follow_3 3 rfl rfl)
theorem dX1_follow_73 : decode cX1_follow 73 = .ok (.aload_n 3, 1) := dk_45 (dk_at dksX1_follow_3 4 rfl rfl)
theorem dX1_follow_74 : decode cX1_follow 74 = .ok (.getfield 259, 3) := dk_180 1 3 (dk_at dksX1_follow_3 5 rfl rfl)
theorem dX1_follow_77 : decode cX1_follow 77 = .ok (.iload 5, 2) := dk_21 5 (dk_at dksX1_follow_3 8 rfl rfl)
theorem dX1_follow_79 : decode cX1_follow 79 = .ok (.iaload, 1) := dk_46 (dk_at dksX1_follow_3 10 rfl rfl)
theorem dX1_follow_80 : decode cX1_follow 80 = .ok (.istore 5, 2) := dk_54 5 (dk_at dksX1_follow_3 11 rfl rfl)
theorem dX1_follow_82 : decode cX1_follow 82 = .ok (.goto (-38), 3) := dk_167 255 218 (dk_at dksX1_follow_3 13 rfl rfl)
theorem dX1_follow_85 : decode cX1_follow 85 = .ok (.aload_n 0, 1) := dk_42 (dk_at dksX1_follow_3 16 rfl rfl)
theorem dX1_follow_86 : decode cX1_follow 86 = .ok (.aload_n 2, 1) := dk_44 (dk_at dksX1_follow_3 17 rfl rfl)
theorem dX1_follow_87 : decode cX1_follow 87 = .ok (.invokevirtual 222, 3) := dk_182 0 222 (dk_at dksX1_follow_3 18 rfl rfl)
theorem dX1_follow_90 : decode cX1_follow 90 = .ok (.aload_n 0, 1) := dk_42 (dk_at dksX1_follow_3 21 rfl rfl)
theorem dX1_follow_91 : decode cX1_follow 91 = .ok (.aload_n 3, 1) := dk_45 (dk_at dksX1_follow_3 22 rfl rfl)
theorem dX1_follow_92 : decode cX1_follow 92 = .ok (.iload 4, 2) := dk_21 4 (dk_at dksX1_follow_4 0 rfl rfl)
theorem dX1_follow_94 : decode cX1_follow 94 = .ok (.invokevirtual 262, 3) := dk_182 1 6 (dk_at dksX1_follow_4 2 rfl rfl)
theorem dX1_follow_97 : decode cX1_follow 97 = .ok (.invokevirtual 68, 3) := dk_182 0 68 (dk_at dksX1_follow_4 5 rfl rfl)
theorem dX1_follow_100 : decode cX1_follow 100 = .ok (.invokevirtual 178, 3) := dk_182 0 178 (dk_at dksX1_follow_4 8 rfl rfl)
theorem dX1_follow_103 : decode cX1_follow 103 = .ok (.ireturn, 1) := dk_172 (dk_at dksX1_follow_4 11 rfl rfl)
abbrev cX1_ofArc : ByteArray := prog_1_method_42_code
def yX1_ofArc : MethodName := ⟨RX1, "ofArc", "(III)I"⟩
def dkwX1_ofArc_2 : List UInt8 := [46, 167, 0, 18, 25, 4, 180, 0, 57, 28, 46, 25, 4, 180, 0, 61, 28, 46, 100, 172]
abbrev dktX1_ofArc_2 : List UInt8 := dkwX1_ofArc_2 ++ []
def dkwX1_ofArc_1 : List UInt8 := [154, 0, 13, 25, 4, 180, 0, 61, 28, 46, 167, 0, 33, 29, 4, 160, 0, 13, 25, 4, 180, 0, 57, 28]
abbrev dktX1_ofArc_1 : List UInt8 := dkwX1_ofArc_1 ++ dktX1_ofArc_2
def dkwX1_ofArc_0 : List UInt8 := [42, 27, 182, 0, 187, 58, 4, 42, 28, 182, 0, 191, 29, 3, 5, 184, 0, 119, 184, 0, 171, 29]
abbrev dktX1_ofArc_0 : List UInt8 := dkwX1_ofArc_0 ++ dktX1_ofArc_1
theorem dksX1_ofArc_0 : cX1_ofArc.data.toList.drop 0 = dktX1_ofArc_0 := by decide +kernel
theorem dksX1_ofArc_1 : cX1_ofArc.data.toList.drop 22 = dktX1_ofArc_1 := dk_seg dksX1_ofArc_0 22 rfl rfl
theorem dksX1_ofArc_2 : cX1_ofArc.data.toList.drop 46 = dktX1_ofArc_2 := dk_seg dksX1_ofArc_1 24 rfl rfl
theorem dX1_ofArc_0 : decode cX1_ofArc 0 = .ok (.aload_n 0, 1) := dk_42 (dk_at dksX1_ofArc_0 0 rfl rfl)
theorem dX1_ofArc_1 : decode cX1_ofArc 1 = .ok (.iload_n 1, 1) := dk_27 (dk_at dksX1_ofArc_0 1 rfl rfl)
theorem dX1_ofArc_2 : decode cX1_ofArc 2 = .ok (.invokevirtual 187, 3) := dk_182 0 187 (dk_at dksX1_ofArc_0 2 rfl rfl)
theorem dX1_ofArc_5 : decode cX1_ofArc 5 = .ok (.astore 4, 2) := dk_58 4 (dk_at dksX1_ofArc_0 5 rfl rfl)
theorem dX1_ofArc_7 : decode cX1_ofArc 7 = .ok (.aload_n 0, 1) := dk_42 (dk_at dksX1_ofArc_0 7 rfl rfl)
theorem dX1_ofArc_8 : decode cX1_ofArc 8 = .ok (.iload_n 2, 1) := dk_28 (dk_at dksX1_ofArc_0 8 rfl rfl)
theorem dX1_ofArc_9 : decode cX1_ofArc 9 = .ok (.invokevirtual 191, 3) := dk_182 0 191 (dk_at dksX1_ofArc_0 9 rfl rfl)
theorem dX1_ofArc_12 : decode cX1_ofArc 12 = .ok (.iload_n 3, 1) := dk_29 (dk_at dksX1_ofArc_0 12 rfl rfl)
theorem dX1_ofArc_13 : decode cX1_ofArc 13 = .ok (.iconst 0, 1) := dk_3 (dk_at dksX1_ofArc_0 13 rfl rfl)
theorem dX1_ofArc_14 : decode cX1_ofArc 14 = .ok (.iconst 2, 1) := dk_5 (dk_at dksX1_ofArc_0 14 rfl rfl)
theorem dX1_ofArc_15 : decode cX1_ofArc 15 = .ok (.invokestatic 119, 3) := dk_184 0 119 (dk_at dksX1_ofArc_0 15 rfl rfl)
theorem dX1_ofArc_18 : decode cX1_ofArc 18 = .ok (.invokestatic 171, 3) := dk_184 0 171 (dk_at dksX1_ofArc_0 18 rfl rfl)
theorem dX1_ofArc_21 : decode cX1_ofArc 21 = .ok (.iload_n 3, 1) := dk_29 (dk_at dksX1_ofArc_0 21 rfl rfl)
theorem dX1_ofArc_22 : decode cX1_ofArc 22 = .ok (.ifCond .ne 13, 3) := dk_154 0 13 (dk_at dksX1_ofArc_1 0 rfl rfl)
theorem dX1_ofArc_25 : decode cX1_ofArc 25 = .ok (.aload 4, 2) := dk_25 4 (dk_at dksX1_ofArc_1 3 rfl rfl)
theorem dX1_ofArc_27 : decode cX1_ofArc 27 = .ok (.getfield 61, 3) := dk_180 0 61 (dk_at dksX1_ofArc_1 5 rfl rfl)
theorem dX1_ofArc_30 : decode cX1_ofArc 30 = .ok (.iload_n 2, 1) := dk_28 (dk_at dksX1_ofArc_1 8 rfl rfl)
theorem dX1_ofArc_31 : decode cX1_ofArc 31 = .ok (.iaload, 1) := dk_46 (dk_at dksX1_ofArc_1 9 rfl rfl)
theorem dX1_ofArc_32 : decode cX1_ofArc 32 = .ok (.goto 33, 3) := dk_167 0 33 (dk_at dksX1_ofArc_1 10 rfl rfl)
theorem dX1_ofArc_35 : decode cX1_ofArc 35 = .ok (.iload_n 3, 1) := dk_29 (dk_at dksX1_ofArc_1 13 rfl rfl)
theorem dX1_ofArc_36 : decode cX1_ofArc 36 = .ok (.iconst 1, 1) := dk_4 (dk_at dksX1_ofArc_1 14 rfl rfl)
theorem dX1_ofArc_37 : decode cX1_ofArc 37 = .ok (.if_icmp .ne 13, 3) := dk_160 0 13 (dk_at dksX1_ofArc_1 15 rfl rfl)
theorem dX1_ofArc_40 : decode cX1_ofArc 40 = .ok (.aload 4, 2) := dk_25 4 (dk_at dksX1_ofArc_1 18 rfl rfl)
theorem dX1_ofArc_42 : decode cX1_ofArc 42 = .ok (.getfield 57, 3) := dk_180 0 57 (dk_at dksX1_ofArc_1 20 rfl rfl)
theorem dX1_ofArc_45 : decode cX1_ofArc 45 = .ok (.iload_n 2, 1) := dk_28 (dk_at dksX1_ofArc_1 23 rfl rfl)
theorem dX1_ofArc_46 : decode cX1_ofArc 46 = .ok (.iaload, 1) := dk_46 (dk_at dksX1_ofArc_2 0 rfl rfl)
theorem dX1_ofArc_47 : decode cX1_ofArc 47 = .ok (.goto 18, 3) := dk_167 0 18 (dk_at dksX1_ofArc_2 1 rfl rfl)
theorem dX1_ofArc_50 : decode cX1_ofArc 50 = .ok (.aload 4, 2) := dk_25 4 (dk_at dksX1_ofArc_2 4 rfl rfl)
theorem dX1_ofArc_52 : decode cX1_ofArc 52 = .ok (.getfield 57, 3) := dk_180 0 57 (dk_at dksX1_ofArc_2 6 rfl rfl)
theorem dX1_ofArc_55 : decode cX1_ofArc 55 = .ok (.iload_n 2, 1) := dk_28 (dk_at dksX1_ofArc_2 9 rfl rfl)
theorem dX1_ofArc_56 : decode cX1_ofArc 56 = .ok (.iaload, 1) := dk_46 (dk_at dksX1_ofArc_2 10 rfl rfl)
theorem dX1_ofArc_57 : decode cX1_ofArc 57 = .ok (.aload 4, 2) := dk_25 4 (dk_at dksX1_ofArc_2 11 rfl rfl)
theorem dX1_ofArc_59 : decode cX1_ofArc 59 = .ok (.getfield 61, 3) := dk_180 0 61 (dk_at dksX1_ofArc_2 13 rfl rfl)
theorem dX1_ofArc_62 : decode cX1_ofArc 62 = .ok (.iload_n 2, 1) := dk_28 (dk_at dksX1_ofArc_2 16 rfl rfl)
theorem dX1_ofArc_63 : decode cX1_ofArc 63 = .ok (.iaload, 1) := dk_46 (dk_at dksX1_ofArc_2 17 rfl rfl)
theorem dX1_ofArc_64 : decode cX1_ofArc 64 = .ok (.isub, 1) := dk_100 (dk_at dksX1_ofArc_2 18 rfl rfl)
theorem dX1_ofArc_65 : decode cX1_ofArc 65 = .ok (.ireturn, 1) := dk_172 (dk_at dksX1_ofArc_2 19 rfl rfl)
abbrev cX1_marks : ByteArray := prog_1_method_43_code
def yX1_marks : MethodName := ⟨RX1, "marks", "(I)I"⟩
def dkwX1_marks_0 : List UInt8 := [42, 27, 182, 0, 191, 42, 27, 182, 0, 152, 172]
abbrev dktX1_marks_0 : List UInt8 := dkwX1_marks_0 ++ []
theorem dksX1_marks_0 : cX1_marks.data.toList.drop 0 = dktX1_marks_0 := by decide +kernel
theorem dX1_marks_0 : decode cX1_marks 0 = .ok (.aload_n 0, 1) := dk_42 (dk_at dksX1_marks_0 0 rfl rfl)
theorem dX1_marks_1 : decode cX1_marks 1 = .ok (.iload_n 1, 1) := dk_27 (dk_at dksX1_marks_0 1 rfl rfl)
theorem dX1_marks_2 : decode cX1_marks 2 = .ok (.invokevirtual 191, 3) := dk_182 0 191 (dk_at dksX1_marks_0 2 rfl rfl)
theorem dX1_marks_5 : decode cX1_marks 5 = .ok (.aload_n 0, 1) := dk_42 (dk_at dksX1_marks_0 5 rfl rfl)
theorem dX1_marks_6 : decode cX1_marks 6 = .ok (.iload_n 1, 1) := dk_27 (dk_at dksX1_marks_0 6 rfl rfl)
theorem dX1_marks_7 : decode cX1_marks 7 = .ok (.invokevirtual 152, 3) := dk_182 0 152 (dk_at dksX1_marks_0 7 rfl rfl)
theorem dX1_marks_10 : decode cX1_marks 10 = .ok (.ireturn, 1) := dk_172 (dk_at dksX1_marks_0 10 rfl rfl)
abbrev cX1_keptText : ByteArray := prog_1_method_45_code
def yX1_keptText : MethodName := ⟨RX1, "keptText", "(I)Ljava/lang/String;"⟩
def dkwX1_keptText_0 : List UInt8 := [42, 27, 182, 0, 236, 184, 1, 10, 176]
abbrev dktX1_keptText_0 : List UInt8 := dkwX1_keptText_0 ++ []
theorem dksX1_keptText_0 : cX1_keptText.data.toList.drop 0 = dktX1_keptText_0 := by decide +kernel
theorem dX1_keptText_0 : decode cX1_keptText 0 = .ok (.aload_n 0, 1) := dk_42 (dk_at dksX1_keptText_0 0 rfl rfl)
theorem dX1_keptText_1 : decode cX1_keptText 1 = .ok (.iload_n 1, 1) := dk_27 (dk_at dksX1_keptText_0 1 rfl rfl)
theorem dX1_keptText_2 : decode cX1_keptText 2 = .ok (.invokevirtual 236, 3) := dk_182 0 236 (dk_at dksX1_keptText_0 2 rfl rfl)
theorem dX1_keptText_5 : decode cX1_keptText 5 = .ok (.invokestatic 266, 3) := dk_184 1 10 (dk_at dksX1_keptText_0 5 rfl rfl)
theorem dX1_keptText_8 : decode cX1_keptText 8 = .ok (.areturn, 1) := dk_176 (dk_at dksX1_keptText_0 8 rfl rfl)
abbrev cX1_can : ByteArray := prog_1_method_46_code
def yX1_can : MethodName := ⟨RX1, "can", "(IZ)Z"⟩
def dkwX1_can_1 : List UInt8 := [182, 0, 187, 42, 182, 0, 207, 182, 0, 211, 172]
abbrev dktX1_can_1 : List UInt8 := dkwX1_can_1 ++ []
def dkwX1_can_0 : List UInt8 := [28, 153, 0, 21, 42, 27, 182, 0, 187, 182, 0, 200, 42, 182, 0, 207, 182, 0, 211, 167, 0, 15, 42, 27]
abbrev dktX1_can_0 : List UInt8 := dkwX1_can_0 ++ dktX1_can_1
theorem dksX1_can_0 : cX1_can.data.toList.drop 0 = dktX1_can_0 := by decide +kernel
theorem dksX1_can_1 : cX1_can.data.toList.drop 24 = dktX1_can_1 := dk_seg dksX1_can_0 24 rfl rfl
theorem dX1_can_0 : decode cX1_can 0 = .ok (.iload_n 2, 1) := dk_28 (dk_at dksX1_can_0 0 rfl rfl)
theorem dX1_can_1 : decode cX1_can 1 = .ok (.ifCond .eq 21, 3) := dk_153 0 21 (dk_at dksX1_can_0 1 rfl rfl)
theorem dX1_can_4 : decode cX1_can 4 = .ok (.aload_n 0, 1) := dk_42 (dk_at dksX1_can_0 4 rfl rfl)
theorem dX1_can_5 : decode cX1_can 5 = .ok (.iload_n 1, 1) := dk_27 (dk_at dksX1_can_0 5 rfl rfl)
theorem dX1_can_6 : decode cX1_can 6 = .ok (.invokevirtual 187, 3) := dk_182 0 187 (dk_at dksX1_can_0 6 rfl rfl)
theorem dX1_can_9 : decode cX1_can 9 = .ok (.invokevirtual 200, 3) := dk_182 0 200 (dk_at dksX1_can_0 9 rfl rfl)
theorem dX1_can_12 : decode cX1_can 12 = .ok (.aload_n 0, 1) := dk_42 (dk_at dksX1_can_0 12 rfl rfl)
theorem dX1_can_13 : decode cX1_can 13 = .ok (.invokevirtual 207, 3) := dk_182 0 207 (dk_at dksX1_can_0 13 rfl rfl)
theorem dX1_can_16 : decode cX1_can 16 = .ok (.invokevirtual 211, 3) := dk_182 0 211 (dk_at dksX1_can_0 16 rfl rfl)
theorem dX1_can_19 : decode cX1_can 19 = .ok (.goto 15, 3) := dk_167 0 15 (dk_at dksX1_can_0 19 rfl rfl)
theorem dX1_can_22 : decode cX1_can 22 = .ok (.aload_n 0, 1) := dk_42 (dk_at dksX1_can_0 22 rfl rfl)
theorem dX1_can_23 : decode cX1_can 23 = .ok (.iload_n 1, 1) := dk_27 (dk_at dksX1_can_0 23 rfl rfl)
theorem dX1_can_24 : decode cX1_can 24 = .ok (.invokevirtual 187, 3) := dk_182 0 187 (dk_at dksX1_can_1 0 rfl rfl)
theorem dX1_can_27 : decode cX1_can 27 = .ok (.aload_n 0, 1) := dk_42 (dk_at dksX1_can_1 3 rfl rfl)
theorem dX1_can_28 : decode cX1_can 28 = .ok (.invokevirtual 207, 3) := dk_182 0 207 (dk_at dksX1_can_1 4 rfl rfl)
theorem dX1_can_31 : decode cX1_can 31 = .ok (.invokevirtual 211, 3) := dk_182 0 211 (dk_at dksX1_can_1 7 rfl rfl)
theorem dX1_can_34 : decode cX1_can 34 = .ok (.ireturn, 1) := dk_172 (dk_at dksX1_can_1 10 rfl rfl)
abbrev cX1_touches : ByteArray := prog_1_method_49_code
def yX1_touches : MethodName := ⟨RX1, "touches", "(I)I"⟩
def dkwX1_touches_0 : List UInt8 := [42, 27, 182, 0, 187, 182, 1, 26, 184, 1, 22, 172]
abbrev dktX1_touches_0 : List UInt8 := dkwX1_touches_0 ++ []
theorem dksX1_touches_0 : cX1_touches.data.toList.drop 0 = dktX1_touches_0 := by decide +kernel
theorem dX1_touches_0 : decode cX1_touches 0 = .ok (.aload_n 0, 1) := dk_42 (dk_at dksX1_touches_0 0 rfl rfl)
theorem dX1_touches_1 : decode cX1_touches 1 = .ok (.iload_n 1, 1) := dk_27 (dk_at dksX1_touches_0 1 rfl rfl)
theorem dX1_touches_2 : decode cX1_touches 2 = .ok (.invokevirtual 187, 3) := dk_182 0 187 (dk_at dksX1_touches_0 2 rfl rfl)
theorem dX1_touches_5 : decode cX1_touches 5 = .ok (.invokevirtual 282, 3) := dk_182 1 26 (dk_at dksX1_touches_0 5 rfl rfl)
theorem dX1_touches_8 : decode cX1_touches 8 = .ok (.invokestatic 278, 3) := dk_184 1 22 (dk_at dksX1_touches_0 8 rfl rfl)
theorem dX1_touches_11 : decode cX1_touches 11 = .ok (.ireturn, 1) := dk_172 (dk_at dksX1_touches_0 11 rfl rfl)
abbrev cX1_areApart : ByteArray := prog_1_method_50_code
def yX1_areApart : MethodName := ⟨RX1, "areApart", "(II)Z"⟩
def dkwX1_areApart_1 : List UInt8 := [167, 0, 4, 3, 172]
abbrev dktX1_areApart_1 : List UInt8 := dkwX1_areApart_1 ++ []
def dkwX1_areApart_0 : List UInt8 := [42, 27, 182, 0, 187, 182, 1, 26, 42, 28, 182, 0, 187, 182, 1, 26, 182, 1, 29, 154, 0, 7, 4]
abbrev dktX1_areApart_0 : List UInt8 := dkwX1_areApart_0 ++ dktX1_areApart_1
theorem dksX1_areApart_0 : cX1_areApart.data.toList.drop 0 = dktX1_areApart_0 := by decide +kernel
theorem dksX1_areApart_1 : cX1_areApart.data.toList.drop 23 = dktX1_areApart_1 := dk_seg dksX1_areApart_0 23 rfl rfl
theorem dX1_areApart_0 : decode cX1_areApart 0 = .ok (.aload_n 0, 1) := dk_42 (dk_at dksX1_areApart_0 0 rfl rfl)
theorem dX1_areApart_1 : decode cX1_areApart 1 = .ok (.iload_n 1, 1) := dk_27 (dk_at dksX1_areApart_0 1 rfl rfl)
theorem dX1_areApart_2 : decode cX1_areApart 2 = .ok (.invokevirtual 187, 3) := dk_182 0 187 (dk_at dksX1_areApart_0 2 rfl rfl)
theorem dX1_areApart_5 : decode cX1_areApart 5 = .ok (.invokevirtual 282, 3) := dk_182 1 26 (dk_at dksX1_areApart_0 5 rfl rfl)
theorem dX1_areApart_8 : decode cX1_areApart 8 = .ok (.aload_n 0, 1) := dk_42 (dk_at dksX1_areApart_0 8 rfl rfl)
theorem dX1_areApart_9 : decode cX1_areApart 9 = .ok (.iload_n 2, 1) := dk_28 (dk_at dksX1_areApart_0 9 rfl rfl)
theorem dX1_areApart_10 : decode cX1_areApart 10 = .ok (.invokevirtual 187, 3) := dk_182 0 187 (dk_at dksX1_areApart_0 10 rfl rfl)
theorem dX1_areApart_13 : decode cX1_areApart 13 = .ok (.invokevirtual 282, 3) := dk_182 1 26 (dk_at dksX1_areApart_0 13 rfl rfl)
theorem dX1_areApart_16 : decode cX1_areApart 16 = .ok (.invokevirtual 285, 3) := dk_182 1 29 (dk_at dksX1_areApart_0 16 rfl rfl)
theorem dX1_areApart_19 : decode cX1_areApart 19 = .ok (.ifCond .ne 7, 3) := dk_154 0 7 (dk_at dksX1_areApart_0 19 rfl rfl)
theorem dX1_areApart_22 : decode cX1_areApart 22 = .ok (.iconst 1, 1) := dk_4 (dk_at dksX1_areApart_0 22 rfl rfl)
theorem dX1_areApart_23 : decode cX1_areApart 23 = .ok (.goto 4, 3) := dk_167 0 4 (dk_at dksX1_areApart_1 0 rfl rfl)
theorem dX1_areApart_26 : decode cX1_areApart 26 = .ok (.iconst 0, 1) := dk_3 (dk_at dksX1_areApart_1 3 rfl rfl)
theorem dX1_areApart_27 : decode cX1_areApart 27 = .ok (.ireturn, 1) := dk_172 (dk_at dksX1_areApart_1 4 rfl rfl)
abbrev cX1_reachedText : ByteArray := prog_1_method_54_code
def yX1_reachedText : MethodName := ⟨RX1, "reachedText", "(I)Ljava/lang/String;"⟩
def dkwX1_reachedText_2 : List UInt8 := [167, 0, 5, 18, 7, 176]
abbrev dktX1_reachedText_2 : List UInt8 := dkwX1_reachedText_2 ++ []
def dkwX1_reachedText_1 : List UInt8 := [180, 1, 1, 182, 0, 68, 162, 0, 20, 44, 180, 1, 1, 27, 182, 0, 72, 192, 0, 108, 184, 1, 10]
abbrev dktX1_reachedText_1 : List UInt8 := dkwX1_reachedText_1 ++ dktX1_reachedText_2
def dkwX1_reachedText_0 : List UInt8 := [27, 184, 1, 36, 42, 182, 0, 243, 77, 44, 180, 0, 247, 153, 0, 9, 19, 1, 39, 167, 0, 33, 27, 44]
abbrev dktX1_reachedText_0 : List UInt8 := dkwX1_reachedText_0 ++ dktX1_reachedText_1
theorem dksX1_reachedText_0 : cX1_reachedText.data.toList.drop 0 = dktX1_reachedText_0 := by decide +kernel
theorem dksX1_reachedText_1 : cX1_reachedText.data.toList.drop 24 = dktX1_reachedText_1 := dk_seg dksX1_reachedText_0 24 rfl rfl
theorem dksX1_reachedText_2 : cX1_reachedText.data.toList.drop 47 = dktX1_reachedText_2 := dk_seg dksX1_reachedText_1 23 rfl rfl
theorem dX1_reachedText_0 : decode cX1_reachedText 0 = .ok (.iload_n 1, 1) := dk_27 (dk_at dksX1_reachedText_0 0 rfl rfl)
theorem dX1_reachedText_1 : decode cX1_reachedText 1 = .ok (.invokestatic 292, 3) := dk_184 1 36 (dk_at dksX1_reachedText_0 1 rfl rfl)
theorem dX1_reachedText_4 : decode cX1_reachedText 4 = .ok (.aload_n 0, 1) := dk_42 (dk_at dksX1_reachedText_0 4 rfl rfl)
theorem dX1_reachedText_5 : decode cX1_reachedText 5 = .ok (.invokevirtual 243, 3) := dk_182 0 243 (dk_at dksX1_reachedText_0 5 rfl rfl)
theorem dX1_reachedText_8 : decode cX1_reachedText 8 = .ok (.astore_n 2, 1) := dk_77 (dk_at dksX1_reachedText_0 8 rfl rfl)
theorem dX1_reachedText_9 : decode cX1_reachedText 9 = .ok (.aload_n 2, 1) := dk_44 (dk_at dksX1_reachedText_0 9 rfl rfl)
theorem dX1_reachedText_10 : decode cX1_reachedText 10 = .ok (.getfield 247, 3) := dk_180 0 247 (dk_at dksX1_reachedText_0 10 rfl rfl)
theorem dX1_reachedText_13 : decode cX1_reachedText 13 = .ok (.ifCond .eq 9, 3) := dk_153 0 9 (dk_at dksX1_reachedText_0 13 rfl rfl)
theorem dX1_reachedText_16 : decode cX1_reachedText 16 = .ok (.ldc_w 295, 3) := dk_19 1 39 (dk_at dksX1_reachedText_0 16 rfl rfl)
theorem dX1_reachedText_19 : decode cX1_reachedText 19 = .ok (.goto 33, 3) := dk_167 0 33 (dk_at dksX1_reachedText_0 19 rfl rfl)
theorem dX1_reachedText_22 : decode cX1_reachedText 22 = .ok (.iload_n 1, 1) := dk_27 (dk_at dksX1_reachedText_0 22 rfl rfl)
theorem dX1_reachedText_23 : decode cX1_reachedText 23 = .ok (.aload_n 2, 1) := dk_44 (dk_at dksX1_reachedText_0 23 rfl rfl)
theorem dX1_reachedText_24 : decode cX1_reachedText 24 = .ok (.getfield 257, 3) := dk_180 1 1 (dk_at dksX1_reachedText_1 0 rfl rfl)
theorem dX1_reachedText_27 : decode cX1_reachedText 27 = .ok (.invokevirtual 68, 3) := dk_182 0 68 (dk_at dksX1_reachedText_1 3 rfl rfl)
theorem dX1_reachedText_30 : decode cX1_reachedText 30 = .ok (.if_icmp .ge 20, 3) := dk_162 0 20 (dk_at dksX1_reachedText_1 6 rfl rfl)
theorem dX1_reachedText_33 : decode cX1_reachedText 33 = .ok (.aload_n 2, 1) := dk_44 (dk_at dksX1_reachedText_1 9 rfl rfl)
theorem dX1_reachedText_34 : decode cX1_reachedText 34 = .ok (.getfield 257, 3) := dk_180 1 1 (dk_at dksX1_reachedText_1 10 rfl rfl)
theorem dX1_reachedText_37 : decode cX1_reachedText 37 = .ok (.iload_n 1, 1) := dk_27 (dk_at dksX1_reachedText_1 13 rfl rfl)
theorem dX1_reachedText_38 : decode cX1_reachedText 38 = .ok (.invokevirtual 72, 3) := dk_182 0 72 (dk_at dksX1_reachedText_1 14 rfl rfl)
theorem dX1_reachedText_41 : decode cX1_reachedText 41 = .ok (.checkcast 108, 3) := dk_192 0 108 (dk_at dksX1_reachedText_1 17 rfl rfl)
theorem dX1_reachedText_44 : decode cX1_reachedText 44 = .ok (.invokestatic 266, 3) := dk_184 1 10 (dk_at dksX1_reachedText_1 20 rfl rfl)
theorem dX1_reachedText_47 : decode cX1_reachedText 47 = .ok (.goto 5, 3) := dk_167 0 5 (dk_at dksX1_reachedText_2 0 rfl rfl)
theorem dX1_reachedText_50 : decode cX1_reachedText 50 = .ok (.ldc 7, 2) := dk_18 7 (dk_at dksX1_reachedText_2 3 rfl rfl)
theorem dX1_reachedText_52 : decode cX1_reachedText 52 = .ok (.areturn, 1) := dk_176 (dk_at dksX1_reachedText_2 5 rfl rfl)
abbrev cX1_mustBeNumber : ByteArray := prog_1_method_53_code
def yX1_mustBeNumber : MethodName := ⟨RX1, "mustBeNumber", "(I)V"⟩
def dkwX1_mustBeNumber_0 : List UInt8 := [26, 3, 16, 15, 184, 0, 119, 184, 0, 171, 177]
abbrev dktX1_mustBeNumber_0 : List UInt8 := dkwX1_mustBeNumber_0 ++ []
theorem dksX1_mustBeNumber_0 : cX1_mustBeNumber.data.toList.drop 0 = dktX1_mustBeNumber_0 := by decide +kernel
theorem dX1_mustBeNumber_0 : decode cX1_mustBeNumber 0 = .ok (.iload_n 0, 1) := dk_26 (dk_at dksX1_mustBeNumber_0 0 rfl rfl)
theorem dX1_mustBeNumber_1 : decode cX1_mustBeNumber 1 = .ok (.iconst 0, 1) := dk_3 (dk_at dksX1_mustBeNumber_0 1 rfl rfl)
theorem dX1_mustBeNumber_2 : decode cX1_mustBeNumber 2 = .ok (.bipush 15, 2) := dk_16 15 (dk_at dksX1_mustBeNumber_0 2 rfl rfl)
theorem dX1_mustBeNumber_4 : decode cX1_mustBeNumber 4 = .ok (.invokestatic 119, 3) := dk_184 0 119 (dk_at dksX1_mustBeNumber_0 4 rfl rfl)
theorem dX1_mustBeNumber_7 : decode cX1_mustBeNumber 7 = .ok (.invokestatic 171, 3) := dk_184 0 171 (dk_at dksX1_mustBeNumber_0 7 rfl rfl)
theorem dX1_mustBeNumber_10 : decode cX1_mustBeNumber 10 = .ok (.return_, 1) := dk_177 (dk_at dksX1_mustBeNumber_0 10 rfl rfl)
abbrev cX1_number : ByteArray := prog_1_method_55_code
def yX1_number : MethodName := ⟨RX1, "number", "(I)I"⟩
def dkwX1_number_1 : List UInt8 := [44, 182, 0, 253, 172]
abbrev dktX1_number_1 : List UInt8 := dkwX1_number_1 ++ []
def dkwX1_number_0 : List UInt8 := [42, 27, 182, 0, 236, 77, 42, 182, 0, 243, 78, 45, 180, 0, 247, 153, 0, 8, 16, 247, 167, 0, 8, 45]
abbrev dktX1_number_0 : List UInt8 := dkwX1_number_0 ++ dktX1_number_1
theorem dksX1_number_0 : cX1_number.data.toList.drop 0 = dktX1_number_0 := by decide +kernel
theorem dksX1_number_1 : cX1_number.data.toList.drop 24 = dktX1_number_1 := dk_seg dksX1_number_0 24 rfl rfl
theorem dX1_number_0 : decode cX1_number 0 = .ok (.aload_n 0, 1) := dk_42 (dk_at dksX1_number_0 0 rfl rfl)
theorem dX1_number_1 : decode cX1_number 1 = .ok (.iload_n 1, 1) := dk_27 (dk_at dksX1_number_0 1 rfl rfl)
theorem dX1_number_2 : decode cX1_number 2 = .ok (.invokevirtual 236, 3) := dk_182 0 236 (dk_at dksX1_number_0 2 rfl rfl)
theorem dX1_number_5 : decode cX1_number 5 = .ok (.astore_n 2, 1) := dk_77 (dk_at dksX1_number_0 5 rfl rfl)
theorem dX1_number_6 : decode cX1_number 6 = .ok (.aload_n 0, 1) := dk_42 (dk_at dksX1_number_0 6 rfl rfl)
theorem dX1_number_7 : decode cX1_number 7 = .ok (.invokevirtual 243, 3) := dk_182 0 243 (dk_at dksX1_number_0 7 rfl rfl)
theorem dX1_number_10 : decode cX1_number 10 = .ok (.astore_n 3, 1) := dk_78 (dk_at dksX1_number_0 10 rfl rfl)
theorem dX1_number_11 : decode cX1_number 11 = .ok (.aload_n 3, 1) := dk_45 (dk_at dksX1_number_0 11 rfl rfl)
theorem dX1_number_12 : decode cX1_number 12 = .ok (.getfield 247, 3) := dk_180 0 247 (dk_at dksX1_number_0 12 rfl rfl)
theorem dX1_number_15 : decode cX1_number 15 = .ok (.ifCond .eq 8, 3) := dk_153 0 8 (dk_at dksX1_number_0 15 rfl rfl)
theorem dX1_number_18 : decode cX1_number 18 = .ok (.bipush (-9), 2) := dk_16 247 (dk_at dksX1_number_0 18 rfl rfl)
theorem dX1_number_20 : decode cX1_number 20 = .ok (.goto 8, 3) := dk_167 0 8 (dk_at dksX1_number_0 20 rfl rfl)
theorem dX1_number_23 : decode cX1_number 23 = .ok (.aload_n 3, 1) := dk_45 (dk_at dksX1_number_0 23 rfl rfl)
theorem dX1_number_24 : decode cX1_number 24 = .ok (.aload_n 2, 1) := dk_44 (dk_at dksX1_number_1 0 rfl rfl)
theorem dX1_number_25 : decode cX1_number 25 = .ok (.invokevirtual 253, 3) := dk_182 0 253 (dk_at dksX1_number_1 1 rfl rfl)
theorem dX1_number_28 : decode cX1_number 28 = .ok (.ireturn, 1) := dk_172 (dk_at dksX1_number_1 4 rfl rfl)
abbrev cX1_way : ByteArray := prog_1_method_59_code
def yX1_way : MethodName := ⟨RX1, "way", "(II)Ljava/lang/String;"⟩
def dkwX1_way_3 : List UInt8 := [182, 1, 6, 184, 1, 51, 176]
abbrev dktX1_way_3 : List UInt8 := dkwX1_way_3 ++ []
def dkwX1_way_2 : List UInt8 := [45, 182, 0, 253, 54, 5, 21, 5, 2, 160, 0, 9, 19, 1, 54, 167, 0, 13, 25, 4, 21, 5]
abbrev dktX1_way_2 : List UInt8 := dkwX1_way_2 ++ dktX1_way_3
def dkwX1_way_1 : List UInt8 := [182, 1, 56, 176, 42, 182, 0, 243, 58, 4, 25, 4, 180, 0, 247, 153, 0, 7, 19, 1, 39, 176, 25, 4]
abbrev dktX1_way_1 : List UInt8 := dkwX1_way_1 ++ dktX1_way_2
def dkwX1_way_0 : List UInt8 := [42, 27, 182, 0, 236, 78, 28, 3, 4, 184, 0, 119, 184, 0, 171, 28, 4, 160, 0, 9, 42, 45]
abbrev dktX1_way_0 : List UInt8 := dkwX1_way_0 ++ dktX1_way_1
theorem dksX1_way_0 : cX1_way.data.toList.drop 0 = dktX1_way_0 := by decide +kernel
theorem dksX1_way_1 : cX1_way.data.toList.drop 22 = dktX1_way_1 := dk_seg dksX1_way_0 22 rfl rfl
theorem dksX1_way_2 : cX1_way.data.toList.drop 46 = dktX1_way_2 := dk_seg dksX1_way_1 24 rfl rfl
theorem dksX1_way_3 : cX1_way.data.toList.drop 68 = dktX1_way_3 := dk_seg dksX1_way_2 22 rfl rfl
theorem dX1_way_0 : decode cX1_way 0 = .ok (.aload_n 0, 1) := dk_42 (dk_at dksX1_way_0 0 rfl rfl)
theorem dX1_way_1 : decode cX1_way 1 = .ok (.iload_n 1, 1) := dk_27 (dk_at dksX1_way_0 1 rfl rfl)
theorem dX1_way_2 : decode cX1_way 2 = .ok (.invokevirtual 236, 3) := dk_182 0 236 (dk_at dksX1_way_0 2 rfl rfl)
theorem dX1_way_5 : decode cX1_way 5 = .ok (.astore_n 3, 1) := dk_78 (dk_at dksX1_way_0 5 rfl rfl)
theorem dX1_way_6 : decode cX1_way 6 = .ok (.iload_n 2, 1) := dk_28 (dk_at dksX1_way_0 6 rfl rfl)
theorem dX1_way_7 : decode cX1_way 7 = .ok (.iconst 0, 1) := dk_3 (dk_at dksX1_way_0 7 rfl rfl)
theorem dX1_way_8 : decode cX1_way 8 = .ok (.iconst 1, 1) := dk_4 (dk_at dksX1_way_0 8 rfl rfl)
theorem dX1_way_9 : decode cX1_way 9 = .ok (.invokestatic 119, 3) := dk_184 0 119 (dk_at dksX1_way_0 9 rfl rfl)
theorem dX1_way_12 : decode cX1_way 12 = .ok (.invokestatic 171, 3) := dk_184 0 171 (dk_at dksX1_way_0 12 rfl rfl)
theorem dX1_way_15 : decode cX1_way 15 = .ok (.iload_n 2, 1) := dk_28 (dk_at dksX1_way_0 15 rfl rfl)
theorem dX1_way_16 : decode cX1_way 16 = .ok (.iconst 1, 1) := dk_4 (dk_at dksX1_way_0 16 rfl rfl)
theorem dX1_way_17 : decode cX1_way 17 = .ok (.if_icmp .ne 9, 3) := dk_160 0 9 (dk_at dksX1_way_0 17 rfl rfl)
theorem dX1_way_20 : decode cX1_way 20 = .ok (.aload_n 0, 1) := dk_42 (dk_at dksX1_way_0 20 rfl rfl)
theorem dX1_way_21 : decode cX1_way 21 = .ok (.aload_n 3, 1) := dk_45 (dk_at dksX1_way_0 21 rfl rfl)
theorem dX1_way_22 : decode cX1_way 22 = .ok (.invokevirtual 312, 3) := dk_182 1 56 (dk_at dksX1_way_1 0 rfl rfl)
theorem dX1_way_25 : decode cX1_way 25 = .ok (.areturn, 1) := dk_176 (dk_at dksX1_way_1 3 rfl rfl)
theorem dX1_way_26 : decode cX1_way 26 = .ok (.aload_n 0, 1) := dk_42 (dk_at dksX1_way_1 4 rfl rfl)
theorem dX1_way_27 : decode cX1_way 27 = .ok (.invokevirtual 243, 3) := dk_182 0 243 (dk_at dksX1_way_1 5 rfl rfl)
theorem dX1_way_30 : decode cX1_way 30 = .ok (.astore 4, 2) := dk_58 4 (dk_at dksX1_way_1 8 rfl rfl)
theorem dX1_way_32 : decode cX1_way 32 = .ok (.aload 4, 2) := dk_25 4 (dk_at dksX1_way_1 10 rfl rfl)
theorem dX1_way_34 : decode cX1_way 34 = .ok (.getfield 247, 3) := dk_180 0 247 (dk_at dksX1_way_1 12 rfl rfl)
theorem dX1_way_37 : decode cX1_way 37 = .ok (.ifCond .eq 7, 3) := dk_153 0 7 (dk_at dksX1_way_1 15 rfl rfl)
theorem dX1_way_40 : decode cX1_way 40 = .ok (.ldc_w 295, 3) := dk_19 1 39 (dk_at dksX1_way_1 18 rfl rfl)
theorem dX1_way_43 : decode cX1_way 43 = .ok (.areturn, 1) := dk_176 (dk_at dksX1_way_1 21 rfl rfl)
theorem dX1_way_44 : decode cX1_way 44 = .ok (.aload 4, 2) := dk_25 4 (dk_at dksX1_way_1 22 rfl rfl)
theorem dX1_way_46 : decode cX1_way 46 = .ok (.aload_n 3, 1) := dk_45 (dk_at dksX1_way_2 0 rfl rfl)
theorem dX1_way_47 : decode cX1_way 47 = .ok (.invokevirtual 253, 3) := dk_182 0 253 (dk_at dksX1_way_2 1 rfl rfl)
theorem dX1_way_50 : decode cX1_way 50 = .ok (.istore 5, 2) := dk_54 5 (dk_at dksX1_way_2 4 rfl rfl)
theorem dX1_way_52 : decode cX1_way 52 = .ok (.iload 5, 2) := dk_21 5 (dk_at dksX1_way_2 6 rfl rfl)
theorem dX1_way_54 : decode cX1_way 54 = .ok (.iconst (-1), 1) := dk_2 (dk_at dksX1_way_2 8 rfl rfl)
theorem dX1_way_55 : decode cX1_way 55 = .ok (.if_icmp .ne 9, 3) := dk_160 0 9 (dk_at dksX1_way_2 9 rfl rfl)
theorem dX1_way_58 : decode cX1_way 58 = .ok (.ldc_w 310, 3) := dk_19 1 54 (dk_at dksX1_way_2 12 rfl rfl)
theorem dX1_way_61 : decode cX1_way 61 = .ok (.goto 13, 3) := dk_167 0 13 (dk_at dksX1_way_2 15 rfl rfl)
theorem dX1_way_64 : decode cX1_way 64 = .ok (.aload 4, 2) := dk_25 4 (dk_at dksX1_way_2 18 rfl rfl)
theorem dX1_way_66 : decode cX1_way 66 = .ok (.iload 5, 2) := dk_21 5 (dk_at dksX1_way_2 20 rfl rfl)
theorem dX1_way_68 : decode cX1_way 68 = .ok (.invokevirtual 262, 3) := dk_182 1 6 (dk_at dksX1_way_3 0 rfl rfl)
theorem dX1_way_71 : decode cX1_way 71 = .ok (.invokestatic 307, 3) := dk_184 1 51 (dk_at dksX1_way_3 3 rfl rfl)
theorem dX1_way_74 : decode cX1_way 74 = .ok (.areturn, 1) := dk_176 (dk_at dksX1_way_3 6 rfl rfl)
abbrev cX1_deepened : ByteArray := prog_1_method_58_code
def yX1_deepened : MethodName := ⟨RX1, "deepened", "([I)Ljava/lang/String;"⟩
def dkwX1_deepened_1 : List UInt8 := [182, 1, 44, 153, 0, 8, 44, 184, 1, 51, 176, 132, 3, 1, 167, 255, 229, 19, 1, 54, 176]
abbrev dktX1_deepened_1 : List UInt8 := dkwX1_deepened_1 ++ []
def dkwX1_deepened_0 : List UInt8 := [187, 0, 38, 89, 183, 0, 40, 77, 3, 62, 29, 5, 163, 0, 28, 42, 42, 182, 0, 207, 43, 29, 44]
abbrev dktX1_deepened_0 : List UInt8 := dkwX1_deepened_0 ++ dktX1_deepened_1
theorem dksX1_deepened_0 : cX1_deepened.data.toList.drop 0 = dktX1_deepened_0 := by decide +kernel
theorem dksX1_deepened_1 : cX1_deepened.data.toList.drop 23 = dktX1_deepened_1 := dk_seg dksX1_deepened_0 23 rfl rfl
theorem dX1_deepened_0 : decode cX1_deepened 0 = .ok (.new 38, 3) := dk_187 0 38 (dk_at dksX1_deepened_0 0 rfl rfl)
theorem dX1_deepened_3 : decode cX1_deepened 3 = .ok (.dup, 1) := dk_89 (dk_at dksX1_deepened_0 3 rfl rfl)
theorem dX1_deepened_4 : decode cX1_deepened 4 = .ok (.invokespecial 40, 3) := dk_183 0 40 (dk_at dksX1_deepened_0 4 rfl rfl)
theorem dX1_deepened_7 : decode cX1_deepened 7 = .ok (.astore_n 2, 1) := dk_77 (dk_at dksX1_deepened_0 7 rfl rfl)
theorem dX1_deepened_8 : decode cX1_deepened 8 = .ok (.iconst 0, 1) := dk_3 (dk_at dksX1_deepened_0 8 rfl rfl)
theorem dX1_deepened_9 : decode cX1_deepened 9 = .ok (.istore_n 3, 1) := dk_62 (dk_at dksX1_deepened_0 9 rfl rfl)
theorem dX1_deepened_10 : decode cX1_deepened 10 = .ok (.iload_n 3, 1) := dk_29 (dk_at dksX1_deepened_0 10 rfl rfl)
theorem dX1_deepened_11 : decode cX1_deepened 11 = .ok (.iconst 2, 1) := dk_5 (dk_at dksX1_deepened_0 11 rfl rfl)
theorem dX1_deepened_12 : decode cX1_deepened 12 = .ok (.if_icmp .gt 28, 3) := dk_163 0 28 (dk_at dksX1_deepened_0 12 rfl rfl)
theorem dX1_deepened_15 : decode cX1_deepened 15 = .ok (.aload_n 0, 1) := dk_42 (dk_at dksX1_deepened_0 15 rfl rfl)
theorem dX1_deepened_16 : decode cX1_deepened 16 = .ok (.aload_n 0, 1) := dk_42 (dk_at dksX1_deepened_0 16 rfl rfl)
theorem dX1_deepened_17 : decode cX1_deepened 17 = .ok (.invokevirtual 207, 3) := dk_182 0 207 (dk_at dksX1_deepened_0 17 rfl rfl)
theorem dX1_deepened_20 : decode cX1_deepened 20 = .ok (.aload_n 1, 1) := dk_43 (dk_at dksX1_deepened_0 20 rfl rfl)
theorem dX1_deepened_21 : decode cX1_deepened 21 = .ok (.iload_n 3, 1) := dk_29 (dk_at dksX1_deepened_0 21 rfl rfl)
theorem dX1_deepened_22 : decode cX1_deepened 22 = .ok (.aload_n 2, 1) := dk_44 (dk_at dksX1_deepened_0 22 rfl rfl)
theorem dX1_deepened_23 : decode cX1_deepened 23 = .ok (.invokevirtual 300, 3) := dk_182 1 44 (dk_at dksX1_deepened_1 0 rfl rfl)
theorem dX1_deepened_26 : decode cX1_deepened 26 = .ok (.ifCond .eq 8, 3) := dk_153 0 8 (dk_at dksX1_deepened_1 3 rfl rfl)
theorem dX1_deepened_29 : decode cX1_deepened 29 = .ok (.aload_n 2, 1) := dk_44 (dk_at dksX1_deepened_1 6 rfl rfl)
theorem dX1_deepened_30 : decode cX1_deepened 30 = .ok (.invokestatic 307, 3) := dk_184 1 51 (dk_at dksX1_deepened_1 7 rfl rfl)
theorem dX1_deepened_33 : decode cX1_deepened 33 = .ok (.areturn, 1) := dk_176 (dk_at dksX1_deepened_1 10 rfl rfl)
theorem dX1_deepened_34 : decode cX1_deepened 34 = .ok (.iinc 3 1, 3) := dk_132 3 1 (dk_at dksX1_deepened_1 11 rfl rfl)
theorem dX1_deepened_37 : decode cX1_deepened 37 = .ok (.goto (-27), 3) := dk_167 255 229 (dk_at dksX1_deepened_1 14 rfl rfl)
theorem dX1_deepened_40 : decode cX1_deepened 40 = .ok (.ldc_w 310, 3) := dk_19 1 54 (dk_at dksX1_deepened_1 17 rfl rfl)
theorem dX1_deepened_43 : decode cX1_deepened 43 = .ok (.areturn, 1) := dk_176 (dk_at dksX1_deepened_1 20 rfl rfl)
abbrev cX1_isDeepened : ByteArray := prog_1_method_57_code
def yX1_isDeepened : MethodName := ⟨RX1, "isDeepened", "([I[IILjava/util/ArrayList;)Z"⟩
def dkwX1_isDeepened_4 : List UInt8 := [167, 255, 177, 3, 172]
abbrev dktX1_isDeepened_4 : List UInt8 := dkwX1_isDeepened_4 ++ []
def dkwX1_isDeepened_3 : List UInt8 := [154, 0, 6, 167, 0, 16, 25, 4, 3, 21, 5, 184, 0, 133, 182, 1, 48, 4, 172, 132, 5, 1]
abbrev dktX1_isDeepened_3 : List UInt8 := dkwX1_isDeepened_3 ++ dktX1_isDeepened_4
def dkwX1_isDeepened_2 : List UInt8 := [180, 0, 97, 21, 5, 182, 0, 72, 192, 0, 55, 43, 182, 0, 215, 44, 29, 4, 100, 25, 4, 182, 1, 44]
abbrev dktX1_isDeepened_2 : List UInt8 := dkwX1_isDeepened_2 ++ dktX1_isDeepened_3
def dkwX1_isDeepened_1 : List UInt8 := [162, 0, 73, 42, 180, 0, 97, 21, 5, 182, 0, 72, 192, 0, 55, 43, 182, 0, 211, 153, 0, 48, 42, 42]
abbrev dktX1_isDeepened_1 : List UInt8 := dkwX1_isDeepened_1 ++ dktX1_isDeepened_2
def dkwX1_isDeepened_0 : List UInt8 := [29, 154, 0, 9, 43, 44, 184, 0, 239, 172, 3, 54, 5, 21, 5, 42, 180, 0, 97, 182, 0, 68]
abbrev dktX1_isDeepened_0 : List UInt8 := dkwX1_isDeepened_0 ++ dktX1_isDeepened_1
theorem dksX1_isDeepened_0 : cX1_isDeepened.data.toList.drop 0 = dktX1_isDeepened_0 := by decide +kernel
theorem dksX1_isDeepened_1 : cX1_isDeepened.data.toList.drop 22 = dktX1_isDeepened_1 := dk_seg dksX1_isDeepened_0 22 rfl rfl
theorem dksX1_isDeepened_2 : cX1_isDeepened.data.toList.drop 46 = dktX1_isDeepened_2 := dk_seg dksX1_isDeepened_1 24 rfl rfl
theorem dksX1_isDeepened_3 : cX1_isDeepened.data.toList.drop 70 = dktX1_isDeepened_3 := dk_seg dksX1_isDeepened_2 24 rfl rfl
theorem dksX1_isDeepened_4 : cX1_isDeepened.data.toList.drop 92 = dktX1_isDeepened_4 := dk_seg dksX1_isDeepened_3 22 rfl rfl
theorem dX1_isDeepened_0 : decode cX1_isDeepened 0 = .ok (.iload_n 3, 1) := dk_29 (dk_at dksX1_isDeepened_0 0 rfl rfl)
theorem dX1_isDeepened_1 : decode cX1_isDeepened 1 = .ok (.ifCond .ne 9, 3) := dk_154 0 9 (dk_at dksX1_isDeepened_0 1 rfl rfl)
theorem dX1_isDeepened_4 : decode cX1_isDeepened 4 = .ok (.aload_n 1, 1) := dk_43 (dk_at dksX1_isDeepened_0 4 rfl rfl)
theorem dX1_isDeepened_5 : decode cX1_isDeepened 5 = .ok (.aload_n 2, 1) := dk_44 (dk_at dksX1_isDeepened_0 5 rfl rfl)
theorem dX1_isDeepened_6 : decode cX1_isDeepened 6 = .ok (.invokestatic 239, 3) := dk_184 0 239 (dk_at dksX1_isDeepened_0 6 rfl rfl)
theorem dX1_isDeepened_9 : decode cX1_isDeepened 9 = .ok (.ireturn, 1) := dk_172 (dk_at dksX1_isDeepened_0 9 rfl rfl)
theorem dX1_isDeepened_10 : decode cX1_isDeepened 10 = .ok (.iconst 0, 1) := dk_3 (dk_at dksX1_isDeepened_0 10 rfl rfl)
theorem dX1_isDeepened_11 : decode cX1_isDeepened 11 = .ok (.istore 5, 2) := dk_54 5 (dk_at dksX1_isDeepened_0 11 rfl rfl)
theorem dX1_isDeepened_13 : decode cX1_isDeepened 13 = .ok (.iload 5, 2) := dk_21 5 (dk_at dksX1_isDeepened_0 13 rfl rfl)
theorem dX1_isDeepened_15 : decode cX1_isDeepened 15 = .ok (.aload_n 0, 1) := dk_42 (dk_at dksX1_isDeepened_0 15 rfl rfl)
theorem dX1_isDeepened_16 : decode cX1_isDeepened 16 = .ok (.getfield 97, 3) := dk_180 0 97 (dk_at dksX1_isDeepened_0 16 rfl rfl)
theorem dX1_isDeepened_19 : decode cX1_isDeepened 19 = .ok (.invokevirtual 68, 3) := dk_182 0 68 (dk_at dksX1_isDeepened_0 19 rfl rfl)
theorem dX1_isDeepened_22 : decode cX1_isDeepened 22 = .ok (.if_icmp .ge 73, 3) := dk_162 0 73 (dk_at dksX1_isDeepened_1 0 rfl rfl)
theorem dX1_isDeepened_25 : decode cX1_isDeepened 25 = .ok (.aload_n 0, 1) := dk_42 (dk_at dksX1_isDeepened_1 3 rfl rfl)
theorem dX1_isDeepened_26 : decode cX1_isDeepened 26 = .ok (.getfield 97, 3) := dk_180 0 97 (dk_at dksX1_isDeepened_1 4 rfl rfl)
theorem dX1_isDeepened_29 : decode cX1_isDeepened 29 = .ok (.iload 5, 2) := dk_21 5 (dk_at dksX1_isDeepened_1 7 rfl rfl)
theorem dX1_isDeepened_31 : decode cX1_isDeepened 31 = .ok (.invokevirtual 72, 3) := dk_182 0 72 (dk_at dksX1_isDeepened_1 9 rfl rfl)
theorem dX1_isDeepened_34 : decode cX1_isDeepened 34 = .ok (.checkcast 55, 3) := dk_192 0 55 (dk_at dksX1_isDeepened_1 12 rfl rfl)
theorem dX1_isDeepened_37 : decode cX1_isDeepened 37 = .ok (.aload_n 1, 1) := dk_43 (dk_at dksX1_isDeepened_1 15 rfl rfl)
theorem dX1_isDeepened_38 : decode cX1_isDeepened 38 = .ok (.invokevirtual 211, 3) := dk_182 0 211 (dk_at dksX1_isDeepened_1 16 rfl rfl)
theorem dX1_isDeepened_41 : decode cX1_isDeepened 41 = .ok (.ifCond .eq 48, 3) := dk_153 0 48 (dk_at dksX1_isDeepened_1 19 rfl rfl)
theorem dX1_isDeepened_44 : decode cX1_isDeepened 44 = .ok (.aload_n 0, 1) := dk_42 (dk_at dksX1_isDeepened_1 22 rfl rfl)
theorem dX1_isDeepened_45 : decode cX1_isDeepened 45 = .ok (.aload_n 0, 1) := dk_42 (dk_at dksX1_isDeepened_1 23 rfl rfl)
theorem dX1_isDeepened_46 : decode cX1_isDeepened 46 = .ok (.getfield 97, 3) := dk_180 0 97 (dk_at dksX1_isDeepened_2 0 rfl rfl)
theorem dX1_isDeepened_49 : decode cX1_isDeepened 49 = .ok (.iload 5, 2) := dk_21 5 (dk_at dksX1_isDeepened_2 3 rfl rfl)
theorem dX1_isDeepened_51 : decode cX1_isDeepened 51 = .ok (.invokevirtual 72, 3) := dk_182 0 72 (dk_at dksX1_isDeepened_2 5 rfl rfl)
theorem dX1_isDeepened_54 : decode cX1_isDeepened 54 = .ok (.checkcast 55, 3) := dk_192 0 55 (dk_at dksX1_isDeepened_2 8 rfl rfl)
theorem dX1_isDeepened_57 : decode cX1_isDeepened 57 = .ok (.aload_n 1, 1) := dk_43 (dk_at dksX1_isDeepened_2 11 rfl rfl)
theorem dX1_isDeepened_58 : decode cX1_isDeepened 58 = .ok (.invokevirtual 215, 3) := dk_182 0 215 (dk_at dksX1_isDeepened_2 12 rfl rfl)
theorem dX1_isDeepened_61 : decode cX1_isDeepened 61 = .ok (.aload_n 2, 1) := dk_44 (dk_at dksX1_isDeepened_2 15 rfl rfl)
theorem dX1_isDeepened_62 : decode cX1_isDeepened 62 = .ok (.iload_n 3, 1) := dk_29 (dk_at dksX1_isDeepened_2 16 rfl rfl)
theorem dX1_isDeepened_63 : decode cX1_isDeepened 63 = .ok (.iconst 1, 1) := dk_4 (dk_at dksX1_isDeepened_2 17 rfl rfl)
theorem dX1_isDeepened_64 : decode cX1_isDeepened 64 = .ok (.isub, 1) := dk_100 (dk_at dksX1_isDeepened_2 18 rfl rfl)
theorem dX1_isDeepened_65 : decode cX1_isDeepened 65 = .ok (.aload 4, 2) := dk_25 4 (dk_at dksX1_isDeepened_2 19 rfl rfl)
theorem dX1_isDeepened_67 : decode cX1_isDeepened 67 = .ok (.invokevirtual 300, 3) := dk_182 1 44 (dk_at dksX1_isDeepened_2 21 rfl rfl)
theorem dX1_isDeepened_70 : decode cX1_isDeepened 70 = .ok (.ifCond .ne 6, 3) := dk_154 0 6 (dk_at dksX1_isDeepened_3 0 rfl rfl)
theorem dX1_isDeepened_73 : decode cX1_isDeepened 73 = .ok (.goto 16, 3) := dk_167 0 16 (dk_at dksX1_isDeepened_3 3 rfl rfl)
theorem dX1_isDeepened_76 : decode cX1_isDeepened 76 = .ok (.aload 4, 2) := dk_25 4 (dk_at dksX1_isDeepened_3 6 rfl rfl)
theorem dX1_isDeepened_78 : decode cX1_isDeepened 78 = .ok (.iconst 0, 1) := dk_3 (dk_at dksX1_isDeepened_3 8 rfl rfl)
theorem dX1_isDeepened_79 : decode cX1_isDeepened 79 = .ok (.iload 5, 2) := dk_21 5 (dk_at dksX1_isDeepened_3 9 rfl rfl)
theorem dX1_isDeepened_81 : decode cX1_isDeepened 81 = .ok (.invokestatic 133, 3) := dk_184 0 133 (dk_at dksX1_isDeepened_3 11 rfl rfl)
theorem dX1_isDeepened_84 : decode cX1_isDeepened 84 = .ok (.invokevirtual 304, 3) := dk_182 1 48 (dk_at dksX1_isDeepened_3 14 rfl rfl)
theorem dX1_isDeepened_87 : decode cX1_isDeepened 87 = .ok (.iconst 1, 1) := dk_4 (dk_at dksX1_isDeepened_3 17 rfl rfl)
theorem dX1_isDeepened_88 : decode cX1_isDeepened 88 = .ok (.ireturn, 1) := dk_172 (dk_at dksX1_isDeepened_3 18 rfl rfl)
theorem dX1_isDeepened_89 : decode cX1_isDeepened 89 = .ok (.iinc 5 1, 3) := dk_132 5 1 (dk_at dksX1_isDeepened_3 19 rfl rfl)
theorem dX1_isDeepened_92 : decode cX1_isDeepened 92 = .ok (.goto (-79), 3) := dk_167 255 177 (dk_at dksX1_isDeepened_4 0 rfl rfl)
theorem dX1_isDeepened_95 : decode cX1_isDeepened 95 = .ok (.iconst 0, 1) := dk_3 (dk_at dksX1_isDeepened_4 3 rfl rfl)
theorem dX1_isDeepened_96 : decode cX1_isDeepened 96 = .ok (.ireturn, 1) := dk_172 (dk_at dksX1_isDeepened_4 4 rfl rfl)
abbrev cX1_textOf_2 : ByteArray := prog_1_method_56_code
def yX1_textOf_2 : MethodName := ⟨RX1, "textOf", "(Ljava/util/ArrayList;)Ljava/lang/String;"⟩
def dkwX1_textOf_2_2 : List UInt8 := [167, 0, 5, 18, 9, 182, 0, 11, 29, 182, 0, 15, 87, 167, 255, 211, 43, 182, 0, 18, 176]
abbrev dktX1_textOf_2_2 : List UInt8 := dkwX1_textOf_2_2 ++ []
def dkwX1_textOf_2_1 : List UInt8 := [185, 0, 51, 1, 0, 192, 0, 134, 182, 0, 142, 62, 43, 43, 182, 1, 41, 154, 0, 8, 18, 7]
abbrev dktX1_textOf_2_1 : List UInt8 := dkwX1_textOf_2_1 ++ dktX1_textOf_2_2
def dkwX1_textOf_2_0 : List UInt8 := [187, 0, 1, 89, 183, 0, 3, 76, 42, 182, 0, 41, 77, 44, 185, 0, 45, 1, 0, 153, 0, 42, 44]
abbrev dktX1_textOf_2_0 : List UInt8 := dkwX1_textOf_2_0 ++ dktX1_textOf_2_1
theorem dksX1_textOf_2_0 : cX1_textOf_2.data.toList.drop 0 = dktX1_textOf_2_0 := by decide +kernel
theorem dksX1_textOf_2_1 : cX1_textOf_2.data.toList.drop 23 = dktX1_textOf_2_1 := dk_seg dksX1_textOf_2_0 23 rfl rfl
theorem dksX1_textOf_2_2 : cX1_textOf_2.data.toList.drop 45 = dktX1_textOf_2_2 := dk_seg dksX1_textOf_2_1 22 rfl rfl
theorem dX1_textOf_2_0 : decode cX1_textOf_2 0 = .ok (.new 1, 3) := dk_187 0 1 (dk_at dksX1_textOf_2_0 0 rfl rfl)
theorem dX1_textOf_2_3 : decode cX1_textOf_2 3 = .ok (.dup, 1) := dk_89 (dk_at dksX1_textOf_2_0 3 rfl rfl)
theorem dX1_textOf_2_4 : decode cX1_textOf_2 4 = .ok (.invokespecial 3, 3) := dk_183 0 3 (dk_at dksX1_textOf_2_0 4 rfl rfl)
theorem dX1_textOf_2_7 : decode cX1_textOf_2 7 = .ok (.astore_n 1, 1) := dk_76 (dk_at dksX1_textOf_2_0 7 rfl rfl)
theorem dX1_textOf_2_8 : decode cX1_textOf_2 8 = .ok (.aload_n 0, 1) := dk_42 (dk_at dksX1_textOf_2_0 8 rfl rfl)
theorem dX1_textOf_2_9 : decode cX1_textOf_2 9 = .ok (.invokevirtual 41, 3) := dk_182 0 41 (dk_at dksX1_textOf_2_0 9 rfl rfl)
theorem dX1_textOf_2_12 : decode cX1_textOf_2 12 = .ok (.astore_n 2, 1) := dk_77 (dk_at dksX1_textOf_2_0 12 rfl rfl)
theorem dX1_textOf_2_13 : decode cX1_textOf_2 13 = .ok (.aload_n 2, 1) := dk_44 (dk_at dksX1_textOf_2_0 13 rfl rfl)
theorem dX1_textOf_2_14 : decode cX1_textOf_2 14 = .ok (.invokeinterface 45 1, 5) := by decide +kernel
theorem dX1_textOf_2_19 : decode cX1_textOf_2 19 = .ok (.ifCond .eq 42, 3) := dk_153 0 42 (dk_at dksX1_textOf_2_0 19 rfl rfl)
theorem dX1_textOf_2_22 : decode cX1_textOf_2 22 = .ok (.aload_n 2, 1) := dk_44 (dk_at dksX1_textOf_2_0 22 rfl rfl)
theorem dX1_textOf_2_23 : decode cX1_textOf_2 23 = .ok (.invokeinterface 51 1, 5) := by decide +kernel
theorem dX1_textOf_2_28 : decode cX1_textOf_2 28 = .ok (.checkcast 134, 3) := dk_192 0 134 (dk_at dksX1_textOf_2_1 5 rfl rfl)
theorem dX1_textOf_2_31 : decode cX1_textOf_2 31 = .ok (.invokevirtual 142, 3) := dk_182 0 142 (dk_at dksX1_textOf_2_1 8 rfl rfl)
theorem dX1_textOf_2_34 : decode cX1_textOf_2 34 = .ok (.istore_n 3, 1) := dk_62 (dk_at dksX1_textOf_2_1 11 rfl rfl)
theorem dX1_textOf_2_35 : decode cX1_textOf_2 35 = .ok (.aload_n 1, 1) := dk_43 (dk_at dksX1_textOf_2_1 12 rfl rfl)
theorem dX1_textOf_2_36 : decode cX1_textOf_2 36 = .ok (.aload_n 1, 1) := dk_43 (dk_at dksX1_textOf_2_1 13 rfl rfl)
theorem dX1_textOf_2_37 : decode cX1_textOf_2 37 = .ok (.invokevirtual 297, 3) := dk_182 1 41 (dk_at dksX1_textOf_2_1 14 rfl rfl)
theorem dX1_textOf_2_40 : decode cX1_textOf_2 40 = .ok (.ifCond .ne 8, 3) := dk_154 0 8 (dk_at dksX1_textOf_2_1 17 rfl rfl)
theorem dX1_textOf_2_43 : decode cX1_textOf_2 43 = .ok (.ldc 7, 2) := dk_18 7 (dk_at dksX1_textOf_2_1 20 rfl rfl)
theorem dX1_textOf_2_45 : decode cX1_textOf_2 45 = .ok (.goto 5, 3) := dk_167 0 5 (dk_at dksX1_textOf_2_2 0 rfl rfl)
theorem dX1_textOf_2_48 : decode cX1_textOf_2 48 = .ok (.ldc 9, 2) := dk_18 9 (dk_at dksX1_textOf_2_2 3 rfl rfl)
theorem dX1_textOf_2_50 : decode cX1_textOf_2 50 = .ok (.invokevirtual 11, 3) := dk_182 0 11 (dk_at dksX1_textOf_2_2 5 rfl rfl)
theorem dX1_textOf_2_53 : decode cX1_textOf_2 53 = .ok (.iload_n 3, 1) := dk_29 (dk_at dksX1_textOf_2_2 8 rfl rfl)
theorem dX1_textOf_2_54 : decode cX1_textOf_2 54 = .ok (.invokevirtual 15, 3) := dk_182 0 15 (dk_at dksX1_textOf_2_2 9 rfl rfl)
theorem dX1_textOf_2_57 : decode cX1_textOf_2 57 = .ok (.pop, 1) := dk_87 (dk_at dksX1_textOf_2_2 12 rfl rfl)
theorem dX1_textOf_2_58 : decode cX1_textOf_2 58 = .ok (.goto (-45), 3) := dk_167 255 211 (dk_at dksX1_textOf_2_2 13 rfl rfl)
theorem dX1_textOf_2_61 : decode cX1_textOf_2 61 = .ok (.aload_n 1, 1) := dk_43 (dk_at dksX1_textOf_2_2 16 rfl rfl)
theorem dX1_textOf_2_62 : decode cX1_textOf_2 62 = .ok (.invokevirtual 18, 3) := dk_182 0 18 (dk_at dksX1_textOf_2_2 17 rfl rfl)
theorem dX1_textOf_2_65 : decode cX1_textOf_2 65 = .ok (.areturn, 1) := dk_176 (dk_at dksX1_textOf_2_2 20 rfl rfl)
abbrev cX1_chances : ByteArray := prog_1_method_61_code
def yX1_chances : MethodName := ⟨RX1, "chances", "(I)I"⟩
def dkwX1_chances_3 : List UInt8 := [167, 255, 220, 21, 4, 172]
abbrev dktX1_chances_3 : List UInt8 := dkwX1_chances_3 ++ []
def dkwX1_chances_2 : List UInt8 := [185, 0, 51, 1, 0, 192, 0, 108, 58, 6, 21, 4, 44, 25, 6, 182, 0, 211, 184, 0, 194, 96, 54, 4]
abbrev dktX1_chances_2 : List UInt8 := dkwX1_chances_2 ++ dktX1_chances_3
def dkwX1_chances_1 : List UInt8 := [45, 180, 1, 1, 182, 0, 41, 58, 5, 25, 5, 185, 0, 45, 1, 0, 153, 0, 32, 25, 5]
abbrev dktX1_chances_1 : List UInt8 := dkwX1_chances_1 ++ dktX1_chances_2
def dkwX1_chances_0 : List UInt8 := [42, 27, 182, 0, 187, 77, 42, 182, 0, 243, 78, 45, 180, 0, 247, 153, 0, 6, 16, 247, 172, 3, 54, 4]
abbrev dktX1_chances_0 : List UInt8 := dkwX1_chances_0 ++ dktX1_chances_1
theorem dksX1_chances_0 : cX1_chances.data.toList.drop 0 = dktX1_chances_0 := by decide +kernel
theorem dksX1_chances_1 : cX1_chances.data.toList.drop 24 = dktX1_chances_1 := dk_seg dksX1_chances_0 24 rfl rfl
theorem dksX1_chances_2 : cX1_chances.data.toList.drop 45 = dktX1_chances_2 := dk_seg dksX1_chances_1 21 rfl rfl
theorem dksX1_chances_3 : cX1_chances.data.toList.drop 69 = dktX1_chances_3 := dk_seg dksX1_chances_2 24 rfl rfl
theorem dX1_chances_0 : decode cX1_chances 0 = .ok (.aload_n 0, 1) := dk_42 (dk_at dksX1_chances_0 0 rfl rfl)
theorem dX1_chances_1 : decode cX1_chances 1 = .ok (.iload_n 1, 1) := dk_27 (dk_at dksX1_chances_0 1 rfl rfl)
theorem dX1_chances_2 : decode cX1_chances 2 = .ok (.invokevirtual 187, 3) := dk_182 0 187 (dk_at dksX1_chances_0 2 rfl rfl)
theorem dX1_chances_5 : decode cX1_chances 5 = .ok (.astore_n 2, 1) := dk_77 (dk_at dksX1_chances_0 5 rfl rfl)
theorem dX1_chances_6 : decode cX1_chances 6 = .ok (.aload_n 0, 1) := dk_42 (dk_at dksX1_chances_0 6 rfl rfl)
theorem dX1_chances_7 : decode cX1_chances 7 = .ok (.invokevirtual 243, 3) := dk_182 0 243 (dk_at dksX1_chances_0 7 rfl rfl)
theorem dX1_chances_10 : decode cX1_chances 10 = .ok (.astore_n 3, 1) := dk_78 (dk_at dksX1_chances_0 10 rfl rfl)
theorem dX1_chances_11 : decode cX1_chances 11 = .ok (.aload_n 3, 1) := dk_45 (dk_at dksX1_chances_0 11 rfl rfl)
theorem dX1_chances_12 : decode cX1_chances 12 = .ok (.getfield 247, 3) := dk_180 0 247 (dk_at dksX1_chances_0 12 rfl rfl)
theorem dX1_chances_15 : decode cX1_chances 15 = .ok (.ifCond .eq 6, 3) := dk_153 0 6 (dk_at dksX1_chances_0 15 rfl rfl)
theorem dX1_chances_18 : decode cX1_chances 18 = .ok (.bipush (-9), 2) := dk_16 247 (dk_at dksX1_chances_0 18 rfl rfl)
theorem dX1_chances_20 : decode cX1_chances 20 = .ok (.ireturn, 1) := dk_172 (dk_at dksX1_chances_0 20 rfl rfl)
theorem dX1_chances_21 : decode cX1_chances 21 = .ok (.iconst 0, 1) := dk_3 (dk_at dksX1_chances_0 21 rfl rfl)
theorem dX1_chances_22 : decode cX1_chances 22 = .ok (.istore 4, 2) := dk_54 4 (dk_at dksX1_chances_0 22 rfl rfl)
theorem dX1_chances_24 : decode cX1_chances 24 = .ok (.aload_n 3, 1) := dk_45 (dk_at dksX1_chances_1 0 rfl rfl)
theorem dX1_chances_25 : decode cX1_chances 25 = .ok (.getfield 257, 3) := dk_180 1 1 (dk_at dksX1_chances_1 1 rfl rfl)
theorem dX1_chances_28 : decode cX1_chances 28 = .ok (.invokevirtual 41, 3) := dk_182 0 41 (dk_at dksX1_chances_1 4 rfl rfl)
theorem dX1_chances_31 : decode cX1_chances 31 = .ok (.astore 5, 2) := dk_58 5 (dk_at dksX1_chances_1 7 rfl rfl)
theorem dX1_chances_33 : decode cX1_chances 33 = .ok (.aload 5, 2) := dk_25 5 (dk_at dksX1_chances_1 9 rfl rfl)
theorem dX1_chances_35 : decode cX1_chances 35 = .ok (.invokeinterface 45 1, 5) := by decide +kernel
theorem dX1_chances_40 : decode cX1_chances 40 = .ok (.ifCond .eq 32, 3) := dk_153 0 32 (dk_at dksX1_chances_1 16 rfl rfl)
theorem dX1_chances_43 : decode cX1_chances 43 = .ok (.aload 5, 2) := dk_25 5 (dk_at dksX1_chances_1 19 rfl rfl)
theorem dX1_chances_45 : decode cX1_chances 45 = .ok (.invokeinterface 51 1, 5) := by decide +kernel
theorem dX1_chances_50 : decode cX1_chances 50 = .ok (.checkcast 108, 3) := dk_192 0 108 (dk_at dksX1_chances_2 5 rfl rfl)
theorem dX1_chances_53 : decode cX1_chances 53 = .ok (.astore 6, 2) := dk_58 6 (dk_at dksX1_chances_2 8 rfl rfl)
theorem dX1_chances_55 : decode cX1_chances 55 = .ok (.iload 4, 2) := dk_21 4 (dk_at dksX1_chances_2 10 rfl rfl)
theorem dX1_chances_57 : decode cX1_chances 57 = .ok (.aload_n 2, 1) := dk_44 (dk_at dksX1_chances_2 12 rfl rfl)
theorem dX1_chances_58 : decode cX1_chances 58 = .ok (.aload 6, 2) := dk_25 6 (dk_at dksX1_chances_2 13 rfl rfl)
theorem dX1_chances_60 : decode cX1_chances 60 = .ok (.invokevirtual 211, 3) := dk_182 0 211 (dk_at dksX1_chances_2 15 rfl rfl)
theorem dX1_chances_63 : decode cX1_chances 63 = .ok (.invokestatic 194, 3) := dk_184 0 194 (dk_at dksX1_chances_2 18 rfl rfl)
theorem dX1_chances_66 : decode cX1_chances 66 = .ok (.iadd, 1) := dk_96 (dk_at dksX1_chances_2 21 rfl rfl)
theorem dX1_chances_67 : decode cX1_chances 67 = .ok (.istore 4, 2) := dk_54 4 (dk_at dksX1_chances_2 22 rfl rfl)
theorem dX1_chances_69 : decode cX1_chances 69 = .ok (.goto (-36), 3) := dk_167 255 220 (dk_at dksX1_chances_3 0 rfl rfl)
theorem dX1_chances_72 : decode cX1_chances 72 = .ok (.iload 4, 2) := dk_21 4 (dk_at dksX1_chances_3 3 rfl rfl)
theorem dX1_chances_74 : decode cX1_chances 74 = .ok (.ireturn, 1) := dk_172 (dk_at dksX1_chances_3 5 rfl rfl)
abbrev cX1_again : ByteArray := prog_1_method_62_code
def yX1_again : MethodName := ⟨RX1, "again", "(I)I"⟩
def dkwX1_again_1 : List UInt8 := [27, 182, 1, 62, 184, 0, 194, 172]
abbrev dktX1_again_1 : List UInt8 := dkwX1_again_1 ++ []
def dkwX1_again_0 : List UInt8 := [42, 27, 182, 0, 187, 87, 42, 182, 0, 243, 77, 44, 180, 0, 247, 153, 0, 8, 16, 247, 167, 0, 11, 44]
abbrev dktX1_again_0 : List UInt8 := dkwX1_again_0 ++ dktX1_again_1
theorem dksX1_again_0 : cX1_again.data.toList.drop 0 = dktX1_again_0 := by decide +kernel
theorem dksX1_again_1 : cX1_again.data.toList.drop 24 = dktX1_again_1 := dk_seg dksX1_again_0 24 rfl rfl
theorem dX1_again_0 : decode cX1_again 0 = .ok (.aload_n 0, 1) := dk_42 (dk_at dksX1_again_0 0 rfl rfl)
theorem dX1_again_1 : decode cX1_again 1 = .ok (.iload_n 1, 1) := dk_27 (dk_at dksX1_again_0 1 rfl rfl)
theorem dX1_again_2 : decode cX1_again 2 = .ok (.invokevirtual 187, 3) := dk_182 0 187 (dk_at dksX1_again_0 2 rfl rfl)
theorem dX1_again_5 : decode cX1_again 5 = .ok (.pop, 1) := dk_87 (dk_at dksX1_again_0 5 rfl rfl)
theorem dX1_again_6 : decode cX1_again 6 = .ok (.aload_n 0, 1) := dk_42 (dk_at dksX1_again_0 6 rfl rfl)
theorem dX1_again_7 : decode cX1_again 7 = .ok (.invokevirtual 243, 3) := dk_182 0 243 (dk_at dksX1_again_0 7 rfl rfl)
theorem dX1_again_10 : decode cX1_again 10 = .ok (.astore_n 2, 1) := dk_77 (dk_at dksX1_again_0 10 rfl rfl)
theorem dX1_again_11 : decode cX1_again 11 = .ok (.aload_n 2, 1) := dk_44 (dk_at dksX1_again_0 11 rfl rfl)
theorem dX1_again_12 : decode cX1_again 12 = .ok (.getfield 247, 3) := dk_180 0 247 (dk_at dksX1_again_0 12 rfl rfl)
theorem dX1_again_15 : decode cX1_again 15 = .ok (.ifCond .eq 8, 3) := dk_153 0 8 (dk_at dksX1_again_0 15 rfl rfl)
theorem dX1_again_18 : decode cX1_again 18 = .ok (.bipush (-9), 2) := dk_16 247 (dk_at dksX1_again_0 18 rfl rfl)
theorem dX1_again_20 : decode cX1_again 20 = .ok (.goto 11, 3) := dk_167 0 11 (dk_at dksX1_again_0 20 rfl rfl)
theorem dX1_again_23 : decode cX1_again 23 = .ok (.aload_n 2, 1) := dk_44 (dk_at dksX1_again_0 23 rfl rfl)
theorem dX1_again_24 : decode cX1_again 24 = .ok (.iload_n 1, 1) := dk_27 (dk_at dksX1_again_1 0 rfl rfl)
theorem dX1_again_25 : decode cX1_again 25 = .ok (.invokevirtual 318, 3) := dk_182 1 62 (dk_at dksX1_again_1 1 rfl rfl)
theorem dX1_again_28 : decode cX1_again 28 = .ok (.invokestatic 194, 3) := dk_184 0 194 (dk_at dksX1_again_1 4 rfl rfl)
theorem dX1_again_31 : decode cX1_again 31 = .ok (.ireturn, 1) := dk_172 (dk_at dksX1_again_1 7 rfl rfl)
abbrev cX1_comesBack : ByteArray := prog_1_method_64_code
def yX1_comesBack : MethodName := ⟨RX1, "comesBack", "(I)I"⟩
def dkwX1_comesBack_3 : List UInt8 := [182, 0, 253, 2, 159, 0, 7, 4, 167, 0, 4, 3, 184, 0, 194, 172]
abbrev dktX1_comesBack_3 : List UInt8 := dkwX1_comesBack_3 ++ []
def dkwX1_comesBack_2 : List UInt8 := [182, 1, 69, 183, 1, 33, 78, 45, 180, 0, 247, 153, 0, 8, 16, 247, 167, 0, 23, 45, 42, 182, 0, 207]
abbrev dktX1_comesBack_2 : List UInt8 := dkwX1_comesBack_2 ++ dktX1_comesBack_3
def dkwX1_comesBack_1 : List UInt8 := [182, 0, 68, 161, 0, 5, 2, 172, 187, 0, 248, 89, 44, 180, 1, 1, 27, 182, 0, 72, 192, 0, 108, 42]
abbrev dktX1_comesBack_1 : List UInt8 := dkwX1_comesBack_1 ++ dktX1_comesBack_2
def dkwX1_comesBack_0 : List UInt8 := [27, 184, 1, 36, 42, 182, 0, 243, 77, 44, 180, 0, 247, 153, 0, 6, 16, 247, 172, 27, 44, 180, 1, 1]
abbrev dktX1_comesBack_0 : List UInt8 := dkwX1_comesBack_0 ++ dktX1_comesBack_1
theorem dksX1_comesBack_0 : cX1_comesBack.data.toList.drop 0 = dktX1_comesBack_0 := by decide +kernel
theorem dksX1_comesBack_1 : cX1_comesBack.data.toList.drop 24 = dktX1_comesBack_1 := dk_seg dksX1_comesBack_0 24 rfl rfl
theorem dksX1_comesBack_2 : cX1_comesBack.data.toList.drop 48 = dktX1_comesBack_2 := dk_seg dksX1_comesBack_1 24 rfl rfl
theorem dksX1_comesBack_3 : cX1_comesBack.data.toList.drop 72 = dktX1_comesBack_3 := dk_seg dksX1_comesBack_2 24 rfl rfl
theorem dX1_comesBack_0 : decode cX1_comesBack 0 = .ok (.iload_n 1, 1) := dk_27 (dk_at dksX1_comesBack_0 0 rfl rfl)
theorem dX1_comesBack_1 : decode cX1_comesBack 1 = .ok (.invokestatic 292, 3) := dk_184 1 36 (dk_at dksX1_comesBack_0 1 rfl rfl)
theorem dX1_comesBack_4 : decode cX1_comesBack 4 = .ok (.aload_n 0, 1) := dk_42 (dk_at dksX1_comesBack_0 4 rfl rfl)
theorem dX1_comesBack_5 : decode cX1_comesBack 5 = .ok (.invokevirtual 243, 3) := dk_182 0 243 (dk_at dksX1_comesBack_0 5 rfl rfl)
theorem dX1_comesBack_8 : decode cX1_comesBack 8 = .ok (.astore_n 2, 1) := dk_77 (dk_at dksX1_comesBack_0 8 rfl rfl)
theorem dX1_comesBack_9 : decode cX1_comesBack 9 = .ok (.aload_n 2, 1) := dk_44 (dk_at dksX1_comesBack_0 9 rfl rfl)
theorem dX1_comesBack_10 : decode cX1_comesBack 10 = .ok (.getfield 247, 3) := dk_180 0 247 (dk_at dksX1_comesBack_0 10 rfl rfl)
theorem dX1_comesBack_13 : decode cX1_comesBack 13 = .ok (.ifCond .eq 6, 3) := dk_153 0 6 (dk_at dksX1_comesBack_0 13 rfl rfl)
theorem dX1_comesBack_16 : decode cX1_comesBack 16 = .ok (.bipush (-9), 2) := dk_16 247 (dk_at dksX1_comesBack_0 16 rfl rfl)
theorem dX1_comesBack_18 : decode cX1_comesBack 18 = .ok (.ireturn, 1) := dk_172 (dk_at dksX1_comesBack_0 18 rfl rfl)
theorem dX1_comesBack_19 : decode cX1_comesBack 19 = .ok (.iload_n 1, 1) := dk_27 (dk_at dksX1_comesBack_0 19 rfl rfl)
theorem dX1_comesBack_20 : decode cX1_comesBack 20 = .ok (.aload_n 2, 1) := dk_44 (dk_at dksX1_comesBack_0 20 rfl rfl)
theorem dX1_comesBack_21 : decode cX1_comesBack 21 = .ok (.getfield 257, 3) := dk_180 1 1 (dk_at dksX1_comesBack_0 21 rfl rfl)
theorem dX1_comesBack_24 : decode cX1_comesBack 24 = .ok (.invokevirtual 68, 3) := dk_182 0 68 (dk_at dksX1_comesBack_1 0 rfl rfl)
theorem dX1_comesBack_27 : decode cX1_comesBack 27 = .ok (.if_icmp .lt 5, 3) := dk_161 0 5 (dk_at dksX1_comesBack_1 3 rfl rfl)
theorem dX1_comesBack_30 : decode cX1_comesBack 30 = .ok (.iconst (-1), 1) := dk_2 (dk_at dksX1_comesBack_1 6 rfl rfl)
theorem dX1_comesBack_31 : decode cX1_comesBack 31 = .ok (.ireturn, 1) := dk_172 (dk_at dksX1_comesBack_1 7 rfl rfl)
theorem dX1_comesBack_32 : decode cX1_comesBack 32 = .ok (.new 248, 3) := dk_187 0 248 (dk_at dksX1_comesBack_1 8 rfl rfl)
theorem dX1_comesBack_35 : decode cX1_comesBack 35 = .ok (.dup, 1) := dk_89 (dk_at dksX1_comesBack_1 11 rfl rfl)
theorem dX1_comesBack_36 : decode cX1_comesBack 36 = .ok (.aload_n 2, 1) := dk_44 (dk_at dksX1_comesBack_1 12 rfl rfl)
theorem dX1_comesBack_37 : decode cX1_comesBack 37 = .ok (.getfield 257, 3) := dk_180 1 1 (dk_at dksX1_comesBack_1 13 rfl rfl)
theorem dX1_comesBack_40 : decode cX1_comesBack 40 = .ok (.iload_n 1, 1) := dk_27 (dk_at dksX1_comesBack_1 16 rfl rfl)
theorem dX1_comesBack_41 : decode cX1_comesBack 41 = .ok (.invokevirtual 72, 3) := dk_182 0 72 (dk_at dksX1_comesBack_1 17 rfl rfl)
theorem dX1_comesBack_44 : decode cX1_comesBack 44 = .ok (.checkcast 108, 3) := dk_192 0 108 (dk_at dksX1_comesBack_1 20 rfl rfl)
theorem dX1_comesBack_47 : decode cX1_comesBack 47 = .ok (.aload_n 0, 1) := dk_42 (dk_at dksX1_comesBack_1 23 rfl rfl)
theorem dX1_comesBack_48 : decode cX1_comesBack 48 = .ok (.invokevirtual 325, 3) := dk_182 1 69 (dk_at dksX1_comesBack_2 0 rfl rfl)
theorem dX1_comesBack_51 : decode cX1_comesBack 51 = .ok (.invokespecial 289, 3) := dk_183 1 33 (dk_at dksX1_comesBack_2 3 rfl rfl)
theorem dX1_comesBack_54 : decode cX1_comesBack 54 = .ok (.astore_n 3, 1) := dk_78 (dk_at dksX1_comesBack_2 6 rfl rfl)
theorem dX1_comesBack_55 : decode cX1_comesBack 55 = .ok (.aload_n 3, 1) := dk_45 (dk_at dksX1_comesBack_2 7 rfl rfl)
theorem dX1_comesBack_56 : decode cX1_comesBack 56 = .ok (.getfield 247, 3) := dk_180 0 247 (dk_at dksX1_comesBack_2 8 rfl rfl)
theorem dX1_comesBack_59 : decode cX1_comesBack 59 = .ok (.ifCond .eq 8, 3) := dk_153 0 8 (dk_at dksX1_comesBack_2 11 rfl rfl)
theorem dX1_comesBack_62 : decode cX1_comesBack 62 = .ok (.bipush (-9), 2) := dk_16 247 (dk_at dksX1_comesBack_2 14 rfl rfl)
theorem dX1_comesBack_64 : decode cX1_comesBack 64 = .ok (.goto 23, 3) := dk_167 0 23 (dk_at dksX1_comesBack_2 16 rfl rfl)
theorem dX1_comesBack_67 : decode cX1_comesBack 67 = .ok (.aload_n 3, 1) := dk_45 (dk_at dksX1_comesBack_2 19 rfl rfl)
theorem dX1_comesBack_68 : decode cX1_comesBack 68 = .ok (.aload_n 0, 1) := dk_42 (dk_at dksX1_comesBack_2 20 rfl rfl)
theorem dX1_comesBack_69 : decode cX1_comesBack 69 = .ok (.invokevirtual 207, 3) := dk_182 0 207 (dk_at dksX1_comesBack_2 21 rfl rfl)
theorem dX1_comesBack_72 : decode cX1_comesBack 72 = .ok (.invokevirtual 253, 3) := dk_182 0 253 (dk_at dksX1_comesBack_3 0 rfl rfl)
theorem dX1_comesBack_75 : decode cX1_comesBack 75 = .ok (.iconst (-1), 1) := dk_2 (dk_at dksX1_comesBack_3 3 rfl rfl)
theorem dX1_comesBack_76 : decode cX1_comesBack 76 = .ok (.if_icmp .eq 7, 3) := dk_159 0 7 (dk_at dksX1_comesBack_3 4 rfl rfl)
theorem dX1_comesBack_79 : decode cX1_comesBack 79 = .ok (.iconst 1, 1) := dk_4 (dk_at dksX1_comesBack_3 7 rfl rfl)
theorem dX1_comesBack_80 : decode cX1_comesBack 80 = .ok (.goto 4, 3) := dk_167 0 4 (dk_at dksX1_comesBack_3 8 rfl rfl)
theorem dX1_comesBack_83 : decode cX1_comesBack 83 = .ok (.iconst 0, 1) := dk_3 (dk_at dksX1_comesBack_3 11 rfl rfl)
theorem dX1_comesBack_84 : decode cX1_comesBack 84 = .ok (.invokestatic 194, 3) := dk_184 0 194 (dk_at dksX1_comesBack_3 12 rfl rfl)
theorem dX1_comesBack_87 : decode cX1_comesBack 87 = .ok (.ireturn, 1) := dk_172 (dk_at dksX1_comesBack_3 15 rfl rfl)
abbrev cX1_turned : ByteArray := prog_1_method_30_code
def yX1_turned : MethodName := ⟨RX1, "turned", "()Ljava/util/ArrayList;"⟩
def dkwX1_turned_2 : List UInt8 := [167, 255, 228, 43, 176]
abbrev dktX1_turned_2 : List UInt8 := dkwX1_turned_2 ++ []
def dkwX1_turned_1 : List UInt8 := [153, 0, 25, 44, 185, 0, 51, 1, 0, 192, 0, 55, 78, 43, 45, 182, 0, 200, 182, 0, 64, 87]
abbrev dktX1_turned_1 : List UInt8 := dkwX1_turned_1 ++ dktX1_turned_2
def dkwX1_turned_0 : List UInt8 := [187, 0, 38, 89, 183, 0, 40, 76, 42, 180, 0, 97, 182, 0, 41, 77, 44, 185, 0, 45, 1, 0]
abbrev dktX1_turned_0 : List UInt8 := dkwX1_turned_0 ++ dktX1_turned_1
theorem dksX1_turned_0 : cX1_turned.data.toList.drop 0 = dktX1_turned_0 := by decide +kernel
theorem dksX1_turned_1 : cX1_turned.data.toList.drop 22 = dktX1_turned_1 := dk_seg dksX1_turned_0 22 rfl rfl
theorem dksX1_turned_2 : cX1_turned.data.toList.drop 44 = dktX1_turned_2 := dk_seg dksX1_turned_1 22 rfl rfl
theorem dX1_turned_0 : decode cX1_turned 0 = .ok (.new 38, 3) := dk_187 0 38 (dk_at dksX1_turned_0 0 rfl rfl)
theorem dX1_turned_3 : decode cX1_turned 3 = .ok (.dup, 1) := dk_89 (dk_at dksX1_turned_0 3 rfl rfl)
theorem dX1_turned_4 : decode cX1_turned 4 = .ok (.invokespecial 40, 3) := dk_183 0 40 (dk_at dksX1_turned_0 4 rfl rfl)
theorem dX1_turned_7 : decode cX1_turned 7 = .ok (.astore_n 1, 1) := dk_76 (dk_at dksX1_turned_0 7 rfl rfl)
theorem dX1_turned_8 : decode cX1_turned 8 = .ok (.aload_n 0, 1) := dk_42 (dk_at dksX1_turned_0 8 rfl rfl)
theorem dX1_turned_9 : decode cX1_turned 9 = .ok (.getfield 97, 3) := dk_180 0 97 (dk_at dksX1_turned_0 9 rfl rfl)
theorem dX1_turned_12 : decode cX1_turned 12 = .ok (.invokevirtual 41, 3) := dk_182 0 41 (dk_at dksX1_turned_0 12 rfl rfl)
theorem dX1_turned_15 : decode cX1_turned 15 = .ok (.astore_n 2, 1) := dk_77 (dk_at dksX1_turned_0 15 rfl rfl)
theorem dX1_turned_16 : decode cX1_turned 16 = .ok (.aload_n 2, 1) := dk_44 (dk_at dksX1_turned_0 16 rfl rfl)
theorem dX1_turned_17 : decode cX1_turned 17 = .ok (.invokeinterface 45 1, 5) := by decide +kernel
theorem dX1_turned_22 : decode cX1_turned 22 = .ok (.ifCond .eq 25, 3) := dk_153 0 25 (dk_at dksX1_turned_1 0 rfl rfl)
theorem dX1_turned_25 : decode cX1_turned 25 = .ok (.aload_n 2, 1) := dk_44 (dk_at dksX1_turned_1 3 rfl rfl)
theorem dX1_turned_26 : decode cX1_turned 26 = .ok (.invokeinterface 51 1, 5) := by decide +kernel
theorem dX1_turned_31 : decode cX1_turned 31 = .ok (.checkcast 55, 3) := dk_192 0 55 (dk_at dksX1_turned_1 9 rfl rfl)
theorem dX1_turned_34 : decode cX1_turned 34 = .ok (.astore_n 3, 1) := dk_78 (dk_at dksX1_turned_1 12 rfl rfl)
theorem dX1_turned_35 : decode cX1_turned 35 = .ok (.aload_n 1, 1) := dk_43 (dk_at dksX1_turned_1 13 rfl rfl)
theorem dX1_turned_36 : decode cX1_turned 36 = .ok (.aload_n 3, 1) := dk_45 (dk_at dksX1_turned_1 14 rfl rfl)
theorem dX1_turned_37 : decode cX1_turned 37 = .ok (.invokevirtual 200, 3) := dk_182 0 200 (dk_at dksX1_turned_1 15 rfl rfl)
theorem dX1_turned_40 : decode cX1_turned 40 = .ok (.invokevirtual 64, 3) := dk_182 0 64 (dk_at dksX1_turned_1 18 rfl rfl)
theorem dX1_turned_43 : decode cX1_turned 43 = .ok (.pop, 1) := dk_87 (dk_at dksX1_turned_1 21 rfl rfl)
theorem dX1_turned_44 : decode cX1_turned 44 = .ok (.goto (-28), 3) := dk_167 255 228 (dk_at dksX1_turned_2 0 rfl rfl)
theorem dX1_turned_47 : decode cX1_turned 47 = .ok (.aload_n 1, 1) := dk_43 (dk_at dksX1_turned_2 3 rfl rfl)
theorem dX1_turned_48 : decode cX1_turned 48 = .ok (.areturn, 1) := dk_176 (dk_at dksX1_turned_2 4 rfl rfl)
abbrev cX1_most : ByteArray := prog_1_method_67_code
def yX1_most : MethodName := ⟨RX1, "most", "(I)I"⟩
def dkwX1_most_1 : List UInt8 := [182, 1, 81, 19, 1, 84, 160, 0, 8, 16, 254, 167, 0, 8, 44, 27, 182, 1, 81, 172]
abbrev dktX1_most_1 : List UInt8 := dkwX1_most_1 ++ []
def dkwX1_most_0 : List UInt8 := [42, 27, 182, 0, 191, 42, 182, 1, 75, 77, 44, 180, 1, 79, 153, 0, 8, 16, 247, 167, 0, 24, 44, 27]
abbrev dktX1_most_0 : List UInt8 := dkwX1_most_0 ++ dktX1_most_1
theorem dksX1_most_0 : cX1_most.data.toList.drop 0 = dktX1_most_0 := by decide +kernel
theorem dksX1_most_1 : cX1_most.data.toList.drop 24 = dktX1_most_1 := dk_seg dksX1_most_0 24 rfl rfl
theorem dX1_most_0 : decode cX1_most 0 = .ok (.aload_n 0, 1) := dk_42 (dk_at dksX1_most_0 0 rfl rfl)
theorem dX1_most_1 : decode cX1_most 1 = .ok (.iload_n 1, 1) := dk_27 (dk_at dksX1_most_0 1 rfl rfl)
theorem dX1_most_2 : decode cX1_most 2 = .ok (.invokevirtual 191, 3) := dk_182 0 191 (dk_at dksX1_most_0 2 rfl rfl)
theorem dX1_most_5 : decode cX1_most 5 = .ok (.aload_n 0, 1) := dk_42 (dk_at dksX1_most_0 5 rfl rfl)
theorem dX1_most_6 : decode cX1_most 6 = .ok (.invokevirtual 331, 3) := dk_182 1 75 (dk_at dksX1_most_0 6 rfl rfl)
theorem dX1_most_9 : decode cX1_most 9 = .ok (.astore_n 2, 1) := dk_77 (dk_at dksX1_most_0 9 rfl rfl)
theorem dX1_most_10 : decode cX1_most 10 = .ok (.aload_n 2, 1) := dk_44 (dk_at dksX1_most_0 10 rfl rfl)
theorem dX1_most_11 : decode cX1_most 11 = .ok (.getfield 335, 3) := dk_180 1 79 (dk_at dksX1_most_0 11 rfl rfl)
theorem dX1_most_14 : decode cX1_most 14 = .ok (.ifCond .eq 8, 3) := dk_153 0 8 (dk_at dksX1_most_0 14 rfl rfl)
theorem dX1_most_17 : decode cX1_most 17 = .ok (.bipush (-9), 2) := dk_16 247 (dk_at dksX1_most_0 17 rfl rfl)
theorem dX1_most_19 : decode cX1_most 19 = .ok (.goto 24, 3) := dk_167 0 24 (dk_at dksX1_most_0 19 rfl rfl)
theorem dX1_most_22 : decode cX1_most 22 = .ok (.aload_n 2, 1) := dk_44 (dk_at dksX1_most_0 22 rfl rfl)
theorem dX1_most_23 : decode cX1_most 23 = .ok (.iload_n 1, 1) := dk_27 (dk_at dksX1_most_0 23 rfl rfl)
theorem dX1_most_24 : decode cX1_most 24 = .ok (.invokevirtual 337, 3) := dk_182 1 81 (dk_at dksX1_most_1 0 rfl rfl)
theorem dX1_most_27 : decode cX1_most 27 = .ok (.ldc_w 340, 3) := dk_19 1 84 (dk_at dksX1_most_1 3 rfl rfl)
theorem dX1_most_30 : decode cX1_most 30 = .ok (.if_icmp .ne 8, 3) := dk_160 0 8 (dk_at dksX1_most_1 6 rfl rfl)
theorem dX1_most_33 : decode cX1_most 33 = .ok (.bipush (-2), 2) := dk_16 254 (dk_at dksX1_most_1 9 rfl rfl)
theorem dX1_most_35 : decode cX1_most 35 = .ok (.goto 8, 3) := dk_167 0 8 (dk_at dksX1_most_1 11 rfl rfl)
theorem dX1_most_38 : decode cX1_most 38 = .ok (.aload_n 2, 1) := dk_44 (dk_at dksX1_most_1 14 rfl rfl)
theorem dX1_most_39 : decode cX1_most 39 = .ok (.iload_n 1, 1) := dk_27 (dk_at dksX1_most_1 15 rfl rfl)
theorem dX1_most_40 : decode cX1_most 40 = .ok (.invokevirtual 337, 3) := dk_182 1 81 (dk_at dksX1_most_1 16 rfl rfl)
theorem dX1_most_43 : decode cX1_most 43 = .ok (.ireturn, 1) := dk_172 (dk_at dksX1_most_1 19 rfl rfl)
abbrev cX1_weighing : ByteArray := prog_1_method_70_code
def yX1_weighing : MethodName := ⟨RX1, "weighing", "(II)I"⟩
def dkwX1_weighing_2 : List UInt8 := [167, 0, 4, 3, 172]
abbrev dktX1_weighing_2 : List UInt8 := dkwX1_weighing_2 ++ []
def dkwX1_weighing_1 : List UInt8 := [184, 1, 88, 78, 27, 45, 182, 0, 68, 162, 0, 16, 45, 27, 182, 0, 72, 192, 0, 108, 28, 46]
abbrev dktX1_weighing_1 : List UInt8 := dkwX1_weighing_1 ++ dktX1_weighing_2
def dkwX1_weighing_0 : List UInt8 := [42, 28, 182, 0, 191, 27, 3, 16, 7, 184, 0, 119, 184, 0, 171, 42, 180, 0, 97, 42, 180, 0, 93]
abbrev dktX1_weighing_0 : List UInt8 := dkwX1_weighing_0 ++ dktX1_weighing_1
theorem dksX1_weighing_0 : cX1_weighing.data.toList.drop 0 = dktX1_weighing_0 := by decide +kernel
theorem dksX1_weighing_1 : cX1_weighing.data.toList.drop 23 = dktX1_weighing_1 := dk_seg dksX1_weighing_0 23 rfl rfl
theorem dksX1_weighing_2 : cX1_weighing.data.toList.drop 45 = dktX1_weighing_2 := dk_seg dksX1_weighing_1 22 rfl rfl
theorem dX1_weighing_0 : decode cX1_weighing 0 = .ok (.aload_n 0, 1) := dk_42 (dk_at dksX1_weighing_0 0 rfl rfl)
theorem dX1_weighing_1 : decode cX1_weighing 1 = .ok (.iload_n 2, 1) := dk_28 (dk_at dksX1_weighing_0 1 rfl rfl)
theorem dX1_weighing_2 : decode cX1_weighing 2 = .ok (.invokevirtual 191, 3) := dk_182 0 191 (dk_at dksX1_weighing_0 2 rfl rfl)
theorem dX1_weighing_5 : decode cX1_weighing 5 = .ok (.iload_n 1, 1) := dk_27 (dk_at dksX1_weighing_0 5 rfl rfl)
theorem dX1_weighing_6 : decode cX1_weighing 6 = .ok (.iconst 0, 1) := dk_3 (dk_at dksX1_weighing_0 6 rfl rfl)
theorem dX1_weighing_7 : decode cX1_weighing 7 = .ok (.bipush 7, 2) := dk_16 7 (dk_at dksX1_weighing_0 7 rfl rfl)
theorem dX1_weighing_9 : decode cX1_weighing 9 = .ok (.invokestatic 119, 3) := dk_184 0 119 (dk_at dksX1_weighing_0 9 rfl rfl)
theorem dX1_weighing_12 : decode cX1_weighing 12 = .ok (.invokestatic 171, 3) := dk_184 0 171 (dk_at dksX1_weighing_0 12 rfl rfl)
theorem dX1_weighing_15 : decode cX1_weighing 15 = .ok (.aload_n 0, 1) := dk_42 (dk_at dksX1_weighing_0 15 rfl rfl)
theorem dX1_weighing_16 : decode cX1_weighing 16 = .ok (.getfield 97, 3) := dk_180 0 97 (dk_at dksX1_weighing_0 16 rfl rfl)
theorem dX1_weighing_19 : decode cX1_weighing 19 = .ok (.aload_n 0, 1) := dk_42 (dk_at dksX1_weighing_0 19 rfl rfl)
theorem dX1_weighing_20 : decode cX1_weighing 20 = .ok (.getfield 93, 3) := dk_180 0 93 (dk_at dksX1_weighing_0 20 rfl rfl)
theorem dX1_weighing_23 : decode cX1_weighing 23 = .ok (.invokestatic 344, 3) := dk_184 1 88 (dk_at dksX1_weighing_1 0 rfl rfl)
theorem dX1_weighing_26 : decode cX1_weighing 26 = .ok (.astore_n 3, 1) := dk_78 (dk_at dksX1_weighing_1 3 rfl rfl)
theorem dX1_weighing_27 : decode cX1_weighing 27 = .ok (.iload_n 1, 1) := dk_27 (dk_at dksX1_weighing_1 4 rfl rfl)
theorem dX1_weighing_28 : decode cX1_weighing 28 = .ok (.aload_n 3, 1) := dk_45 (dk_at dksX1_weighing_1 5 rfl rfl)
theorem dX1_weighing_29 : decode cX1_weighing 29 = .ok (.invokevirtual 68, 3) := dk_182 0 68 (dk_at dksX1_weighing_1 6 rfl rfl)
theorem dX1_weighing_32 : decode cX1_weighing 32 = .ok (.if_icmp .ge 16, 3) := dk_162 0 16 (dk_at dksX1_weighing_1 9 rfl rfl)
theorem dX1_weighing_35 : decode cX1_weighing 35 = .ok (.aload_n 3, 1) := dk_45 (dk_at dksX1_weighing_1 12 rfl rfl)
theorem dX1_weighing_36 : decode cX1_weighing 36 = .ok (.iload_n 1, 1) := dk_27 (dk_at dksX1_weighing_1 13 rfl rfl)
theorem dX1_weighing_37 : decode cX1_weighing 37 = .ok (.invokevirtual 72, 3) := dk_182 0 72 (dk_at dksX1_weighing_1 14 rfl rfl)
theorem dX1_weighing_40 : decode cX1_weighing 40 = .ok (.checkcast 108, 3) := dk_192 0 108 (dk_at dksX1_weighing_1 17 rfl rfl)
theorem dX1_weighing_43 : decode cX1_weighing 43 = .ok (.iload_n 2, 1) := dk_28 (dk_at dksX1_weighing_1 20 rfl rfl)
theorem dX1_weighing_44 : decode cX1_weighing 44 = .ok (.iaload, 1) := dk_46 (dk_at dksX1_weighing_1 21 rfl rfl)
theorem dX1_weighing_45 : decode cX1_weighing 45 = .ok (.goto 4, 3) := dk_167 0 4 (dk_at dksX1_weighing_2 0 rfl rfl)
theorem dX1_weighing_48 : decode cX1_weighing 48 = .ok (.iconst 0, 1) := dk_3 (dk_at dksX1_weighing_2 3 rfl rfl)
theorem dX1_weighing_49 : decode cX1_weighing 49 = .ok (.ireturn, 1) := dk_172 (dk_at dksX1_weighing_2 4 rfl rfl)
abbrev cX1_weight : ByteArray := prog_1_method_71_code
def yX1_weight : MethodName := ⟨RX1, "weight", "(II)I"⟩
def dkwX1_weight_2 : List UInt8 := [182, 0, 68, 162, 0, 19, 25, 4, 27, 182, 0, 72, 192, 0, 108, 45, 184, 1, 92, 167, 0, 4, 3, 172]
abbrev dktX1_weight_2 : List UInt8 := dkwX1_weight_2 ++ []
def dkwX1_weight_1 : List UInt8 := [184, 0, 119, 184, 0, 171, 42, 180, 0, 97, 42, 180, 0, 93, 184, 1, 88, 58, 4, 27, 25, 4]
abbrev dktX1_weight_1 : List UInt8 := dkwX1_weight_1 ++ dktX1_weight_2
def dkwX1_weight_0 : List UInt8 := [28, 2, 160, 0, 10, 42, 182, 0, 207, 167, 0, 8, 42, 28, 182, 0, 236, 78, 27, 3, 16, 7]
abbrev dktX1_weight_0 : List UInt8 := dkwX1_weight_0 ++ dktX1_weight_1
theorem dksX1_weight_0 : cX1_weight.data.toList.drop 0 = dktX1_weight_0 := by decide +kernel
theorem dksX1_weight_1 : cX1_weight.data.toList.drop 22 = dktX1_weight_1 := dk_seg dksX1_weight_0 22 rfl rfl
theorem dksX1_weight_2 : cX1_weight.data.toList.drop 44 = dktX1_weight_2 := dk_seg dksX1_weight_1 22 rfl rfl
theorem dX1_weight_0 : decode cX1_weight 0 = .ok (.iload_n 2, 1) := dk_28 (dk_at dksX1_weight_0 0 rfl rfl)
theorem dX1_weight_1 : decode cX1_weight 1 = .ok (.iconst (-1), 1) := dk_2 (dk_at dksX1_weight_0 1 rfl rfl)
theorem dX1_weight_2 : decode cX1_weight 2 = .ok (.if_icmp .ne 10, 3) := dk_160 0 10 (dk_at dksX1_weight_0 2 rfl rfl)
theorem dX1_weight_5 : decode cX1_weight 5 = .ok (.aload_n 0, 1) := dk_42 (dk_at dksX1_weight_0 5 rfl rfl)
theorem dX1_weight_6 : decode cX1_weight 6 = .ok (.invokevirtual 207, 3) := dk_182 0 207 (dk_at dksX1_weight_0 6 rfl rfl)
theorem dX1_weight_9 : decode cX1_weight 9 = .ok (.goto 8, 3) := dk_167 0 8 (dk_at dksX1_weight_0 9 rfl rfl)
theorem dX1_weight_12 : decode cX1_weight 12 = .ok (.aload_n 0, 1) := dk_42 (dk_at dksX1_weight_0 12 rfl rfl)
theorem dX1_weight_13 : decode cX1_weight 13 = .ok (.iload_n 2, 1) := dk_28 (dk_at dksX1_weight_0 13 rfl rfl)
theorem dX1_weight_14 : decode cX1_weight 14 = .ok (.invokevirtual 236, 3) := dk_182 0 236 (dk_at dksX1_weight_0 14 rfl rfl)
theorem dX1_weight_17 : decode cX1_weight 17 = .ok (.astore_n 3, 1) := dk_78 (dk_at dksX1_weight_0 17 rfl rfl)
theorem dX1_weight_18 : decode cX1_weight 18 = .ok (.iload_n 1, 1) := dk_27 (dk_at dksX1_weight_0 18 rfl rfl)
theorem dX1_weight_19 : decode cX1_weight 19 = .ok (.iconst 0, 1) := dk_3 (dk_at dksX1_weight_0 19 rfl rfl)
theorem dX1_weight_20 : decode cX1_weight 20 = .ok (.bipush 7, 2) := dk_16 7 (dk_at dksX1_weight_0 20 rfl rfl)
theorem dX1_weight_22 : decode cX1_weight 22 = .ok (.invokestatic 119, 3) := dk_184 0 119 (dk_at dksX1_weight_1 0 rfl rfl)
theorem dX1_weight_25 : decode cX1_weight 25 = .ok (.invokestatic 171, 3) := dk_184 0 171 (dk_at dksX1_weight_1 3 rfl rfl)
theorem dX1_weight_28 : decode cX1_weight 28 = .ok (.aload_n 0, 1) := dk_42 (dk_at dksX1_weight_1 6 rfl rfl)
theorem dX1_weight_29 : decode cX1_weight 29 = .ok (.getfield 97, 3) := dk_180 0 97 (dk_at dksX1_weight_1 7 rfl rfl)
theorem dX1_weight_32 : decode cX1_weight 32 = .ok (.aload_n 0, 1) := dk_42 (dk_at dksX1_weight_1 10 rfl rfl)
theorem dX1_weight_33 : decode cX1_weight 33 = .ok (.getfield 93, 3) := dk_180 0 93 (dk_at dksX1_weight_1 11 rfl rfl)
theorem dX1_weight_36 : decode cX1_weight 36 = .ok (.invokestatic 344, 3) := dk_184 1 88 (dk_at dksX1_weight_1 14 rfl rfl)
theorem dX1_weight_39 : decode cX1_weight 39 = .ok (.astore 4, 2) := dk_58 4 (dk_at dksX1_weight_1 17 rfl rfl)
theorem dX1_weight_41 : decode cX1_weight 41 = .ok (.iload_n 1, 1) := dk_27 (dk_at dksX1_weight_1 19 rfl rfl)
theorem dX1_weight_42 : decode cX1_weight 42 = .ok (.aload 4, 2) := dk_25 4 (dk_at dksX1_weight_1 20 rfl rfl)
theorem dX1_weight_44 : decode cX1_weight 44 = .ok (.invokevirtual 68, 3) := dk_182 0 68 (dk_at dksX1_weight_2 0 rfl rfl)
theorem dX1_weight_47 : decode cX1_weight 47 = .ok (.if_icmp .ge 19, 3) := dk_162 0 19 (dk_at dksX1_weight_2 3 rfl rfl)
theorem dX1_weight_50 : decode cX1_weight 50 = .ok (.aload 4, 2) := dk_25 4 (dk_at dksX1_weight_2 6 rfl rfl)
theorem dX1_weight_52 : decode cX1_weight 52 = .ok (.iload_n 1, 1) := dk_27 (dk_at dksX1_weight_2 8 rfl rfl)
theorem dX1_weight_53 : decode cX1_weight 53 = .ok (.invokevirtual 72, 3) := dk_182 0 72 (dk_at dksX1_weight_2 9 rfl rfl)
theorem dX1_weight_56 : decode cX1_weight 56 = .ok (.checkcast 108, 3) := dk_192 0 108 (dk_at dksX1_weight_2 12 rfl rfl)
theorem dX1_weight_59 : decode cX1_weight 59 = .ok (.aload_n 3, 1) := dk_45 (dk_at dksX1_weight_2 15 rfl rfl)
theorem dX1_weight_60 : decode cX1_weight 60 = .ok (.invokestatic 348, 3) := dk_184 1 92 (dk_at dksX1_weight_2 16 rfl rfl)
theorem dX1_weight_63 : decode cX1_weight 63 = .ok (.goto 4, 3) := dk_167 0 4 (dk_at dksX1_weight_2 19 rfl rfl)
theorem dX1_weight_66 : decode cX1_weight 66 = .ok (.iconst 0, 1) := dk_3 (dk_at dksX1_weight_2 22 rfl rfl)
theorem dX1_weight_67 : decode cX1_weight 67 = .ok (.ireturn, 1) := dk_172 (dk_at dksX1_weight_2 23 rfl rfl)
abbrev cX1_house : ByteArray := prog_1_method_73_code
def yX1_house : MethodName := ⟨RX1, "house", "(I)I"⟩
def dkwX1_house_0 : List UInt8 := [27, 3, 8, 184, 0, 119, 184, 0, 171, 42, 27, 182, 1, 99, 172]
abbrev dktX1_house_0 : List UInt8 := dkwX1_house_0 ++ []
theorem dksX1_house_0 : cX1_house.data.toList.drop 0 = dktX1_house_0 := by decide +kernel
theorem dX1_house_0 : decode cX1_house 0 = .ok (.iload_n 1, 1) := dk_27 (dk_at dksX1_house_0 0 rfl rfl)
theorem dX1_house_1 : decode cX1_house 1 = .ok (.iconst 0, 1) := dk_3 (dk_at dksX1_house_0 1 rfl rfl)
theorem dX1_house_2 : decode cX1_house 2 = .ok (.iconst 5, 1) := dk_8 (dk_at dksX1_house_0 2 rfl rfl)
theorem dX1_house_3 : decode cX1_house 3 = .ok (.invokestatic 119, 3) := dk_184 0 119 (dk_at dksX1_house_0 3 rfl rfl)
theorem dX1_house_6 : decode cX1_house 6 = .ok (.invokestatic 171, 3) := dk_184 0 171 (dk_at dksX1_house_0 6 rfl rfl)
theorem dX1_house_9 : decode cX1_house 9 = .ok (.aload_n 0, 1) := dk_42 (dk_at dksX1_house_0 9 rfl rfl)
theorem dX1_house_10 : decode cX1_house 10 = .ok (.iload_n 1, 1) := dk_27 (dk_at dksX1_house_0 10 rfl rfl)
theorem dX1_house_11 : decode cX1_house 11 = .ok (.invokevirtual 355, 3) := dk_182 1 99 (dk_at dksX1_house_0 11 rfl rfl)
theorem dX1_house_14 : decode cX1_house 14 = .ok (.ireturn, 1) := dk_172 (dk_at dksX1_house_0 14 rfl rfl)
theorem q72 : (Jvm.Cond.initialized "Pebblegate") ∈ lw_all := lw_g (lw_at lw_m1 1 rfl) rfl
theorem q113 : (Jvm.Cond.instantiable "Pebblegate" (7 : Nat)) ∈ lw_all := lw_g (lw_at lw_m1 42 rfl) rfl
theorem q115 : (Jvm.Cond.instanceMethod ({ cls := "Pebblegate", name := "<init>", desc := "()V" } : Jvm.MethodName)) ∈ lw_all := lw_g (lw_at lw_m1 44 rfl) rfl
theorem q116 : (Jvm.Cond.code ({ cls := "Pebblegate", name := "<init>", desc := "()V" } : Jvm.MethodName) prog_1_method_9_code (2 : Nat) (Option.none : Option Jvm.ClassFile.FieldType)) ∈ lw_all := lw_g (lw_at lw_m1 45 rfl) rfl
theorem q117 : (Jvm.Cond.methodLink "Pebblegate" (90 : Nat) ({ cls := "java/lang/Object", name := "<init>", desc := "()V" } : Jvm.MethodName)) ∈ lw_all := lw_g (lw_at lw_m1 46 rfl) rfl
theorem q120 : (Jvm.Cond.classLink "Pebblegate" (38 : Nat) "java/util/ArrayList") ∈ lw_all := lw_g (lw_at lw_m1 49 rfl) rfl
theorem q122 : (Jvm.Cond.methodLink "Pebblegate" (40 : Nat) ({ cls := "java/util/ArrayList", name := "<init>", desc := "()V" } : Jvm.MethodName)) ∈ lw_all := lw_g (lw_at lw_m1 51 rfl) rfl
theorem q149 : (Jvm.Cond.classLink "Pebblegate" (101 : Nat) "java/util/TreeMap") ∈ lw_all := lw_g (lw_at lw_m1 78 rfl) rfl
theorem q151 : (Jvm.Cond.methodLink "Pebblegate" (103 : Nat) ({ cls := "java/util/TreeMap", name := "<init>", desc := "()V" } : Jvm.MethodName)) ∈ lw_all := lw_g (lw_at lw_m1 80 rfl) rfl
theorem q184 : (Jvm.Cond.classLink "Pebblegate" (108 : Nat) "[I") ∈ lw_all := lw_g (lw_at lw_m1 113 rfl) rfl
theorem q186 : (Jvm.Cond.fieldLink "Pebblegate" (93 : Nat) "Pebblegate" "places" "I") ∈ lw_all := lw_g (lw_at lw_m1 115 rfl) rfl
theorem q187 : (Jvm.Cond.fieldLink "Pebblegate" (97 : Nat) "Pebblegate" "steps" "Ljava/util/ArrayList;") ∈ lw_all := lw_g (lw_at lw_m1 116 rfl) rfl
theorem q188 : (Jvm.Cond.fieldLink "Pebblegate" (104 : Nat) "Pebblegate" "marks" "Ljava/util/TreeMap;") ∈ lw_all := lw_g (lw_at lw_m1 117 rfl) rfl
theorem q189 : (Jvm.Cond.fieldLink "Pebblegate" (109 : Nat) "Pebblegate" "kept" "[[I") ∈ lw_all := lw_g (lw_at lw_m1 118 rfl) rfl
theorem q190 : (Jvm.Cond.fieldLink "Pebblegate" (127 : Nat) "Pebblegate" "acts" "I") ∈ lw_all := lw_g (lw_at lw_m1 119 rfl) rfl
theorem q191 : (Jvm.Cond.fieldLink "Pebblegate" (130 : Nat) "Pebblegate" "refused" "I") ∈ lw_all := lw_g (lw_at lw_m1 120 rfl) rfl
theorem q192 : (Jvm.Cond.fieldLink "Pebblegate" (352 : Nat) "Pebblegate" "knocks" "I") ∈ lw_all := lw_g (lw_at lw_m1 121 rfl) rfl
theorem q193 : (Jvm.Cond.lays "Pebblegate" "Pebblegate" "places" "I") ∈ lw_all := lw_g (lw_at lw_m1 122 rfl) rfl
theorem q194 : (Jvm.Cond.soleField "Pebblegate" "places") ∈ lw_all := lw_g (lw_at lw_m1 123 rfl) rfl
theorem q195 : (Jvm.Cond.laysFinal "Pebblegate" "Pebblegate" "steps" "Ljava/util/ArrayList;") ∈ lw_all := lw_g (lw_at lw_m1 124 rfl) rfl
theorem q196 : (Jvm.Cond.soleField "Pebblegate" "steps") ∈ lw_all := lw_g (lw_at lw_m1 125 rfl) rfl
theorem q197 : (Jvm.Cond.laysFinal "Pebblegate" "Pebblegate" "marks" "Ljava/util/TreeMap;") ∈ lw_all := lw_g (lw_at lw_m1 126 rfl) rfl
theorem q198 : (Jvm.Cond.soleField "Pebblegate" "marks") ∈ lw_all := lw_g (lw_at lw_m1 127 rfl) rfl
theorem q199 : (Jvm.Cond.laysFinal "Pebblegate" "Pebblegate" "kept" "[[I") ∈ lw_all := lw_g (lw_at lw_m1 128 rfl) rfl
theorem q200 : (Jvm.Cond.soleField "Pebblegate" "kept") ∈ lw_all := lw_g (lw_at lw_m1 129 rfl) rfl
theorem q201 : (Jvm.Cond.lays "Pebblegate" "Pebblegate" "acts" "I") ∈ lw_all := lw_g (lw_at lw_m1 130 rfl) rfl
theorem q202 : (Jvm.Cond.soleField "Pebblegate" "acts") ∈ lw_all := lw_g (lw_at lw_m1 131 rfl) rfl
theorem q203 : (Jvm.Cond.lays "Pebblegate" "Pebblegate" "refused" "I") ∈ lw_all := lw_g (lw_at lw_m1 132 rfl) rfl
theorem q204 : (Jvm.Cond.soleField "Pebblegate" "refused") ∈ lw_all := lw_g (lw_at lw_m1 133 rfl) rfl
theorem q205 : (Jvm.Cond.lays "Pebblegate" "Pebblegate" "knocks" "I") ∈ lw_all := lw_g (lw_at lw_m1 134 rfl) rfl
theorem q206 : (Jvm.Cond.soleField "Pebblegate" "knocks") ∈ lw_all := lw_g (lw_at lw_m1 135 rfl) rfl
theorem q207 : (Jvm.Cond.superclass "Pebblegate" "java/lang/Object") ∈ lw_all := lw_g (lw_at lw_m1 136 rfl) rfl
theorem q210 : (Jvm.Cond.instanceMethod ({ cls := "Pebblegate", name := "step", desc := "()I" } : Jvm.MethodName)) ∈ lw_all := lw_g (lw_at lw_m1 139 rfl) rfl
theorem q211 : (Jvm.Cond.selects "Pebblegate" ({ cls := "Pebblegate", name := "step", desc := "()I" } : Jvm.MethodName) ({ cls := "Pebblegate", name := "step", desc := "()I" } : Jvm.MethodName)) ∈ lw_all := lw_g (lw_at lw_m1 140 rfl) rfl
theorem q212 : (Jvm.Cond.code ({ cls := "Pebblegate", name := "step", desc := "()I" } : Jvm.MethodName) prog_1_method_27_code (1 : Nat) (Option.some Jvm.ClassFile.FieldType.int)) ∈ lw_all := lw_g (lw_at lw_m1 141 rfl) rfl
theorem q213 : (Jvm.Cond.methodLink "Pebblegate" (68 : Nat) ({ cls := "java/util/ArrayList", name := "size", desc := "()I" } : Jvm.MethodName)) ∈ lw_all := lw_g (lw_at lw_m1 142 rfl) rfl
theorem q217 : (Jvm.Cond.methodLink "Pebblegate" (181 : Nat) ({ cls := "Pebblegate", name := "no", desc := "()I" } : Jvm.MethodName)) ∈ lw_all := lw_g (lw_at lw_m1 146 rfl) rfl
theorem q218 : (Jvm.Cond.privateMethod ({ cls := "Pebblegate", name := "no", desc := "()I" } : Jvm.MethodName)) ∈ lw_tbl := lw_at lw_m1 147 rfl
theorem q219 : (Jvm.Cond.instanceMethod ({ cls := "Pebblegate", name := "no", desc := "()I" } : Jvm.MethodName)) ∈ lw_all := lw_g (lw_at lw_m1 148 rfl) rfl
theorem q220 : (Jvm.Cond.code ({ cls := "Pebblegate", name := "no", desc := "()I" } : Jvm.MethodName) prog_1_method_18_code (1 : Nat) (Option.some Jvm.ClassFile.FieldType.int)) ∈ lw_all := lw_g (lw_at lw_m1 149 rfl) rfl
theorem q221 : (Jvm.Cond.classLink "Pebblegate" (55 : Nat) "Pebblegate$Step") ∈ lw_all := lw_g (lw_at lw_m1 150 rfl) rfl
theorem q223 : (Jvm.Cond.methodLink "Pebblegate" (184 : Nat) ({ cls := "Pebblegate$Step", name := "<init>", desc := "(I)V" } : Jvm.MethodName)) ∈ lw_all := lw_g (lw_at lw_m1 152 rfl) rfl
theorem q228 : (Jvm.Cond.fieldLinkNest "Pebblegate" (61 : Nat) "Pebblegate$Step" "take" "[I" "Pebblegate") ∈ lw_tbl := lw_at lw_m1 157 rfl
theorem q230 : (Jvm.Cond.fieldLinkNest "Pebblegate" (57 : Nat) "Pebblegate$Step" "lay" "[I" "Pebblegate") ∈ lw_tbl := lw_at lw_m1 159 rfl
theorem q236 : (Jvm.Cond.methodLink "Pebblegate" (64 : Nat) ({ cls := "java/util/ArrayList", name := "add", desc := "(Ljava/lang/Object;)Z" } : Jvm.MethodName)) ∈ lw_all := lw_g (lw_at lw_m1 165 rfl) rfl
theorem q268 : (Jvm.Cond.selects "Pebblegate" ({ cls := "java/lang/Object", name := "getClass", desc := "()Ljava/lang/Class;" } : Jvm.MethodName) ({ cls := "java/lang/Object", name := "getClass", desc := "()Ljava/lang/Class;" } : Jvm.MethodName)) ∈ lw_all := lw_g (lw_at lw_m1 197 rfl) rfl
theorem q303 : (Jvm.Cond.methodLink "Pebblegate" (178 : Nat) ({ cls := "Pebblegate", name := "done", desc := "(I)I" } : Jvm.MethodName)) ∈ lw_all := lw_g (lw_at lw_m1 232 rfl) rfl
theorem q304 : (Jvm.Cond.privateMethod ({ cls := "Pebblegate", name := "done", desc := "(I)I" } : Jvm.MethodName)) ∈ lw_tbl := lw_at lw_m1 233 rfl
theorem q305 : (Jvm.Cond.instanceMethod ({ cls := "Pebblegate", name := "done", desc := "(I)I" } : Jvm.MethodName)) ∈ lw_all := lw_g (lw_at lw_m1 234 rfl) rfl
theorem q306 : (Jvm.Cond.code ({ cls := "Pebblegate", name := "done", desc := "(I)I" } : Jvm.MethodName) prog_1_method_17_code (2 : Nat) (Option.some Jvm.ClassFile.FieldType.int)) ∈ lw_all := lw_g (lw_at lw_m1 235 rfl) rfl
theorem q308 : (Jvm.Cond.instanceMethod ({ cls := "Pebblegate", name := "turn", desc := "()I" } : Jvm.MethodName)) ∈ lw_all := lw_g (lw_at lw_m1 237 rfl) rfl
theorem q309 : (Jvm.Cond.selects "Pebblegate" ({ cls := "Pebblegate", name := "turn", desc := "()I" } : Jvm.MethodName) ({ cls := "Pebblegate", name := "turn", desc := "()I" } : Jvm.MethodName)) ∈ lw_all := lw_g (lw_at lw_m1 238 rfl) rfl
theorem q310 : (Jvm.Cond.code ({ cls := "Pebblegate", name := "turn", desc := "()I" } : Jvm.MethodName) prog_1_method_31_code (3 : Nat) (Option.some Jvm.ClassFile.FieldType.int)) ∈ lw_all := lw_g (lw_at lw_m1 239 rfl) rfl
theorem q311 : (Jvm.Cond.methodLink "Pebblegate" (72 : Nat) ({ cls := "java/util/ArrayList", name := "get", desc := "(I)Ljava/lang/Object;" } : Jvm.MethodName)) ∈ lw_all := lw_g (lw_at lw_m2 0 rfl) rfl
theorem q325 : (Jvm.Cond.methodLink "Pebblegate" (204 : Nat) ({ cls := "Pebblegate$Step", name := "isOther", desc := "()Z" } : Jvm.MethodName)) ∈ lw_all := lw_g (lw_at lw_m2 14 rfl) rfl
theorem q329 : (Jvm.Cond.methodLink "Pebblegate" (194 : Nat) ({ cls := "Pebblegate", name := "bit", desc := "(Z)I" } : Jvm.MethodName)) ∈ lw_all := lw_g (lw_at lw_m2 18 rfl) rfl
theorem q330 : (Jvm.Cond.static ({ cls := "Pebblegate", name := "bit", desc := "(Z)I" } : Jvm.MethodName)) ∈ lw_all := lw_g (lw_at lw_m2 19 rfl) rfl
theorem q331 : (Jvm.Cond.code ({ cls := "Pebblegate", name := "bit", desc := "(Z)I" } : Jvm.MethodName) prog_1_method_10_code (1 : Nat) (Option.some Jvm.ClassFile.FieldType.int)) ∈ lw_all := lw_g (lw_at lw_m2 20 rfl) rfl
theorem q332 : (Jvm.Cond.methodLink "Pebblegate" (200 : Nat) ({ cls := "Pebblegate$Step", name := "turned", desc := "()LPebblegate$Step;" } : Jvm.MethodName)) ∈ lw_all := lw_g (lw_at lw_m2 21 rfl) rfl
theorem q340 : (Jvm.Cond.methodLink "Pebblegate" (78 : Nat) ({ cls := "java/util/ArrayList", name := "set", desc := "(ILjava/lang/Object;)Ljava/lang/Object;" } : Jvm.MethodName)) ∈ lw_all := lw_g (lw_at lw_m2 29 rfl) rfl
theorem q345 : (Jvm.Cond.instanceMethod ({ cls := "Pebblegate", name := "text", desc := "()Ljava/lang/String;" } : Jvm.MethodName)) ∈ lw_all := lw_g (lw_at lw_m2 34 rfl) rfl
theorem q346 : (Jvm.Cond.selects "Pebblegate" ({ cls := "Pebblegate", name := "text", desc := "()Ljava/lang/String;" } : Jvm.MethodName) ({ cls := "Pebblegate", name := "text", desc := "()Ljava/lang/String;" } : Jvm.MethodName)) ∈ lw_all := lw_g (lw_at lw_m2 35 rfl) rfl
theorem q347 : (Jvm.Cond.code ({ cls := "Pebblegate", name := "text", desc := "()Ljava/lang/String;" } : Jvm.MethodName) prog_1_method_44_code (1 : Nat) (Option.some (Jvm.ClassFile.FieldType.object "java/lang/String"))) ∈ lw_all := lw_g (lw_at lw_m2 36 rfl) rfl
theorem q348 : (Jvm.Cond.methodLink "Pebblegate" (207 : Nat) ({ cls := "Pebblegate", name := "now", desc := "()[I" } : Jvm.MethodName)) ∈ lw_all := lw_g (lw_at lw_m2 37 rfl) rfl
theorem q349 : (Jvm.Cond.privateMethod ({ cls := "Pebblegate", name := "now", desc := "()[I" } : Jvm.MethodName)) ∈ lw_tbl := lw_at lw_m2 38 rfl
theorem q350 : (Jvm.Cond.instanceMethod ({ cls := "Pebblegate", name := "now", desc := "()[I" } : Jvm.MethodName)) ∈ lw_all := lw_g (lw_at lw_m2 39 rfl) rfl
theorem q351 : (Jvm.Cond.code ({ cls := "Pebblegate", name := "now", desc := "()[I" } : Jvm.MethodName) prog_1_method_21_code (3 : Nat) (Option.some (Jvm.ClassFile.FieldType.array Jvm.ClassFile.FieldType.int))) ∈ lw_all := lw_g (lw_at lw_m2 40 rfl) rfl
theorem q352 : (Jvm.Cond.methodLink "Pebblegate" (152 : Nat) ({ cls := "Pebblegate", name := "at", desc := "(I)I" } : Jvm.MethodName)) ∈ lw_all := lw_g (lw_at lw_m2 41 rfl) rfl
theorem q353 : (Jvm.Cond.privateMethod ({ cls := "Pebblegate", name := "at", desc := "(I)I" } : Jvm.MethodName)) ∈ lw_tbl := lw_at lw_m2 42 rfl
theorem q354 : (Jvm.Cond.instanceMethod ({ cls := "Pebblegate", name := "at", desc := "(I)I" } : Jvm.MethodName)) ∈ lw_all := lw_g (lw_at lw_m2 43 rfl) rfl
theorem q355 : (Jvm.Cond.code ({ cls := "Pebblegate", name := "at", desc := "(I)I" } : Jvm.MethodName) prog_1_method_19_code (3 : Nat) (Option.some Jvm.ClassFile.FieldType.int)) ∈ lw_all := lw_g (lw_at lw_m2 44 rfl) rfl
theorem q356 : (Jvm.Cond.methodLink "Pebblegate" (133 : Nat) ({ cls := "java/lang/Integer", name := "valueOf", desc := "(I)Ljava/lang/Integer;" } : Jvm.MethodName)) ∈ lw_all := lw_g (lw_at lw_m2 45 rfl) rfl
theorem q376 : (Jvm.Cond.methodLink "Pebblegate" (139 : Nat) ({ cls := "java/util/TreeMap", name := "get", desc := "(Ljava/lang/Object;)Ljava/lang/Object;" } : Jvm.MethodName)) ∈ lw_all := lw_g (lw_at lw_m2 65 rfl) rfl
theorem q622 : (Jvm.Cond.classLink "Pebblegate" (134 : Nat) "java/lang/Integer") ∈ lw_all := lw_g (lw_at lw_m3 71 rfl) rfl
theorem q623 : (Jvm.Cond.methodLink "Pebblegate" (142 : Nat) ({ cls := "java/lang/Integer", name := "intValue", desc := "()I" } : Jvm.MethodName)) ∈ lw_all := lw_g (lw_at lw_m3 72 rfl) rfl
theorem q627 : (Jvm.Cond.methodLink "Pebblegate" (266 : Nat) ({ cls := "Pebblegate", name := "textOf", desc := "([I)Ljava/lang/String;" } : Jvm.MethodName)) ∈ lw_all := lw_g (lw_at lw_m3 76 rfl) rfl
theorem q628 : (Jvm.Cond.static ({ cls := "Pebblegate", name := "textOf", desc := "([I)Ljava/lang/String;" } : Jvm.MethodName)) ∈ lw_all := lw_g (lw_at lw_m3 77 rfl) rfl
theorem q629 : (Jvm.Cond.code ({ cls := "Pebblegate", name := "textOf", desc := "([I)Ljava/lang/String;" } : Jvm.MethodName) prog_1_method_1_code (3 : Nat) (Option.some (Jvm.ClassFile.FieldType.object "java/lang/String"))) ∈ lw_all := lw_g (lw_at lw_m3 78 rfl) rfl
theorem q630 : (Jvm.Cond.classLink "Pebblegate" (1 : Nat) "java/lang/StringBuilder") ∈ lw_all := lw_g (lw_at lw_m3 79 rfl) rfl
theorem q632 : (Jvm.Cond.methodLink "Pebblegate" (3 : Nat) ({ cls := "java/lang/StringBuilder", name := "<init>", desc := "()V" } : Jvm.MethodName)) ∈ lw_all := lw_g (lw_at lw_m3 81 rfl) rfl
theorem q659 : (Jvm.Cond.stringRef "Pebblegate" (7 : Nat) "") ∈ lw_tbl := lw_at lw_m3 108 rfl
theorem q660 : (Jvm.Cond.stringRef "Pebblegate" (9 : Nat) " ") ∈ lw_tbl := lw_at lw_m3 109 rfl
theorem q661 : (Jvm.Cond.methodLink "Pebblegate" (11 : Nat) ({ cls := "java/lang/StringBuilder", name := "append", desc := "(Ljava/lang/String;)Ljava/lang/StringBuilder;" } : Jvm.MethodName)) ∈ lw_all := lw_g (lw_at lw_m3 110 rfl) rfl
theorem q742 : (Jvm.Cond.methodLink "Pebblegate" (15 : Nat) ({ cls := "java/lang/StringBuilder", name := "append", desc := "(I)Ljava/lang/StringBuilder;" } : Jvm.MethodName)) ∈ lw_all := lw_g (lw_at lw_m3 191 rfl) rfl
theorem q767 : (Jvm.Cond.methodLink "Pebblegate" (18 : Nat) ({ cls := "java/lang/StringBuilder", name := "toString", desc := "()Ljava/lang/String;" } : Jvm.MethodName)) ∈ lw_all := lw_g (lw_at lw_m3 216 rfl) rfl
theorem q897 : (Jvm.Cond.instanceMethod ({ cls := "Pebblegate", name := "going", desc := "()I" } : Jvm.MethodName)) ∈ lw_all := lw_g (lw_at lw_m4 106 rfl) rfl
theorem q898 : (Jvm.Cond.selects "Pebblegate" ({ cls := "Pebblegate", name := "going", desc := "()I" } : Jvm.MethodName) ({ cls := "Pebblegate", name := "going", desc := "()I" } : Jvm.MethodName)) ∈ lw_all := lw_g (lw_at lw_m4 107 rfl) rfl
theorem q899 : (Jvm.Cond.code ({ cls := "Pebblegate", name := "going", desc := "()I" } : Jvm.MethodName) prog_1_method_48_code (1 : Nat) (Option.some Jvm.ClassFile.FieldType.int)) ∈ lw_all := lw_g (lw_at lw_m4 108 rfl) rfl
theorem q900 : (Jvm.Cond.methodLink "Pebblegate" (274 : Nat) ({ cls := "Pebblegate", name := "goingNow", desc := "()Ljava/util/BitSet;" } : Jvm.MethodName)) ∈ lw_all := lw_g (lw_at lw_m4 109 rfl) rfl
theorem q901 : (Jvm.Cond.privateMethod ({ cls := "Pebblegate", name := "goingNow", desc := "()Ljava/util/BitSet;" } : Jvm.MethodName)) ∈ lw_tbl := lw_at lw_m4 110 rfl
theorem q902 : (Jvm.Cond.instanceMethod ({ cls := "Pebblegate", name := "goingNow", desc := "()Ljava/util/BitSet;" } : Jvm.MethodName)) ∈ lw_all := lw_g (lw_at lw_m4 111 rfl) rfl
theorem q903 : (Jvm.Cond.code ({ cls := "Pebblegate", name := "goingNow", desc := "()Ljava/util/BitSet;" } : Jvm.MethodName) prog_1_method_47_code (4 : Nat) (Option.some (Jvm.ClassFile.FieldType.object "java/util/BitSet"))) ∈ lw_all := lw_g (lw_at lw_m4 112 rfl) rfl
theorem q904 : (Jvm.Cond.classLink "Pebblegate" (167 : Nat) "java/util/BitSet") ∈ lw_all := lw_g (lw_at lw_m4 113 rfl) rfl
theorem q906 : (Jvm.Cond.methodLink "Pebblegate" (270 : Nat) ({ cls := "java/util/BitSet", name := "<init>", desc := "()V" } : Jvm.MethodName)) ∈ lw_all := lw_g (lw_at lw_m4 115 rfl) rfl
theorem q928 : (Jvm.Cond.methodLink "Pebblegate" (211 : Nat) ({ cls := "Pebblegate$Step", name := "can", desc := "([I)Z" } : Jvm.MethodName)) ∈ lw_all := lw_g (lw_at lw_m4 137 rfl) rfl
theorem q932 : (Jvm.Cond.methodLink "Pebblegate" (271 : Nat) ({ cls := "java/util/BitSet", name := "set", desc := "(IZ)V" } : Jvm.MethodName)) ∈ lw_all := lw_g (lw_at lw_m4 141 rfl) rfl
theorem q993 : (Jvm.Cond.methodLink "Pebblegate" (278 : Nat) ({ cls := "Pebblegate", name := "setOf", desc := "(Ljava/util/BitSet;)I" } : Jvm.MethodName)) ∈ lw_all := lw_g (lw_at lw_m4 202 rfl) rfl
theorem q994 : (Jvm.Cond.static ({ cls := "Pebblegate", name := "setOf", desc := "(Ljava/util/BitSet;)I" } : Jvm.MethodName)) ∈ lw_all := lw_g (lw_at lw_m4 203 rfl) rfl
theorem q995 : (Jvm.Cond.code ({ cls := "Pebblegate", name := "setOf", desc := "(Ljava/util/BitSet;)I" } : Jvm.MethodName) prog_1_method_25_code (3 : Nat) (Option.some Jvm.ClassFile.FieldType.int)) ∈ lw_all := lw_g (lw_at lw_m4 204 rfl) rfl
theorem q996 : (Jvm.Cond.methodLink "Pebblegate" (166 : Nat) ({ cls := "java/util/BitSet", name := "nextSetBit", desc := "(I)I" } : Jvm.MethodName)) ∈ lw_all := lw_g (lw_at lw_m4 205 rfl) rfl
theorem q1003 : (Jvm.Cond.instanceMethod ({ cls := "Pebblegate", name := "reached", desc := "()I" } : Jvm.MethodName)) ∈ lw_all := lw_g (lw_at lw_m4 212 rfl) rfl
theorem q1004 : (Jvm.Cond.selects "Pebblegate" ({ cls := "Pebblegate", name := "reached", desc := "()I" } : Jvm.MethodName) ({ cls := "Pebblegate", name := "reached", desc := "()I" } : Jvm.MethodName)) ∈ lw_all := lw_g (lw_at lw_m4 213 rfl) rfl
theorem q1005 : (Jvm.Cond.code ({ cls := "Pebblegate", name := "reached", desc := "()I" } : Jvm.MethodName) prog_1_method_52_code (2 : Nat) (Option.some Jvm.ClassFile.FieldType.int)) ∈ lw_all := lw_g (lw_at lw_m4 214 rfl) rfl
theorem q1006 : (Jvm.Cond.methodLink "Pebblegate" (243 : Nat) ({ cls := "Pebblegate", name := "reach", desc := "()LPebblegate$Reach;" } : Jvm.MethodName)) ∈ lw_all := lw_g (lw_at lw_m4 215 rfl) rfl
theorem q1007 : (Jvm.Cond.privateMethod ({ cls := "Pebblegate", name := "reach", desc := "()LPebblegate$Reach;" } : Jvm.MethodName)) ∈ lw_tbl := lw_at lw_m4 216 rfl
theorem q1008 : (Jvm.Cond.instanceMethod ({ cls := "Pebblegate", name := "reach", desc := "()LPebblegate$Reach;" } : Jvm.MethodName)) ∈ lw_all := lw_g (lw_at lw_m4 217 rfl) rfl
theorem q1009 : (Jvm.Cond.code ({ cls := "Pebblegate", name := "reach", desc := "()LPebblegate$Reach;" } : Jvm.MethodName) prog_1_method_51_code (1 : Nat) (Option.some (Jvm.ClassFile.FieldType.object "Pebblegate$Reach"))) ∈ lw_all := lw_g (lw_at lw_m4 218 rfl) rfl
theorem q1010 : (Jvm.Cond.classLink "Pebblegate" (248 : Nat) "Pebblegate$Reach") ∈ lw_all := lw_g (lw_at lw_m4 219 rfl) rfl
theorem q1012 : (Jvm.Cond.methodLink "Pebblegate" (289 : Nat) ({ cls := "Pebblegate$Reach", name := "<init>", desc := "([ILjava/util/ArrayList;)V" } : Jvm.MethodName)) ∈ lw_all := lw_g (lw_at lw_m4 221 rfl) rfl
theorem q1118 : (Jvm.Cond.fieldLinkNest "Pebblegate" (257 : Nat) "Pebblegate$Reach" "all" "Ljava/util/ArrayList;" "Pebblegate") ∈ lw_tbl := lw_at lw_m5 87 rfl
theorem q1121 : (Jvm.Cond.fieldLinkNest "Pebblegate" (259 : Nat) "Pebblegate$Reach" "ups" "[I" "Pebblegate") ∈ lw_tbl := lw_at lw_m5 90 rfl
theorem q1126 : (Jvm.Cond.fieldLinkNest "Pebblegate" (247 : Nat) "Pebblegate$Reach" "isWide" "Z" "Pebblegate") ∈ lw_tbl := lw_at lw_m5 95 rfl
theorem q1143 : (Jvm.Cond.instanceMethod ({ cls := "Pebblegate", name := "deads", desc := "()I" } : Jvm.MethodName)) ∈ lw_all := lw_g (lw_at lw_m5 112 rfl) rfl
theorem q1144 : (Jvm.Cond.selects "Pebblegate" ({ cls := "Pebblegate", name := "deads", desc := "()I" } : Jvm.MethodName) ({ cls := "Pebblegate", name := "deads", desc := "()I" } : Jvm.MethodName)) ∈ lw_all := lw_g (lw_at lw_m5 113 rfl) rfl
theorem q1145 : (Jvm.Cond.code ({ cls := "Pebblegate", name := "deads", desc := "()I" } : Jvm.MethodName) prog_1_method_60_code (2 : Nat) (Option.some Jvm.ClassFile.FieldType.int)) ∈ lw_all := lw_g (lw_at lw_m5 114 rfl) rfl
theorem q1146 : (Jvm.Cond.methodLink "Pebblegate" (315 : Nat) ({ cls := "Pebblegate$Reach", name := "deads", desc := "()Ljava/util/BitSet;" } : Jvm.MethodName)) ∈ lw_all := lw_g (lw_at lw_m5 115 rfl) rfl
theorem q1154 : (Jvm.Cond.instanceMethod ({ cls := "Pebblegate", name := "rings", desc := "()I" } : Jvm.MethodName)) ∈ lw_all := lw_g (lw_at lw_m5 123 rfl) rfl
theorem q1155 : (Jvm.Cond.selects "Pebblegate" ({ cls := "Pebblegate", name := "rings", desc := "()I" } : Jvm.MethodName) ({ cls := "Pebblegate", name := "rings", desc := "()I" } : Jvm.MethodName)) ∈ lw_all := lw_g (lw_at lw_m5 124 rfl) rfl
theorem q1156 : (Jvm.Cond.code ({ cls := "Pebblegate", name := "rings", desc := "()I" } : Jvm.MethodName) prog_1_method_63_code (2 : Nat) (Option.some Jvm.ClassFile.FieldType.int)) ∈ lw_all := lw_g (lw_at lw_m5 125 rfl) rfl
theorem q1157 : (Jvm.Cond.methodLink "Pebblegate" (322 : Nat) ({ cls := "Pebblegate$Reach", name := "rings", desc := "()Ljava/util/BitSet;" } : Jvm.MethodName)) ∈ lw_all := lw_g (lw_at lw_m5 126 rfl) rfl
theorem q1178 : (Jvm.Cond.instanceMethod ({ cls := "Pebblegate", name := "nodes", desc := "()I" } : Jvm.MethodName)) ∈ lw_all := lw_g (lw_at lw_m5 147 rfl) rfl
theorem q1179 : (Jvm.Cond.selects "Pebblegate" ({ cls := "Pebblegate", name := "nodes", desc := "()I" } : Jvm.MethodName) ({ cls := "Pebblegate", name := "nodes", desc := "()I" } : Jvm.MethodName)) ∈ lw_all := lw_g (lw_at lw_m5 148 rfl) rfl
theorem q1180 : (Jvm.Cond.code ({ cls := "Pebblegate", name := "nodes", desc := "()I" } : Jvm.MethodName) prog_1_method_66_code (2 : Nat) (Option.some Jvm.ClassFile.FieldType.int)) ∈ lw_all := lw_g (lw_at lw_m5 149 rfl) rfl
theorem q1181 : (Jvm.Cond.methodLink "Pebblegate" (331 : Nat) ({ cls := "Pebblegate", name := "tree", desc := "()LPebblegate$Tree;" } : Jvm.MethodName)) ∈ lw_all := lw_g (lw_at lw_m5 150 rfl) rfl
theorem q1182 : (Jvm.Cond.privateMethod ({ cls := "Pebblegate", name := "tree", desc := "()LPebblegate$Tree;" } : Jvm.MethodName)) ∈ lw_tbl := lw_at lw_m5 151 rfl
theorem q1183 : (Jvm.Cond.instanceMethod ({ cls := "Pebblegate", name := "tree", desc := "()LPebblegate$Tree;" } : Jvm.MethodName)) ∈ lw_all := lw_g (lw_at lw_m5 152 rfl) rfl
theorem q1184 : (Jvm.Cond.code ({ cls := "Pebblegate", name := "tree", desc := "()LPebblegate$Tree;" } : Jvm.MethodName) prog_1_method_65_code (1 : Nat) (Option.some (Jvm.ClassFile.FieldType.object "Pebblegate$Tree"))) ∈ lw_all := lw_g (lw_at lw_m5 153 rfl) rfl
theorem q1185 : (Jvm.Cond.classLink "Pebblegate" (328 : Nat) "Pebblegate$Tree") ∈ lw_all := lw_g (lw_at lw_m5 154 rfl) rfl
theorem q1187 : (Jvm.Cond.methodLink "Pebblegate" (330 : Nat) ({ cls := "Pebblegate$Tree", name := "<init>", desc := "([ILjava/util/ArrayList;)V" } : Jvm.MethodName)) ∈ lw_all := lw_g (lw_at lw_m5 156 rfl) rfl
theorem q1202 : (Jvm.Cond.static ({ cls := "Pebblegate", name := "isSame", desc := "([I[I)Z" } : Jvm.MethodName)) ∈ lw_all := lw_g (lw_at lw_m5 171 rfl) rfl
theorem q1203 : (Jvm.Cond.code ({ cls := "Pebblegate", name := "isSame", desc := "([I[I)Z" } : Jvm.MethodName) prog_1_method_2_code (3 : Nat) (Option.some Jvm.ClassFile.FieldType.boolean)) ∈ lw_all := lw_g (lw_at lw_m5 172 rfl) rfl
theorem q1282 : (Jvm.Cond.fieldLinkNest "Pebblegate" (336 : Nat) "Pebblegate$Tree" "all" "Ljava/util/ArrayList;" "Pebblegate") ∈ lw_tbl := lw_at lw_m6 11 rfl
theorem q1285 : (Jvm.Cond.fieldLinkNest "Pebblegate" (335 : Nat) "Pebblegate$Tree" "isWide" "Z" "Pebblegate") ∈ lw_tbl := lw_at lw_m6 14 rfl
theorem q1294 : (Jvm.Cond.instanceMethod ({ cls := "Pebblegate", name := "manies", desc := "()I" } : Jvm.MethodName)) ∈ lw_all := lw_g (lw_at lw_m6 23 rfl) rfl
theorem q1295 : (Jvm.Cond.selects "Pebblegate" ({ cls := "Pebblegate", name := "manies", desc := "()I" } : Jvm.MethodName) ({ cls := "Pebblegate", name := "manies", desc := "()I" } : Jvm.MethodName)) ∈ lw_all := lw_g (lw_at lw_m6 24 rfl) rfl
theorem q1296 : (Jvm.Cond.code ({ cls := "Pebblegate", name := "manies", desc := "()I" } : Jvm.MethodName) prog_1_method_68_code (2 : Nat) (Option.some Jvm.ClassFile.FieldType.int)) ∈ lw_all := lw_g (lw_at lw_m6 25 rfl) rfl
theorem q1297 : (Jvm.Cond.methodLink "Pebblegate" (341 : Nat) ({ cls := "Pebblegate$Tree", name := "manies", desc := "(I)I" } : Jvm.MethodName)) ∈ lw_all := lw_g (lw_at lw_m6 26 rfl) rfl
theorem q1308 : (Jvm.Cond.instanceMethod ({ cls := "Pebblegate", name := "weighings", desc := "()I" } : Jvm.MethodName)) ∈ lw_all := lw_g (lw_at lw_m6 37 rfl) rfl
theorem q1309 : (Jvm.Cond.selects "Pebblegate" ({ cls := "Pebblegate", name := "weighings", desc := "()I" } : Jvm.MethodName) ({ cls := "Pebblegate", name := "weighings", desc := "()I" } : Jvm.MethodName)) ∈ lw_all := lw_g (lw_at lw_m6 38 rfl) rfl
theorem q1310 : (Jvm.Cond.code ({ cls := "Pebblegate", name := "weighings", desc := "()I" } : Jvm.MethodName) prog_1_method_69_code (1 : Nat) (Option.some Jvm.ClassFile.FieldType.int)) ∈ lw_all := lw_g (lw_at lw_m6 39 rfl) rfl
theorem q1311 : (Jvm.Cond.methodLink "Pebblegate" (344 : Nat) ({ cls := "Pebblegate", name := "weighingsOf", desc := "(Ljava/util/ArrayList;I)Ljava/util/ArrayList;" } : Jvm.MethodName)) ∈ lw_all := lw_g (lw_at lw_m6 40 rfl) rfl
theorem q1312 : (Jvm.Cond.static ({ cls := "Pebblegate", name := "weighingsOf", desc := "(Ljava/util/ArrayList;I)Ljava/util/ArrayList;" } : Jvm.MethodName)) ∈ lw_all := lw_g (lw_at lw_m6 41 rfl) rfl
theorem q1313 : (Jvm.Cond.code ({ cls := "Pebblegate", name := "weighingsOf", desc := "(Ljava/util/ArrayList;I)Ljava/util/ArrayList;" } : Jvm.MethodName) prog_1_method_7_code (12 : Nat) (Option.some (Jvm.ClassFile.FieldType.object "java/util/ArrayList"))) ∈ lw_all := lw_g (lw_at lw_m6 42 rfl) rfl
theorem q1314 : (Jvm.Cond.methodLink "Pebblegate" (86 : Nat) ({ cls := "Pebblegate", name := "rowsOf", desc := "(Ljava/util/ArrayList;I[I)Ljava/util/ArrayList;" } : Jvm.MethodName)) ∈ lw_all := lw_g (lw_at lw_m6 43 rfl) rfl
theorem q1315 : (Jvm.Cond.static ({ cls := "Pebblegate", name := "rowsOf", desc := "(Ljava/util/ArrayList;I[I)Ljava/util/ArrayList;" } : Jvm.MethodName)) ∈ lw_all := lw_g (lw_at lw_m6 44 rfl) rfl
theorem q1316 : (Jvm.Cond.code ({ cls := "Pebblegate", name := "rowsOf", desc := "(Ljava/util/ArrayList;I[I)Ljava/util/ArrayList;" } : Jvm.MethodName) prog_1_method_6_code (10 : Nat) (Option.some (Jvm.ClassFile.FieldType.object "java/util/ArrayList"))) ∈ lw_all := lw_g (lw_at lw_m6 45 rfl) rfl
theorem q1317 : (Jvm.Cond.methodLink "Pebblegate" (41 : Nat) ({ cls := "java/util/ArrayList", name := "iterator", desc := "()Ljava/util/Iterator;" } : Jvm.MethodName)) ∈ lw_all := lw_g (lw_at lw_m6 46 rfl) rfl
theorem q1318 : (Jvm.Cond.interfaceEntry "Pebblegate" (45 : Nat)) ∈ lw_tbl := lw_at lw_m6 47 rfl
theorem q1319 : (Jvm.Cond.methodLink "Pebblegate" (45 : Nat) ({ cls := "java/util/Iterator", name := "hasNext", desc := "()Z" } : Jvm.MethodName)) ∈ lw_all := lw_g (lw_at lw_m6 48 rfl) rfl
theorem q1320 : (Jvm.Cond.interfaceEntry "Pebblegate" (51 : Nat)) ∈ lw_tbl := lw_at lw_m6 49 rfl
theorem q1321 : (Jvm.Cond.methodLink "Pebblegate" (51 : Nat) ({ cls := "java/util/Iterator", name := "next", desc := "()Ljava/lang/Object;" } : Jvm.MethodName)) ∈ lw_all := lw_g (lw_at lw_m6 50 rfl) rfl
theorem q1322 : (Jvm.Cond.classLink "Pebblegate" (76 : Nat) "[J") ∈ lw_all := lw_g (lw_at lw_m6 51 rfl) rfl
theorem q1323 : (Jvm.Cond.methodLink "Pebblegate" (82 : Nat) ({ cls := "Pebblegate", name := "takeAway", desc := "([J[JI)V" } : Jvm.MethodName)) ∈ lw_all := lw_g (lw_at lw_m6 52 rfl) rfl
theorem q1324 : (Jvm.Cond.static ({ cls := "Pebblegate", name := "takeAway", desc := "([J[JI)V" } : Jvm.MethodName)) ∈ lw_all := lw_g (lw_at lw_m6 53 rfl) rfl
theorem q1325 : (Jvm.Cond.code ({ cls := "Pebblegate", name := "takeAway", desc := "([J[JI)V" } : Jvm.MethodName) prog_1_method_5_code (8 : Nat) (Option.none : Option Jvm.ClassFile.FieldType)) ∈ lw_all := lw_g (lw_at lw_m6 54 rfl) rfl
theorem q1326 : (Jvm.Cond.methodLink "Pebblegate" (34 : Nat) ({ cls := "Pebblegate", name := "lessen", desc := "([J)V" } : Jvm.MethodName)) ∈ lw_all := lw_g (lw_at lw_m6 55 rfl) rfl
theorem q1327 : (Jvm.Cond.static ({ cls := "Pebblegate", name := "lessen", desc := "([J)V" } : Jvm.MethodName)) ∈ lw_all := lw_g (lw_at lw_m6 56 rfl) rfl
theorem q1328 : (Jvm.Cond.code ({ cls := "Pebblegate", name := "lessen", desc := "([J)V" } : Jvm.MethodName) prog_1_method_4_code (8 : Nat) (Option.none : Option Jvm.ClassFile.FieldType)) ∈ lw_all := lw_g (lw_at lw_m6 57 rfl) rfl
theorem q1329 : (Jvm.Cond.methodLink "Pebblegate" (28 : Nat) ({ cls := "Pebblegate", name := "gcd", desc := "(JJ)J" } : Jvm.MethodName)) ∈ lw_all := lw_g (lw_at lw_m6 58 rfl) rfl
theorem q1330 : (Jvm.Cond.static ({ cls := "Pebblegate", name := "gcd", desc := "(JJ)J" } : Jvm.MethodName)) ∈ lw_all := lw_g (lw_at lw_m6 59 rfl) rfl
theorem q1331 : (Jvm.Cond.code ({ cls := "Pebblegate", name := "gcd", desc := "(JJ)J" } : Jvm.MethodName) prog_1_method_3_code (10 : Nat) (Option.some Jvm.ClassFile.FieldType.long)) ∈ lw_all := lw_g (lw_at lw_m6 60 rfl) rfl
theorem q1332 : (Jvm.Cond.methodLink "Pebblegate" (22 : Nat) ({ cls := "java/lang/Math", name := "abs", desc := "(J)J" } : Jvm.MethodName)) ∈ lw_all := lw_g (lw_at lw_m6 61 rfl) rfl
theorem q1336 : (Jvm.Cond.instanceMethod ({ cls := "Pebblegate", name := "knock", desc := "()I" } : Jvm.MethodName)) ∈ lw_all := lw_g (lw_at lw_m6 65 rfl) rfl
theorem q1337 : (Jvm.Cond.selects "Pebblegate" ({ cls := "Pebblegate", name := "knock", desc := "()I" } : Jvm.MethodName) ({ cls := "Pebblegate", name := "knock", desc := "()I" } : Jvm.MethodName)) ∈ lw_all := lw_g (lw_at lw_m6 66 rfl) rfl
theorem q1338 : (Jvm.Cond.code ({ cls := "Pebblegate", name := "knock", desc := "()I" } : Jvm.MethodName) prog_1_method_74_code (1 : Nat) (Option.some Jvm.ClassFile.FieldType.int)) ∈ lw_all := lw_g (lw_at lw_m6 67 rfl) rfl
theorem q1340 : (Jvm.Cond.instanceMethod ({ cls := "Pebblegate", name := "isSound", desc := "()Z" } : Jvm.MethodName)) ∈ lw_all := lw_g (lw_at lw_m6 69 rfl) rfl
theorem q1341 : (Jvm.Cond.selects "Pebblegate" ({ cls := "Pebblegate", name := "isSound", desc := "()Z" } : Jvm.MethodName) ({ cls := "Pebblegate", name := "isSound", desc := "()Z" } : Jvm.MethodName)) ∈ lw_all := lw_g (lw_at lw_m6 70 rfl) rfl
theorem q1342 : (Jvm.Cond.code ({ cls := "Pebblegate", name := "isSound", desc := "()Z" } : Jvm.MethodName) prog_1_method_78_code (4 : Nat) (Option.some Jvm.ClassFile.FieldType.boolean)) ∈ lw_all := lw_g (lw_at lw_m6 71 rfl) rfl
theorem q1343 : (Jvm.Cond.methodLink "Pebblegate" (219 : Nat) ({ cls := "Pebblegate", name := "isLet", desc := "([I)Z" } : Jvm.MethodName)) ∈ lw_all := lw_g (lw_at lw_m6 72 rfl) rfl
theorem q1344 : (Jvm.Cond.static ({ cls := "Pebblegate", name := "isLet", desc := "([I)Z" } : Jvm.MethodName)) ∈ lw_all := lw_g (lw_at lw_m6 73 rfl) rfl
theorem q1345 : (Jvm.Cond.code ({ cls := "Pebblegate", name := "isLet", desc := "([I)Z" } : Jvm.MethodName) prog_1_method_24_code (5 : Nat) (Option.some Jvm.ClassFile.FieldType.boolean)) ∈ lw_all := lw_g (lw_at lw_m6 74 rfl) rfl
theorem q1346 : (Jvm.Cond.methodLink "Pebblegate" (361 : Nat) ({ cls := "Pebblegate", name := "areWeighed", desc := "([I)Z" } : Jvm.MethodName)) ∈ lw_all := lw_g (lw_at lw_m6 75 rfl) rfl
theorem q1347 : (Jvm.Cond.privateMethod ({ cls := "Pebblegate", name := "areWeighed", desc := "([I)Z" } : Jvm.MethodName)) ∈ lw_tbl := lw_at lw_m6 76 rfl
theorem q1348 : (Jvm.Cond.instanceMethod ({ cls := "Pebblegate", name := "areWeighed", desc := "([I)Z" } : Jvm.MethodName)) ∈ lw_all := lw_g (lw_at lw_m6 77 rfl) rfl
theorem q1349 : (Jvm.Cond.code ({ cls := "Pebblegate", name := "areWeighed", desc := "([I)Z" } : Jvm.MethodName) prog_1_method_75_code (6 : Nat) (Option.some Jvm.ClassFile.FieldType.boolean)) ∈ lw_all := lw_g (lw_at lw_m6 78 rfl) rfl
theorem q1350 : (Jvm.Cond.methodLink "Pebblegate" (215 : Nat) ({ cls := "Pebblegate$Step", name := "go", desc := "([I)[I" } : Jvm.MethodName)) ∈ lw_all := lw_g (lw_at lw_m6 79 rfl) rfl
theorem q1351 : (Jvm.Cond.methodLink "Pebblegate" (348 : Nat) ({ cls := "Pebblegate", name := "weigh", desc := "([I[I)I" } : Jvm.MethodName)) ∈ lw_all := lw_g (lw_at lw_m6 80 rfl) rfl
theorem q1352 : (Jvm.Cond.static ({ cls := "Pebblegate", name := "weigh", desc := "([I[I)I" } : Jvm.MethodName)) ∈ lw_all := lw_g (lw_at lw_m6 81 rfl) rfl
theorem q1353 : (Jvm.Cond.code ({ cls := "Pebblegate", name := "weigh", desc := "([I[I)I" } : Jvm.MethodName) prog_1_method_8_code (4 : Nat) (Option.some Jvm.ClassFile.FieldType.int)) ∈ lw_all := lw_g (lw_at lw_m6 82 rfl) rfl
theorem q1354 : (Jvm.Cond.methodLink "Pebblegate" (364 : Nat) ({ cls := "Pebblegate", name := "isTold", desc := "(LPebblegate$Reach;LPebblegate$Tree;)Z" } : Jvm.MethodName)) ∈ lw_all := lw_g (lw_at lw_m6 83 rfl) rfl
theorem q1355 : (Jvm.Cond.privateMethod ({ cls := "Pebblegate", name := "isTold", desc := "(LPebblegate$Reach;LPebblegate$Tree;)Z" } : Jvm.MethodName)) ∈ lw_tbl := lw_at lw_m6 84 rfl
theorem q1356 : (Jvm.Cond.instanceMethod ({ cls := "Pebblegate", name := "isTold", desc := "(LPebblegate$Reach;LPebblegate$Tree;)Z" } : Jvm.MethodName)) ∈ lw_all := lw_g (lw_at lw_m6 85 rfl) rfl
theorem q1357 : (Jvm.Cond.code ({ cls := "Pebblegate", name := "isTold", desc := "(LPebblegate$Reach;LPebblegate$Tree;)Z" } : Jvm.MethodName) prog_1_method_76_code (4 : Nat) (Option.some Jvm.ClassFile.FieldType.boolean)) ∈ lw_all := lw_g (lw_at lw_m6 86 rfl) rfl
theorem q1358 : (Jvm.Cond.methodLink "Pebblegate" (337 : Nat) ({ cls := "Pebblegate$Tree", name := "most", desc := "(I)I" } : Jvm.MethodName)) ∈ lw_all := lw_g (lw_at lw_m6 87 rfl) rfl
theorem q1359 : (Jvm.Cond.methodLink "Pebblegate" (358 : Nat) ({ cls := "Pebblegate$Reach", name := "most", desc := "(I)I" } : Jvm.MethodName)) ∈ lw_all := lw_g (lw_at lw_m6 88 rfl) rfl
theorem q1369 : (Jvm.Cond.methodLink "Pebblegate" (368 : Nat) ({ cls := "Pebblegate", name := "areDead", desc := "(LPebblegate$Reach;)Z" } : Jvm.MethodName)) ∈ lw_all := lw_g (lw_at lw_m6 98 rfl) rfl
theorem q1370 : (Jvm.Cond.privateMethod ({ cls := "Pebblegate", name := "areDead", desc := "(LPebblegate$Reach;)Z" } : Jvm.MethodName)) ∈ lw_tbl := lw_at lw_m6 99 rfl
theorem q1371 : (Jvm.Cond.instanceMethod ({ cls := "Pebblegate", name := "areDead", desc := "(LPebblegate$Reach;)Z" } : Jvm.MethodName)) ∈ lw_all := lw_g (lw_at lw_m6 100 rfl) rfl
theorem q1372 : (Jvm.Cond.code ({ cls := "Pebblegate", name := "areDead", desc := "(LPebblegate$Reach;)Z" } : Jvm.MethodName) prog_1_method_77_code (7 : Nat) (Option.some Jvm.ClassFile.FieldType.boolean)) ∈ lw_all := lw_g (lw_at lw_m6 101 rfl) rfl
theorem q1373 : (Jvm.Cond.methodLink "Pebblegate" (359 : Nat) ({ cls := "java/util/BitSet", name := "get", desc := "(I)Z" } : Jvm.MethodName)) ∈ lw_all := lw_g (lw_at lw_m6 102 rfl) rfl
theorem q1375 : (Jvm.Cond.instanceMethod ({ cls := "Pebblegate", name := "digest", desc := "()J" } : Jvm.MethodName)) ∈ lw_all := lw_g (lw_at lw_m6 104 rfl) rfl
theorem q1376 : (Jvm.Cond.selects "Pebblegate" ({ cls := "Pebblegate", name := "digest", desc := "()J" } : Jvm.MethodName) ({ cls := "Pebblegate", name := "digest", desc := "()J" } : Jvm.MethodName)) ∈ lw_all := lw_g (lw_at lw_m6 105 rfl) rfl
theorem q1377 : (Jvm.Cond.code ({ cls := "Pebblegate", name := "digest", desc := "()J" } : Jvm.MethodName) prog_1_method_80_code (11 : Nat) (Option.some Jvm.ClassFile.FieldType.long)) ∈ lw_all := lw_g (lw_at lw_m6 106 rfl) rfl
theorem q1378 : (Jvm.Cond.constantLong "Pebblegate" (374 : Nat) (8023 : Int64)) ∈ lw_all := lw_g (lw_at lw_m6 107 rfl) rfl
theorem q1379 : (Jvm.Cond.methodLink "Pebblegate" (376 : Nat) ({ cls := "Pebblegate", name := "next", desc := "(JJ)J" } : Jvm.MethodName)) ∈ lw_all := lw_g (lw_at lw_m6 108 rfl) rfl
theorem q1380 : (Jvm.Cond.static ({ cls := "Pebblegate", name := "next", desc := "(JJ)J" } : Jvm.MethodName)) ∈ lw_all := lw_g (lw_at lw_m6 109 rfl) rfl
theorem q1381 : (Jvm.Cond.code ({ cls := "Pebblegate", name := "next", desc := "(JJ)J" } : Jvm.MethodName) prog_1_method_79_code (4 : Nat) (Option.some Jvm.ClassFile.FieldType.long)) ∈ lw_all := lw_g (lw_at lw_m6 110 rfl) rfl
theorem q1382 : (Jvm.Cond.constantLong "Pebblegate" (372 : Nat) (31 : Int64)) ∈ lw_all := lw_g (lw_at lw_m6 111 rfl) rfl
theorem q1383 : (Jvm.Cond.methodLink "Pebblegate" (378 : Nat) ({ cls := "Pebblegate", name := "going", desc := "()I" } : Jvm.MethodName)) ∈ lw_all := lw_g (lw_at lw_m6 112 rfl) rfl
theorem q1384 : (Jvm.Cond.constantLong "Pebblegate" (381 : Nat) (-9 : Int64)) ∈ lw_all := lw_g (lw_at lw_m6 113 rfl) rfl
theorem q1385 : (Jvm.Cond.methodLink "Pebblegate" (383 : Nat) ({ cls := "Pebblegate", name := "weighings", desc := "()I" } : Jvm.MethodName)) ∈ lw_all := lw_g (lw_at lw_m6 114 rfl) rfl
theorem q1386 : (Jvm.Cond.methodLink "Pebblegate" (355 : Nat) ({ cls := "Pebblegate", name := "houseNow", desc := "(I)I" } : Jvm.MethodName)) ∈ lw_all := lw_g (lw_at lw_m6 115 rfl) rfl
theorem q1387 : (Jvm.Cond.privateMethod ({ cls := "Pebblegate", name := "houseNow", desc := "(I)I" } : Jvm.MethodName)) ∈ lw_tbl := lw_at lw_m6 116 rfl
theorem q1388 : (Jvm.Cond.instanceMethod ({ cls := "Pebblegate", name := "houseNow", desc := "(I)I" } : Jvm.MethodName)) ∈ lw_all := lw_g (lw_at lw_m6 117 rfl) rfl
theorem q1389 : (Jvm.Cond.code ({ cls := "Pebblegate", name := "houseNow", desc := "(I)I" } : Jvm.MethodName) prog_1_method_72_code (2 : Nat) (Option.some Jvm.ClassFile.FieldType.int)) ∈ lw_all := lw_g (lw_at lw_m6 118 rfl) rfl
theorem q1390 : (Jvm.Cond.methodLink "Pebblegate" (226 : Nat) ({ cls := "Pebblegate", name := "all", desc := "()I" } : Jvm.MethodName)) ∈ lw_all := lw_g (lw_at lw_m6 119 rfl) rfl
theorem q1391 : (Jvm.Cond.privateMethod ({ cls := "Pebblegate", name := "all", desc := "()I" } : Jvm.MethodName)) ∈ lw_tbl := lw_at lw_m6 120 rfl
theorem q1392 : (Jvm.Cond.instanceMethod ({ cls := "Pebblegate", name := "all", desc := "()I" } : Jvm.MethodName)) ∈ lw_all := lw_g (lw_at lw_m6 121 rfl) rfl
theorem q1393 : (Jvm.Cond.code ({ cls := "Pebblegate", name := "all", desc := "()I" } : Jvm.MethodName) prog_1_method_23_code (4 : Nat) (Option.some Jvm.ClassFile.FieldType.int)) ∈ lw_all := lw_g (lw_at lw_m6 122 rfl) rfl
theorem q1394 : (Jvm.Cond.methodLink "Pebblegate" (159 : Nat) ({ cls := "java/util/TreeMap", name := "values", desc := "()Ljava/util/Collection;" } : Jvm.MethodName)) ∈ lw_all := lw_g (lw_at lw_m6 123 rfl) rfl
theorem q1408 : (Jvm.Cond.interfaceEntry "Pebblegate" (163 : Nat)) ∈ lw_tbl := lw_at lw_m6 137 rfl
theorem q1409 : (Jvm.Cond.methodLink "Pebblegate" (163 : Nat) ({ cls := "java/util/Collection", name := "iterator", desc := "()Ljava/util/Iterator;" } : Jvm.MethodName)) ∈ lw_all := lw_g (lw_at lw_m6 138 rfl) rfl
theorem q1448 : (Jvm.Cond.methodLink "Pebblegate" (386 : Nat) ({ cls := "Pebblegate", name := "isSound", desc := "()Z" } : Jvm.MethodName)) ∈ lw_all := lw_g (lw_at lw_m6 177 rfl) rfl
theorem q1467 : (Jvm.Cond.instanceMethod ({ cls := "Pebblegate", name := "begin", desc := "(I)I" } : Jvm.MethodName)) ∈ lw_all := lw_g (lw_at lw_m6 196 rfl) rfl
theorem q1468 : (Jvm.Cond.selects "Pebblegate" ({ cls := "Pebblegate", name := "begin", desc := "(I)I" } : Jvm.MethodName) ({ cls := "Pebblegate", name := "begin", desc := "(I)I" } : Jvm.MethodName)) ∈ lw_all := lw_g (lw_at lw_m6 197 rfl) rfl
theorem q1469 : (Jvm.Cond.code ({ cls := "Pebblegate", name := "begin", desc := "(I)I" } : Jvm.MethodName) prog_1_method_26_code (4 : Nat) (Option.some Jvm.ClassFile.FieldType.int)) ∈ lw_all := lw_g (lw_at lw_m6 198 rfl) rfl
theorem q1470 : (Jvm.Cond.methodLink "Pebblegate" (119 : Nat) ({ cls := "Pebblegate", name := "isIn", desc := "(III)Z" } : Jvm.MethodName)) ∈ lw_all := lw_g (lw_at lw_m6 199 rfl) rfl
theorem q1471 : (Jvm.Cond.static ({ cls := "Pebblegate", name := "isIn", desc := "(III)Z" } : Jvm.MethodName)) ∈ lw_all := lw_g (lw_at lw_m6 200 rfl) rfl
theorem q1472 : (Jvm.Cond.code ({ cls := "Pebblegate", name := "isIn", desc := "(III)Z" } : Jvm.MethodName) prog_1_method_11_code (3 : Nat) (Option.some Jvm.ClassFile.FieldType.boolean)) ∈ lw_all := lw_g (lw_at lw_m6 201 rfl) rfl
theorem q1473 : (Jvm.Cond.methodLink "Pebblegate" (171 : Nat) ({ cls := "Pebblegate", name := "mustFit", desc := "(Z)V" } : Jvm.MethodName)) ∈ lw_all := lw_g (lw_at lw_m6 202 rfl) rfl
theorem q1474 : (Jvm.Cond.static ({ cls := "Pebblegate", name := "mustFit", desc := "(Z)V" } : Jvm.MethodName)) ∈ lw_all := lw_g (lw_at lw_m6 203 rfl) rfl
theorem q1475 : (Jvm.Cond.code ({ cls := "Pebblegate", name := "mustFit", desc := "(Z)V" } : Jvm.MethodName) prog_1_method_13_code (1 : Nat) (Option.none : Option Jvm.ClassFile.FieldType)) ∈ lw_all := lw_g (lw_at lw_m6 204 rfl) rfl
theorem q1476 : (Jvm.Cond.classLink "Pebblegate" (116 : Nat) "java/lang/IllegalArgumentException") ∈ lw_all := lw_g (lw_at lw_m6 205 rfl) rfl
theorem q1477 : (Jvm.Cond.methodLink "Pebblegate" (118 : Nat) ({ cls := "java/lang/IllegalArgumentException", name := "<init>", desc := "()V" } : Jvm.MethodName)) ∈ lw_all := lw_g (lw_at lw_m6 206 rfl) rfl
theorem q1487 : (Jvm.Cond.methodLink "Pebblegate" (174 : Nat) ({ cls := "java/util/ArrayList", name := "clear", desc := "()V" } : Jvm.MethodName)) ∈ lw_all := lw_g (lw_at lw_m6 216 rfl) rfl
theorem q1491 : (Jvm.Cond.methodLink "Pebblegate" (177 : Nat) ({ cls := "java/util/TreeMap", name := "clear", desc := "()V" } : Jvm.MethodName)) ∈ lw_all := lw_g (lw_at lw_m6 220 rfl) rfl
theorem q1515 : (Jvm.Cond.instanceMethod ({ cls := "Pebblegate", name := "arc", desc := "(IIII)I" } : Jvm.MethodName)) ∈ lw_all := lw_g (lw_at lw_m7 4 rfl) rfl
theorem q1516 : (Jvm.Cond.selects "Pebblegate" ({ cls := "Pebblegate", name := "arc", desc := "(IIII)I" } : Jvm.MethodName) ({ cls := "Pebblegate", name := "arc", desc := "(IIII)I" } : Jvm.MethodName)) ∈ lw_all := lw_g (lw_at lw_m7 5 rfl) rfl
theorem q1517 : (Jvm.Cond.code ({ cls := "Pebblegate", name := "arc", desc := "(IIII)I" } : Jvm.MethodName) prog_1_method_28_code (7 : Nat) (Option.some Jvm.ClassFile.FieldType.int)) ∈ lw_all := lw_g (lw_at lw_m7 6 rfl) rfl
theorem q1518 : (Jvm.Cond.methodLink "Pebblegate" (187 : Nat) ({ cls := "Pebblegate", name := "its", desc := "(I)LPebblegate$Step;" } : Jvm.MethodName)) ∈ lw_all := lw_g (lw_at lw_m7 7 rfl) rfl
theorem q1519 : (Jvm.Cond.privateMethod ({ cls := "Pebblegate", name := "its", desc := "(I)LPebblegate$Step;" } : Jvm.MethodName)) ∈ lw_tbl := lw_at lw_m7 8 rfl
theorem q1520 : (Jvm.Cond.instanceMethod ({ cls := "Pebblegate", name := "its", desc := "(I)LPebblegate$Step;" } : Jvm.MethodName)) ∈ lw_all := lw_g (lw_at lw_m7 9 rfl) rfl
theorem q1521 : (Jvm.Cond.code ({ cls := "Pebblegate", name := "its", desc := "(I)LPebblegate$Step;" } : Jvm.MethodName) prog_1_method_14_code (2 : Nat) (Option.some (Jvm.ClassFile.FieldType.object "Pebblegate$Step"))) ∈ lw_all := lw_g (lw_at lw_m7 10 rfl) rfl
theorem q1522 : (Jvm.Cond.methodLink "Pebblegate" (123 : Nat) ({ cls := "Pebblegate", name := "mustBe", desc := "(Z)V" } : Jvm.MethodName)) ∈ lw_all := lw_g (lw_at lw_m7 11 rfl) rfl
theorem q1523 : (Jvm.Cond.static ({ cls := "Pebblegate", name := "mustBe", desc := "(Z)V" } : Jvm.MethodName)) ∈ lw_all := lw_g (lw_at lw_m7 12 rfl) rfl
theorem q1524 : (Jvm.Cond.code ({ cls := "Pebblegate", name := "mustBe", desc := "(Z)V" } : Jvm.MethodName) prog_1_method_12_code (1 : Nat) (Option.none : Option Jvm.ClassFile.FieldType)) ∈ lw_all := lw_g (lw_at lw_m7 13 rfl) rfl
theorem q1525 : (Jvm.Cond.classLink "Pebblegate" (113 : Nat) "java/lang/IndexOutOfBoundsException") ∈ lw_all := lw_g (lw_at lw_m7 14 rfl) rfl
theorem q1526 : (Jvm.Cond.methodLink "Pebblegate" (115 : Nat) ({ cls := "java/lang/IndexOutOfBoundsException", name := "<init>", desc := "()V" } : Jvm.MethodName)) ∈ lw_all := lw_g (lw_at lw_m7 15 rfl) rfl
theorem q1530 : (Jvm.Cond.methodLink "Pebblegate" (191 : Nat) ({ cls := "Pebblegate", name := "mustBePlace", desc := "(I)V" } : Jvm.MethodName)) ∈ lw_all := lw_g (lw_at lw_m7 19 rfl) rfl
theorem q1531 : (Jvm.Cond.privateMethod ({ cls := "Pebblegate", name := "mustBePlace", desc := "(I)V" } : Jvm.MethodName)) ∈ lw_tbl := lw_at lw_m7 20 rfl
theorem q1532 : (Jvm.Cond.instanceMethod ({ cls := "Pebblegate", name := "mustBePlace", desc := "(I)V" } : Jvm.MethodName)) ∈ lw_all := lw_g (lw_at lw_m7 21 rfl) rfl
theorem q1533 : (Jvm.Cond.code ({ cls := "Pebblegate", name := "mustBePlace", desc := "(I)V" } : Jvm.MethodName) prog_1_method_15_code (2 : Nat) (Option.none : Option Jvm.ClassFile.FieldType)) ∈ lw_all := lw_g (lw_at lw_m7 22 rfl) rfl
theorem q1538 : (Jvm.Cond.instanceMethod ({ cls := "Pebblegate", name := "strike", desc := "(I)I" } : Jvm.MethodName)) ∈ lw_all := lw_g (lw_at lw_m7 27 rfl) rfl
theorem q1539 : (Jvm.Cond.selects "Pebblegate" ({ cls := "Pebblegate", name := "strike", desc := "(I)I" } : Jvm.MethodName) ({ cls := "Pebblegate", name := "strike", desc := "(I)I" } : Jvm.MethodName)) ∈ lw_all := lw_g (lw_at lw_m7 28 rfl) rfl
theorem q1540 : (Jvm.Cond.code ({ cls := "Pebblegate", name := "strike", desc := "(I)I" } : Jvm.MethodName) prog_1_method_29_code (2 : Nat) (Option.some Jvm.ClassFile.FieldType.int)) ∈ lw_all := lw_g (lw_at lw_m7 29 rfl) rfl
theorem q1541 : (Jvm.Cond.methodLink "Pebblegate" (198 : Nat) ({ cls := "java/util/ArrayList", name := "remove", desc := "(I)Ljava/lang/Object;" } : Jvm.MethodName)) ∈ lw_all := lw_g (lw_at lw_m7 30 rfl) rfl
theorem q1554 : (Jvm.Cond.instanceMethod ({ cls := "Pebblegate", name := "set", desc := "(II)I" } : Jvm.MethodName)) ∈ lw_all := lw_g (lw_at lw_m7 43 rfl) rfl
theorem q1555 : (Jvm.Cond.selects "Pebblegate" ({ cls := "Pebblegate", name := "set", desc := "(II)I" } : Jvm.MethodName) ({ cls := "Pebblegate", name := "set", desc := "(II)I" } : Jvm.MethodName)) ∈ lw_all := lw_g (lw_at lw_m7 44 rfl) rfl
theorem q1556 : (Jvm.Cond.code ({ cls := "Pebblegate", name := "set", desc := "(II)I" } : Jvm.MethodName) prog_1_method_32_code (4 : Nat) (Option.some Jvm.ClassFile.FieldType.int)) ∈ lw_all := lw_g (lw_at lw_m7 45 rfl) rfl
theorem q1557 : (Jvm.Cond.methodLink "Pebblegate" (156 : Nat) ({ cls := "Pebblegate", name := "lay", desc := "(II)V" } : Jvm.MethodName)) ∈ lw_all := lw_g (lw_at lw_m7 46 rfl) rfl
theorem q1558 : (Jvm.Cond.privateMethod ({ cls := "Pebblegate", name := "lay", desc := "(II)V" } : Jvm.MethodName)) ∈ lw_tbl := lw_at lw_m7 47 rfl
theorem q1559 : (Jvm.Cond.instanceMethod ({ cls := "Pebblegate", name := "lay", desc := "(II)V" } : Jvm.MethodName)) ∈ lw_all := lw_g (lw_at lw_m7 48 rfl) rfl
theorem q1560 : (Jvm.Cond.code ({ cls := "Pebblegate", name := "lay", desc := "(II)V" } : Jvm.MethodName) prog_1_method_20_code (3 : Nat) (Option.none : Option Jvm.ClassFile.FieldType)) ∈ lw_all := lw_g (lw_at lw_m7 49 rfl) rfl
theorem q1561 : (Jvm.Cond.methodLink "Pebblegate" (145 : Nat) ({ cls := "java/util/TreeMap", name := "remove", desc := "(Ljava/lang/Object;)Ljava/lang/Object;" } : Jvm.MethodName)) ∈ lw_all := lw_g (lw_at lw_m7 50 rfl) rfl
theorem q1574 : (Jvm.Cond.methodLink "Pebblegate" (148 : Nat) ({ cls := "java/util/TreeMap", name := "put", desc := "(Ljava/lang/Object;Ljava/lang/Object;)Ljava/lang/Object;" } : Jvm.MethodName)) ∈ lw_all := lw_g (lw_at lw_m7 63 rfl) rfl
theorem q1579 : (Jvm.Cond.instanceMethod ({ cls := "Pebblegate", name := "add", desc := "(II)I" } : Jvm.MethodName)) ∈ lw_all := lw_g (lw_at lw_m7 68 rfl) rfl
theorem q1580 : (Jvm.Cond.selects "Pebblegate" ({ cls := "Pebblegate", name := "add", desc := "(II)I" } : Jvm.MethodName) ({ cls := "Pebblegate", name := "add", desc := "(II)I" } : Jvm.MethodName)) ∈ lw_all := lw_g (lw_at lw_m7 69 rfl) rfl
theorem q1581 : (Jvm.Cond.code ({ cls := "Pebblegate", name := "add", desc := "(II)I" } : Jvm.MethodName) prog_1_method_33_code (3 : Nat) (Option.some Jvm.ClassFile.FieldType.int)) ∈ lw_all := lw_g (lw_at lw_m7 70 rfl) rfl
theorem q1586 : (Jvm.Cond.instanceMethod ({ cls := "Pebblegate", name := "go", desc := "(I)I" } : Jvm.MethodName)) ∈ lw_all := lw_g (lw_at lw_m7 75 rfl) rfl
theorem q1587 : (Jvm.Cond.selects "Pebblegate" ({ cls := "Pebblegate", name := "go", desc := "(I)I" } : Jvm.MethodName) ({ cls := "Pebblegate", name := "go", desc := "(I)I" } : Jvm.MethodName)) ∈ lw_all := lw_g (lw_at lw_m7 76 rfl) rfl
theorem q1588 : (Jvm.Cond.code ({ cls := "Pebblegate", name := "go", desc := "(I)I" } : Jvm.MethodName) prog_1_method_35_code (2 : Nat) (Option.some Jvm.ClassFile.FieldType.int)) ∈ lw_all := lw_g (lw_at lw_m7 77 rfl) rfl
theorem q1589 : (Jvm.Cond.methodLink "Pebblegate" (229 : Nat) ({ cls := "Pebblegate", name := "goBy", desc := "(LPebblegate$Step;)I" } : Jvm.MethodName)) ∈ lw_all := lw_g (lw_at lw_m7 78 rfl) rfl
theorem q1590 : (Jvm.Cond.privateMethod ({ cls := "Pebblegate", name := "goBy", desc := "(LPebblegate$Step;)I" } : Jvm.MethodName)) ∈ lw_tbl := lw_at lw_m7 79 rfl
theorem q1591 : (Jvm.Cond.instanceMethod ({ cls := "Pebblegate", name := "goBy", desc := "(LPebblegate$Step;)I" } : Jvm.MethodName)) ∈ lw_all := lw_g (lw_at lw_m7 80 rfl) rfl
theorem q1592 : (Jvm.Cond.code ({ cls := "Pebblegate", name := "goBy", desc := "(LPebblegate$Step;)I" } : Jvm.MethodName) prog_1_method_34_code (3 : Nat) (Option.some Jvm.ClassFile.FieldType.int)) ∈ lw_all := lw_g (lw_at lw_m7 81 rfl) rfl
theorem q1593 : (Jvm.Cond.methodLink "Pebblegate" (222 : Nat) ({ cls := "Pebblegate", name := "become", desc := "([I)V" } : Jvm.MethodName)) ∈ lw_all := lw_g (lw_at lw_m7 82 rfl) rfl
theorem q1594 : (Jvm.Cond.privateMethod ({ cls := "Pebblegate", name := "become", desc := "([I)V" } : Jvm.MethodName)) ∈ lw_tbl := lw_at lw_m7 83 rfl
theorem q1595 : (Jvm.Cond.instanceMethod ({ cls := "Pebblegate", name := "become", desc := "([I)V" } : Jvm.MethodName)) ∈ lw_all := lw_g (lw_at lw_m7 84 rfl) rfl
theorem q1596 : (Jvm.Cond.code ({ cls := "Pebblegate", name := "become", desc := "([I)V" } : Jvm.MethodName) prog_1_method_22_code (3 : Nat) (Option.none : Option Jvm.ClassFile.FieldType)) ∈ lw_all := lw_g (lw_at lw_m7 85 rfl) rfl
theorem q1601 : (Jvm.Cond.instanceMethod ({ cls := "Pebblegate", name := "back", desc := "(I)I" } : Jvm.MethodName)) ∈ lw_all := lw_g (lw_at lw_m7 90 rfl) rfl
theorem q1602 : (Jvm.Cond.selects "Pebblegate" ({ cls := "Pebblegate", name := "back", desc := "(I)I" } : Jvm.MethodName) ({ cls := "Pebblegate", name := "back", desc := "(I)I" } : Jvm.MethodName)) ∈ lw_all := lw_g (lw_at lw_m7 91 rfl) rfl
theorem q1603 : (Jvm.Cond.code ({ cls := "Pebblegate", name := "back", desc := "(I)I" } : Jvm.MethodName) prog_1_method_36_code (2 : Nat) (Option.some Jvm.ClassFile.FieldType.int)) ∈ lw_all := lw_g (lw_at lw_m7 92 rfl) rfl
theorem q1608 : (Jvm.Cond.instanceMethod ({ cls := "Pebblegate", name := "run", desc := "(I)I" } : Jvm.MethodName)) ∈ lw_all := lw_g (lw_at lw_m7 97 rfl) rfl
theorem q1609 : (Jvm.Cond.selects "Pebblegate" ({ cls := "Pebblegate", name := "run", desc := "(I)I" } : Jvm.MethodName) ({ cls := "Pebblegate", name := "run", desc := "(I)I" } : Jvm.MethodName)) ∈ lw_all := lw_g (lw_at lw_m7 98 rfl) rfl
theorem q1610 : (Jvm.Cond.code ({ cls := "Pebblegate", name := "run", desc := "(I)I" } : Jvm.MethodName) prog_1_method_38_code (3 : Nat) (Option.some Jvm.ClassFile.FieldType.int)) ∈ lw_all := lw_g (lw_at lw_m7 99 rfl) rfl
theorem q1611 : (Jvm.Cond.methodLink "Pebblegate" (233 : Nat) ({ cls := "Pebblegate", name := "isRun", desc := "()Z" } : Jvm.MethodName)) ∈ lw_all := lw_g (lw_at lw_m7 100 rfl) rfl
theorem q1612 : (Jvm.Cond.privateMethod ({ cls := "Pebblegate", name := "isRun", desc := "()Z" } : Jvm.MethodName)) ∈ lw_tbl := lw_at lw_m7 101 rfl
theorem q1613 : (Jvm.Cond.instanceMethod ({ cls := "Pebblegate", name := "isRun", desc := "()Z" } : Jvm.MethodName)) ∈ lw_all := lw_g (lw_at lw_m7 102 rfl) rfl
theorem q1614 : (Jvm.Cond.code ({ cls := "Pebblegate", name := "isRun", desc := "()Z" } : Jvm.MethodName) prog_1_method_37_code (5 : Nat) (Option.some Jvm.ClassFile.FieldType.boolean)) ∈ lw_all := lw_g (lw_at lw_m7 103 rfl) rfl
theorem q1619 : (Jvm.Cond.instanceMethod ({ cls := "Pebblegate", name := "keep", desc := "(I)I" } : Jvm.MethodName)) ∈ lw_all := lw_g (lw_at lw_m7 108 rfl) rfl
theorem q1620 : (Jvm.Cond.selects "Pebblegate" ({ cls := "Pebblegate", name := "keep", desc := "(I)I" } : Jvm.MethodName) ({ cls := "Pebblegate", name := "keep", desc := "(I)I" } : Jvm.MethodName)) ∈ lw_all := lw_g (lw_at lw_m7 109 rfl) rfl
theorem q1621 : (Jvm.Cond.code ({ cls := "Pebblegate", name := "keep", desc := "(I)I" } : Jvm.MethodName) prog_1_method_39_code (3 : Nat) (Option.some Jvm.ClassFile.FieldType.int)) ∈ lw_all := lw_g (lw_at lw_m7 110 rfl) rfl
theorem q1622 : (Jvm.Cond.methodLink "Pebblegate" (236 : Nat) ({ cls := "Pebblegate", name := "kept", desc := "(I)[I" } : Jvm.MethodName)) ∈ lw_all := lw_g (lw_at lw_m7 111 rfl) rfl
theorem q1623 : (Jvm.Cond.privateMethod ({ cls := "Pebblegate", name := "kept", desc := "(I)[I" } : Jvm.MethodName)) ∈ lw_tbl := lw_at lw_m7 112 rfl
theorem q1624 : (Jvm.Cond.instanceMethod ({ cls := "Pebblegate", name := "kept", desc := "(I)[I" } : Jvm.MethodName)) ∈ lw_all := lw_g (lw_at lw_m7 113 rfl) rfl
theorem q1625 : (Jvm.Cond.code ({ cls := "Pebblegate", name := "kept", desc := "(I)[I" } : Jvm.MethodName) prog_1_method_16_code (2 : Nat) (Option.some (Jvm.ClassFile.FieldType.array Jvm.ClassFile.FieldType.int))) ∈ lw_all := lw_g (lw_at lw_m7 114 rfl) rfl
theorem q1626 : (Jvm.Cond.methodLink "Pebblegate" (239 : Nat) ({ cls := "Pebblegate", name := "isSame", desc := "([I[I)Z" } : Jvm.MethodName)) ∈ lw_all := lw_g (lw_at lw_m7 115 rfl) rfl
theorem q1631 : (Jvm.Cond.instanceMethod ({ cls := "Pebblegate", name := "recall", desc := "(I)I" } : Jvm.MethodName)) ∈ lw_all := lw_g (lw_at lw_m7 120 rfl) rfl
theorem q1632 : (Jvm.Cond.selects "Pebblegate" ({ cls := "Pebblegate", name := "recall", desc := "(I)I" } : Jvm.MethodName) ({ cls := "Pebblegate", name := "recall", desc := "(I)I" } : Jvm.MethodName)) ∈ lw_all := lw_g (lw_at lw_m7 121 rfl) rfl
theorem q1633 : (Jvm.Cond.code ({ cls := "Pebblegate", name := "recall", desc := "(I)I" } : Jvm.MethodName) prog_1_method_40_code (4 : Nat) (Option.some Jvm.ClassFile.FieldType.int)) ∈ lw_all := lw_g (lw_at lw_m7 122 rfl) rfl
theorem q1638 : (Jvm.Cond.instanceMethod ({ cls := "Pebblegate", name := "follow", desc := "(I)I" } : Jvm.MethodName)) ∈ lw_all := lw_g (lw_at lw_m7 127 rfl) rfl
theorem q1639 : (Jvm.Cond.selects "Pebblegate" ({ cls := "Pebblegate", name := "follow", desc := "(I)I" } : Jvm.MethodName) ({ cls := "Pebblegate", name := "follow", desc := "(I)I" } : Jvm.MethodName)) ∈ lw_all := lw_g (lw_at lw_m7 128 rfl) rfl
theorem q1640 : (Jvm.Cond.code ({ cls := "Pebblegate", name := "follow", desc := "(I)I" } : Jvm.MethodName) prog_1_method_41_code (6 : Nat) (Option.some Jvm.ClassFile.FieldType.int)) ∈ lw_all := lw_g (lw_at lw_m7 129 rfl) rfl
theorem q1641 : (Jvm.Cond.methodLink "Pebblegate" (253 : Nat) ({ cls := "Pebblegate$Reach", name := "numberOf", desc := "([I)I" } : Jvm.MethodName)) ∈ lw_all := lw_g (lw_at lw_m7 130 rfl) rfl
theorem q1645 : (Jvm.Cond.methodLink "Pebblegate" (262 : Nat) ({ cls := "Pebblegate$Reach", name := "way", desc := "(I)Ljava/util/ArrayList;" } : Jvm.MethodName)) ∈ lw_all := lw_g (lw_at lw_m7 134 rfl) rfl
theorem q1674 : (Jvm.Cond.instanceMethod ({ cls := "Pebblegate", name := "ofArc", desc := "(III)I" } : Jvm.MethodName)) ∈ lw_all := lw_g (lw_at lw_m7 163 rfl) rfl
theorem q1675 : (Jvm.Cond.selects "Pebblegate" ({ cls := "Pebblegate", name := "ofArc", desc := "(III)I" } : Jvm.MethodName) ({ cls := "Pebblegate", name := "ofArc", desc := "(III)I" } : Jvm.MethodName)) ∈ lw_all := lw_g (lw_at lw_m7 164 rfl) rfl
theorem q1676 : (Jvm.Cond.code ({ cls := "Pebblegate", name := "ofArc", desc := "(III)I" } : Jvm.MethodName) prog_1_method_42_code (5 : Nat) (Option.some Jvm.ClassFile.FieldType.int)) ∈ lw_all := lw_g (lw_at lw_m7 165 rfl) rfl
theorem q1681 : (Jvm.Cond.instanceMethod ({ cls := "Pebblegate", name := "marks", desc := "(I)I" } : Jvm.MethodName)) ∈ lw_all := lw_g (lw_at lw_m7 170 rfl) rfl
theorem q1682 : (Jvm.Cond.selects "Pebblegate" ({ cls := "Pebblegate", name := "marks", desc := "(I)I" } : Jvm.MethodName) ({ cls := "Pebblegate", name := "marks", desc := "(I)I" } : Jvm.MethodName)) ∈ lw_all := lw_g (lw_at lw_m7 171 rfl) rfl
theorem q1683 : (Jvm.Cond.code ({ cls := "Pebblegate", name := "marks", desc := "(I)I" } : Jvm.MethodName) prog_1_method_43_code (2 : Nat) (Option.some Jvm.ClassFile.FieldType.int)) ∈ lw_all := lw_g (lw_at lw_m7 172 rfl) rfl
theorem q1688 : (Jvm.Cond.instanceMethod ({ cls := "Pebblegate", name := "keptText", desc := "(I)Ljava/lang/String;" } : Jvm.MethodName)) ∈ lw_all := lw_g (lw_at lw_m7 177 rfl) rfl
theorem q1689 : (Jvm.Cond.selects "Pebblegate" ({ cls := "Pebblegate", name := "keptText", desc := "(I)Ljava/lang/String;" } : Jvm.MethodName) ({ cls := "Pebblegate", name := "keptText", desc := "(I)Ljava/lang/String;" } : Jvm.MethodName)) ∈ lw_all := lw_g (lw_at lw_m7 178 rfl) rfl
theorem q1690 : (Jvm.Cond.code ({ cls := "Pebblegate", name := "keptText", desc := "(I)Ljava/lang/String;" } : Jvm.MethodName) prog_1_method_45_code (2 : Nat) (Option.some (Jvm.ClassFile.FieldType.object "java/lang/String"))) ∈ lw_all := lw_g (lw_at lw_m7 179 rfl) rfl
theorem q1695 : (Jvm.Cond.instanceMethod ({ cls := "Pebblegate", name := "can", desc := "(IZ)Z" } : Jvm.MethodName)) ∈ lw_all := lw_g (lw_at lw_m7 184 rfl) rfl
theorem q1696 : (Jvm.Cond.selects "Pebblegate" ({ cls := "Pebblegate", name := "can", desc := "(IZ)Z" } : Jvm.MethodName) ({ cls := "Pebblegate", name := "can", desc := "(IZ)Z" } : Jvm.MethodName)) ∈ lw_all := lw_g (lw_at lw_m7 185 rfl) rfl
theorem q1697 : (Jvm.Cond.code ({ cls := "Pebblegate", name := "can", desc := "(IZ)Z" } : Jvm.MethodName) prog_1_method_46_code (3 : Nat) (Option.some Jvm.ClassFile.FieldType.boolean)) ∈ lw_all := lw_g (lw_at lw_m7 186 rfl) rfl
theorem q1702 : (Jvm.Cond.instanceMethod ({ cls := "Pebblegate", name := "touches", desc := "(I)I" } : Jvm.MethodName)) ∈ lw_all := lw_g (lw_at lw_m7 191 rfl) rfl
theorem q1703 : (Jvm.Cond.selects "Pebblegate" ({ cls := "Pebblegate", name := "touches", desc := "(I)I" } : Jvm.MethodName) ({ cls := "Pebblegate", name := "touches", desc := "(I)I" } : Jvm.MethodName)) ∈ lw_all := lw_g (lw_at lw_m7 192 rfl) rfl
theorem q1704 : (Jvm.Cond.code ({ cls := "Pebblegate", name := "touches", desc := "(I)I" } : Jvm.MethodName) prog_1_method_49_code (2 : Nat) (Option.some Jvm.ClassFile.FieldType.int)) ∈ lw_all := lw_g (lw_at lw_m7 193 rfl) rfl
theorem q1705 : (Jvm.Cond.methodLink "Pebblegate" (282 : Nat) ({ cls := "Pebblegate$Step", name := "touched", desc := "()Ljava/util/BitSet;" } : Jvm.MethodName)) ∈ lw_all := lw_g (lw_at lw_m7 194 rfl) rfl
theorem q1716 : (Jvm.Cond.instanceMethod ({ cls := "Pebblegate", name := "areApart", desc := "(II)Z" } : Jvm.MethodName)) ∈ lw_all := lw_g (lw_at lw_m7 205 rfl) rfl
theorem q1717 : (Jvm.Cond.selects "Pebblegate" ({ cls := "Pebblegate", name := "areApart", desc := "(II)Z" } : Jvm.MethodName) ({ cls := "Pebblegate", name := "areApart", desc := "(II)Z" } : Jvm.MethodName)) ∈ lw_all := lw_g (lw_at lw_m7 206 rfl) rfl
theorem q1718 : (Jvm.Cond.code ({ cls := "Pebblegate", name := "areApart", desc := "(II)Z" } : Jvm.MethodName) prog_1_method_50_code (3 : Nat) (Option.some Jvm.ClassFile.FieldType.boolean)) ∈ lw_all := lw_g (lw_at lw_m7 207 rfl) rfl
theorem q1719 : (Jvm.Cond.methodLink "Pebblegate" (285 : Nat) ({ cls := "java/util/BitSet", name := "intersects", desc := "(Ljava/util/BitSet;)Z" } : Jvm.MethodName)) ∈ lw_all := lw_g (lw_at lw_m7 208 rfl) rfl
theorem q1727 : (Jvm.Cond.instanceMethod ({ cls := "Pebblegate", name := "reachedText", desc := "(I)Ljava/lang/String;" } : Jvm.MethodName)) ∈ lw_all := lw_g (lw_at lw_m7 216 rfl) rfl
theorem q1728 : (Jvm.Cond.selects "Pebblegate" ({ cls := "Pebblegate", name := "reachedText", desc := "(I)Ljava/lang/String;" } : Jvm.MethodName) ({ cls := "Pebblegate", name := "reachedText", desc := "(I)Ljava/lang/String;" } : Jvm.MethodName)) ∈ lw_all := lw_g (lw_at lw_m7 217 rfl) rfl
theorem q1729 : (Jvm.Cond.code ({ cls := "Pebblegate", name := "reachedText", desc := "(I)Ljava/lang/String;" } : Jvm.MethodName) prog_1_method_54_code (3 : Nat) (Option.some (Jvm.ClassFile.FieldType.object "java/lang/String"))) ∈ lw_all := lw_g (lw_at lw_m7 218 rfl) rfl
theorem q1730 : (Jvm.Cond.methodLink "Pebblegate" (292 : Nat) ({ cls := "Pebblegate", name := "mustBeNumber", desc := "(I)V" } : Jvm.MethodName)) ∈ lw_all := lw_g (lw_at lw_m7 219 rfl) rfl
theorem q1731 : (Jvm.Cond.static ({ cls := "Pebblegate", name := "mustBeNumber", desc := "(I)V" } : Jvm.MethodName)) ∈ lw_all := lw_g (lw_at lw_m7 220 rfl) rfl
theorem q1732 : (Jvm.Cond.code ({ cls := "Pebblegate", name := "mustBeNumber", desc := "(I)V" } : Jvm.MethodName) prog_1_method_53_code (1 : Nat) (Option.none : Option Jvm.ClassFile.FieldType)) ∈ lw_all := lw_g (lw_at lw_m7 221 rfl) rfl
theorem q1733 : (Jvm.Cond.stringRef "Pebblegate" (295 : Nat) "?") ∈ lw_tbl := lw_at lw_m7 222 rfl
theorem q1738 : (Jvm.Cond.instanceMethod ({ cls := "Pebblegate", name := "number", desc := "(I)I" } : Jvm.MethodName)) ∈ lw_all := lw_g (lw_at lw_m7 227 rfl) rfl
theorem q1739 : (Jvm.Cond.selects "Pebblegate" ({ cls := "Pebblegate", name := "number", desc := "(I)I" } : Jvm.MethodName) ({ cls := "Pebblegate", name := "number", desc := "(I)I" } : Jvm.MethodName)) ∈ lw_all := lw_g (lw_at lw_m7 228 rfl) rfl
theorem q1740 : (Jvm.Cond.code ({ cls := "Pebblegate", name := "number", desc := "(I)I" } : Jvm.MethodName) prog_1_method_55_code (4 : Nat) (Option.some Jvm.ClassFile.FieldType.int)) ∈ lw_all := lw_g (lw_at lw_m7 229 rfl) rfl
theorem q1745 : (Jvm.Cond.instanceMethod ({ cls := "Pebblegate", name := "way", desc := "(II)Ljava/lang/String;" } : Jvm.MethodName)) ∈ lw_all := lw_g (lw_at lw_m7 234 rfl) rfl
theorem q1746 : (Jvm.Cond.selects "Pebblegate" ({ cls := "Pebblegate", name := "way", desc := "(II)Ljava/lang/String;" } : Jvm.MethodName) ({ cls := "Pebblegate", name := "way", desc := "(II)Ljava/lang/String;" } : Jvm.MethodName)) ∈ lw_all := lw_g (lw_at lw_m7 235 rfl) rfl
theorem q1747 : (Jvm.Cond.code ({ cls := "Pebblegate", name := "way", desc := "(II)Ljava/lang/String;" } : Jvm.MethodName) prog_1_method_59_code (6 : Nat) (Option.some (Jvm.ClassFile.FieldType.object "java/lang/String"))) ∈ lw_all := lw_g (lw_at lw_m7 236 rfl) rfl
theorem q1748 : (Jvm.Cond.methodLink "Pebblegate" (312 : Nat) ({ cls := "Pebblegate", name := "deepened", desc := "([I)Ljava/lang/String;" } : Jvm.MethodName)) ∈ lw_all := lw_g (lw_at lw_m7 237 rfl) rfl
theorem q1749 : (Jvm.Cond.privateMethod ({ cls := "Pebblegate", name := "deepened", desc := "([I)Ljava/lang/String;" } : Jvm.MethodName)) ∈ lw_tbl := lw_at lw_m7 238 rfl
theorem q1750 : (Jvm.Cond.instanceMethod ({ cls := "Pebblegate", name := "deepened", desc := "([I)Ljava/lang/String;" } : Jvm.MethodName)) ∈ lw_all := lw_g (lw_at lw_m7 239 rfl) rfl
theorem q1751 : (Jvm.Cond.code ({ cls := "Pebblegate", name := "deepened", desc := "([I)Ljava/lang/String;" } : Jvm.MethodName) prog_1_method_58_code (4 : Nat) (Option.some (Jvm.ClassFile.FieldType.object "java/lang/String"))) ∈ lw_all := lw_g (lw_at lw_m8 0 rfl) rfl
theorem q1752 : (Jvm.Cond.methodLink "Pebblegate" (300 : Nat) ({ cls := "Pebblegate", name := "isDeepened", desc := "([I[IILjava/util/ArrayList;)Z" } : Jvm.MethodName)) ∈ lw_all := lw_g (lw_at lw_m8 1 rfl) rfl
theorem q1753 : (Jvm.Cond.privateMethod ({ cls := "Pebblegate", name := "isDeepened", desc := "([I[IILjava/util/ArrayList;)Z" } : Jvm.MethodName)) ∈ lw_tbl := lw_at lw_m8 2 rfl
theorem q1754 : (Jvm.Cond.instanceMethod ({ cls := "Pebblegate", name := "isDeepened", desc := "([I[IILjava/util/ArrayList;)Z" } : Jvm.MethodName)) ∈ lw_all := lw_g (lw_at lw_m8 3 rfl) rfl
theorem q1755 : (Jvm.Cond.code ({ cls := "Pebblegate", name := "isDeepened", desc := "([I[IILjava/util/ArrayList;)Z" } : Jvm.MethodName) prog_1_method_57_code (6 : Nat) (Option.some Jvm.ClassFile.FieldType.boolean)) ∈ lw_all := lw_g (lw_at lw_m8 4 rfl) rfl
theorem q1756 : (Jvm.Cond.methodLink "Pebblegate" (304 : Nat) ({ cls := "java/util/ArrayList", name := "add", desc := "(ILjava/lang/Object;)V" } : Jvm.MethodName)) ∈ lw_all := lw_g (lw_at lw_m8 5 rfl) rfl
theorem q1757 : (Jvm.Cond.methodLink "Pebblegate" (307 : Nat) ({ cls := "Pebblegate", name := "textOf", desc := "(Ljava/util/ArrayList;)Ljava/lang/String;" } : Jvm.MethodName)) ∈ lw_all := lw_g (lw_at lw_m8 6 rfl) rfl
theorem q1758 : (Jvm.Cond.static ({ cls := "Pebblegate", name := "textOf", desc := "(Ljava/util/ArrayList;)Ljava/lang/String;" } : Jvm.MethodName)) ∈ lw_all := lw_g (lw_at lw_m8 7 rfl) rfl
theorem q1759 : (Jvm.Cond.code ({ cls := "Pebblegate", name := "textOf", desc := "(Ljava/util/ArrayList;)Ljava/lang/String;" } : Jvm.MethodName) prog_1_method_56_code (4 : Nat) (Option.some (Jvm.ClassFile.FieldType.object "java/lang/String"))) ∈ lw_all := lw_g (lw_at lw_m8 8 rfl) rfl
theorem q1760 : (Jvm.Cond.methodLink "Pebblegate" (297 : Nat) ({ cls := "java/lang/StringBuilder", name := "length", desc := "()I" } : Jvm.MethodName)) ∈ lw_all := lw_g (lw_at lw_m8 9 rfl) rfl
theorem q1761 : (Jvm.Cond.stringRef "Pebblegate" (310 : Nat) "none") ∈ lw_tbl := lw_at lw_m8 10 rfl
theorem q1766 : (Jvm.Cond.instanceMethod ({ cls := "Pebblegate", name := "chances", desc := "(I)I" } : Jvm.MethodName)) ∈ lw_all := lw_g (lw_at lw_m8 15 rfl) rfl
theorem q1767 : (Jvm.Cond.selects "Pebblegate" ({ cls := "Pebblegate", name := "chances", desc := "(I)I" } : Jvm.MethodName) ({ cls := "Pebblegate", name := "chances", desc := "(I)I" } : Jvm.MethodName)) ∈ lw_all := lw_g (lw_at lw_m8 16 rfl) rfl
theorem q1768 : (Jvm.Cond.code ({ cls := "Pebblegate", name := "chances", desc := "(I)I" } : Jvm.MethodName) prog_1_method_61_code (7 : Nat) (Option.some Jvm.ClassFile.FieldType.int)) ∈ lw_all := lw_g (lw_at lw_m8 17 rfl) rfl
theorem q1773 : (Jvm.Cond.instanceMethod ({ cls := "Pebblegate", name := "again", desc := "(I)I" } : Jvm.MethodName)) ∈ lw_all := lw_g (lw_at lw_m8 22 rfl) rfl
theorem q1774 : (Jvm.Cond.selects "Pebblegate" ({ cls := "Pebblegate", name := "again", desc := "(I)I" } : Jvm.MethodName) ({ cls := "Pebblegate", name := "again", desc := "(I)I" } : Jvm.MethodName)) ∈ lw_all := lw_g (lw_at lw_m8 23 rfl) rfl
theorem q1775 : (Jvm.Cond.code ({ cls := "Pebblegate", name := "again", desc := "(I)I" } : Jvm.MethodName) prog_1_method_62_code (3 : Nat) (Option.some Jvm.ClassFile.FieldType.int)) ∈ lw_all := lw_g (lw_at lw_m8 24 rfl) rfl
theorem q1776 : (Jvm.Cond.methodLink "Pebblegate" (318 : Nat) ({ cls := "Pebblegate$Reach", name := "isAgain", desc := "(I)Z" } : Jvm.MethodName)) ∈ lw_all := lw_g (lw_at lw_m8 25 rfl) rfl
theorem q1784 : (Jvm.Cond.instanceMethod ({ cls := "Pebblegate", name := "comesBack", desc := "(I)I" } : Jvm.MethodName)) ∈ lw_all := lw_g (lw_at lw_m8 33 rfl) rfl
theorem q1785 : (Jvm.Cond.selects "Pebblegate" ({ cls := "Pebblegate", name := "comesBack", desc := "(I)I" } : Jvm.MethodName) ({ cls := "Pebblegate", name := "comesBack", desc := "(I)I" } : Jvm.MethodName)) ∈ lw_all := lw_g (lw_at lw_m8 34 rfl) rfl
theorem q1786 : (Jvm.Cond.code ({ cls := "Pebblegate", name := "comesBack", desc := "(I)I" } : Jvm.MethodName) prog_1_method_64_code (4 : Nat) (Option.some Jvm.ClassFile.FieldType.int)) ∈ lw_all := lw_g (lw_at lw_m8 35 rfl) rfl
theorem q1787 : (Jvm.Cond.methodLink "Pebblegate" (325 : Nat) ({ cls := "Pebblegate", name := "turned", desc := "()Ljava/util/ArrayList;" } : Jvm.MethodName)) ∈ lw_all := lw_g (lw_at lw_m8 36 rfl) rfl
theorem q1788 : (Jvm.Cond.privateMethod ({ cls := "Pebblegate", name := "turned", desc := "()Ljava/util/ArrayList;" } : Jvm.MethodName)) ∈ lw_tbl := lw_at lw_m8 37 rfl
theorem q1789 : (Jvm.Cond.instanceMethod ({ cls := "Pebblegate", name := "turned", desc := "()Ljava/util/ArrayList;" } : Jvm.MethodName)) ∈ lw_all := lw_g (lw_at lw_m8 38 rfl) rfl
theorem q1790 : (Jvm.Cond.code ({ cls := "Pebblegate", name := "turned", desc := "()Ljava/util/ArrayList;" } : Jvm.MethodName) prog_1_method_30_code (4 : Nat) (Option.some (Jvm.ClassFile.FieldType.object "java/util/ArrayList"))) ∈ lw_all := lw_g (lw_at lw_m8 39 rfl) rfl
theorem q1795 : (Jvm.Cond.instanceMethod ({ cls := "Pebblegate", name := "most", desc := "(I)I" } : Jvm.MethodName)) ∈ lw_all := lw_g (lw_at lw_m8 44 rfl) rfl
theorem q1796 : (Jvm.Cond.selects "Pebblegate" ({ cls := "Pebblegate", name := "most", desc := "(I)I" } : Jvm.MethodName) ({ cls := "Pebblegate", name := "most", desc := "(I)I" } : Jvm.MethodName)) ∈ lw_all := lw_g (lw_at lw_m8 45 rfl) rfl
theorem q1797 : (Jvm.Cond.code ({ cls := "Pebblegate", name := "most", desc := "(I)I" } : Jvm.MethodName) prog_1_method_67_code (3 : Nat) (Option.some Jvm.ClassFile.FieldType.int)) ∈ lw_all := lw_g (lw_at lw_m8 46 rfl) rfl
theorem q1798 : (Jvm.Cond.constant "Pebblegate" (340 : Nat) (1048576 : Int32)) ∈ lw_all := lw_g (lw_at lw_m8 47 rfl) rfl
theorem q1803 : (Jvm.Cond.instanceMethod ({ cls := "Pebblegate", name := "weighing", desc := "(II)I" } : Jvm.MethodName)) ∈ lw_all := lw_g (lw_at lw_m8 52 rfl) rfl
theorem q1804 : (Jvm.Cond.selects "Pebblegate" ({ cls := "Pebblegate", name := "weighing", desc := "(II)I" } : Jvm.MethodName) ({ cls := "Pebblegate", name := "weighing", desc := "(II)I" } : Jvm.MethodName)) ∈ lw_all := lw_g (lw_at lw_m8 53 rfl) rfl
theorem q1805 : (Jvm.Cond.code ({ cls := "Pebblegate", name := "weighing", desc := "(II)I" } : Jvm.MethodName) prog_1_method_70_code (4 : Nat) (Option.some Jvm.ClassFile.FieldType.int)) ∈ lw_all := lw_g (lw_at lw_m8 54 rfl) rfl
theorem q1810 : (Jvm.Cond.instanceMethod ({ cls := "Pebblegate", name := "weight", desc := "(II)I" } : Jvm.MethodName)) ∈ lw_all := lw_g (lw_at lw_m8 59 rfl) rfl
theorem q1811 : (Jvm.Cond.selects "Pebblegate" ({ cls := "Pebblegate", name := "weight", desc := "(II)I" } : Jvm.MethodName) ({ cls := "Pebblegate", name := "weight", desc := "(II)I" } : Jvm.MethodName)) ∈ lw_all := lw_g (lw_at lw_m8 60 rfl) rfl
theorem q1812 : (Jvm.Cond.code ({ cls := "Pebblegate", name := "weight", desc := "(II)I" } : Jvm.MethodName) prog_1_method_71_code (5 : Nat) (Option.some Jvm.ClassFile.FieldType.int)) ∈ lw_all := lw_g (lw_at lw_m8 61 rfl) rfl
theorem q1817 : (Jvm.Cond.instanceMethod ({ cls := "Pebblegate", name := "house", desc := "(I)I" } : Jvm.MethodName)) ∈ lw_all := lw_g (lw_at lw_m8 66 rfl) rfl
theorem q1818 : (Jvm.Cond.selects "Pebblegate" ({ cls := "Pebblegate", name := "house", desc := "(I)I" } : Jvm.MethodName) ({ cls := "Pebblegate", name := "house", desc := "(I)I" } : Jvm.MethodName)) ∈ lw_all := lw_g (lw_at lw_m8 67 rfl) rfl
theorem q1819 : (Jvm.Cond.code ({ cls := "Pebblegate", name := "house", desc := "(I)I" } : Jvm.MethodName) prog_1_method_73_code (2 : Nat) (Option.some Jvm.ClassFile.FieldType.int)) ∈ lw_all := lw_g (lw_at lw_m8 68 rfl) rfl
theorem q2193 : (Jvm.Cond.castable "Pebblegate" "java/lang/Object") ∈ lw_tbl := lw_at lw_m9 202 rfl
theorem in_X1 : ∀ w ∈ wsX10, w ∈ lw_all := lw_in wsX10 [193, 195, 197, 199, 201, 203, 205] (by decide +kernel) (by decide +kernel)

-- J0.java_util_AbstractCollection.lean.txt
/-! java/util/AbstractCollection -/
set_option maxRecDepth 100000
def RJ0 : String := "java/util/AbstractCollection"
abbrev cJ0_init : ByteArray := prog_33_method_1_code
def yJ0_init : MethodName := ⟨RJ0, "<init>", "()V"⟩
theorem dJ0_init_0 : decode cJ0_init 0 = .ok (.aload_n 0, 1) := by decide +kernel
theorem dJ0_init_1 : decode cJ0_init 1 = .ok (.invokespecial 1, 3) := by decide +kernel
theorem dJ0_init_4 : decode cJ0_init 4 = .ok (.return_, 1) := by decide +kernel
theorem q73 : (Jvm.Cond.initialized "java/util/AbstractCollection") ∈ lw_all := lw_g (lw_at lw_m1 2 rfl) rfl
theorem q129 : (Jvm.Cond.instanceMethod ({ cls := "java/util/AbstractCollection", name := "<init>", desc := "()V" } : Jvm.MethodName)) ∈ lw_all := lw_g (lw_at lw_m1 58 rfl) rfl
theorem q130 : (Jvm.Cond.code ({ cls := "java/util/AbstractCollection", name := "<init>", desc := "()V" } : Jvm.MethodName) prog_33_method_1_code (1 : Nat) (Option.none : Option Jvm.ClassFile.FieldType)) ∈ lw_all := lw_g (lw_at lw_m1 59 rfl) rfl
theorem q131 : (Jvm.Cond.methodLink "java/util/AbstractCollection" (1 : Nat) ({ cls := "java/lang/Object", name := "<init>", desc := "()V" } : Jvm.MethodName)) ∈ lw_all := lw_g (lw_at lw_m1 60 rfl) rfl

-- J1.java_util_AbstractList.lean.txt
/-! java/util/AbstractList -/
set_option maxRecDepth 100000
def RJ1 : String := "java/util/AbstractList"
abbrev cJ1_init : ByteArray := prog_34_method_1_code
def yJ1_init : MethodName := ⟨RJ1, "<init>", "()V"⟩
def dkwJ1_init_0 : List UInt8 := [42, 183, 0, 1, 42, 3, 181, 0, 7, 177]
abbrev dktJ1_init_0 : List UInt8 := dkwJ1_init_0 ++ []
theorem dksJ1_init_0 : cJ1_init.data.toList.drop 0 = dktJ1_init_0 := by decide +kernel
theorem dJ1_init_0 : decode cJ1_init 0 = .ok (.aload_n 0, 1) := dk_42 (dk_at dksJ1_init_0 0 rfl rfl)
theorem dJ1_init_1 : decode cJ1_init 1 = .ok (.invokespecial 1, 3) := dk_183 0 1 (dk_at dksJ1_init_0 1 rfl rfl)
theorem dJ1_init_4 : decode cJ1_init 4 = .ok (.aload_n 0, 1) := dk_42 (dk_at dksJ1_init_0 4 rfl rfl)
theorem dJ1_init_5 : decode cJ1_init 5 = .ok (.iconst 0, 1) := dk_3 (dk_at dksJ1_init_0 5 rfl rfl)
theorem dJ1_init_6 : decode cJ1_init 6 = .ok (.putfield 7, 3) := dk_181 0 7 (dk_at dksJ1_init_0 6 rfl rfl)
theorem dJ1_init_9 : decode cJ1_init 9 = .ok (.return_, 1) := dk_177 (dk_at dksJ1_init_0 9 rfl rfl)
theorem q74 : (Jvm.Cond.initialized "java/util/AbstractList") ∈ lw_all := lw_g (lw_at lw_m1 3 rfl) rfl
theorem q126 : (Jvm.Cond.instanceMethod ({ cls := "java/util/AbstractList", name := "<init>", desc := "()V" } : Jvm.MethodName)) ∈ lw_all := lw_g (lw_at lw_m1 55 rfl) rfl
theorem q127 : (Jvm.Cond.code ({ cls := "java/util/AbstractList", name := "<init>", desc := "()V" } : Jvm.MethodName) prog_34_method_1_code (1 : Nat) (Option.none : Option Jvm.ClassFile.FieldType)) ∈ lw_all := lw_g (lw_at lw_m1 56 rfl) rfl
theorem q128 : (Jvm.Cond.methodLink "java/util/AbstractList" (1 : Nat) ({ cls := "java/util/AbstractCollection", name := "<init>", desc := "()V" } : Jvm.MethodName)) ∈ lw_all := lw_g (lw_at lw_m1 57 rfl) rfl
theorem q138 : (Jvm.Cond.fieldLink "java/util/AbstractList" (7 : Nat) "java/util/AbstractList" "modCount" "I") ∈ lw_all := lw_g (lw_at lw_m1 67 rfl) rfl
theorem q147 : (Jvm.Cond.soleField "java/util/AbstractList" "modCount") ∈ lw_all := lw_g (lw_at lw_m1 76 rfl) rfl

