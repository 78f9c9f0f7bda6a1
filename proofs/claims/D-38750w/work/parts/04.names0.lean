-- X0.PebblegateLaw.lean.txt
/-! PebblegateLaw -/
set_option maxRecDepth 100000
def RX0 : String := "PebblegateLaw"
abbrev cX0_begin : ByteArray := method_2_code
def yX0_begin : MethodName := ⟨RX0, "begin", "(LPebblegate;ILPebblegateLaw$Out;)I"⟩
def dkwX0_begin_0 : List UInt8 := [44, 42, 27, 182, 0, 7, 133, 181, 0, 13, 167, 0, 6, 78, 4, 172, 3, 172]
abbrev dktX0_begin_0 : List UInt8 := dkwX0_begin_0 ++ []
theorem dksX0_begin_0 : cX0_begin.data.toList.drop 0 = dktX0_begin_0 := by decide +kernel
theorem dX0_begin_0 : decode cX0_begin 0 = .ok (.aload_n 2, 1) := dk_44 (dk_at dksX0_begin_0 0 rfl rfl)
theorem dX0_begin_1 : decode cX0_begin 1 = .ok (.aload_n 0, 1) := dk_42 (dk_at dksX0_begin_0 1 rfl rfl)
theorem dX0_begin_2 : decode cX0_begin 2 = .ok (.iload_n 1, 1) := dk_27 (dk_at dksX0_begin_0 2 rfl rfl)
theorem dX0_begin_3 : decode cX0_begin 3 = .ok (.invokevirtual 7, 3) := dk_182 0 7 (dk_at dksX0_begin_0 3 rfl rfl)
theorem dX0_begin_6 : decode cX0_begin 6 = .ok (.i2l, 1) := dk_133 (dk_at dksX0_begin_0 6 rfl rfl)
theorem dX0_begin_7 : decode cX0_begin 7 = .ok (.putfield 13, 3) := dk_181 0 13 (dk_at dksX0_begin_0 7 rfl rfl)
theorem dX0_begin_10 : decode cX0_begin 10 = .ok (.goto 6, 3) := dk_167 0 6 (dk_at dksX0_begin_0 10 rfl rfl)
theorem dX0_begin_13 : decode cX0_begin 13 = .ok (.astore_n 3, 1) := dk_78 (dk_at dksX0_begin_0 13 rfl rfl)
theorem dX0_begin_14 : decode cX0_begin 14 = .ok (.iconst 1, 1) := dk_4 (dk_at dksX0_begin_0 14 rfl rfl)
theorem dX0_begin_15 : decode cX0_begin 15 = .ok (.ireturn, 1) := dk_172 (dk_at dksX0_begin_0 15 rfl rfl)
theorem dX0_begin_16 : decode cX0_begin 16 = .ok (.iconst 0, 1) := dk_3 (dk_at dksX0_begin_0 16 rfl rfl)
theorem dX0_begin_17 : decode cX0_begin 17 = .ok (.ireturn, 1) := dk_172 (dk_at dksX0_begin_0 17 rfl rfl)
abbrev cX0_arc : ByteArray := method_3_code
def yX0_arc : MethodName := ⟨RX0, "arc", "(LPebblegate;IIIILPebblegateLaw$Out;)I"⟩
def dkwX0_arc_1 : List UInt8 := [5, 172, 3, 172]
abbrev dktX0_arc_1 : List UInt8 := dkwX0_arc_1 ++ []
def dkwX0_arc_0 : List UInt8 := [25, 5, 42, 27, 28, 29, 21, 4, 182, 0, 21, 133, 181, 0, 13, 167, 0, 11, 58, 6, 4, 172, 58, 6]
abbrev dktX0_arc_0 : List UInt8 := dkwX0_arc_0 ++ dktX0_arc_1
theorem dksX0_arc_0 : cX0_arc.data.toList.drop 0 = dktX0_arc_0 := by decide +kernel
theorem dksX0_arc_1 : cX0_arc.data.toList.drop 24 = dktX0_arc_1 := dk_seg dksX0_arc_0 24 rfl rfl
theorem dX0_arc_0 : decode cX0_arc 0 = .ok (.aload 5, 2) := dk_25 5 (dk_at dksX0_arc_0 0 rfl rfl)
theorem dX0_arc_2 : decode cX0_arc 2 = .ok (.aload_n 0, 1) := dk_42 (dk_at dksX0_arc_0 2 rfl rfl)
theorem dX0_arc_3 : decode cX0_arc 3 = .ok (.iload_n 1, 1) := dk_27 (dk_at dksX0_arc_0 3 rfl rfl)
theorem dX0_arc_4 : decode cX0_arc 4 = .ok (.iload_n 2, 1) := dk_28 (dk_at dksX0_arc_0 4 rfl rfl)
theorem dX0_arc_5 : decode cX0_arc 5 = .ok (.iload_n 3, 1) := dk_29 (dk_at dksX0_arc_0 5 rfl rfl)
theorem dX0_arc_6 : decode cX0_arc 6 = .ok (.iload 4, 2) := dk_21 4 (dk_at dksX0_arc_0 6 rfl rfl)
theorem dX0_arc_8 : decode cX0_arc 8 = .ok (.invokevirtual 21, 3) := dk_182 0 21 (dk_at dksX0_arc_0 8 rfl rfl)
theorem dX0_arc_11 : decode cX0_arc 11 = .ok (.i2l, 1) := dk_133 (dk_at dksX0_arc_0 11 rfl rfl)
theorem dX0_arc_12 : decode cX0_arc 12 = .ok (.putfield 13, 3) := dk_181 0 13 (dk_at dksX0_arc_0 12 rfl rfl)
theorem dX0_arc_15 : decode cX0_arc 15 = .ok (.goto 11, 3) := dk_167 0 11 (dk_at dksX0_arc_0 15 rfl rfl)
theorem dX0_arc_18 : decode cX0_arc 18 = .ok (.astore 6, 2) := dk_58 6 (dk_at dksX0_arc_0 18 rfl rfl)
theorem dX0_arc_20 : decode cX0_arc 20 = .ok (.iconst 1, 1) := dk_4 (dk_at dksX0_arc_0 20 rfl rfl)
theorem dX0_arc_21 : decode cX0_arc 21 = .ok (.ireturn, 1) := dk_172 (dk_at dksX0_arc_0 21 rfl rfl)
theorem dX0_arc_22 : decode cX0_arc 22 = .ok (.astore 6, 2) := dk_58 6 (dk_at dksX0_arc_0 22 rfl rfl)
theorem dX0_arc_24 : decode cX0_arc 24 = .ok (.iconst 2, 1) := dk_5 (dk_at dksX0_arc_1 0 rfl rfl)
theorem dX0_arc_25 : decode cX0_arc 25 = .ok (.ireturn, 1) := dk_172 (dk_at dksX0_arc_1 1 rfl rfl)
theorem dX0_arc_26 : decode cX0_arc 26 = .ok (.iconst 0, 1) := dk_3 (dk_at dksX0_arc_1 2 rfl rfl)
theorem dX0_arc_27 : decode cX0_arc 27 = .ok (.ireturn, 1) := dk_172 (dk_at dksX0_arc_1 3 rfl rfl)
abbrev cX0_strike : ByteArray := method_4_code
def yX0_strike : MethodName := ⟨RX0, "strike", "(LPebblegate;ILPebblegateLaw$Out;)I"⟩
def dkwX0_strike_0 : List UInt8 := [44, 42, 27, 182, 0, 27, 133, 181, 0, 13, 167, 0, 6, 78, 4, 172, 3, 172]
abbrev dktX0_strike_0 : List UInt8 := dkwX0_strike_0 ++ []
theorem dksX0_strike_0 : cX0_strike.data.toList.drop 0 = dktX0_strike_0 := by decide +kernel
theorem dX0_strike_0 : decode cX0_strike 0 = .ok (.aload_n 2, 1) := dk_44 (dk_at dksX0_strike_0 0 rfl rfl)
theorem dX0_strike_1 : decode cX0_strike 1 = .ok (.aload_n 0, 1) := dk_42 (dk_at dksX0_strike_0 1 rfl rfl)
theorem dX0_strike_2 : decode cX0_strike 2 = .ok (.iload_n 1, 1) := dk_27 (dk_at dksX0_strike_0 2 rfl rfl)
theorem dX0_strike_3 : decode cX0_strike 3 = .ok (.invokevirtual 27, 3) := dk_182 0 27 (dk_at dksX0_strike_0 3 rfl rfl)
theorem dX0_strike_6 : decode cX0_strike 6 = .ok (.i2l, 1) := dk_133 (dk_at dksX0_strike_0 6 rfl rfl)
theorem dX0_strike_7 : decode cX0_strike 7 = .ok (.putfield 13, 3) := dk_181 0 13 (dk_at dksX0_strike_0 7 rfl rfl)
theorem dX0_strike_10 : decode cX0_strike 10 = .ok (.goto 6, 3) := dk_167 0 6 (dk_at dksX0_strike_0 10 rfl rfl)
theorem dX0_strike_13 : decode cX0_strike 13 = .ok (.astore_n 3, 1) := dk_78 (dk_at dksX0_strike_0 13 rfl rfl)
theorem dX0_strike_14 : decode cX0_strike 14 = .ok (.iconst 1, 1) := dk_4 (dk_at dksX0_strike_0 14 rfl rfl)
theorem dX0_strike_15 : decode cX0_strike 15 = .ok (.ireturn, 1) := dk_172 (dk_at dksX0_strike_0 15 rfl rfl)
theorem dX0_strike_16 : decode cX0_strike 16 = .ok (.iconst 0, 1) := dk_3 (dk_at dksX0_strike_0 16 rfl rfl)
theorem dX0_strike_17 : decode cX0_strike 17 = .ok (.ireturn, 1) := dk_172 (dk_at dksX0_strike_0 17 rfl rfl)
abbrev cX0_set : ByteArray := method_5_code
def yX0_set : MethodName := ⟨RX0, "set", "(LPebblegate;IILPebblegateLaw$Out;)I"⟩
def dkwX0_set_0 : List UInt8 := [45, 42, 27, 28, 182, 0, 30, 133, 181, 0, 13, 167, 0, 11, 58, 4, 4, 172, 58, 4, 5, 172, 3, 172]
abbrev dktX0_set_0 : List UInt8 := dkwX0_set_0 ++ []
theorem dksX0_set_0 : cX0_set.data.toList.drop 0 = dktX0_set_0 := by decide +kernel
theorem dX0_set_0 : decode cX0_set 0 = .ok (.aload_n 3, 1) := dk_45 (dk_at dksX0_set_0 0 rfl rfl)
theorem dX0_set_1 : decode cX0_set 1 = .ok (.aload_n 0, 1) := dk_42 (dk_at dksX0_set_0 1 rfl rfl)
theorem dX0_set_2 : decode cX0_set 2 = .ok (.iload_n 1, 1) := dk_27 (dk_at dksX0_set_0 2 rfl rfl)
theorem dX0_set_3 : decode cX0_set 3 = .ok (.iload_n 2, 1) := dk_28 (dk_at dksX0_set_0 3 rfl rfl)
theorem dX0_set_4 : decode cX0_set 4 = .ok (.invokevirtual 30, 3) := dk_182 0 30 (dk_at dksX0_set_0 4 rfl rfl)
theorem dX0_set_7 : decode cX0_set 7 = .ok (.i2l, 1) := dk_133 (dk_at dksX0_set_0 7 rfl rfl)
theorem dX0_set_8 : decode cX0_set 8 = .ok (.putfield 13, 3) := dk_181 0 13 (dk_at dksX0_set_0 8 rfl rfl)
theorem dX0_set_11 : decode cX0_set 11 = .ok (.goto 11, 3) := dk_167 0 11 (dk_at dksX0_set_0 11 rfl rfl)
theorem dX0_set_14 : decode cX0_set 14 = .ok (.astore 4, 2) := dk_58 4 (dk_at dksX0_set_0 14 rfl rfl)
theorem dX0_set_16 : decode cX0_set 16 = .ok (.iconst 1, 1) := dk_4 (dk_at dksX0_set_0 16 rfl rfl)
theorem dX0_set_17 : decode cX0_set 17 = .ok (.ireturn, 1) := dk_172 (dk_at dksX0_set_0 17 rfl rfl)
theorem dX0_set_18 : decode cX0_set 18 = .ok (.astore 4, 2) := dk_58 4 (dk_at dksX0_set_0 18 rfl rfl)
theorem dX0_set_20 : decode cX0_set 20 = .ok (.iconst 2, 1) := dk_5 (dk_at dksX0_set_0 20 rfl rfl)
theorem dX0_set_21 : decode cX0_set 21 = .ok (.ireturn, 1) := dk_172 (dk_at dksX0_set_0 21 rfl rfl)
theorem dX0_set_22 : decode cX0_set 22 = .ok (.iconst 0, 1) := dk_3 (dk_at dksX0_set_0 22 rfl rfl)
theorem dX0_set_23 : decode cX0_set 23 = .ok (.ireturn, 1) := dk_172 (dk_at dksX0_set_0 23 rfl rfl)
abbrev cX0_add : ByteArray := method_6_code
def yX0_add : MethodName := ⟨RX0, "add", "(LPebblegate;IILPebblegateLaw$Out;)I"⟩
def dkwX0_add_0 : List UInt8 := [45, 42, 27, 28, 182, 0, 34, 133, 181, 0, 13, 167, 0, 11, 58, 4, 4, 172, 58, 4, 5, 172, 3, 172]
abbrev dktX0_add_0 : List UInt8 := dkwX0_add_0 ++ []
theorem dksX0_add_0 : cX0_add.data.toList.drop 0 = dktX0_add_0 := by decide +kernel
theorem dX0_add_0 : decode cX0_add 0 = .ok (.aload_n 3, 1) := dk_45 (dk_at dksX0_add_0 0 rfl rfl)
theorem dX0_add_1 : decode cX0_add 1 = .ok (.aload_n 0, 1) := dk_42 (dk_at dksX0_add_0 1 rfl rfl)
theorem dX0_add_2 : decode cX0_add 2 = .ok (.iload_n 1, 1) := dk_27 (dk_at dksX0_add_0 2 rfl rfl)
theorem dX0_add_3 : decode cX0_add 3 = .ok (.iload_n 2, 1) := dk_28 (dk_at dksX0_add_0 3 rfl rfl)
theorem dX0_add_4 : decode cX0_add 4 = .ok (.invokevirtual 34, 3) := dk_182 0 34 (dk_at dksX0_add_0 4 rfl rfl)
theorem dX0_add_7 : decode cX0_add 7 = .ok (.i2l, 1) := dk_133 (dk_at dksX0_add_0 7 rfl rfl)
theorem dX0_add_8 : decode cX0_add 8 = .ok (.putfield 13, 3) := dk_181 0 13 (dk_at dksX0_add_0 8 rfl rfl)
theorem dX0_add_11 : decode cX0_add 11 = .ok (.goto 11, 3) := dk_167 0 11 (dk_at dksX0_add_0 11 rfl rfl)
theorem dX0_add_14 : decode cX0_add 14 = .ok (.astore 4, 2) := dk_58 4 (dk_at dksX0_add_0 14 rfl rfl)
theorem dX0_add_16 : decode cX0_add 16 = .ok (.iconst 1, 1) := dk_4 (dk_at dksX0_add_0 16 rfl rfl)
theorem dX0_add_17 : decode cX0_add 17 = .ok (.ireturn, 1) := dk_172 (dk_at dksX0_add_0 17 rfl rfl)
theorem dX0_add_18 : decode cX0_add 18 = .ok (.astore 4, 2) := dk_58 4 (dk_at dksX0_add_0 18 rfl rfl)
theorem dX0_add_20 : decode cX0_add 20 = .ok (.iconst 2, 1) := dk_5 (dk_at dksX0_add_0 20 rfl rfl)
theorem dX0_add_21 : decode cX0_add 21 = .ok (.ireturn, 1) := dk_172 (dk_at dksX0_add_0 21 rfl rfl)
theorem dX0_add_22 : decode cX0_add 22 = .ok (.iconst 0, 1) := dk_3 (dk_at dksX0_add_0 22 rfl rfl)
theorem dX0_add_23 : decode cX0_add 23 = .ok (.ireturn, 1) := dk_172 (dk_at dksX0_add_0 23 rfl rfl)
abbrev cX0_go : ByteArray := method_7_code
def yX0_go : MethodName := ⟨RX0, "go", "(LPebblegate;ILPebblegateLaw$Out;)I"⟩
def dkwX0_go_0 : List UInt8 := [44, 42, 27, 182, 0, 37, 133, 181, 0, 13, 167, 0, 6, 78, 4, 172, 3, 172]
abbrev dktX0_go_0 : List UInt8 := dkwX0_go_0 ++ []
theorem dksX0_go_0 : cX0_go.data.toList.drop 0 = dktX0_go_0 := by decide +kernel
theorem dX0_go_0 : decode cX0_go 0 = .ok (.aload_n 2, 1) := dk_44 (dk_at dksX0_go_0 0 rfl rfl)
theorem dX0_go_1 : decode cX0_go 1 = .ok (.aload_n 0, 1) := dk_42 (dk_at dksX0_go_0 1 rfl rfl)
theorem dX0_go_2 : decode cX0_go 2 = .ok (.iload_n 1, 1) := dk_27 (dk_at dksX0_go_0 2 rfl rfl)
theorem dX0_go_3 : decode cX0_go 3 = .ok (.invokevirtual 37, 3) := dk_182 0 37 (dk_at dksX0_go_0 3 rfl rfl)
theorem dX0_go_6 : decode cX0_go 6 = .ok (.i2l, 1) := dk_133 (dk_at dksX0_go_0 6 rfl rfl)
theorem dX0_go_7 : decode cX0_go 7 = .ok (.putfield 13, 3) := dk_181 0 13 (dk_at dksX0_go_0 7 rfl rfl)
theorem dX0_go_10 : decode cX0_go 10 = .ok (.goto 6, 3) := dk_167 0 6 (dk_at dksX0_go_0 10 rfl rfl)
theorem dX0_go_13 : decode cX0_go 13 = .ok (.astore_n 3, 1) := dk_78 (dk_at dksX0_go_0 13 rfl rfl)
theorem dX0_go_14 : decode cX0_go 14 = .ok (.iconst 1, 1) := dk_4 (dk_at dksX0_go_0 14 rfl rfl)
theorem dX0_go_15 : decode cX0_go 15 = .ok (.ireturn, 1) := dk_172 (dk_at dksX0_go_0 15 rfl rfl)
theorem dX0_go_16 : decode cX0_go 16 = .ok (.iconst 0, 1) := dk_3 (dk_at dksX0_go_0 16 rfl rfl)
theorem dX0_go_17 : decode cX0_go 17 = .ok (.ireturn, 1) := dk_172 (dk_at dksX0_go_0 17 rfl rfl)
abbrev cX0_back : ByteArray := method_8_code
def yX0_back : MethodName := ⟨RX0, "back", "(LPebblegate;ILPebblegateLaw$Out;)I"⟩
def dkwX0_back_0 : List UInt8 := [44, 42, 27, 182, 0, 40, 133, 181, 0, 13, 167, 0, 6, 78, 4, 172, 3, 172]
abbrev dktX0_back_0 : List UInt8 := dkwX0_back_0 ++ []
theorem dksX0_back_0 : cX0_back.data.toList.drop 0 = dktX0_back_0 := by decide +kernel
theorem dX0_back_0 : decode cX0_back 0 = .ok (.aload_n 2, 1) := dk_44 (dk_at dksX0_back_0 0 rfl rfl)
theorem dX0_back_1 : decode cX0_back 1 = .ok (.aload_n 0, 1) := dk_42 (dk_at dksX0_back_0 1 rfl rfl)
theorem dX0_back_2 : decode cX0_back 2 = .ok (.iload_n 1, 1) := dk_27 (dk_at dksX0_back_0 2 rfl rfl)
theorem dX0_back_3 : decode cX0_back 3 = .ok (.invokevirtual 40, 3) := dk_182 0 40 (dk_at dksX0_back_0 3 rfl rfl)
theorem dX0_back_6 : decode cX0_back 6 = .ok (.i2l, 1) := dk_133 (dk_at dksX0_back_0 6 rfl rfl)
theorem dX0_back_7 : decode cX0_back 7 = .ok (.putfield 13, 3) := dk_181 0 13 (dk_at dksX0_back_0 7 rfl rfl)
theorem dX0_back_10 : decode cX0_back 10 = .ok (.goto 6, 3) := dk_167 0 6 (dk_at dksX0_back_0 10 rfl rfl)
theorem dX0_back_13 : decode cX0_back 13 = .ok (.astore_n 3, 1) := dk_78 (dk_at dksX0_back_0 13 rfl rfl)
theorem dX0_back_14 : decode cX0_back 14 = .ok (.iconst 1, 1) := dk_4 (dk_at dksX0_back_0 14 rfl rfl)
theorem dX0_back_15 : decode cX0_back 15 = .ok (.ireturn, 1) := dk_172 (dk_at dksX0_back_0 15 rfl rfl)
theorem dX0_back_16 : decode cX0_back 16 = .ok (.iconst 0, 1) := dk_3 (dk_at dksX0_back_0 16 rfl rfl)
theorem dX0_back_17 : decode cX0_back 17 = .ok (.ireturn, 1) := dk_172 (dk_at dksX0_back_0 17 rfl rfl)
abbrev cX0_run : ByteArray := method_9_code
def yX0_run : MethodName := ⟨RX0, "run", "(LPebblegate;ILPebblegateLaw$Out;)I"⟩
def dkwX0_run_0 : List UInt8 := [44, 42, 27, 182, 0, 43, 133, 181, 0, 13, 167, 0, 6, 78, 4, 172, 3, 172]
abbrev dktX0_run_0 : List UInt8 := dkwX0_run_0 ++ []
theorem dksX0_run_0 : cX0_run.data.toList.drop 0 = dktX0_run_0 := by decide +kernel
theorem dX0_run_0 : decode cX0_run 0 = .ok (.aload_n 2, 1) := dk_44 (dk_at dksX0_run_0 0 rfl rfl)
theorem dX0_run_1 : decode cX0_run 1 = .ok (.aload_n 0, 1) := dk_42 (dk_at dksX0_run_0 1 rfl rfl)
theorem dX0_run_2 : decode cX0_run 2 = .ok (.iload_n 1, 1) := dk_27 (dk_at dksX0_run_0 2 rfl rfl)
theorem dX0_run_3 : decode cX0_run 3 = .ok (.invokevirtual 43, 3) := dk_182 0 43 (dk_at dksX0_run_0 3 rfl rfl)
theorem dX0_run_6 : decode cX0_run 6 = .ok (.i2l, 1) := dk_133 (dk_at dksX0_run_0 6 rfl rfl)
theorem dX0_run_7 : decode cX0_run 7 = .ok (.putfield 13, 3) := dk_181 0 13 (dk_at dksX0_run_0 7 rfl rfl)
theorem dX0_run_10 : decode cX0_run 10 = .ok (.goto 6, 3) := dk_167 0 6 (dk_at dksX0_run_0 10 rfl rfl)
theorem dX0_run_13 : decode cX0_run 13 = .ok (.astore_n 3, 1) := dk_78 (dk_at dksX0_run_0 13 rfl rfl)
theorem dX0_run_14 : decode cX0_run 14 = .ok (.iconst 1, 1) := dk_4 (dk_at dksX0_run_0 14 rfl rfl)
theorem dX0_run_15 : decode cX0_run 15 = .ok (.ireturn, 1) := dk_172 (dk_at dksX0_run_0 15 rfl rfl)
theorem dX0_run_16 : decode cX0_run 16 = .ok (.iconst 0, 1) := dk_3 (dk_at dksX0_run_0 16 rfl rfl)
theorem dX0_run_17 : decode cX0_run 17 = .ok (.ireturn, 1) := dk_172 (dk_at dksX0_run_0 17 rfl rfl)
abbrev cX0_keep : ByteArray := method_10_code
def yX0_keep : MethodName := ⟨RX0, "keep", "(LPebblegate;ILPebblegateLaw$Out;)I"⟩
def dkwX0_keep_0 : List UInt8 := [44, 42, 27, 182, 0, 46, 133, 181, 0, 13, 167, 0, 6, 78, 4, 172, 3, 172]
abbrev dktX0_keep_0 : List UInt8 := dkwX0_keep_0 ++ []
theorem dksX0_keep_0 : cX0_keep.data.toList.drop 0 = dktX0_keep_0 := by decide +kernel
theorem dX0_keep_0 : decode cX0_keep 0 = .ok (.aload_n 2, 1) := dk_44 (dk_at dksX0_keep_0 0 rfl rfl)
theorem dX0_keep_1 : decode cX0_keep 1 = .ok (.aload_n 0, 1) := dk_42 (dk_at dksX0_keep_0 1 rfl rfl)
theorem dX0_keep_2 : decode cX0_keep 2 = .ok (.iload_n 1, 1) := dk_27 (dk_at dksX0_keep_0 2 rfl rfl)
theorem dX0_keep_3 : decode cX0_keep 3 = .ok (.invokevirtual 46, 3) := dk_182 0 46 (dk_at dksX0_keep_0 3 rfl rfl)
theorem dX0_keep_6 : decode cX0_keep 6 = .ok (.i2l, 1) := dk_133 (dk_at dksX0_keep_0 6 rfl rfl)
theorem dX0_keep_7 : decode cX0_keep 7 = .ok (.putfield 13, 3) := dk_181 0 13 (dk_at dksX0_keep_0 7 rfl rfl)
theorem dX0_keep_10 : decode cX0_keep 10 = .ok (.goto 6, 3) := dk_167 0 6 (dk_at dksX0_keep_0 10 rfl rfl)
theorem dX0_keep_13 : decode cX0_keep 13 = .ok (.astore_n 3, 1) := dk_78 (dk_at dksX0_keep_0 13 rfl rfl)
theorem dX0_keep_14 : decode cX0_keep 14 = .ok (.iconst 1, 1) := dk_4 (dk_at dksX0_keep_0 14 rfl rfl)
theorem dX0_keep_15 : decode cX0_keep 15 = .ok (.ireturn, 1) := dk_172 (dk_at dksX0_keep_0 15 rfl rfl)
theorem dX0_keep_16 : decode cX0_keep 16 = .ok (.iconst 0, 1) := dk_3 (dk_at dksX0_keep_0 16 rfl rfl)
theorem dX0_keep_17 : decode cX0_keep 17 = .ok (.ireturn, 1) := dk_172 (dk_at dksX0_keep_0 17 rfl rfl)
abbrev cX0_recall : ByteArray := method_11_code
def yX0_recall : MethodName := ⟨RX0, "recall", "(LPebblegate;ILPebblegateLaw$Out;)I"⟩
def dkwX0_recall_0 : List UInt8 := [44, 42, 27, 182, 0, 49, 133, 181, 0, 13, 167, 0, 6, 78, 4, 172, 3, 172]
abbrev dktX0_recall_0 : List UInt8 := dkwX0_recall_0 ++ []
theorem dksX0_recall_0 : cX0_recall.data.toList.drop 0 = dktX0_recall_0 := by decide +kernel
theorem dX0_recall_0 : decode cX0_recall 0 = .ok (.aload_n 2, 1) := dk_44 (dk_at dksX0_recall_0 0 rfl rfl)
theorem dX0_recall_1 : decode cX0_recall 1 = .ok (.aload_n 0, 1) := dk_42 (dk_at dksX0_recall_0 1 rfl rfl)
theorem dX0_recall_2 : decode cX0_recall 2 = .ok (.iload_n 1, 1) := dk_27 (dk_at dksX0_recall_0 2 rfl rfl)
theorem dX0_recall_3 : decode cX0_recall 3 = .ok (.invokevirtual 49, 3) := dk_182 0 49 (dk_at dksX0_recall_0 3 rfl rfl)
theorem dX0_recall_6 : decode cX0_recall 6 = .ok (.i2l, 1) := dk_133 (dk_at dksX0_recall_0 6 rfl rfl)
theorem dX0_recall_7 : decode cX0_recall 7 = .ok (.putfield 13, 3) := dk_181 0 13 (dk_at dksX0_recall_0 7 rfl rfl)
theorem dX0_recall_10 : decode cX0_recall 10 = .ok (.goto 6, 3) := dk_167 0 6 (dk_at dksX0_recall_0 10 rfl rfl)
theorem dX0_recall_13 : decode cX0_recall 13 = .ok (.astore_n 3, 1) := dk_78 (dk_at dksX0_recall_0 13 rfl rfl)
theorem dX0_recall_14 : decode cX0_recall 14 = .ok (.iconst 1, 1) := dk_4 (dk_at dksX0_recall_0 14 rfl rfl)
theorem dX0_recall_15 : decode cX0_recall 15 = .ok (.ireturn, 1) := dk_172 (dk_at dksX0_recall_0 15 rfl rfl)
theorem dX0_recall_16 : decode cX0_recall 16 = .ok (.iconst 0, 1) := dk_3 (dk_at dksX0_recall_0 16 rfl rfl)
theorem dX0_recall_17 : decode cX0_recall 17 = .ok (.ireturn, 1) := dk_172 (dk_at dksX0_recall_0 17 rfl rfl)
abbrev cX0_follow : ByteArray := method_12_code
def yX0_follow : MethodName := ⟨RX0, "follow", "(LPebblegate;ILPebblegateLaw$Out;)I"⟩
def dkwX0_follow_0 : List UInt8 := [44, 42, 27, 182, 0, 52, 133, 181, 0, 13, 167, 0, 6, 78, 4, 172, 3, 172]
abbrev dktX0_follow_0 : List UInt8 := dkwX0_follow_0 ++ []
theorem dksX0_follow_0 : cX0_follow.data.toList.drop 0 = dktX0_follow_0 := by decide +kernel
theorem dX0_follow_0 : decode cX0_follow 0 = .ok (.aload_n 2, 1) := dk_44 (dk_at dksX0_follow_0 0 rfl rfl)
theorem dX0_follow_1 : decode cX0_follow 1 = .ok (.aload_n 0, 1) := dk_42 (dk_at dksX0_follow_0 1 rfl rfl)
theorem dX0_follow_2 : decode cX0_follow 2 = .ok (.iload_n 1, 1) := dk_27 (dk_at dksX0_follow_0 2 rfl rfl)
theorem dX0_follow_3 : decode cX0_follow 3 = .ok (.invokevirtual 52, 3) := dk_182 0 52 (dk_at dksX0_follow_0 3 rfl rfl)
theorem dX0_follow_6 : decode cX0_follow 6 = .ok (.i2l, 1) := dk_133 (dk_at dksX0_follow_0 6 rfl rfl)
theorem dX0_follow_7 : decode cX0_follow 7 = .ok (.putfield 13, 3) := dk_181 0 13 (dk_at dksX0_follow_0 7 rfl rfl)
theorem dX0_follow_10 : decode cX0_follow 10 = .ok (.goto 6, 3) := dk_167 0 6 (dk_at dksX0_follow_0 10 rfl rfl)
theorem dX0_follow_13 : decode cX0_follow 13 = .ok (.astore_n 3, 1) := dk_78 (dk_at dksX0_follow_0 13 rfl rfl)
theorem dX0_follow_14 : decode cX0_follow 14 = .ok (.iconst 1, 1) := dk_4 (dk_at dksX0_follow_0 14 rfl rfl)
theorem dX0_follow_15 : decode cX0_follow 15 = .ok (.ireturn, 1) := dk_172 (dk_at dksX0_follow_0 15 rfl rfl)
theorem dX0_follow_16 : decode cX0_follow 16 = .ok (.iconst 0, 1) := dk_3 (dk_at dksX0_follow_0 16 rfl rfl)
theorem dX0_follow_17 : decode cX0_follow 17 = .ok (.ireturn, 1) := dk_172 (dk_at dksX0_follow_0 17 rfl rfl)
abbrev cX0_ofArc : ByteArray := method_13_code
def yX0_ofArc : MethodName := ⟨RX0, "ofArc", "(LPebblegate;IIILPebblegateLaw$Out;)I"⟩
def dkwX0_ofArc_1 : List UInt8 := [3, 172]
abbrev dktX0_ofArc_1 : List UInt8 := dkwX0_ofArc_1 ++ []
def dkwX0_ofArc_0 : List UInt8 := [25, 4, 42, 27, 28, 29, 182, 0, 55, 133, 181, 0, 13, 167, 0, 11, 58, 5, 4, 172, 58, 5, 5, 172]
abbrev dktX0_ofArc_0 : List UInt8 := dkwX0_ofArc_0 ++ dktX0_ofArc_1
theorem dksX0_ofArc_0 : cX0_ofArc.data.toList.drop 0 = dktX0_ofArc_0 := by decide +kernel
theorem dksX0_ofArc_1 : cX0_ofArc.data.toList.drop 24 = dktX0_ofArc_1 := dk_seg dksX0_ofArc_0 24 rfl rfl
theorem dX0_ofArc_0 : decode cX0_ofArc 0 = .ok (.aload 4, 2) := dk_25 4 (dk_at dksX0_ofArc_0 0 rfl rfl)
theorem dX0_ofArc_2 : decode cX0_ofArc 2 = .ok (.aload_n 0, 1) := dk_42 (dk_at dksX0_ofArc_0 2 rfl rfl)
theorem dX0_ofArc_3 : decode cX0_ofArc 3 = .ok (.iload_n 1, 1) := dk_27 (dk_at dksX0_ofArc_0 3 rfl rfl)
theorem dX0_ofArc_4 : decode cX0_ofArc 4 = .ok (.iload_n 2, 1) := dk_28 (dk_at dksX0_ofArc_0 4 rfl rfl)
theorem dX0_ofArc_5 : decode cX0_ofArc 5 = .ok (.iload_n 3, 1) := dk_29 (dk_at dksX0_ofArc_0 5 rfl rfl)
theorem dX0_ofArc_6 : decode cX0_ofArc 6 = .ok (.invokevirtual 55, 3) := dk_182 0 55 (dk_at dksX0_ofArc_0 6 rfl rfl)
theorem dX0_ofArc_9 : decode cX0_ofArc 9 = .ok (.i2l, 1) := dk_133 (dk_at dksX0_ofArc_0 9 rfl rfl)
theorem dX0_ofArc_10 : decode cX0_ofArc 10 = .ok (.putfield 13, 3) := dk_181 0 13 (dk_at dksX0_ofArc_0 10 rfl rfl)
theorem dX0_ofArc_13 : decode cX0_ofArc 13 = .ok (.goto 11, 3) := dk_167 0 11 (dk_at dksX0_ofArc_0 13 rfl rfl)
theorem dX0_ofArc_16 : decode cX0_ofArc 16 = .ok (.astore 5, 2) := dk_58 5 (dk_at dksX0_ofArc_0 16 rfl rfl)
theorem dX0_ofArc_18 : decode cX0_ofArc 18 = .ok (.iconst 1, 1) := dk_4 (dk_at dksX0_ofArc_0 18 rfl rfl)
theorem dX0_ofArc_19 : decode cX0_ofArc 19 = .ok (.ireturn, 1) := dk_172 (dk_at dksX0_ofArc_0 19 rfl rfl)
theorem dX0_ofArc_20 : decode cX0_ofArc 20 = .ok (.astore 5, 2) := dk_58 5 (dk_at dksX0_ofArc_0 20 rfl rfl)
theorem dX0_ofArc_22 : decode cX0_ofArc 22 = .ok (.iconst 2, 1) := dk_5 (dk_at dksX0_ofArc_0 22 rfl rfl)
theorem dX0_ofArc_23 : decode cX0_ofArc 23 = .ok (.ireturn, 1) := dk_172 (dk_at dksX0_ofArc_0 23 rfl rfl)
theorem dX0_ofArc_24 : decode cX0_ofArc 24 = .ok (.iconst 0, 1) := dk_3 (dk_at dksX0_ofArc_1 0 rfl rfl)
theorem dX0_ofArc_25 : decode cX0_ofArc 25 = .ok (.ireturn, 1) := dk_172 (dk_at dksX0_ofArc_1 1 rfl rfl)
abbrev cX0_marks : ByteArray := method_14_code
def yX0_marks : MethodName := ⟨RX0, "marks", "(LPebblegate;ILPebblegateLaw$Out;)I"⟩
def dkwX0_marks_0 : List UInt8 := [44, 42, 27, 182, 0, 59, 133, 181, 0, 13, 167, 0, 6, 78, 4, 172, 3, 172]
abbrev dktX0_marks_0 : List UInt8 := dkwX0_marks_0 ++ []
theorem dksX0_marks_0 : cX0_marks.data.toList.drop 0 = dktX0_marks_0 := by decide +kernel
theorem dX0_marks_0 : decode cX0_marks 0 = .ok (.aload_n 2, 1) := dk_44 (dk_at dksX0_marks_0 0 rfl rfl)
theorem dX0_marks_1 : decode cX0_marks 1 = .ok (.aload_n 0, 1) := dk_42 (dk_at dksX0_marks_0 1 rfl rfl)
theorem dX0_marks_2 : decode cX0_marks 2 = .ok (.iload_n 1, 1) := dk_27 (dk_at dksX0_marks_0 2 rfl rfl)
theorem dX0_marks_3 : decode cX0_marks 3 = .ok (.invokevirtual 59, 3) := dk_182 0 59 (dk_at dksX0_marks_0 3 rfl rfl)
theorem dX0_marks_6 : decode cX0_marks 6 = .ok (.i2l, 1) := dk_133 (dk_at dksX0_marks_0 6 rfl rfl)
theorem dX0_marks_7 : decode cX0_marks 7 = .ok (.putfield 13, 3) := dk_181 0 13 (dk_at dksX0_marks_0 7 rfl rfl)
theorem dX0_marks_10 : decode cX0_marks 10 = .ok (.goto 6, 3) := dk_167 0 6 (dk_at dksX0_marks_0 10 rfl rfl)
theorem dX0_marks_13 : decode cX0_marks 13 = .ok (.astore_n 3, 1) := dk_78 (dk_at dksX0_marks_0 13 rfl rfl)
theorem dX0_marks_14 : decode cX0_marks 14 = .ok (.iconst 1, 1) := dk_4 (dk_at dksX0_marks_0 14 rfl rfl)
theorem dX0_marks_15 : decode cX0_marks 15 = .ok (.ireturn, 1) := dk_172 (dk_at dksX0_marks_0 15 rfl rfl)
theorem dX0_marks_16 : decode cX0_marks 16 = .ok (.iconst 0, 1) := dk_3 (dk_at dksX0_marks_0 16 rfl rfl)
theorem dX0_marks_17 : decode cX0_marks 17 = .ok (.ireturn, 1) := dk_172 (dk_at dksX0_marks_0 17 rfl rfl)
abbrev cX0_keptText : ByteArray := method_15_code
def yX0_keptText : MethodName := ⟨RX0, "keptText", "(LPebblegate;ILPebblegateLaw$Out;)I"⟩
def dkwX0_keptText_0 : List UInt8 := [44, 42, 27, 182, 0, 62, 181, 0, 66, 167, 0, 6, 78, 4, 172, 3, 172]
abbrev dktX0_keptText_0 : List UInt8 := dkwX0_keptText_0 ++ []
theorem dksX0_keptText_0 : cX0_keptText.data.toList.drop 0 = dktX0_keptText_0 := by decide +kernel
theorem dX0_keptText_0 : decode cX0_keptText 0 = .ok (.aload_n 2, 1) := dk_44 (dk_at dksX0_keptText_0 0 rfl rfl)
theorem dX0_keptText_1 : decode cX0_keptText 1 = .ok (.aload_n 0, 1) := dk_42 (dk_at dksX0_keptText_0 1 rfl rfl)
theorem dX0_keptText_2 : decode cX0_keptText 2 = .ok (.iload_n 1, 1) := dk_27 (dk_at dksX0_keptText_0 2 rfl rfl)
theorem dX0_keptText_3 : decode cX0_keptText 3 = .ok (.invokevirtual 62, 3) := dk_182 0 62 (dk_at dksX0_keptText_0 3 rfl rfl)
theorem dX0_keptText_6 : decode cX0_keptText 6 = .ok (.putfield 66, 3) := dk_181 0 66 (dk_at dksX0_keptText_0 6 rfl rfl)
theorem dX0_keptText_9 : decode cX0_keptText 9 = .ok (.goto 6, 3) := dk_167 0 6 (dk_at dksX0_keptText_0 9 rfl rfl)
theorem dX0_keptText_12 : decode cX0_keptText 12 = .ok (.astore_n 3, 1) := dk_78 (dk_at dksX0_keptText_0 12 rfl rfl)
theorem dX0_keptText_13 : decode cX0_keptText 13 = .ok (.iconst 1, 1) := dk_4 (dk_at dksX0_keptText_0 13 rfl rfl)
theorem dX0_keptText_14 : decode cX0_keptText 14 = .ok (.ireturn, 1) := dk_172 (dk_at dksX0_keptText_0 14 rfl rfl)
theorem dX0_keptText_15 : decode cX0_keptText 15 = .ok (.iconst 0, 1) := dk_3 (dk_at dksX0_keptText_0 15 rfl rfl)
theorem dX0_keptText_16 : decode cX0_keptText 16 = .ok (.ireturn, 1) := dk_172 (dk_at dksX0_keptText_0 16 rfl rfl)
abbrev cX0_can : ByteArray := method_16_code
def yX0_can : MethodName := ⟨RX0, "can", "(LPebblegate;IZLPebblegateLaw$Out;)I"⟩
def dkwX0_can_1 : List UInt8 := [172, 3, 172]
abbrev dktX0_can_1 : List UInt8 := dkwX0_can_1 ++ []
def dkwX0_can_0 : List UInt8 := [45, 42, 27, 28, 182, 0, 70, 153, 0, 7, 10, 167, 0, 4, 9, 181, 0, 13, 167, 0, 7, 58, 4, 4]
abbrev dktX0_can_0 : List UInt8 := dkwX0_can_0 ++ dktX0_can_1
theorem dksX0_can_0 : cX0_can.data.toList.drop 0 = dktX0_can_0 := by decide +kernel
theorem dksX0_can_1 : cX0_can.data.toList.drop 24 = dktX0_can_1 := dk_seg dksX0_can_0 24 rfl rfl
theorem dX0_can_0 : decode cX0_can 0 = .ok (.aload_n 3, 1) := dk_45 (dk_at dksX0_can_0 0 rfl rfl)
theorem dX0_can_1 : decode cX0_can 1 = .ok (.aload_n 0, 1) := dk_42 (dk_at dksX0_can_0 1 rfl rfl)
theorem dX0_can_2 : decode cX0_can 2 = .ok (.iload_n 1, 1) := dk_27 (dk_at dksX0_can_0 2 rfl rfl)
theorem dX0_can_3 : decode cX0_can 3 = .ok (.iload_n 2, 1) := dk_28 (dk_at dksX0_can_0 3 rfl rfl)
theorem dX0_can_4 : decode cX0_can 4 = .ok (.invokevirtual 70, 3) := dk_182 0 70 (dk_at dksX0_can_0 4 rfl rfl)
theorem dX0_can_7 : decode cX0_can 7 = .ok (.ifCond .eq 7, 3) := dk_153 0 7 (dk_at dksX0_can_0 7 rfl rfl)
theorem dX0_can_10 : decode cX0_can 10 = .ok (.lconst 1, 1) := dk_10 (dk_at dksX0_can_0 10 rfl rfl)
theorem dX0_can_11 : decode cX0_can 11 = .ok (.goto 4, 3) := dk_167 0 4 (dk_at dksX0_can_0 11 rfl rfl)
theorem dX0_can_14 : decode cX0_can 14 = .ok (.lconst 0, 1) := dk_9 (dk_at dksX0_can_0 14 rfl rfl)
theorem dX0_can_15 : decode cX0_can 15 = .ok (.putfield 13, 3) := dk_181 0 13 (dk_at dksX0_can_0 15 rfl rfl)
theorem dX0_can_18 : decode cX0_can 18 = .ok (.goto 7, 3) := dk_167 0 7 (dk_at dksX0_can_0 18 rfl rfl)
theorem dX0_can_21 : decode cX0_can 21 = .ok (.astore 4, 2) := dk_58 4 (dk_at dksX0_can_0 21 rfl rfl)
theorem dX0_can_23 : decode cX0_can 23 = .ok (.iconst 1, 1) := dk_4 (dk_at dksX0_can_0 23 rfl rfl)
theorem dX0_can_24 : decode cX0_can 24 = .ok (.ireturn, 1) := dk_172 (dk_at dksX0_can_1 0 rfl rfl)
theorem dX0_can_25 : decode cX0_can 25 = .ok (.iconst 0, 1) := dk_3 (dk_at dksX0_can_1 1 rfl rfl)
theorem dX0_can_26 : decode cX0_can 26 = .ok (.ireturn, 1) := dk_172 (dk_at dksX0_can_1 2 rfl rfl)
abbrev cX0_touches : ByteArray := method_17_code
def yX0_touches : MethodName := ⟨RX0, "touches", "(LPebblegate;ILPebblegateLaw$Out;)I"⟩
def dkwX0_touches_0 : List UInt8 := [44, 42, 27, 182, 0, 74, 133, 181, 0, 13, 167, 0, 6, 78, 4, 172, 3, 172]
abbrev dktX0_touches_0 : List UInt8 := dkwX0_touches_0 ++ []
theorem dksX0_touches_0 : cX0_touches.data.toList.drop 0 = dktX0_touches_0 := by decide +kernel
theorem dX0_touches_0 : decode cX0_touches 0 = .ok (.aload_n 2, 1) := dk_44 (dk_at dksX0_touches_0 0 rfl rfl)
theorem dX0_touches_1 : decode cX0_touches 1 = .ok (.aload_n 0, 1) := dk_42 (dk_at dksX0_touches_0 1 rfl rfl)
theorem dX0_touches_2 : decode cX0_touches 2 = .ok (.iload_n 1, 1) := dk_27 (dk_at dksX0_touches_0 2 rfl rfl)
theorem dX0_touches_3 : decode cX0_touches 3 = .ok (.invokevirtual 74, 3) := dk_182 0 74 (dk_at dksX0_touches_0 3 rfl rfl)
theorem dX0_touches_6 : decode cX0_touches 6 = .ok (.i2l, 1) := dk_133 (dk_at dksX0_touches_0 6 rfl rfl)
theorem dX0_touches_7 : decode cX0_touches 7 = .ok (.putfield 13, 3) := dk_181 0 13 (dk_at dksX0_touches_0 7 rfl rfl)
theorem dX0_touches_10 : decode cX0_touches 10 = .ok (.goto 6, 3) := dk_167 0 6 (dk_at dksX0_touches_0 10 rfl rfl)
theorem dX0_touches_13 : decode cX0_touches 13 = .ok (.astore_n 3, 1) := dk_78 (dk_at dksX0_touches_0 13 rfl rfl)
theorem dX0_touches_14 : decode cX0_touches 14 = .ok (.iconst 1, 1) := dk_4 (dk_at dksX0_touches_0 14 rfl rfl)
theorem dX0_touches_15 : decode cX0_touches 15 = .ok (.ireturn, 1) := dk_172 (dk_at dksX0_touches_0 15 rfl rfl)
theorem dX0_touches_16 : decode cX0_touches 16 = .ok (.iconst 0, 1) := dk_3 (dk_at dksX0_touches_0 16 rfl rfl)
theorem dX0_touches_17 : decode cX0_touches 17 = .ok (.ireturn, 1) := dk_172 (dk_at dksX0_touches_0 17 rfl rfl)
abbrev cX0_areApart : ByteArray := method_18_code
def yX0_areApart : MethodName := ⟨RX0, "areApart", "(LPebblegate;IILPebblegateLaw$Out;)I"⟩
def dkwX0_areApart_1 : List UInt8 := [172, 3, 172]
abbrev dktX0_areApart_1 : List UInt8 := dkwX0_areApart_1 ++ []
def dkwX0_areApart_0 : List UInt8 := [45, 42, 27, 28, 182, 0, 77, 153, 0, 7, 10, 167, 0, 4, 9, 181, 0, 13, 167, 0, 7, 58, 4, 4]
abbrev dktX0_areApart_0 : List UInt8 := dkwX0_areApart_0 ++ dktX0_areApart_1
theorem dksX0_areApart_0 : cX0_areApart.data.toList.drop 0 = dktX0_areApart_0 := by decide +kernel
theorem dksX0_areApart_1 : cX0_areApart.data.toList.drop 24 = dktX0_areApart_1 := dk_seg dksX0_areApart_0 24 rfl rfl
theorem dX0_areApart_0 : decode cX0_areApart 0 = .ok (.aload_n 3, 1) := dk_45 (dk_at dksX0_areApart_0 0 rfl rfl)
theorem dX0_areApart_1 : decode cX0_areApart 1 = .ok (.aload_n 0, 1) := dk_42 (dk_at dksX0_areApart_0 1 rfl rfl)
theorem dX0_areApart_2 : decode cX0_areApart 2 = .ok (.iload_n 1, 1) := dk_27 (dk_at dksX0_areApart_0 2 rfl rfl)
theorem dX0_areApart_3 : decode cX0_areApart 3 = .ok (.iload_n 2, 1) := dk_28 (dk_at dksX0_areApart_0 3 rfl rfl)
theorem dX0_areApart_4 : decode cX0_areApart 4 = .ok (.invokevirtual 77, 3) := dk_182 0 77 (dk_at dksX0_areApart_0 4 rfl rfl)
theorem dX0_areApart_7 : decode cX0_areApart 7 = .ok (.ifCond .eq 7, 3) := dk_153 0 7 (dk_at dksX0_areApart_0 7 rfl rfl)
theorem dX0_areApart_10 : decode cX0_areApart 10 = .ok (.lconst 1, 1) := dk_10 (dk_at dksX0_areApart_0 10 rfl rfl)
theorem dX0_areApart_11 : decode cX0_areApart 11 = .ok (.goto 4, 3) := dk_167 0 4 (dk_at dksX0_areApart_0 11 rfl rfl)
theorem dX0_areApart_14 : decode cX0_areApart 14 = .ok (.lconst 0, 1) := dk_9 (dk_at dksX0_areApart_0 14 rfl rfl)
theorem dX0_areApart_15 : decode cX0_areApart 15 = .ok (.putfield 13, 3) := dk_181 0 13 (dk_at dksX0_areApart_0 15 rfl rfl)
theorem dX0_areApart_18 : decode cX0_areApart 18 = .ok (.goto 7, 3) := dk_167 0 7 (dk_at dksX0_areApart_0 18 rfl rfl)
theorem dX0_areApart_21 : decode cX0_areApart 21 = .ok (.astore 4, 2) := dk_58 4 (dk_at dksX0_areApart_0 21 rfl rfl)
theorem dX0_areApart_23 : decode cX0_areApart 23 = .ok (.iconst 1, 1) := dk_4 (dk_at dksX0_areApart_0 23 rfl rfl)
theorem dX0_areApart_24 : decode cX0_areApart 24 = .ok (.ireturn, 1) := dk_172 (dk_at dksX0_areApart_1 0 rfl rfl)
theorem dX0_areApart_25 : decode cX0_areApart 25 = .ok (.iconst 0, 1) := dk_3 (dk_at dksX0_areApart_1 1 rfl rfl)
theorem dX0_areApart_26 : decode cX0_areApart 26 = .ok (.ireturn, 1) := dk_172 (dk_at dksX0_areApart_1 2 rfl rfl)
abbrev cX0_reachedText : ByteArray := method_19_code
def yX0_reachedText : MethodName := ⟨RX0, "reachedText", "(LPebblegate;ILPebblegateLaw$Out;)I"⟩
def dkwX0_reachedText_0 : List UInt8 := [44, 42, 27, 182, 0, 81, 181, 0, 66, 167, 0, 6, 78, 4, 172, 3, 172]
abbrev dktX0_reachedText_0 : List UInt8 := dkwX0_reachedText_0 ++ []
theorem dksX0_reachedText_0 : cX0_reachedText.data.toList.drop 0 = dktX0_reachedText_0 := by decide +kernel
theorem dX0_reachedText_0 : decode cX0_reachedText 0 = .ok (.aload_n 2, 1) := dk_44 (dk_at dksX0_reachedText_0 0 rfl rfl)
theorem dX0_reachedText_1 : decode cX0_reachedText 1 = .ok (.aload_n 0, 1) := dk_42 (dk_at dksX0_reachedText_0 1 rfl rfl)
theorem dX0_reachedText_2 : decode cX0_reachedText 2 = .ok (.iload_n 1, 1) := dk_27 (dk_at dksX0_reachedText_0 2 rfl rfl)
theorem dX0_reachedText_3 : decode cX0_reachedText 3 = .ok (.invokevirtual 81, 3) := dk_182 0 81 (dk_at dksX0_reachedText_0 3 rfl rfl)
theorem dX0_reachedText_6 : decode cX0_reachedText 6 = .ok (.putfield 66, 3) := dk_181 0 66 (dk_at dksX0_reachedText_0 6 rfl rfl)
theorem dX0_reachedText_9 : decode cX0_reachedText 9 = .ok (.goto 6, 3) := dk_167 0 6 (dk_at dksX0_reachedText_0 9 rfl rfl)
theorem dX0_reachedText_12 : decode cX0_reachedText 12 = .ok (.astore_n 3, 1) := dk_78 (dk_at dksX0_reachedText_0 12 rfl rfl)
theorem dX0_reachedText_13 : decode cX0_reachedText 13 = .ok (.iconst 1, 1) := dk_4 (dk_at dksX0_reachedText_0 13 rfl rfl)
theorem dX0_reachedText_14 : decode cX0_reachedText 14 = .ok (.ireturn, 1) := dk_172 (dk_at dksX0_reachedText_0 14 rfl rfl)
theorem dX0_reachedText_15 : decode cX0_reachedText 15 = .ok (.iconst 0, 1) := dk_3 (dk_at dksX0_reachedText_0 15 rfl rfl)
theorem dX0_reachedText_16 : decode cX0_reachedText 16 = .ok (.ireturn, 1) := dk_172 (dk_at dksX0_reachedText_0 16 rfl rfl)
abbrev cX0_number : ByteArray := method_20_code
def yX0_number : MethodName := ⟨RX0, "number", "(LPebblegate;ILPebblegateLaw$Out;)I"⟩
def dkwX0_number_0 : List UInt8 := [44, 42, 27, 182, 0, 84, 133, 181, 0, 13, 167, 0, 6, 78, 4, 172, 3, 172]
abbrev dktX0_number_0 : List UInt8 := dkwX0_number_0 ++ []
theorem dksX0_number_0 : cX0_number.data.toList.drop 0 = dktX0_number_0 := by decide +kernel
theorem dX0_number_0 : decode cX0_number 0 = .ok (.aload_n 2, 1) := dk_44 (dk_at dksX0_number_0 0 rfl rfl)
theorem dX0_number_1 : decode cX0_number 1 = .ok (.aload_n 0, 1) := dk_42 (dk_at dksX0_number_0 1 rfl rfl)
theorem dX0_number_2 : decode cX0_number 2 = .ok (.iload_n 1, 1) := dk_27 (dk_at dksX0_number_0 2 rfl rfl)
theorem dX0_number_3 : decode cX0_number 3 = .ok (.invokevirtual 84, 3) := dk_182 0 84 (dk_at dksX0_number_0 3 rfl rfl)
theorem dX0_number_6 : decode cX0_number 6 = .ok (.i2l, 1) := dk_133 (dk_at dksX0_number_0 6 rfl rfl)
theorem dX0_number_7 : decode cX0_number 7 = .ok (.putfield 13, 3) := dk_181 0 13 (dk_at dksX0_number_0 7 rfl rfl)
theorem dX0_number_10 : decode cX0_number 10 = .ok (.goto 6, 3) := dk_167 0 6 (dk_at dksX0_number_0 10 rfl rfl)
theorem dX0_number_13 : decode cX0_number 13 = .ok (.astore_n 3, 1) := dk_78 (dk_at dksX0_number_0 13 rfl rfl)
theorem dX0_number_14 : decode cX0_number 14 = .ok (.iconst 1, 1) := dk_4 (dk_at dksX0_number_0 14 rfl rfl)
theorem dX0_number_15 : decode cX0_number 15 = .ok (.ireturn, 1) := dk_172 (dk_at dksX0_number_0 15 rfl rfl)
theorem dX0_number_16 : decode cX0_number 16 = .ok (.iconst 0, 1) := dk_3 (dk_at dksX0_number_0 16 rfl rfl)
theorem dX0_number_17 : decode cX0_number 17 = .ok (.ireturn, 1) := dk_172 (dk_at dksX0_number_0 17 rfl rfl)
abbrev cX0_way : ByteArray := method_21_code
def yX0_way : MethodName := ⟨RX0, "way", "(LPebblegate;IILPebblegateLaw$Out;)I"⟩
def dkwX0_way_0 : List UInt8 := [45, 42, 27, 28, 182, 0, 87, 181, 0, 66, 167, 0, 11, 58, 4, 4, 172, 58, 4, 5, 172, 3, 172]
abbrev dktX0_way_0 : List UInt8 := dkwX0_way_0 ++ []
theorem dksX0_way_0 : cX0_way.data.toList.drop 0 = dktX0_way_0 := by decide +kernel
theorem dX0_way_0 : decode cX0_way 0 = .ok (.aload_n 3, 1) := dk_45 (dk_at dksX0_way_0 0 rfl rfl)
theorem dX0_way_1 : decode cX0_way 1 = .ok (.aload_n 0, 1) := dk_42 (dk_at dksX0_way_0 1 rfl rfl)
theorem dX0_way_2 : decode cX0_way 2 = .ok (.iload_n 1, 1) := dk_27 (dk_at dksX0_way_0 2 rfl rfl)
theorem dX0_way_3 : decode cX0_way 3 = .ok (.iload_n 2, 1) := dk_28 (dk_at dksX0_way_0 3 rfl rfl)
theorem dX0_way_4 : decode cX0_way 4 = .ok (.invokevirtual 87, 3) := dk_182 0 87 (dk_at dksX0_way_0 4 rfl rfl)
theorem dX0_way_7 : decode cX0_way 7 = .ok (.putfield 66, 3) := dk_181 0 66 (dk_at dksX0_way_0 7 rfl rfl)
theorem dX0_way_10 : decode cX0_way 10 = .ok (.goto 11, 3) := dk_167 0 11 (dk_at dksX0_way_0 10 rfl rfl)
theorem dX0_way_13 : decode cX0_way 13 = .ok (.astore 4, 2) := dk_58 4 (dk_at dksX0_way_0 13 rfl rfl)
theorem dX0_way_15 : decode cX0_way 15 = .ok (.iconst 1, 1) := dk_4 (dk_at dksX0_way_0 15 rfl rfl)
theorem dX0_way_16 : decode cX0_way 16 = .ok (.ireturn, 1) := dk_172 (dk_at dksX0_way_0 16 rfl rfl)
theorem dX0_way_17 : decode cX0_way 17 = .ok (.astore 4, 2) := dk_58 4 (dk_at dksX0_way_0 17 rfl rfl)
theorem dX0_way_19 : decode cX0_way 19 = .ok (.iconst 2, 1) := dk_5 (dk_at dksX0_way_0 19 rfl rfl)
theorem dX0_way_20 : decode cX0_way 20 = .ok (.ireturn, 1) := dk_172 (dk_at dksX0_way_0 20 rfl rfl)
theorem dX0_way_21 : decode cX0_way 21 = .ok (.iconst 0, 1) := dk_3 (dk_at dksX0_way_0 21 rfl rfl)
theorem dX0_way_22 : decode cX0_way 22 = .ok (.ireturn, 1) := dk_172 (dk_at dksX0_way_0 22 rfl rfl)
abbrev cX0_chances : ByteArray := method_22_code
def yX0_chances : MethodName := ⟨RX0, "chances", "(LPebblegate;ILPebblegateLaw$Out;)I"⟩
def dkwX0_chances_0 : List UInt8 := [44, 42, 27, 182, 0, 91, 133, 181, 0, 13, 167, 0, 6, 78, 4, 172, 3, 172]
abbrev dktX0_chances_0 : List UInt8 := dkwX0_chances_0 ++ []
theorem dksX0_chances_0 : cX0_chances.data.toList.drop 0 = dktX0_chances_0 := by decide +kernel
theorem dX0_chances_0 : decode cX0_chances 0 = .ok (.aload_n 2, 1) := dk_44 (dk_at dksX0_chances_0 0 rfl rfl)
theorem dX0_chances_1 : decode cX0_chances 1 = .ok (.aload_n 0, 1) := dk_42 (dk_at dksX0_chances_0 1 rfl rfl)
theorem dX0_chances_2 : decode cX0_chances 2 = .ok (.iload_n 1, 1) := dk_27 (dk_at dksX0_chances_0 2 rfl rfl)
theorem dX0_chances_3 : decode cX0_chances 3 = .ok (.invokevirtual 91, 3) := dk_182 0 91 (dk_at dksX0_chances_0 3 rfl rfl)
theorem dX0_chances_6 : decode cX0_chances 6 = .ok (.i2l, 1) := dk_133 (dk_at dksX0_chances_0 6 rfl rfl)
theorem dX0_chances_7 : decode cX0_chances 7 = .ok (.putfield 13, 3) := dk_181 0 13 (dk_at dksX0_chances_0 7 rfl rfl)
theorem dX0_chances_10 : decode cX0_chances 10 = .ok (.goto 6, 3) := dk_167 0 6 (dk_at dksX0_chances_0 10 rfl rfl)
theorem dX0_chances_13 : decode cX0_chances 13 = .ok (.astore_n 3, 1) := dk_78 (dk_at dksX0_chances_0 13 rfl rfl)
theorem dX0_chances_14 : decode cX0_chances 14 = .ok (.iconst 1, 1) := dk_4 (dk_at dksX0_chances_0 14 rfl rfl)
theorem dX0_chances_15 : decode cX0_chances 15 = .ok (.ireturn, 1) := dk_172 (dk_at dksX0_chances_0 15 rfl rfl)
theorem dX0_chances_16 : decode cX0_chances 16 = .ok (.iconst 0, 1) := dk_3 (dk_at dksX0_chances_0 16 rfl rfl)
theorem dX0_chances_17 : decode cX0_chances 17 = .ok (.ireturn, 1) := dk_172 (dk_at dksX0_chances_0 17 rfl rfl)
abbrev cX0_again : ByteArray := method_23_code
def yX0_again : MethodName := ⟨RX0, "again", "(LPebblegate;ILPebblegateLaw$Out;)I"⟩
def dkwX0_again_0 : List UInt8 := [44, 42, 27, 182, 0, 94, 133, 181, 0, 13, 167, 0, 6, 78, 4, 172, 3, 172]
abbrev dktX0_again_0 : List UInt8 := dkwX0_again_0 ++ []
theorem dksX0_again_0 : cX0_again.data.toList.drop 0 = dktX0_again_0 := by decide +kernel
theorem dX0_again_0 : decode cX0_again 0 = .ok (.aload_n 2, 1) := dk_44 (dk_at dksX0_again_0 0 rfl rfl)
theorem dX0_again_1 : decode cX0_again 1 = .ok (.aload_n 0, 1) := dk_42 (dk_at dksX0_again_0 1 rfl rfl)
theorem dX0_again_2 : decode cX0_again 2 = .ok (.iload_n 1, 1) := dk_27 (dk_at dksX0_again_0 2 rfl rfl)
theorem dX0_again_3 : decode cX0_again 3 = .ok (.invokevirtual 94, 3) := dk_182 0 94 (dk_at dksX0_again_0 3 rfl rfl)
theorem dX0_again_6 : decode cX0_again 6 = .ok (.i2l, 1) := dk_133 (dk_at dksX0_again_0 6 rfl rfl)
theorem dX0_again_7 : decode cX0_again 7 = .ok (.putfield 13, 3) := dk_181 0 13 (dk_at dksX0_again_0 7 rfl rfl)
theorem dX0_again_10 : decode cX0_again 10 = .ok (.goto 6, 3) := dk_167 0 6 (dk_at dksX0_again_0 10 rfl rfl)
theorem dX0_again_13 : decode cX0_again 13 = .ok (.astore_n 3, 1) := dk_78 (dk_at dksX0_again_0 13 rfl rfl)
theorem dX0_again_14 : decode cX0_again 14 = .ok (.iconst 1, 1) := dk_4 (dk_at dksX0_again_0 14 rfl rfl)
theorem dX0_again_15 : decode cX0_again 15 = .ok (.ireturn, 1) := dk_172 (dk_at dksX0_again_0 15 rfl rfl)
theorem dX0_again_16 : decode cX0_again 16 = .ok (.iconst 0, 1) := dk_3 (dk_at dksX0_again_0 16 rfl rfl)
theorem dX0_again_17 : decode cX0_again 17 = .ok (.ireturn, 1) := dk_172 (dk_at dksX0_again_0 17 rfl rfl)
abbrev cX0_comesBack : ByteArray := method_24_code
def yX0_comesBack : MethodName := ⟨RX0, "comesBack", "(LPebblegate;ILPebblegateLaw$Out;)I"⟩
def dkwX0_comesBack_0 : List UInt8 := [44, 42, 27, 182, 0, 97, 133, 181, 0, 13, 167, 0, 6, 78, 4, 172, 3, 172]
abbrev dktX0_comesBack_0 : List UInt8 := dkwX0_comesBack_0 ++ []
theorem dksX0_comesBack_0 : cX0_comesBack.data.toList.drop 0 = dktX0_comesBack_0 := by decide +kernel
theorem dX0_comesBack_0 : decode cX0_comesBack 0 = .ok (.aload_n 2, 1) := dk_44 (dk_at dksX0_comesBack_0 0 rfl rfl)
theorem dX0_comesBack_1 : decode cX0_comesBack 1 = .ok (.aload_n 0, 1) := dk_42 (dk_at dksX0_comesBack_0 1 rfl rfl)
theorem dX0_comesBack_2 : decode cX0_comesBack 2 = .ok (.iload_n 1, 1) := dk_27 (dk_at dksX0_comesBack_0 2 rfl rfl)
theorem dX0_comesBack_3 : decode cX0_comesBack 3 = .ok (.invokevirtual 97, 3) := dk_182 0 97 (dk_at dksX0_comesBack_0 3 rfl rfl)
theorem dX0_comesBack_6 : decode cX0_comesBack 6 = .ok (.i2l, 1) := dk_133 (dk_at dksX0_comesBack_0 6 rfl rfl)
theorem dX0_comesBack_7 : decode cX0_comesBack 7 = .ok (.putfield 13, 3) := dk_181 0 13 (dk_at dksX0_comesBack_0 7 rfl rfl)
theorem dX0_comesBack_10 : decode cX0_comesBack 10 = .ok (.goto 6, 3) := dk_167 0 6 (dk_at dksX0_comesBack_0 10 rfl rfl)
theorem dX0_comesBack_13 : decode cX0_comesBack 13 = .ok (.astore_n 3, 1) := dk_78 (dk_at dksX0_comesBack_0 13 rfl rfl)
theorem dX0_comesBack_14 : decode cX0_comesBack 14 = .ok (.iconst 1, 1) := dk_4 (dk_at dksX0_comesBack_0 14 rfl rfl)
theorem dX0_comesBack_15 : decode cX0_comesBack 15 = .ok (.ireturn, 1) := dk_172 (dk_at dksX0_comesBack_0 15 rfl rfl)
theorem dX0_comesBack_16 : decode cX0_comesBack 16 = .ok (.iconst 0, 1) := dk_3 (dk_at dksX0_comesBack_0 16 rfl rfl)
theorem dX0_comesBack_17 : decode cX0_comesBack 17 = .ok (.ireturn, 1) := dk_172 (dk_at dksX0_comesBack_0 17 rfl rfl)
abbrev cX0_most : ByteArray := method_25_code
def yX0_most : MethodName := ⟨RX0, "most", "(LPebblegate;ILPebblegateLaw$Out;)I"⟩
def dkwX0_most_0 : List UInt8 := [44, 42, 27, 182, 0, 100, 133, 181, 0, 13, 167, 0, 6, 78, 4, 172, 3, 172]
abbrev dktX0_most_0 : List UInt8 := dkwX0_most_0 ++ []
theorem dksX0_most_0 : cX0_most.data.toList.drop 0 = dktX0_most_0 := by decide +kernel
theorem dX0_most_0 : decode cX0_most 0 = .ok (.aload_n 2, 1) := dk_44 (dk_at dksX0_most_0 0 rfl rfl)
theorem dX0_most_1 : decode cX0_most 1 = .ok (.aload_n 0, 1) := dk_42 (dk_at dksX0_most_0 1 rfl rfl)
theorem dX0_most_2 : decode cX0_most 2 = .ok (.iload_n 1, 1) := dk_27 (dk_at dksX0_most_0 2 rfl rfl)
theorem dX0_most_3 : decode cX0_most 3 = .ok (.invokevirtual 100, 3) := dk_182 0 100 (dk_at dksX0_most_0 3 rfl rfl)
theorem dX0_most_6 : decode cX0_most 6 = .ok (.i2l, 1) := dk_133 (dk_at dksX0_most_0 6 rfl rfl)
theorem dX0_most_7 : decode cX0_most 7 = .ok (.putfield 13, 3) := dk_181 0 13 (dk_at dksX0_most_0 7 rfl rfl)
theorem dX0_most_10 : decode cX0_most 10 = .ok (.goto 6, 3) := dk_167 0 6 (dk_at dksX0_most_0 10 rfl rfl)
theorem dX0_most_13 : decode cX0_most 13 = .ok (.astore_n 3, 1) := dk_78 (dk_at dksX0_most_0 13 rfl rfl)
theorem dX0_most_14 : decode cX0_most 14 = .ok (.iconst 1, 1) := dk_4 (dk_at dksX0_most_0 14 rfl rfl)
theorem dX0_most_15 : decode cX0_most 15 = .ok (.ireturn, 1) := dk_172 (dk_at dksX0_most_0 15 rfl rfl)
theorem dX0_most_16 : decode cX0_most 16 = .ok (.iconst 0, 1) := dk_3 (dk_at dksX0_most_0 16 rfl rfl)
theorem dX0_most_17 : decode cX0_most 17 = .ok (.ireturn, 1) := dk_172 (dk_at dksX0_most_0 17 rfl rfl)
abbrev cX0_weighing : ByteArray := method_26_code
def yX0_weighing : MethodName := ⟨RX0, "weighing", "(LPebblegate;IILPebblegateLaw$Out;)I"⟩
def dkwX0_weighing_0 : List UInt8 := [45, 42, 27, 28, 182, 0, 103, 133, 181, 0, 13, 167, 0, 11, 58, 4, 4, 172, 58, 4, 5, 172, 3, 172]
abbrev dktX0_weighing_0 : List UInt8 := dkwX0_weighing_0 ++ []
theorem dksX0_weighing_0 : cX0_weighing.data.toList.drop 0 = dktX0_weighing_0 := by decide +kernel
theorem dX0_weighing_0 : decode cX0_weighing 0 = .ok (.aload_n 3, 1) := dk_45 (dk_at dksX0_weighing_0 0 rfl rfl)
theorem dX0_weighing_1 : decode cX0_weighing 1 = .ok (.aload_n 0, 1) := dk_42 (dk_at dksX0_weighing_0 1 rfl rfl)
theorem dX0_weighing_2 : decode cX0_weighing 2 = .ok (.iload_n 1, 1) := dk_27 (dk_at dksX0_weighing_0 2 rfl rfl)
theorem dX0_weighing_3 : decode cX0_weighing 3 = .ok (.iload_n 2, 1) := dk_28 (dk_at dksX0_weighing_0 3 rfl rfl)
theorem dX0_weighing_4 : decode cX0_weighing 4 = .ok (.invokevirtual 103, 3) := dk_182 0 103 (dk_at dksX0_weighing_0 4 rfl rfl)
theorem dX0_weighing_7 : decode cX0_weighing 7 = .ok (.i2l, 1) := dk_133 (dk_at dksX0_weighing_0 7 rfl rfl)
theorem dX0_weighing_8 : decode cX0_weighing 8 = .ok (.putfield 13, 3) := dk_181 0 13 (dk_at dksX0_weighing_0 8 rfl rfl)
theorem dX0_weighing_11 : decode cX0_weighing 11 = .ok (.goto 11, 3) := dk_167 0 11 (dk_at dksX0_weighing_0 11 rfl rfl)
theorem dX0_weighing_14 : decode cX0_weighing 14 = .ok (.astore 4, 2) := dk_58 4 (dk_at dksX0_weighing_0 14 rfl rfl)
theorem dX0_weighing_16 : decode cX0_weighing 16 = .ok (.iconst 1, 1) := dk_4 (dk_at dksX0_weighing_0 16 rfl rfl)
theorem dX0_weighing_17 : decode cX0_weighing 17 = .ok (.ireturn, 1) := dk_172 (dk_at dksX0_weighing_0 17 rfl rfl)
theorem dX0_weighing_18 : decode cX0_weighing 18 = .ok (.astore 4, 2) := dk_58 4 (dk_at dksX0_weighing_0 18 rfl rfl)
theorem dX0_weighing_20 : decode cX0_weighing 20 = .ok (.iconst 2, 1) := dk_5 (dk_at dksX0_weighing_0 20 rfl rfl)
theorem dX0_weighing_21 : decode cX0_weighing 21 = .ok (.ireturn, 1) := dk_172 (dk_at dksX0_weighing_0 21 rfl rfl)
theorem dX0_weighing_22 : decode cX0_weighing 22 = .ok (.iconst 0, 1) := dk_3 (dk_at dksX0_weighing_0 22 rfl rfl)
theorem dX0_weighing_23 : decode cX0_weighing 23 = .ok (.ireturn, 1) := dk_172 (dk_at dksX0_weighing_0 23 rfl rfl)
abbrev cX0_weight : ByteArray := method_27_code
def yX0_weight : MethodName := ⟨RX0, "weight", "(LPebblegate;IILPebblegateLaw$Out;)I"⟩
def dkwX0_weight_0 : List UInt8 := [45, 42, 27, 28, 182, 0, 106, 133, 181, 0, 13, 167, 0, 11, 58, 4, 4, 172, 58, 4, 5, 172, 3, 172]
abbrev dktX0_weight_0 : List UInt8 := dkwX0_weight_0 ++ []
theorem dksX0_weight_0 : cX0_weight.data.toList.drop 0 = dktX0_weight_0 := by decide +kernel
theorem dX0_weight_0 : decode cX0_weight 0 = .ok (.aload_n 3, 1) := dk_45 (dk_at dksX0_weight_0 0 rfl rfl)
theorem dX0_weight_1 : decode cX0_weight 1 = .ok (.aload_n 0, 1) := dk_42 (dk_at dksX0_weight_0 1 rfl rfl)
theorem dX0_weight_2 : decode cX0_weight 2 = .ok (.iload_n 1, 1) := dk_27 (dk_at dksX0_weight_0 2 rfl rfl)
theorem dX0_weight_3 : decode cX0_weight 3 = .ok (.iload_n 2, 1) := dk_28 (dk_at dksX0_weight_0 3 rfl rfl)
theorem dX0_weight_4 : decode cX0_weight 4 = .ok (.invokevirtual 106, 3) := dk_182 0 106 (dk_at dksX0_weight_0 4 rfl rfl)
theorem dX0_weight_7 : decode cX0_weight 7 = .ok (.i2l, 1) := dk_133 (dk_at dksX0_weight_0 7 rfl rfl)
theorem dX0_weight_8 : decode cX0_weight 8 = .ok (.putfield 13, 3) := dk_181 0 13 (dk_at dksX0_weight_0 8 rfl rfl)
theorem dX0_weight_11 : decode cX0_weight 11 = .ok (.goto 11, 3) := dk_167 0 11 (dk_at dksX0_weight_0 11 rfl rfl)
theorem dX0_weight_14 : decode cX0_weight 14 = .ok (.astore 4, 2) := dk_58 4 (dk_at dksX0_weight_0 14 rfl rfl)
theorem dX0_weight_16 : decode cX0_weight 16 = .ok (.iconst 1, 1) := dk_4 (dk_at dksX0_weight_0 16 rfl rfl)
theorem dX0_weight_17 : decode cX0_weight 17 = .ok (.ireturn, 1) := dk_172 (dk_at dksX0_weight_0 17 rfl rfl)
theorem dX0_weight_18 : decode cX0_weight 18 = .ok (.astore 4, 2) := dk_58 4 (dk_at dksX0_weight_0 18 rfl rfl)
theorem dX0_weight_20 : decode cX0_weight 20 = .ok (.iconst 2, 1) := dk_5 (dk_at dksX0_weight_0 20 rfl rfl)
theorem dX0_weight_21 : decode cX0_weight 21 = .ok (.ireturn, 1) := dk_172 (dk_at dksX0_weight_0 21 rfl rfl)
theorem dX0_weight_22 : decode cX0_weight 22 = .ok (.iconst 0, 1) := dk_3 (dk_at dksX0_weight_0 22 rfl rfl)
theorem dX0_weight_23 : decode cX0_weight 23 = .ok (.ireturn, 1) := dk_172 (dk_at dksX0_weight_0 23 rfl rfl)
abbrev cX0_house : ByteArray := method_28_code
def yX0_house : MethodName := ⟨RX0, "house", "(LPebblegate;ILPebblegateLaw$Out;)I"⟩
def dkwX0_house_0 : List UInt8 := [44, 42, 27, 182, 0, 109, 133, 181, 0, 13, 167, 0, 6, 78, 4, 172, 3, 172]
abbrev dktX0_house_0 : List UInt8 := dkwX0_house_0 ++ []
theorem dksX0_house_0 : cX0_house.data.toList.drop 0 = dktX0_house_0 := by decide +kernel
theorem dX0_house_0 : decode cX0_house 0 = .ok (.aload_n 2, 1) := dk_44 (dk_at dksX0_house_0 0 rfl rfl)
theorem dX0_house_1 : decode cX0_house 1 = .ok (.aload_n 0, 1) := dk_42 (dk_at dksX0_house_0 1 rfl rfl)
theorem dX0_house_2 : decode cX0_house 2 = .ok (.iload_n 1, 1) := dk_27 (dk_at dksX0_house_0 2 rfl rfl)
theorem dX0_house_3 : decode cX0_house 3 = .ok (.invokevirtual 109, 3) := dk_182 0 109 (dk_at dksX0_house_0 3 rfl rfl)
theorem dX0_house_6 : decode cX0_house 6 = .ok (.i2l, 1) := dk_133 (dk_at dksX0_house_0 6 rfl rfl)
theorem dX0_house_7 : decode cX0_house 7 = .ok (.putfield 13, 3) := dk_181 0 13 (dk_at dksX0_house_0 7 rfl rfl)
theorem dX0_house_10 : decode cX0_house 10 = .ok (.goto 6, 3) := dk_167 0 6 (dk_at dksX0_house_0 10 rfl rfl)
theorem dX0_house_13 : decode cX0_house 13 = .ok (.astore_n 3, 1) := dk_78 (dk_at dksX0_house_0 13 rfl rfl)
theorem dX0_house_14 : decode cX0_house 14 = .ok (.iconst 1, 1) := dk_4 (dk_at dksX0_house_0 14 rfl rfl)
theorem dX0_house_15 : decode cX0_house 15 = .ok (.ireturn, 1) := dk_172 (dk_at dksX0_house_0 15 rfl rfl)
theorem dX0_house_16 : decode cX0_house 16 = .ok (.iconst 0, 1) := dk_3 (dk_at dksX0_house_0 16 rfl rfl)
theorem dX0_house_17 : decode cX0_house 17 = .ok (.ireturn, 1) := dk_172 (dk_at dksX0_house_0 17 rfl rfl)
theorem q71 : (Jvm.Cond.initialized "PebblegateLaw") ∈ lw_all := lw_g (lw_at lw_m1 0 rfl) rfl
theorem q112 : (Jvm.Cond.classLink "PebblegateLaw" (8 : Nat) "Pebblegate") ∈ lw_all := lw_g (lw_at lw_m1 41 rfl) rfl
theorem q114 : (Jvm.Cond.methodLink "PebblegateLaw" (112 : Nat) ({ cls := "Pebblegate", name := "<init>", desc := "()V" } : Jvm.MethodName)) ∈ lw_all := lw_g (lw_at lw_m1 43 rfl) rfl
theorem q209 : (Jvm.Cond.methodLink "PebblegateLaw" (127 : Nat) ({ cls := "Pebblegate", name := "step", desc := "()I" } : Jvm.MethodName)) ∈ lw_all := lw_g (lw_at lw_m1 138 rfl) rfl
theorem q307 : (Jvm.Cond.methodLink "PebblegateLaw" (138 : Nat) ({ cls := "Pebblegate", name := "turn", desc := "()I" } : Jvm.MethodName)) ∈ lw_all := lw_g (lw_at lw_m1 236 rfl) rfl
theorem q344 : (Jvm.Cond.methodLink "PebblegateLaw" (174 : Nat) ({ cls := "Pebblegate", name := "text", desc := "()Ljava/lang/String;" } : Jvm.MethodName)) ∈ lw_all := lw_g (lw_at lw_m2 33 rfl) rfl
theorem q896 : (Jvm.Cond.methodLink "PebblegateLaw" (192 : Nat) ({ cls := "Pebblegate", name := "going", desc := "()I" } : Jvm.MethodName)) ∈ lw_all := lw_g (lw_at lw_m4 105 rfl) rfl
theorem q1002 : (Jvm.Cond.methodLink "PebblegateLaw" (202 : Nat) ({ cls := "Pebblegate", name := "reached", desc := "()I" } : Jvm.MethodName)) ∈ lw_all := lw_g (lw_at lw_m4 211 rfl) rfl
theorem q1142 : (Jvm.Cond.methodLink "PebblegateLaw" (215 : Nat) ({ cls := "Pebblegate", name := "deads", desc := "()I" } : Jvm.MethodName)) ∈ lw_all := lw_g (lw_at lw_m5 111 rfl) rfl
theorem q1153 : (Jvm.Cond.methodLink "PebblegateLaw" (225 : Nat) ({ cls := "Pebblegate", name := "rings", desc := "()I" } : Jvm.MethodName)) ∈ lw_all := lw_g (lw_at lw_m5 122 rfl) rfl
theorem q1177 : (Jvm.Cond.methodLink "PebblegateLaw" (232 : Nat) ({ cls := "Pebblegate", name := "nodes", desc := "()I" } : Jvm.MethodName)) ∈ lw_all := lw_g (lw_at lw_m5 146 rfl) rfl
theorem q1293 : (Jvm.Cond.methodLink "PebblegateLaw" (239 : Nat) ({ cls := "Pebblegate", name := "manies", desc := "()I" } : Jvm.MethodName)) ∈ lw_all := lw_g (lw_at lw_m6 22 rfl) rfl
theorem q1307 : (Jvm.Cond.methodLink "PebblegateLaw" (243 : Nat) ({ cls := "Pebblegate", name := "weighings", desc := "()I" } : Jvm.MethodName)) ∈ lw_all := lw_g (lw_at lw_m6 36 rfl) rfl
theorem q1335 : (Jvm.Cond.methodLink "PebblegateLaw" (256 : Nat) ({ cls := "Pebblegate", name := "knock", desc := "()I" } : Jvm.MethodName)) ∈ lw_all := lw_g (lw_at lw_m6 64 rfl) rfl
theorem q1339 : (Jvm.Cond.methodLink "PebblegateLaw" (260 : Nat) ({ cls := "Pebblegate", name := "isSound", desc := "()Z" } : Jvm.MethodName)) ∈ lw_all := lw_g (lw_at lw_m6 68 rfl) rfl
theorem q1374 : (Jvm.Cond.methodLink "PebblegateLaw" (265 : Nat) ({ cls := "Pebblegate", name := "digest", desc := "()J" } : Jvm.MethodName)) ∈ lw_all := lw_g (lw_at lw_m6 103 rfl) rfl
theorem q1449 : (Jvm.Cond.classLink "PebblegateLaw" (14 : Nat) "PebblegateLaw$Out") ∈ lw_all := lw_g (lw_at lw_m6 178 rfl) rfl
theorem q1451 : (Jvm.Cond.methodLinkNest "PebblegateLaw" (116 : Nat) ({ cls := "PebblegateLaw$Out", name := "<init>", desc := "()V" } : Jvm.MethodName) "PebblegateLaw") ∈ lw_tbl := lw_at lw_m6 180 rfl
theorem q1455 : (Jvm.Cond.fieldLinkNest "PebblegateLaw" (13 : Nat) "PebblegateLaw$Out" "n" "J" "PebblegateLaw") ∈ lw_tbl := lw_at lw_m6 184 rfl
theorem q1456 : (Jvm.Cond.fieldLinkNest "PebblegateLaw" (66 : Nat) "PebblegateLaw$Out" "s" "Ljava/lang/String;" "PebblegateLaw") ∈ lw_tbl := lw_at lw_m6 185 rfl
theorem q1462 : (Jvm.Cond.methodLink "PebblegateLaw" (117 : Nat) ({ cls := "PebblegateLaw", name := "begin", desc := "(LPebblegate;ILPebblegateLaw$Out;)I" } : Jvm.MethodName)) ∈ lw_all := lw_g (lw_at lw_m6 191 rfl) rfl
theorem q1463 : (Jvm.Cond.static ({ cls := "PebblegateLaw", name := "begin", desc := "(LPebblegate;ILPebblegateLaw$Out;)I" } : Jvm.MethodName)) ∈ lw_all := lw_g (lw_at lw_m6 192 rfl) rfl
theorem q1464 : (Jvm.Cond.codeWith ({ cls := "PebblegateLaw", name := "begin", desc := "(LPebblegate;ILPebblegateLaw$Out;)I" } : Jvm.MethodName) method_2_code (4 : Nat) (Option.some Jvm.ClassFile.FieldType.int) [((0 : Nat), (10 : Nat), (13 : Nat), (19 : Nat))]) ∈ lw_all := lw_g (lw_at lw_m6 193 rfl) rfl
theorem q1465 : (Jvm.Cond.classLink "PebblegateLaw" (19 : Nat) "java/lang/IllegalArgumentException") ∈ lw_all := lw_g (lw_at lw_m6 194 rfl) rfl
theorem q1466 : (Jvm.Cond.methodLink "PebblegateLaw" (7 : Nat) ({ cls := "Pebblegate", name := "begin", desc := "(I)I" } : Jvm.MethodName)) ∈ lw_all := lw_g (lw_at lw_m6 195 rfl) rfl
theorem q1495 : (Jvm.Cond.methodLink "PebblegateLaw" (131 : Nat) ({ cls := "PebblegateLaw", name := "arc", desc := "(LPebblegate;IIIILPebblegateLaw$Out;)I" } : Jvm.MethodName)) ∈ lw_all := lw_g (lw_at lw_m6 224 rfl) rfl
theorem q1496 : (Jvm.Cond.static ({ cls := "PebblegateLaw", name := "arc", desc := "(LPebblegate;IIIILPebblegateLaw$Out;)I" } : Jvm.MethodName)) ∈ lw_all := lw_g (lw_at lw_m6 225 rfl) rfl
theorem q1497 : (Jvm.Cond.codeWith ({ cls := "PebblegateLaw", name := "arc", desc := "(LPebblegate;IIIILPebblegateLaw$Out;)I" } : Jvm.MethodName) method_3_code (7 : Nat) (Option.some Jvm.ClassFile.FieldType.int) [((0 : Nat), (15 : Nat), (18 : Nat), (25 : Nat)), ((0 : Nat), (15 : Nat), (22 : Nat), (19 : Nat))]) ∈ lw_all := lw_g (lw_at lw_m6 226 rfl) rfl
theorem q1498 : (Jvm.Cond.classLink "PebblegateLaw" (25 : Nat) "java/lang/IndexOutOfBoundsException") ∈ lw_all := lw_g (lw_at lw_m6 227 rfl) rfl
theorem q1514 : (Jvm.Cond.methodLink "PebblegateLaw" (21 : Nat) ({ cls := "Pebblegate", name := "arc", desc := "(IIII)I" } : Jvm.MethodName)) ∈ lw_all := lw_g (lw_at lw_m7 3 rfl) rfl
theorem q1534 : (Jvm.Cond.methodLink "PebblegateLaw" (135 : Nat) ({ cls := "PebblegateLaw", name := "strike", desc := "(LPebblegate;ILPebblegateLaw$Out;)I" } : Jvm.MethodName)) ∈ lw_all := lw_g (lw_at lw_m7 23 rfl) rfl
theorem q1535 : (Jvm.Cond.static ({ cls := "PebblegateLaw", name := "strike", desc := "(LPebblegate;ILPebblegateLaw$Out;)I" } : Jvm.MethodName)) ∈ lw_all := lw_g (lw_at lw_m7 24 rfl) rfl
theorem q1536 : (Jvm.Cond.codeWith ({ cls := "PebblegateLaw", name := "strike", desc := "(LPebblegate;ILPebblegateLaw$Out;)I" } : Jvm.MethodName) method_4_code (4 : Nat) (Option.some Jvm.ClassFile.FieldType.int) [((0 : Nat), (10 : Nat), (13 : Nat), (25 : Nat))]) ∈ lw_all := lw_g (lw_at lw_m7 25 rfl) rfl
theorem q1537 : (Jvm.Cond.methodLink "PebblegateLaw" (27 : Nat) ({ cls := "Pebblegate", name := "strike", desc := "(I)I" } : Jvm.MethodName)) ∈ lw_all := lw_g (lw_at lw_m7 26 rfl) rfl
theorem q1550 : (Jvm.Cond.methodLink "PebblegateLaw" (142 : Nat) ({ cls := "PebblegateLaw", name := "set", desc := "(LPebblegate;IILPebblegateLaw$Out;)I" } : Jvm.MethodName)) ∈ lw_all := lw_g (lw_at lw_m7 39 rfl) rfl
theorem q1551 : (Jvm.Cond.static ({ cls := "PebblegateLaw", name := "set", desc := "(LPebblegate;IILPebblegateLaw$Out;)I" } : Jvm.MethodName)) ∈ lw_all := lw_g (lw_at lw_m7 40 rfl) rfl
theorem q1552 : (Jvm.Cond.codeWith ({ cls := "PebblegateLaw", name := "set", desc := "(LPebblegate;IILPebblegateLaw$Out;)I" } : Jvm.MethodName) method_5_code (5 : Nat) (Option.some Jvm.ClassFile.FieldType.int) [((0 : Nat), (11 : Nat), (14 : Nat), (25 : Nat)), ((0 : Nat), (11 : Nat), (18 : Nat), (19 : Nat))]) ∈ lw_all := lw_g (lw_at lw_m7 41 rfl) rfl
theorem q1553 : (Jvm.Cond.methodLink "PebblegateLaw" (30 : Nat) ({ cls := "Pebblegate", name := "set", desc := "(II)I" } : Jvm.MethodName)) ∈ lw_all := lw_g (lw_at lw_m7 42 rfl) rfl
theorem q1575 : (Jvm.Cond.methodLink "PebblegateLaw" (146 : Nat) ({ cls := "PebblegateLaw", name := "add", desc := "(LPebblegate;IILPebblegateLaw$Out;)I" } : Jvm.MethodName)) ∈ lw_all := lw_g (lw_at lw_m7 64 rfl) rfl
theorem q1576 : (Jvm.Cond.static ({ cls := "PebblegateLaw", name := "add", desc := "(LPebblegate;IILPebblegateLaw$Out;)I" } : Jvm.MethodName)) ∈ lw_all := lw_g (lw_at lw_m7 65 rfl) rfl
theorem q1577 : (Jvm.Cond.codeWith ({ cls := "PebblegateLaw", name := "add", desc := "(LPebblegate;IILPebblegateLaw$Out;)I" } : Jvm.MethodName) method_6_code (5 : Nat) (Option.some Jvm.ClassFile.FieldType.int) [((0 : Nat), (11 : Nat), (14 : Nat), (25 : Nat)), ((0 : Nat), (11 : Nat), (18 : Nat), (19 : Nat))]) ∈ lw_all := lw_g (lw_at lw_m7 66 rfl) rfl
theorem q1578 : (Jvm.Cond.methodLink "PebblegateLaw" (34 : Nat) ({ cls := "Pebblegate", name := "add", desc := "(II)I" } : Jvm.MethodName)) ∈ lw_all := lw_g (lw_at lw_m7 67 rfl) rfl
theorem q1582 : (Jvm.Cond.methodLink "PebblegateLaw" (149 : Nat) ({ cls := "PebblegateLaw", name := "go", desc := "(LPebblegate;ILPebblegateLaw$Out;)I" } : Jvm.MethodName)) ∈ lw_all := lw_g (lw_at lw_m7 71 rfl) rfl
theorem q1583 : (Jvm.Cond.static ({ cls := "PebblegateLaw", name := "go", desc := "(LPebblegate;ILPebblegateLaw$Out;)I" } : Jvm.MethodName)) ∈ lw_all := lw_g (lw_at lw_m7 72 rfl) rfl
theorem q1584 : (Jvm.Cond.codeWith ({ cls := "PebblegateLaw", name := "go", desc := "(LPebblegate;ILPebblegateLaw$Out;)I" } : Jvm.MethodName) method_7_code (4 : Nat) (Option.some Jvm.ClassFile.FieldType.int) [((0 : Nat), (10 : Nat), (13 : Nat), (25 : Nat))]) ∈ lw_all := lw_g (lw_at lw_m7 73 rfl) rfl
theorem q1585 : (Jvm.Cond.methodLink "PebblegateLaw" (37 : Nat) ({ cls := "Pebblegate", name := "go", desc := "(I)I" } : Jvm.MethodName)) ∈ lw_all := lw_g (lw_at lw_m7 74 rfl) rfl
theorem q1597 : (Jvm.Cond.methodLink "PebblegateLaw" (152 : Nat) ({ cls := "PebblegateLaw", name := "back", desc := "(LPebblegate;ILPebblegateLaw$Out;)I" } : Jvm.MethodName)) ∈ lw_all := lw_g (lw_at lw_m7 86 rfl) rfl
theorem q1598 : (Jvm.Cond.static ({ cls := "PebblegateLaw", name := "back", desc := "(LPebblegate;ILPebblegateLaw$Out;)I" } : Jvm.MethodName)) ∈ lw_all := lw_g (lw_at lw_m7 87 rfl) rfl
theorem q1599 : (Jvm.Cond.codeWith ({ cls := "PebblegateLaw", name := "back", desc := "(LPebblegate;ILPebblegateLaw$Out;)I" } : Jvm.MethodName) method_8_code (4 : Nat) (Option.some Jvm.ClassFile.FieldType.int) [((0 : Nat), (10 : Nat), (13 : Nat), (25 : Nat))]) ∈ lw_all := lw_g (lw_at lw_m7 88 rfl) rfl
theorem q1600 : (Jvm.Cond.methodLink "PebblegateLaw" (40 : Nat) ({ cls := "Pebblegate", name := "back", desc := "(I)I" } : Jvm.MethodName)) ∈ lw_all := lw_g (lw_at lw_m7 89 rfl) rfl
theorem q1604 : (Jvm.Cond.methodLink "PebblegateLaw" (155 : Nat) ({ cls := "PebblegateLaw", name := "run", desc := "(LPebblegate;ILPebblegateLaw$Out;)I" } : Jvm.MethodName)) ∈ lw_all := lw_g (lw_at lw_m7 93 rfl) rfl
theorem q1605 : (Jvm.Cond.static ({ cls := "PebblegateLaw", name := "run", desc := "(LPebblegate;ILPebblegateLaw$Out;)I" } : Jvm.MethodName)) ∈ lw_all := lw_g (lw_at lw_m7 94 rfl) rfl
theorem q1606 : (Jvm.Cond.codeWith ({ cls := "PebblegateLaw", name := "run", desc := "(LPebblegate;ILPebblegateLaw$Out;)I" } : Jvm.MethodName) method_9_code (4 : Nat) (Option.some Jvm.ClassFile.FieldType.int) [((0 : Nat), (10 : Nat), (13 : Nat), (19 : Nat))]) ∈ lw_all := lw_g (lw_at lw_m7 95 rfl) rfl
theorem q1607 : (Jvm.Cond.methodLink "PebblegateLaw" (43 : Nat) ({ cls := "Pebblegate", name := "run", desc := "(I)I" } : Jvm.MethodName)) ∈ lw_all := lw_g (lw_at lw_m7 96 rfl) rfl
theorem q1615 : (Jvm.Cond.methodLink "PebblegateLaw" (158 : Nat) ({ cls := "PebblegateLaw", name := "keep", desc := "(LPebblegate;ILPebblegateLaw$Out;)I" } : Jvm.MethodName)) ∈ lw_all := lw_g (lw_at lw_m7 104 rfl) rfl
theorem q1616 : (Jvm.Cond.static ({ cls := "PebblegateLaw", name := "keep", desc := "(LPebblegate;ILPebblegateLaw$Out;)I" } : Jvm.MethodName)) ∈ lw_all := lw_g (lw_at lw_m7 105 rfl) rfl
theorem q1617 : (Jvm.Cond.codeWith ({ cls := "PebblegateLaw", name := "keep", desc := "(LPebblegate;ILPebblegateLaw$Out;)I" } : Jvm.MethodName) method_10_code (4 : Nat) (Option.some Jvm.ClassFile.FieldType.int) [((0 : Nat), (10 : Nat), (13 : Nat), (25 : Nat))]) ∈ lw_all := lw_g (lw_at lw_m7 106 rfl) rfl
theorem q1618 : (Jvm.Cond.methodLink "PebblegateLaw" (46 : Nat) ({ cls := "Pebblegate", name := "keep", desc := "(I)I" } : Jvm.MethodName)) ∈ lw_all := lw_g (lw_at lw_m7 107 rfl) rfl
theorem q1627 : (Jvm.Cond.methodLink "PebblegateLaw" (161 : Nat) ({ cls := "PebblegateLaw", name := "recall", desc := "(LPebblegate;ILPebblegateLaw$Out;)I" } : Jvm.MethodName)) ∈ lw_all := lw_g (lw_at lw_m7 116 rfl) rfl
theorem q1628 : (Jvm.Cond.static ({ cls := "PebblegateLaw", name := "recall", desc := "(LPebblegate;ILPebblegateLaw$Out;)I" } : Jvm.MethodName)) ∈ lw_all := lw_g (lw_at lw_m7 117 rfl) rfl
theorem q1629 : (Jvm.Cond.codeWith ({ cls := "PebblegateLaw", name := "recall", desc := "(LPebblegate;ILPebblegateLaw$Out;)I" } : Jvm.MethodName) method_11_code (4 : Nat) (Option.some Jvm.ClassFile.FieldType.int) [((0 : Nat), (10 : Nat), (13 : Nat), (25 : Nat))]) ∈ lw_all := lw_g (lw_at lw_m7 118 rfl) rfl
theorem q1630 : (Jvm.Cond.methodLink "PebblegateLaw" (49 : Nat) ({ cls := "Pebblegate", name := "recall", desc := "(I)I" } : Jvm.MethodName)) ∈ lw_all := lw_g (lw_at lw_m7 119 rfl) rfl
theorem q1634 : (Jvm.Cond.methodLink "PebblegateLaw" (164 : Nat) ({ cls := "PebblegateLaw", name := "follow", desc := "(LPebblegate;ILPebblegateLaw$Out;)I" } : Jvm.MethodName)) ∈ lw_all := lw_g (lw_at lw_m7 123 rfl) rfl
theorem q1635 : (Jvm.Cond.static ({ cls := "PebblegateLaw", name := "follow", desc := "(LPebblegate;ILPebblegateLaw$Out;)I" } : Jvm.MethodName)) ∈ lw_all := lw_g (lw_at lw_m7 124 rfl) rfl
theorem q1636 : (Jvm.Cond.codeWith ({ cls := "PebblegateLaw", name := "follow", desc := "(LPebblegate;ILPebblegateLaw$Out;)I" } : Jvm.MethodName) method_12_code (4 : Nat) (Option.some Jvm.ClassFile.FieldType.int) [((0 : Nat), (10 : Nat), (13 : Nat), (25 : Nat))]) ∈ lw_all := lw_g (lw_at lw_m7 125 rfl) rfl
theorem q1637 : (Jvm.Cond.methodLink "PebblegateLaw" (52 : Nat) ({ cls := "Pebblegate", name := "follow", desc := "(I)I" } : Jvm.MethodName)) ∈ lw_all := lw_g (lw_at lw_m7 126 rfl) rfl
theorem q1670 : (Jvm.Cond.methodLink "PebblegateLaw" (167 : Nat) ({ cls := "PebblegateLaw", name := "ofArc", desc := "(LPebblegate;IIILPebblegateLaw$Out;)I" } : Jvm.MethodName)) ∈ lw_all := lw_g (lw_at lw_m7 159 rfl) rfl
theorem q1671 : (Jvm.Cond.static ({ cls := "PebblegateLaw", name := "ofArc", desc := "(LPebblegate;IIILPebblegateLaw$Out;)I" } : Jvm.MethodName)) ∈ lw_all := lw_g (lw_at lw_m7 160 rfl) rfl
theorem q1672 : (Jvm.Cond.codeWith ({ cls := "PebblegateLaw", name := "ofArc", desc := "(LPebblegate;IIILPebblegateLaw$Out;)I" } : Jvm.MethodName) method_13_code (6 : Nat) (Option.some Jvm.ClassFile.FieldType.int) [((0 : Nat), (13 : Nat), (16 : Nat), (25 : Nat)), ((0 : Nat), (13 : Nat), (20 : Nat), (19 : Nat))]) ∈ lw_all := lw_g (lw_at lw_m7 161 rfl) rfl
theorem q1673 : (Jvm.Cond.methodLink "PebblegateLaw" (55 : Nat) ({ cls := "Pebblegate", name := "ofArc", desc := "(III)I" } : Jvm.MethodName)) ∈ lw_all := lw_g (lw_at lw_m7 162 rfl) rfl
theorem q1677 : (Jvm.Cond.methodLink "PebblegateLaw" (171 : Nat) ({ cls := "PebblegateLaw", name := "marks", desc := "(LPebblegate;ILPebblegateLaw$Out;)I" } : Jvm.MethodName)) ∈ lw_all := lw_g (lw_at lw_m7 166 rfl) rfl
theorem q1678 : (Jvm.Cond.static ({ cls := "PebblegateLaw", name := "marks", desc := "(LPebblegate;ILPebblegateLaw$Out;)I" } : Jvm.MethodName)) ∈ lw_all := lw_g (lw_at lw_m7 167 rfl) rfl
theorem q1679 : (Jvm.Cond.codeWith ({ cls := "PebblegateLaw", name := "marks", desc := "(LPebblegate;ILPebblegateLaw$Out;)I" } : Jvm.MethodName) method_14_code (4 : Nat) (Option.some Jvm.ClassFile.FieldType.int) [((0 : Nat), (10 : Nat), (13 : Nat), (25 : Nat))]) ∈ lw_all := lw_g (lw_at lw_m7 168 rfl) rfl
theorem q1680 : (Jvm.Cond.methodLink "PebblegateLaw" (59 : Nat) ({ cls := "Pebblegate", name := "marks", desc := "(I)I" } : Jvm.MethodName)) ∈ lw_all := lw_g (lw_at lw_m7 169 rfl) rfl
theorem q1684 : (Jvm.Cond.methodLink "PebblegateLaw" (185 : Nat) ({ cls := "PebblegateLaw", name := "keptText", desc := "(LPebblegate;ILPebblegateLaw$Out;)I" } : Jvm.MethodName)) ∈ lw_all := lw_g (lw_at lw_m7 173 rfl) rfl
theorem q1685 : (Jvm.Cond.static ({ cls := "PebblegateLaw", name := "keptText", desc := "(LPebblegate;ILPebblegateLaw$Out;)I" } : Jvm.MethodName)) ∈ lw_all := lw_g (lw_at lw_m7 174 rfl) rfl
theorem q1686 : (Jvm.Cond.codeWith ({ cls := "PebblegateLaw", name := "keptText", desc := "(LPebblegate;ILPebblegateLaw$Out;)I" } : Jvm.MethodName) method_15_code (4 : Nat) (Option.some Jvm.ClassFile.FieldType.int) [((0 : Nat), (9 : Nat), (12 : Nat), (25 : Nat))]) ∈ lw_all := lw_g (lw_at lw_m7 175 rfl) rfl
theorem q1687 : (Jvm.Cond.methodLink "PebblegateLaw" (62 : Nat) ({ cls := "Pebblegate", name := "keptText", desc := "(I)Ljava/lang/String;" } : Jvm.MethodName)) ∈ lw_all := lw_g (lw_at lw_m7 176 rfl) rfl
theorem q1691 : (Jvm.Cond.methodLink "PebblegateLaw" (188 : Nat) ({ cls := "PebblegateLaw", name := "can", desc := "(LPebblegate;IZLPebblegateLaw$Out;)I" } : Jvm.MethodName)) ∈ lw_all := lw_g (lw_at lw_m7 180 rfl) rfl
theorem q1692 : (Jvm.Cond.static ({ cls := "PebblegateLaw", name := "can", desc := "(LPebblegate;IZLPebblegateLaw$Out;)I" } : Jvm.MethodName)) ∈ lw_all := lw_g (lw_at lw_m7 181 rfl) rfl
theorem q1693 : (Jvm.Cond.codeWith ({ cls := "PebblegateLaw", name := "can", desc := "(LPebblegate;IZLPebblegateLaw$Out;)I" } : Jvm.MethodName) method_16_code (5 : Nat) (Option.some Jvm.ClassFile.FieldType.int) [((0 : Nat), (18 : Nat), (21 : Nat), (25 : Nat))]) ∈ lw_all := lw_g (lw_at lw_m7 182 rfl) rfl
theorem q1694 : (Jvm.Cond.methodLink "PebblegateLaw" (70 : Nat) ({ cls := "Pebblegate", name := "can", desc := "(IZ)Z" } : Jvm.MethodName)) ∈ lw_all := lw_g (lw_at lw_m7 183 rfl) rfl
theorem q1698 : (Jvm.Cond.methodLink "PebblegateLaw" (196 : Nat) ({ cls := "PebblegateLaw", name := "touches", desc := "(LPebblegate;ILPebblegateLaw$Out;)I" } : Jvm.MethodName)) ∈ lw_all := lw_g (lw_at lw_m7 187 rfl) rfl
theorem q1699 : (Jvm.Cond.static ({ cls := "PebblegateLaw", name := "touches", desc := "(LPebblegate;ILPebblegateLaw$Out;)I" } : Jvm.MethodName)) ∈ lw_all := lw_g (lw_at lw_m7 188 rfl) rfl
theorem q1700 : (Jvm.Cond.codeWith ({ cls := "PebblegateLaw", name := "touches", desc := "(LPebblegate;ILPebblegateLaw$Out;)I" } : Jvm.MethodName) method_17_code (4 : Nat) (Option.some Jvm.ClassFile.FieldType.int) [((0 : Nat), (10 : Nat), (13 : Nat), (25 : Nat))]) ∈ lw_all := lw_g (lw_at lw_m7 189 rfl) rfl
theorem q1701 : (Jvm.Cond.methodLink "PebblegateLaw" (74 : Nat) ({ cls := "Pebblegate", name := "touches", desc := "(I)I" } : Jvm.MethodName)) ∈ lw_all := lw_g (lw_at lw_m7 190 rfl) rfl
theorem q1712 : (Jvm.Cond.methodLink "PebblegateLaw" (199 : Nat) ({ cls := "PebblegateLaw", name := "areApart", desc := "(LPebblegate;IILPebblegateLaw$Out;)I" } : Jvm.MethodName)) ∈ lw_all := lw_g (lw_at lw_m7 201 rfl) rfl
theorem q1713 : (Jvm.Cond.static ({ cls := "PebblegateLaw", name := "areApart", desc := "(LPebblegate;IILPebblegateLaw$Out;)I" } : Jvm.MethodName)) ∈ lw_all := lw_g (lw_at lw_m7 202 rfl) rfl
theorem q1714 : (Jvm.Cond.codeWith ({ cls := "PebblegateLaw", name := "areApart", desc := "(LPebblegate;IILPebblegateLaw$Out;)I" } : Jvm.MethodName) method_18_code (5 : Nat) (Option.some Jvm.ClassFile.FieldType.int) [((0 : Nat), (18 : Nat), (21 : Nat), (25 : Nat))]) ∈ lw_all := lw_g (lw_at lw_m7 203 rfl) rfl
theorem q1715 : (Jvm.Cond.methodLink "PebblegateLaw" (77 : Nat) ({ cls := "Pebblegate", name := "areApart", desc := "(II)Z" } : Jvm.MethodName)) ∈ lw_all := lw_g (lw_at lw_m7 204 rfl) rfl
theorem q1723 : (Jvm.Cond.methodLink "PebblegateLaw" (206 : Nat) ({ cls := "PebblegateLaw", name := "reachedText", desc := "(LPebblegate;ILPebblegateLaw$Out;)I" } : Jvm.MethodName)) ∈ lw_all := lw_g (lw_at lw_m7 212 rfl) rfl
theorem q1724 : (Jvm.Cond.static ({ cls := "PebblegateLaw", name := "reachedText", desc := "(LPebblegate;ILPebblegateLaw$Out;)I" } : Jvm.MethodName)) ∈ lw_all := lw_g (lw_at lw_m7 213 rfl) rfl
theorem q1725 : (Jvm.Cond.codeWith ({ cls := "PebblegateLaw", name := "reachedText", desc := "(LPebblegate;ILPebblegateLaw$Out;)I" } : Jvm.MethodName) method_19_code (4 : Nat) (Option.some Jvm.ClassFile.FieldType.int) [((0 : Nat), (9 : Nat), (12 : Nat), (19 : Nat))]) ∈ lw_all := lw_g (lw_at lw_m7 214 rfl) rfl
theorem q1726 : (Jvm.Cond.methodLink "PebblegateLaw" (81 : Nat) ({ cls := "Pebblegate", name := "reachedText", desc := "(I)Ljava/lang/String;" } : Jvm.MethodName)) ∈ lw_all := lw_g (lw_at lw_m7 215 rfl) rfl
theorem q1734 : (Jvm.Cond.methodLink "PebblegateLaw" (209 : Nat) ({ cls := "PebblegateLaw", name := "number", desc := "(LPebblegate;ILPebblegateLaw$Out;)I" } : Jvm.MethodName)) ∈ lw_all := lw_g (lw_at lw_m7 223 rfl) rfl
theorem q1735 : (Jvm.Cond.static ({ cls := "PebblegateLaw", name := "number", desc := "(LPebblegate;ILPebblegateLaw$Out;)I" } : Jvm.MethodName)) ∈ lw_all := lw_g (lw_at lw_m7 224 rfl) rfl
theorem q1736 : (Jvm.Cond.codeWith ({ cls := "PebblegateLaw", name := "number", desc := "(LPebblegate;ILPebblegateLaw$Out;)I" } : Jvm.MethodName) method_20_code (4 : Nat) (Option.some Jvm.ClassFile.FieldType.int) [((0 : Nat), (10 : Nat), (13 : Nat), (25 : Nat))]) ∈ lw_all := lw_g (lw_at lw_m7 225 rfl) rfl
theorem q1737 : (Jvm.Cond.methodLink "PebblegateLaw" (84 : Nat) ({ cls := "Pebblegate", name := "number", desc := "(I)I" } : Jvm.MethodName)) ∈ lw_all := lw_g (lw_at lw_m7 226 rfl) rfl
theorem q1741 : (Jvm.Cond.methodLink "PebblegateLaw" (212 : Nat) ({ cls := "PebblegateLaw", name := "way", desc := "(LPebblegate;IILPebblegateLaw$Out;)I" } : Jvm.MethodName)) ∈ lw_all := lw_g (lw_at lw_m7 230 rfl) rfl
theorem q1742 : (Jvm.Cond.static ({ cls := "PebblegateLaw", name := "way", desc := "(LPebblegate;IILPebblegateLaw$Out;)I" } : Jvm.MethodName)) ∈ lw_all := lw_g (lw_at lw_m7 231 rfl) rfl
theorem q1743 : (Jvm.Cond.codeWith ({ cls := "PebblegateLaw", name := "way", desc := "(LPebblegate;IILPebblegateLaw$Out;)I" } : Jvm.MethodName) method_21_code (5 : Nat) (Option.some Jvm.ClassFile.FieldType.int) [((0 : Nat), (10 : Nat), (13 : Nat), (25 : Nat)), ((0 : Nat), (10 : Nat), (17 : Nat), (19 : Nat))]) ∈ lw_all := lw_g (lw_at lw_m7 232 rfl) rfl
theorem q1744 : (Jvm.Cond.methodLink "PebblegateLaw" (87 : Nat) ({ cls := "Pebblegate", name := "way", desc := "(II)Ljava/lang/String;" } : Jvm.MethodName)) ∈ lw_all := lw_g (lw_at lw_m7 233 rfl) rfl
theorem q1762 : (Jvm.Cond.methodLink "PebblegateLaw" (219 : Nat) ({ cls := "PebblegateLaw", name := "chances", desc := "(LPebblegate;ILPebblegateLaw$Out;)I" } : Jvm.MethodName)) ∈ lw_all := lw_g (lw_at lw_m8 11 rfl) rfl
theorem q1763 : (Jvm.Cond.static ({ cls := "PebblegateLaw", name := "chances", desc := "(LPebblegate;ILPebblegateLaw$Out;)I" } : Jvm.MethodName)) ∈ lw_all := lw_g (lw_at lw_m8 12 rfl) rfl
theorem q1764 : (Jvm.Cond.codeWith ({ cls := "PebblegateLaw", name := "chances", desc := "(LPebblegate;ILPebblegateLaw$Out;)I" } : Jvm.MethodName) method_22_code (4 : Nat) (Option.some Jvm.ClassFile.FieldType.int) [((0 : Nat), (10 : Nat), (13 : Nat), (25 : Nat))]) ∈ lw_all := lw_g (lw_at lw_m8 13 rfl) rfl
theorem q1765 : (Jvm.Cond.methodLink "PebblegateLaw" (91 : Nat) ({ cls := "Pebblegate", name := "chances", desc := "(I)I" } : Jvm.MethodName)) ∈ lw_all := lw_g (lw_at lw_m8 14 rfl) rfl
theorem q1769 : (Jvm.Cond.methodLink "PebblegateLaw" (222 : Nat) ({ cls := "PebblegateLaw", name := "again", desc := "(LPebblegate;ILPebblegateLaw$Out;)I" } : Jvm.MethodName)) ∈ lw_all := lw_g (lw_at lw_m8 18 rfl) rfl
theorem q1770 : (Jvm.Cond.static ({ cls := "PebblegateLaw", name := "again", desc := "(LPebblegate;ILPebblegateLaw$Out;)I" } : Jvm.MethodName)) ∈ lw_all := lw_g (lw_at lw_m8 19 rfl) rfl
theorem q1771 : (Jvm.Cond.codeWith ({ cls := "PebblegateLaw", name := "again", desc := "(LPebblegate;ILPebblegateLaw$Out;)I" } : Jvm.MethodName) method_23_code (4 : Nat) (Option.some Jvm.ClassFile.FieldType.int) [((0 : Nat), (10 : Nat), (13 : Nat), (25 : Nat))]) ∈ lw_all := lw_g (lw_at lw_m8 20 rfl) rfl
theorem q1772 : (Jvm.Cond.methodLink "PebblegateLaw" (94 : Nat) ({ cls := "Pebblegate", name := "again", desc := "(I)I" } : Jvm.MethodName)) ∈ lw_all := lw_g (lw_at lw_m8 21 rfl) rfl
theorem q1780 : (Jvm.Cond.methodLink "PebblegateLaw" (229 : Nat) ({ cls := "PebblegateLaw", name := "comesBack", desc := "(LPebblegate;ILPebblegateLaw$Out;)I" } : Jvm.MethodName)) ∈ lw_all := lw_g (lw_at lw_m8 29 rfl) rfl
theorem q1781 : (Jvm.Cond.static ({ cls := "PebblegateLaw", name := "comesBack", desc := "(LPebblegate;ILPebblegateLaw$Out;)I" } : Jvm.MethodName)) ∈ lw_all := lw_g (lw_at lw_m8 30 rfl) rfl
theorem q1782 : (Jvm.Cond.codeWith ({ cls := "PebblegateLaw", name := "comesBack", desc := "(LPebblegate;ILPebblegateLaw$Out;)I" } : Jvm.MethodName) method_24_code (4 : Nat) (Option.some Jvm.ClassFile.FieldType.int) [((0 : Nat), (10 : Nat), (13 : Nat), (19 : Nat))]) ∈ lw_all := lw_g (lw_at lw_m8 31 rfl) rfl
theorem q1783 : (Jvm.Cond.methodLink "PebblegateLaw" (97 : Nat) ({ cls := "Pebblegate", name := "comesBack", desc := "(I)I" } : Jvm.MethodName)) ∈ lw_all := lw_g (lw_at lw_m8 32 rfl) rfl
theorem q1791 : (Jvm.Cond.methodLink "PebblegateLaw" (236 : Nat) ({ cls := "PebblegateLaw", name := "most", desc := "(LPebblegate;ILPebblegateLaw$Out;)I" } : Jvm.MethodName)) ∈ lw_all := lw_g (lw_at lw_m8 40 rfl) rfl
theorem q1792 : (Jvm.Cond.static ({ cls := "PebblegateLaw", name := "most", desc := "(LPebblegate;ILPebblegateLaw$Out;)I" } : Jvm.MethodName)) ∈ lw_all := lw_g (lw_at lw_m8 41 rfl) rfl
theorem q1793 : (Jvm.Cond.codeWith ({ cls := "PebblegateLaw", name := "most", desc := "(LPebblegate;ILPebblegateLaw$Out;)I" } : Jvm.MethodName) method_25_code (4 : Nat) (Option.some Jvm.ClassFile.FieldType.int) [((0 : Nat), (10 : Nat), (13 : Nat), (25 : Nat))]) ∈ lw_all := lw_g (lw_at lw_m8 42 rfl) rfl
theorem q1794 : (Jvm.Cond.methodLink "PebblegateLaw" (100 : Nat) ({ cls := "Pebblegate", name := "most", desc := "(I)I" } : Jvm.MethodName)) ∈ lw_all := lw_g (lw_at lw_m8 43 rfl) rfl
theorem q1799 : (Jvm.Cond.methodLink "PebblegateLaw" (247 : Nat) ({ cls := "PebblegateLaw", name := "weighing", desc := "(LPebblegate;IILPebblegateLaw$Out;)I" } : Jvm.MethodName)) ∈ lw_all := lw_g (lw_at lw_m8 48 rfl) rfl
theorem q1800 : (Jvm.Cond.static ({ cls := "PebblegateLaw", name := "weighing", desc := "(LPebblegate;IILPebblegateLaw$Out;)I" } : Jvm.MethodName)) ∈ lw_all := lw_g (lw_at lw_m8 49 rfl) rfl
theorem q1801 : (Jvm.Cond.codeWith ({ cls := "PebblegateLaw", name := "weighing", desc := "(LPebblegate;IILPebblegateLaw$Out;)I" } : Jvm.MethodName) method_26_code (5 : Nat) (Option.some Jvm.ClassFile.FieldType.int) [((0 : Nat), (11 : Nat), (14 : Nat), (25 : Nat)), ((0 : Nat), (11 : Nat), (18 : Nat), (19 : Nat))]) ∈ lw_all := lw_g (lw_at lw_m8 50 rfl) rfl
theorem q1802 : (Jvm.Cond.methodLink "PebblegateLaw" (103 : Nat) ({ cls := "Pebblegate", name := "weighing", desc := "(II)I" } : Jvm.MethodName)) ∈ lw_all := lw_g (lw_at lw_m8 51 rfl) rfl
theorem q1806 : (Jvm.Cond.methodLink "PebblegateLaw" (250 : Nat) ({ cls := "PebblegateLaw", name := "weight", desc := "(LPebblegate;IILPebblegateLaw$Out;)I" } : Jvm.MethodName)) ∈ lw_all := lw_g (lw_at lw_m8 55 rfl) rfl
theorem q1807 : (Jvm.Cond.static ({ cls := "PebblegateLaw", name := "weight", desc := "(LPebblegate;IILPebblegateLaw$Out;)I" } : Jvm.MethodName)) ∈ lw_all := lw_g (lw_at lw_m8 56 rfl) rfl
theorem q1808 : (Jvm.Cond.codeWith ({ cls := "PebblegateLaw", name := "weight", desc := "(LPebblegate;IILPebblegateLaw$Out;)I" } : Jvm.MethodName) method_27_code (5 : Nat) (Option.some Jvm.ClassFile.FieldType.int) [((0 : Nat), (11 : Nat), (14 : Nat), (25 : Nat)), ((0 : Nat), (11 : Nat), (18 : Nat), (19 : Nat))]) ∈ lw_all := lw_g (lw_at lw_m8 57 rfl) rfl
theorem q1809 : (Jvm.Cond.methodLink "PebblegateLaw" (106 : Nat) ({ cls := "Pebblegate", name := "weight", desc := "(II)I" } : Jvm.MethodName)) ∈ lw_all := lw_g (lw_at lw_m8 58 rfl) rfl
theorem q1813 : (Jvm.Cond.methodLink "PebblegateLaw" (253 : Nat) ({ cls := "PebblegateLaw", name := "house", desc := "(LPebblegate;ILPebblegateLaw$Out;)I" } : Jvm.MethodName)) ∈ lw_all := lw_g (lw_at lw_m8 62 rfl) rfl
theorem q1814 : (Jvm.Cond.static ({ cls := "PebblegateLaw", name := "house", desc := "(LPebblegate;ILPebblegateLaw$Out;)I" } : Jvm.MethodName)) ∈ lw_all := lw_g (lw_at lw_m8 63 rfl) rfl
theorem q1815 : (Jvm.Cond.codeWith ({ cls := "PebblegateLaw", name := "house", desc := "(LPebblegate;ILPebblegateLaw$Out;)I" } : Jvm.MethodName) method_28_code (4 : Nat) (Option.some Jvm.ClassFile.FieldType.int) [((0 : Nat), (10 : Nat), (13 : Nat), (19 : Nat))]) ∈ lw_all := lw_g (lw_at lw_m8 64 rfl) rfl
theorem q1816 : (Jvm.Cond.methodLink "PebblegateLaw" (109 : Nat) ({ cls := "Pebblegate", name := "house", desc := "(I)I" } : Jvm.MethodName)) ∈ lw_all := lw_g (lw_at lw_m8 65 rfl) rfl
theorem q1820 : (Jvm.Cond.classLink "PebblegateLaw" (113 : Nat) "PebblegateModel") ∈ lw_all := lw_g (lw_at lw_m8 69 rfl) rfl
theorem q1822 : (Jvm.Cond.methodLink "PebblegateLaw" (115 : Nat) ({ cls := "PebblegateModel", name := "<init>", desc := "()V" } : Jvm.MethodName)) ∈ lw_all := lw_g (lw_at lw_m8 71 rfl) rfl
theorem q1863 : (Jvm.Cond.methodLink "PebblegateLaw" (123 : Nat) ({ cls := "PebblegateModel", name := "thrown", desc := "()I" } : Jvm.MethodName)) ∈ lw_all := lw_g (lw_at lw_m8 112 rfl) rfl
theorem q1867 : (Jvm.Cond.methodLink "PebblegateLaw" (122 : Nat) ({ cls := "PebblegateModel", name := "begin", desc := "(I)I" } : Jvm.MethodName)) ∈ lw_all := lw_g (lw_at lw_m8 116 rfl) rfl
theorem q1882 : (Jvm.Cond.methodLink "PebblegateLaw" (130 : Nat) ({ cls := "PebblegateModel", name := "step", desc := "()I" } : Jvm.MethodName)) ∈ lw_all := lw_g (lw_at lw_m8 131 rfl) rfl
theorem q1890 : (Jvm.Cond.methodLink "PebblegateLaw" (134 : Nat) ({ cls := "PebblegateModel", name := "arc", desc := "(IIII)I" } : Jvm.MethodName)) ∈ lw_all := lw_g (lw_at lw_m8 139 rfl) rfl
theorem q1902 : (Jvm.Cond.methodLink "PebblegateLaw" (137 : Nat) ({ cls := "PebblegateModel", name := "strike", desc := "(I)I" } : Jvm.MethodName)) ∈ lw_all := lw_g (lw_at lw_m8 151 rfl) rfl
theorem q1906 : (Jvm.Cond.methodLink "PebblegateLaw" (141 : Nat) ({ cls := "PebblegateModel", name := "turn", desc := "()I" } : Jvm.MethodName)) ∈ lw_all := lw_g (lw_at lw_m8 155 rfl) rfl
theorem q1910 : (Jvm.Cond.methodLink "PebblegateLaw" (145 : Nat) ({ cls := "PebblegateModel", name := "set", desc := "(II)I" } : Jvm.MethodName)) ∈ lw_all := lw_g (lw_at lw_m8 159 rfl) rfl
theorem q1914 : (Jvm.Cond.methodLink "PebblegateLaw" (148 : Nat) ({ cls := "PebblegateModel", name := "add", desc := "(II)I" } : Jvm.MethodName)) ∈ lw_all := lw_g (lw_at lw_m8 163 rfl) rfl
theorem q1918 : (Jvm.Cond.methodLink "PebblegateLaw" (151 : Nat) ({ cls := "PebblegateModel", name := "go", desc := "(I)I" } : Jvm.MethodName)) ∈ lw_all := lw_g (lw_at lw_m8 167 rfl) rfl
theorem q1947 : (Jvm.Cond.methodLink "PebblegateLaw" (154 : Nat) ({ cls := "PebblegateModel", name := "back", desc := "(I)I" } : Jvm.MethodName)) ∈ lw_all := lw_g (lw_at lw_m8 196 rfl) rfl
theorem q1951 : (Jvm.Cond.methodLink "PebblegateLaw" (157 : Nat) ({ cls := "PebblegateModel", name := "run", desc := "(I)I" } : Jvm.MethodName)) ∈ lw_all := lw_g (lw_at lw_m8 200 rfl) rfl
theorem q1955 : (Jvm.Cond.methodLink "PebblegateLaw" (160 : Nat) ({ cls := "PebblegateModel", name := "keep", desc := "(I)I" } : Jvm.MethodName)) ∈ lw_all := lw_g (lw_at lw_m8 204 rfl) rfl
theorem q1966 : (Jvm.Cond.methodLink "PebblegateLaw" (163 : Nat) ({ cls := "PebblegateModel", name := "recall", desc := "(I)I" } : Jvm.MethodName)) ∈ lw_all := lw_g (lw_at lw_m8 215 rfl) rfl
theorem q1970 : (Jvm.Cond.methodLink "PebblegateLaw" (166 : Nat) ({ cls := "PebblegateModel", name := "follow", desc := "(I)I" } : Jvm.MethodName)) ∈ lw_all := lw_g (lw_at lw_m8 219 rfl) rfl
theorem q1992 : (Jvm.Cond.methodLink "PebblegateLaw" (170 : Nat) ({ cls := "PebblegateModel", name := "ofArc", desc := "(III)I" } : Jvm.MethodName)) ∈ lw_all := lw_g (lw_at lw_m9 1 rfl) rfl
theorem q1996 : (Jvm.Cond.methodLink "PebblegateLaw" (173 : Nat) ({ cls := "PebblegateModel", name := "marks", desc := "(I)I" } : Jvm.MethodName)) ∈ lw_all := lw_g (lw_at lw_m9 5 rfl) rfl
theorem q2000 : (Jvm.Cond.methodLink "PebblegateLaw" (178 : Nat) ({ cls := "PebblegateModel", name := "text", desc := "()Ljava/lang/String;" } : Jvm.MethodName)) ∈ lw_all := lw_g (lw_at lw_m9 9 rfl) rfl
theorem q2015 : (Jvm.Cond.methodLink "PebblegateLaw" (187 : Nat) ({ cls := "PebblegateModel", name := "keptText", desc := "(I)Ljava/lang/String;" } : Jvm.MethodName)) ∈ lw_all := lw_g (lw_at lw_m9 24 rfl) rfl
theorem q2019 : (Jvm.Cond.methodLink "PebblegateLaw" (191 : Nat) ({ cls := "PebblegateModel", name := "can", desc := "(IZ)Z" } : Jvm.MethodName)) ∈ lw_all := lw_g (lw_at lw_m9 28 rfl) rfl
theorem q2023 : (Jvm.Cond.methodLink "PebblegateLaw" (195 : Nat) ({ cls := "PebblegateModel", name := "going", desc := "()I" } : Jvm.MethodName)) ∈ lw_all := lw_g (lw_at lw_m9 32 rfl) rfl
theorem q2027 : (Jvm.Cond.methodLink "PebblegateLaw" (198 : Nat) ({ cls := "PebblegateModel", name := "touches", desc := "(I)I" } : Jvm.MethodName)) ∈ lw_all := lw_g (lw_at lw_m9 36 rfl) rfl
theorem q2035 : (Jvm.Cond.methodLink "PebblegateLaw" (201 : Nat) ({ cls := "PebblegateModel", name := "areApart", desc := "(II)Z" } : Jvm.MethodName)) ∈ lw_all := lw_g (lw_at lw_m9 44 rfl) rfl
theorem q2039 : (Jvm.Cond.methodLink "PebblegateLaw" (205 : Nat) ({ cls := "PebblegateModel", name := "reached", desc := "()I" } : Jvm.MethodName)) ∈ lw_all := lw_g (lw_at lw_m9 48 rfl) rfl
theorem q2043 : (Jvm.Cond.methodLink "PebblegateLaw" (208 : Nat) ({ cls := "PebblegateModel", name := "reachedText", desc := "(I)Ljava/lang/String;" } : Jvm.MethodName)) ∈ lw_all := lw_g (lw_at lw_m9 52 rfl) rfl
theorem q2048 : (Jvm.Cond.methodLink "PebblegateLaw" (211 : Nat) ({ cls := "PebblegateModel", name := "number", desc := "(I)I" } : Jvm.MethodName)) ∈ lw_all := lw_g (lw_at lw_m9 57 rfl) rfl
theorem q2052 : (Jvm.Cond.methodLink "PebblegateLaw" (214 : Nat) ({ cls := "PebblegateModel", name := "way", desc := "(II)Ljava/lang/String;" } : Jvm.MethodName)) ∈ lw_all := lw_g (lw_at lw_m9 61 rfl) rfl
theorem q2073 : (Jvm.Cond.methodLink "PebblegateLaw" (218 : Nat) ({ cls := "PebblegateModel", name := "deads", desc := "()I" } : Jvm.MethodName)) ∈ lw_all := lw_g (lw_at lw_m9 82 rfl) rfl
theorem q2077 : (Jvm.Cond.methodLink "PebblegateLaw" (221 : Nat) ({ cls := "PebblegateModel", name := "chances", desc := "(I)I" } : Jvm.MethodName)) ∈ lw_all := lw_g (lw_at lw_m9 86 rfl) rfl
theorem q2081 : (Jvm.Cond.methodLink "PebblegateLaw" (224 : Nat) ({ cls := "PebblegateModel", name := "again", desc := "(I)I" } : Jvm.MethodName)) ∈ lw_all := lw_g (lw_at lw_m9 90 rfl) rfl
theorem q2093 : (Jvm.Cond.methodLink "PebblegateLaw" (228 : Nat) ({ cls := "PebblegateModel", name := "rings", desc := "()I" } : Jvm.MethodName)) ∈ lw_all := lw_g (lw_at lw_m9 102 rfl) rfl
theorem q2097 : (Jvm.Cond.methodLink "PebblegateLaw" (231 : Nat) ({ cls := "PebblegateModel", name := "comesBack", desc := "(I)I" } : Jvm.MethodName)) ∈ lw_all := lw_g (lw_at lw_m9 106 rfl) rfl
theorem q2101 : (Jvm.Cond.methodLink "PebblegateLaw" (235 : Nat) ({ cls := "PebblegateModel", name := "nodes", desc := "()I" } : Jvm.MethodName)) ∈ lw_all := lw_g (lw_at lw_m9 110 rfl) rfl
theorem q2113 : (Jvm.Cond.methodLink "PebblegateLaw" (238 : Nat) ({ cls := "PebblegateModel", name := "most", desc := "(I)I" } : Jvm.MethodName)) ∈ lw_all := lw_g (lw_at lw_m9 122 rfl) rfl
theorem q2122 : (Jvm.Cond.methodLink "PebblegateLaw" (242 : Nat) ({ cls := "PebblegateModel", name := "manies", desc := "()I" } : Jvm.MethodName)) ∈ lw_all := lw_g (lw_at lw_m9 131 rfl) rfl
theorem q2126 : (Jvm.Cond.methodLink "PebblegateLaw" (246 : Nat) ({ cls := "PebblegateModel", name := "weighings", desc := "()I" } : Jvm.MethodName)) ∈ lw_all := lw_g (lw_at lw_m9 135 rfl) rfl
theorem q2145 : (Jvm.Cond.methodLink "PebblegateLaw" (249 : Nat) ({ cls := "PebblegateModel", name := "weighing", desc := "(II)I" } : Jvm.MethodName)) ∈ lw_all := lw_g (lw_at lw_m9 154 rfl) rfl
theorem q2149 : (Jvm.Cond.methodLink "PebblegateLaw" (252 : Nat) ({ cls := "PebblegateModel", name := "weight", desc := "(II)I" } : Jvm.MethodName)) ∈ lw_all := lw_g (lw_at lw_m9 158 rfl) rfl
theorem q2153 : (Jvm.Cond.methodLink "PebblegateLaw" (255 : Nat) ({ cls := "PebblegateModel", name := "house", desc := "(I)I" } : Jvm.MethodName)) ∈ lw_all := lw_g (lw_at lw_m9 162 rfl) rfl
theorem q2157 : (Jvm.Cond.methodLink "PebblegateLaw" (259 : Nat) ({ cls := "PebblegateModel", name := "knock", desc := "()I" } : Jvm.MethodName)) ∈ lw_all := lw_g (lw_at lw_m9 166 rfl) rfl
theorem q2161 : (Jvm.Cond.methodLink "PebblegateLaw" (264 : Nat) ({ cls := "PebblegateModel", name := "isSound", desc := "()Z" } : Jvm.MethodName)) ∈ lw_all := lw_g (lw_at lw_m9 170 rfl) rfl
theorem q2165 : (Jvm.Cond.methodLink "PebblegateLaw" (269 : Nat) ({ cls := "PebblegateModel", name := "digest", desc := "()J" } : Jvm.MethodName)) ∈ lw_all := lw_g (lw_at lw_m9 174 rfl) rfl
theorem q2178 : (Jvm.Cond.methodLink "PebblegateLaw" (179 : Nat) ({ cls := "java/lang/String", name := "equals", desc := "(Ljava/lang/Object;)Z" } : Jvm.MethodName)) ∈ lw_all := lw_g (lw_at lw_m9 187 rfl) rfl

