-- J26.java_util_TreeMap_PrivateEntryIterator.lean.txt
/-! java/util/TreeMap$PrivateEntryIterator -/
set_option maxRecDepth 100000
def RJ26 : String := "java/util/TreeMap$PrivateEntryIterator"
abbrev cJ26_hasNext : ByteArray := prog_54_method_2_code
def yJ26_hasNext : MethodName := ⟨RJ26, "hasNext", "()Z"⟩
def dkwJ26_hasNext_0 : List UInt8 := [42, 180, 0, 26, 198, 0, 7, 4, 167, 0, 4, 3, 172]
abbrev dktJ26_hasNext_0 : List UInt8 := dkwJ26_hasNext_0 ++ []
theorem dksJ26_hasNext_0 : cJ26_hasNext.data.toList.drop 0 = dktJ26_hasNext_0 := by decide +kernel
theorem dJ26_hasNext_0 : decode cJ26_hasNext 0 = .ok (.aload_n 0, 1) := dk_42 (dk_at dksJ26_hasNext_0 0 rfl rfl)
theorem dJ26_hasNext_1 : decode cJ26_hasNext 1 = .ok (.getfield 26, 3) := dk_180 0 26 (dk_at dksJ26_hasNext_0 1 rfl rfl)
theorem dJ26_hasNext_4 : decode cJ26_hasNext 4 = .ok (.ifnull 7, 3) := dk_198 0 7 (dk_at dksJ26_hasNext_0 4 rfl rfl)
theorem dJ26_hasNext_7 : decode cJ26_hasNext 7 = .ok (.iconst 1, 1) := dk_4 (dk_at dksJ26_hasNext_0 7 rfl rfl)
theorem dJ26_hasNext_8 : decode cJ26_hasNext 8 = .ok (.goto 4, 3) := dk_167 0 4 (dk_at dksJ26_hasNext_0 8 rfl rfl)
theorem dJ26_hasNext_11 : decode cJ26_hasNext 11 = .ok (.iconst 0, 1) := dk_3 (dk_at dksJ26_hasNext_0 11 rfl rfl)
theorem dJ26_hasNext_12 : decode cJ26_hasNext 12 = .ok (.ireturn, 1) := dk_172 (dk_at dksJ26_hasNext_0 12 rfl rfl)
abbrev cJ26_nextEntry : ByteArray := prog_54_method_3_code
def yJ26_nextEntry : MethodName := ⟨RJ26, "nextEntry", "()Ljava/util/TreeMap$Entry;"⟩
def dkwJ26_nextEntry_2 : List UInt8 := [43, 181, 0, 22, 43, 176]
abbrev dktJ26_nextEntry_2 : List UInt8 := dkwJ26_nextEntry_2 ++ []
def dkwJ26_nextEntry_1 : List UInt8 := [42, 180, 0, 19, 159, 0, 11, 187, 0, 32, 89, 183, 0, 34, 191, 42, 43, 184, 0, 35, 181, 0, 26, 42]
abbrev dktJ26_nextEntry_1 : List UInt8 := dkwJ26_nextEntry_1 ++ dktJ26_nextEntry_2
def dkwJ26_nextEntry_0 : List UInt8 := [42, 180, 0, 26, 76, 43, 199, 0, 11, 187, 0, 29, 89, 183, 0, 31, 191, 42, 180, 0, 1, 180, 0, 13]
abbrev dktJ26_nextEntry_0 : List UInt8 := dkwJ26_nextEntry_0 ++ dktJ26_nextEntry_1
theorem dksJ26_nextEntry_0 : cJ26_nextEntry.data.toList.drop 0 = dktJ26_nextEntry_0 := by decide +kernel
theorem dksJ26_nextEntry_1 : cJ26_nextEntry.data.toList.drop 24 = dktJ26_nextEntry_1 := dk_seg dksJ26_nextEntry_0 24 rfl rfl
theorem dksJ26_nextEntry_2 : cJ26_nextEntry.data.toList.drop 48 = dktJ26_nextEntry_2 := dk_seg dksJ26_nextEntry_1 24 rfl rfl
theorem dJ26_nextEntry_0 : decode cJ26_nextEntry 0 = .ok (.aload_n 0, 1) := dk_42 (dk_at dksJ26_nextEntry_0 0 rfl rfl)
theorem dJ26_nextEntry_1 : decode cJ26_nextEntry 1 = .ok (.getfield 26, 3) := dk_180 0 26 (dk_at dksJ26_nextEntry_0 1 rfl rfl)
theorem dJ26_nextEntry_4 : decode cJ26_nextEntry 4 = .ok (.astore_n 1, 1) := dk_76 (dk_at dksJ26_nextEntry_0 4 rfl rfl)
theorem dJ26_nextEntry_5 : decode cJ26_nextEntry 5 = .ok (.aload_n 1, 1) := dk_43 (dk_at dksJ26_nextEntry_0 5 rfl rfl)
theorem dJ26_nextEntry_6 : decode cJ26_nextEntry 6 = .ok (.ifnonnull 11, 3) := dk_199 0 11 (dk_at dksJ26_nextEntry_0 6 rfl rfl)
theorem dJ26_nextEntry_9 : decode cJ26_nextEntry 9 = .ok (.new 29, 3) := dk_187 0 29 (dk_at dksJ26_nextEntry_0 9 rfl rfl)
theorem dJ26_nextEntry_12 : decode cJ26_nextEntry 12 = .ok (.dup, 1) := dk_89 (dk_at dksJ26_nextEntry_0 12 rfl rfl)
theorem dJ26_nextEntry_13 : decode cJ26_nextEntry 13 = .ok (.invokespecial 31, 3) := dk_183 0 31 (dk_at dksJ26_nextEntry_0 13 rfl rfl)
theorem dJ26_nextEntry_16 : decode cJ26_nextEntry 16 = .ok (.athrow, 1) := dk_191 (dk_at dksJ26_nextEntry_0 16 rfl rfl)
theorem dJ26_nextEntry_17 : decode cJ26_nextEntry 17 = .ok (.aload_n 0, 1) := dk_42 (dk_at dksJ26_nextEntry_0 17 rfl rfl)
theorem dJ26_nextEntry_18 : decode cJ26_nextEntry 18 = .ok (.getfield 1, 3) := dk_180 0 1 (dk_at dksJ26_nextEntry_0 18 rfl rfl)
theorem dJ26_nextEntry_21 : decode cJ26_nextEntry 21 = .ok (.getfield 13, 3) := dk_180 0 13 (dk_at dksJ26_nextEntry_0 21 rfl rfl)
theorem dJ26_nextEntry_24 : decode cJ26_nextEntry 24 = .ok (.aload_n 0, 1) := dk_42 (dk_at dksJ26_nextEntry_1 0 rfl rfl)
theorem dJ26_nextEntry_25 : decode cJ26_nextEntry 25 = .ok (.getfield 19, 3) := dk_180 0 19 (dk_at dksJ26_nextEntry_1 1 rfl rfl)
theorem dJ26_nextEntry_28 : decode cJ26_nextEntry 28 = .ok (.if_icmp .eq 11, 3) := dk_159 0 11 (dk_at dksJ26_nextEntry_1 4 rfl rfl)
theorem dJ26_nextEntry_31 : decode cJ26_nextEntry 31 = .ok (.new 32, 3) := dk_187 0 32 (dk_at dksJ26_nextEntry_1 7 rfl rfl)
theorem dJ26_nextEntry_34 : decode cJ26_nextEntry 34 = .ok (.dup, 1) := dk_89 (dk_at dksJ26_nextEntry_1 10 rfl rfl)
theorem dJ26_nextEntry_35 : decode cJ26_nextEntry 35 = .ok (.invokespecial 34, 3) := dk_183 0 34 (dk_at dksJ26_nextEntry_1 11 rfl rfl)
theorem dJ26_nextEntry_38 : decode cJ26_nextEntry 38 = .ok (.athrow, 1) := dk_191 (dk_at dksJ26_nextEntry_1 14 rfl rfl)
theorem dJ26_nextEntry_39 : decode cJ26_nextEntry 39 = .ok (.aload_n 0, 1) := dk_42 (dk_at dksJ26_nextEntry_1 15 rfl rfl)
theorem dJ26_nextEntry_40 : decode cJ26_nextEntry 40 = .ok (.aload_n 1, 1) := dk_43 (dk_at dksJ26_nextEntry_1 16 rfl rfl)
theorem dJ26_nextEntry_41 : decode cJ26_nextEntry 41 = .ok (.invokestatic 35, 3) := dk_184 0 35 (dk_at dksJ26_nextEntry_1 17 rfl rfl)
theorem dJ26_nextEntry_44 : decode cJ26_nextEntry 44 = .ok (.putfield 26, 3) := dk_181 0 26 (dk_at dksJ26_nextEntry_1 20 rfl rfl)
theorem dJ26_nextEntry_47 : decode cJ26_nextEntry 47 = .ok (.aload_n 0, 1) := dk_42 (dk_at dksJ26_nextEntry_1 23 rfl rfl)
theorem dJ26_nextEntry_48 : decode cJ26_nextEntry 48 = .ok (.aload_n 1, 1) := dk_43 (dk_at dksJ26_nextEntry_2 0 rfl rfl)
theorem dJ26_nextEntry_49 : decode cJ26_nextEntry 49 = .ok (.putfield 22, 3) := dk_181 0 22 (dk_at dksJ26_nextEntry_2 1 rfl rfl)
theorem dJ26_nextEntry_52 : decode cJ26_nextEntry 52 = .ok (.aload_n 1, 1) := dk_43 (dk_at dksJ26_nextEntry_2 4 rfl rfl)
theorem dJ26_nextEntry_53 : decode cJ26_nextEntry 53 = .ok (.areturn, 1) := dk_176 (dk_at dksJ26_nextEntry_2 5 rfl rfl)
abbrev cJ26_init : ByteArray := prog_54_method_1_code
def yJ26_init : MethodName := ⟨RJ26, "<init>", "(Ljava/util/TreeMap;Ljava/util/TreeMap$Entry;)V"⟩
def dkwJ26_init_1 : List UInt8 := [181, 0, 26, 177]
abbrev dktJ26_init_1 : List UInt8 := dkwJ26_init_1 ++ []
def dkwJ26_init_0 : List UInt8 := [42, 43, 181, 0, 1, 42, 183, 0, 7, 42, 43, 180, 0, 13, 181, 0, 19, 42, 1, 181, 0, 22, 42, 44]
abbrev dktJ26_init_0 : List UInt8 := dkwJ26_init_0 ++ dktJ26_init_1
theorem dksJ26_init_0 : cJ26_init.data.toList.drop 0 = dktJ26_init_0 := by decide +kernel
theorem dksJ26_init_1 : cJ26_init.data.toList.drop 24 = dktJ26_init_1 := dk_seg dksJ26_init_0 24 rfl rfl
theorem dJ26_init_0 : decode cJ26_init 0 = .ok (.aload_n 0, 1) := dk_42 (dk_at dksJ26_init_0 0 rfl rfl)
theorem dJ26_init_1 : decode cJ26_init 1 = .ok (.aload_n 1, 1) := dk_43 (dk_at dksJ26_init_0 1 rfl rfl)
theorem dJ26_init_2 : decode cJ26_init 2 = .ok (.putfield 1, 3) := dk_181 0 1 (dk_at dksJ26_init_0 2 rfl rfl)
theorem dJ26_init_5 : decode cJ26_init 5 = .ok (.aload_n 0, 1) := dk_42 (dk_at dksJ26_init_0 5 rfl rfl)
theorem dJ26_init_6 : decode cJ26_init 6 = .ok (.invokespecial 7, 3) := dk_183 0 7 (dk_at dksJ26_init_0 6 rfl rfl)
theorem dJ26_init_9 : decode cJ26_init 9 = .ok (.aload_n 0, 1) := dk_42 (dk_at dksJ26_init_0 9 rfl rfl)
theorem dJ26_init_10 : decode cJ26_init 10 = .ok (.aload_n 1, 1) := dk_43 (dk_at dksJ26_init_0 10 rfl rfl)
theorem dJ26_init_11 : decode cJ26_init 11 = .ok (.getfield 13, 3) := dk_180 0 13 (dk_at dksJ26_init_0 11 rfl rfl)
theorem dJ26_init_14 : decode cJ26_init 14 = .ok (.putfield 19, 3) := dk_181 0 19 (dk_at dksJ26_init_0 14 rfl rfl)
theorem dJ26_init_17 : decode cJ26_init 17 = .ok (.aload_n 0, 1) := dk_42 (dk_at dksJ26_init_0 17 rfl rfl)
theorem dJ26_init_18 : decode cJ26_init 18 = .ok (.aconst_null, 1) := dk_1 (dk_at dksJ26_init_0 18 rfl rfl)
theorem dJ26_init_19 : decode cJ26_init 19 = .ok (.putfield 22, 3) := dk_181 0 22 (dk_at dksJ26_init_0 19 rfl rfl)
theorem dJ26_init_22 : decode cJ26_init 22 = .ok (.aload_n 0, 1) := dk_42 (dk_at dksJ26_init_0 22 rfl rfl)
theorem dJ26_init_23 : decode cJ26_init 23 = .ok (.aload_n 2, 1) := dk_44 (dk_at dksJ26_init_0 23 rfl rfl)
theorem dJ26_init_24 : decode cJ26_init 24 = .ok (.putfield 26, 3) := dk_181 0 26 (dk_at dksJ26_init_1 0 rfl rfl)
theorem dJ26_init_27 : decode cJ26_init 27 = .ok (.return_, 1) := dk_177 (dk_at dksJ26_init_1 3 rfl rfl)
theorem q105 : (Jvm.Cond.initialized "java/util/TreeMap$PrivateEntryIterator") ∈ lw_all := lw_g (lw_at lw_m1 34 rfl) rfl
theorem q162 : (Jvm.Cond.fieldLinkNest "java/util/TreeMap$PrivateEntryIterator" (13 : Nat) "java/util/TreeMap" "modCount" "I" "java/util/TreeMap") ∈ lw_tbl := lw_at lw_m1 91 rfl
theorem q1240 : (Jvm.Cond.instanceMethod ({ cls := "java/util/TreeMap$PrivateEntryIterator", name := "hasNext", desc := "()Z" } : Jvm.MethodName)) ∈ lw_all := lw_g (lw_at lw_m5 209 rfl) rfl
theorem q1241 : (Jvm.Cond.publicMethod ({ cls := "java/util/TreeMap$PrivateEntryIterator", name := "hasNext", desc := "()Z" } : Jvm.MethodName)) ∈ lw_tbl := lw_at lw_m5 210 rfl
theorem q1242 : (Jvm.Cond.code ({ cls := "java/util/TreeMap$PrivateEntryIterator", name := "hasNext", desc := "()Z" } : Jvm.MethodName) prog_54_method_2_code (1 : Nat) (Option.some Jvm.ClassFile.FieldType.boolean)) ∈ lw_all := lw_g (lw_at lw_m5 211 rfl) rfl
theorem q1263 : (Jvm.Cond.declares ({ cls := "java/util/TreeMap$PrivateEntryIterator", name := "nextEntry", desc := "()Ljava/util/TreeMap$Entry;" } : Jvm.MethodName)) ∈ lw_tbl := lw_at lw_m5 232 rfl
theorem q1265 : (Jvm.Cond.instanceMethod ({ cls := "java/util/TreeMap$PrivateEntryIterator", name := "nextEntry", desc := "()Ljava/util/TreeMap$Entry;" } : Jvm.MethodName)) ∈ lw_all := lw_g (lw_at lw_m5 234 rfl) rfl
theorem q1266 : (Jvm.Cond.code ({ cls := "java/util/TreeMap$PrivateEntryIterator", name := "nextEntry", desc := "()Ljava/util/TreeMap$Entry;" } : Jvm.MethodName) prog_54_method_3_code (2 : Nat) (Option.some (Jvm.ClassFile.FieldType.object "java/util/TreeMap$Entry"))) ∈ lw_all := lw_g (lw_at lw_m5 235 rfl) rfl
theorem q1267 : (Jvm.Cond.methodLink "java/util/TreeMap$PrivateEntryIterator" (35 : Nat) ({ cls := "java/util/TreeMap", name := "successor", desc := "(Ljava/util/TreeMap$Entry;)Ljava/util/TreeMap$Entry;" } : Jvm.MethodName)) ∈ lw_all := lw_g (lw_at lw_m5 236 rfl) rfl
theorem q1432 : (Jvm.Cond.instanceMethod ({ cls := "java/util/TreeMap$PrivateEntryIterator", name := "<init>", desc := "(Ljava/util/TreeMap;Ljava/util/TreeMap$Entry;)V" } : Jvm.MethodName)) ∈ lw_all := lw_g (lw_at lw_m6 161 rfl) rfl
theorem q1433 : (Jvm.Cond.code ({ cls := "java/util/TreeMap$PrivateEntryIterator", name := "<init>", desc := "(Ljava/util/TreeMap;Ljava/util/TreeMap$Entry;)V" } : Jvm.MethodName) prog_54_method_1_code (3 : Nat) (Option.none : Option Jvm.ClassFile.FieldType)) ∈ lw_all := lw_g (lw_at lw_m6 162 rfl) rfl
theorem q1434 : (Jvm.Cond.methodLink "java/util/TreeMap$PrivateEntryIterator" (7 : Nat) ({ cls := "java/lang/Object", name := "<init>", desc := "()V" } : Jvm.MethodName)) ∈ lw_all := lw_g (lw_at lw_m6 163 rfl) rfl
theorem q1435 : (Jvm.Cond.fieldLink "java/util/TreeMap$PrivateEntryIterator" (26 : Nat) "java/util/TreeMap$PrivateEntryIterator" "next" "Ljava/util/TreeMap$Entry;") ∈ lw_all := lw_g (lw_at lw_m6 164 rfl) rfl
theorem q1436 : (Jvm.Cond.fieldLink "java/util/TreeMap$PrivateEntryIterator" (22 : Nat) "java/util/TreeMap$PrivateEntryIterator" "lastReturned" "Ljava/util/TreeMap$Entry;") ∈ lw_all := lw_g (lw_at lw_m6 165 rfl) rfl
theorem q1437 : (Jvm.Cond.fieldLink "java/util/TreeMap$PrivateEntryIterator" (19 : Nat) "java/util/TreeMap$PrivateEntryIterator" "expectedModCount" "I") ∈ lw_all := lw_g (lw_at lw_m6 166 rfl) rfl
theorem q1438 : (Jvm.Cond.fieldLink "java/util/TreeMap$PrivateEntryIterator" (1 : Nat) "java/util/TreeMap$PrivateEntryIterator" "this$0" "Ljava/util/TreeMap;") ∈ lw_all := lw_g (lw_at lw_m6 167 rfl) rfl
theorem q1440 : (Jvm.Cond.soleField "java/util/TreeMap$PrivateEntryIterator" "next") ∈ lw_all := lw_g (lw_at lw_m6 169 rfl) rfl
theorem q1442 : (Jvm.Cond.soleField "java/util/TreeMap$PrivateEntryIterator" "lastReturned") ∈ lw_all := lw_g (lw_at lw_m6 171 rfl) rfl
theorem q1444 : (Jvm.Cond.soleField "java/util/TreeMap$PrivateEntryIterator" "expectedModCount") ∈ lw_all := lw_g (lw_at lw_m6 173 rfl) rfl
theorem q1446 : (Jvm.Cond.soleField "java/util/TreeMap$PrivateEntryIterator" "this$0") ∈ lw_all := lw_g (lw_at lw_m6 175 rfl) rfl

-- J27.java_util_TreeMap_ValueIterator.lean.txt
/-! java/util/TreeMap$ValueIterator -/
set_option maxRecDepth 100000
def RJ27 : String := "java/util/TreeMap$ValueIterator"
def TJ27 : u_T := fun k => match k with
  | 0 => ("java/util/TreeMap$PrivateEntryIterator", "next", "Ljava/util/TreeMap$Entry;", false)
  | 1 => ("java/util/TreeMap$PrivateEntryIterator", "lastReturned", "Ljava/util/TreeMap$Entry;", false)
  | 2 => ("java/util/TreeMap$PrivateEntryIterator", "expectedModCount", "I", false)
  | _ => ("java/util/TreeMap$PrivateEntryIterator", "this$0", "Ljava/util/TreeMap;", true)
def tyJ27 : Nat → FieldType := fun k => match k with
  | 0 => .object "java/util/TreeMap$Entry"
  | 1 => .object "java/util/TreeMap$Entry"
  | 2 => .int
  | _ => .object "java/util/TreeMap"
abbrev wsJ270 : List Cond := u_ws RJ27 TJ27 4
theorem nmJ27 : ∀ a, a < 4 → ∀ b, b < 4 → a ≠ b → (TJ27 a).2.1 ≠ (TJ27 b).2.1 := by decide +kernel
theorem tyJ27_ok : ∀ k, k < 4 → parseFieldDescriptor (TJ27 k).2.2.1 = some (tyJ27 k) := by decide +kernel
abbrev cJ27_next : ByteArray := prog_55_method_2_code
def yJ27_next : MethodName := ⟨RJ27, "next", "()Ljava/lang/Object;"⟩
def dkwJ27_next_0 : List UInt8 := [42, 182, 0, 7, 180, 0, 13, 176]
abbrev dktJ27_next_0 : List UInt8 := dkwJ27_next_0 ++ []
theorem dksJ27_next_0 : cJ27_next.data.toList.drop 0 = dktJ27_next_0 := by decide +kernel
theorem dJ27_next_0 : decode cJ27_next 0 = .ok (.aload_n 0, 1) := dk_42 (dk_at dksJ27_next_0 0 rfl rfl)
theorem dJ27_next_1 : decode cJ27_next 1 = .ok (.invokevirtual 7, 3) := dk_182 0 7 (dk_at dksJ27_next_0 1 rfl rfl)
theorem dJ27_next_4 : decode cJ27_next 4 = .ok (.getfield 13, 3) := dk_180 0 13 (dk_at dksJ27_next_0 4 rfl rfl)
theorem dJ27_next_7 : decode cJ27_next 7 = .ok (.areturn, 1) := dk_176 (dk_at dksJ27_next_0 7 rfl rfl)
abbrev cJ27_init : ByteArray := prog_55_method_1_code
def yJ27_init : MethodName := ⟨RJ27, "<init>", "(Ljava/util/TreeMap;Ljava/util/TreeMap$Entry;)V"⟩
def dkwJ27_init_0 : List UInt8 := [42, 43, 44, 183, 0, 1, 177]
abbrev dktJ27_init_0 : List UInt8 := dkwJ27_init_0 ++ []
theorem dksJ27_init_0 : cJ27_init.data.toList.drop 0 = dktJ27_init_0 := by decide +kernel
theorem dJ27_init_0 : decode cJ27_init 0 = .ok (.aload_n 0, 1) := dk_42 (dk_at dksJ27_init_0 0 rfl rfl)
theorem dJ27_init_1 : decode cJ27_init 1 = .ok (.aload_n 1, 1) := dk_43 (dk_at dksJ27_init_0 1 rfl rfl)
theorem dJ27_init_2 : decode cJ27_init 2 = .ok (.aload_n 2, 1) := dk_44 (dk_at dksJ27_init_0 2 rfl rfl)
theorem dJ27_init_3 : decode cJ27_init 3 = .ok (.invokespecial 1, 3) := dk_183 0 1 (dk_at dksJ27_init_0 3 rfl rfl)
theorem dJ27_init_6 : decode cJ27_init 6 = .ok (.return_, 1) := dk_177 (dk_at dksJ27_init_0 6 rfl rfl)
theorem q106 : (Jvm.Cond.initialized "java/util/TreeMap$ValueIterator") ∈ lw_all := lw_g (lw_at lw_m1 35 rfl) rfl
theorem q285 : (Jvm.Cond.selects "java/util/TreeMap$ValueIterator" ({ cls := "java/lang/Object", name := "getClass", desc := "()Ljava/lang/Class;" } : Jvm.MethodName) ({ cls := "java/lang/Object", name := "getClass", desc := "()Ljava/lang/Class;" } : Jvm.MethodName)) ∈ lw_all := lw_g (lw_at lw_m1 214 rfl) rfl
theorem q1056 : (Jvm.Cond.fieldLink "java/util/TreeMap$ValueIterator" (13 : Nat) "java/util/TreeMap$Entry" "value" "Ljava/lang/Object;") ∈ lw_all := lw_g (lw_at lw_m5 25 rfl) rfl
theorem q1237 : (Jvm.Cond.castable "java/util/TreeMap$ValueIterator" "java/util/Iterator") ∈ lw_tbl := lw_at lw_m5 206 rfl
theorem q1238 : (Jvm.Cond.selects "java/util/TreeMap$ValueIterator" ({ cls := "java/util/Iterator", name := "hasNext", desc := "()Z" } : Jvm.MethodName) ({ cls := "java/util/TreeMap$PrivateEntryIterator", name := "hasNext", desc := "()Z" } : Jvm.MethodName)) ∈ lw_all := lw_g (lw_at lw_m5 207 rfl) rfl
theorem q1239 : (Jvm.Cond.unhidden "java/util/TreeMap$ValueIterator" "hasNext" "()Z") ∈ lw_tbl := lw_at lw_m5 208 rfl
theorem q1256 : (Jvm.Cond.selects "java/util/TreeMap$ValueIterator" ({ cls := "java/util/Iterator", name := "next", desc := "()Ljava/lang/Object;" } : Jvm.MethodName) ({ cls := "java/util/TreeMap$ValueIterator", name := "next", desc := "()Ljava/lang/Object;" } : Jvm.MethodName)) ∈ lw_all := lw_g (lw_at lw_m5 225 rfl) rfl
theorem q1257 : (Jvm.Cond.unhidden "java/util/TreeMap$ValueIterator" "next" "()Ljava/lang/Object;") ∈ lw_tbl := lw_at lw_m5 226 rfl
theorem q1258 : (Jvm.Cond.instanceMethod ({ cls := "java/util/TreeMap$ValueIterator", name := "next", desc := "()Ljava/lang/Object;" } : Jvm.MethodName)) ∈ lw_all := lw_g (lw_at lw_m5 227 rfl) rfl
theorem q1259 : (Jvm.Cond.publicMethod ({ cls := "java/util/TreeMap$ValueIterator", name := "next", desc := "()Ljava/lang/Object;" } : Jvm.MethodName)) ∈ lw_tbl := lw_at lw_m5 228 rfl
theorem q1260 : (Jvm.Cond.code ({ cls := "java/util/TreeMap$ValueIterator", name := "next", desc := "()Ljava/lang/Object;" } : Jvm.MethodName) prog_55_method_2_code (1 : Nat) (Option.some (Jvm.ClassFile.FieldType.object "java/lang/Object"))) ∈ lw_all := lw_g (lw_at lw_m5 229 rfl) rfl
theorem q1261 : (Jvm.Cond.methodLink "java/util/TreeMap$ValueIterator" (7 : Nat) ({ cls := "java/util/TreeMap$ValueIterator", name := "nextEntry", desc := "()Ljava/util/TreeMap$Entry;" } : Jvm.MethodName)) ∈ lw_all := lw_g (lw_at lw_m5 230 rfl) rfl
theorem q1262 : (Jvm.Cond.sameMethod "java/util/TreeMap$ValueIterator" "java/util/TreeMap$PrivateEntryIterator" "nextEntry" "()Ljava/util/TreeMap$Entry;") ∈ lw_all := lw_g (lw_at lw_m5 231 rfl) rfl
theorem q1264 : (Jvm.Cond.selects "java/util/TreeMap$ValueIterator" ({ cls := "java/util/TreeMap$ValueIterator", name := "nextEntry", desc := "()Ljava/util/TreeMap$Entry;" } : Jvm.MethodName) ({ cls := "java/util/TreeMap$PrivateEntryIterator", name := "nextEntry", desc := "()Ljava/util/TreeMap$Entry;" } : Jvm.MethodName)) ∈ lw_all := lw_g (lw_at lw_m5 233 rfl) rfl
theorem q1423 : (Jvm.Cond.instantiable "java/util/TreeMap$ValueIterator" (4 : Nat)) ∈ lw_all := lw_g (lw_at lw_m6 152 rfl) rfl
theorem q1429 : (Jvm.Cond.instanceMethod ({ cls := "java/util/TreeMap$ValueIterator", name := "<init>", desc := "(Ljava/util/TreeMap;Ljava/util/TreeMap$Entry;)V" } : Jvm.MethodName)) ∈ lw_all := lw_g (lw_at lw_m6 158 rfl) rfl
theorem q1430 : (Jvm.Cond.code ({ cls := "java/util/TreeMap$ValueIterator", name := "<init>", desc := "(Ljava/util/TreeMap;Ljava/util/TreeMap$Entry;)V" } : Jvm.MethodName) prog_55_method_1_code (3 : Nat) (Option.none : Option Jvm.ClassFile.FieldType)) ∈ lw_all := lw_g (lw_at lw_m6 159 rfl) rfl
theorem q1431 : (Jvm.Cond.methodLink "java/util/TreeMap$ValueIterator" (1 : Nat) ({ cls := "java/util/TreeMap$PrivateEntryIterator", name := "<init>", desc := "(Ljava/util/TreeMap;Ljava/util/TreeMap$Entry;)V" } : Jvm.MethodName)) ∈ lw_all := lw_g (lw_at lw_m6 160 rfl) rfl
theorem q1439 : (Jvm.Cond.lays "java/util/TreeMap$ValueIterator" "java/util/TreeMap$PrivateEntryIterator" "next" "Ljava/util/TreeMap$Entry;") ∈ lw_all := lw_g (lw_at lw_m6 168 rfl) rfl
theorem q1441 : (Jvm.Cond.lays "java/util/TreeMap$ValueIterator" "java/util/TreeMap$PrivateEntryIterator" "lastReturned" "Ljava/util/TreeMap$Entry;") ∈ lw_all := lw_g (lw_at lw_m6 170 rfl) rfl
theorem q1443 : (Jvm.Cond.lays "java/util/TreeMap$ValueIterator" "java/util/TreeMap$PrivateEntryIterator" "expectedModCount" "I") ∈ lw_all := lw_g (lw_at lw_m6 172 rfl) rfl
theorem q1445 : (Jvm.Cond.laysFinal "java/util/TreeMap$ValueIterator" "java/util/TreeMap$PrivateEntryIterator" "this$0" "Ljava/util/TreeMap;") ∈ lw_all := lw_g (lw_at lw_m6 174 rfl) rfl
theorem q1447 : (Jvm.Cond.superclass "java/util/TreeMap$ValueIterator" "java/util/TreeMap$PrivateEntryIterator") ∈ lw_all := lw_g (lw_at lw_m6 176 rfl) rfl
theorem q2206 : (Jvm.Cond.castable "java/util/TreeMap$ValueIterator" "java/lang/Object") ∈ lw_tbl := lw_at lw_m9 215 rfl
theorem in_J27 : ∀ w ∈ wsJ270, w ∈ lw_all := lw_in wsJ270 [1439, 1441, 1443, 1445] (by decide +kernel) (by decide +kernel)

-- X5.Pebblegate_Reach.lean.txt
/-! Pebblegate$Reach -/
set_option maxRecDepth 100000
def RX5 : String := "Pebblegate$Reach"
def TX5 : u_T := fun k => match k with
  | 0 => ("Pebblegate$Reach", "all", "Ljava/util/ArrayList;", true)
  | 1 => ("Pebblegate$Reach", "numbers", "Ljava/util/TreeMap;", true)
  | 2 => ("Pebblegate$Reach", "ups", "[I", true)
  | 3 => ("Pebblegate$Reach", "bys", "[I", true)
  | 4 => ("Pebblegate$Reach", "next", "[I", true)
  | 5 => ("Pebblegate$Reach", "steps", "I", true)
  | _ => ("Pebblegate$Reach", "isWide", "Z", false)
def tyX5 : Nat → FieldType := fun k => match k with
  | 0 => .object "java/util/ArrayList"
  | 1 => .object "java/util/TreeMap"
  | 2 => .array .int
  | 3 => .array .int
  | 4 => .array .int
  | 5 => .int
  | _ => .boolean
abbrev wsX50 : List Cond := u_ws RX5 TX5 7
theorem nmX5 : ∀ a, a < 7 → ∀ b, b < 7 → a ≠ b → (TX5 a).2.1 ≠ (TX5 b).2.1 := by decide +kernel
theorem tyX5_ok : ∀ k, k < 7 → parseFieldDescriptor (TX5 k).2.2.1 = some (tyX5 k) := by decide +kernel
abbrev cX5_init : ByteArray := prog_2_method_1_code
def yX5_init : MethodName := ⟨RX5, "<init>", "([ILjava/util/ArrayList;)V"⟩
def dkwX5_init_8 : List UInt8 := [132, 3, 1, 167, 255, 139, 177]
abbrev dktX5_init_8 : List UInt8 := dkwX5_init_8 ++ []
def dkwX5_init_7 : List UInt8 := [192, 0, 57, 182, 0, 62, 29, 21, 4, 182, 0, 43, 167, 0, 4, 2, 79, 132, 4, 1, 167, 255, 166]
abbrev dktX5_init_7 : List UInt8 := dkwX5_init_7 ++ dktX5_init_8
def dkwX5_init_6 : List UInt8 := [29, 182, 0, 51, 192, 0, 57, 182, 0, 58, 153, 0, 29, 42, 25, 5, 42, 180, 0, 12, 29, 182, 0, 51]
abbrev dktX5_init_6 : List UInt8 := dkwX5_init_6 ++ dktX5_init_7
def dkwX5_init_5 : List UInt8 := [192, 0, 55, 58, 5, 42, 180, 0, 40, 29, 42, 180, 0, 36, 104, 21, 4, 96, 25, 5, 42, 180, 0, 12]
abbrev dktX5_init_5 : List UInt8 := dkwX5_init_5 ++ dktX5_init_6
def dkwX5_init_4 : List UInt8 := [21, 4, 42, 180, 0, 36, 162, 0, 87, 42, 180, 0, 47, 154, 0, 80, 44, 21, 4, 182, 0, 51]
abbrev dktX5_init_4 : List UInt8 := dkwX5_init_4 ++ dktX5_init_5
def dkwX5_init_3 : List UInt8 := [3, 62, 29, 42, 180, 0, 12, 182, 0, 32, 162, 0, 112, 42, 180, 0, 47, 154, 0, 105, 3, 54, 4]
abbrev dktX5_init_3 : List UInt8 := dkwX5_init_3 ++ dktX5_init_4
def dkwX5_init_2 : List UInt8 := [181, 0, 36, 42, 16, 16, 42, 180, 0, 36, 104, 188, 10, 181, 0, 40, 42, 43, 2, 2, 182, 0, 43, 87]
abbrev dktX5_init_2 : List UInt8 := dkwX5_init_2 ++ dktX5_init_3
def dkwX5_init_1 : List UInt8 := [181, 0, 21, 42, 16, 16, 188, 10, 181, 0, 25, 42, 16, 16, 188, 10, 181, 0, 29, 42, 44, 182, 0, 32]
abbrev dktX5_init_1 : List UInt8 := dkwX5_init_1 ++ dktX5_init_2
def dkwX5_init_0 : List UInt8 := [42, 183, 0, 3, 42, 187, 0, 9, 89, 183, 0, 11, 181, 0, 12, 42, 187, 0, 18, 89, 183, 0, 20]
abbrev dktX5_init_0 : List UInt8 := dkwX5_init_0 ++ dktX5_init_1
theorem dksX5_init_0 : cX5_init.data.toList.drop 0 = dktX5_init_0 := by decide +kernel
theorem dksX5_init_1 : cX5_init.data.toList.drop 23 = dktX5_init_1 := dk_seg dksX5_init_0 23 rfl rfl
theorem dksX5_init_2 : cX5_init.data.toList.drop 47 = dktX5_init_2 := dk_seg dksX5_init_1 24 rfl rfl
theorem dksX5_init_3 : cX5_init.data.toList.drop 71 = dktX5_init_3 := dk_seg dksX5_init_2 24 rfl rfl
theorem dksX5_init_4 : cX5_init.data.toList.drop 94 = dktX5_init_4 := dk_seg dksX5_init_3 23 rfl rfl
theorem dksX5_init_5 : cX5_init.data.toList.drop 116 = dktX5_init_5 := dk_seg dksX5_init_4 22 rfl rfl
theorem dksX5_init_6 : cX5_init.data.toList.drop 140 = dktX5_init_6 := dk_seg dksX5_init_5 24 rfl rfl
theorem dksX5_init_7 : cX5_init.data.toList.drop 164 = dktX5_init_7 := dk_seg dksX5_init_6 24 rfl rfl
theorem dksX5_init_8 : cX5_init.data.toList.drop 187 = dktX5_init_8 := dk_seg dksX5_init_7 23 rfl rfl
theorem dX5_init_0 : decode cX5_init 0 = .ok (.aload_n 0, 1) := dk_42 (dk_at dksX5_init_0 0 rfl rfl)
theorem dX5_init_1 : decode cX5_init 1 = .ok (.invokespecial 3, 3) := dk_183 0 3 (dk_at dksX5_init_0 1 rfl rfl)
theorem dX5_init_4 : decode cX5_init 4 = .ok (.aload_n 0, 1) := dk_42 (dk_at dksX5_init_0 4 rfl rfl)
theorem dX5_init_5 : decode cX5_init 5 = .ok (.new 9, 3) := dk_187 0 9 (dk_at dksX5_init_0 5 rfl rfl)
theorem dX5_init_8 : decode cX5_init 8 = .ok (.dup, 1) := dk_89 (dk_at dksX5_init_0 8 rfl rfl)
theorem dX5_init_9 : decode cX5_init 9 = .ok (.invokespecial 11, 3) := dk_183 0 11 (dk_at dksX5_init_0 9 rfl rfl)
theorem dX5_init_12 : decode cX5_init 12 = .ok (.putfield 12, 3) := dk_181 0 12 (dk_at dksX5_init_0 12 rfl rfl)
theorem dX5_init_15 : decode cX5_init 15 = .ok (.aload_n 0, 1) := dk_42 (dk_at dksX5_init_0 15 rfl rfl)
theorem dX5_init_16 : decode cX5_init 16 = .ok (.new 18, 3) := dk_187 0 18 (dk_at dksX5_init_0 16 rfl rfl)
theorem dX5_init_19 : decode cX5_init 19 = .ok (.dup, 1) := dk_89 (dk_at dksX5_init_0 19 rfl rfl)
theorem dX5_init_20 : decode cX5_init 20 = .ok (.invokespecial 20, 3) := dk_183 0 20 (dk_at dksX5_init_0 20 rfl rfl)
theorem dX5_init_23 : decode cX5_init 23 = .ok (.putfield 21, 3) := dk_181 0 21 (dk_at dksX5_init_1 0 rfl rfl)
theorem dX5_init_26 : decode cX5_init 26 = .ok (.aload_n 0, 1) := dk_42 (dk_at dksX5_init_1 3 rfl rfl)
theorem dX5_init_27 : decode cX5_init 27 = .ok (.bipush 16, 2) := dk_16 16 (dk_at dksX5_init_1 4 rfl rfl)
theorem dX5_init_29 : decode cX5_init 29 = .ok (.newarray .int, 2) := dk_188_10 (dk_at dksX5_init_1 6 rfl rfl)
theorem dX5_init_31 : decode cX5_init 31 = .ok (.putfield 25, 3) := dk_181 0 25 (dk_at dksX5_init_1 8 rfl rfl)
theorem dX5_init_34 : decode cX5_init 34 = .ok (.aload_n 0, 1) := dk_42 (dk_at dksX5_init_1 11 rfl rfl)
theorem dX5_init_35 : decode cX5_init 35 = .ok (.bipush 16, 2) := dk_16 16 (dk_at dksX5_init_1 12 rfl rfl)
theorem dX5_init_37 : decode cX5_init 37 = .ok (.newarray .int, 2) := dk_188_10 (dk_at dksX5_init_1 14 rfl rfl)
theorem dX5_init_39 : decode cX5_init 39 = .ok (.putfield 29, 3) := dk_181 0 29 (dk_at dksX5_init_1 16 rfl rfl)
theorem dX5_init_42 : decode cX5_init 42 = .ok (.aload_n 0, 1) := dk_42 (dk_at dksX5_init_1 19 rfl rfl)
theorem dX5_init_43 : decode cX5_init 43 = .ok (.aload_n 2, 1) := dk_44 (dk_at dksX5_init_1 20 rfl rfl)
theorem dX5_init_44 : decode cX5_init 44 = .ok (.invokevirtual 32, 3) := dk_182 0 32 (dk_at dksX5_init_1 21 rfl rfl)
theorem dX5_init_47 : decode cX5_init 47 = .ok (.putfield 36, 3) := dk_181 0 36 (dk_at dksX5_init_2 0 rfl rfl)
theorem dX5_init_50 : decode cX5_init 50 = .ok (.aload_n 0, 1) := dk_42 (dk_at dksX5_init_2 3 rfl rfl)
theorem dX5_init_51 : decode cX5_init 51 = .ok (.bipush 16, 2) := dk_16 16 (dk_at dksX5_init_2 4 rfl rfl)
theorem dX5_init_53 : decode cX5_init 53 = .ok (.aload_n 0, 1) := dk_42 (dk_at dksX5_init_2 6 rfl rfl)
theorem dX5_init_54 : decode cX5_init 54 = .ok (.getfield 36, 3) := dk_180 0 36 (dk_at dksX5_init_2 7 rfl rfl)
theorem dX5_init_57 : decode cX5_init 57 = .ok (.imul, 1) := dk_104 (dk_at dksX5_init_2 10 rfl rfl)
theorem dX5_init_58 : decode cX5_init 58 = .ok (.newarray .int, 2) := dk_188_10 (dk_at dksX5_init_2 11 rfl rfl)
theorem dX5_init_60 : decode cX5_init 60 = .ok (.putfield 40, 3) := dk_181 0 40 (dk_at dksX5_init_2 13 rfl rfl)
theorem dX5_init_63 : decode cX5_init 63 = .ok (.aload_n 0, 1) := dk_42 (dk_at dksX5_init_2 16 rfl rfl)
theorem dX5_init_64 : decode cX5_init 64 = .ok (.aload_n 1, 1) := dk_43 (dk_at dksX5_init_2 17 rfl rfl)
theorem dX5_init_65 : decode cX5_init 65 = .ok (.iconst (-1), 1) := dk_2 (dk_at dksX5_init_2 18 rfl rfl)
theorem dX5_init_66 : decode cX5_init 66 = .ok (.iconst (-1), 1) := dk_2 (dk_at dksX5_init_2 19 rfl rfl)
theorem dX5_init_67 : decode cX5_init 67 = .ok (.invokevirtual 43, 3) := dk_182 0 43 (dk_at dksX5_init_2 20 rfl rfl)
theorem dX5_init_70 : decode cX5_init 70 = .ok (.pop, 1) := dk_87 (dk_at dksX5_init_2 23 rfl rfl)
theorem dX5_init_71 : decode cX5_init 71 = .ok (.iconst 0, 1) := dk_3 (dk_at dksX5_init_3 0 rfl rfl)
theorem dX5_init_72 : decode cX5_init 72 = .ok (.istore_n 3, 1) := dk_62 (dk_at dksX5_init_3 1 rfl rfl)
theorem dX5_init_73 : decode cX5_init 73 = .ok (.iload_n 3, 1) := dk_29 (dk_at dksX5_init_3 2 rfl rfl)
theorem dX5_init_74 : decode cX5_init 74 = .ok (.aload_n 0, 1) := dk_42 (dk_at dksX5_init_3 3 rfl rfl)
theorem dX5_init_75 : decode cX5_init 75 = .ok (.getfield 12, 3) := dk_180 0 12 (dk_at dksX5_init_3 4 rfl rfl)
theorem dX5_init_78 : decode cX5_init 78 = .ok (.invokevirtual 32, 3) := dk_182 0 32 (dk_at dksX5_init_3 7 rfl rfl)
theorem dX5_init_81 : decode cX5_init 81 = .ok (.if_icmp .ge 112, 3) := dk_162 0 112 (dk_at dksX5_init_3 10 rfl rfl)
theorem dX5_init_84 : decode cX5_init 84 = .ok (.aload_n 0, 1) := dk_42 (dk_at dksX5_init_3 13 rfl rfl)
theorem dX5_init_85 : decode cX5_init 85 = .ok (.getfield 47, 3) := dk_180 0 47 (dk_at dksX5_init_3 14 rfl rfl)
theorem dX5_init_88 : decode cX5_init 88 = .ok (.ifCond .ne 105, 3) := dk_154 0 105 (dk_at dksX5_init_3 17 rfl rfl)
theorem dX5_init_91 : decode cX5_init 91 = .ok (.iconst 0, 1) := dk_3 (dk_at dksX5_init_3 20 rfl rfl)
theorem dX5_init_92 : decode cX5_init 92 = .ok (.istore 4, 2) := dk_54 4 (dk_at dksX5_init_3 21 rfl rfl)
theorem dX5_init_94 : decode cX5_init 94 = .ok (.iload 4, 2) := dk_21 4 (dk_at dksX5_init_4 0 rfl rfl)
theorem dX5_init_96 : decode cX5_init 96 = .ok (.aload_n 0, 1) := dk_42 (dk_at dksX5_init_4 2 rfl rfl)
theorem dX5_init_97 : decode cX5_init 97 = .ok (.getfield 36, 3) := dk_180 0 36 (dk_at dksX5_init_4 3 rfl rfl)
theorem dX5_init_100 : decode cX5_init 100 = .ok (.if_icmp .ge 87, 3) := dk_162 0 87 (dk_at dksX5_init_4 6 rfl rfl)
theorem dX5_init_103 : decode cX5_init 103 = .ok (.aload_n 0, 1) := dk_42 (dk_at dksX5_init_4 9 rfl rfl)
theorem dX5_init_104 : decode cX5_init 104 = .ok (.getfield 47, 3) := dk_180 0 47 (dk_at dksX5_init_4 10 rfl rfl)
theorem dX5_init_107 : decode cX5_init 107 = .ok (.ifCond .ne 80, 3) := dk_154 0 80 (dk_at dksX5_init_4 13 rfl rfl)
theorem dX5_init_110 : decode cX5_init 110 = .ok (.aload_n 2, 1) := dk_44 (dk_at dksX5_init_4 16 rfl rfl)
theorem dX5_init_111 : decode cX5_init 111 = .ok (.iload 4, 2) := dk_21 4 (dk_at dksX5_init_4 17 rfl rfl)
theorem dX5_init_113 : decode cX5_init 113 = .ok (.invokevirtual 51, 3) := dk_182 0 51 (dk_at dksX5_init_4 19 rfl rfl)
theorem dX5_init_116 : decode cX5_init 116 = .ok (.checkcast 55, 3) := dk_192 0 55 (dk_at dksX5_init_5 0 rfl rfl)
theorem dX5_init_119 : decode cX5_init 119 = .ok (.astore 5, 2) := dk_58 5 (dk_at dksX5_init_5 3 rfl rfl)
theorem dX5_init_121 : decode cX5_init 121 = .ok (.aload_n 0, 1) := dk_42 (dk_at dksX5_init_5 5 rfl rfl)
theorem dX5_init_122 : decode cX5_init 122 = .ok (.getfield 40, 3) := dk_180 0 40 (dk_at dksX5_init_5 6 rfl rfl)
theorem dX5_init_125 : decode cX5_init 125 = .ok (.iload_n 3, 1) := dk_29 (dk_at dksX5_init_5 9 rfl rfl)
theorem dX5_init_126 : decode cX5_init 126 = .ok (.aload_n 0, 1) := dk_42 (dk_at dksX5_init_5 10 rfl rfl)
theorem dX5_init_127 : decode cX5_init 127 = .ok (.getfield 36, 3) := dk_180 0 36 (dk_at dksX5_init_5 11 rfl rfl)
theorem dX5_init_130 : decode cX5_init 130 = .ok (.imul, 1) := dk_104 (dk_at dksX5_init_5 14 rfl rfl)
theorem dX5_init_131 : decode cX5_init 131 = .ok (.iload 4, 2) := dk_21 4 (dk_at dksX5_init_5 15 rfl rfl)
theorem dX5_init_133 : decode cX5_init 133 = .ok (.iadd, 1) := dk_96 (dk_at dksX5_init_5 17 rfl rfl)
theorem dX5_init_134 : decode cX5_init 134 = .ok (.aload 5, 2) := dk_25 5 (dk_at dksX5_init_5 18 rfl rfl)
theorem dX5_init_136 : decode cX5_init 136 = .ok (.aload_n 0, 1) := dk_42 (dk_at dksX5_init_5 20 rfl rfl)
theorem dX5_init_137 : decode cX5_init 137 = .ok (.getfield 12, 3) := dk_180 0 12 (dk_at dksX5_init_5 21 rfl rfl)
theorem dX5_init_140 : decode cX5_init 140 = .ok (.iload_n 3, 1) := dk_29 (dk_at dksX5_init_6 0 rfl rfl)
theorem dX5_init_141 : decode cX5_init 141 = .ok (.invokevirtual 51, 3) := dk_182 0 51 (dk_at dksX5_init_6 1 rfl rfl)
theorem dX5_init_144 : decode cX5_init 144 = .ok (.checkcast 57, 3) := dk_192 0 57 (dk_at dksX5_init_6 4 rfl rfl)
theorem dX5_init_147 : decode cX5_init 147 = .ok (.invokevirtual 58, 3) := dk_182 0 58 (dk_at dksX5_init_6 7 rfl rfl)
theorem dX5_init_150 : decode cX5_init 150 = .ok (.ifCond .eq 29, 3) := dk_153 0 29 (dk_at dksX5_init_6 10 rfl rfl)
theorem dX5_init_153 : decode cX5_init 153 = .ok (.aload_n 0, 1) := dk_42 (dk_at dksX5_init_6 13 rfl rfl)
theorem dX5_init_154 : decode cX5_init 154 = .ok (.aload 5, 2) := dk_25 5 (dk_at dksX5_init_6 14 rfl rfl)
theorem dX5_init_156 : decode cX5_init 156 = .ok (.aload_n 0, 1) := dk_42 (dk_at dksX5_init_6 16 rfl rfl)
theorem dX5_init_157 : decode cX5_init 157 = .ok (.getfield 12, 3) := dk_180 0 12 (dk_at dksX5_init_6 17 rfl rfl)
theorem dX5_init_160 : decode cX5_init 160 = .ok (.iload_n 3, 1) := dk_29 (dk_at dksX5_init_6 20 rfl rfl)
theorem dX5_init_161 : decode cX5_init 161 = .ok (.invokevirtual 51, 3) := dk_182 0 51 (dk_at dksX5_init_6 21 rfl rfl)
theorem dX5_init_164 : decode cX5_init 164 = .ok (.checkcast 57, 3) := dk_192 0 57 (dk_at dksX5_init_7 0 rfl rfl)
theorem dX5_init_167 : decode cX5_init 167 = .ok (.invokevirtual 62, 3) := dk_182 0 62 (dk_at dksX5_init_7 3 rfl rfl)
theorem dX5_init_170 : decode cX5_init 170 = .ok (.iload_n 3, 1) := dk_29 (dk_at dksX5_init_7 6 rfl rfl)
theorem dX5_init_171 : decode cX5_init 171 = .ok (.iload 4, 2) := dk_21 4 (dk_at dksX5_init_7 7 rfl rfl)
theorem dX5_init_173 : decode cX5_init 173 = .ok (.invokevirtual 43, 3) := dk_182 0 43 (dk_at dksX5_init_7 9 rfl rfl)
theorem dX5_init_176 : decode cX5_init 176 = .ok (.goto 4, 3) := dk_167 0 4 (dk_at dksX5_init_7 12 rfl rfl)
theorem dX5_init_179 : decode cX5_init 179 = .ok (.iconst (-1), 1) := dk_2 (dk_at dksX5_init_7 15 rfl rfl)
theorem dX5_init_180 : decode cX5_init 180 = .ok (.iastore, 1) := dk_79 (dk_at dksX5_init_7 16 rfl rfl)
theorem dX5_init_181 : decode cX5_init 181 = .ok (.iinc 4 1, 3) := dk_132 4 1 (dk_at dksX5_init_7 17 rfl rfl)
theorem dX5_init_184 : decode cX5_init 184 = .ok (.goto (-90), 3) := dk_167 255 166 (dk_at dksX5_init_7 20 rfl rfl)
theorem dX5_init_187 : decode cX5_init 187 = .ok (.iinc 3 1, 3) := dk_132 3 1 (dk_at dksX5_init_8 0 rfl rfl)
theorem dX5_init_190 : decode cX5_init 190 = .ok (.goto (-117), 3) := dk_167 255 139 (dk_at dksX5_init_8 3 rfl rfl)
theorem dX5_init_193 : decode cX5_init 193 = .ok (.return_, 1) := dk_177 (dk_at dksX5_init_8 6 rfl rfl)
abbrev cX5_enter : ByteArray := prog_2_method_2_code
def yX5_enter : MethodName := ⟨RX5, "enter", "([III)I"⟩
def dkwX5_enter_4 : List UInt8 := [182, 0, 86, 87, 21, 6, 172]
abbrev dktX5_enter_4 : List UInt8 := dkwX5_enter_4 ++ []
def dkwX5_enter_3 : List UInt8 := [29, 79, 42, 180, 0, 12, 43, 182, 0, 78, 87, 42, 180, 0, 21, 25, 4, 21, 6, 184, 0, 82]
abbrev dktX5_enter_3 : List UInt8 := dkwX5_enter_3 ++ dktX5_enter_4
def dkwX5_enter_2 : List UInt8 := [160, 0, 10, 42, 4, 181, 0, 47, 2, 172, 42, 180, 0, 25, 21, 6, 28, 79, 42, 180, 0, 29, 21, 6]
abbrev dktX5_enter_2 : List UInt8 := dkwX5_enter_2 ++ dktX5_enter_3
def dkwX5_enter_1 : List UInt8 := [198, 0, 9, 25, 5, 182, 0, 75, 172, 42, 180, 0, 12, 182, 0, 32, 54, 6, 21, 6, 16, 16]
abbrev dktX5_enter_1 : List UInt8 := dkwX5_enter_1 ++ dktX5_enter_2
def dkwX5_enter_0 : List UInt8 := [43, 184, 0, 66, 58, 4, 42, 180, 0, 21, 25, 4, 182, 0, 70, 192, 0, 73, 58, 5, 25, 5]
abbrev dktX5_enter_0 : List UInt8 := dkwX5_enter_0 ++ dktX5_enter_1
theorem dksX5_enter_0 : cX5_enter.data.toList.drop 0 = dktX5_enter_0 := by decide +kernel
theorem dksX5_enter_1 : cX5_enter.data.toList.drop 22 = dktX5_enter_1 := dk_seg dksX5_enter_0 22 rfl rfl
theorem dksX5_enter_2 : cX5_enter.data.toList.drop 44 = dktX5_enter_2 := dk_seg dksX5_enter_1 22 rfl rfl
theorem dksX5_enter_3 : cX5_enter.data.toList.drop 68 = dktX5_enter_3 := dk_seg dksX5_enter_2 24 rfl rfl
theorem dksX5_enter_4 : cX5_enter.data.toList.drop 90 = dktX5_enter_4 := dk_seg dksX5_enter_3 22 rfl rfl
theorem dX5_enter_0 : decode cX5_enter 0 = .ok (.aload_n 1, 1) := dk_43 (dk_at dksX5_enter_0 0 rfl rfl)
theorem dX5_enter_1 : decode cX5_enter 1 = .ok (.invokestatic 66, 3) := dk_184 0 66 (dk_at dksX5_enter_0 1 rfl rfl)
theorem dX5_enter_4 : decode cX5_enter 4 = .ok (.astore 4, 2) := dk_58 4 (dk_at dksX5_enter_0 4 rfl rfl)
theorem dX5_enter_6 : decode cX5_enter 6 = .ok (.aload_n 0, 1) := dk_42 (dk_at dksX5_enter_0 6 rfl rfl)
theorem dX5_enter_7 : decode cX5_enter 7 = .ok (.getfield 21, 3) := dk_180 0 21 (dk_at dksX5_enter_0 7 rfl rfl)
theorem dX5_enter_10 : decode cX5_enter 10 = .ok (.aload 4, 2) := dk_25 4 (dk_at dksX5_enter_0 10 rfl rfl)
theorem dX5_enter_12 : decode cX5_enter 12 = .ok (.invokevirtual 70, 3) := dk_182 0 70 (dk_at dksX5_enter_0 12 rfl rfl)
theorem dX5_enter_15 : decode cX5_enter 15 = .ok (.checkcast 73, 3) := dk_192 0 73 (dk_at dksX5_enter_0 15 rfl rfl)
theorem dX5_enter_18 : decode cX5_enter 18 = .ok (.astore 5, 2) := dk_58 5 (dk_at dksX5_enter_0 18 rfl rfl)
theorem dX5_enter_20 : decode cX5_enter 20 = .ok (.aload 5, 2) := dk_25 5 (dk_at dksX5_enter_0 20 rfl rfl)
theorem dX5_enter_22 : decode cX5_enter 22 = .ok (.ifnull 9, 3) := dk_198 0 9 (dk_at dksX5_enter_1 0 rfl rfl)
theorem dX5_enter_25 : decode cX5_enter 25 = .ok (.aload 5, 2) := dk_25 5 (dk_at dksX5_enter_1 3 rfl rfl)
theorem dX5_enter_27 : decode cX5_enter 27 = .ok (.invokevirtual 75, 3) := dk_182 0 75 (dk_at dksX5_enter_1 5 rfl rfl)
theorem dX5_enter_30 : decode cX5_enter 30 = .ok (.ireturn, 1) := dk_172 (dk_at dksX5_enter_1 8 rfl rfl)
theorem dX5_enter_31 : decode cX5_enter 31 = .ok (.aload_n 0, 1) := dk_42 (dk_at dksX5_enter_1 9 rfl rfl)
theorem dX5_enter_32 : decode cX5_enter 32 = .ok (.getfield 12, 3) := dk_180 0 12 (dk_at dksX5_enter_1 10 rfl rfl)
theorem dX5_enter_35 : decode cX5_enter 35 = .ok (.invokevirtual 32, 3) := dk_182 0 32 (dk_at dksX5_enter_1 13 rfl rfl)
theorem dX5_enter_38 : decode cX5_enter 38 = .ok (.istore 6, 2) := dk_54 6 (dk_at dksX5_enter_1 16 rfl rfl)
theorem dX5_enter_40 : decode cX5_enter 40 = .ok (.iload 6, 2) := dk_21 6 (dk_at dksX5_enter_1 18 rfl rfl)
theorem dX5_enter_42 : decode cX5_enter 42 = .ok (.bipush 16, 2) := dk_16 16 (dk_at dksX5_enter_1 20 rfl rfl)
theorem dX5_enter_44 : decode cX5_enter 44 = .ok (.if_icmp .ne 10, 3) := dk_160 0 10 (dk_at dksX5_enter_2 0 rfl rfl)
theorem dX5_enter_47 : decode cX5_enter 47 = .ok (.aload_n 0, 1) := dk_42 (dk_at dksX5_enter_2 3 rfl rfl)
theorem dX5_enter_48 : decode cX5_enter 48 = .ok (.iconst 1, 1) := dk_4 (dk_at dksX5_enter_2 4 rfl rfl)
theorem dX5_enter_49 : decode cX5_enter 49 = .ok (.putfield 47, 3) := dk_181 0 47 (dk_at dksX5_enter_2 5 rfl rfl)
theorem dX5_enter_52 : decode cX5_enter 52 = .ok (.iconst (-1), 1) := dk_2 (dk_at dksX5_enter_2 8 rfl rfl)
theorem dX5_enter_53 : decode cX5_enter 53 = .ok (.ireturn, 1) := dk_172 (dk_at dksX5_enter_2 9 rfl rfl)
theorem dX5_enter_54 : decode cX5_enter 54 = .ok (.aload_n 0, 1) := dk_42 (dk_at dksX5_enter_2 10 rfl rfl)
theorem dX5_enter_55 : decode cX5_enter 55 = .ok (.getfield 25, 3) := dk_180 0 25 (dk_at dksX5_enter_2 11 rfl rfl)
theorem dX5_enter_58 : decode cX5_enter 58 = .ok (.iload 6, 2) := dk_21 6 (dk_at dksX5_enter_2 14 rfl rfl)
theorem dX5_enter_60 : decode cX5_enter 60 = .ok (.iload_n 2, 1) := dk_28 (dk_at dksX5_enter_2 16 rfl rfl)
theorem dX5_enter_61 : decode cX5_enter 61 = .ok (.iastore, 1) := dk_79 (dk_at dksX5_enter_2 17 rfl rfl)
theorem dX5_enter_62 : decode cX5_enter 62 = .ok (.aload_n 0, 1) := dk_42 (dk_at dksX5_enter_2 18 rfl rfl)
theorem dX5_enter_63 : decode cX5_enter 63 = .ok (.getfield 29, 3) := dk_180 0 29 (dk_at dksX5_enter_2 19 rfl rfl)
theorem dX5_enter_66 : decode cX5_enter 66 = .ok (.iload 6, 2) := dk_21 6 (dk_at dksX5_enter_2 22 rfl rfl)
theorem dX5_enter_68 : decode cX5_enter 68 = .ok (.iload_n 3, 1) := dk_29 (dk_at dksX5_enter_3 0 rfl rfl)
theorem dX5_enter_69 : decode cX5_enter 69 = .ok (.iastore, 1) := dk_79 (dk_at dksX5_enter_3 1 rfl rfl)
theorem dX5_enter_70 : decode cX5_enter 70 = .ok (.aload_n 0, 1) := dk_42 (dk_at dksX5_enter_3 2 rfl rfl)
theorem dX5_enter_71 : decode cX5_enter 71 = .ok (.getfield 12, 3) := dk_180 0 12 (dk_at dksX5_enter_3 3 rfl rfl)
theorem dX5_enter_74 : decode cX5_enter 74 = .ok (.aload_n 1, 1) := dk_43 (dk_at dksX5_enter_3 6 rfl rfl)
theorem dX5_enter_75 : decode cX5_enter 75 = .ok (.invokevirtual 78, 3) := dk_182 0 78 (dk_at dksX5_enter_3 7 rfl rfl)
theorem dX5_enter_78 : decode cX5_enter 78 = .ok (.pop, 1) := dk_87 (dk_at dksX5_enter_3 10 rfl rfl)
theorem dX5_enter_79 : decode cX5_enter 79 = .ok (.aload_n 0, 1) := dk_42 (dk_at dksX5_enter_3 11 rfl rfl)
theorem dX5_enter_80 : decode cX5_enter 80 = .ok (.getfield 21, 3) := dk_180 0 21 (dk_at dksX5_enter_3 12 rfl rfl)
theorem dX5_enter_83 : decode cX5_enter 83 = .ok (.aload 4, 2) := dk_25 4 (dk_at dksX5_enter_3 15 rfl rfl)
theorem dX5_enter_85 : decode cX5_enter 85 = .ok (.iload 6, 2) := dk_21 6 (dk_at dksX5_enter_3 17 rfl rfl)
theorem dX5_enter_87 : decode cX5_enter 87 = .ok (.invokestatic 82, 3) := dk_184 0 82 (dk_at dksX5_enter_3 19 rfl rfl)
theorem dX5_enter_90 : decode cX5_enter 90 = .ok (.invokevirtual 86, 3) := dk_182 0 86 (dk_at dksX5_enter_4 0 rfl rfl)
theorem dX5_enter_93 : decode cX5_enter 93 = .ok (.pop, 1) := dk_87 (dk_at dksX5_enter_4 3 rfl rfl)
theorem dX5_enter_94 : decode cX5_enter 94 = .ok (.iload 6, 2) := dk_21 6 (dk_at dksX5_enter_4 4 rfl rfl)
theorem dX5_enter_96 : decode cX5_enter 96 = .ok (.ireturn, 1) := dk_172 (dk_at dksX5_enter_4 6 rfl rfl)
abbrev cX5_deads : ByteArray := prog_2_method_5_code
def yX5_deads : MethodName := ⟨RX5, "deads", "()Ljava/util/BitSet;"⟩
def dkwX5_deads_3 : List UInt8 := [182, 0, 96, 132, 2, 1, 167, 255, 190, 43, 176]
abbrev dktX5_deads_3 : List UInt8 := dkwX5_deads_3 ++ []
def dkwX5_deads_2 : List UInt8 := [96, 46, 2, 160, 0, 7, 4, 167, 0, 4, 3, 126, 62, 132, 4, 1, 167, 255, 218, 43, 28, 29]
abbrev dktX5_deads_2 : List UInt8 := dkwX5_deads_2 ++ dktX5_deads_3
def dkwX5_deads_1 : List UInt8 := [54, 4, 21, 4, 42, 180, 0, 36, 162, 0, 35, 29, 42, 180, 0, 40, 28, 42, 180, 0, 36, 104, 21, 4]
abbrev dktX5_deads_1 : List UInt8 := dkwX5_deads_1 ++ dktX5_deads_2
def dkwX5_deads_0 : List UInt8 := [187, 0, 93, 89, 183, 0, 95, 76, 3, 61, 28, 42, 180, 0, 12, 182, 0, 32, 162, 0, 61, 4, 62, 3]
abbrev dktX5_deads_0 : List UInt8 := dkwX5_deads_0 ++ dktX5_deads_1
theorem dksX5_deads_0 : cX5_deads.data.toList.drop 0 = dktX5_deads_0 := by decide +kernel
theorem dksX5_deads_1 : cX5_deads.data.toList.drop 24 = dktX5_deads_1 := dk_seg dksX5_deads_0 24 rfl rfl
theorem dksX5_deads_2 : cX5_deads.data.toList.drop 48 = dktX5_deads_2 := dk_seg dksX5_deads_1 24 rfl rfl
theorem dksX5_deads_3 : cX5_deads.data.toList.drop 70 = dktX5_deads_3 := dk_seg dksX5_deads_2 22 rfl rfl
theorem dX5_deads_0 : decode cX5_deads 0 = .ok (.new 93, 3) := dk_187 0 93 (dk_at dksX5_deads_0 0 rfl rfl)
theorem dX5_deads_3 : decode cX5_deads 3 = .ok (.dup, 1) := dk_89 (dk_at dksX5_deads_0 3 rfl rfl)
theorem dX5_deads_4 : decode cX5_deads 4 = .ok (.invokespecial 95, 3) := dk_183 0 95 (dk_at dksX5_deads_0 4 rfl rfl)
theorem dX5_deads_7 : decode cX5_deads 7 = .ok (.astore_n 1, 1) := dk_76 (dk_at dksX5_deads_0 7 rfl rfl)
theorem dX5_deads_8 : decode cX5_deads 8 = .ok (.iconst 0, 1) := dk_3 (dk_at dksX5_deads_0 8 rfl rfl)
theorem dX5_deads_9 : decode cX5_deads 9 = .ok (.istore_n 2, 1) := dk_61 (dk_at dksX5_deads_0 9 rfl rfl)
theorem dX5_deads_10 : decode cX5_deads 10 = .ok (.iload_n 2, 1) := dk_28 (dk_at dksX5_deads_0 10 rfl rfl)
theorem dX5_deads_11 : decode cX5_deads 11 = .ok (.aload_n 0, 1) := dk_42 (dk_at dksX5_deads_0 11 rfl rfl)
theorem dX5_deads_12 : decode cX5_deads 12 = .ok (.getfield 12, 3) := dk_180 0 12 (dk_at dksX5_deads_0 12 rfl rfl)
theorem dX5_deads_15 : decode cX5_deads 15 = .ok (.invokevirtual 32, 3) := dk_182 0 32 (dk_at dksX5_deads_0 15 rfl rfl)
theorem dX5_deads_18 : decode cX5_deads 18 = .ok (.if_icmp .ge 61, 3) := dk_162 0 61 (dk_at dksX5_deads_0 18 rfl rfl)
theorem dX5_deads_21 : decode cX5_deads 21 = .ok (.iconst 1, 1) := dk_4 (dk_at dksX5_deads_0 21 rfl rfl)
theorem dX5_deads_22 : decode cX5_deads 22 = .ok (.istore_n 3, 1) := dk_62 (dk_at dksX5_deads_0 22 rfl rfl)
theorem dX5_deads_23 : decode cX5_deads 23 = .ok (.iconst 0, 1) := dk_3 (dk_at dksX5_deads_0 23 rfl rfl)
theorem dX5_deads_24 : decode cX5_deads 24 = .ok (.istore 4, 2) := dk_54 4 (dk_at dksX5_deads_1 0 rfl rfl)
theorem dX5_deads_26 : decode cX5_deads 26 = .ok (.iload 4, 2) := dk_21 4 (dk_at dksX5_deads_1 2 rfl rfl)
theorem dX5_deads_28 : decode cX5_deads 28 = .ok (.aload_n 0, 1) := dk_42 (dk_at dksX5_deads_1 4 rfl rfl)
theorem dX5_deads_29 : decode cX5_deads 29 = .ok (.getfield 36, 3) := dk_180 0 36 (dk_at dksX5_deads_1 5 rfl rfl)
theorem dX5_deads_32 : decode cX5_deads 32 = .ok (.if_icmp .ge 35, 3) := dk_162 0 35 (dk_at dksX5_deads_1 8 rfl rfl)
theorem dX5_deads_35 : decode cX5_deads 35 = .ok (.iload_n 3, 1) := dk_29 (dk_at dksX5_deads_1 11 rfl rfl)
theorem dX5_deads_36 : decode cX5_deads 36 = .ok (.aload_n 0, 1) := dk_42 (dk_at dksX5_deads_1 12 rfl rfl)
theorem dX5_deads_37 : decode cX5_deads 37 = .ok (.getfield 40, 3) := dk_180 0 40 (dk_at dksX5_deads_1 13 rfl rfl)
theorem dX5_deads_40 : decode cX5_deads 40 = .ok (.iload_n 2, 1) := dk_28 (dk_at dksX5_deads_1 16 rfl rfl)
theorem dX5_deads_41 : decode cX5_deads 41 = .ok (.aload_n 0, 1) := dk_42 (dk_at dksX5_deads_1 17 rfl rfl)
theorem dX5_deads_42 : decode cX5_deads 42 = .ok (.getfield 36, 3) := dk_180 0 36 (dk_at dksX5_deads_1 18 rfl rfl)
theorem dX5_deads_45 : decode cX5_deads 45 = .ok (.imul, 1) := dk_104 (dk_at dksX5_deads_1 21 rfl rfl)
theorem dX5_deads_46 : decode cX5_deads 46 = .ok (.iload 4, 2) := dk_21 4 (dk_at dksX5_deads_1 22 rfl rfl)
theorem dX5_deads_48 : decode cX5_deads 48 = .ok (.iadd, 1) := dk_96 (dk_at dksX5_deads_2 0 rfl rfl)
theorem dX5_deads_49 : decode cX5_deads 49 = .ok (.iaload, 1) := dk_46 (dk_at dksX5_deads_2 1 rfl rfl)
theorem dX5_deads_50 : decode cX5_deads 50 = .ok (.iconst (-1), 1) := dk_2 (dk_at dksX5_deads_2 2 rfl rfl)
theorem dX5_deads_51 : decode cX5_deads 51 = .ok (.if_icmp .ne 7, 3) := dk_160 0 7 (dk_at dksX5_deads_2 3 rfl rfl)
theorem dX5_deads_54 : decode cX5_deads 54 = .ok (.iconst 1, 1) := dk_4 (dk_at dksX5_deads_2 6 rfl rfl)
theorem dX5_deads_55 : decode cX5_deads 55 = .ok (.goto 4, 3) := dk_167 0 4 (dk_at dksX5_deads_2 7 rfl rfl)
theorem dX5_deads_58 : decode cX5_deads 58 = .ok (.iconst 0, 1) := dk_3 (dk_at dksX5_deads_2 10 rfl rfl)
theorem dX5_deads_59 : decode cX5_deads 59 = .ok (.iand, 1) := dk_126 (dk_at dksX5_deads_2 11 rfl rfl)
theorem dX5_deads_60 : decode cX5_deads 60 = .ok (.istore_n 3, 1) := dk_62 (dk_at dksX5_deads_2 12 rfl rfl)
theorem dX5_deads_61 : decode cX5_deads 61 = .ok (.iinc 4 1, 3) := dk_132 4 1 (dk_at dksX5_deads_2 13 rfl rfl)
theorem dX5_deads_64 : decode cX5_deads 64 = .ok (.goto (-38), 3) := dk_167 255 218 (dk_at dksX5_deads_2 16 rfl rfl)
theorem dX5_deads_67 : decode cX5_deads 67 = .ok (.aload_n 1, 1) := dk_43 (dk_at dksX5_deads_2 19 rfl rfl)
theorem dX5_deads_68 : decode cX5_deads 68 = .ok (.iload_n 2, 1) := dk_28 (dk_at dksX5_deads_2 20 rfl rfl)
theorem dX5_deads_69 : decode cX5_deads 69 = .ok (.iload_n 3, 1) := dk_29 (dk_at dksX5_deads_2 21 rfl rfl)
theorem dX5_deads_70 : decode cX5_deads 70 = .ok (.invokevirtual 96, 3) := dk_182 0 96 (dk_at dksX5_deads_3 0 rfl rfl)
theorem dX5_deads_73 : decode cX5_deads 73 = .ok (.iinc 2 1, 3) := dk_132 2 1 (dk_at dksX5_deads_3 3 rfl rfl)
theorem dX5_deads_76 : decode cX5_deads 76 = .ok (.goto (-66), 3) := dk_167 255 190 (dk_at dksX5_deads_3 6 rfl rfl)
theorem dX5_deads_79 : decode cX5_deads 79 = .ok (.aload_n 1, 1) := dk_43 (dk_at dksX5_deads_3 9 rfl rfl)
theorem dX5_deads_80 : decode cX5_deads 80 = .ok (.areturn, 1) := dk_176 (dk_at dksX5_deads_3 10 rfl rfl)
abbrev cX5_rings : ByteArray := prog_2_method_7_code
def yX5_rings : MethodName := ⟨RX5, "rings", "()Ljava/util/BitSet;"⟩
def dkwX5_rings_1 : List UInt8 := [29, 50, 29, 182, 0, 103, 182, 0, 96, 132, 3, 1, 167, 255, 235, 44, 176]
abbrev dktX5_rings_1 : List UInt8 := dkwX5_rings_1 ++ []
def dkwX5_rings_0 : List UInt8 := [42, 182, 0, 110, 76, 187, 0, 93, 89, 183, 0, 95, 77, 3, 62, 29, 43, 190, 162, 0, 21, 44, 29, 43]
abbrev dktX5_rings_0 : List UInt8 := dkwX5_rings_0 ++ dktX5_rings_1
theorem dksX5_rings_0 : cX5_rings.data.toList.drop 0 = dktX5_rings_0 := by decide +kernel
theorem dksX5_rings_1 : cX5_rings.data.toList.drop 24 = dktX5_rings_1 := dk_seg dksX5_rings_0 24 rfl rfl
theorem dX5_rings_0 : decode cX5_rings 0 = .ok (.aload_n 0, 1) := dk_42 (dk_at dksX5_rings_0 0 rfl rfl)
theorem dX5_rings_1 : decode cX5_rings 1 = .ok (.invokevirtual 110, 3) := dk_182 0 110 (dk_at dksX5_rings_0 1 rfl rfl)
theorem dX5_rings_4 : decode cX5_rings 4 = .ok (.astore_n 1, 1) := dk_76 (dk_at dksX5_rings_0 4 rfl rfl)
theorem dX5_rings_5 : decode cX5_rings 5 = .ok (.new 93, 3) := dk_187 0 93 (dk_at dksX5_rings_0 5 rfl rfl)
theorem dX5_rings_8 : decode cX5_rings 8 = .ok (.dup, 1) := dk_89 (dk_at dksX5_rings_0 8 rfl rfl)
theorem dX5_rings_9 : decode cX5_rings 9 = .ok (.invokespecial 95, 3) := dk_183 0 95 (dk_at dksX5_rings_0 9 rfl rfl)
theorem dX5_rings_12 : decode cX5_rings 12 = .ok (.astore_n 2, 1) := dk_77 (dk_at dksX5_rings_0 12 rfl rfl)
theorem dX5_rings_13 : decode cX5_rings 13 = .ok (.iconst 0, 1) := dk_3 (dk_at dksX5_rings_0 13 rfl rfl)
theorem dX5_rings_14 : decode cX5_rings 14 = .ok (.istore_n 3, 1) := dk_62 (dk_at dksX5_rings_0 14 rfl rfl)
theorem dX5_rings_15 : decode cX5_rings 15 = .ok (.iload_n 3, 1) := dk_29 (dk_at dksX5_rings_0 15 rfl rfl)
theorem dX5_rings_16 : decode cX5_rings 16 = .ok (.aload_n 1, 1) := dk_43 (dk_at dksX5_rings_0 16 rfl rfl)
theorem dX5_rings_17 : decode cX5_rings 17 = .ok (.arraylength, 1) := dk_190 (dk_at dksX5_rings_0 17 rfl rfl)
theorem dX5_rings_18 : decode cX5_rings 18 = .ok (.if_icmp .ge 21, 3) := dk_162 0 21 (dk_at dksX5_rings_0 18 rfl rfl)
theorem dX5_rings_21 : decode cX5_rings 21 = .ok (.aload_n 2, 1) := dk_44 (dk_at dksX5_rings_0 21 rfl rfl)
theorem dX5_rings_22 : decode cX5_rings 22 = .ok (.iload_n 3, 1) := dk_29 (dk_at dksX5_rings_0 22 rfl rfl)
theorem dX5_rings_23 : decode cX5_rings 23 = .ok (.aload_n 1, 1) := dk_43 (dk_at dksX5_rings_0 23 rfl rfl)
theorem dX5_rings_24 : decode cX5_rings 24 = .ok (.iload_n 3, 1) := dk_29 (dk_at dksX5_rings_1 0 rfl rfl)
theorem dX5_rings_25 : decode cX5_rings 25 = .ok (.aaload, 1) := dk_50 (dk_at dksX5_rings_1 1 rfl rfl)
theorem dX5_rings_26 : decode cX5_rings 26 = .ok (.iload_n 3, 1) := dk_29 (dk_at dksX5_rings_1 2 rfl rfl)
theorem dX5_rings_27 : decode cX5_rings 27 = .ok (.invokevirtual 103, 3) := dk_182 0 103 (dk_at dksX5_rings_1 3 rfl rfl)
theorem dX5_rings_30 : decode cX5_rings 30 = .ok (.invokevirtual 96, 3) := dk_182 0 96 (dk_at dksX5_rings_1 6 rfl rfl)
theorem dX5_rings_33 : decode cX5_rings 33 = .ok (.iinc 3 1, 3) := dk_132 3 1 (dk_at dksX5_rings_1 9 rfl rfl)
theorem dX5_rings_36 : decode cX5_rings 36 = .ok (.goto (-21), 3) := dk_167 255 235 (dk_at dksX5_rings_1 12 rfl rfl)
theorem dX5_rings_39 : decode cX5_rings 39 = .ok (.aload_n 2, 1) := dk_44 (dk_at dksX5_rings_1 15 rfl rfl)
theorem dX5_rings_40 : decode cX5_rings 40 = .ok (.areturn, 1) := dk_176 (dk_at dksX5_rings_1 16 rfl rfl)
abbrev cX5_onward : ByteArray := prog_2_method_6_code
def yX5_onward : MethodName := ⟨RX5, "onward", "()[Ljava/util/BitSet;"⟩
def dkwX5_onward_5 : List UInt8 := [182, 0, 106, 132, 3, 1, 167, 255, 228, 132, 2, 1, 167, 255, 214, 43, 176]
abbrev dktX5_onward_5 : List UInt8 := dkwX5_onward_5 ++ []
def dkwX5_onward_4 : List UInt8 := [62, 29, 43, 190, 162, 0, 28, 43, 29, 50, 28, 182, 0, 103, 153, 0, 12, 43, 29, 50, 43, 28, 50]
abbrev dktX5_onward_4 : List UInt8 := dkwX5_onward_4 ++ dktX5_onward_5
def dkwX5_onward_3 : List UInt8 := [182, 0, 100, 132, 3, 1, 167, 255, 209, 132, 2, 1, 167, 255, 185, 3, 61, 28, 43, 190, 162, 0, 42, 3]
abbrev dktX5_onward_3 : List UInt8 := dkwX5_onward_3 ++ dktX5_onward_4
def dkwX5_onward_2 : List UInt8 := [104, 29, 96, 46, 2, 159, 0, 22, 43, 28, 50, 42, 180, 0, 40, 28, 42, 180, 0, 36, 104, 29, 96, 46]
abbrev dktX5_onward_2 : List UInt8 := dkwX5_onward_2 ++ dktX5_onward_3
def dkwX5_onward_1 : List UInt8 := [89, 183, 0, 95, 83, 3, 62, 29, 42, 180, 0, 36, 162, 0, 45, 42, 180, 0, 40, 28, 42, 180, 0, 36]
abbrev dktX5_onward_1 : List UInt8 := dkwX5_onward_1 ++ dktX5_onward_2
def dkwX5_onward_0 : List UInt8 := [42, 180, 0, 12, 182, 0, 32, 189, 0, 93, 76, 3, 61, 28, 43, 190, 162, 0, 71, 43, 28, 187, 0, 93]
abbrev dktX5_onward_0 : List UInt8 := dkwX5_onward_0 ++ dktX5_onward_1
theorem dksX5_onward_0 : cX5_onward.data.toList.drop 0 = dktX5_onward_0 := by decide +kernel
theorem dksX5_onward_1 : cX5_onward.data.toList.drop 24 = dktX5_onward_1 := dk_seg dksX5_onward_0 24 rfl rfl
theorem dksX5_onward_2 : cX5_onward.data.toList.drop 48 = dktX5_onward_2 := dk_seg dksX5_onward_1 24 rfl rfl
theorem dksX5_onward_3 : cX5_onward.data.toList.drop 72 = dktX5_onward_3 := dk_seg dksX5_onward_2 24 rfl rfl
theorem dksX5_onward_4 : cX5_onward.data.toList.drop 96 = dktX5_onward_4 := dk_seg dksX5_onward_3 24 rfl rfl
theorem dksX5_onward_5 : cX5_onward.data.toList.drop 119 = dktX5_onward_5 := dk_seg dksX5_onward_4 23 rfl rfl
theorem dX5_onward_0 : decode cX5_onward 0 = .ok (.aload_n 0, 1) := dk_42 (dk_at dksX5_onward_0 0 rfl rfl)
theorem dX5_onward_1 : decode cX5_onward 1 = .ok (.getfield 12, 3) := dk_180 0 12 (dk_at dksX5_onward_0 1 rfl rfl)
theorem dX5_onward_4 : decode cX5_onward 4 = .ok (.invokevirtual 32, 3) := dk_182 0 32 (dk_at dksX5_onward_0 4 rfl rfl)
theorem dX5_onward_7 : decode cX5_onward 7 = .ok (.anewarray 93, 3) := dk_189 0 93 (dk_at dksX5_onward_0 7 rfl rfl)
theorem dX5_onward_10 : decode cX5_onward 10 = .ok (.astore_n 1, 1) := dk_76 (dk_at dksX5_onward_0 10 rfl rfl)
theorem dX5_onward_11 : decode cX5_onward 11 = .ok (.iconst 0, 1) := dk_3 (dk_at dksX5_onward_0 11 rfl rfl)
theorem dX5_onward_12 : decode cX5_onward 12 = .ok (.istore_n 2, 1) := dk_61 (dk_at dksX5_onward_0 12 rfl rfl)
theorem dX5_onward_13 : decode cX5_onward 13 = .ok (.iload_n 2, 1) := dk_28 (dk_at dksX5_onward_0 13 rfl rfl)
theorem dX5_onward_14 : decode cX5_onward 14 = .ok (.aload_n 1, 1) := dk_43 (dk_at dksX5_onward_0 14 rfl rfl)
theorem dX5_onward_15 : decode cX5_onward 15 = .ok (.arraylength, 1) := dk_190 (dk_at dksX5_onward_0 15 rfl rfl)
theorem dX5_onward_16 : decode cX5_onward 16 = .ok (.if_icmp .ge 71, 3) := dk_162 0 71 (dk_at dksX5_onward_0 16 rfl rfl)
theorem dX5_onward_19 : decode cX5_onward 19 = .ok (.aload_n 1, 1) := dk_43 (dk_at dksX5_onward_0 19 rfl rfl)
theorem dX5_onward_20 : decode cX5_onward 20 = .ok (.iload_n 2, 1) := dk_28 (dk_at dksX5_onward_0 20 rfl rfl)
theorem dX5_onward_21 : decode cX5_onward 21 = .ok (.new 93, 3) := dk_187 0 93 (dk_at dksX5_onward_0 21 rfl rfl)
theorem dX5_onward_24 : decode cX5_onward 24 = .ok (.dup, 1) := dk_89 (dk_at dksX5_onward_1 0 rfl rfl)
theorem dX5_onward_25 : decode cX5_onward 25 = .ok (.invokespecial 95, 3) := dk_183 0 95 (dk_at dksX5_onward_1 1 rfl rfl)
theorem dX5_onward_28 : decode cX5_onward 28 = .ok (.aastore, 1) := dk_83 (dk_at dksX5_onward_1 4 rfl rfl)
theorem dX5_onward_29 : decode cX5_onward 29 = .ok (.iconst 0, 1) := dk_3 (dk_at dksX5_onward_1 5 rfl rfl)
theorem dX5_onward_30 : decode cX5_onward 30 = .ok (.istore_n 3, 1) := dk_62 (dk_at dksX5_onward_1 6 rfl rfl)
theorem dX5_onward_31 : decode cX5_onward 31 = .ok (.iload_n 3, 1) := dk_29 (dk_at dksX5_onward_1 7 rfl rfl)
theorem dX5_onward_32 : decode cX5_onward 32 = .ok (.aload_n 0, 1) := dk_42 (dk_at dksX5_onward_1 8 rfl rfl)
theorem dX5_onward_33 : decode cX5_onward 33 = .ok (.getfield 36, 3) := dk_180 0 36 (dk_at dksX5_onward_1 9 rfl rfl)
theorem dX5_onward_36 : decode cX5_onward 36 = .ok (.if_icmp .ge 45, 3) := dk_162 0 45 (dk_at dksX5_onward_1 12 rfl rfl)
theorem dX5_onward_39 : decode cX5_onward 39 = .ok (.aload_n 0, 1) := dk_42 (dk_at dksX5_onward_1 15 rfl rfl)
theorem dX5_onward_40 : decode cX5_onward 40 = .ok (.getfield 40, 3) := dk_180 0 40 (dk_at dksX5_onward_1 16 rfl rfl)
theorem dX5_onward_43 : decode cX5_onward 43 = .ok (.iload_n 2, 1) := dk_28 (dk_at dksX5_onward_1 19 rfl rfl)
theorem dX5_onward_44 : decode cX5_onward 44 = .ok (.aload_n 0, 1) := dk_42 (dk_at dksX5_onward_1 20 rfl rfl)
theorem dX5_onward_45 : decode cX5_onward 45 = .ok (.getfield 36, 3) := dk_180 0 36 (dk_at dksX5_onward_1 21 rfl rfl)
theorem dX5_onward_48 : decode cX5_onward 48 = .ok (.imul, 1) := dk_104 (dk_at dksX5_onward_2 0 rfl rfl)
theorem dX5_onward_49 : decode cX5_onward 49 = .ok (.iload_n 3, 1) := dk_29 (dk_at dksX5_onward_2 1 rfl rfl)
theorem dX5_onward_50 : decode cX5_onward 50 = .ok (.iadd, 1) := dk_96 (dk_at dksX5_onward_2 2 rfl rfl)
theorem dX5_onward_51 : decode cX5_onward 51 = .ok (.iaload, 1) := dk_46 (dk_at dksX5_onward_2 3 rfl rfl)
theorem dX5_onward_52 : decode cX5_onward 52 = .ok (.iconst (-1), 1) := dk_2 (dk_at dksX5_onward_2 4 rfl rfl)
theorem dX5_onward_53 : decode cX5_onward 53 = .ok (.if_icmp .eq 22, 3) := dk_159 0 22 (dk_at dksX5_onward_2 5 rfl rfl)
theorem dX5_onward_56 : decode cX5_onward 56 = .ok (.aload_n 1, 1) := dk_43 (dk_at dksX5_onward_2 8 rfl rfl)
theorem dX5_onward_57 : decode cX5_onward 57 = .ok (.iload_n 2, 1) := dk_28 (dk_at dksX5_onward_2 9 rfl rfl)
theorem dX5_onward_58 : decode cX5_onward 58 = .ok (.aaload, 1) := dk_50 (dk_at dksX5_onward_2 10 rfl rfl)
theorem dX5_onward_59 : decode cX5_onward 59 = .ok (.aload_n 0, 1) := dk_42 (dk_at dksX5_onward_2 11 rfl rfl)
theorem dX5_onward_60 : decode cX5_onward 60 = .ok (.getfield 40, 3) := dk_180 0 40 (dk_at dksX5_onward_2 12 rfl rfl)
theorem dX5_onward_63 : decode cX5_onward 63 = .ok (.iload_n 2, 1) := dk_28 (dk_at dksX5_onward_2 15 rfl rfl)
theorem dX5_onward_64 : decode cX5_onward 64 = .ok (.aload_n 0, 1) := dk_42 (dk_at dksX5_onward_2 16 rfl rfl)
theorem dX5_onward_65 : decode cX5_onward 65 = .ok (.getfield 36, 3) := dk_180 0 36 (dk_at dksX5_onward_2 17 rfl rfl)
theorem dX5_onward_68 : decode cX5_onward 68 = .ok (.imul, 1) := dk_104 (dk_at dksX5_onward_2 20 rfl rfl)
theorem dX5_onward_69 : decode cX5_onward 69 = .ok (.iload_n 3, 1) := dk_29 (dk_at dksX5_onward_2 21 rfl rfl)
theorem dX5_onward_70 : decode cX5_onward 70 = .ok (.iadd, 1) := dk_96 (dk_at dksX5_onward_2 22 rfl rfl)
theorem dX5_onward_71 : decode cX5_onward 71 = .ok (.iaload, 1) := dk_46 (dk_at dksX5_onward_2 23 rfl rfl)
theorem dX5_onward_72 : decode cX5_onward 72 = .ok (.invokevirtual 100, 3) := dk_182 0 100 (dk_at dksX5_onward_3 0 rfl rfl)
theorem dX5_onward_75 : decode cX5_onward 75 = .ok (.iinc 3 1, 3) := dk_132 3 1 (dk_at dksX5_onward_3 3 rfl rfl)
theorem dX5_onward_78 : decode cX5_onward 78 = .ok (.goto (-47), 3) := dk_167 255 209 (dk_at dksX5_onward_3 6 rfl rfl)
theorem dX5_onward_81 : decode cX5_onward 81 = .ok (.iinc 2 1, 3) := dk_132 2 1 (dk_at dksX5_onward_3 9 rfl rfl)
theorem dX5_onward_84 : decode cX5_onward 84 = .ok (.goto (-71), 3) := dk_167 255 185 (dk_at dksX5_onward_3 12 rfl rfl)
theorem dX5_onward_87 : decode cX5_onward 87 = .ok (.iconst 0, 1) := dk_3 (dk_at dksX5_onward_3 15 rfl rfl)
theorem dX5_onward_88 : decode cX5_onward 88 = .ok (.istore_n 2, 1) := dk_61 (dk_at dksX5_onward_3 16 rfl rfl)
theorem dX5_onward_89 : decode cX5_onward 89 = .ok (.iload_n 2, 1) := dk_28 (dk_at dksX5_onward_3 17 rfl rfl)
theorem dX5_onward_90 : decode cX5_onward 90 = .ok (.aload_n 1, 1) := dk_43 (dk_at dksX5_onward_3 18 rfl rfl)
theorem dX5_onward_91 : decode cX5_onward 91 = .ok (.arraylength, 1) := dk_190 (dk_at dksX5_onward_3 19 rfl rfl)
theorem dX5_onward_92 : decode cX5_onward 92 = .ok (.if_icmp .ge 42, 3) := dk_162 0 42 (dk_at dksX5_onward_3 20 rfl rfl)
theorem dX5_onward_95 : decode cX5_onward 95 = .ok (.iconst 0, 1) := dk_3 (dk_at dksX5_onward_3 23 rfl rfl)
theorem dX5_onward_96 : decode cX5_onward 96 = .ok (.istore_n 3, 1) := dk_62 (dk_at dksX5_onward_4 0 rfl rfl)
theorem dX5_onward_97 : decode cX5_onward 97 = .ok (.iload_n 3, 1) := dk_29 (dk_at dksX5_onward_4 1 rfl rfl)
theorem dX5_onward_98 : decode cX5_onward 98 = .ok (.aload_n 1, 1) := dk_43 (dk_at dksX5_onward_4 2 rfl rfl)
theorem dX5_onward_99 : decode cX5_onward 99 = .ok (.arraylength, 1) := dk_190 (dk_at dksX5_onward_4 3 rfl rfl)
theorem dX5_onward_100 : decode cX5_onward 100 = .ok (.if_icmp .ge 28, 3) := dk_162 0 28 (dk_at dksX5_onward_4 4 rfl rfl)
theorem dX5_onward_103 : decode cX5_onward 103 = .ok (.aload_n 1, 1) := dk_43 (dk_at dksX5_onward_4 7 rfl rfl)
theorem dX5_onward_104 : decode cX5_onward 104 = .ok (.iload_n 3, 1) := dk_29 (dk_at dksX5_onward_4 8 rfl rfl)
theorem dX5_onward_105 : decode cX5_onward 105 = .ok (.aaload, 1) := dk_50 (dk_at dksX5_onward_4 9 rfl rfl)
theorem dX5_onward_106 : decode cX5_onward 106 = .ok (.iload_n 2, 1) := dk_28 (dk_at dksX5_onward_4 10 rfl rfl)
theorem dX5_onward_107 : decode cX5_onward 107 = .ok (.invokevirtual 103, 3) := dk_182 0 103 (dk_at dksX5_onward_4 11 rfl rfl)
theorem dX5_onward_110 : decode cX5_onward 110 = .ok (.ifCond .eq 12, 3) := dk_153 0 12 (dk_at dksX5_onward_4 14 rfl rfl)
theorem dX5_onward_113 : decode cX5_onward 113 = .ok (.aload_n 1, 1) := dk_43 (dk_at dksX5_onward_4 17 rfl rfl)
theorem dX5_onward_114 : decode cX5_onward 114 = .ok (.iload_n 3, 1) := dk_29 (dk_at dksX5_onward_4 18 rfl rfl)
theorem dX5_onward_115 : decode cX5_onward 115 = .ok (.aaload, 1) := dk_50 (dk_at dksX5_onward_4 19 rfl rfl)
theorem dX5_onward_116 : decode cX5_onward 116 = .ok (.aload_n 1, 1) := dk_43 (dk_at dksX5_onward_4 20 rfl rfl)
theorem dX5_onward_117 : decode cX5_onward 117 = .ok (.iload_n 2, 1) := dk_28 (dk_at dksX5_onward_4 21 rfl rfl)
theorem dX5_onward_118 : decode cX5_onward 118 = .ok (.aaload, 1) := dk_50 (dk_at dksX5_onward_4 22 rfl rfl)
theorem dX5_onward_119 : decode cX5_onward 119 = .ok (.invokevirtual 106, 3) := dk_182 0 106 (dk_at dksX5_onward_5 0 rfl rfl)
theorem dX5_onward_122 : decode cX5_onward 122 = .ok (.iinc 3 1, 3) := dk_132 3 1 (dk_at dksX5_onward_5 3 rfl rfl)
theorem dX5_onward_125 : decode cX5_onward 125 = .ok (.goto (-28), 3) := dk_167 255 228 (dk_at dksX5_onward_5 6 rfl rfl)
theorem dX5_onward_128 : decode cX5_onward 128 = .ok (.iinc 2 1, 3) := dk_132 2 1 (dk_at dksX5_onward_5 9 rfl rfl)
theorem dX5_onward_131 : decode cX5_onward 131 = .ok (.goto (-42), 3) := dk_167 255 214 (dk_at dksX5_onward_5 12 rfl rfl)
theorem dX5_onward_134 : decode cX5_onward 134 = .ok (.aload_n 1, 1) := dk_43 (dk_at dksX5_onward_5 15 rfl rfl)
theorem dX5_onward_135 : decode cX5_onward 135 = .ok (.areturn, 1) := dk_176 (dk_at dksX5_onward_5 16 rfl rfl)
abbrev cX5_most : ByteArray := prog_2_method_9_code
def yX5_most : MethodName := ⟨RX5, "most", "(I)I"⟩
def dkwX5_most_1 : List UInt8 := [185, 0, 124, 1, 0, 192, 0, 57, 58, 4, 28, 25, 4, 27, 46, 184, 0, 127, 61, 167, 255, 227, 28, 172]
abbrev dktX5_most_1 : List UInt8 := dkwX5_most_1 ++ []
def dkwX5_most_0 : List UInt8 := [3, 61, 42, 180, 0, 12, 182, 0, 114, 78, 45, 185, 0, 118, 1, 0, 153, 0, 26, 45]
abbrev dktX5_most_0 : List UInt8 := dkwX5_most_0 ++ dktX5_most_1
theorem dksX5_most_0 : cX5_most.data.toList.drop 0 = dktX5_most_0 := by decide +kernel
theorem dksX5_most_1 : cX5_most.data.toList.drop 20 = dktX5_most_1 := dk_seg dksX5_most_0 20 rfl rfl
theorem dX5_most_0 : decode cX5_most 0 = .ok (.iconst 0, 1) := dk_3 (dk_at dksX5_most_0 0 rfl rfl)
theorem dX5_most_1 : decode cX5_most 1 = .ok (.istore_n 2, 1) := dk_61 (dk_at dksX5_most_0 1 rfl rfl)
theorem dX5_most_2 : decode cX5_most 2 = .ok (.aload_n 0, 1) := dk_42 (dk_at dksX5_most_0 2 rfl rfl)
theorem dX5_most_3 : decode cX5_most 3 = .ok (.getfield 12, 3) := dk_180 0 12 (dk_at dksX5_most_0 3 rfl rfl)
theorem dX5_most_6 : decode cX5_most 6 = .ok (.invokevirtual 114, 3) := dk_182 0 114 (dk_at dksX5_most_0 6 rfl rfl)
theorem dX5_most_9 : decode cX5_most 9 = .ok (.astore_n 3, 1) := dk_78 (dk_at dksX5_most_0 9 rfl rfl)
theorem dX5_most_10 : decode cX5_most 10 = .ok (.aload_n 3, 1) := dk_45 (dk_at dksX5_most_0 10 rfl rfl)
theorem dX5_most_11 : decode cX5_most 11 = .ok (.invokeinterface 118 1, 5) := by decide +kernel
theorem dX5_most_16 : decode cX5_most 16 = .ok (.ifCond .eq 26, 3) := dk_153 0 26 (dk_at dksX5_most_0 16 rfl rfl)
theorem dX5_most_19 : decode cX5_most 19 = .ok (.aload_n 3, 1) := dk_45 (dk_at dksX5_most_0 19 rfl rfl)
theorem dX5_most_20 : decode cX5_most 20 = .ok (.invokeinterface 124 1, 5) := by decide +kernel
theorem dX5_most_25 : decode cX5_most 25 = .ok (.checkcast 57, 3) := dk_192 0 57 (dk_at dksX5_most_1 5 rfl rfl)
theorem dX5_most_28 : decode cX5_most 28 = .ok (.astore 4, 2) := dk_58 4 (dk_at dksX5_most_1 8 rfl rfl)
theorem dX5_most_30 : decode cX5_most 30 = .ok (.iload_n 2, 1) := dk_28 (dk_at dksX5_most_1 10 rfl rfl)
theorem dX5_most_31 : decode cX5_most 31 = .ok (.aload 4, 2) := dk_25 4 (dk_at dksX5_most_1 11 rfl rfl)
theorem dX5_most_33 : decode cX5_most 33 = .ok (.iload_n 1, 1) := dk_27 (dk_at dksX5_most_1 13 rfl rfl)
theorem dX5_most_34 : decode cX5_most 34 = .ok (.iaload, 1) := dk_46 (dk_at dksX5_most_1 14 rfl rfl)
theorem dX5_most_35 : decode cX5_most 35 = .ok (.invokestatic 127, 3) := dk_184 0 127 (dk_at dksX5_most_1 15 rfl rfl)
theorem dX5_most_38 : decode cX5_most 38 = .ok (.istore_n 2, 1) := dk_61 (dk_at dksX5_most_1 18 rfl rfl)
theorem dX5_most_39 : decode cX5_most 39 = .ok (.goto (-29), 3) := dk_167 255 227 (dk_at dksX5_most_1 19 rfl rfl)
theorem dX5_most_42 : decode cX5_most 42 = .ok (.iload_n 2, 1) := dk_28 (dk_at dksX5_most_1 22 rfl rfl)
theorem dX5_most_43 : decode cX5_most 43 = .ok (.ireturn, 1) := dk_172 (dk_at dksX5_most_1 23 rfl rfl)
abbrev cX5_numberOf : ByteArray := prog_2_method_3_code
def yX5_numberOf : MethodName := ⟨RX5, "numberOf", "([I)I"⟩
def dkwX5_numberOf_1 : List UInt8 := [182, 0, 75, 172]
abbrev dktX5_numberOf_1 : List UInt8 := dkwX5_numberOf_1 ++ []
def dkwX5_numberOf_0 : List UInt8 := [42, 180, 0, 21, 43, 184, 0, 66, 182, 0, 70, 192, 0, 73, 77, 44, 199, 0, 7, 2, 167, 0, 7, 44]
abbrev dktX5_numberOf_0 : List UInt8 := dkwX5_numberOf_0 ++ dktX5_numberOf_1
theorem dksX5_numberOf_0 : cX5_numberOf.data.toList.drop 0 = dktX5_numberOf_0 := by decide +kernel
theorem dksX5_numberOf_1 : cX5_numberOf.data.toList.drop 24 = dktX5_numberOf_1 := dk_seg dksX5_numberOf_0 24 rfl rfl
theorem dX5_numberOf_0 : decode cX5_numberOf 0 = .ok (.aload_n 0, 1) := dk_42 (dk_at dksX5_numberOf_0 0 rfl rfl)
theorem dX5_numberOf_1 : decode cX5_numberOf 1 = .ok (.getfield 21, 3) := dk_180 0 21 (dk_at dksX5_numberOf_0 1 rfl rfl)
theorem dX5_numberOf_4 : decode cX5_numberOf 4 = .ok (.aload_n 1, 1) := dk_43 (dk_at dksX5_numberOf_0 4 rfl rfl)
theorem dX5_numberOf_5 : decode cX5_numberOf 5 = .ok (.invokestatic 66, 3) := dk_184 0 66 (dk_at dksX5_numberOf_0 5 rfl rfl)
theorem dX5_numberOf_8 : decode cX5_numberOf 8 = .ok (.invokevirtual 70, 3) := dk_182 0 70 (dk_at dksX5_numberOf_0 8 rfl rfl)
theorem dX5_numberOf_11 : decode cX5_numberOf 11 = .ok (.checkcast 73, 3) := dk_192 0 73 (dk_at dksX5_numberOf_0 11 rfl rfl)
theorem dX5_numberOf_14 : decode cX5_numberOf 14 = .ok (.astore_n 2, 1) := dk_77 (dk_at dksX5_numberOf_0 14 rfl rfl)
theorem dX5_numberOf_15 : decode cX5_numberOf 15 = .ok (.aload_n 2, 1) := dk_44 (dk_at dksX5_numberOf_0 15 rfl rfl)
theorem dX5_numberOf_16 : decode cX5_numberOf 16 = .ok (.ifnonnull 7, 3) := dk_199 0 7 (dk_at dksX5_numberOf_0 16 rfl rfl)
theorem dX5_numberOf_19 : decode cX5_numberOf 19 = .ok (.iconst (-1), 1) := dk_2 (dk_at dksX5_numberOf_0 19 rfl rfl)
theorem dX5_numberOf_20 : decode cX5_numberOf 20 = .ok (.goto 7, 3) := dk_167 0 7 (dk_at dksX5_numberOf_0 20 rfl rfl)
theorem dX5_numberOf_23 : decode cX5_numberOf 23 = .ok (.aload_n 2, 1) := dk_44 (dk_at dksX5_numberOf_0 23 rfl rfl)
theorem dX5_numberOf_24 : decode cX5_numberOf 24 = .ok (.invokevirtual 75, 3) := dk_182 0 75 (dk_at dksX5_numberOf_1 0 rfl rfl)
theorem dX5_numberOf_27 : decode cX5_numberOf 27 = .ok (.ireturn, 1) := dk_172 (dk_at dksX5_numberOf_1 3 rfl rfl)
abbrev cX5_way : ByteArray := prog_2_method_4_code
def yX5_way : MethodName := ⟨RX5, "way", "(I)Ljava/util/ArrayList;"⟩
def dkwX5_way_1 : List UInt8 := [180, 0, 29, 29, 46, 184, 0, 82, 182, 0, 90, 42, 180, 0, 25, 29, 46, 62, 167, 255, 225, 44, 176]
abbrev dktX5_way_1 : List UInt8 := dkwX5_way_1 ++ []
def dkwX5_way_0 : List UInt8 := [187, 0, 9, 89, 183, 0, 11, 77, 27, 62, 42, 180, 0, 25, 29, 46, 2, 159, 0, 27, 44, 3, 42]
abbrev dktX5_way_0 : List UInt8 := dkwX5_way_0 ++ dktX5_way_1
theorem dksX5_way_0 : cX5_way.data.toList.drop 0 = dktX5_way_0 := by decide +kernel
theorem dksX5_way_1 : cX5_way.data.toList.drop 23 = dktX5_way_1 := dk_seg dksX5_way_0 23 rfl rfl
theorem dX5_way_0 : decode cX5_way 0 = .ok (.new 9, 3) := dk_187 0 9 (dk_at dksX5_way_0 0 rfl rfl)
theorem dX5_way_3 : decode cX5_way 3 = .ok (.dup, 1) := dk_89 (dk_at dksX5_way_0 3 rfl rfl)
theorem dX5_way_4 : decode cX5_way 4 = .ok (.invokespecial 11, 3) := dk_183 0 11 (dk_at dksX5_way_0 4 rfl rfl)
theorem dX5_way_7 : decode cX5_way 7 = .ok (.astore_n 2, 1) := dk_77 (dk_at dksX5_way_0 7 rfl rfl)
theorem dX5_way_8 : decode cX5_way 8 = .ok (.iload_n 1, 1) := dk_27 (dk_at dksX5_way_0 8 rfl rfl)
theorem dX5_way_9 : decode cX5_way 9 = .ok (.istore_n 3, 1) := dk_62 (dk_at dksX5_way_0 9 rfl rfl)
theorem dX5_way_10 : decode cX5_way 10 = .ok (.aload_n 0, 1) := dk_42 (dk_at dksX5_way_0 10 rfl rfl)
theorem dX5_way_11 : decode cX5_way 11 = .ok (.getfield 25, 3) := dk_180 0 25 (dk_at dksX5_way_0 11 rfl rfl)
theorem dX5_way_14 : decode cX5_way 14 = .ok (.iload_n 3, 1) := dk_29 (dk_at dksX5_way_0 14 rfl rfl)
theorem dX5_way_15 : decode cX5_way 15 = .ok (.iaload, 1) := dk_46 (dk_at dksX5_way_0 15 rfl rfl)
theorem dX5_way_16 : decode cX5_way 16 = .ok (.iconst (-1), 1) := dk_2 (dk_at dksX5_way_0 16 rfl rfl)
theorem dX5_way_17 : decode cX5_way 17 = .ok (.if_icmp .eq 27, 3) := dk_159 0 27 (dk_at dksX5_way_0 17 rfl rfl)
theorem dX5_way_20 : decode cX5_way 20 = .ok (.aload_n 2, 1) := dk_44 (dk_at dksX5_way_0 20 rfl rfl)
theorem dX5_way_21 : decode cX5_way 21 = .ok (.iconst 0, 1) := dk_3 (dk_at dksX5_way_0 21 rfl rfl)
theorem dX5_way_22 : decode cX5_way 22 = .ok (.aload_n 0, 1) := dk_42 (dk_at dksX5_way_0 22 rfl rfl)
theorem dX5_way_23 : decode cX5_way 23 = .ok (.getfield 29, 3) := dk_180 0 29 (dk_at dksX5_way_1 0 rfl rfl)
theorem dX5_way_26 : decode cX5_way 26 = .ok (.iload_n 3, 1) := dk_29 (dk_at dksX5_way_1 3 rfl rfl)
theorem dX5_way_27 : decode cX5_way 27 = .ok (.iaload, 1) := dk_46 (dk_at dksX5_way_1 4 rfl rfl)
theorem dX5_way_28 : decode cX5_way 28 = .ok (.invokestatic 82, 3) := dk_184 0 82 (dk_at dksX5_way_1 5 rfl rfl)
theorem dX5_way_31 : decode cX5_way 31 = .ok (.invokevirtual 90, 3) := dk_182 0 90 (dk_at dksX5_way_1 8 rfl rfl)
theorem dX5_way_34 : decode cX5_way 34 = .ok (.aload_n 0, 1) := dk_42 (dk_at dksX5_way_1 11 rfl rfl)
theorem dX5_way_35 : decode cX5_way 35 = .ok (.getfield 25, 3) := dk_180 0 25 (dk_at dksX5_way_1 12 rfl rfl)
theorem dX5_way_38 : decode cX5_way 38 = .ok (.iload_n 3, 1) := dk_29 (dk_at dksX5_way_1 15 rfl rfl)
theorem dX5_way_39 : decode cX5_way 39 = .ok (.iaload, 1) := dk_46 (dk_at dksX5_way_1 16 rfl rfl)
theorem dX5_way_40 : decode cX5_way 40 = .ok (.istore_n 3, 1) := dk_62 (dk_at dksX5_way_1 17 rfl rfl)
theorem dX5_way_41 : decode cX5_way 41 = .ok (.goto (-31), 3) := dk_167 255 225 (dk_at dksX5_way_1 18 rfl rfl)
theorem dX5_way_44 : decode cX5_way 44 = .ok (.aload_n 2, 1) := dk_44 (dk_at dksX5_way_1 21 rfl rfl)
theorem dX5_way_45 : decode cX5_way 45 = .ok (.areturn, 1) := dk_176 (dk_at dksX5_way_1 22 rfl rfl)
abbrev cX5_isAgain : ByteArray := prog_2_method_8_code
def yX5_isAgain : MethodName := ⟨RX5, "isAgain", "(I)Z"⟩
def dkwX5_isAgain_2 : List UInt8 := [153, 0, 5, 4, 172, 132, 3, 1, 167, 255, 207, 3, 172]
abbrev dktX5_isAgain_2 : List UInt8 := dkwX5_isAgain_2 ++ []
def dkwX5_isAgain_1 : List UInt8 := [96, 46, 54, 4, 21, 4, 2, 159, 0, 22, 21, 4, 29, 159, 0, 14, 44, 21, 4, 50, 29, 182, 0, 103]
abbrev dktX5_isAgain_1 : List UInt8 := dkwX5_isAgain_1 ++ dktX5_isAgain_2
def dkwX5_isAgain_0 : List UInt8 := [42, 182, 0, 110, 77, 3, 62, 29, 44, 190, 162, 0, 49, 42, 180, 0, 40, 29, 42, 180, 0, 36, 104, 27]
abbrev dktX5_isAgain_0 : List UInt8 := dkwX5_isAgain_0 ++ dktX5_isAgain_1
theorem dksX5_isAgain_0 : cX5_isAgain.data.toList.drop 0 = dktX5_isAgain_0 := by decide +kernel
theorem dksX5_isAgain_1 : cX5_isAgain.data.toList.drop 24 = dktX5_isAgain_1 := dk_seg dksX5_isAgain_0 24 rfl rfl
theorem dksX5_isAgain_2 : cX5_isAgain.data.toList.drop 48 = dktX5_isAgain_2 := dk_seg dksX5_isAgain_1 24 rfl rfl
theorem dX5_isAgain_0 : decode cX5_isAgain 0 = .ok (.aload_n 0, 1) := dk_42 (dk_at dksX5_isAgain_0 0 rfl rfl)
theorem dX5_isAgain_1 : decode cX5_isAgain 1 = .ok (.invokevirtual 110, 3) := dk_182 0 110 (dk_at dksX5_isAgain_0 1 rfl rfl)
theorem dX5_isAgain_4 : decode cX5_isAgain 4 = .ok (.astore_n 2, 1) := dk_77 (dk_at dksX5_isAgain_0 4 rfl rfl)
theorem dX5_isAgain_5 : decode cX5_isAgain 5 = .ok (.iconst 0, 1) := dk_3 (dk_at dksX5_isAgain_0 5 rfl rfl)
theorem dX5_isAgain_6 : decode cX5_isAgain 6 = .ok (.istore_n 3, 1) := dk_62 (dk_at dksX5_isAgain_0 6 rfl rfl)
theorem dX5_isAgain_7 : decode cX5_isAgain 7 = .ok (.iload_n 3, 1) := dk_29 (dk_at dksX5_isAgain_0 7 rfl rfl)
theorem dX5_isAgain_8 : decode cX5_isAgain 8 = .ok (.aload_n 2, 1) := dk_44 (dk_at dksX5_isAgain_0 8 rfl rfl)
theorem dX5_isAgain_9 : decode cX5_isAgain 9 = .ok (.arraylength, 1) := dk_190 (dk_at dksX5_isAgain_0 9 rfl rfl)
theorem dX5_isAgain_10 : decode cX5_isAgain 10 = .ok (.if_icmp .ge 49, 3) := dk_162 0 49 (dk_at dksX5_isAgain_0 10 rfl rfl)
theorem dX5_isAgain_13 : decode cX5_isAgain 13 = .ok (.aload_n 0, 1) := dk_42 (dk_at dksX5_isAgain_0 13 rfl rfl)
theorem dX5_isAgain_14 : decode cX5_isAgain 14 = .ok (.getfield 40, 3) := dk_180 0 40 (dk_at dksX5_isAgain_0 14 rfl rfl)
theorem dX5_isAgain_17 : decode cX5_isAgain 17 = .ok (.iload_n 3, 1) := dk_29 (dk_at dksX5_isAgain_0 17 rfl rfl)
theorem dX5_isAgain_18 : decode cX5_isAgain 18 = .ok (.aload_n 0, 1) := dk_42 (dk_at dksX5_isAgain_0 18 rfl rfl)
theorem dX5_isAgain_19 : decode cX5_isAgain 19 = .ok (.getfield 36, 3) := dk_180 0 36 (dk_at dksX5_isAgain_0 19 rfl rfl)
theorem dX5_isAgain_22 : decode cX5_isAgain 22 = .ok (.imul, 1) := dk_104 (dk_at dksX5_isAgain_0 22 rfl rfl)
theorem dX5_isAgain_23 : decode cX5_isAgain 23 = .ok (.iload_n 1, 1) := dk_27 (dk_at dksX5_isAgain_0 23 rfl rfl)
theorem dX5_isAgain_24 : decode cX5_isAgain 24 = .ok (.iadd, 1) := dk_96 (dk_at dksX5_isAgain_1 0 rfl rfl)
theorem dX5_isAgain_25 : decode cX5_isAgain 25 = .ok (.iaload, 1) := dk_46 (dk_at dksX5_isAgain_1 1 rfl rfl)
theorem dX5_isAgain_26 : decode cX5_isAgain 26 = .ok (.istore 4, 2) := dk_54 4 (dk_at dksX5_isAgain_1 2 rfl rfl)
theorem dX5_isAgain_28 : decode cX5_isAgain 28 = .ok (.iload 4, 2) := dk_21 4 (dk_at dksX5_isAgain_1 4 rfl rfl)
theorem dX5_isAgain_30 : decode cX5_isAgain 30 = .ok (.iconst (-1), 1) := dk_2 (dk_at dksX5_isAgain_1 6 rfl rfl)
theorem dX5_isAgain_31 : decode cX5_isAgain 31 = .ok (.if_icmp .eq 22, 3) := dk_159 0 22 (dk_at dksX5_isAgain_1 7 rfl rfl)
theorem dX5_isAgain_34 : decode cX5_isAgain 34 = .ok (.iload 4, 2) := dk_21 4 (dk_at dksX5_isAgain_1 10 rfl rfl)
theorem dX5_isAgain_36 : decode cX5_isAgain 36 = .ok (.iload_n 3, 1) := dk_29 (dk_at dksX5_isAgain_1 12 rfl rfl)
theorem dX5_isAgain_37 : decode cX5_isAgain 37 = .ok (.if_icmp .eq 14, 3) := dk_159 0 14 (dk_at dksX5_isAgain_1 13 rfl rfl)
theorem dX5_isAgain_40 : decode cX5_isAgain 40 = .ok (.aload_n 2, 1) := dk_44 (dk_at dksX5_isAgain_1 16 rfl rfl)
theorem dX5_isAgain_41 : decode cX5_isAgain 41 = .ok (.iload 4, 2) := dk_21 4 (dk_at dksX5_isAgain_1 17 rfl rfl)
theorem dX5_isAgain_43 : decode cX5_isAgain 43 = .ok (.aaload, 1) := dk_50 (dk_at dksX5_isAgain_1 19 rfl rfl)
theorem dX5_isAgain_44 : decode cX5_isAgain 44 = .ok (.iload_n 3, 1) := dk_29 (dk_at dksX5_isAgain_1 20 rfl rfl)
theorem dX5_isAgain_45 : decode cX5_isAgain 45 = .ok (.invokevirtual 103, 3) := dk_182 0 103 (dk_at dksX5_isAgain_1 21 rfl rfl)
theorem dX5_isAgain_48 : decode cX5_isAgain 48 = .ok (.ifCond .eq 5, 3) := dk_153 0 5 (dk_at dksX5_isAgain_2 0 rfl rfl)
theorem dX5_isAgain_51 : decode cX5_isAgain 51 = .ok (.iconst 1, 1) := dk_4 (dk_at dksX5_isAgain_2 3 rfl rfl)
theorem dX5_isAgain_52 : decode cX5_isAgain 52 = .ok (.ireturn, 1) := dk_172 (dk_at dksX5_isAgain_2 4 rfl rfl)
theorem dX5_isAgain_53 : decode cX5_isAgain 53 = .ok (.iinc 3 1, 3) := dk_132 3 1 (dk_at dksX5_isAgain_2 5 rfl rfl)
theorem dX5_isAgain_56 : decode cX5_isAgain 56 = .ok (.goto (-49), 3) := dk_167 255 207 (dk_at dksX5_isAgain_2 8 rfl rfl)
theorem dX5_isAgain_59 : decode cX5_isAgain 59 = .ok (.iconst 0, 1) := dk_3 (dk_at dksX5_isAgain_2 11 rfl rfl)
theorem dX5_isAgain_60 : decode cX5_isAgain 60 = .ok (.ireturn, 1) := dk_172 (dk_at dksX5_isAgain_2 12 rfl rfl)
theorem q107 : (Jvm.Cond.initialized "Pebblegate$Reach") ∈ lw_all := lw_g (lw_at lw_m1 36 rfl) rfl
theorem q269 : (Jvm.Cond.selects "Pebblegate$Reach" ({ cls := "java/lang/Object", name := "getClass", desc := "()Ljava/lang/Class;" } : Jvm.MethodName) ({ cls := "java/lang/Object", name := "getClass", desc := "()Ljava/lang/Class;" } : Jvm.MethodName)) ∈ lw_all := lw_g (lw_at lw_m1 198 rfl) rfl
theorem q1011 : (Jvm.Cond.instantiable "Pebblegate$Reach" (7 : Nat)) ∈ lw_all := lw_g (lw_at lw_m4 220 rfl) rfl
theorem q1013 : (Jvm.Cond.instanceMethod ({ cls := "Pebblegate$Reach", name := "<init>", desc := "([ILjava/util/ArrayList;)V" } : Jvm.MethodName)) ∈ lw_all := lw_g (lw_at lw_m4 222 rfl) rfl
theorem q1014 : (Jvm.Cond.code ({ cls := "Pebblegate$Reach", name := "<init>", desc := "([ILjava/util/ArrayList;)V" } : Jvm.MethodName) prog_2_method_1_code (6 : Nat) (Option.none : Option Jvm.ClassFile.FieldType)) ∈ lw_all := lw_g (lw_at lw_m4 223 rfl) rfl
theorem q1015 : (Jvm.Cond.methodLink "Pebblegate$Reach" (3 : Nat) ({ cls := "java/lang/Object", name := "<init>", desc := "()V" } : Jvm.MethodName)) ∈ lw_all := lw_g (lw_at lw_m4 224 rfl) rfl
theorem q1016 : (Jvm.Cond.classLink "Pebblegate$Reach" (9 : Nat) "java/util/ArrayList") ∈ lw_all := lw_g (lw_at lw_m4 225 rfl) rfl
theorem q1017 : (Jvm.Cond.methodLink "Pebblegate$Reach" (11 : Nat) ({ cls := "java/util/ArrayList", name := "<init>", desc := "()V" } : Jvm.MethodName)) ∈ lw_all := lw_g (lw_at lw_m4 226 rfl) rfl
theorem q1018 : (Jvm.Cond.classLink "Pebblegate$Reach" (18 : Nat) "java/util/TreeMap") ∈ lw_all := lw_g (lw_at lw_m4 227 rfl) rfl
theorem q1019 : (Jvm.Cond.methodLink "Pebblegate$Reach" (20 : Nat) ({ cls := "java/util/TreeMap", name := "<init>", desc := "()V" } : Jvm.MethodName)) ∈ lw_all := lw_g (lw_at lw_m4 228 rfl) rfl
theorem q1020 : (Jvm.Cond.methodLink "Pebblegate$Reach" (32 : Nat) ({ cls := "java/util/ArrayList", name := "size", desc := "()I" } : Jvm.MethodName)) ∈ lw_all := lw_g (lw_at lw_m4 229 rfl) rfl
theorem q1021 : (Jvm.Cond.methodLink "Pebblegate$Reach" (43 : Nat) ({ cls := "Pebblegate$Reach", name := "enter", desc := "([III)I" } : Jvm.MethodName)) ∈ lw_all := lw_g (lw_at lw_m4 230 rfl) rfl
theorem q1022 : (Jvm.Cond.privateMethod ({ cls := "Pebblegate$Reach", name := "enter", desc := "([III)I" } : Jvm.MethodName)) ∈ lw_tbl := lw_at lw_m4 231 rfl
theorem q1023 : (Jvm.Cond.instanceMethod ({ cls := "Pebblegate$Reach", name := "enter", desc := "([III)I" } : Jvm.MethodName)) ∈ lw_all := lw_g (lw_at lw_m4 232 rfl) rfl
theorem q1024 : (Jvm.Cond.code ({ cls := "Pebblegate$Reach", name := "enter", desc := "([III)I" } : Jvm.MethodName) prog_2_method_2_code (7 : Nat) (Option.some Jvm.ClassFile.FieldType.int)) ∈ lw_all := lw_g (lw_at lw_m4 233 rfl) rfl
theorem q1025 : (Jvm.Cond.methodLinkNest "Pebblegate$Reach" (66 : Nat) ({ cls := "Pebblegate", name := "textOf", desc := "([I)Ljava/lang/String;" } : Jvm.MethodName) "Pebblegate") ∈ lw_tbl := lw_at lw_m4 234 rfl
theorem q1026 : (Jvm.Cond.methodLink "Pebblegate$Reach" (70 : Nat) ({ cls := "java/util/TreeMap", name := "get", desc := "(Ljava/lang/Object;)Ljava/lang/Object;" } : Jvm.MethodName)) ∈ lw_all := lw_g (lw_at lw_m4 235 rfl) rfl
theorem q1027 : (Jvm.Cond.classLink "Pebblegate$Reach" (73 : Nat) "java/lang/Integer") ∈ lw_all := lw_g (lw_at lw_m4 236 rfl) rfl
theorem q1028 : (Jvm.Cond.methodLink "Pebblegate$Reach" (75 : Nat) ({ cls := "java/lang/Integer", name := "intValue", desc := "()I" } : Jvm.MethodName)) ∈ lw_all := lw_g (lw_at lw_m4 237 rfl) rfl
theorem q1029 : (Jvm.Cond.methodLink "Pebblegate$Reach" (78 : Nat) ({ cls := "java/util/ArrayList", name := "add", desc := "(Ljava/lang/Object;)Z" } : Jvm.MethodName)) ∈ lw_all := lw_g (lw_at lw_m4 238 rfl) rfl
theorem q1030 : (Jvm.Cond.methodLink "Pebblegate$Reach" (82 : Nat) ({ cls := "java/lang/Integer", name := "valueOf", desc := "(I)Ljava/lang/Integer;" } : Jvm.MethodName)) ∈ lw_all := lw_g (lw_at lw_m4 239 rfl) rfl
theorem q1031 : (Jvm.Cond.methodLink "Pebblegate$Reach" (86 : Nat) ({ cls := "java/util/TreeMap", name := "put", desc := "(Ljava/lang/Object;Ljava/lang/Object;)Ljava/lang/Object;" } : Jvm.MethodName)) ∈ lw_all := lw_g (lw_at lw_m5 0 rfl) rfl
theorem q1108 : (Jvm.Cond.methodLink "Pebblegate$Reach" (51 : Nat) ({ cls := "java/util/ArrayList", name := "get", desc := "(I)Ljava/lang/Object;" } : Jvm.MethodName)) ∈ lw_all := lw_g (lw_at lw_m5 77 rfl) rfl
theorem q1109 : (Jvm.Cond.classLink "Pebblegate$Reach" (55 : Nat) "Pebblegate$Step") ∈ lw_all := lw_g (lw_at lw_m5 78 rfl) rfl
theorem q1110 : (Jvm.Cond.classLink "Pebblegate$Reach" (57 : Nat) "[I") ∈ lw_all := lw_g (lw_at lw_m5 79 rfl) rfl
theorem q1111 : (Jvm.Cond.methodLink "Pebblegate$Reach" (58 : Nat) ({ cls := "Pebblegate$Step", name := "can", desc := "([I)Z" } : Jvm.MethodName)) ∈ lw_all := lw_g (lw_at lw_m5 80 rfl) rfl
theorem q1112 : (Jvm.Cond.methodLink "Pebblegate$Reach" (62 : Nat) ({ cls := "Pebblegate$Step", name := "go", desc := "([I)[I" } : Jvm.MethodName)) ∈ lw_all := lw_g (lw_at lw_m5 81 rfl) rfl
theorem q1117 : (Jvm.Cond.fieldLink "Pebblegate$Reach" (12 : Nat) "Pebblegate$Reach" "all" "Ljava/util/ArrayList;") ∈ lw_all := lw_g (lw_at lw_m5 86 rfl) rfl
theorem q1119 : (Jvm.Cond.fieldLink "Pebblegate$Reach" (21 : Nat) "Pebblegate$Reach" "numbers" "Ljava/util/TreeMap;") ∈ lw_all := lw_g (lw_at lw_m5 88 rfl) rfl
theorem q1120 : (Jvm.Cond.fieldLink "Pebblegate$Reach" (25 : Nat) "Pebblegate$Reach" "ups" "[I") ∈ lw_all := lw_g (lw_at lw_m5 89 rfl) rfl
theorem q1122 : (Jvm.Cond.fieldLink "Pebblegate$Reach" (29 : Nat) "Pebblegate$Reach" "bys" "[I") ∈ lw_all := lw_g (lw_at lw_m5 91 rfl) rfl
theorem q1123 : (Jvm.Cond.fieldLink "Pebblegate$Reach" (40 : Nat) "Pebblegate$Reach" "next" "[I") ∈ lw_all := lw_g (lw_at lw_m5 92 rfl) rfl
theorem q1124 : (Jvm.Cond.fieldLink "Pebblegate$Reach" (36 : Nat) "Pebblegate$Reach" "steps" "I") ∈ lw_all := lw_g (lw_at lw_m5 93 rfl) rfl
theorem q1125 : (Jvm.Cond.fieldLink "Pebblegate$Reach" (47 : Nat) "Pebblegate$Reach" "isWide" "Z") ∈ lw_all := lw_g (lw_at lw_m5 94 rfl) rfl
theorem q1127 : (Jvm.Cond.laysFinal "Pebblegate$Reach" "Pebblegate$Reach" "all" "Ljava/util/ArrayList;") ∈ lw_all := lw_g (lw_at lw_m5 96 rfl) rfl
theorem q1128 : (Jvm.Cond.soleField "Pebblegate$Reach" "all") ∈ lw_all := lw_g (lw_at lw_m5 97 rfl) rfl
theorem q1129 : (Jvm.Cond.laysFinal "Pebblegate$Reach" "Pebblegate$Reach" "numbers" "Ljava/util/TreeMap;") ∈ lw_all := lw_g (lw_at lw_m5 98 rfl) rfl
theorem q1130 : (Jvm.Cond.soleField "Pebblegate$Reach" "numbers") ∈ lw_all := lw_g (lw_at lw_m5 99 rfl) rfl
theorem q1131 : (Jvm.Cond.laysFinal "Pebblegate$Reach" "Pebblegate$Reach" "ups" "[I") ∈ lw_all := lw_g (lw_at lw_m5 100 rfl) rfl
theorem q1132 : (Jvm.Cond.soleField "Pebblegate$Reach" "ups") ∈ lw_all := lw_g (lw_at lw_m5 101 rfl) rfl
theorem q1133 : (Jvm.Cond.laysFinal "Pebblegate$Reach" "Pebblegate$Reach" "bys" "[I") ∈ lw_all := lw_g (lw_at lw_m5 102 rfl) rfl
theorem q1134 : (Jvm.Cond.soleField "Pebblegate$Reach" "bys") ∈ lw_all := lw_g (lw_at lw_m5 103 rfl) rfl
theorem q1135 : (Jvm.Cond.laysFinal "Pebblegate$Reach" "Pebblegate$Reach" "next" "[I") ∈ lw_all := lw_g (lw_at lw_m5 104 rfl) rfl
theorem q1136 : (Jvm.Cond.soleField "Pebblegate$Reach" "next") ∈ lw_all := lw_g (lw_at lw_m5 105 rfl) rfl
theorem q1137 : (Jvm.Cond.laysFinal "Pebblegate$Reach" "Pebblegate$Reach" "steps" "I") ∈ lw_all := lw_g (lw_at lw_m5 106 rfl) rfl
theorem q1138 : (Jvm.Cond.soleField "Pebblegate$Reach" "steps") ∈ lw_all := lw_g (lw_at lw_m5 107 rfl) rfl
theorem q1139 : (Jvm.Cond.lays "Pebblegate$Reach" "Pebblegate$Reach" "isWide" "Z") ∈ lw_all := lw_g (lw_at lw_m5 108 rfl) rfl
theorem q1140 : (Jvm.Cond.soleField "Pebblegate$Reach" "isWide") ∈ lw_all := lw_g (lw_at lw_m5 109 rfl) rfl
theorem q1141 : (Jvm.Cond.superclass "Pebblegate$Reach" "java/lang/Object") ∈ lw_all := lw_g (lw_at lw_m5 110 rfl) rfl
theorem q1147 : (Jvm.Cond.instanceMethod ({ cls := "Pebblegate$Reach", name := "deads", desc := "()Ljava/util/BitSet;" } : Jvm.MethodName)) ∈ lw_all := lw_g (lw_at lw_m5 116 rfl) rfl
theorem q1148 : (Jvm.Cond.selects "Pebblegate$Reach" ({ cls := "Pebblegate$Reach", name := "deads", desc := "()Ljava/util/BitSet;" } : Jvm.MethodName) ({ cls := "Pebblegate$Reach", name := "deads", desc := "()Ljava/util/BitSet;" } : Jvm.MethodName)) ∈ lw_all := lw_g (lw_at lw_m5 117 rfl) rfl
theorem q1149 : (Jvm.Cond.code ({ cls := "Pebblegate$Reach", name := "deads", desc := "()Ljava/util/BitSet;" } : Jvm.MethodName) prog_2_method_5_code (5 : Nat) (Option.some (Jvm.ClassFile.FieldType.object "java/util/BitSet"))) ∈ lw_all := lw_g (lw_at lw_m5 118 rfl) rfl
theorem q1150 : (Jvm.Cond.classLink "Pebblegate$Reach" (93 : Nat) "java/util/BitSet") ∈ lw_all := lw_g (lw_at lw_m5 119 rfl) rfl
theorem q1151 : (Jvm.Cond.methodLink "Pebblegate$Reach" (95 : Nat) ({ cls := "java/util/BitSet", name := "<init>", desc := "()V" } : Jvm.MethodName)) ∈ lw_all := lw_g (lw_at lw_m5 120 rfl) rfl
theorem q1152 : (Jvm.Cond.methodLink "Pebblegate$Reach" (96 : Nat) ({ cls := "java/util/BitSet", name := "set", desc := "(IZ)V" } : Jvm.MethodName)) ∈ lw_all := lw_g (lw_at lw_m5 121 rfl) rfl
theorem q1158 : (Jvm.Cond.instanceMethod ({ cls := "Pebblegate$Reach", name := "rings", desc := "()Ljava/util/BitSet;" } : Jvm.MethodName)) ∈ lw_all := lw_g (lw_at lw_m5 127 rfl) rfl
theorem q1159 : (Jvm.Cond.selects "Pebblegate$Reach" ({ cls := "Pebblegate$Reach", name := "rings", desc := "()Ljava/util/BitSet;" } : Jvm.MethodName) ({ cls := "Pebblegate$Reach", name := "rings", desc := "()Ljava/util/BitSet;" } : Jvm.MethodName)) ∈ lw_all := lw_g (lw_at lw_m5 128 rfl) rfl
theorem q1160 : (Jvm.Cond.code ({ cls := "Pebblegate$Reach", name := "rings", desc := "()Ljava/util/BitSet;" } : Jvm.MethodName) prog_2_method_7_code (4 : Nat) (Option.some (Jvm.ClassFile.FieldType.object "java/util/BitSet"))) ∈ lw_all := lw_g (lw_at lw_m5 129 rfl) rfl
theorem q1161 : (Jvm.Cond.methodLink "Pebblegate$Reach" (110 : Nat) ({ cls := "Pebblegate$Reach", name := "onward", desc := "()[Ljava/util/BitSet;" } : Jvm.MethodName)) ∈ lw_all := lw_g (lw_at lw_m5 130 rfl) rfl
theorem q1162 : (Jvm.Cond.privateMethod ({ cls := "Pebblegate$Reach", name := "onward", desc := "()[Ljava/util/BitSet;" } : Jvm.MethodName)) ∈ lw_tbl := lw_at lw_m5 131 rfl
theorem q1163 : (Jvm.Cond.instanceMethod ({ cls := "Pebblegate$Reach", name := "onward", desc := "()[Ljava/util/BitSet;" } : Jvm.MethodName)) ∈ lw_all := lw_g (lw_at lw_m5 132 rfl) rfl
theorem q1164 : (Jvm.Cond.code ({ cls := "Pebblegate$Reach", name := "onward", desc := "()[Ljava/util/BitSet;" } : Jvm.MethodName) prog_2_method_6_code (4 : Nat) (Option.some (Jvm.ClassFile.FieldType.array (Jvm.ClassFile.FieldType.object "java/util/BitSet")))) ∈ lw_all := lw_g (lw_at lw_m5 133 rfl) rfl
theorem q1166 : (Jvm.Cond.methodLink "Pebblegate$Reach" (100 : Nat) ({ cls := "java/util/BitSet", name := "set", desc := "(I)V" } : Jvm.MethodName)) ∈ lw_all := lw_g (lw_at lw_m5 135 rfl) rfl
theorem q1167 : (Jvm.Cond.methodLink "Pebblegate$Reach" (103 : Nat) ({ cls := "java/util/BitSet", name := "get", desc := "(I)Z" } : Jvm.MethodName)) ∈ lw_all := lw_g (lw_at lw_m5 136 rfl) rfl
theorem q1171 : (Jvm.Cond.methodLink "Pebblegate$Reach" (106 : Nat) ({ cls := "java/util/BitSet", name := "or", desc := "(Ljava/util/BitSet;)V" } : Jvm.MethodName)) ∈ lw_all := lw_g (lw_at lw_m5 140 rfl) rfl
theorem q1360 : (Jvm.Cond.instanceMethod ({ cls := "Pebblegate$Reach", name := "most", desc := "(I)I" } : Jvm.MethodName)) ∈ lw_all := lw_g (lw_at lw_m6 89 rfl) rfl
theorem q1361 : (Jvm.Cond.selects "Pebblegate$Reach" ({ cls := "Pebblegate$Reach", name := "most", desc := "(I)I" } : Jvm.MethodName) ({ cls := "Pebblegate$Reach", name := "most", desc := "(I)I" } : Jvm.MethodName)) ∈ lw_all := lw_g (lw_at lw_m6 90 rfl) rfl
theorem q1362 : (Jvm.Cond.code ({ cls := "Pebblegate$Reach", name := "most", desc := "(I)I" } : Jvm.MethodName) prog_2_method_9_code (5 : Nat) (Option.some Jvm.ClassFile.FieldType.int)) ∈ lw_all := lw_g (lw_at lw_m6 91 rfl) rfl
theorem q1363 : (Jvm.Cond.methodLink "Pebblegate$Reach" (114 : Nat) ({ cls := "java/util/ArrayList", name := "iterator", desc := "()Ljava/util/Iterator;" } : Jvm.MethodName)) ∈ lw_all := lw_g (lw_at lw_m6 92 rfl) rfl
theorem q1364 : (Jvm.Cond.interfaceEntry "Pebblegate$Reach" (118 : Nat)) ∈ lw_tbl := lw_at lw_m6 93 rfl
theorem q1365 : (Jvm.Cond.methodLink "Pebblegate$Reach" (118 : Nat) ({ cls := "java/util/Iterator", name := "hasNext", desc := "()Z" } : Jvm.MethodName)) ∈ lw_all := lw_g (lw_at lw_m6 94 rfl) rfl
theorem q1366 : (Jvm.Cond.interfaceEntry "Pebblegate$Reach" (124 : Nat)) ∈ lw_tbl := lw_at lw_m6 95 rfl
theorem q1367 : (Jvm.Cond.methodLink "Pebblegate$Reach" (124 : Nat) ({ cls := "java/util/Iterator", name := "next", desc := "()Ljava/lang/Object;" } : Jvm.MethodName)) ∈ lw_all := lw_g (lw_at lw_m6 96 rfl) rfl
theorem q1368 : (Jvm.Cond.methodLink "Pebblegate$Reach" (127 : Nat) ({ cls := "java/lang/Math", name := "max", desc := "(II)I" } : Jvm.MethodName)) ∈ lw_all := lw_g (lw_at lw_m6 97 rfl) rfl
theorem q1642 : (Jvm.Cond.instanceMethod ({ cls := "Pebblegate$Reach", name := "numberOf", desc := "([I)I" } : Jvm.MethodName)) ∈ lw_all := lw_g (lw_at lw_m7 131 rfl) rfl
theorem q1643 : (Jvm.Cond.selects "Pebblegate$Reach" ({ cls := "Pebblegate$Reach", name := "numberOf", desc := "([I)I" } : Jvm.MethodName) ({ cls := "Pebblegate$Reach", name := "numberOf", desc := "([I)I" } : Jvm.MethodName)) ∈ lw_all := lw_g (lw_at lw_m7 132 rfl) rfl
theorem q1644 : (Jvm.Cond.code ({ cls := "Pebblegate$Reach", name := "numberOf", desc := "([I)I" } : Jvm.MethodName) prog_2_method_3_code (3 : Nat) (Option.some Jvm.ClassFile.FieldType.int)) ∈ lw_all := lw_g (lw_at lw_m7 133 rfl) rfl
theorem q1646 : (Jvm.Cond.instanceMethod ({ cls := "Pebblegate$Reach", name := "way", desc := "(I)Ljava/util/ArrayList;" } : Jvm.MethodName)) ∈ lw_all := lw_g (lw_at lw_m7 135 rfl) rfl
theorem q1647 : (Jvm.Cond.selects "Pebblegate$Reach" ({ cls := "Pebblegate$Reach", name := "way", desc := "(I)Ljava/util/ArrayList;" } : Jvm.MethodName) ({ cls := "Pebblegate$Reach", name := "way", desc := "(I)Ljava/util/ArrayList;" } : Jvm.MethodName)) ∈ lw_all := lw_g (lw_at lw_m7 136 rfl) rfl
theorem q1648 : (Jvm.Cond.code ({ cls := "Pebblegate$Reach", name := "way", desc := "(I)Ljava/util/ArrayList;" } : Jvm.MethodName) prog_2_method_4_code (4 : Nat) (Option.some (Jvm.ClassFile.FieldType.object "java/util/ArrayList"))) ∈ lw_all := lw_g (lw_at lw_m7 137 rfl) rfl
theorem q1649 : (Jvm.Cond.methodLink "Pebblegate$Reach" (90 : Nat) ({ cls := "java/util/ArrayList", name := "add", desc := "(ILjava/lang/Object;)V" } : Jvm.MethodName)) ∈ lw_all := lw_g (lw_at lw_m7 138 rfl) rfl
theorem q1777 : (Jvm.Cond.instanceMethod ({ cls := "Pebblegate$Reach", name := "isAgain", desc := "(I)Z" } : Jvm.MethodName)) ∈ lw_all := lw_g (lw_at lw_m8 26 rfl) rfl
theorem q1778 : (Jvm.Cond.selects "Pebblegate$Reach" ({ cls := "Pebblegate$Reach", name := "isAgain", desc := "(I)Z" } : Jvm.MethodName) ({ cls := "Pebblegate$Reach", name := "isAgain", desc := "(I)Z" } : Jvm.MethodName)) ∈ lw_all := lw_g (lw_at lw_m8 27 rfl) rfl
theorem q1779 : (Jvm.Cond.code ({ cls := "Pebblegate$Reach", name := "isAgain", desc := "(I)Z" } : Jvm.MethodName) prog_2_method_8_code (5 : Nat) (Option.some Jvm.ClassFile.FieldType.boolean)) ∈ lw_all := lw_g (lw_at lw_m8 28 rfl) rfl
theorem q2207 : (Jvm.Cond.castable "Pebblegate$Reach" "java/lang/Object") ∈ lw_tbl := lw_at lw_m9 216 rfl
theorem in_X5 : ∀ w ∈ wsX50, w ∈ lw_all := lw_in wsX50 [1127, 1129, 1131, 1133, 1135, 1137, 1139] (by decide +kernel) (by decide +kernel)

-- J28.java_lang_AbstractStringBuilder.lean.txt
/-! java/lang/AbstractStringBuilder -/
set_option maxRecDepth 100000
def RJ28 : String := "java/lang/AbstractStringBuilder"
abbrev cJ28_compareTo : ByteArray := prog_9_method_5_code
def yJ28_compareTo : MethodName := ⟨RJ28, "compareTo", "(Ljava/lang/AbstractStringBuilder;)I"⟩
def dkwJ28_compareTo_4 : List UInt8 := [184, 0, 97, 172]
abbrev dktJ28_compareTo_4 : List UInt8 := dkwJ28_compareTo_4 ++ []
def dkwJ28_compareTo_3 : List UInt8 := [182, 0, 83, 153, 0, 15, 44, 45, 21, 4, 21, 5, 184, 0, 94, 167, 0, 12, 44, 45, 21, 4, 21, 5]
abbrev dktJ28_compareTo_3 : List UInt8 := dkwJ28_compareTo_3 ++ dktJ28_compareTo_4
def dkwJ28_compareTo_2 : List UInt8 := [45, 21, 4, 21, 5, 184, 0, 87, 167, 0, 12, 44, 45, 21, 4, 21, 5, 184, 0, 93, 172, 42]
abbrev dktJ28_compareTo_2 : List UInt8 := dkwJ28_compareTo_2 ++ dktJ28_compareTo_3
def dkwJ28_compareTo_1 : List UInt8 := [180, 0, 79, 54, 5, 42, 180, 0, 22, 43, 180, 0, 22, 160, 0, 32, 42, 182, 0, 83, 153, 0, 15, 44]
abbrev dktJ28_compareTo_1 : List UInt8 := dkwJ28_compareTo_1 ++ dktJ28_compareTo_2
def dkwJ28_compareTo_0 : List UInt8 := [42, 43, 166, 0, 5, 3, 172, 42, 180, 0, 15, 77, 43, 180, 0, 15, 78, 42, 180, 0, 79, 54, 4, 43]
abbrev dktJ28_compareTo_0 : List UInt8 := dkwJ28_compareTo_0 ++ dktJ28_compareTo_1
theorem dksJ28_compareTo_0 : cJ28_compareTo.data.toList.drop 0 = dktJ28_compareTo_0 := by decide +kernel
theorem dksJ28_compareTo_1 : cJ28_compareTo.data.toList.drop 24 = dktJ28_compareTo_1 := dk_seg dksJ28_compareTo_0 24 rfl rfl
theorem dksJ28_compareTo_2 : cJ28_compareTo.data.toList.drop 48 = dktJ28_compareTo_2 := dk_seg dksJ28_compareTo_1 24 rfl rfl
theorem dksJ28_compareTo_3 : cJ28_compareTo.data.toList.drop 70 = dktJ28_compareTo_3 := dk_seg dksJ28_compareTo_2 22 rfl rfl
theorem dksJ28_compareTo_4 : cJ28_compareTo.data.toList.drop 94 = dktJ28_compareTo_4 := dk_seg dksJ28_compareTo_3 24 rfl rfl
theorem dJ28_compareTo_0 : decode cJ28_compareTo 0 = .ok (.aload_n 0, 1) := dk_42 (dk_at dksJ28_compareTo_0 0 rfl rfl)
theorem dJ28_compareTo_1 : decode cJ28_compareTo 1 = .ok (.aload_n 1, 1) := dk_43 (dk_at dksJ28_compareTo_0 1 rfl rfl)
theorem dJ28_compareTo_2 : decode cJ28_compareTo 2 = .ok (.if_acmp .ne 5, 3) := dk_166 0 5 (dk_at dksJ28_compareTo_0 2 rfl rfl)
theorem dJ28_compareTo_5 : decode cJ28_compareTo 5 = .ok (.iconst 0, 1) := dk_3 (dk_at dksJ28_compareTo_0 5 rfl rfl)
theorem dJ28_compareTo_6 : decode cJ28_compareTo 6 = .ok (.ireturn, 1) := dk_172 (dk_at dksJ28_compareTo_0 6 rfl rfl)
theorem dJ28_compareTo_7 : decode cJ28_compareTo 7 = .ok (.aload_n 0, 1) := dk_42 (dk_at dksJ28_compareTo_0 7 rfl rfl)
theorem dJ28_compareTo_8 : decode cJ28_compareTo 8 = .ok (.getfield 15, 3) := dk_180 0 15 (dk_at dksJ28_compareTo_0 8 rfl rfl)
theorem dJ28_compareTo_11 : decode cJ28_compareTo 11 = .ok (.astore_n 2, 1) := dk_77 (dk_at dksJ28_compareTo_0 11 rfl rfl)
theorem dJ28_compareTo_12 : decode cJ28_compareTo 12 = .ok (.aload_n 1, 1) := dk_43 (dk_at dksJ28_compareTo_0 12 rfl rfl)
theorem dJ28_compareTo_13 : decode cJ28_compareTo 13 = .ok (.getfield 15, 3) := dk_180 0 15 (dk_at dksJ28_compareTo_0 13 rfl rfl)
theorem dJ28_compareTo_16 : decode cJ28_compareTo 16 = .ok (.astore_n 3, 1) := dk_78 (dk_at dksJ28_compareTo_0 16 rfl rfl)
theorem dJ28_compareTo_17 : decode cJ28_compareTo 17 = .ok (.aload_n 0, 1) := dk_42 (dk_at dksJ28_compareTo_0 17 rfl rfl)
theorem dJ28_compareTo_18 : decode cJ28_compareTo 18 = .ok (.getfield 79, 3) := dk_180 0 79 (dk_at dksJ28_compareTo_0 18 rfl rfl)
theorem dJ28_compareTo_21 : decode cJ28_compareTo 21 = .ok (.istore 4, 2) := dk_54 4 (dk_at dksJ28_compareTo_0 21 rfl rfl)
theorem dJ28_compareTo_23 : decode cJ28_compareTo 23 = .ok (.aload_n 1, 1) := dk_43 (dk_at dksJ28_compareTo_0 23 rfl rfl)
theorem dJ28_compareTo_24 : decode cJ28_compareTo 24 = .ok (.getfield 79, 3) := dk_180 0 79 (dk_at dksJ28_compareTo_1 0 rfl rfl)
theorem dJ28_compareTo_27 : decode cJ28_compareTo 27 = .ok (.istore 5, 2) := dk_54 5 (dk_at dksJ28_compareTo_1 3 rfl rfl)
theorem dJ28_compareTo_29 : decode cJ28_compareTo 29 = .ok (.aload_n 0, 1) := dk_42 (dk_at dksJ28_compareTo_1 5 rfl rfl)
theorem dJ28_compareTo_30 : decode cJ28_compareTo 30 = .ok (.getfield 22, 3) := dk_180 0 22 (dk_at dksJ28_compareTo_1 6 rfl rfl)
theorem dJ28_compareTo_33 : decode cJ28_compareTo 33 = .ok (.aload_n 1, 1) := dk_43 (dk_at dksJ28_compareTo_1 9 rfl rfl)
theorem dJ28_compareTo_34 : decode cJ28_compareTo 34 = .ok (.getfield 22, 3) := dk_180 0 22 (dk_at dksJ28_compareTo_1 10 rfl rfl)
theorem dJ28_compareTo_37 : decode cJ28_compareTo 37 = .ok (.if_icmp .ne 32, 3) := dk_160 0 32 (dk_at dksJ28_compareTo_1 13 rfl rfl)
theorem dJ28_compareTo_40 : decode cJ28_compareTo 40 = .ok (.aload_n 0, 1) := dk_42 (dk_at dksJ28_compareTo_1 16 rfl rfl)
theorem dJ28_compareTo_41 : decode cJ28_compareTo 41 = .ok (.invokevirtual 83, 3) := dk_182 0 83 (dk_at dksJ28_compareTo_1 17 rfl rfl)
theorem dJ28_compareTo_44 : decode cJ28_compareTo 44 = .ok (.ifCond .eq 15, 3) := dk_153 0 15 (dk_at dksJ28_compareTo_1 20 rfl rfl)
theorem dJ28_compareTo_47 : decode cJ28_compareTo 47 = .ok (.aload_n 2, 1) := dk_44 (dk_at dksJ28_compareTo_1 23 rfl rfl)
theorem dJ28_compareTo_48 : decode cJ28_compareTo 48 = .ok (.aload_n 3, 1) := dk_45 (dk_at dksJ28_compareTo_2 0 rfl rfl)
theorem dJ28_compareTo_49 : decode cJ28_compareTo 49 = .ok (.iload 4, 2) := dk_21 4 (dk_at dksJ28_compareTo_2 1 rfl rfl)
theorem dJ28_compareTo_51 : decode cJ28_compareTo 51 = .ok (.iload 5, 2) := dk_21 5 (dk_at dksJ28_compareTo_2 3 rfl rfl)
theorem dJ28_compareTo_53 : decode cJ28_compareTo 53 = .ok (.invokestatic 87, 3) := dk_184 0 87 (dk_at dksJ28_compareTo_2 5 rfl rfl)
theorem dJ28_compareTo_56 : decode cJ28_compareTo 56 = .ok (.goto 12, 3) := dk_167 0 12 (dk_at dksJ28_compareTo_2 8 rfl rfl)
theorem dJ28_compareTo_59 : decode cJ28_compareTo 59 = .ok (.aload_n 2, 1) := dk_44 (dk_at dksJ28_compareTo_2 11 rfl rfl)
theorem dJ28_compareTo_60 : decode cJ28_compareTo 60 = .ok (.aload_n 3, 1) := dk_45 (dk_at dksJ28_compareTo_2 12 rfl rfl)
theorem dJ28_compareTo_61 : decode cJ28_compareTo 61 = .ok (.iload 4, 2) := dk_21 4 (dk_at dksJ28_compareTo_2 13 rfl rfl)
theorem dJ28_compareTo_63 : decode cJ28_compareTo 63 = .ok (.iload 5, 2) := dk_21 5 (dk_at dksJ28_compareTo_2 15 rfl rfl)
theorem dJ28_compareTo_65 : decode cJ28_compareTo 65 = .ok (.invokestatic 93, 3) := dk_184 0 93 (dk_at dksJ28_compareTo_2 17 rfl rfl)
theorem dJ28_compareTo_68 : decode cJ28_compareTo 68 = .ok (.ireturn, 1) := dk_172 (dk_at dksJ28_compareTo_2 20 rfl rfl)
theorem dJ28_compareTo_69 : decode cJ28_compareTo 69 = .ok (.aload_n 0, 1) := dk_42 (dk_at dksJ28_compareTo_2 21 rfl rfl)
theorem dJ28_compareTo_70 : decode cJ28_compareTo 70 = .ok (.invokevirtual 83, 3) := dk_182 0 83 (dk_at dksJ28_compareTo_3 0 rfl rfl)
theorem dJ28_compareTo_73 : decode cJ28_compareTo 73 = .ok (.ifCond .eq 15, 3) := dk_153 0 15 (dk_at dksJ28_compareTo_3 3 rfl rfl)
theorem dJ28_compareTo_76 : decode cJ28_compareTo 76 = .ok (.aload_n 2, 1) := dk_44 (dk_at dksJ28_compareTo_3 6 rfl rfl)
theorem dJ28_compareTo_77 : decode cJ28_compareTo 77 = .ok (.aload_n 3, 1) := dk_45 (dk_at dksJ28_compareTo_3 7 rfl rfl)
theorem dJ28_compareTo_78 : decode cJ28_compareTo 78 = .ok (.iload 4, 2) := dk_21 4 (dk_at dksJ28_compareTo_3 8 rfl rfl)
theorem dJ28_compareTo_80 : decode cJ28_compareTo 80 = .ok (.iload 5, 2) := dk_21 5 (dk_at dksJ28_compareTo_3 10 rfl rfl)
theorem dJ28_compareTo_82 : decode cJ28_compareTo 82 = .ok (.invokestatic 94, 3) := dk_184 0 94 (dk_at dksJ28_compareTo_3 12 rfl rfl)
theorem dJ28_compareTo_85 : decode cJ28_compareTo 85 = .ok (.goto 12, 3) := dk_167 0 12 (dk_at dksJ28_compareTo_3 15 rfl rfl)
theorem dJ28_compareTo_88 : decode cJ28_compareTo 88 = .ok (.aload_n 2, 1) := dk_44 (dk_at dksJ28_compareTo_3 18 rfl rfl)
theorem dJ28_compareTo_89 : decode cJ28_compareTo 89 = .ok (.aload_n 3, 1) := dk_45 (dk_at dksJ28_compareTo_3 19 rfl rfl)
theorem dJ28_compareTo_90 : decode cJ28_compareTo 90 = .ok (.iload 4, 2) := dk_21 4 (dk_at dksJ28_compareTo_3 20 rfl rfl)
theorem dJ28_compareTo_92 : decode cJ28_compareTo 92 = .ok (.iload 5, 2) := dk_21 5 (dk_at dksJ28_compareTo_3 22 rfl rfl)
theorem dJ28_compareTo_94 : decode cJ28_compareTo 94 = .ok (.invokestatic 97, 3) := dk_184 0 97 (dk_at dksJ28_compareTo_4 0 rfl rfl)
theorem dJ28_compareTo_97 : decode cJ28_compareTo 97 = .ok (.ireturn, 1) := dk_172 (dk_at dksJ28_compareTo_4 3 rfl rfl)
abbrev cJ28_isLatin1 : ByteArray := prog_9_method_68_code
def yJ28_isLatin1 : MethodName := ⟨RJ28, "isLatin1", "()Z"⟩
def dkwJ28_isLatin1_0 : List UInt8 := [178, 0, 18, 153, 0, 14, 42, 180, 0, 22, 154, 0, 7, 4, 167, 0, 4, 3, 172]
abbrev dktJ28_isLatin1_0 : List UInt8 := dkwJ28_isLatin1_0 ++ []
theorem dksJ28_isLatin1_0 : cJ28_isLatin1.data.toList.drop 0 = dktJ28_isLatin1_0 := by decide +kernel
theorem dJ28_isLatin1_0 : decode cJ28_isLatin1 0 = .ok (.getstatic 18, 3) := dk_178 0 18 (dk_at dksJ28_isLatin1_0 0 rfl rfl)
theorem dJ28_isLatin1_3 : decode cJ28_isLatin1 3 = .ok (.ifCond .eq 14, 3) := dk_153 0 14 (dk_at dksJ28_isLatin1_0 3 rfl rfl)
theorem dJ28_isLatin1_6 : decode cJ28_isLatin1 6 = .ok (.aload_n 0, 1) := dk_42 (dk_at dksJ28_isLatin1_0 6 rfl rfl)
theorem dJ28_isLatin1_7 : decode cJ28_isLatin1 7 = .ok (.getfield 22, 3) := dk_180 0 22 (dk_at dksJ28_isLatin1_0 7 rfl rfl)
theorem dJ28_isLatin1_10 : decode cJ28_isLatin1 10 = .ok (.ifCond .ne 7, 3) := dk_154 0 7 (dk_at dksJ28_isLatin1_0 10 rfl rfl)
theorem dJ28_isLatin1_13 : decode cJ28_isLatin1 13 = .ok (.iconst 1, 1) := dk_4 (dk_at dksJ28_isLatin1_0 13 rfl rfl)
theorem dJ28_isLatin1_14 : decode cJ28_isLatin1 14 = .ok (.goto 4, 3) := dk_167 0 4 (dk_at dksJ28_isLatin1_0 14 rfl rfl)
theorem dJ28_isLatin1_17 : decode cJ28_isLatin1 17 = .ok (.iconst 0, 1) := dk_3 (dk_at dksJ28_isLatin1_0 17 rfl rfl)
theorem dJ28_isLatin1_18 : decode cJ28_isLatin1 18 = .ok (.ireturn, 1) := dk_172 (dk_at dksJ28_isLatin1_0 18 rfl rfl)
abbrev cJ28_init : ByteArray := prog_9_method_2_code
def yJ28_init : MethodName := ⟨RJ28, "<init>", "(I)V"⟩
def dkwJ28_init_1 : List UInt8 := [167, 0, 16, 42, 27, 184, 0, 26, 181, 0, 15, 42, 4, 181, 0, 22, 177]
abbrev dktJ28_init_1 : List UInt8 := dkwJ28_init_1 ++ []
def dkwJ28_init_0 : List UInt8 := [42, 183, 0, 3, 178, 0, 18, 153, 0, 18, 42, 27, 188, 8, 181, 0, 15, 42, 3, 181, 0, 22]
abbrev dktJ28_init_0 : List UInt8 := dkwJ28_init_0 ++ dktJ28_init_1
theorem dksJ28_init_0 : cJ28_init.data.toList.drop 0 = dktJ28_init_0 := by decide +kernel
theorem dksJ28_init_1 : cJ28_init.data.toList.drop 22 = dktJ28_init_1 := dk_seg dksJ28_init_0 22 rfl rfl
theorem dJ28_init_0 : decode cJ28_init 0 = .ok (.aload_n 0, 1) := dk_42 (dk_at dksJ28_init_0 0 rfl rfl)
theorem dJ28_init_1 : decode cJ28_init 1 = .ok (.invokespecial 3, 3) := dk_183 0 3 (dk_at dksJ28_init_0 1 rfl rfl)
theorem dJ28_init_4 : decode cJ28_init 4 = .ok (.getstatic 18, 3) := dk_178 0 18 (dk_at dksJ28_init_0 4 rfl rfl)
theorem dJ28_init_7 : decode cJ28_init 7 = .ok (.ifCond .eq 18, 3) := dk_153 0 18 (dk_at dksJ28_init_0 7 rfl rfl)
theorem dJ28_init_10 : decode cJ28_init 10 = .ok (.aload_n 0, 1) := dk_42 (dk_at dksJ28_init_0 10 rfl rfl)
theorem dJ28_init_11 : decode cJ28_init 11 = .ok (.iload_n 1, 1) := dk_27 (dk_at dksJ28_init_0 11 rfl rfl)
theorem dJ28_init_12 : decode cJ28_init 12 = .ok (.newarray .byte, 2) := dk_188_8 (dk_at dksJ28_init_0 12 rfl rfl)
theorem dJ28_init_14 : decode cJ28_init 14 = .ok (.putfield 15, 3) := dk_181 0 15 (dk_at dksJ28_init_0 14 rfl rfl)
theorem dJ28_init_17 : decode cJ28_init 17 = .ok (.aload_n 0, 1) := dk_42 (dk_at dksJ28_init_0 17 rfl rfl)
theorem dJ28_init_18 : decode cJ28_init 18 = .ok (.iconst 0, 1) := dk_3 (dk_at dksJ28_init_0 18 rfl rfl)
theorem dJ28_init_19 : decode cJ28_init 19 = .ok (.putfield 22, 3) := dk_181 0 22 (dk_at dksJ28_init_0 19 rfl rfl)
theorem dJ28_init_22 : decode cJ28_init 22 = .ok (.goto 16, 3) := dk_167 0 16 (dk_at dksJ28_init_1 0 rfl rfl)
theorem dJ28_init_25 : decode cJ28_init 25 = .ok (.aload_n 0, 1) := dk_42 (dk_at dksJ28_init_1 3 rfl rfl)
theorem dJ28_init_26 : decode cJ28_init 26 = .ok (.iload_n 1, 1) := dk_27 (dk_at dksJ28_init_1 4 rfl rfl)
theorem dJ28_init_27 : decode cJ28_init 27 = .ok (.invokestatic 26, 3) := dk_184 0 26 (dk_at dksJ28_init_1 5 rfl rfl)
theorem dJ28_init_30 : decode cJ28_init 30 = .ok (.putfield 15, 3) := dk_181 0 15 (dk_at dksJ28_init_1 8 rfl rfl)
theorem dJ28_init_33 : decode cJ28_init 33 = .ok (.aload_n 0, 1) := dk_42 (dk_at dksJ28_init_1 11 rfl rfl)
theorem dJ28_init_34 : decode cJ28_init 34 = .ok (.iconst 1, 1) := dk_4 (dk_at dksJ28_init_1 12 rfl rfl)
theorem dJ28_init_35 : decode cJ28_init 35 = .ok (.putfield 22, 3) := dk_181 0 22 (dk_at dksJ28_init_1 13 rfl rfl)
theorem dJ28_init_38 : decode cJ28_init 38 = .ok (.return_, 1) := dk_177 (dk_at dksJ28_init_1 16 rfl rfl)
abbrev cJ28_append : ByteArray := prog_9_method_22_code
def yJ28_append : MethodName := ⟨RJ28, "append", "(Ljava/lang/String;)Ljava/lang/AbstractStringBuilder;"⟩
def dkwJ28_append_1 : List UInt8 := [42, 42, 180, 0, 79, 43, 182, 0, 208, 42, 89, 180, 0, 79, 28, 96, 181, 0, 79, 42, 176]
abbrev dktJ28_append_1 : List UInt8 := dkwJ28_append_1 ++ []
def dkwJ28_append_0 : List UInt8 := [43, 199, 0, 8, 42, 182, 0, 204, 176, 43, 182, 0, 32, 61, 42, 42, 180, 0, 79, 28, 96, 182, 0, 100]
abbrev dktJ28_append_0 : List UInt8 := dkwJ28_append_0 ++ dktJ28_append_1
theorem dksJ28_append_0 : cJ28_append.data.toList.drop 0 = dktJ28_append_0 := by decide +kernel
theorem dksJ28_append_1 : cJ28_append.data.toList.drop 24 = dktJ28_append_1 := dk_seg dksJ28_append_0 24 rfl rfl
theorem dJ28_append_0 : decode cJ28_append 0 = .ok (.aload_n 1, 1) := dk_43 (dk_at dksJ28_append_0 0 rfl rfl)
theorem dJ28_append_1 : decode cJ28_append 1 = .ok (.ifnonnull 8, 3) := dk_199 0 8 (dk_at dksJ28_append_0 1 rfl rfl)
theorem dJ28_append_4 : decode cJ28_append 4 = .ok (.aload_n 0, 1) := dk_42 (dk_at dksJ28_append_0 4 rfl rfl)
theorem dJ28_append_5 : decode cJ28_append 5 = .ok (.invokevirtual 204, 3) := dk_182 0 204 (dk_at dksJ28_append_0 5 rfl rfl)
theorem dJ28_append_8 : decode cJ28_append 8 = .ok (.areturn, 1) := dk_176 (dk_at dksJ28_append_0 8 rfl rfl)
theorem dJ28_append_9 : decode cJ28_append 9 = .ok (.aload_n 1, 1) := dk_43 (dk_at dksJ28_append_0 9 rfl rfl)
theorem dJ28_append_10 : decode cJ28_append 10 = .ok (.invokevirtual 32, 3) := dk_182 0 32 (dk_at dksJ28_append_0 10 rfl rfl)
theorem dJ28_append_13 : decode cJ28_append 13 = .ok (.istore_n 2, 1) := dk_61 (dk_at dksJ28_append_0 13 rfl rfl)
theorem dJ28_append_14 : decode cJ28_append 14 = .ok (.aload_n 0, 1) := dk_42 (dk_at dksJ28_append_0 14 rfl rfl)
theorem dJ28_append_15 : decode cJ28_append 15 = .ok (.aload_n 0, 1) := dk_42 (dk_at dksJ28_append_0 15 rfl rfl)
theorem dJ28_append_16 : decode cJ28_append 16 = .ok (.getfield 79, 3) := dk_180 0 79 (dk_at dksJ28_append_0 16 rfl rfl)
theorem dJ28_append_19 : decode cJ28_append 19 = .ok (.iload_n 2, 1) := dk_28 (dk_at dksJ28_append_0 19 rfl rfl)
theorem dJ28_append_20 : decode cJ28_append 20 = .ok (.iadd, 1) := dk_96 (dk_at dksJ28_append_0 20 rfl rfl)
theorem dJ28_append_21 : decode cJ28_append 21 = .ok (.invokevirtual 100, 3) := dk_182 0 100 (dk_at dksJ28_append_0 21 rfl rfl)
theorem dJ28_append_24 : decode cJ28_append 24 = .ok (.aload_n 0, 1) := dk_42 (dk_at dksJ28_append_1 0 rfl rfl)
theorem dJ28_append_25 : decode cJ28_append 25 = .ok (.aload_n 0, 1) := dk_42 (dk_at dksJ28_append_1 1 rfl rfl)
theorem dJ28_append_26 : decode cJ28_append 26 = .ok (.getfield 79, 3) := dk_180 0 79 (dk_at dksJ28_append_1 2 rfl rfl)
theorem dJ28_append_29 : decode cJ28_append 29 = .ok (.aload_n 1, 1) := dk_43 (dk_at dksJ28_append_1 5 rfl rfl)
theorem dJ28_append_30 : decode cJ28_append 30 = .ok (.invokevirtual 208, 3) := dk_182 0 208 (dk_at dksJ28_append_1 6 rfl rfl)
theorem dJ28_append_33 : decode cJ28_append 33 = .ok (.aload_n 0, 1) := dk_42 (dk_at dksJ28_append_1 9 rfl rfl)
theorem dJ28_append_34 : decode cJ28_append 34 = .ok (.dup, 1) := dk_89 (dk_at dksJ28_append_1 10 rfl rfl)
theorem dJ28_append_35 : decode cJ28_append 35 = .ok (.getfield 79, 3) := dk_180 0 79 (dk_at dksJ28_append_1 11 rfl rfl)
theorem dJ28_append_38 : decode cJ28_append 38 = .ok (.iload_n 2, 1) := dk_28 (dk_at dksJ28_append_1 14 rfl rfl)
theorem dJ28_append_39 : decode cJ28_append 39 = .ok (.iadd, 1) := dk_96 (dk_at dksJ28_append_1 15 rfl rfl)
theorem dJ28_append_40 : decode cJ28_append 40 = .ok (.putfield 79, 3) := dk_181 0 79 (dk_at dksJ28_append_1 16 rfl rfl)
theorem dJ28_append_43 : decode cJ28_append 43 = .ok (.aload_n 0, 1) := dk_42 (dk_at dksJ28_append_1 19 rfl rfl)
theorem dJ28_append_44 : decode cJ28_append 44 = .ok (.areturn, 1) := dk_176 (dk_at dksJ28_append_1 20 rfl rfl)
abbrev cJ28_appendNull : ByteArray := prog_9_method_26_code
def yJ28_appendNull : MethodName := ⟨RJ28, "appendNull", "()Ljava/lang/AbstractStringBuilder;"⟩
def dkwJ28_appendNull_3 : List UInt8 := [184, 0, 226, 60, 42, 27, 181, 0, 79, 42, 176]
abbrev dktJ28_appendNull_3 : List UInt8 := dkwJ28_appendNull_3 ++ []
def dkwJ28_appendNull_2 : List UInt8 := [16, 108, 84, 44, 27, 132, 1, 1, 16, 108, 84, 167, 0, 17, 44, 27, 16, 110, 16, 117, 16, 108, 16, 108]
abbrev dktJ28_appendNull_2 : List UInt8 := dkwJ28_appendNull_2 ++ dktJ28_appendNull_3
def dkwJ28_appendNull_1 : List UInt8 := [153, 0, 38, 44, 27, 132, 1, 1, 16, 110, 84, 44, 27, 132, 1, 1, 16, 117, 84, 44, 27, 132, 1, 1]
abbrev dktJ28_appendNull_1 : List UInt8 := dkwJ28_appendNull_1 ++ dktJ28_appendNull_2
def dkwJ28_appendNull_0 : List UInt8 := [42, 42, 180, 0, 79, 7, 96, 182, 0, 100, 42, 180, 0, 79, 60, 42, 180, 0, 15, 77, 42, 182, 0, 83]
abbrev dktJ28_appendNull_0 : List UInt8 := dkwJ28_appendNull_0 ++ dktJ28_appendNull_1
theorem dksJ28_appendNull_0 : cJ28_appendNull.data.toList.drop 0 = dktJ28_appendNull_0 := by decide +kernel
theorem dksJ28_appendNull_1 : cJ28_appendNull.data.toList.drop 24 = dktJ28_appendNull_1 := dk_seg dksJ28_appendNull_0 24 rfl rfl
theorem dksJ28_appendNull_2 : cJ28_appendNull.data.toList.drop 48 = dktJ28_appendNull_2 := dk_seg dksJ28_appendNull_1 24 rfl rfl
theorem dksJ28_appendNull_3 : cJ28_appendNull.data.toList.drop 72 = dktJ28_appendNull_3 := dk_seg dksJ28_appendNull_2 24 rfl rfl
theorem dJ28_appendNull_0 : decode cJ28_appendNull 0 = .ok (.aload_n 0, 1) := dk_42 (dk_at dksJ28_appendNull_0 0 rfl rfl)
theorem dJ28_appendNull_1 : decode cJ28_appendNull 1 = .ok (.aload_n 0, 1) := dk_42 (dk_at dksJ28_appendNull_0 1 rfl rfl)
theorem dJ28_appendNull_2 : decode cJ28_appendNull 2 = .ok (.getfield 79, 3) := dk_180 0 79 (dk_at dksJ28_appendNull_0 2 rfl rfl)
theorem dJ28_appendNull_5 : decode cJ28_appendNull 5 = .ok (.iconst 4, 1) := dk_7 (dk_at dksJ28_appendNull_0 5 rfl rfl)
theorem dJ28_appendNull_6 : decode cJ28_appendNull 6 = .ok (.iadd, 1) := dk_96 (dk_at dksJ28_appendNull_0 6 rfl rfl)
theorem dJ28_appendNull_7 : decode cJ28_appendNull 7 = .ok (.invokevirtual 100, 3) := dk_182 0 100 (dk_at dksJ28_appendNull_0 7 rfl rfl)
theorem dJ28_appendNull_10 : decode cJ28_appendNull 10 = .ok (.aload_n 0, 1) := dk_42 (dk_at dksJ28_appendNull_0 10 rfl rfl)
theorem dJ28_appendNull_11 : decode cJ28_appendNull 11 = .ok (.getfield 79, 3) := dk_180 0 79 (dk_at dksJ28_appendNull_0 11 rfl rfl)
theorem dJ28_appendNull_14 : decode cJ28_appendNull 14 = .ok (.istore_n 1, 1) := dk_60 (dk_at dksJ28_appendNull_0 14 rfl rfl)
theorem dJ28_appendNull_15 : decode cJ28_appendNull 15 = .ok (.aload_n 0, 1) := dk_42 (dk_at dksJ28_appendNull_0 15 rfl rfl)
theorem dJ28_appendNull_16 : decode cJ28_appendNull 16 = .ok (.getfield 15, 3) := dk_180 0 15 (dk_at dksJ28_appendNull_0 16 rfl rfl)
theorem dJ28_appendNull_19 : decode cJ28_appendNull 19 = .ok (.astore_n 2, 1) := dk_77 (dk_at dksJ28_appendNull_0 19 rfl rfl)
theorem dJ28_appendNull_20 : decode cJ28_appendNull 20 = .ok (.aload_n 0, 1) := dk_42 (dk_at dksJ28_appendNull_0 20 rfl rfl)
theorem dJ28_appendNull_21 : decode cJ28_appendNull 21 = .ok (.invokevirtual 83, 3) := dk_182 0 83 (dk_at dksJ28_appendNull_0 21 rfl rfl)
theorem dJ28_appendNull_24 : decode cJ28_appendNull 24 = .ok (.ifCond .eq 38, 3) := dk_153 0 38 (dk_at dksJ28_appendNull_1 0 rfl rfl)
theorem dJ28_appendNull_27 : decode cJ28_appendNull 27 = .ok (.aload_n 2, 1) := dk_44 (dk_at dksJ28_appendNull_1 3 rfl rfl)
theorem dJ28_appendNull_28 : decode cJ28_appendNull 28 = .ok (.iload_n 1, 1) := dk_27 (dk_at dksJ28_appendNull_1 4 rfl rfl)
theorem dJ28_appendNull_29 : decode cJ28_appendNull 29 = .ok (.iinc 1 1, 3) := dk_132 1 1 (dk_at dksJ28_appendNull_1 5 rfl rfl)
theorem dJ28_appendNull_32 : decode cJ28_appendNull 32 = .ok (.bipush 110, 2) := dk_16 110 (dk_at dksJ28_appendNull_1 8 rfl rfl)
theorem dJ28_appendNull_34 : decode cJ28_appendNull 34 = .ok (.bastore, 1) := dk_84 (dk_at dksJ28_appendNull_1 10 rfl rfl)
theorem dJ28_appendNull_35 : decode cJ28_appendNull 35 = .ok (.aload_n 2, 1) := dk_44 (dk_at dksJ28_appendNull_1 11 rfl rfl)
theorem dJ28_appendNull_36 : decode cJ28_appendNull 36 = .ok (.iload_n 1, 1) := dk_27 (dk_at dksJ28_appendNull_1 12 rfl rfl)
theorem dJ28_appendNull_37 : decode cJ28_appendNull 37 = .ok (.iinc 1 1, 3) := dk_132 1 1 (dk_at dksJ28_appendNull_1 13 rfl rfl)
theorem dJ28_appendNull_40 : decode cJ28_appendNull 40 = .ok (.bipush 117, 2) := dk_16 117 (dk_at dksJ28_appendNull_1 16 rfl rfl)
theorem dJ28_appendNull_42 : decode cJ28_appendNull 42 = .ok (.bastore, 1) := dk_84 (dk_at dksJ28_appendNull_1 18 rfl rfl)
theorem dJ28_appendNull_43 : decode cJ28_appendNull 43 = .ok (.aload_n 2, 1) := dk_44 (dk_at dksJ28_appendNull_1 19 rfl rfl)
theorem dJ28_appendNull_44 : decode cJ28_appendNull 44 = .ok (.iload_n 1, 1) := dk_27 (dk_at dksJ28_appendNull_1 20 rfl rfl)
theorem dJ28_appendNull_45 : decode cJ28_appendNull 45 = .ok (.iinc 1 1, 3) := dk_132 1 1 (dk_at dksJ28_appendNull_1 21 rfl rfl)
theorem dJ28_appendNull_48 : decode cJ28_appendNull 48 = .ok (.bipush 108, 2) := dk_16 108 (dk_at dksJ28_appendNull_2 0 rfl rfl)
theorem dJ28_appendNull_50 : decode cJ28_appendNull 50 = .ok (.bastore, 1) := dk_84 (dk_at dksJ28_appendNull_2 2 rfl rfl)
theorem dJ28_appendNull_51 : decode cJ28_appendNull 51 = .ok (.aload_n 2, 1) := dk_44 (dk_at dksJ28_appendNull_2 3 rfl rfl)
theorem dJ28_appendNull_52 : decode cJ28_appendNull 52 = .ok (.iload_n 1, 1) := dk_27 (dk_at dksJ28_appendNull_2 4 rfl rfl)
theorem dJ28_appendNull_53 : decode cJ28_appendNull 53 = .ok (.iinc 1 1, 3) := dk_132 1 1 (dk_at dksJ28_appendNull_2 5 rfl rfl)
theorem dJ28_appendNull_56 : decode cJ28_appendNull 56 = .ok (.bipush 108, 2) := dk_16 108 (dk_at dksJ28_appendNull_2 8 rfl rfl)
theorem dJ28_appendNull_58 : decode cJ28_appendNull 58 = .ok (.bastore, 1) := dk_84 (dk_at dksJ28_appendNull_2 10 rfl rfl)
theorem dJ28_appendNull_59 : decode cJ28_appendNull 59 = .ok (.goto 17, 3) := dk_167 0 17 (dk_at dksJ28_appendNull_2 11 rfl rfl)
theorem dJ28_appendNull_62 : decode cJ28_appendNull 62 = .ok (.aload_n 2, 1) := dk_44 (dk_at dksJ28_appendNull_2 14 rfl rfl)
theorem dJ28_appendNull_63 : decode cJ28_appendNull 63 = .ok (.iload_n 1, 1) := dk_27 (dk_at dksJ28_appendNull_2 15 rfl rfl)
theorem dJ28_appendNull_64 : decode cJ28_appendNull 64 = .ok (.bipush 110, 2) := dk_16 110 (dk_at dksJ28_appendNull_2 16 rfl rfl)
theorem dJ28_appendNull_66 : decode cJ28_appendNull 66 = .ok (.bipush 117, 2) := dk_16 117 (dk_at dksJ28_appendNull_2 18 rfl rfl)
theorem dJ28_appendNull_68 : decode cJ28_appendNull 68 = .ok (.bipush 108, 2) := dk_16 108 (dk_at dksJ28_appendNull_2 20 rfl rfl)
theorem dJ28_appendNull_70 : decode cJ28_appendNull 70 = .ok (.bipush 108, 2) := dk_16 108 (dk_at dksJ28_appendNull_2 22 rfl rfl)
theorem dJ28_appendNull_72 : decode cJ28_appendNull 72 = .ok (.invokestatic 226, 3) := dk_184 0 226 (dk_at dksJ28_appendNull_3 0 rfl rfl)
theorem dJ28_appendNull_75 : decode cJ28_appendNull 75 = .ok (.istore_n 1, 1) := dk_60 (dk_at dksJ28_appendNull_3 3 rfl rfl)
theorem dJ28_appendNull_76 : decode cJ28_appendNull 76 = .ok (.aload_n 0, 1) := dk_42 (dk_at dksJ28_appendNull_3 4 rfl rfl)
theorem dJ28_appendNull_77 : decode cJ28_appendNull 77 = .ok (.iload_n 1, 1) := dk_27 (dk_at dksJ28_appendNull_3 5 rfl rfl)
theorem dJ28_appendNull_78 : decode cJ28_appendNull 78 = .ok (.putfield 79, 3) := dk_181 0 79 (dk_at dksJ28_appendNull_3 6 rfl rfl)
theorem dJ28_appendNull_81 : decode cJ28_appendNull 81 = .ok (.aload_n 0, 1) := dk_42 (dk_at dksJ28_appendNull_3 9 rfl rfl)
theorem dJ28_appendNull_82 : decode cJ28_appendNull 82 = .ok (.areturn, 1) := dk_176 (dk_at dksJ28_appendNull_3 10 rfl rfl)
abbrev cJ28_ensureCapacityInternal : ByteArray := prog_9_method_9_code
def yJ28_ensureCapacityInternal : MethodName := ⟨RJ28, "ensureCapacityInternal", "(I)V"⟩
def dkwJ28_ensureCapacityInternal_1 : List UInt8 := [182, 0, 104, 42, 180, 0, 22, 120, 184, 0, 108, 181, 0, 15, 177]
abbrev dktJ28_ensureCapacityInternal_1 : List UInt8 := dkwJ28_ensureCapacityInternal_1 ++ []
def dkwJ28_ensureCapacityInternal_0 : List UInt8 := [42, 180, 0, 15, 190, 42, 180, 0, 22, 122, 61, 27, 28, 100, 158, 0, 24, 42, 42, 180, 0, 15, 42, 27]
abbrev dktJ28_ensureCapacityInternal_0 : List UInt8 := dkwJ28_ensureCapacityInternal_0 ++ dktJ28_ensureCapacityInternal_1
theorem dksJ28_ensureCapacityInternal_0 : cJ28_ensureCapacityInternal.data.toList.drop 0 = dktJ28_ensureCapacityInternal_0 := by decide +kernel
theorem dksJ28_ensureCapacityInternal_1 : cJ28_ensureCapacityInternal.data.toList.drop 24 = dktJ28_ensureCapacityInternal_1 := dk_seg dksJ28_ensureCapacityInternal_0 24 rfl rfl
theorem dJ28_ensureCapacityInternal_0 : decode cJ28_ensureCapacityInternal 0 = .ok (.aload_n 0, 1) := dk_42 (dk_at dksJ28_ensureCapacityInternal_0 0 rfl rfl)
theorem dJ28_ensureCapacityInternal_1 : decode cJ28_ensureCapacityInternal 1 = .ok (.getfield 15, 3) := dk_180 0 15 (dk_at dksJ28_ensureCapacityInternal_0 1 rfl rfl)
theorem dJ28_ensureCapacityInternal_4 : decode cJ28_ensureCapacityInternal 4 = .ok (.arraylength, 1) := dk_190 (dk_at dksJ28_ensureCapacityInternal_0 4 rfl rfl)
theorem dJ28_ensureCapacityInternal_5 : decode cJ28_ensureCapacityInternal 5 = .ok (.aload_n 0, 1) := dk_42 (dk_at dksJ28_ensureCapacityInternal_0 5 rfl rfl)
theorem dJ28_ensureCapacityInternal_6 : decode cJ28_ensureCapacityInternal 6 = .ok (.getfield 22, 3) := dk_180 0 22 (dk_at dksJ28_ensureCapacityInternal_0 6 rfl rfl)
theorem dJ28_ensureCapacityInternal_9 : decode cJ28_ensureCapacityInternal 9 = .ok (.ishr, 1) := dk_122 (dk_at dksJ28_ensureCapacityInternal_0 9 rfl rfl)
theorem dJ28_ensureCapacityInternal_10 : decode cJ28_ensureCapacityInternal 10 = .ok (.istore_n 2, 1) := dk_61 (dk_at dksJ28_ensureCapacityInternal_0 10 rfl rfl)
theorem dJ28_ensureCapacityInternal_11 : decode cJ28_ensureCapacityInternal 11 = .ok (.iload_n 1, 1) := dk_27 (dk_at dksJ28_ensureCapacityInternal_0 11 rfl rfl)
theorem dJ28_ensureCapacityInternal_12 : decode cJ28_ensureCapacityInternal 12 = .ok (.iload_n 2, 1) := dk_28 (dk_at dksJ28_ensureCapacityInternal_0 12 rfl rfl)
theorem dJ28_ensureCapacityInternal_13 : decode cJ28_ensureCapacityInternal 13 = .ok (.isub, 1) := dk_100 (dk_at dksJ28_ensureCapacityInternal_0 13 rfl rfl)
theorem dJ28_ensureCapacityInternal_14 : decode cJ28_ensureCapacityInternal 14 = .ok (.ifCond .le 24, 3) := dk_158 0 24 (dk_at dksJ28_ensureCapacityInternal_0 14 rfl rfl)
theorem dJ28_ensureCapacityInternal_17 : decode cJ28_ensureCapacityInternal 17 = .ok (.aload_n 0, 1) := dk_42 (dk_at dksJ28_ensureCapacityInternal_0 17 rfl rfl)
theorem dJ28_ensureCapacityInternal_18 : decode cJ28_ensureCapacityInternal 18 = .ok (.aload_n 0, 1) := dk_42 (dk_at dksJ28_ensureCapacityInternal_0 18 rfl rfl)
theorem dJ28_ensureCapacityInternal_19 : decode cJ28_ensureCapacityInternal 19 = .ok (.getfield 15, 3) := dk_180 0 15 (dk_at dksJ28_ensureCapacityInternal_0 19 rfl rfl)
theorem dJ28_ensureCapacityInternal_22 : decode cJ28_ensureCapacityInternal 22 = .ok (.aload_n 0, 1) := dk_42 (dk_at dksJ28_ensureCapacityInternal_0 22 rfl rfl)
theorem dJ28_ensureCapacityInternal_23 : decode cJ28_ensureCapacityInternal 23 = .ok (.iload_n 1, 1) := dk_27 (dk_at dksJ28_ensureCapacityInternal_0 23 rfl rfl)
theorem dJ28_ensureCapacityInternal_24 : decode cJ28_ensureCapacityInternal 24 = .ok (.invokevirtual 104, 3) := dk_182 0 104 (dk_at dksJ28_ensureCapacityInternal_1 0 rfl rfl)
theorem dJ28_ensureCapacityInternal_27 : decode cJ28_ensureCapacityInternal 27 = .ok (.aload_n 0, 1) := dk_42 (dk_at dksJ28_ensureCapacityInternal_1 3 rfl rfl)
theorem dJ28_ensureCapacityInternal_28 : decode cJ28_ensureCapacityInternal 28 = .ok (.getfield 22, 3) := dk_180 0 22 (dk_at dksJ28_ensureCapacityInternal_1 4 rfl rfl)
theorem dJ28_ensureCapacityInternal_31 : decode cJ28_ensureCapacityInternal 31 = .ok (.ishl, 1) := dk_120 (dk_at dksJ28_ensureCapacityInternal_1 7 rfl rfl)
theorem dJ28_ensureCapacityInternal_32 : decode cJ28_ensureCapacityInternal 32 = .ok (.invokestatic 108, 3) := dk_184 0 108 (dk_at dksJ28_ensureCapacityInternal_1 8 rfl rfl)
theorem dJ28_ensureCapacityInternal_35 : decode cJ28_ensureCapacityInternal 35 = .ok (.putfield 15, 3) := dk_181 0 15 (dk_at dksJ28_ensureCapacityInternal_1 11 rfl rfl)
theorem dJ28_ensureCapacityInternal_38 : decode cJ28_ensureCapacityInternal 38 = .ok (.return_, 1) := dk_177 (dk_at dksJ28_ensureCapacityInternal_1 14 rfl rfl)
abbrev cJ28_newCapacity : ByteArray := prog_9_method_10_code
def yJ28_newCapacity : MethodName := ⟨RJ28, "newCapacity", "(I)I"⟩
def dkwJ28_newCapacity_2 : List UInt8 := [183, 0, 124, 191, 21, 5, 42, 180, 0, 22, 122, 172]
abbrev dktJ28_newCapacity_2 : List UInt8 := dkwJ28_newCapacity_2 ++ []
def dkwJ28_newCapacity_1 : List UInt8 := [180, 0, 22, 120, 96, 184, 0, 114, 54, 5, 21, 5, 18, 39, 160, 0, 13, 187, 0, 120, 89, 18, 122]
abbrev dktJ28_newCapacity_1 : List UInt8 := dkwJ28_newCapacity_1 ++ dktJ28_newCapacity_2
def dkwJ28_newCapacity_0 : List UInt8 := [42, 180, 0, 15, 190, 61, 27, 42, 180, 0, 22, 120, 62, 29, 28, 100, 54, 4, 28, 21, 4, 28, 5, 42]
abbrev dktJ28_newCapacity_0 : List UInt8 := dkwJ28_newCapacity_0 ++ dktJ28_newCapacity_1
theorem dksJ28_newCapacity_0 : cJ28_newCapacity.data.toList.drop 0 = dktJ28_newCapacity_0 := by decide +kernel
theorem dksJ28_newCapacity_1 : cJ28_newCapacity.data.toList.drop 24 = dktJ28_newCapacity_1 := dk_seg dksJ28_newCapacity_0 24 rfl rfl
theorem dksJ28_newCapacity_2 : cJ28_newCapacity.data.toList.drop 47 = dktJ28_newCapacity_2 := dk_seg dksJ28_newCapacity_1 23 rfl rfl
theorem dJ28_newCapacity_0 : decode cJ28_newCapacity 0 = .ok (.aload_n 0, 1) := dk_42 (dk_at dksJ28_newCapacity_0 0 rfl rfl)
theorem dJ28_newCapacity_1 : decode cJ28_newCapacity 1 = .ok (.getfield 15, 3) := dk_180 0 15 (dk_at dksJ28_newCapacity_0 1 rfl rfl)
theorem dJ28_newCapacity_4 : decode cJ28_newCapacity 4 = .ok (.arraylength, 1) := dk_190 (dk_at dksJ28_newCapacity_0 4 rfl rfl)
theorem dJ28_newCapacity_5 : decode cJ28_newCapacity 5 = .ok (.istore_n 2, 1) := dk_61 (dk_at dksJ28_newCapacity_0 5 rfl rfl)
theorem dJ28_newCapacity_6 : decode cJ28_newCapacity 6 = .ok (.iload_n 1, 1) := dk_27 (dk_at dksJ28_newCapacity_0 6 rfl rfl)
theorem dJ28_newCapacity_7 : decode cJ28_newCapacity 7 = .ok (.aload_n 0, 1) := dk_42 (dk_at dksJ28_newCapacity_0 7 rfl rfl)
theorem dJ28_newCapacity_8 : decode cJ28_newCapacity 8 = .ok (.getfield 22, 3) := dk_180 0 22 (dk_at dksJ28_newCapacity_0 8 rfl rfl)
theorem dJ28_newCapacity_11 : decode cJ28_newCapacity 11 = .ok (.ishl, 1) := dk_120 (dk_at dksJ28_newCapacity_0 11 rfl rfl)
theorem dJ28_newCapacity_12 : decode cJ28_newCapacity 12 = .ok (.istore_n 3, 1) := dk_62 (dk_at dksJ28_newCapacity_0 12 rfl rfl)
theorem dJ28_newCapacity_13 : decode cJ28_newCapacity 13 = .ok (.iload_n 3, 1) := dk_29 (dk_at dksJ28_newCapacity_0 13 rfl rfl)
theorem dJ28_newCapacity_14 : decode cJ28_newCapacity 14 = .ok (.iload_n 2, 1) := dk_28 (dk_at dksJ28_newCapacity_0 14 rfl rfl)
theorem dJ28_newCapacity_15 : decode cJ28_newCapacity 15 = .ok (.isub, 1) := dk_100 (dk_at dksJ28_newCapacity_0 15 rfl rfl)
theorem dJ28_newCapacity_16 : decode cJ28_newCapacity 16 = .ok (.istore 4, 2) := dk_54 4 (dk_at dksJ28_newCapacity_0 16 rfl rfl)
theorem dJ28_newCapacity_18 : decode cJ28_newCapacity 18 = .ok (.iload_n 2, 1) := dk_28 (dk_at dksJ28_newCapacity_0 18 rfl rfl)
theorem dJ28_newCapacity_19 : decode cJ28_newCapacity 19 = .ok (.iload 4, 2) := dk_21 4 (dk_at dksJ28_newCapacity_0 19 rfl rfl)
theorem dJ28_newCapacity_21 : decode cJ28_newCapacity 21 = .ok (.iload_n 2, 1) := dk_28 (dk_at dksJ28_newCapacity_0 21 rfl rfl)
theorem dJ28_newCapacity_22 : decode cJ28_newCapacity 22 = .ok (.iconst 2, 1) := dk_5 (dk_at dksJ28_newCapacity_0 22 rfl rfl)
theorem dJ28_newCapacity_23 : decode cJ28_newCapacity 23 = .ok (.aload_n 0, 1) := dk_42 (dk_at dksJ28_newCapacity_0 23 rfl rfl)
theorem dJ28_newCapacity_24 : decode cJ28_newCapacity 24 = .ok (.getfield 22, 3) := dk_180 0 22 (dk_at dksJ28_newCapacity_1 0 rfl rfl)
theorem dJ28_newCapacity_27 : decode cJ28_newCapacity 27 = .ok (.ishl, 1) := dk_120 (dk_at dksJ28_newCapacity_1 3 rfl rfl)
theorem dJ28_newCapacity_28 : decode cJ28_newCapacity 28 = .ok (.iadd, 1) := dk_96 (dk_at dksJ28_newCapacity_1 4 rfl rfl)
theorem dJ28_newCapacity_29 : decode cJ28_newCapacity 29 = .ok (.invokestatic 114, 3) := dk_184 0 114 (dk_at dksJ28_newCapacity_1 5 rfl rfl)
theorem dJ28_newCapacity_32 : decode cJ28_newCapacity 32 = .ok (.istore 5, 2) := dk_54 5 (dk_at dksJ28_newCapacity_1 8 rfl rfl)
theorem dJ28_newCapacity_34 : decode cJ28_newCapacity 34 = .ok (.iload 5, 2) := dk_21 5 (dk_at dksJ28_newCapacity_1 10 rfl rfl)
theorem dJ28_newCapacity_36 : decode cJ28_newCapacity 36 = .ok (.ldc 39, 2) := dk_18 39 (dk_at dksJ28_newCapacity_1 12 rfl rfl)
theorem dJ28_newCapacity_38 : decode cJ28_newCapacity 38 = .ok (.if_icmp .ne 13, 3) := dk_160 0 13 (dk_at dksJ28_newCapacity_1 14 rfl rfl)
theorem dJ28_newCapacity_41 : decode cJ28_newCapacity 41 = .ok (.new 120, 3) := dk_187 0 120 (dk_at dksJ28_newCapacity_1 17 rfl rfl)
theorem dJ28_newCapacity_44 : decode cJ28_newCapacity 44 = .ok (.dup, 1) := dk_89 (dk_at dksJ28_newCapacity_1 20 rfl rfl)
theorem dJ28_newCapacity_45 : decode cJ28_newCapacity 45 = .ok (.ldc 122, 2) := dk_18 122 (dk_at dksJ28_newCapacity_1 21 rfl rfl)
theorem dJ28_newCapacity_47 : decode cJ28_newCapacity 47 = .ok (.invokespecial 124, 3) := dk_183 0 124 (dk_at dksJ28_newCapacity_2 0 rfl rfl)
theorem dJ28_newCapacity_50 : decode cJ28_newCapacity 50 = .ok (.athrow, 1) := dk_191 (dk_at dksJ28_newCapacity_2 3 rfl rfl)
theorem dJ28_newCapacity_51 : decode cJ28_newCapacity 51 = .ok (.iload 5, 2) := dk_21 5 (dk_at dksJ28_newCapacity_2 4 rfl rfl)
theorem dJ28_newCapacity_53 : decode cJ28_newCapacity 53 = .ok (.aload_n 0, 1) := dk_42 (dk_at dksJ28_newCapacity_2 6 rfl rfl)
theorem dJ28_newCapacity_54 : decode cJ28_newCapacity 54 = .ok (.getfield 22, 3) := dk_180 0 22 (dk_at dksJ28_newCapacity_2 7 rfl rfl)
theorem dJ28_newCapacity_57 : decode cJ28_newCapacity 57 = .ok (.ishr, 1) := dk_122 (dk_at dksJ28_newCapacity_2 10 rfl rfl)
theorem dJ28_newCapacity_58 : decode cJ28_newCapacity 58 = .ok (.ireturn, 1) := dk_172 (dk_at dksJ28_newCapacity_2 11 rfl rfl)
abbrev cJ28_putStringAt : ByteArray := prog_9_method_73_code
def yJ28_putStringAt : MethodName := ⟨RJ28, "putStringAt", "(ILjava/lang/String;)V"⟩
def dkwJ28_putStringAt_0 : List UInt8 := [42, 44, 182, 1, 141, 44, 42, 180, 0, 15, 27, 42, 180, 0, 22, 182, 1, 143, 177]
abbrev dktJ28_putStringAt_0 : List UInt8 := dkwJ28_putStringAt_0 ++ []
theorem dksJ28_putStringAt_0 : cJ28_putStringAt.data.toList.drop 0 = dktJ28_putStringAt_0 := by decide +kernel
theorem dJ28_putStringAt_0 : decode cJ28_putStringAt 0 = .ok (.aload_n 0, 1) := dk_42 (dk_at dksJ28_putStringAt_0 0 rfl rfl)
theorem dJ28_putStringAt_1 : decode cJ28_putStringAt 1 = .ok (.aload_n 2, 1) := dk_44 (dk_at dksJ28_putStringAt_0 1 rfl rfl)
theorem dJ28_putStringAt_2 : decode cJ28_putStringAt 2 = .ok (.invokevirtual 397, 3) := dk_182 1 141 (dk_at dksJ28_putStringAt_0 2 rfl rfl)
theorem dJ28_putStringAt_5 : decode cJ28_putStringAt 5 = .ok (.aload_n 2, 1) := dk_44 (dk_at dksJ28_putStringAt_0 5 rfl rfl)
theorem dJ28_putStringAt_6 : decode cJ28_putStringAt 6 = .ok (.aload_n 0, 1) := dk_42 (dk_at dksJ28_putStringAt_0 6 rfl rfl)
theorem dJ28_putStringAt_7 : decode cJ28_putStringAt 7 = .ok (.getfield 15, 3) := dk_180 0 15 (dk_at dksJ28_putStringAt_0 7 rfl rfl)
theorem dJ28_putStringAt_10 : decode cJ28_putStringAt 10 = .ok (.iload_n 1, 1) := dk_27 (dk_at dksJ28_putStringAt_0 10 rfl rfl)
theorem dJ28_putStringAt_11 : decode cJ28_putStringAt 11 = .ok (.aload_n 0, 1) := dk_42 (dk_at dksJ28_putStringAt_0 11 rfl rfl)
theorem dJ28_putStringAt_12 : decode cJ28_putStringAt 12 = .ok (.getfield 22, 3) := dk_180 0 22 (dk_at dksJ28_putStringAt_0 12 rfl rfl)
theorem dJ28_putStringAt_15 : decode cJ28_putStringAt 15 = .ok (.invokevirtual 399, 3) := dk_182 1 143 (dk_at dksJ28_putStringAt_0 15 rfl rfl)
theorem dJ28_putStringAt_18 : decode cJ28_putStringAt 18 = .ok (.return_, 1) := dk_177 (dk_at dksJ28_putStringAt_0 18 rfl rfl)
abbrev cJ28_inflateIfNeededFor : ByteArray := prog_9_method_71_code
def yJ28_inflateIfNeededFor : MethodName := ⟨RJ28, "inflateIfNeededFor", "(Ljava/lang/String;)V"⟩
def dkwJ28_inflateIfNeededFor_0 : List UInt8 := [178, 0, 18, 153, 0, 18, 42, 180, 0, 22, 43, 182, 0, 40, 159, 0, 7, 42, 182, 0, 195, 177]
abbrev dktJ28_inflateIfNeededFor_0 : List UInt8 := dkwJ28_inflateIfNeededFor_0 ++ []
theorem dksJ28_inflateIfNeededFor_0 : cJ28_inflateIfNeededFor.data.toList.drop 0 = dktJ28_inflateIfNeededFor_0 := by decide +kernel
theorem dJ28_inflateIfNeededFor_0 : decode cJ28_inflateIfNeededFor 0 = .ok (.getstatic 18, 3) := dk_178 0 18 (dk_at dksJ28_inflateIfNeededFor_0 0 rfl rfl)
theorem dJ28_inflateIfNeededFor_3 : decode cJ28_inflateIfNeededFor 3 = .ok (.ifCond .eq 18, 3) := dk_153 0 18 (dk_at dksJ28_inflateIfNeededFor_0 3 rfl rfl)
theorem dJ28_inflateIfNeededFor_6 : decode cJ28_inflateIfNeededFor 6 = .ok (.aload_n 0, 1) := dk_42 (dk_at dksJ28_inflateIfNeededFor_0 6 rfl rfl)
theorem dJ28_inflateIfNeededFor_7 : decode cJ28_inflateIfNeededFor 7 = .ok (.getfield 22, 3) := dk_180 0 22 (dk_at dksJ28_inflateIfNeededFor_0 7 rfl rfl)
theorem dJ28_inflateIfNeededFor_10 : decode cJ28_inflateIfNeededFor 10 = .ok (.aload_n 1, 1) := dk_43 (dk_at dksJ28_inflateIfNeededFor_0 10 rfl rfl)
theorem dJ28_inflateIfNeededFor_11 : decode cJ28_inflateIfNeededFor 11 = .ok (.invokevirtual 40, 3) := dk_182 0 40 (dk_at dksJ28_inflateIfNeededFor_0 11 rfl rfl)
theorem dJ28_inflateIfNeededFor_14 : decode cJ28_inflateIfNeededFor 14 = .ok (.if_icmp .eq 7, 3) := dk_159 0 7 (dk_at dksJ28_inflateIfNeededFor_0 14 rfl rfl)
theorem dJ28_inflateIfNeededFor_17 : decode cJ28_inflateIfNeededFor 17 = .ok (.aload_n 0, 1) := dk_42 (dk_at dksJ28_inflateIfNeededFor_0 17 rfl rfl)
theorem dJ28_inflateIfNeededFor_18 : decode cJ28_inflateIfNeededFor 18 = .ok (.invokevirtual 195, 3) := dk_182 0 195 (dk_at dksJ28_inflateIfNeededFor_0 18 rfl rfl)
theorem dJ28_inflateIfNeededFor_21 : decode cJ28_inflateIfNeededFor 21 = .ok (.return_, 1) := dk_177 (dk_at dksJ28_inflateIfNeededFor_0 21 rfl rfl)
abbrev cJ28_inflate : ByteArray := prog_9_method_11_code
def yJ28_inflate : MethodName := ⟨RJ28, "inflate", "()V"⟩
def dkwJ28_inflate_1 : List UInt8 := [42, 180, 0, 79, 184, 0, 125, 42, 43, 181, 0, 15, 42, 4, 181, 0, 22, 177]
abbrev dktJ28_inflate_1 : List UInt8 := dkwJ28_inflate_1 ++ []
def dkwJ28_inflate_0 : List UInt8 := [42, 182, 0, 83, 154, 0, 4, 177, 42, 180, 0, 15, 190, 184, 0, 26, 76, 42, 180, 0, 15, 3, 43, 3]
abbrev dktJ28_inflate_0 : List UInt8 := dkwJ28_inflate_0 ++ dktJ28_inflate_1
theorem dksJ28_inflate_0 : cJ28_inflate.data.toList.drop 0 = dktJ28_inflate_0 := by decide +kernel
theorem dksJ28_inflate_1 : cJ28_inflate.data.toList.drop 24 = dktJ28_inflate_1 := dk_seg dksJ28_inflate_0 24 rfl rfl
theorem dJ28_inflate_0 : decode cJ28_inflate 0 = .ok (.aload_n 0, 1) := dk_42 (dk_at dksJ28_inflate_0 0 rfl rfl)
theorem dJ28_inflate_1 : decode cJ28_inflate 1 = .ok (.invokevirtual 83, 3) := dk_182 0 83 (dk_at dksJ28_inflate_0 1 rfl rfl)
theorem dJ28_inflate_4 : decode cJ28_inflate 4 = .ok (.ifCond .ne 4, 3) := dk_154 0 4 (dk_at dksJ28_inflate_0 4 rfl rfl)
theorem dJ28_inflate_7 : decode cJ28_inflate 7 = .ok (.return_, 1) := dk_177 (dk_at dksJ28_inflate_0 7 rfl rfl)
theorem dJ28_inflate_8 : decode cJ28_inflate 8 = .ok (.aload_n 0, 1) := dk_42 (dk_at dksJ28_inflate_0 8 rfl rfl)
theorem dJ28_inflate_9 : decode cJ28_inflate 9 = .ok (.getfield 15, 3) := dk_180 0 15 (dk_at dksJ28_inflate_0 9 rfl rfl)
theorem dJ28_inflate_12 : decode cJ28_inflate 12 = .ok (.arraylength, 1) := dk_190 (dk_at dksJ28_inflate_0 12 rfl rfl)
theorem dJ28_inflate_13 : decode cJ28_inflate 13 = .ok (.invokestatic 26, 3) := dk_184 0 26 (dk_at dksJ28_inflate_0 13 rfl rfl)
theorem dJ28_inflate_16 : decode cJ28_inflate 16 = .ok (.astore_n 1, 1) := dk_76 (dk_at dksJ28_inflate_0 16 rfl rfl)
theorem dJ28_inflate_17 : decode cJ28_inflate 17 = .ok (.aload_n 0, 1) := dk_42 (dk_at dksJ28_inflate_0 17 rfl rfl)
theorem dJ28_inflate_18 : decode cJ28_inflate 18 = .ok (.getfield 15, 3) := dk_180 0 15 (dk_at dksJ28_inflate_0 18 rfl rfl)
theorem dJ28_inflate_21 : decode cJ28_inflate 21 = .ok (.iconst 0, 1) := dk_3 (dk_at dksJ28_inflate_0 21 rfl rfl)
theorem dJ28_inflate_22 : decode cJ28_inflate 22 = .ok (.aload_n 1, 1) := dk_43 (dk_at dksJ28_inflate_0 22 rfl rfl)
theorem dJ28_inflate_23 : decode cJ28_inflate 23 = .ok (.iconst 0, 1) := dk_3 (dk_at dksJ28_inflate_0 23 rfl rfl)
theorem dJ28_inflate_24 : decode cJ28_inflate 24 = .ok (.aload_n 0, 1) := dk_42 (dk_at dksJ28_inflate_1 0 rfl rfl)
theorem dJ28_inflate_25 : decode cJ28_inflate 25 = .ok (.getfield 79, 3) := dk_180 0 79 (dk_at dksJ28_inflate_1 1 rfl rfl)
theorem dJ28_inflate_28 : decode cJ28_inflate 28 = .ok (.invokestatic 125, 3) := dk_184 0 125 (dk_at dksJ28_inflate_1 4 rfl rfl)
theorem dJ28_inflate_31 : decode cJ28_inflate 31 = .ok (.aload_n 0, 1) := dk_42 (dk_at dksJ28_inflate_1 7 rfl rfl)
theorem dJ28_inflate_32 : decode cJ28_inflate 32 = .ok (.aload_n 1, 1) := dk_43 (dk_at dksJ28_inflate_1 8 rfl rfl)
theorem dJ28_inflate_33 : decode cJ28_inflate 33 = .ok (.putfield 15, 3) := dk_181 0 15 (dk_at dksJ28_inflate_1 9 rfl rfl)
theorem dJ28_inflate_36 : decode cJ28_inflate 36 = .ok (.aload_n 0, 1) := dk_42 (dk_at dksJ28_inflate_1 12 rfl rfl)
theorem dJ28_inflate_37 : decode cJ28_inflate 37 = .ok (.iconst 1, 1) := dk_4 (dk_at dksJ28_inflate_1 13 rfl rfl)
theorem dJ28_inflate_38 : decode cJ28_inflate 38 = .ok (.putfield 22, 3) := dk_181 0 22 (dk_at dksJ28_inflate_1 14 rfl rfl)
theorem dJ28_inflate_41 : decode cJ28_inflate 41 = .ok (.return_, 1) := dk_177 (dk_at dksJ28_inflate_1 17 rfl rfl)
abbrev cJ28_append_2 : ByteArray := prog_9_method_32_code
def yJ28_append_2 : MethodName := ⟨RJ28, "append", "(I)Ljava/lang/AbstractStringBuilder;"⟩
def dkwJ28_append_2_2 : List UInt8 := [42, 29, 181, 0, 79, 42, 176]
abbrev dktJ28_append_2_2 : List UInt8 := dkwJ28_append_2_2 ++ []
def dkwJ28_append_2_1 : List UInt8 := [27, 29, 42, 180, 0, 15, 184, 0, 248, 87, 167, 0, 14, 27, 28, 29, 42, 180, 0, 15, 184, 0, 251, 87]
abbrev dktJ28_append_2_1 : List UInt8 := dkwJ28_append_2_1 ++ dktJ28_append_2_2
def dkwJ28_append_2_0 : List UInt8 := [42, 180, 0, 79, 61, 28, 27, 184, 0, 245, 96, 62, 42, 29, 182, 0, 100, 42, 182, 0, 83, 153, 0, 16]
abbrev dktJ28_append_2_0 : List UInt8 := dkwJ28_append_2_0 ++ dktJ28_append_2_1
theorem dksJ28_append_2_0 : cJ28_append_2.data.toList.drop 0 = dktJ28_append_2_0 := by decide +kernel
theorem dksJ28_append_2_1 : cJ28_append_2.data.toList.drop 24 = dktJ28_append_2_1 := dk_seg dksJ28_append_2_0 24 rfl rfl
theorem dksJ28_append_2_2 : cJ28_append_2.data.toList.drop 48 = dktJ28_append_2_2 := dk_seg dksJ28_append_2_1 24 rfl rfl
theorem dJ28_append_2_0 : decode cJ28_append_2 0 = .ok (.aload_n 0, 1) := dk_42 (dk_at dksJ28_append_2_0 0 rfl rfl)
theorem dJ28_append_2_1 : decode cJ28_append_2 1 = .ok (.getfield 79, 3) := dk_180 0 79 (dk_at dksJ28_append_2_0 1 rfl rfl)
theorem dJ28_append_2_4 : decode cJ28_append_2 4 = .ok (.istore_n 2, 1) := dk_61 (dk_at dksJ28_append_2_0 4 rfl rfl)
theorem dJ28_append_2_5 : decode cJ28_append_2 5 = .ok (.iload_n 2, 1) := dk_28 (dk_at dksJ28_append_2_0 5 rfl rfl)
theorem dJ28_append_2_6 : decode cJ28_append_2 6 = .ok (.iload_n 1, 1) := dk_27 (dk_at dksJ28_append_2_0 6 rfl rfl)
theorem dJ28_append_2_7 : decode cJ28_append_2 7 = .ok (.invokestatic 245, 3) := dk_184 0 245 (dk_at dksJ28_append_2_0 7 rfl rfl)
theorem dJ28_append_2_10 : decode cJ28_append_2 10 = .ok (.iadd, 1) := dk_96 (dk_at dksJ28_append_2_0 10 rfl rfl)
theorem dJ28_append_2_11 : decode cJ28_append_2 11 = .ok (.istore_n 3, 1) := dk_62 (dk_at dksJ28_append_2_0 11 rfl rfl)
theorem dJ28_append_2_12 : decode cJ28_append_2 12 = .ok (.aload_n 0, 1) := dk_42 (dk_at dksJ28_append_2_0 12 rfl rfl)
theorem dJ28_append_2_13 : decode cJ28_append_2 13 = .ok (.iload_n 3, 1) := dk_29 (dk_at dksJ28_append_2_0 13 rfl rfl)
theorem dJ28_append_2_14 : decode cJ28_append_2 14 = .ok (.invokevirtual 100, 3) := dk_182 0 100 (dk_at dksJ28_append_2_0 14 rfl rfl)
theorem dJ28_append_2_17 : decode cJ28_append_2 17 = .ok (.aload_n 0, 1) := dk_42 (dk_at dksJ28_append_2_0 17 rfl rfl)
theorem dJ28_append_2_18 : decode cJ28_append_2 18 = .ok (.invokevirtual 83, 3) := dk_182 0 83 (dk_at dksJ28_append_2_0 18 rfl rfl)
theorem dJ28_append_2_21 : decode cJ28_append_2 21 = .ok (.ifCond .eq 16, 3) := dk_153 0 16 (dk_at dksJ28_append_2_0 21 rfl rfl)
theorem dJ28_append_2_24 : decode cJ28_append_2 24 = .ok (.iload_n 1, 1) := dk_27 (dk_at dksJ28_append_2_1 0 rfl rfl)
theorem dJ28_append_2_25 : decode cJ28_append_2 25 = .ok (.iload_n 3, 1) := dk_29 (dk_at dksJ28_append_2_1 1 rfl rfl)
theorem dJ28_append_2_26 : decode cJ28_append_2 26 = .ok (.aload_n 0, 1) := dk_42 (dk_at dksJ28_append_2_1 2 rfl rfl)
theorem dJ28_append_2_27 : decode cJ28_append_2 27 = .ok (.getfield 15, 3) := dk_180 0 15 (dk_at dksJ28_append_2_1 3 rfl rfl)
theorem dJ28_append_2_30 : decode cJ28_append_2 30 = .ok (.invokestatic 248, 3) := dk_184 0 248 (dk_at dksJ28_append_2_1 6 rfl rfl)
theorem dJ28_append_2_33 : decode cJ28_append_2 33 = .ok (.pop, 1) := dk_87 (dk_at dksJ28_append_2_1 9 rfl rfl)
theorem dJ28_append_2_34 : decode cJ28_append_2 34 = .ok (.goto 14, 3) := dk_167 0 14 (dk_at dksJ28_append_2_1 10 rfl rfl)
theorem dJ28_append_2_37 : decode cJ28_append_2 37 = .ok (.iload_n 1, 1) := dk_27 (dk_at dksJ28_append_2_1 13 rfl rfl)
theorem dJ28_append_2_38 : decode cJ28_append_2 38 = .ok (.iload_n 2, 1) := dk_28 (dk_at dksJ28_append_2_1 14 rfl rfl)
theorem dJ28_append_2_39 : decode cJ28_append_2 39 = .ok (.iload_n 3, 1) := dk_29 (dk_at dksJ28_append_2_1 15 rfl rfl)
theorem dJ28_append_2_40 : decode cJ28_append_2 40 = .ok (.aload_n 0, 1) := dk_42 (dk_at dksJ28_append_2_1 16 rfl rfl)
theorem dJ28_append_2_41 : decode cJ28_append_2 41 = .ok (.getfield 15, 3) := dk_180 0 15 (dk_at dksJ28_append_2_1 17 rfl rfl)
theorem dJ28_append_2_44 : decode cJ28_append_2 44 = .ok (.invokestatic 251, 3) := dk_184 0 251 (dk_at dksJ28_append_2_1 20 rfl rfl)
theorem dJ28_append_2_47 : decode cJ28_append_2 47 = .ok (.pop, 1) := dk_87 (dk_at dksJ28_append_2_1 23 rfl rfl)
theorem dJ28_append_2_48 : decode cJ28_append_2 48 = .ok (.aload_n 0, 1) := dk_42 (dk_at dksJ28_append_2_2 0 rfl rfl)
theorem dJ28_append_2_49 : decode cJ28_append_2 49 = .ok (.iload_n 3, 1) := dk_29 (dk_at dksJ28_append_2_2 1 rfl rfl)
theorem dJ28_append_2_50 : decode cJ28_append_2 50 = .ok (.putfield 79, 3) := dk_181 0 79 (dk_at dksJ28_append_2_2 2 rfl rfl)
theorem dJ28_append_2_53 : decode cJ28_append_2 53 = .ok (.aload_n 0, 1) := dk_42 (dk_at dksJ28_append_2_2 5 rfl rfl)
theorem dJ28_append_2_54 : decode cJ28_append_2 54 = .ok (.areturn, 1) := dk_176 (dk_at dksJ28_append_2_2 6 rfl rfl)
abbrev cJ28_getValue : ByteArray := prog_9_method_64_code
def yJ28_getValue : MethodName := ⟨RJ28, "getValue", "()[B"⟩
theorem dJ28_getValue_0 : decode cJ28_getValue 0 = .ok (.aload_n 0, 1) := by decide +kernel
theorem dJ28_getValue_1 : decode cJ28_getValue 1 = .ok (.getfield 15, 3) := by decide +kernel
theorem dJ28_getValue_4 : decode cJ28_getValue 4 = .ok (.areturn, 1) := by decide +kernel
abbrev cJ28_length : ByteArray := prog_9_method_6_code
def yJ28_length : MethodName := ⟨RJ28, "length", "()I"⟩
theorem dJ28_length_0 : decode cJ28_length 0 = .ok (.aload_n 0, 1) := by decide +kernel
theorem dJ28_length_1 : decode cJ28_length 1 = .ok (.getfield 79, 3) := by decide +kernel
theorem dJ28_length_4 : decode cJ28_length 4 = .ok (.ireturn, 1) := by decide +kernel
theorem q108 : (Jvm.Cond.initialized "java/lang/AbstractStringBuilder") ∈ lw_all := lw_g (lw_at lw_m1 37 rfl) rfl
theorem q591 : (Jvm.Cond.instanceMethod ({ cls := "java/lang/AbstractStringBuilder", name := "compareTo", desc := "(Ljava/lang/AbstractStringBuilder;)I" } : Jvm.MethodName)) ∈ lw_all := lw_g (lw_at lw_m3 40 rfl) rfl
theorem q592 : (Jvm.Cond.code ({ cls := "java/lang/AbstractStringBuilder", name := "compareTo", desc := "(Ljava/lang/AbstractStringBuilder;)I" } : Jvm.MethodName) prog_9_method_5_code (6 : Nat) (Option.some Jvm.ClassFile.FieldType.int)) ∈ lw_all := lw_g (lw_at lw_m3 41 rfl) rfl
theorem q593 : (Jvm.Cond.methodLink "java/lang/AbstractStringBuilder" (83 : Nat) ({ cls := "java/lang/AbstractStringBuilder", name := "isLatin1", desc := "()Z" } : Jvm.MethodName)) ∈ lw_all := lw_g (lw_at lw_m3 42 rfl) rfl
theorem q594 : (Jvm.Cond.instanceMethod ({ cls := "java/lang/AbstractStringBuilder", name := "isLatin1", desc := "()Z" } : Jvm.MethodName)) ∈ lw_all := lw_g (lw_at lw_m3 43 rfl) rfl
theorem q595 : (Jvm.Cond.sameMethod "java/lang/AbstractStringBuilder" "java/lang/AbstractStringBuilder" "isLatin1" "()Z") ∈ lw_all := lw_g (lw_at lw_m3 44 rfl) rfl
theorem q597 : (Jvm.Cond.code ({ cls := "java/lang/AbstractStringBuilder", name := "isLatin1", desc := "()Z" } : Jvm.MethodName) prog_9_method_68_code (1 : Nat) (Option.some Jvm.ClassFile.FieldType.boolean)) ∈ lw_all := lw_g (lw_at lw_m3 46 rfl) rfl
theorem q598 : (Jvm.Cond.fieldLink "java/lang/AbstractStringBuilder" (18 : Nat) "java/lang/String" "COMPACT_STRINGS" "Z") ∈ lw_all := lw_g (lw_at lw_m3 47 rfl) rfl
theorem q599 : (Jvm.Cond.methodLink "java/lang/AbstractStringBuilder" (87 : Nat) ({ cls := "java/lang/StringLatin1", name := "compareTo", desc := "([B[BII)I" } : Jvm.MethodName)) ∈ lw_all := lw_g (lw_at lw_m3 48 rfl) rfl
theorem q600 : (Jvm.Cond.methodLink "java/lang/AbstractStringBuilder" (93 : Nat) ({ cls := "java/lang/StringUTF16", name := "compareTo", desc := "([B[BII)I" } : Jvm.MethodName)) ∈ lw_all := lw_g (lw_at lw_m3 49 rfl) rfl
theorem q614 : (Jvm.Cond.methodLink "java/lang/AbstractStringBuilder" (94 : Nat) ({ cls := "java/lang/StringLatin1", name := "compareToUTF16", desc := "([B[BII)I" } : Jvm.MethodName)) ∈ lw_all := lw_g (lw_at lw_m3 63 rfl) rfl
theorem q618 : (Jvm.Cond.methodLink "java/lang/AbstractStringBuilder" (97 : Nat) ({ cls := "java/lang/StringUTF16", name := "compareToLatin1", desc := "([B[BII)I" } : Jvm.MethodName)) ∈ lw_all := lw_g (lw_at lw_m3 67 rfl) rfl
theorem q636 : (Jvm.Cond.instanceMethod ({ cls := "java/lang/AbstractStringBuilder", name := "<init>", desc := "(I)V" } : Jvm.MethodName)) ∈ lw_all := lw_g (lw_at lw_m3 85 rfl) rfl
theorem q637 : (Jvm.Cond.code ({ cls := "java/lang/AbstractStringBuilder", name := "<init>", desc := "(I)V" } : Jvm.MethodName) prog_9_method_2_code (2 : Nat) (Option.none : Option Jvm.ClassFile.FieldType)) ∈ lw_all := lw_g (lw_at lw_m3 86 rfl) rfl
theorem q638 : (Jvm.Cond.methodLink "java/lang/AbstractStringBuilder" (3 : Nat) ({ cls := "java/lang/Object", name := "<init>", desc := "()V" } : Jvm.MethodName)) ∈ lw_all := lw_g (lw_at lw_m3 87 rfl) rfl
theorem q639 : (Jvm.Cond.methodLink "java/lang/AbstractStringBuilder" (26 : Nat) ({ cls := "java/lang/StringUTF16", name := "newBytesFor", desc := "(I)[B" } : Jvm.MethodName)) ∈ lw_all := lw_g (lw_at lw_m3 88 rfl) rfl
theorem q646 : (Jvm.Cond.fieldLink "java/lang/AbstractStringBuilder" (15 : Nat) "java/lang/AbstractStringBuilder" "value" "[B") ∈ lw_all := lw_g (lw_at lw_m3 95 rfl) rfl
theorem q647 : (Jvm.Cond.fieldLink "java/lang/AbstractStringBuilder" (22 : Nat) "java/lang/AbstractStringBuilder" "coder" "B") ∈ lw_all := lw_g (lw_at lw_m3 96 rfl) rfl
theorem q649 : (Jvm.Cond.fieldLink "java/lang/AbstractStringBuilder" (79 : Nat) "java/lang/AbstractStringBuilder" "count" "I") ∈ lw_all := lw_g (lw_at lw_m3 98 rfl) rfl
theorem q651 : (Jvm.Cond.soleField "java/lang/AbstractStringBuilder" "value") ∈ lw_all := lw_g (lw_at lw_m3 100 rfl) rfl
theorem q653 : (Jvm.Cond.soleField "java/lang/AbstractStringBuilder" "coder") ∈ lw_all := lw_g (lw_at lw_m3 102 rfl) rfl
theorem q655 : (Jvm.Cond.soleField "java/lang/AbstractStringBuilder" "maybeLatin1") ∈ lw_all := lw_g (lw_at lw_m3 104 rfl) rfl
theorem q657 : (Jvm.Cond.soleField "java/lang/AbstractStringBuilder" "count") ∈ lw_all := lw_g (lw_at lw_m3 106 rfl) rfl
theorem q666 : (Jvm.Cond.instanceMethod ({ cls := "java/lang/AbstractStringBuilder", name := "append", desc := "(Ljava/lang/String;)Ljava/lang/AbstractStringBuilder;" } : Jvm.MethodName)) ∈ lw_all := lw_g (lw_at lw_m3 115 rfl) rfl
theorem q667 : (Jvm.Cond.code ({ cls := "java/lang/AbstractStringBuilder", name := "append", desc := "(Ljava/lang/String;)Ljava/lang/AbstractStringBuilder;" } : Jvm.MethodName) prog_9_method_22_code (3 : Nat) (Option.some (Jvm.ClassFile.FieldType.object "java/lang/AbstractStringBuilder"))) ∈ lw_all := lw_g (lw_at lw_m3 116 rfl) rfl
theorem q668 : (Jvm.Cond.methodLink "java/lang/AbstractStringBuilder" (204 : Nat) ({ cls := "java/lang/AbstractStringBuilder", name := "appendNull", desc := "()Ljava/lang/AbstractStringBuilder;" } : Jvm.MethodName)) ∈ lw_all := lw_g (lw_at lw_m3 117 rfl) rfl
theorem q669 : (Jvm.Cond.privateMethod ({ cls := "java/lang/AbstractStringBuilder", name := "appendNull", desc := "()Ljava/lang/AbstractStringBuilder;" } : Jvm.MethodName)) ∈ lw_tbl := lw_at lw_m3 118 rfl
theorem q670 : (Jvm.Cond.instanceMethod ({ cls := "java/lang/AbstractStringBuilder", name := "appendNull", desc := "()Ljava/lang/AbstractStringBuilder;" } : Jvm.MethodName)) ∈ lw_all := lw_g (lw_at lw_m3 119 rfl) rfl
theorem q671 : (Jvm.Cond.code ({ cls := "java/lang/AbstractStringBuilder", name := "appendNull", desc := "()Ljava/lang/AbstractStringBuilder;" } : Jvm.MethodName) prog_9_method_26_code (3 : Nat) (Option.some (Jvm.ClassFile.FieldType.object "java/lang/AbstractStringBuilder"))) ∈ lw_all := lw_g (lw_at lw_m3 120 rfl) rfl
theorem q672 : (Jvm.Cond.methodLink "java/lang/AbstractStringBuilder" (100 : Nat) ({ cls := "java/lang/AbstractStringBuilder", name := "ensureCapacityInternal", desc := "(I)V" } : Jvm.MethodName)) ∈ lw_all := lw_g (lw_at lw_m3 121 rfl) rfl
theorem q673 : (Jvm.Cond.privateMethod ({ cls := "java/lang/AbstractStringBuilder", name := "ensureCapacityInternal", desc := "(I)V" } : Jvm.MethodName)) ∈ lw_tbl := lw_at lw_m3 122 rfl
theorem q674 : (Jvm.Cond.instanceMethod ({ cls := "java/lang/AbstractStringBuilder", name := "ensureCapacityInternal", desc := "(I)V" } : Jvm.MethodName)) ∈ lw_all := lw_g (lw_at lw_m3 123 rfl) rfl
theorem q675 : (Jvm.Cond.code ({ cls := "java/lang/AbstractStringBuilder", name := "ensureCapacityInternal", desc := "(I)V" } : Jvm.MethodName) prog_9_method_9_code (3 : Nat) (Option.none : Option Jvm.ClassFile.FieldType)) ∈ lw_all := lw_g (lw_at lw_m3 124 rfl) rfl
theorem q676 : (Jvm.Cond.methodLink "java/lang/AbstractStringBuilder" (104 : Nat) ({ cls := "java/lang/AbstractStringBuilder", name := "newCapacity", desc := "(I)I" } : Jvm.MethodName)) ∈ lw_all := lw_g (lw_at lw_m3 125 rfl) rfl
theorem q677 : (Jvm.Cond.privateMethod ({ cls := "java/lang/AbstractStringBuilder", name := "newCapacity", desc := "(I)I" } : Jvm.MethodName)) ∈ lw_tbl := lw_at lw_m3 126 rfl
theorem q678 : (Jvm.Cond.instanceMethod ({ cls := "java/lang/AbstractStringBuilder", name := "newCapacity", desc := "(I)I" } : Jvm.MethodName)) ∈ lw_all := lw_g (lw_at lw_m3 127 rfl) rfl
theorem q679 : (Jvm.Cond.code ({ cls := "java/lang/AbstractStringBuilder", name := "newCapacity", desc := "(I)I" } : Jvm.MethodName) prog_9_method_10_code (6 : Nat) (Option.some Jvm.ClassFile.FieldType.int)) ∈ lw_all := lw_g (lw_at lw_m3 128 rfl) rfl
theorem q680 : (Jvm.Cond.methodLink "java/lang/AbstractStringBuilder" (114 : Nat) ({ cls := "jdk/internal/util/ArraysSupport", name := "newLength", desc := "(III)I" } : Jvm.MethodName)) ∈ lw_all := lw_g (lw_at lw_m3 129 rfl) rfl
theorem q681 : (Jvm.Cond.constant "java/lang/AbstractStringBuilder" (39 : Nat) (2147483647 : Int32)) ∈ lw_all := lw_g (lw_at lw_m3 130 rfl) rfl
theorem q682 : (Jvm.Cond.methodLink "java/lang/AbstractStringBuilder" (108 : Nat) ({ cls := "java/util/Arrays", name := "copyOf", desc := "([BI)[B" } : Jvm.MethodName)) ∈ lw_all := lw_g (lw_at lw_m3 131 rfl) rfl
theorem q692 : (Jvm.Cond.methodLink "java/lang/AbstractStringBuilder" (226 : Nat) ({ cls := "java/lang/StringUTF16", name := "putCharsAt", desc := "([BICCCC)I" } : Jvm.MethodName)) ∈ lw_all := lw_g (lw_at lw_m3 141 rfl) rfl
theorem q704 : (Jvm.Cond.methodLink "java/lang/AbstractStringBuilder" (32 : Nat) ({ cls := "java/lang/String", name := "length", desc := "()I" } : Jvm.MethodName)) ∈ lw_all := lw_g (lw_at lw_m3 153 rfl) rfl
theorem q708 : (Jvm.Cond.methodLink "java/lang/AbstractStringBuilder" (208 : Nat) ({ cls := "java/lang/AbstractStringBuilder", name := "putStringAt", desc := "(ILjava/lang/String;)V" } : Jvm.MethodName)) ∈ lw_all := lw_g (lw_at lw_m3 157 rfl) rfl
theorem q709 : (Jvm.Cond.privateMethod ({ cls := "java/lang/AbstractStringBuilder", name := "putStringAt", desc := "(ILjava/lang/String;)V" } : Jvm.MethodName)) ∈ lw_tbl := lw_at lw_m3 158 rfl
theorem q710 : (Jvm.Cond.instanceMethod ({ cls := "java/lang/AbstractStringBuilder", name := "putStringAt", desc := "(ILjava/lang/String;)V" } : Jvm.MethodName)) ∈ lw_all := lw_g (lw_at lw_m3 159 rfl) rfl
theorem q711 : (Jvm.Cond.code ({ cls := "java/lang/AbstractStringBuilder", name := "putStringAt", desc := "(ILjava/lang/String;)V" } : Jvm.MethodName) prog_9_method_73_code (3 : Nat) (Option.none : Option Jvm.ClassFile.FieldType)) ∈ lw_all := lw_g (lw_at lw_m3 160 rfl) rfl
theorem q712 : (Jvm.Cond.methodLink "java/lang/AbstractStringBuilder" (397 : Nat) ({ cls := "java/lang/AbstractStringBuilder", name := "inflateIfNeededFor", desc := "(Ljava/lang/String;)V" } : Jvm.MethodName)) ∈ lw_all := lw_g (lw_at lw_m3 161 rfl) rfl
theorem q713 : (Jvm.Cond.privateMethod ({ cls := "java/lang/AbstractStringBuilder", name := "inflateIfNeededFor", desc := "(Ljava/lang/String;)V" } : Jvm.MethodName)) ∈ lw_tbl := lw_at lw_m3 162 rfl
theorem q714 : (Jvm.Cond.instanceMethod ({ cls := "java/lang/AbstractStringBuilder", name := "inflateIfNeededFor", desc := "(Ljava/lang/String;)V" } : Jvm.MethodName)) ∈ lw_all := lw_g (lw_at lw_m3 163 rfl) rfl
theorem q715 : (Jvm.Cond.code ({ cls := "java/lang/AbstractStringBuilder", name := "inflateIfNeededFor", desc := "(Ljava/lang/String;)V" } : Jvm.MethodName) prog_9_method_71_code (2 : Nat) (Option.none : Option Jvm.ClassFile.FieldType)) ∈ lw_all := lw_g (lw_at lw_m3 164 rfl) rfl
theorem q716 : (Jvm.Cond.methodLink "java/lang/AbstractStringBuilder" (40 : Nat) ({ cls := "java/lang/String", name := "coder", desc := "()B" } : Jvm.MethodName)) ∈ lw_all := lw_g (lw_at lw_m3 165 rfl) rfl
theorem q717 : (Jvm.Cond.methodLink "java/lang/AbstractStringBuilder" (195 : Nat) ({ cls := "java/lang/AbstractStringBuilder", name := "inflate", desc := "()V" } : Jvm.MethodName)) ∈ lw_all := lw_g (lw_at lw_m3 166 rfl) rfl
theorem q718 : (Jvm.Cond.privateMethod ({ cls := "java/lang/AbstractStringBuilder", name := "inflate", desc := "()V" } : Jvm.MethodName)) ∈ lw_tbl := lw_at lw_m3 167 rfl
theorem q719 : (Jvm.Cond.instanceMethod ({ cls := "java/lang/AbstractStringBuilder", name := "inflate", desc := "()V" } : Jvm.MethodName)) ∈ lw_all := lw_g (lw_at lw_m3 168 rfl) rfl
theorem q720 : (Jvm.Cond.code ({ cls := "java/lang/AbstractStringBuilder", name := "inflate", desc := "()V" } : Jvm.MethodName) prog_9_method_11_code (2 : Nat) (Option.none : Option Jvm.ClassFile.FieldType)) ∈ lw_all := lw_g (lw_at lw_m3 169 rfl) rfl
theorem q721 : (Jvm.Cond.methodLink "java/lang/AbstractStringBuilder" (125 : Nat) ({ cls := "java/lang/StringLatin1", name := "inflate", desc := "([BI[BII)V" } : Jvm.MethodName)) ∈ lw_all := lw_g (lw_at lw_m3 170 rfl) rfl
theorem q736 : (Jvm.Cond.methodLink "java/lang/AbstractStringBuilder" (399 : Nat) ({ cls := "java/lang/String", name := "getBytes", desc := "([BIB)V" } : Jvm.MethodName)) ∈ lw_all := lw_g (lw_at lw_m3 185 rfl) rfl
theorem q747 : (Jvm.Cond.instanceMethod ({ cls := "java/lang/AbstractStringBuilder", name := "append", desc := "(I)Ljava/lang/AbstractStringBuilder;" } : Jvm.MethodName)) ∈ lw_all := lw_g (lw_at lw_m3 196 rfl) rfl
theorem q748 : (Jvm.Cond.code ({ cls := "java/lang/AbstractStringBuilder", name := "append", desc := "(I)Ljava/lang/AbstractStringBuilder;" } : Jvm.MethodName) prog_9_method_32_code (4 : Nat) (Option.some (Jvm.ClassFile.FieldType.object "java/lang/AbstractStringBuilder"))) ∈ lw_all := lw_g (lw_at lw_m3 197 rfl) rfl
theorem q749 : (Jvm.Cond.methodLink "java/lang/AbstractStringBuilder" (245 : Nat) ({ cls := "java/lang/Integer", name := "stringSize", desc := "(I)I" } : Jvm.MethodName)) ∈ lw_all := lw_g (lw_at lw_m3 198 rfl) rfl
theorem q752 : (Jvm.Cond.methodLink "java/lang/AbstractStringBuilder" (248 : Nat) ({ cls := "java/lang/Integer", name := "getChars", desc := "(II[B)I" } : Jvm.MethodName)) ∈ lw_all := lw_g (lw_at lw_m3 201 rfl) rfl
theorem q759 : (Jvm.Cond.methodLink "java/lang/AbstractStringBuilder" (251 : Nat) ({ cls := "java/lang/StringUTF16", name := "getChars", desc := "(III[B)I" } : Jvm.MethodName)) ∈ lw_all := lw_g (lw_at lw_m3 208 rfl) rfl
theorem q781 : (Jvm.Cond.instanceMethod ({ cls := "java/lang/AbstractStringBuilder", name := "getValue", desc := "()[B" } : Jvm.MethodName)) ∈ lw_all := lw_g (lw_at lw_m3 230 rfl) rfl
theorem q782 : (Jvm.Cond.sameMethod "java/lang/AbstractStringBuilder" "java/lang/AbstractStringBuilder" "getValue" "()[B") ∈ lw_all := lw_g (lw_at lw_m3 231 rfl) rfl
theorem q784 : (Jvm.Cond.code ({ cls := "java/lang/AbstractStringBuilder", name := "getValue", desc := "()[B" } : Jvm.MethodName) prog_9_method_64_code (1 : Nat) (Option.some (Jvm.ClassFile.FieldType.array Jvm.ClassFile.FieldType.byte))) ∈ lw_all := lw_g (lw_at lw_m3 233 rfl) rfl
theorem q786 : (Jvm.Cond.instanceMethod ({ cls := "java/lang/AbstractStringBuilder", name := "length", desc := "()I" } : Jvm.MethodName)) ∈ lw_all := lw_g (lw_at lw_m3 235 rfl) rfl
theorem q787 : (Jvm.Cond.sameMethod "java/lang/AbstractStringBuilder" "java/lang/AbstractStringBuilder" "length" "()I") ∈ lw_all := lw_g (lw_at lw_m3 236 rfl) rfl
theorem q792 : (Jvm.Cond.code ({ cls := "java/lang/AbstractStringBuilder", name := "length", desc := "()I" } : Jvm.MethodName) prog_9_method_6_code (1 : Nat) (Option.some Jvm.ClassFile.FieldType.int)) ∈ lw_all := lw_g (lw_at lw_m4 1 rfl) rfl
theorem q2179 : (Jvm.Cond.sameMethod "java/lang/AbstractStringBuilder" "java/lang/AbstractStringBuilder" "compareTo" "(Ljava/lang/AbstractStringBuilder;)I") ∈ lw_all := lw_g (lw_at lw_m9 188 rfl) rfl
theorem q2180 : (Jvm.Cond.sameMethod "java/lang/AbstractStringBuilder" "java/lang/AbstractStringBuilder" "append" "(Ljava/lang/String;)Ljava/lang/AbstractStringBuilder;") ∈ lw_all := lw_g (lw_at lw_m9 189 rfl) rfl
theorem q2181 : (Jvm.Cond.sameMethod "java/lang/AbstractStringBuilder" "java/lang/AbstractStringBuilder" "appendNull" "()Ljava/lang/AbstractStringBuilder;") ∈ lw_all := lw_g (lw_at lw_m9 190 rfl) rfl
theorem q2182 : (Jvm.Cond.sameMethod "java/lang/AbstractStringBuilder" "java/lang/AbstractStringBuilder" "ensureCapacityInternal" "(I)V") ∈ lw_all := lw_g (lw_at lw_m9 191 rfl) rfl
theorem q2183 : (Jvm.Cond.sameMethod "java/lang/AbstractStringBuilder" "java/lang/AbstractStringBuilder" "newCapacity" "(I)I") ∈ lw_all := lw_g (lw_at lw_m9 192 rfl) rfl
theorem q2184 : (Jvm.Cond.sameMethod "java/lang/AbstractStringBuilder" "java/lang/AbstractStringBuilder" "putStringAt" "(ILjava/lang/String;)V") ∈ lw_all := lw_g (lw_at lw_m9 193 rfl) rfl
theorem q2185 : (Jvm.Cond.sameMethod "java/lang/AbstractStringBuilder" "java/lang/AbstractStringBuilder" "inflateIfNeededFor" "(Ljava/lang/String;)V") ∈ lw_all := lw_g (lw_at lw_m9 194 rfl) rfl
theorem q2186 : (Jvm.Cond.sameMethod "java/lang/AbstractStringBuilder" "java/lang/AbstractStringBuilder" "inflate" "()V") ∈ lw_all := lw_g (lw_at lw_m9 195 rfl) rfl
theorem q2187 : (Jvm.Cond.sameMethod "java/lang/AbstractStringBuilder" "java/lang/AbstractStringBuilder" "append" "(I)Ljava/lang/AbstractStringBuilder;") ∈ lw_all := lw_g (lw_at lw_m9 196 rfl) rfl

-- J29.java_lang_StringBuilder.lean.txt
/-! java/lang/StringBuilder -/
set_option maxRecDepth 100000
def RJ29 : String := "java/lang/StringBuilder"
def TJ29 : u_T := fun k => match k with
  | 0 => ("java/lang/AbstractStringBuilder", "value", "[B", false)
  | 1 => ("java/lang/AbstractStringBuilder", "coder", "B", false)
  | 2 => ("java/lang/AbstractStringBuilder", "maybeLatin1", "Z", false)
  | _ => ("java/lang/AbstractStringBuilder", "count", "I", false)
def tyJ29 : Nat → FieldType := fun k => match k with
  | 0 => .array .byte
  | 1 => .byte
  | 2 => .boolean
  | _ => .int
abbrev wsJ290 : List Cond := u_ws RJ29 TJ29 4
theorem nmJ29 : ∀ a, a < 4 → ∀ b, b < 4 → a ≠ b → (TJ29 a).2.1 ≠ (TJ29 b).2.1 := by decide +kernel
theorem tyJ29_ok : ∀ k, k < 4 → parseFieldDescriptor (TJ29 k).2.2.1 = some (tyJ29 k) := by decide +kernel
abbrev cJ29_compareTo : ByteArray := prog_26_method_97_code
def yJ29_compareTo : MethodName := ⟨RJ29, "compareTo", "(Ljava/lang/Object;)I"⟩
def dkwJ29_compareTo_0 : List UInt8 := [42, 43, 192, 0, 24, 182, 1, 90, 172]
abbrev dktJ29_compareTo_0 : List UInt8 := dkwJ29_compareTo_0 ++ []
theorem dksJ29_compareTo_0 : cJ29_compareTo.data.toList.drop 0 = dktJ29_compareTo_0 := by decide +kernel
theorem dJ29_compareTo_0 : decode cJ29_compareTo 0 = .ok (.aload_n 0, 1) := dk_42 (dk_at dksJ29_compareTo_0 0 rfl rfl)
theorem dJ29_compareTo_1 : decode cJ29_compareTo 1 = .ok (.aload_n 1, 1) := dk_43 (dk_at dksJ29_compareTo_0 1 rfl rfl)
theorem dJ29_compareTo_2 : decode cJ29_compareTo 2 = .ok (.checkcast 24, 3) := dk_192 0 24 (dk_at dksJ29_compareTo_0 2 rfl rfl)
theorem dJ29_compareTo_5 : decode cJ29_compareTo 5 = .ok (.invokevirtual 346, 3) := dk_182 1 90 (dk_at dksJ29_compareTo_0 5 rfl rfl)
theorem dJ29_compareTo_8 : decode cJ29_compareTo 8 = .ok (.ireturn, 1) := dk_172 (dk_at dksJ29_compareTo_0 8 rfl rfl)
abbrev cJ29_compareTo_2 : ByteArray := prog_26_method_5_code
def yJ29_compareTo_2 : MethodName := ⟨RJ29, "compareTo", "(Ljava/lang/StringBuilder;)I"⟩
def dkwJ29_compareTo_2_0 : List UInt8 := [42, 43, 183, 0, 13, 172]
abbrev dktJ29_compareTo_2_0 : List UInt8 := dkwJ29_compareTo_2_0 ++ []
theorem dksJ29_compareTo_2_0 : cJ29_compareTo_2.data.toList.drop 0 = dktJ29_compareTo_2_0 := by decide +kernel
theorem dJ29_compareTo_2_0 : decode cJ29_compareTo_2 0 = .ok (.aload_n 0, 1) := dk_42 (dk_at dksJ29_compareTo_2_0 0 rfl rfl)
theorem dJ29_compareTo_2_1 : decode cJ29_compareTo_2 1 = .ok (.aload_n 1, 1) := dk_43 (dk_at dksJ29_compareTo_2_0 1 rfl rfl)
theorem dJ29_compareTo_2_2 : decode cJ29_compareTo_2 2 = .ok (.invokespecial 13, 3) := dk_183 0 13 (dk_at dksJ29_compareTo_2_0 2 rfl rfl)
theorem dJ29_compareTo_2_5 : decode cJ29_compareTo_2 5 = .ok (.ireturn, 1) := dk_172 (dk_at dksJ29_compareTo_2_0 5 rfl rfl)
abbrev cJ29_init : ByteArray := prog_26_method_1_code
def yJ29_init : MethodName := ⟨RJ29, "<init>", "()V"⟩
def dkwJ29_init_0 : List UInt8 := [42, 16, 16, 183, 0, 1, 177]
abbrev dktJ29_init_0 : List UInt8 := dkwJ29_init_0 ++ []
theorem dksJ29_init_0 : cJ29_init.data.toList.drop 0 = dktJ29_init_0 := by decide +kernel
theorem dJ29_init_0 : decode cJ29_init 0 = .ok (.aload_n 0, 1) := dk_42 (dk_at dksJ29_init_0 0 rfl rfl)
theorem dJ29_init_1 : decode cJ29_init 1 = .ok (.bipush 16, 2) := dk_16 16 (dk_at dksJ29_init_0 1 rfl rfl)
theorem dJ29_init_3 : decode cJ29_init 3 = .ok (.invokespecial 1, 3) := dk_183 0 1 (dk_at dksJ29_init_0 3 rfl rfl)
theorem dJ29_init_6 : decode cJ29_init 6 = .ok (.return_, 1) := dk_177 (dk_at dksJ29_init_0 6 rfl rfl)
abbrev cJ29_append : ByteArray := prog_26_method_7_code
def yJ29_append : MethodName := ⟨RJ29, "append", "(Ljava/lang/String;)Ljava/lang/StringBuilder;"⟩
def dkwJ29_append_0 : List UInt8 := [42, 43, 183, 0, 29, 87, 42, 176]
abbrev dktJ29_append_0 : List UInt8 := dkwJ29_append_0 ++ []
theorem dksJ29_append_0 : cJ29_append.data.toList.drop 0 = dktJ29_append_0 := by decide +kernel
theorem dJ29_append_0 : decode cJ29_append 0 = .ok (.aload_n 0, 1) := dk_42 (dk_at dksJ29_append_0 0 rfl rfl)
theorem dJ29_append_1 : decode cJ29_append 1 = .ok (.aload_n 1, 1) := dk_43 (dk_at dksJ29_append_0 1 rfl rfl)
theorem dJ29_append_2 : decode cJ29_append 2 = .ok (.invokespecial 29, 3) := dk_183 0 29 (dk_at dksJ29_append_0 2 rfl rfl)
theorem dJ29_append_5 : decode cJ29_append 5 = .ok (.pop, 1) := dk_87 (dk_at dksJ29_append_0 5 rfl rfl)
theorem dJ29_append_6 : decode cJ29_append 6 = .ok (.aload_n 0, 1) := dk_42 (dk_at dksJ29_append_0 6 rfl rfl)
theorem dJ29_append_7 : decode cJ29_append 7 = .ok (.areturn, 1) := dk_176 (dk_at dksJ29_append_0 7 rfl rfl)
abbrev cJ29_append_2 : ByteArray := prog_26_method_15_code
def yJ29_append_2 : MethodName := ⟨RJ29, "append", "(I)Ljava/lang/StringBuilder;"⟩
def dkwJ29_append_2_0 : List UInt8 := [42, 27, 183, 0, 53, 87, 42, 176]
abbrev dktJ29_append_2_0 : List UInt8 := dkwJ29_append_2_0 ++ []
theorem dksJ29_append_2_0 : cJ29_append_2.data.toList.drop 0 = dktJ29_append_2_0 := by decide +kernel
theorem dJ29_append_2_0 : decode cJ29_append_2 0 = .ok (.aload_n 0, 1) := dk_42 (dk_at dksJ29_append_2_0 0 rfl rfl)
theorem dJ29_append_2_1 : decode cJ29_append_2 1 = .ok (.iload_n 1, 1) := dk_27 (dk_at dksJ29_append_2_0 1 rfl rfl)
theorem dJ29_append_2_2 : decode cJ29_append_2 2 = .ok (.invokespecial 53, 3) := dk_183 0 53 (dk_at dksJ29_append_2_0 2 rfl rfl)
theorem dJ29_append_2_5 : decode cJ29_append_2 5 = .ok (.pop, 1) := dk_87 (dk_at dksJ29_append_2_0 5 rfl rfl)
theorem dJ29_append_2_6 : decode cJ29_append_2 6 = .ok (.aload_n 0, 1) := dk_42 (dk_at dksJ29_append_2_0 6 rfl rfl)
theorem dJ29_append_2_7 : decode cJ29_append_2 7 = .ok (.areturn, 1) := dk_176 (dk_at dksJ29_append_2_0 7 rfl rfl)
abbrev cJ29_toString : ByteArray := prog_26_method_42_code
def yJ29_toString : MethodName := ⟨RJ29, "toString", "()Ljava/lang/String;"⟩
def dkwJ29_toString_0 : List UInt8 := [187, 0, 18, 89, 42, 183, 0, 137, 176]
abbrev dktJ29_toString_0 : List UInt8 := dkwJ29_toString_0 ++ []
theorem dksJ29_toString_0 : cJ29_toString.data.toList.drop 0 = dktJ29_toString_0 := by decide +kernel
theorem dJ29_toString_0 : decode cJ29_toString 0 = .ok (.new 18, 3) := dk_187 0 18 (dk_at dksJ29_toString_0 0 rfl rfl)
theorem dJ29_toString_3 : decode cJ29_toString 3 = .ok (.dup, 1) := dk_89 (dk_at dksJ29_toString_0 3 rfl rfl)
theorem dJ29_toString_4 : decode cJ29_toString 4 = .ok (.aload_n 0, 1) := dk_42 (dk_at dksJ29_toString_0 4 rfl rfl)
theorem dJ29_toString_5 : decode cJ29_toString 5 = .ok (.invokespecial 137, 3) := dk_183 0 137 (dk_at dksJ29_toString_0 5 rfl rfl)
theorem dJ29_toString_8 : decode cJ29_toString 8 = .ok (.areturn, 1) := dk_176 (dk_at dksJ29_toString_0 8 rfl rfl)
abbrev cJ29_length : ByteArray := prog_26_method_93_code
def yJ29_length : MethodName := ⟨RJ29, "length", "()I"⟩
theorem dJ29_length_0 : decode cJ29_length 0 = .ok (.aload_n 0, 1) := by decide +kernel
theorem dJ29_length_1 : decode cJ29_length 1 = .ok (.invokespecial 343, 3) := by decide +kernel
theorem dJ29_length_4 : decode cJ29_length 4 = .ok (.ireturn, 1) := by decide +kernel
theorem q109 : (Jvm.Cond.initialized "java/lang/StringBuilder") ∈ lw_all := lw_g (lw_at lw_m1 38 rfl) rfl
theorem q279 : (Jvm.Cond.selects "java/lang/StringBuilder" ({ cls := "java/lang/Object", name := "getClass", desc := "()Ljava/lang/Class;" } : Jvm.MethodName) ({ cls := "java/lang/Object", name := "getClass", desc := "()Ljava/lang/Class;" } : Jvm.MethodName)) ∈ lw_all := lw_g (lw_at lw_m1 208 rfl) rfl
theorem q578 : (Jvm.Cond.castable "java/lang/StringBuilder" "java/lang/Comparable") ∈ lw_tbl := lw_at lw_m3 27 rfl
theorem q579 : (Jvm.Cond.selects "java/lang/StringBuilder" ({ cls := "java/lang/Comparable", name := "compareTo", desc := "(Ljava/lang/Object;)I" } : Jvm.MethodName) ({ cls := "java/lang/StringBuilder", name := "compareTo", desc := "(Ljava/lang/Object;)I" } : Jvm.MethodName)) ∈ lw_all := lw_g (lw_at lw_m3 28 rfl) rfl
theorem q580 : (Jvm.Cond.unhidden "java/lang/StringBuilder" "compareTo" "(Ljava/lang/Object;)I") ∈ lw_tbl := lw_at lw_m3 29 rfl
theorem q581 : (Jvm.Cond.instanceMethod ({ cls := "java/lang/StringBuilder", name := "compareTo", desc := "(Ljava/lang/Object;)I" } : Jvm.MethodName)) ∈ lw_all := lw_g (lw_at lw_m3 30 rfl) rfl
theorem q582 : (Jvm.Cond.publicMethod ({ cls := "java/lang/StringBuilder", name := "compareTo", desc := "(Ljava/lang/Object;)I" } : Jvm.MethodName)) ∈ lw_tbl := lw_at lw_m3 31 rfl
theorem q583 : (Jvm.Cond.code ({ cls := "java/lang/StringBuilder", name := "compareTo", desc := "(Ljava/lang/Object;)I" } : Jvm.MethodName) prog_26_method_97_code (2 : Nat) (Option.some Jvm.ClassFile.FieldType.int)) ∈ lw_all := lw_g (lw_at lw_m3 32 rfl) rfl
theorem q584 : (Jvm.Cond.classLink "java/lang/StringBuilder" (24 : Nat) "java/lang/StringBuilder") ∈ lw_all := lw_g (lw_at lw_m3 33 rfl) rfl
theorem q585 : (Jvm.Cond.methodLink "java/lang/StringBuilder" (346 : Nat) ({ cls := "java/lang/StringBuilder", name := "compareTo", desc := "(Ljava/lang/StringBuilder;)I" } : Jvm.MethodName)) ∈ lw_all := lw_g (lw_at lw_m3 34 rfl) rfl
theorem q586 : (Jvm.Cond.instanceMethod ({ cls := "java/lang/StringBuilder", name := "compareTo", desc := "(Ljava/lang/StringBuilder;)I" } : Jvm.MethodName)) ∈ lw_all := lw_g (lw_at lw_m3 35 rfl) rfl
theorem q587 : (Jvm.Cond.selects "java/lang/StringBuilder" ({ cls := "java/lang/StringBuilder", name := "compareTo", desc := "(Ljava/lang/StringBuilder;)I" } : Jvm.MethodName) ({ cls := "java/lang/StringBuilder", name := "compareTo", desc := "(Ljava/lang/StringBuilder;)I" } : Jvm.MethodName)) ∈ lw_all := lw_g (lw_at lw_m3 36 rfl) rfl
theorem q588 : (Jvm.Cond.code ({ cls := "java/lang/StringBuilder", name := "compareTo", desc := "(Ljava/lang/StringBuilder;)I" } : Jvm.MethodName) prog_26_method_5_code (2 : Nat) (Option.some Jvm.ClassFile.FieldType.int)) ∈ lw_all := lw_g (lw_at lw_m3 37 rfl) rfl
theorem q589 : (Jvm.Cond.methodLink "java/lang/StringBuilder" (13 : Nat) ({ cls := "java/lang/AbstractStringBuilder", name := "compareTo", desc := "(Ljava/lang/AbstractStringBuilder;)I" } : Jvm.MethodName)) ∈ lw_all := lw_g (lw_at lw_m3 38 rfl) rfl
theorem q590 : (Jvm.Cond.superclass "java/lang/StringBuilder" "java/lang/AbstractStringBuilder") ∈ lw_all := lw_g (lw_at lw_m3 39 rfl) rfl
theorem q596 : (Jvm.Cond.selects "java/lang/StringBuilder" ({ cls := "java/lang/AbstractStringBuilder", name := "isLatin1", desc := "()Z" } : Jvm.MethodName) ({ cls := "java/lang/AbstractStringBuilder", name := "isLatin1", desc := "()Z" } : Jvm.MethodName)) ∈ lw_all := lw_g (lw_at lw_m3 45 rfl) rfl
theorem q631 : (Jvm.Cond.instantiable "java/lang/StringBuilder" (4 : Nat)) ∈ lw_all := lw_g (lw_at lw_m3 80 rfl) rfl
theorem q633 : (Jvm.Cond.instanceMethod ({ cls := "java/lang/StringBuilder", name := "<init>", desc := "()V" } : Jvm.MethodName)) ∈ lw_all := lw_g (lw_at lw_m3 82 rfl) rfl
theorem q634 : (Jvm.Cond.code ({ cls := "java/lang/StringBuilder", name := "<init>", desc := "()V" } : Jvm.MethodName) prog_26_method_1_code (1 : Nat) (Option.none : Option Jvm.ClassFile.FieldType)) ∈ lw_all := lw_g (lw_at lw_m3 83 rfl) rfl
theorem q635 : (Jvm.Cond.methodLink "java/lang/StringBuilder" (1 : Nat) ({ cls := "java/lang/AbstractStringBuilder", name := "<init>", desc := "(I)V" } : Jvm.MethodName)) ∈ lw_all := lw_g (lw_at lw_m3 84 rfl) rfl
theorem q650 : (Jvm.Cond.lays "java/lang/StringBuilder" "java/lang/AbstractStringBuilder" "value" "[B") ∈ lw_all := lw_g (lw_at lw_m3 99 rfl) rfl
theorem q652 : (Jvm.Cond.lays "java/lang/StringBuilder" "java/lang/AbstractStringBuilder" "coder" "B") ∈ lw_all := lw_g (lw_at lw_m3 101 rfl) rfl
theorem q654 : (Jvm.Cond.lays "java/lang/StringBuilder" "java/lang/AbstractStringBuilder" "maybeLatin1" "Z") ∈ lw_all := lw_g (lw_at lw_m3 103 rfl) rfl
theorem q656 : (Jvm.Cond.lays "java/lang/StringBuilder" "java/lang/AbstractStringBuilder" "count" "I") ∈ lw_all := lw_g (lw_at lw_m3 105 rfl) rfl
theorem q662 : (Jvm.Cond.instanceMethod ({ cls := "java/lang/StringBuilder", name := "append", desc := "(Ljava/lang/String;)Ljava/lang/StringBuilder;" } : Jvm.MethodName)) ∈ lw_all := lw_g (lw_at lw_m3 111 rfl) rfl
theorem q663 : (Jvm.Cond.selects "java/lang/StringBuilder" ({ cls := "java/lang/StringBuilder", name := "append", desc := "(Ljava/lang/String;)Ljava/lang/StringBuilder;" } : Jvm.MethodName) ({ cls := "java/lang/StringBuilder", name := "append", desc := "(Ljava/lang/String;)Ljava/lang/StringBuilder;" } : Jvm.MethodName)) ∈ lw_all := lw_g (lw_at lw_m3 112 rfl) rfl
theorem q664 : (Jvm.Cond.code ({ cls := "java/lang/StringBuilder", name := "append", desc := "(Ljava/lang/String;)Ljava/lang/StringBuilder;" } : Jvm.MethodName) prog_26_method_7_code (2 : Nat) (Option.some (Jvm.ClassFile.FieldType.object "java/lang/StringBuilder"))) ∈ lw_all := lw_g (lw_at lw_m3 113 rfl) rfl
theorem q665 : (Jvm.Cond.methodLink "java/lang/StringBuilder" (29 : Nat) ({ cls := "java/lang/AbstractStringBuilder", name := "append", desc := "(Ljava/lang/String;)Ljava/lang/AbstractStringBuilder;" } : Jvm.MethodName)) ∈ lw_all := lw_g (lw_at lw_m3 114 rfl) rfl
theorem q743 : (Jvm.Cond.instanceMethod ({ cls := "java/lang/StringBuilder", name := "append", desc := "(I)Ljava/lang/StringBuilder;" } : Jvm.MethodName)) ∈ lw_all := lw_g (lw_at lw_m3 192 rfl) rfl
theorem q744 : (Jvm.Cond.selects "java/lang/StringBuilder" ({ cls := "java/lang/StringBuilder", name := "append", desc := "(I)Ljava/lang/StringBuilder;" } : Jvm.MethodName) ({ cls := "java/lang/StringBuilder", name := "append", desc := "(I)Ljava/lang/StringBuilder;" } : Jvm.MethodName)) ∈ lw_all := lw_g (lw_at lw_m3 193 rfl) rfl
theorem q745 : (Jvm.Cond.code ({ cls := "java/lang/StringBuilder", name := "append", desc := "(I)Ljava/lang/StringBuilder;" } : Jvm.MethodName) prog_26_method_15_code (2 : Nat) (Option.some (Jvm.ClassFile.FieldType.object "java/lang/StringBuilder"))) ∈ lw_all := lw_g (lw_at lw_m3 194 rfl) rfl
theorem q746 : (Jvm.Cond.methodLink "java/lang/StringBuilder" (53 : Nat) ({ cls := "java/lang/AbstractStringBuilder", name := "append", desc := "(I)Ljava/lang/AbstractStringBuilder;" } : Jvm.MethodName)) ∈ lw_all := lw_g (lw_at lw_m3 195 rfl) rfl
theorem q768 : (Jvm.Cond.instanceMethod ({ cls := "java/lang/StringBuilder", name := "toString", desc := "()Ljava/lang/String;" } : Jvm.MethodName)) ∈ lw_all := lw_g (lw_at lw_m3 217 rfl) rfl
theorem q769 : (Jvm.Cond.selects "java/lang/StringBuilder" ({ cls := "java/lang/StringBuilder", name := "toString", desc := "()Ljava/lang/String;" } : Jvm.MethodName) ({ cls := "java/lang/StringBuilder", name := "toString", desc := "()Ljava/lang/String;" } : Jvm.MethodName)) ∈ lw_all := lw_g (lw_at lw_m3 218 rfl) rfl
theorem q770 : (Jvm.Cond.code ({ cls := "java/lang/StringBuilder", name := "toString", desc := "()Ljava/lang/String;" } : Jvm.MethodName) prog_26_method_42_code (1 : Nat) (Option.some (Jvm.ClassFile.FieldType.object "java/lang/String"))) ∈ lw_all := lw_g (lw_at lw_m3 219 rfl) rfl
theorem q771 : (Jvm.Cond.classLink "java/lang/StringBuilder" (18 : Nat) "java/lang/String") ∈ lw_all := lw_g (lw_at lw_m3 220 rfl) rfl
theorem q773 : (Jvm.Cond.methodLink "java/lang/StringBuilder" (137 : Nat) ({ cls := "java/lang/String", name := "<init>", desc := "(Ljava/lang/StringBuilder;)V" } : Jvm.MethodName)) ∈ lw_all := lw_g (lw_at lw_m3 222 rfl) rfl
theorem q783 : (Jvm.Cond.selects "java/lang/StringBuilder" ({ cls := "java/lang/AbstractStringBuilder", name := "getValue", desc := "()[B" } : Jvm.MethodName) ({ cls := "java/lang/AbstractStringBuilder", name := "getValue", desc := "()[B" } : Jvm.MethodName)) ∈ lw_all := lw_g (lw_at lw_m3 232 rfl) rfl
theorem q788 : (Jvm.Cond.selects "java/lang/StringBuilder" ({ cls := "java/lang/AbstractStringBuilder", name := "length", desc := "()I" } : Jvm.MethodName) ({ cls := "java/lang/StringBuilder", name := "length", desc := "()I" } : Jvm.MethodName)) ∈ lw_all := lw_g (lw_at lw_m3 237 rfl) rfl
theorem q789 : (Jvm.Cond.instanceMethod ({ cls := "java/lang/StringBuilder", name := "length", desc := "()I" } : Jvm.MethodName)) ∈ lw_all := lw_g (lw_at lw_m3 238 rfl) rfl
theorem q790 : (Jvm.Cond.code ({ cls := "java/lang/StringBuilder", name := "length", desc := "()I" } : Jvm.MethodName) prog_26_method_93_code (1 : Nat) (Option.some Jvm.ClassFile.FieldType.int)) ∈ lw_all := lw_g (lw_at lw_m3 239 rfl) rfl
theorem q791 : (Jvm.Cond.methodLink "java/lang/StringBuilder" (343 : Nat) ({ cls := "java/lang/AbstractStringBuilder", name := "length", desc := "()I" } : Jvm.MethodName)) ∈ lw_all := lw_g (lw_at lw_m4 0 rfl) rfl
theorem q2189 : (Jvm.Cond.selects "java/lang/StringBuilder" ({ cls := "java/lang/StringBuilder", name := "length", desc := "()I" } : Jvm.MethodName) ({ cls := "java/lang/StringBuilder", name := "length", desc := "()I" } : Jvm.MethodName)) ∈ lw_all := lw_g (lw_at lw_m9 198 rfl) rfl
theorem q2208 : (Jvm.Cond.castable "java/lang/StringBuilder" "java/lang/Object") ∈ lw_tbl := lw_at lw_m9 217 rfl
theorem in_J29 : ∀ w ∈ wsJ290, w ∈ lw_all := lw_in wsJ290 [650, 652, 654, 656] (by decide +kernel) (by decide +kernel)

-- J30.java_util_BitSet.lean.txt
/-! java/util/BitSet -/
set_option maxRecDepth 100000
def RJ30 : String := "java/util/BitSet"
def TJ30 : u_T := fun k => match k with
  | 0 => ("java/util/BitSet", "words", "[J", false)
  | 1 => ("java/util/BitSet", "wordsInUse", "I", false)
  | _ => ("java/util/BitSet", "sizeIsSticky", "Z", false)
def tyJ30 : Nat → FieldType := fun k => match k with
  | 0 => .array .long
  | 1 => .int
  | _ => .boolean
abbrev wsJ300 : List Cond := u_ws RJ30 TJ30 3
theorem nmJ30 : ∀ a, a < 3 → ∀ b, b < 3 → a ≠ b → (TJ30 a).2.1 ≠ (TJ30 b).2.1 := by decide +kernel
theorem tyJ30_ok : ∀ k, k < 3 → parseFieldDescriptor (TJ30 k).2.2.1 = some (tyJ30 k) := by decide +kernel
abbrev cJ30_init : ByteArray := prog_39_method_4_code
def yJ30_init : MethodName := ⟨RJ30, "<init>", "()V"⟩
def dkwJ30_init_1 : List UInt8 := [181, 0, 24, 177]
abbrev dktJ30_init_1 : List UInt8 := dkwJ30_init_1 ++ []
def dkwJ30_init_0 : List UInt8 := [42, 183, 0, 21, 42, 3, 181, 0, 7, 42, 3, 181, 0, 24, 42, 16, 64, 182, 0, 27, 42, 3]
abbrev dktJ30_init_0 : List UInt8 := dkwJ30_init_0 ++ dktJ30_init_1
theorem dksJ30_init_0 : cJ30_init.data.toList.drop 0 = dktJ30_init_0 := by decide +kernel
theorem dksJ30_init_1 : cJ30_init.data.toList.drop 22 = dktJ30_init_1 := dk_seg dksJ30_init_0 22 rfl rfl
theorem dJ30_init_0 : decode cJ30_init 0 = .ok (.aload_n 0, 1) := dk_42 (dk_at dksJ30_init_0 0 rfl rfl)
theorem dJ30_init_1 : decode cJ30_init 1 = .ok (.invokespecial 21, 3) := dk_183 0 21 (dk_at dksJ30_init_0 1 rfl rfl)
theorem dJ30_init_4 : decode cJ30_init 4 = .ok (.aload_n 0, 1) := dk_42 (dk_at dksJ30_init_0 4 rfl rfl)
theorem dJ30_init_5 : decode cJ30_init 5 = .ok (.iconst 0, 1) := dk_3 (dk_at dksJ30_init_0 5 rfl rfl)
theorem dJ30_init_6 : decode cJ30_init 6 = .ok (.putfield 7, 3) := dk_181 0 7 (dk_at dksJ30_init_0 6 rfl rfl)
theorem dJ30_init_9 : decode cJ30_init 9 = .ok (.aload_n 0, 1) := dk_42 (dk_at dksJ30_init_0 9 rfl rfl)
theorem dJ30_init_10 : decode cJ30_init 10 = .ok (.iconst 0, 1) := dk_3 (dk_at dksJ30_init_0 10 rfl rfl)
theorem dJ30_init_11 : decode cJ30_init 11 = .ok (.putfield 24, 3) := dk_181 0 24 (dk_at dksJ30_init_0 11 rfl rfl)
theorem dJ30_init_14 : decode cJ30_init 14 = .ok (.aload_n 0, 1) := dk_42 (dk_at dksJ30_init_0 14 rfl rfl)
theorem dJ30_init_15 : decode cJ30_init 15 = .ok (.bipush 64, 2) := dk_16 64 (dk_at dksJ30_init_0 15 rfl rfl)
theorem dJ30_init_17 : decode cJ30_init 17 = .ok (.invokevirtual 27, 3) := dk_182 0 27 (dk_at dksJ30_init_0 17 rfl rfl)
theorem dJ30_init_20 : decode cJ30_init 20 = .ok (.aload_n 0, 1) := dk_42 (dk_at dksJ30_init_0 20 rfl rfl)
theorem dJ30_init_21 : decode cJ30_init 21 = .ok (.iconst 0, 1) := dk_3 (dk_at dksJ30_init_0 21 rfl rfl)
theorem dJ30_init_22 : decode cJ30_init 22 = .ok (.putfield 24, 3) := dk_181 0 24 (dk_at dksJ30_init_1 0 rfl rfl)
theorem dJ30_init_25 : decode cJ30_init 25 = .ok (.return_, 1) := dk_177 (dk_at dksJ30_init_1 3 rfl rfl)
abbrev cJ30_initWords : ByteArray := prog_39_method_6_code
def yJ30_initWords : MethodName := ⟨RJ30, "initWords", "(I)V"⟩
def dkwJ30_initWords_0 : List UInt8 := [42, 27, 4, 100, 184, 0, 52, 4, 96, 188, 11, 181, 0, 11, 177]
abbrev dktJ30_initWords_0 : List UInt8 := dkwJ30_initWords_0 ++ []
theorem dksJ30_initWords_0 : cJ30_initWords.data.toList.drop 0 = dktJ30_initWords_0 := by decide +kernel
theorem dJ30_initWords_0 : decode cJ30_initWords 0 = .ok (.aload_n 0, 1) := dk_42 (dk_at dksJ30_initWords_0 0 rfl rfl)
theorem dJ30_initWords_1 : decode cJ30_initWords 1 = .ok (.iload_n 1, 1) := dk_27 (dk_at dksJ30_initWords_0 1 rfl rfl)
theorem dJ30_initWords_2 : decode cJ30_initWords 2 = .ok (.iconst 1, 1) := dk_4 (dk_at dksJ30_initWords_0 2 rfl rfl)
theorem dJ30_initWords_3 : decode cJ30_initWords 3 = .ok (.isub, 1) := dk_100 (dk_at dksJ30_initWords_0 3 rfl rfl)
theorem dJ30_initWords_4 : decode cJ30_initWords 4 = .ok (.invokestatic 52, 3) := dk_184 0 52 (dk_at dksJ30_initWords_0 4 rfl rfl)
theorem dJ30_initWords_7 : decode cJ30_initWords 7 = .ok (.iconst 1, 1) := dk_4 (dk_at dksJ30_initWords_0 7 rfl rfl)
theorem dJ30_initWords_8 : decode cJ30_initWords 8 = .ok (.iadd, 1) := dk_96 (dk_at dksJ30_initWords_0 8 rfl rfl)
theorem dJ30_initWords_9 : decode cJ30_initWords 9 = .ok (.newarray .long, 2) := dk_188_11 (dk_at dksJ30_initWords_0 9 rfl rfl)
theorem dJ30_initWords_11 : decode cJ30_initWords 11 = .ok (.putfield 11, 3) := dk_181 0 11 (dk_at dksJ30_initWords_0 11 rfl rfl)
theorem dJ30_initWords_14 : decode cJ30_initWords 14 = .ok (.return_, 1) := dk_177 (dk_at dksJ30_initWords_0 14 rfl rfl)
abbrev cJ30_wordIndex : ByteArray := prog_39_method_1_code
def yJ30_wordIndex : MethodName := ⟨RJ30, "wordIndex", "(I)I"⟩
def dkwJ30_wordIndex_0 : List UInt8 := [26, 16, 6, 122, 172]
abbrev dktJ30_wordIndex_0 : List UInt8 := dkwJ30_wordIndex_0 ++ []
theorem dksJ30_wordIndex_0 : cJ30_wordIndex.data.toList.drop 0 = dktJ30_wordIndex_0 := by decide +kernel
theorem dJ30_wordIndex_0 : decode cJ30_wordIndex 0 = .ok (.iload_n 0, 1) := dk_26 (dk_at dksJ30_wordIndex_0 0 rfl rfl)
theorem dJ30_wordIndex_1 : decode cJ30_wordIndex 1 = .ok (.bipush 6, 2) := dk_16 6 (dk_at dksJ30_wordIndex_0 1 rfl rfl)
theorem dJ30_wordIndex_3 : decode cJ30_wordIndex 3 = .ok (.ishr, 1) := dk_122 (dk_at dksJ30_wordIndex_0 3 rfl rfl)
theorem dJ30_wordIndex_4 : decode cJ30_wordIndex 4 = .ok (.ireturn, 1) := dk_172 (dk_at dksJ30_wordIndex_0 4 rfl rfl)
abbrev cJ30_set : ByteArray := prog_39_method_20_code
def yJ30_set : MethodName := ⟨RJ30, "set", "(IZ)V"⟩
def dkwJ30_set_0 : List UInt8 := [28, 153, 0, 11, 42, 27, 182, 0, 167, 167, 0, 8, 42, 27, 182, 0, 170, 177]
abbrev dktJ30_set_0 : List UInt8 := dkwJ30_set_0 ++ []
theorem dksJ30_set_0 : cJ30_set.data.toList.drop 0 = dktJ30_set_0 := by decide +kernel
theorem dJ30_set_0 : decode cJ30_set 0 = .ok (.iload_n 2, 1) := dk_28 (dk_at dksJ30_set_0 0 rfl rfl)
theorem dJ30_set_1 : decode cJ30_set 1 = .ok (.ifCond .eq 11, 3) := dk_153 0 11 (dk_at dksJ30_set_0 1 rfl rfl)
theorem dJ30_set_4 : decode cJ30_set 4 = .ok (.aload_n 0, 1) := dk_42 (dk_at dksJ30_set_0 4 rfl rfl)
theorem dJ30_set_5 : decode cJ30_set 5 = .ok (.iload_n 1, 1) := dk_27 (dk_at dksJ30_set_0 5 rfl rfl)
theorem dJ30_set_6 : decode cJ30_set 6 = .ok (.invokevirtual 167, 3) := dk_182 0 167 (dk_at dksJ30_set_0 6 rfl rfl)
theorem dJ30_set_9 : decode cJ30_set 9 = .ok (.goto 8, 3) := dk_167 0 8 (dk_at dksJ30_set_0 9 rfl rfl)
theorem dJ30_set_12 : decode cJ30_set 12 = .ok (.aload_n 0, 1) := dk_42 (dk_at dksJ30_set_0 12 rfl rfl)
theorem dJ30_set_13 : decode cJ30_set 13 = .ok (.iload_n 1, 1) := dk_27 (dk_at dksJ30_set_0 13 rfl rfl)
theorem dJ30_set_14 : decode cJ30_set 14 = .ok (.invokevirtual 170, 3) := dk_182 0 170 (dk_at dksJ30_set_0 14 rfl rfl)
theorem dJ30_set_17 : decode cJ30_set 17 = .ok (.return_, 1) := dk_177 (dk_at dksJ30_set_0 17 rfl rfl)
abbrev cJ30_set_2 : ByteArray := prog_39_method_19_code
def yJ30_set_2 : MethodName := ⟨RJ30, "set", "(I)V"⟩
def dkwJ30_set_2_2 : List UInt8 := [10, 27, 121, 129, 80, 42, 182, 0, 56, 177]
abbrev dktJ30_set_2_2 : List UInt8 := dkwJ30_set_2_2 ++ []
def dkwJ30_set_2_1 : List UInt8 := [182, 0, 45, 183, 0, 146, 191, 27, 184, 0, 52, 61, 42, 28, 182, 0, 155, 42, 180, 0, 11, 28, 92, 47]
abbrev dktJ30_set_2_1 : List UInt8 := dkwJ30_set_2_1 ++ dktJ30_set_2_2
def dkwJ30_set_2_0 : List UInt8 := [27, 156, 0, 30, 187, 0, 142, 89, 187, 0, 33, 89, 183, 0, 35, 18, 153, 182, 0, 38, 27, 182, 0, 42]
abbrev dktJ30_set_2_0 : List UInt8 := dkwJ30_set_2_0 ++ dktJ30_set_2_1
theorem dksJ30_set_2_0 : cJ30_set_2.data.toList.drop 0 = dktJ30_set_2_0 := by decide +kernel
theorem dksJ30_set_2_1 : cJ30_set_2.data.toList.drop 24 = dktJ30_set_2_1 := dk_seg dksJ30_set_2_0 24 rfl rfl
theorem dksJ30_set_2_2 : cJ30_set_2.data.toList.drop 48 = dktJ30_set_2_2 := dk_seg dksJ30_set_2_1 24 rfl rfl
theorem dJ30_set_2_0 : decode cJ30_set_2 0 = .ok (.iload_n 1, 1) := dk_27 (dk_at dksJ30_set_2_0 0 rfl rfl)
theorem dJ30_set_2_1 : decode cJ30_set_2 1 = .ok (.ifCond .ge 30, 3) := dk_156 0 30 (dk_at dksJ30_set_2_0 1 rfl rfl)
theorem dJ30_set_2_4 : decode cJ30_set_2 4 = .ok (.new 142, 3) := dk_187 0 142 (dk_at dksJ30_set_2_0 4 rfl rfl)
theorem dJ30_set_2_7 : decode cJ30_set_2 7 = .ok (.dup, 1) := dk_89 (dk_at dksJ30_set_2_0 7 rfl rfl)
theorem dJ30_set_2_8 : decode cJ30_set_2 8 = .ok (.new 33, 3) := dk_187 0 33 (dk_at dksJ30_set_2_0 8 rfl rfl)
theorem dJ30_set_2_11 : decode cJ30_set_2 11 = .ok (.dup, 1) := dk_89 (dk_at dksJ30_set_2_0 11 rfl rfl)
theorem dJ30_set_2_12 : decode cJ30_set_2 12 = .ok (.invokespecial 35, 3) := dk_183 0 35 (dk_at dksJ30_set_2_0 12 rfl rfl)
theorem dJ30_set_2_15 : decode cJ30_set_2 15 = .ok (.ldc 153, 2) := dk_18 153 (dk_at dksJ30_set_2_0 15 rfl rfl)
theorem dJ30_set_2_17 : decode cJ30_set_2 17 = .ok (.invokevirtual 38, 3) := dk_182 0 38 (dk_at dksJ30_set_2_0 17 rfl rfl)
theorem dJ30_set_2_20 : decode cJ30_set_2 20 = .ok (.iload_n 1, 1) := dk_27 (dk_at dksJ30_set_2_0 20 rfl rfl)
theorem dJ30_set_2_21 : decode cJ30_set_2 21 = .ok (.invokevirtual 42, 3) := dk_182 0 42 (dk_at dksJ30_set_2_0 21 rfl rfl)
theorem dJ30_set_2_24 : decode cJ30_set_2 24 = .ok (.invokevirtual 45, 3) := dk_182 0 45 (dk_at dksJ30_set_2_1 0 rfl rfl)
theorem dJ30_set_2_27 : decode cJ30_set_2 27 = .ok (.invokespecial 146, 3) := dk_183 0 146 (dk_at dksJ30_set_2_1 3 rfl rfl)
theorem dJ30_set_2_30 : decode cJ30_set_2 30 = .ok (.athrow, 1) := dk_191 (dk_at dksJ30_set_2_1 6 rfl rfl)
theorem dJ30_set_2_31 : decode cJ30_set_2 31 = .ok (.iload_n 1, 1) := dk_27 (dk_at dksJ30_set_2_1 7 rfl rfl)
theorem dJ30_set_2_32 : decode cJ30_set_2 32 = .ok (.invokestatic 52, 3) := dk_184 0 52 (dk_at dksJ30_set_2_1 8 rfl rfl)
theorem dJ30_set_2_35 : decode cJ30_set_2 35 = .ok (.istore_n 2, 1) := dk_61 (dk_at dksJ30_set_2_1 11 rfl rfl)
theorem dJ30_set_2_36 : decode cJ30_set_2 36 = .ok (.aload_n 0, 1) := dk_42 (dk_at dksJ30_set_2_1 12 rfl rfl)
theorem dJ30_set_2_37 : decode cJ30_set_2 37 = .ok (.iload_n 2, 1) := dk_28 (dk_at dksJ30_set_2_1 13 rfl rfl)
theorem dJ30_set_2_38 : decode cJ30_set_2 38 = .ok (.invokevirtual 155, 3) := dk_182 0 155 (dk_at dksJ30_set_2_1 14 rfl rfl)
theorem dJ30_set_2_41 : decode cJ30_set_2 41 = .ok (.aload_n 0, 1) := dk_42 (dk_at dksJ30_set_2_1 17 rfl rfl)
theorem dJ30_set_2_42 : decode cJ30_set_2 42 = .ok (.getfield 11, 3) := dk_180 0 11 (dk_at dksJ30_set_2_1 18 rfl rfl)
theorem dJ30_set_2_45 : decode cJ30_set_2 45 = .ok (.iload_n 2, 1) := dk_28 (dk_at dksJ30_set_2_1 21 rfl rfl)
theorem dJ30_set_2_46 : decode cJ30_set_2 46 = .ok (.dup2, 1) := dk_92 (dk_at dksJ30_set_2_1 22 rfl rfl)
theorem dJ30_set_2_47 : decode cJ30_set_2 47 = .ok (.laload, 1) := dk_47 (dk_at dksJ30_set_2_1 23 rfl rfl)
theorem dJ30_set_2_48 : decode cJ30_set_2 48 = .ok (.lconst 1, 1) := dk_10 (dk_at dksJ30_set_2_2 0 rfl rfl)
theorem dJ30_set_2_49 : decode cJ30_set_2 49 = .ok (.iload_n 1, 1) := dk_27 (dk_at dksJ30_set_2_2 1 rfl rfl)
theorem dJ30_set_2_50 : decode cJ30_set_2 50 = .ok (.lshl, 1) := dk_121 (dk_at dksJ30_set_2_2 2 rfl rfl)
theorem dJ30_set_2_51 : decode cJ30_set_2 51 = .ok (.lor, 1) := dk_129 (dk_at dksJ30_set_2_2 3 rfl rfl)
theorem dJ30_set_2_52 : decode cJ30_set_2 52 = .ok (.lastore, 1) := dk_80 (dk_at dksJ30_set_2_2 4 rfl rfl)
theorem dJ30_set_2_53 : decode cJ30_set_2 53 = .ok (.aload_n 0, 1) := dk_42 (dk_at dksJ30_set_2_2 5 rfl rfl)
theorem dJ30_set_2_54 : decode cJ30_set_2 54 = .ok (.invokevirtual 56, 3) := dk_182 0 56 (dk_at dksJ30_set_2_2 6 rfl rfl)
theorem dJ30_set_2_57 : decode cJ30_set_2 57 = .ok (.return_, 1) := dk_177 (dk_at dksJ30_set_2_2 9 rfl rfl)
abbrev cJ30_expandTo : ByteArray := prog_39_method_15_code
def yJ30_expandTo : MethodName := ⟨RJ30, "expandTo", "(I)V"⟩
def dkwJ30_expandTo_0 : List UInt8 := [27, 4, 96, 61, 42, 180, 0, 7, 28, 162, 0, 13, 42, 28, 182, 0, 139, 42, 28, 181, 0, 7, 177]
abbrev dktJ30_expandTo_0 : List UInt8 := dkwJ30_expandTo_0 ++ []
theorem dksJ30_expandTo_0 : cJ30_expandTo.data.toList.drop 0 = dktJ30_expandTo_0 := by decide +kernel
theorem dJ30_expandTo_0 : decode cJ30_expandTo 0 = .ok (.iload_n 1, 1) := dk_27 (dk_at dksJ30_expandTo_0 0 rfl rfl)
theorem dJ30_expandTo_1 : decode cJ30_expandTo 1 = .ok (.iconst 1, 1) := dk_4 (dk_at dksJ30_expandTo_0 1 rfl rfl)
theorem dJ30_expandTo_2 : decode cJ30_expandTo 2 = .ok (.iadd, 1) := dk_96 (dk_at dksJ30_expandTo_0 2 rfl rfl)
theorem dJ30_expandTo_3 : decode cJ30_expandTo 3 = .ok (.istore_n 2, 1) := dk_61 (dk_at dksJ30_expandTo_0 3 rfl rfl)
theorem dJ30_expandTo_4 : decode cJ30_expandTo 4 = .ok (.aload_n 0, 1) := dk_42 (dk_at dksJ30_expandTo_0 4 rfl rfl)
theorem dJ30_expandTo_5 : decode cJ30_expandTo 5 = .ok (.getfield 7, 3) := dk_180 0 7 (dk_at dksJ30_expandTo_0 5 rfl rfl)
theorem dJ30_expandTo_8 : decode cJ30_expandTo 8 = .ok (.iload_n 2, 1) := dk_28 (dk_at dksJ30_expandTo_0 8 rfl rfl)
theorem dJ30_expandTo_9 : decode cJ30_expandTo 9 = .ok (.if_icmp .ge 13, 3) := dk_162 0 13 (dk_at dksJ30_expandTo_0 9 rfl rfl)
theorem dJ30_expandTo_12 : decode cJ30_expandTo 12 = .ok (.aload_n 0, 1) := dk_42 (dk_at dksJ30_expandTo_0 12 rfl rfl)
theorem dJ30_expandTo_13 : decode cJ30_expandTo 13 = .ok (.iload_n 2, 1) := dk_28 (dk_at dksJ30_expandTo_0 13 rfl rfl)
theorem dJ30_expandTo_14 : decode cJ30_expandTo 14 = .ok (.invokevirtual 139, 3) := dk_182 0 139 (dk_at dksJ30_expandTo_0 14 rfl rfl)
theorem dJ30_expandTo_17 : decode cJ30_expandTo 17 = .ok (.aload_n 0, 1) := dk_42 (dk_at dksJ30_expandTo_0 17 rfl rfl)
theorem dJ30_expandTo_18 : decode cJ30_expandTo 18 = .ok (.iload_n 2, 1) := dk_28 (dk_at dksJ30_expandTo_0 18 rfl rfl)
theorem dJ30_expandTo_19 : decode cJ30_expandTo 19 = .ok (.putfield 7, 3) := dk_181 0 7 (dk_at dksJ30_expandTo_0 19 rfl rfl)
theorem dJ30_expandTo_22 : decode cJ30_expandTo 22 = .ok (.return_, 1) := dk_177 (dk_at dksJ30_expandTo_0 22 rfl rfl)
abbrev cJ30_ensureCapacity : ByteArray := prog_39_method_14_code
def yJ30_ensureCapacity : MethodName := ⟨RJ30, "ensureCapacity", "(I)V"⟩
def dkwJ30_ensureCapacity_1 : List UInt8 := [180, 0, 11, 28, 184, 0, 59, 181, 0, 11, 42, 3, 181, 0, 24, 177]
abbrev dktJ30_ensureCapacity_1 : List UInt8 := dkwJ30_ensureCapacity_1 ++ []
def dkwJ30_ensureCapacity_0 : List UInt8 := [42, 180, 0, 11, 190, 27, 162, 0, 32, 5, 42, 180, 0, 11, 190, 104, 27, 184, 0, 133, 61, 42, 42]
abbrev dktJ30_ensureCapacity_0 : List UInt8 := dkwJ30_ensureCapacity_0 ++ dktJ30_ensureCapacity_1
theorem dksJ30_ensureCapacity_0 : cJ30_ensureCapacity.data.toList.drop 0 = dktJ30_ensureCapacity_0 := by decide +kernel
theorem dksJ30_ensureCapacity_1 : cJ30_ensureCapacity.data.toList.drop 23 = dktJ30_ensureCapacity_1 := dk_seg dksJ30_ensureCapacity_0 23 rfl rfl
theorem dJ30_ensureCapacity_0 : decode cJ30_ensureCapacity 0 = .ok (.aload_n 0, 1) := dk_42 (dk_at dksJ30_ensureCapacity_0 0 rfl rfl)
theorem dJ30_ensureCapacity_1 : decode cJ30_ensureCapacity 1 = .ok (.getfield 11, 3) := dk_180 0 11 (dk_at dksJ30_ensureCapacity_0 1 rfl rfl)
theorem dJ30_ensureCapacity_4 : decode cJ30_ensureCapacity 4 = .ok (.arraylength, 1) := dk_190 (dk_at dksJ30_ensureCapacity_0 4 rfl rfl)
theorem dJ30_ensureCapacity_5 : decode cJ30_ensureCapacity 5 = .ok (.iload_n 1, 1) := dk_27 (dk_at dksJ30_ensureCapacity_0 5 rfl rfl)
theorem dJ30_ensureCapacity_6 : decode cJ30_ensureCapacity 6 = .ok (.if_icmp .ge 32, 3) := dk_162 0 32 (dk_at dksJ30_ensureCapacity_0 6 rfl rfl)
theorem dJ30_ensureCapacity_9 : decode cJ30_ensureCapacity 9 = .ok (.iconst 2, 1) := dk_5 (dk_at dksJ30_ensureCapacity_0 9 rfl rfl)
theorem dJ30_ensureCapacity_10 : decode cJ30_ensureCapacity 10 = .ok (.aload_n 0, 1) := dk_42 (dk_at dksJ30_ensureCapacity_0 10 rfl rfl)
theorem dJ30_ensureCapacity_11 : decode cJ30_ensureCapacity 11 = .ok (.getfield 11, 3) := dk_180 0 11 (dk_at dksJ30_ensureCapacity_0 11 rfl rfl)
theorem dJ30_ensureCapacity_14 : decode cJ30_ensureCapacity 14 = .ok (.arraylength, 1) := dk_190 (dk_at dksJ30_ensureCapacity_0 14 rfl rfl)
theorem dJ30_ensureCapacity_15 : decode cJ30_ensureCapacity 15 = .ok (.imul, 1) := dk_104 (dk_at dksJ30_ensureCapacity_0 15 rfl rfl)
theorem dJ30_ensureCapacity_16 : decode cJ30_ensureCapacity 16 = .ok (.iload_n 1, 1) := dk_27 (dk_at dksJ30_ensureCapacity_0 16 rfl rfl)
theorem dJ30_ensureCapacity_17 : decode cJ30_ensureCapacity 17 = .ok (.invokestatic 133, 3) := dk_184 0 133 (dk_at dksJ30_ensureCapacity_0 17 rfl rfl)
theorem dJ30_ensureCapacity_20 : decode cJ30_ensureCapacity 20 = .ok (.istore_n 2, 1) := dk_61 (dk_at dksJ30_ensureCapacity_0 20 rfl rfl)
theorem dJ30_ensureCapacity_21 : decode cJ30_ensureCapacity 21 = .ok (.aload_n 0, 1) := dk_42 (dk_at dksJ30_ensureCapacity_0 21 rfl rfl)
theorem dJ30_ensureCapacity_22 : decode cJ30_ensureCapacity 22 = .ok (.aload_n 0, 1) := dk_42 (dk_at dksJ30_ensureCapacity_0 22 rfl rfl)
theorem dJ30_ensureCapacity_23 : decode cJ30_ensureCapacity 23 = .ok (.getfield 11, 3) := dk_180 0 11 (dk_at dksJ30_ensureCapacity_1 0 rfl rfl)
theorem dJ30_ensureCapacity_26 : decode cJ30_ensureCapacity 26 = .ok (.iload_n 2, 1) := dk_28 (dk_at dksJ30_ensureCapacity_1 3 rfl rfl)
theorem dJ30_ensureCapacity_27 : decode cJ30_ensureCapacity 27 = .ok (.invokestatic 59, 3) := dk_184 0 59 (dk_at dksJ30_ensureCapacity_1 4 rfl rfl)
theorem dJ30_ensureCapacity_30 : decode cJ30_ensureCapacity 30 = .ok (.putfield 11, 3) := dk_181 0 11 (dk_at dksJ30_ensureCapacity_1 7 rfl rfl)
theorem dJ30_ensureCapacity_33 : decode cJ30_ensureCapacity 33 = .ok (.aload_n 0, 1) := dk_42 (dk_at dksJ30_ensureCapacity_1 10 rfl rfl)
theorem dJ30_ensureCapacity_34 : decode cJ30_ensureCapacity 34 = .ok (.iconst 0, 1) := dk_3 (dk_at dksJ30_ensureCapacity_1 11 rfl rfl)
theorem dJ30_ensureCapacity_35 : decode cJ30_ensureCapacity 35 = .ok (.putfield 24, 3) := dk_181 0 24 (dk_at dksJ30_ensureCapacity_1 12 rfl rfl)
theorem dJ30_ensureCapacity_38 : decode cJ30_ensureCapacity 38 = .ok (.return_, 1) := dk_177 (dk_at dksJ30_ensureCapacity_1 15 rfl rfl)
abbrev cJ30_checkInvariants : ByteArray := prog_39_method_2_code
def yJ30_checkInvariants : MethodName := ⟨RJ30, "checkInvariants", "()V"⟩
def dkwJ30_checkInvariants_4 : List UInt8 := [180, 0, 7, 47, 9, 148, 153, 0, 11, 187, 0, 15, 89, 183, 0, 17, 191, 177]
abbrev dktJ30_checkInvariants_4 : List UInt8 := dkwJ30_checkInvariants_4 ++ []
def dkwJ30_checkInvariants_3 : List UInt8 := [178, 0, 3, 154, 0, 37, 42, 180, 0, 7, 42, 180, 0, 11, 190, 159, 0, 25, 42, 180, 0, 11, 42]
abbrev dktJ30_checkInvariants_3 : List UInt8 := dkwJ30_checkInvariants_3 ++ dktJ30_checkInvariants_4
def dkwJ30_checkInvariants_2 : List UInt8 := [155, 0, 15, 42, 180, 0, 7, 42, 180, 0, 11, 190, 164, 0, 11, 187, 0, 15, 89, 183, 0, 17, 191]
abbrev dktJ30_checkInvariants_2 : List UInt8 := dkwJ30_checkInvariants_2 ++ dktJ30_checkInvariants_3
def dkwJ30_checkInvariants_1 : List UInt8 := [9, 148, 154, 0, 11, 187, 0, 15, 89, 183, 0, 17, 191, 178, 0, 3, 154, 0, 30, 42, 180, 0, 7]
abbrev dktJ30_checkInvariants_1 : List UInt8 := dkwJ30_checkInvariants_1 ++ dktJ30_checkInvariants_2
def dkwJ30_checkInvariants_0 : List UInt8 := [178, 0, 3, 154, 0, 34, 42, 180, 0, 7, 153, 0, 27, 42, 180, 0, 11, 42, 180, 0, 7, 4, 100, 47]
abbrev dktJ30_checkInvariants_0 : List UInt8 := dkwJ30_checkInvariants_0 ++ dktJ30_checkInvariants_1
theorem dksJ30_checkInvariants_0 : cJ30_checkInvariants.data.toList.drop 0 = dktJ30_checkInvariants_0 := by decide +kernel
theorem dksJ30_checkInvariants_1 : cJ30_checkInvariants.data.toList.drop 24 = dktJ30_checkInvariants_1 := dk_seg dksJ30_checkInvariants_0 24 rfl rfl
theorem dksJ30_checkInvariants_2 : cJ30_checkInvariants.data.toList.drop 47 = dktJ30_checkInvariants_2 := dk_seg dksJ30_checkInvariants_1 23 rfl rfl
theorem dksJ30_checkInvariants_3 : cJ30_checkInvariants.data.toList.drop 70 = dktJ30_checkInvariants_3 := dk_seg dksJ30_checkInvariants_2 23 rfl rfl
theorem dksJ30_checkInvariants_4 : cJ30_checkInvariants.data.toList.drop 93 = dktJ30_checkInvariants_4 := dk_seg dksJ30_checkInvariants_3 23 rfl rfl
theorem dJ30_checkInvariants_0 : decode cJ30_checkInvariants 0 = .ok (.getstatic 3, 3) := dk_178 0 3 (dk_at dksJ30_checkInvariants_0 0 rfl rfl)
theorem dJ30_checkInvariants_3 : decode cJ30_checkInvariants 3 = .ok (.ifCond .ne 34, 3) := dk_154 0 34 (dk_at dksJ30_checkInvariants_0 3 rfl rfl)
theorem dJ30_checkInvariants_6 : decode cJ30_checkInvariants 6 = .ok (.aload_n 0, 1) := dk_42 (dk_at dksJ30_checkInvariants_0 6 rfl rfl)
theorem dJ30_checkInvariants_7 : decode cJ30_checkInvariants 7 = .ok (.getfield 7, 3) := dk_180 0 7 (dk_at dksJ30_checkInvariants_0 7 rfl rfl)
theorem dJ30_checkInvariants_10 : decode cJ30_checkInvariants 10 = .ok (.ifCond .eq 27, 3) := dk_153 0 27 (dk_at dksJ30_checkInvariants_0 10 rfl rfl)
theorem dJ30_checkInvariants_13 : decode cJ30_checkInvariants 13 = .ok (.aload_n 0, 1) := dk_42 (dk_at dksJ30_checkInvariants_0 13 rfl rfl)
theorem dJ30_checkInvariants_14 : decode cJ30_checkInvariants 14 = .ok (.getfield 11, 3) := dk_180 0 11 (dk_at dksJ30_checkInvariants_0 14 rfl rfl)
theorem dJ30_checkInvariants_17 : decode cJ30_checkInvariants 17 = .ok (.aload_n 0, 1) := dk_42 (dk_at dksJ30_checkInvariants_0 17 rfl rfl)
theorem dJ30_checkInvariants_18 : decode cJ30_checkInvariants 18 = .ok (.getfield 7, 3) := dk_180 0 7 (dk_at dksJ30_checkInvariants_0 18 rfl rfl)
theorem dJ30_checkInvariants_21 : decode cJ30_checkInvariants 21 = .ok (.iconst 1, 1) := dk_4 (dk_at dksJ30_checkInvariants_0 21 rfl rfl)
theorem dJ30_checkInvariants_22 : decode cJ30_checkInvariants 22 = .ok (.isub, 1) := dk_100 (dk_at dksJ30_checkInvariants_0 22 rfl rfl)
theorem dJ30_checkInvariants_23 : decode cJ30_checkInvariants 23 = .ok (.laload, 1) := dk_47 (dk_at dksJ30_checkInvariants_0 23 rfl rfl)
theorem dJ30_checkInvariants_24 : decode cJ30_checkInvariants 24 = .ok (.lconst 0, 1) := dk_9 (dk_at dksJ30_checkInvariants_1 0 rfl rfl)
theorem dJ30_checkInvariants_25 : decode cJ30_checkInvariants 25 = .ok (.lcmp, 1) := dk_148 (dk_at dksJ30_checkInvariants_1 1 rfl rfl)
theorem dJ30_checkInvariants_26 : decode cJ30_checkInvariants 26 = .ok (.ifCond .ne 11, 3) := dk_154 0 11 (dk_at dksJ30_checkInvariants_1 2 rfl rfl)
theorem dJ30_checkInvariants_29 : decode cJ30_checkInvariants 29 = .ok (.new 15, 3) := dk_187 0 15 (dk_at dksJ30_checkInvariants_1 5 rfl rfl)
theorem dJ30_checkInvariants_32 : decode cJ30_checkInvariants 32 = .ok (.dup, 1) := dk_89 (dk_at dksJ30_checkInvariants_1 8 rfl rfl)
theorem dJ30_checkInvariants_33 : decode cJ30_checkInvariants 33 = .ok (.invokespecial 17, 3) := dk_183 0 17 (dk_at dksJ30_checkInvariants_1 9 rfl rfl)
theorem dJ30_checkInvariants_36 : decode cJ30_checkInvariants 36 = .ok (.athrow, 1) := dk_191 (dk_at dksJ30_checkInvariants_1 12 rfl rfl)
theorem dJ30_checkInvariants_37 : decode cJ30_checkInvariants 37 = .ok (.getstatic 3, 3) := dk_178 0 3 (dk_at dksJ30_checkInvariants_1 13 rfl rfl)
theorem dJ30_checkInvariants_40 : decode cJ30_checkInvariants 40 = .ok (.ifCond .ne 30, 3) := dk_154 0 30 (dk_at dksJ30_checkInvariants_1 16 rfl rfl)
theorem dJ30_checkInvariants_43 : decode cJ30_checkInvariants 43 = .ok (.aload_n 0, 1) := dk_42 (dk_at dksJ30_checkInvariants_1 19 rfl rfl)
theorem dJ30_checkInvariants_44 : decode cJ30_checkInvariants 44 = .ok (.getfield 7, 3) := dk_180 0 7 (dk_at dksJ30_checkInvariants_1 20 rfl rfl)
theorem dJ30_checkInvariants_47 : decode cJ30_checkInvariants 47 = .ok (.ifCond .lt 15, 3) := dk_155 0 15 (dk_at dksJ30_checkInvariants_2 0 rfl rfl)
theorem dJ30_checkInvariants_50 : decode cJ30_checkInvariants 50 = .ok (.aload_n 0, 1) := dk_42 (dk_at dksJ30_checkInvariants_2 3 rfl rfl)
theorem dJ30_checkInvariants_51 : decode cJ30_checkInvariants 51 = .ok (.getfield 7, 3) := dk_180 0 7 (dk_at dksJ30_checkInvariants_2 4 rfl rfl)
theorem dJ30_checkInvariants_54 : decode cJ30_checkInvariants 54 = .ok (.aload_n 0, 1) := dk_42 (dk_at dksJ30_checkInvariants_2 7 rfl rfl)
theorem dJ30_checkInvariants_55 : decode cJ30_checkInvariants 55 = .ok (.getfield 11, 3) := dk_180 0 11 (dk_at dksJ30_checkInvariants_2 8 rfl rfl)
theorem dJ30_checkInvariants_58 : decode cJ30_checkInvariants 58 = .ok (.arraylength, 1) := dk_190 (dk_at dksJ30_checkInvariants_2 11 rfl rfl)
theorem dJ30_checkInvariants_59 : decode cJ30_checkInvariants 59 = .ok (.if_icmp .le 11, 3) := dk_164 0 11 (dk_at dksJ30_checkInvariants_2 12 rfl rfl)
theorem dJ30_checkInvariants_62 : decode cJ30_checkInvariants 62 = .ok (.new 15, 3) := dk_187 0 15 (dk_at dksJ30_checkInvariants_2 15 rfl rfl)
theorem dJ30_checkInvariants_65 : decode cJ30_checkInvariants 65 = .ok (.dup, 1) := dk_89 (dk_at dksJ30_checkInvariants_2 18 rfl rfl)
theorem dJ30_checkInvariants_66 : decode cJ30_checkInvariants 66 = .ok (.invokespecial 17, 3) := dk_183 0 17 (dk_at dksJ30_checkInvariants_2 19 rfl rfl)
theorem dJ30_checkInvariants_69 : decode cJ30_checkInvariants 69 = .ok (.athrow, 1) := dk_191 (dk_at dksJ30_checkInvariants_2 22 rfl rfl)
theorem dJ30_checkInvariants_70 : decode cJ30_checkInvariants 70 = .ok (.getstatic 3, 3) := dk_178 0 3 (dk_at dksJ30_checkInvariants_3 0 rfl rfl)
theorem dJ30_checkInvariants_73 : decode cJ30_checkInvariants 73 = .ok (.ifCond .ne 37, 3) := dk_154 0 37 (dk_at dksJ30_checkInvariants_3 3 rfl rfl)
theorem dJ30_checkInvariants_76 : decode cJ30_checkInvariants 76 = .ok (.aload_n 0, 1) := dk_42 (dk_at dksJ30_checkInvariants_3 6 rfl rfl)
theorem dJ30_checkInvariants_77 : decode cJ30_checkInvariants 77 = .ok (.getfield 7, 3) := dk_180 0 7 (dk_at dksJ30_checkInvariants_3 7 rfl rfl)
theorem dJ30_checkInvariants_80 : decode cJ30_checkInvariants 80 = .ok (.aload_n 0, 1) := dk_42 (dk_at dksJ30_checkInvariants_3 10 rfl rfl)
theorem dJ30_checkInvariants_81 : decode cJ30_checkInvariants 81 = .ok (.getfield 11, 3) := dk_180 0 11 (dk_at dksJ30_checkInvariants_3 11 rfl rfl)
theorem dJ30_checkInvariants_84 : decode cJ30_checkInvariants 84 = .ok (.arraylength, 1) := dk_190 (dk_at dksJ30_checkInvariants_3 14 rfl rfl)
theorem dJ30_checkInvariants_85 : decode cJ30_checkInvariants 85 = .ok (.if_icmp .eq 25, 3) := dk_159 0 25 (dk_at dksJ30_checkInvariants_3 15 rfl rfl)
theorem dJ30_checkInvariants_88 : decode cJ30_checkInvariants 88 = .ok (.aload_n 0, 1) := dk_42 (dk_at dksJ30_checkInvariants_3 18 rfl rfl)
theorem dJ30_checkInvariants_89 : decode cJ30_checkInvariants 89 = .ok (.getfield 11, 3) := dk_180 0 11 (dk_at dksJ30_checkInvariants_3 19 rfl rfl)
theorem dJ30_checkInvariants_92 : decode cJ30_checkInvariants 92 = .ok (.aload_n 0, 1) := dk_42 (dk_at dksJ30_checkInvariants_3 22 rfl rfl)
theorem dJ30_checkInvariants_93 : decode cJ30_checkInvariants 93 = .ok (.getfield 7, 3) := dk_180 0 7 (dk_at dksJ30_checkInvariants_4 0 rfl rfl)
theorem dJ30_checkInvariants_96 : decode cJ30_checkInvariants 96 = .ok (.laload, 1) := dk_47 (dk_at dksJ30_checkInvariants_4 3 rfl rfl)
theorem dJ30_checkInvariants_97 : decode cJ30_checkInvariants 97 = .ok (.lconst 0, 1) := dk_9 (dk_at dksJ30_checkInvariants_4 4 rfl rfl)
theorem dJ30_checkInvariants_98 : decode cJ30_checkInvariants 98 = .ok (.lcmp, 1) := dk_148 (dk_at dksJ30_checkInvariants_4 5 rfl rfl)
theorem dJ30_checkInvariants_99 : decode cJ30_checkInvariants 99 = .ok (.ifCond .eq 11, 3) := dk_153 0 11 (dk_at dksJ30_checkInvariants_4 6 rfl rfl)
theorem dJ30_checkInvariants_102 : decode cJ30_checkInvariants 102 = .ok (.new 15, 3) := dk_187 0 15 (dk_at dksJ30_checkInvariants_4 9 rfl rfl)
theorem dJ30_checkInvariants_105 : decode cJ30_checkInvariants 105 = .ok (.dup, 1) := dk_89 (dk_at dksJ30_checkInvariants_4 12 rfl rfl)
theorem dJ30_checkInvariants_106 : decode cJ30_checkInvariants 106 = .ok (.invokespecial 17, 3) := dk_183 0 17 (dk_at dksJ30_checkInvariants_4 13 rfl rfl)
theorem dJ30_checkInvariants_109 : decode cJ30_checkInvariants 109 = .ok (.athrow, 1) := dk_191 (dk_at dksJ30_checkInvariants_4 16 rfl rfl)
theorem dJ30_checkInvariants_110 : decode cJ30_checkInvariants 110 = .ok (.return_, 1) := dk_177 (dk_at dksJ30_checkInvariants_4 17 rfl rfl)
abbrev cJ30_clear : ByteArray := prog_39_method_23_code
def yJ30_clear : MethodName := ⟨RJ30, "clear", "(I)V"⟩
def dkwJ30_clear_2 : List UInt8 := [180, 0, 11, 28, 92, 47, 10, 27, 121, 20, 0, 165, 131, 127, 80, 42, 182, 0, 158, 42, 182, 0, 56, 177]
abbrev dktJ30_clear_2 : List UInt8 := dkwJ30_clear_2 ++ []
def dkwJ30_clear_1 : List UInt8 := [182, 0, 45, 183, 0, 146, 191, 27, 184, 0, 52, 61, 28, 42, 180, 0, 7, 161, 0, 4, 177, 42]
abbrev dktJ30_clear_1 : List UInt8 := dkwJ30_clear_1 ++ dktJ30_clear_2
def dkwJ30_clear_0 : List UInt8 := [27, 156, 0, 30, 187, 0, 142, 89, 187, 0, 33, 89, 183, 0, 35, 18, 153, 182, 0, 38, 27, 182, 0, 42]
abbrev dktJ30_clear_0 : List UInt8 := dkwJ30_clear_0 ++ dktJ30_clear_1
theorem dksJ30_clear_0 : cJ30_clear.data.toList.drop 0 = dktJ30_clear_0 := by decide +kernel
theorem dksJ30_clear_1 : cJ30_clear.data.toList.drop 24 = dktJ30_clear_1 := dk_seg dksJ30_clear_0 24 rfl rfl
theorem dksJ30_clear_2 : cJ30_clear.data.toList.drop 46 = dktJ30_clear_2 := dk_seg dksJ30_clear_1 22 rfl rfl
theorem dJ30_clear_0 : decode cJ30_clear 0 = .ok (.iload_n 1, 1) := dk_27 (dk_at dksJ30_clear_0 0 rfl rfl)
theorem dJ30_clear_1 : decode cJ30_clear 1 = .ok (.ifCond .ge 30, 3) := dk_156 0 30 (dk_at dksJ30_clear_0 1 rfl rfl)
theorem dJ30_clear_4 : decode cJ30_clear 4 = .ok (.new 142, 3) := dk_187 0 142 (dk_at dksJ30_clear_0 4 rfl rfl)
theorem dJ30_clear_7 : decode cJ30_clear 7 = .ok (.dup, 1) := dk_89 (dk_at dksJ30_clear_0 7 rfl rfl)
theorem dJ30_clear_8 : decode cJ30_clear 8 = .ok (.new 33, 3) := dk_187 0 33 (dk_at dksJ30_clear_0 8 rfl rfl)
theorem dJ30_clear_11 : decode cJ30_clear 11 = .ok (.dup, 1) := dk_89 (dk_at dksJ30_clear_0 11 rfl rfl)
theorem dJ30_clear_12 : decode cJ30_clear 12 = .ok (.invokespecial 35, 3) := dk_183 0 35 (dk_at dksJ30_clear_0 12 rfl rfl)
theorem dJ30_clear_15 : decode cJ30_clear 15 = .ok (.ldc 153, 2) := dk_18 153 (dk_at dksJ30_clear_0 15 rfl rfl)
theorem dJ30_clear_17 : decode cJ30_clear 17 = .ok (.invokevirtual 38, 3) := dk_182 0 38 (dk_at dksJ30_clear_0 17 rfl rfl)
theorem dJ30_clear_20 : decode cJ30_clear 20 = .ok (.iload_n 1, 1) := dk_27 (dk_at dksJ30_clear_0 20 rfl rfl)
theorem dJ30_clear_21 : decode cJ30_clear 21 = .ok (.invokevirtual 42, 3) := dk_182 0 42 (dk_at dksJ30_clear_0 21 rfl rfl)
theorem dJ30_clear_24 : decode cJ30_clear 24 = .ok (.invokevirtual 45, 3) := dk_182 0 45 (dk_at dksJ30_clear_1 0 rfl rfl)
theorem dJ30_clear_27 : decode cJ30_clear 27 = .ok (.invokespecial 146, 3) := dk_183 0 146 (dk_at dksJ30_clear_1 3 rfl rfl)
theorem dJ30_clear_30 : decode cJ30_clear 30 = .ok (.athrow, 1) := dk_191 (dk_at dksJ30_clear_1 6 rfl rfl)
theorem dJ30_clear_31 : decode cJ30_clear 31 = .ok (.iload_n 1, 1) := dk_27 (dk_at dksJ30_clear_1 7 rfl rfl)
theorem dJ30_clear_32 : decode cJ30_clear 32 = .ok (.invokestatic 52, 3) := dk_184 0 52 (dk_at dksJ30_clear_1 8 rfl rfl)
theorem dJ30_clear_35 : decode cJ30_clear 35 = .ok (.istore_n 2, 1) := dk_61 (dk_at dksJ30_clear_1 11 rfl rfl)
theorem dJ30_clear_36 : decode cJ30_clear 36 = .ok (.iload_n 2, 1) := dk_28 (dk_at dksJ30_clear_1 12 rfl rfl)
theorem dJ30_clear_37 : decode cJ30_clear 37 = .ok (.aload_n 0, 1) := dk_42 (dk_at dksJ30_clear_1 13 rfl rfl)
theorem dJ30_clear_38 : decode cJ30_clear 38 = .ok (.getfield 7, 3) := dk_180 0 7 (dk_at dksJ30_clear_1 14 rfl rfl)
theorem dJ30_clear_41 : decode cJ30_clear 41 = .ok (.if_icmp .lt 4, 3) := dk_161 0 4 (dk_at dksJ30_clear_1 17 rfl rfl)
theorem dJ30_clear_44 : decode cJ30_clear 44 = .ok (.return_, 1) := dk_177 (dk_at dksJ30_clear_1 20 rfl rfl)
theorem dJ30_clear_45 : decode cJ30_clear 45 = .ok (.aload_n 0, 1) := dk_42 (dk_at dksJ30_clear_1 21 rfl rfl)
theorem dJ30_clear_46 : decode cJ30_clear 46 = .ok (.getfield 11, 3) := dk_180 0 11 (dk_at dksJ30_clear_2 0 rfl rfl)
theorem dJ30_clear_49 : decode cJ30_clear 49 = .ok (.iload_n 2, 1) := dk_28 (dk_at dksJ30_clear_2 3 rfl rfl)
theorem dJ30_clear_50 : decode cJ30_clear 50 = .ok (.dup2, 1) := dk_92 (dk_at dksJ30_clear_2 4 rfl rfl)
theorem dJ30_clear_51 : decode cJ30_clear 51 = .ok (.laload, 1) := dk_47 (dk_at dksJ30_clear_2 5 rfl rfl)
theorem dJ30_clear_52 : decode cJ30_clear 52 = .ok (.lconst 1, 1) := dk_10 (dk_at dksJ30_clear_2 6 rfl rfl)
theorem dJ30_clear_53 : decode cJ30_clear 53 = .ok (.iload_n 1, 1) := dk_27 (dk_at dksJ30_clear_2 7 rfl rfl)
theorem dJ30_clear_54 : decode cJ30_clear 54 = .ok (.lshl, 1) := dk_121 (dk_at dksJ30_clear_2 8 rfl rfl)
theorem dJ30_clear_55 : decode cJ30_clear 55 = .ok (.ldc2_w 165, 3) := dk_20 0 165 (dk_at dksJ30_clear_2 9 rfl rfl)
theorem dJ30_clear_58 : decode cJ30_clear 58 = .ok (.lxor, 1) := dk_131 (dk_at dksJ30_clear_2 12 rfl rfl)
theorem dJ30_clear_59 : decode cJ30_clear 59 = .ok (.land, 1) := dk_127 (dk_at dksJ30_clear_2 13 rfl rfl)
theorem dJ30_clear_60 : decode cJ30_clear 60 = .ok (.lastore, 1) := dk_80 (dk_at dksJ30_clear_2 14 rfl rfl)
theorem dJ30_clear_61 : decode cJ30_clear 61 = .ok (.aload_n 0, 1) := dk_42 (dk_at dksJ30_clear_2 15 rfl rfl)
theorem dJ30_clear_62 : decode cJ30_clear 62 = .ok (.invokevirtual 158, 3) := dk_182 0 158 (dk_at dksJ30_clear_2 16 rfl rfl)
theorem dJ30_clear_65 : decode cJ30_clear 65 = .ok (.aload_n 0, 1) := dk_42 (dk_at dksJ30_clear_2 19 rfl rfl)
theorem dJ30_clear_66 : decode cJ30_clear 66 = .ok (.invokevirtual 56, 3) := dk_182 0 56 (dk_at dksJ30_clear_2 20 rfl rfl)
theorem dJ30_clear_69 : decode cJ30_clear 69 = .ok (.return_, 1) := dk_177 (dk_at dksJ30_clear_2 23 rfl rfl)
abbrev cJ30_recalculateWordsInUse : ByteArray := prog_39_method_3_code
def yJ30_recalculateWordsInUse : MethodName := ⟨RJ30, "recalculateWordsInUse", "()V"⟩
def dkwJ30_recalculateWordsInUse_1 : List UInt8 := [167, 0, 9, 132, 1, 255, 167, 255, 235, 42, 27, 4, 96, 181, 0, 7, 177]
abbrev dktJ30_recalculateWordsInUse_1 : List UInt8 := dkwJ30_recalculateWordsInUse_1 ++ []
def dkwJ30_recalculateWordsInUse_0 : List UInt8 := [42, 180, 0, 7, 4, 100, 60, 27, 155, 0, 23, 42, 180, 0, 11, 27, 47, 9, 148, 153, 0, 6]
abbrev dktJ30_recalculateWordsInUse_0 : List UInt8 := dkwJ30_recalculateWordsInUse_0 ++ dktJ30_recalculateWordsInUse_1
theorem dksJ30_recalculateWordsInUse_0 : cJ30_recalculateWordsInUse.data.toList.drop 0 = dktJ30_recalculateWordsInUse_0 := by decide +kernel
theorem dksJ30_recalculateWordsInUse_1 : cJ30_recalculateWordsInUse.data.toList.drop 22 = dktJ30_recalculateWordsInUse_1 := dk_seg dksJ30_recalculateWordsInUse_0 22 rfl rfl
theorem dJ30_recalculateWordsInUse_0 : decode cJ30_recalculateWordsInUse 0 = .ok (.aload_n 0, 1) := dk_42 (dk_at dksJ30_recalculateWordsInUse_0 0 rfl rfl)
theorem dJ30_recalculateWordsInUse_1 : decode cJ30_recalculateWordsInUse 1 = .ok (.getfield 7, 3) := dk_180 0 7 (dk_at dksJ30_recalculateWordsInUse_0 1 rfl rfl)
theorem dJ30_recalculateWordsInUse_4 : decode cJ30_recalculateWordsInUse 4 = .ok (.iconst 1, 1) := dk_4 (dk_at dksJ30_recalculateWordsInUse_0 4 rfl rfl)
theorem dJ30_recalculateWordsInUse_5 : decode cJ30_recalculateWordsInUse 5 = .ok (.isub, 1) := dk_100 (dk_at dksJ30_recalculateWordsInUse_0 5 rfl rfl)
theorem dJ30_recalculateWordsInUse_6 : decode cJ30_recalculateWordsInUse 6 = .ok (.istore_n 1, 1) := dk_60 (dk_at dksJ30_recalculateWordsInUse_0 6 rfl rfl)
theorem dJ30_recalculateWordsInUse_7 : decode cJ30_recalculateWordsInUse 7 = .ok (.iload_n 1, 1) := dk_27 (dk_at dksJ30_recalculateWordsInUse_0 7 rfl rfl)
theorem dJ30_recalculateWordsInUse_8 : decode cJ30_recalculateWordsInUse 8 = .ok (.ifCond .lt 23, 3) := dk_155 0 23 (dk_at dksJ30_recalculateWordsInUse_0 8 rfl rfl)
theorem dJ30_recalculateWordsInUse_11 : decode cJ30_recalculateWordsInUse 11 = .ok (.aload_n 0, 1) := dk_42 (dk_at dksJ30_recalculateWordsInUse_0 11 rfl rfl)
theorem dJ30_recalculateWordsInUse_12 : decode cJ30_recalculateWordsInUse 12 = .ok (.getfield 11, 3) := dk_180 0 11 (dk_at dksJ30_recalculateWordsInUse_0 12 rfl rfl)
theorem dJ30_recalculateWordsInUse_15 : decode cJ30_recalculateWordsInUse 15 = .ok (.iload_n 1, 1) := dk_27 (dk_at dksJ30_recalculateWordsInUse_0 15 rfl rfl)
theorem dJ30_recalculateWordsInUse_16 : decode cJ30_recalculateWordsInUse 16 = .ok (.laload, 1) := dk_47 (dk_at dksJ30_recalculateWordsInUse_0 16 rfl rfl)
theorem dJ30_recalculateWordsInUse_17 : decode cJ30_recalculateWordsInUse 17 = .ok (.lconst 0, 1) := dk_9 (dk_at dksJ30_recalculateWordsInUse_0 17 rfl rfl)
theorem dJ30_recalculateWordsInUse_18 : decode cJ30_recalculateWordsInUse 18 = .ok (.lcmp, 1) := dk_148 (dk_at dksJ30_recalculateWordsInUse_0 18 rfl rfl)
theorem dJ30_recalculateWordsInUse_19 : decode cJ30_recalculateWordsInUse 19 = .ok (.ifCond .eq 6, 3) := dk_153 0 6 (dk_at dksJ30_recalculateWordsInUse_0 19 rfl rfl)
theorem dJ30_recalculateWordsInUse_22 : decode cJ30_recalculateWordsInUse 22 = .ok (.goto 9, 3) := dk_167 0 9 (dk_at dksJ30_recalculateWordsInUse_1 0 rfl rfl)
theorem dJ30_recalculateWordsInUse_25 : decode cJ30_recalculateWordsInUse 25 = .ok (.iinc 1 (-1), 3) := dk_132 1 255 (dk_at dksJ30_recalculateWordsInUse_1 3 rfl rfl)
theorem dJ30_recalculateWordsInUse_28 : decode cJ30_recalculateWordsInUse 28 = .ok (.goto (-21), 3) := dk_167 255 235 (dk_at dksJ30_recalculateWordsInUse_1 6 rfl rfl)
theorem dJ30_recalculateWordsInUse_31 : decode cJ30_recalculateWordsInUse 31 = .ok (.aload_n 0, 1) := dk_42 (dk_at dksJ30_recalculateWordsInUse_1 9 rfl rfl)
theorem dJ30_recalculateWordsInUse_32 : decode cJ30_recalculateWordsInUse 32 = .ok (.iload_n 1, 1) := dk_27 (dk_at dksJ30_recalculateWordsInUse_1 10 rfl rfl)
theorem dJ30_recalculateWordsInUse_33 : decode cJ30_recalculateWordsInUse 33 = .ok (.iconst 1, 1) := dk_4 (dk_at dksJ30_recalculateWordsInUse_1 11 rfl rfl)
theorem dJ30_recalculateWordsInUse_34 : decode cJ30_recalculateWordsInUse 34 = .ok (.iadd, 1) := dk_96 (dk_at dksJ30_recalculateWordsInUse_1 12 rfl rfl)
theorem dJ30_recalculateWordsInUse_35 : decode cJ30_recalculateWordsInUse 35 = .ok (.putfield 7, 3) := dk_181 0 7 (dk_at dksJ30_recalculateWordsInUse_1 13 rfl rfl)
theorem dJ30_recalculateWordsInUse_38 : decode cJ30_recalculateWordsInUse 38 = .ok (.return_, 1) := dk_177 (dk_at dksJ30_recalculateWordsInUse_1 16 rfl rfl)
abbrev cJ30_nextSetBit : ByteArray := prog_39_method_28_code
def yJ30_nextSetBit : MethodName := ⟨RJ30, "nextSetBit", "(I)I"⟩
def dkwJ30_nextSetBit_4 : List UInt8 := [28, 47, 66, 167, 255, 220]
abbrev dktJ30_nextSetBit_4 : List UInt8 := dkwJ30_nextSetBit_4 ++ []
def dkwJ30_nextSetBit_3 : List UInt8 := [104, 33, 184, 0, 182, 96, 172, 132, 2, 1, 28, 42, 180, 0, 7, 160, 0, 5, 2, 172, 42, 180, 0, 11]
abbrev dktJ30_nextSetBit_3 : List UInt8 := dkwJ30_nextSetBit_3 ++ dktJ30_nextSetBit_4
def dkwJ30_nextSetBit_2 : List UInt8 := [2, 172, 42, 180, 0, 11, 28, 47, 20, 0, 165, 27, 121, 127, 66, 33, 9, 148, 153, 0, 13, 28, 16, 64]
abbrev dktJ30_nextSetBit_2 : List UInt8 := dkwJ30_nextSetBit_2 ++ dktJ30_nextSetBit_3
def dkwJ30_nextSetBit_1 : List UInt8 := [182, 0, 45, 183, 0, 146, 191, 42, 182, 0, 56, 27, 184, 0, 52, 61, 28, 42, 180, 0, 7, 161, 0, 5]
abbrev dktJ30_nextSetBit_1 : List UInt8 := dkwJ30_nextSetBit_1 ++ dktJ30_nextSetBit_2
def dkwJ30_nextSetBit_0 : List UInt8 := [27, 156, 0, 30, 187, 0, 142, 89, 187, 0, 33, 89, 183, 0, 35, 18, 144, 182, 0, 38, 27, 182, 0, 42]
abbrev dktJ30_nextSetBit_0 : List UInt8 := dkwJ30_nextSetBit_0 ++ dktJ30_nextSetBit_1
theorem dksJ30_nextSetBit_0 : cJ30_nextSetBit.data.toList.drop 0 = dktJ30_nextSetBit_0 := by decide +kernel
theorem dksJ30_nextSetBit_1 : cJ30_nextSetBit.data.toList.drop 24 = dktJ30_nextSetBit_1 := dk_seg dksJ30_nextSetBit_0 24 rfl rfl
theorem dksJ30_nextSetBit_2 : cJ30_nextSetBit.data.toList.drop 48 = dktJ30_nextSetBit_2 := dk_seg dksJ30_nextSetBit_1 24 rfl rfl
theorem dksJ30_nextSetBit_3 : cJ30_nextSetBit.data.toList.drop 72 = dktJ30_nextSetBit_3 := dk_seg dksJ30_nextSetBit_2 24 rfl rfl
theorem dksJ30_nextSetBit_4 : cJ30_nextSetBit.data.toList.drop 96 = dktJ30_nextSetBit_4 := dk_seg dksJ30_nextSetBit_3 24 rfl rfl
theorem dJ30_nextSetBit_0 : decode cJ30_nextSetBit 0 = .ok (.iload_n 1, 1) := dk_27 (dk_at dksJ30_nextSetBit_0 0 rfl rfl)
theorem dJ30_nextSetBit_1 : decode cJ30_nextSetBit 1 = .ok (.ifCond .ge 30, 3) := dk_156 0 30 (dk_at dksJ30_nextSetBit_0 1 rfl rfl)
theorem dJ30_nextSetBit_4 : decode cJ30_nextSetBit 4 = .ok (.new 142, 3) := dk_187 0 142 (dk_at dksJ30_nextSetBit_0 4 rfl rfl)
theorem dJ30_nextSetBit_7 : decode cJ30_nextSetBit 7 = .ok (.dup, 1) := dk_89 (dk_at dksJ30_nextSetBit_0 7 rfl rfl)
theorem dJ30_nextSetBit_8 : decode cJ30_nextSetBit 8 = .ok (.new 33, 3) := dk_187 0 33 (dk_at dksJ30_nextSetBit_0 8 rfl rfl)
theorem dJ30_nextSetBit_11 : decode cJ30_nextSetBit 11 = .ok (.dup, 1) := dk_89 (dk_at dksJ30_nextSetBit_0 11 rfl rfl)
theorem dJ30_nextSetBit_12 : decode cJ30_nextSetBit 12 = .ok (.invokespecial 35, 3) := dk_183 0 35 (dk_at dksJ30_nextSetBit_0 12 rfl rfl)
theorem dJ30_nextSetBit_15 : decode cJ30_nextSetBit 15 = .ok (.ldc 144, 2) := dk_18 144 (dk_at dksJ30_nextSetBit_0 15 rfl rfl)
theorem dJ30_nextSetBit_17 : decode cJ30_nextSetBit 17 = .ok (.invokevirtual 38, 3) := dk_182 0 38 (dk_at dksJ30_nextSetBit_0 17 rfl rfl)
theorem dJ30_nextSetBit_20 : decode cJ30_nextSetBit 20 = .ok (.iload_n 1, 1) := dk_27 (dk_at dksJ30_nextSetBit_0 20 rfl rfl)
theorem dJ30_nextSetBit_21 : decode cJ30_nextSetBit 21 = .ok (.invokevirtual 42, 3) := dk_182 0 42 (dk_at dksJ30_nextSetBit_0 21 rfl rfl)
theorem dJ30_nextSetBit_24 : decode cJ30_nextSetBit 24 = .ok (.invokevirtual 45, 3) := dk_182 0 45 (dk_at dksJ30_nextSetBit_1 0 rfl rfl)
theorem dJ30_nextSetBit_27 : decode cJ30_nextSetBit 27 = .ok (.invokespecial 146, 3) := dk_183 0 146 (dk_at dksJ30_nextSetBit_1 3 rfl rfl)
theorem dJ30_nextSetBit_30 : decode cJ30_nextSetBit 30 = .ok (.athrow, 1) := dk_191 (dk_at dksJ30_nextSetBit_1 6 rfl rfl)
theorem dJ30_nextSetBit_31 : decode cJ30_nextSetBit 31 = .ok (.aload_n 0, 1) := dk_42 (dk_at dksJ30_nextSetBit_1 7 rfl rfl)
theorem dJ30_nextSetBit_32 : decode cJ30_nextSetBit 32 = .ok (.invokevirtual 56, 3) := dk_182 0 56 (dk_at dksJ30_nextSetBit_1 8 rfl rfl)
theorem dJ30_nextSetBit_35 : decode cJ30_nextSetBit 35 = .ok (.iload_n 1, 1) := dk_27 (dk_at dksJ30_nextSetBit_1 11 rfl rfl)
theorem dJ30_nextSetBit_36 : decode cJ30_nextSetBit 36 = .ok (.invokestatic 52, 3) := dk_184 0 52 (dk_at dksJ30_nextSetBit_1 12 rfl rfl)
theorem dJ30_nextSetBit_39 : decode cJ30_nextSetBit 39 = .ok (.istore_n 2, 1) := dk_61 (dk_at dksJ30_nextSetBit_1 15 rfl rfl)
theorem dJ30_nextSetBit_40 : decode cJ30_nextSetBit 40 = .ok (.iload_n 2, 1) := dk_28 (dk_at dksJ30_nextSetBit_1 16 rfl rfl)
theorem dJ30_nextSetBit_41 : decode cJ30_nextSetBit 41 = .ok (.aload_n 0, 1) := dk_42 (dk_at dksJ30_nextSetBit_1 17 rfl rfl)
theorem dJ30_nextSetBit_42 : decode cJ30_nextSetBit 42 = .ok (.getfield 7, 3) := dk_180 0 7 (dk_at dksJ30_nextSetBit_1 18 rfl rfl)
theorem dJ30_nextSetBit_45 : decode cJ30_nextSetBit 45 = .ok (.if_icmp .lt 5, 3) := dk_161 0 5 (dk_at dksJ30_nextSetBit_1 21 rfl rfl)
theorem dJ30_nextSetBit_48 : decode cJ30_nextSetBit 48 = .ok (.iconst (-1), 1) := dk_2 (dk_at dksJ30_nextSetBit_2 0 rfl rfl)
theorem dJ30_nextSetBit_49 : decode cJ30_nextSetBit 49 = .ok (.ireturn, 1) := dk_172 (dk_at dksJ30_nextSetBit_2 1 rfl rfl)
theorem dJ30_nextSetBit_50 : decode cJ30_nextSetBit 50 = .ok (.aload_n 0, 1) := dk_42 (dk_at dksJ30_nextSetBit_2 2 rfl rfl)
theorem dJ30_nextSetBit_51 : decode cJ30_nextSetBit 51 = .ok (.getfield 11, 3) := dk_180 0 11 (dk_at dksJ30_nextSetBit_2 3 rfl rfl)
theorem dJ30_nextSetBit_54 : decode cJ30_nextSetBit 54 = .ok (.iload_n 2, 1) := dk_28 (dk_at dksJ30_nextSetBit_2 6 rfl rfl)
theorem dJ30_nextSetBit_55 : decode cJ30_nextSetBit 55 = .ok (.laload, 1) := dk_47 (dk_at dksJ30_nextSetBit_2 7 rfl rfl)
theorem dJ30_nextSetBit_56 : decode cJ30_nextSetBit 56 = .ok (.ldc2_w 165, 3) := dk_20 0 165 (dk_at dksJ30_nextSetBit_2 8 rfl rfl)
theorem dJ30_nextSetBit_59 : decode cJ30_nextSetBit 59 = .ok (.iload_n 1, 1) := dk_27 (dk_at dksJ30_nextSetBit_2 11 rfl rfl)
theorem dJ30_nextSetBit_60 : decode cJ30_nextSetBit 60 = .ok (.lshl, 1) := dk_121 (dk_at dksJ30_nextSetBit_2 12 rfl rfl)
theorem dJ30_nextSetBit_61 : decode cJ30_nextSetBit 61 = .ok (.land, 1) := dk_127 (dk_at dksJ30_nextSetBit_2 13 rfl rfl)
theorem dJ30_nextSetBit_62 : decode cJ30_nextSetBit 62 = .ok (.lstore_n 3, 1) := dk_66 (dk_at dksJ30_nextSetBit_2 14 rfl rfl)
theorem dJ30_nextSetBit_63 : decode cJ30_nextSetBit 63 = .ok (.lload_n 3, 1) := dk_33 (dk_at dksJ30_nextSetBit_2 15 rfl rfl)
theorem dJ30_nextSetBit_64 : decode cJ30_nextSetBit 64 = .ok (.lconst 0, 1) := dk_9 (dk_at dksJ30_nextSetBit_2 16 rfl rfl)
theorem dJ30_nextSetBit_65 : decode cJ30_nextSetBit 65 = .ok (.lcmp, 1) := dk_148 (dk_at dksJ30_nextSetBit_2 17 rfl rfl)
theorem dJ30_nextSetBit_66 : decode cJ30_nextSetBit 66 = .ok (.ifCond .eq 13, 3) := dk_153 0 13 (dk_at dksJ30_nextSetBit_2 18 rfl rfl)
theorem dJ30_nextSetBit_69 : decode cJ30_nextSetBit 69 = .ok (.iload_n 2, 1) := dk_28 (dk_at dksJ30_nextSetBit_2 21 rfl rfl)
theorem dJ30_nextSetBit_70 : decode cJ30_nextSetBit 70 = .ok (.bipush 64, 2) := dk_16 64 (dk_at dksJ30_nextSetBit_2 22 rfl rfl)
theorem dJ30_nextSetBit_72 : decode cJ30_nextSetBit 72 = .ok (.imul, 1) := dk_104 (dk_at dksJ30_nextSetBit_3 0 rfl rfl)
theorem dJ30_nextSetBit_73 : decode cJ30_nextSetBit 73 = .ok (.lload_n 3, 1) := dk_33 (dk_at dksJ30_nextSetBit_3 1 rfl rfl)
theorem dJ30_nextSetBit_74 : decode cJ30_nextSetBit 74 = .ok (.invokestatic 182, 3) := dk_184 0 182 (dk_at dksJ30_nextSetBit_3 2 rfl rfl)
theorem dJ30_nextSetBit_77 : decode cJ30_nextSetBit 77 = .ok (.iadd, 1) := dk_96 (dk_at dksJ30_nextSetBit_3 5 rfl rfl)
theorem dJ30_nextSetBit_78 : decode cJ30_nextSetBit 78 = .ok (.ireturn, 1) := dk_172 (dk_at dksJ30_nextSetBit_3 6 rfl rfl)
theorem dJ30_nextSetBit_79 : decode cJ30_nextSetBit 79 = .ok (.iinc 2 1, 3) := dk_132 2 1 (dk_at dksJ30_nextSetBit_3 7 rfl rfl)
theorem dJ30_nextSetBit_82 : decode cJ30_nextSetBit 82 = .ok (.iload_n 2, 1) := dk_28 (dk_at dksJ30_nextSetBit_3 10 rfl rfl)
theorem dJ30_nextSetBit_83 : decode cJ30_nextSetBit 83 = .ok (.aload_n 0, 1) := dk_42 (dk_at dksJ30_nextSetBit_3 11 rfl rfl)
theorem dJ30_nextSetBit_84 : decode cJ30_nextSetBit 84 = .ok (.getfield 7, 3) := dk_180 0 7 (dk_at dksJ30_nextSetBit_3 12 rfl rfl)
theorem dJ30_nextSetBit_87 : decode cJ30_nextSetBit 87 = .ok (.if_icmp .ne 5, 3) := dk_160 0 5 (dk_at dksJ30_nextSetBit_3 15 rfl rfl)
theorem dJ30_nextSetBit_90 : decode cJ30_nextSetBit 90 = .ok (.iconst (-1), 1) := dk_2 (dk_at dksJ30_nextSetBit_3 18 rfl rfl)
theorem dJ30_nextSetBit_91 : decode cJ30_nextSetBit 91 = .ok (.ireturn, 1) := dk_172 (dk_at dksJ30_nextSetBit_3 19 rfl rfl)
theorem dJ30_nextSetBit_92 : decode cJ30_nextSetBit 92 = .ok (.aload_n 0, 1) := dk_42 (dk_at dksJ30_nextSetBit_3 20 rfl rfl)
theorem dJ30_nextSetBit_93 : decode cJ30_nextSetBit 93 = .ok (.getfield 11, 3) := dk_180 0 11 (dk_at dksJ30_nextSetBit_3 21 rfl rfl)
theorem dJ30_nextSetBit_96 : decode cJ30_nextSetBit 96 = .ok (.iload_n 2, 1) := dk_28 (dk_at dksJ30_nextSetBit_4 0 rfl rfl)
theorem dJ30_nextSetBit_97 : decode cJ30_nextSetBit 97 = .ok (.laload, 1) := dk_47 (dk_at dksJ30_nextSetBit_4 1 rfl rfl)
theorem dJ30_nextSetBit_98 : decode cJ30_nextSetBit 98 = .ok (.lstore_n 3, 1) := dk_66 (dk_at dksJ30_nextSetBit_4 2 rfl rfl)
theorem dJ30_nextSetBit_99 : decode cJ30_nextSetBit 99 = .ok (.goto (-36), 3) := dk_167 255 220 (dk_at dksJ30_nextSetBit_4 3 rfl rfl)
abbrev cJ30_get : ByteArray := prog_39_method_26_code
def yJ30_get : MethodName := ⟨RJ30, "get", "(I)Z"⟩
def dkwJ30_get_2 : List UInt8 := [42, 180, 0, 11, 28, 47, 10, 27, 121, 127, 9, 148, 153, 0, 7, 4, 167, 0, 4, 3, 172]
abbrev dktJ30_get_2 : List UInt8 := dkwJ30_get_2 ++ []
def dkwJ30_get_1 : List UInt8 := [182, 0, 45, 183, 0, 146, 191, 42, 182, 0, 56, 27, 184, 0, 52, 61, 28, 42, 180, 0, 7, 162, 0, 22]
abbrev dktJ30_get_1 : List UInt8 := dkwJ30_get_1 ++ dktJ30_get_2
def dkwJ30_get_0 : List UInt8 := [27, 156, 0, 30, 187, 0, 142, 89, 187, 0, 33, 89, 183, 0, 35, 18, 153, 182, 0, 38, 27, 182, 0, 42]
abbrev dktJ30_get_0 : List UInt8 := dkwJ30_get_0 ++ dktJ30_get_1
theorem dksJ30_get_0 : cJ30_get.data.toList.drop 0 = dktJ30_get_0 := by decide +kernel
theorem dksJ30_get_1 : cJ30_get.data.toList.drop 24 = dktJ30_get_1 := dk_seg dksJ30_get_0 24 rfl rfl
theorem dksJ30_get_2 : cJ30_get.data.toList.drop 48 = dktJ30_get_2 := dk_seg dksJ30_get_1 24 rfl rfl
theorem dJ30_get_0 : decode cJ30_get 0 = .ok (.iload_n 1, 1) := dk_27 (dk_at dksJ30_get_0 0 rfl rfl)
theorem dJ30_get_1 : decode cJ30_get 1 = .ok (.ifCond .ge 30, 3) := dk_156 0 30 (dk_at dksJ30_get_0 1 rfl rfl)
theorem dJ30_get_4 : decode cJ30_get 4 = .ok (.new 142, 3) := dk_187 0 142 (dk_at dksJ30_get_0 4 rfl rfl)
theorem dJ30_get_7 : decode cJ30_get 7 = .ok (.dup, 1) := dk_89 (dk_at dksJ30_get_0 7 rfl rfl)
theorem dJ30_get_8 : decode cJ30_get 8 = .ok (.new 33, 3) := dk_187 0 33 (dk_at dksJ30_get_0 8 rfl rfl)
theorem dJ30_get_11 : decode cJ30_get 11 = .ok (.dup, 1) := dk_89 (dk_at dksJ30_get_0 11 rfl rfl)
theorem dJ30_get_12 : decode cJ30_get 12 = .ok (.invokespecial 35, 3) := dk_183 0 35 (dk_at dksJ30_get_0 12 rfl rfl)
theorem dJ30_get_15 : decode cJ30_get 15 = .ok (.ldc 153, 2) := dk_18 153 (dk_at dksJ30_get_0 15 rfl rfl)
theorem dJ30_get_17 : decode cJ30_get 17 = .ok (.invokevirtual 38, 3) := dk_182 0 38 (dk_at dksJ30_get_0 17 rfl rfl)
theorem dJ30_get_20 : decode cJ30_get 20 = .ok (.iload_n 1, 1) := dk_27 (dk_at dksJ30_get_0 20 rfl rfl)
theorem dJ30_get_21 : decode cJ30_get 21 = .ok (.invokevirtual 42, 3) := dk_182 0 42 (dk_at dksJ30_get_0 21 rfl rfl)
theorem dJ30_get_24 : decode cJ30_get 24 = .ok (.invokevirtual 45, 3) := dk_182 0 45 (dk_at dksJ30_get_1 0 rfl rfl)
theorem dJ30_get_27 : decode cJ30_get 27 = .ok (.invokespecial 146, 3) := dk_183 0 146 (dk_at dksJ30_get_1 3 rfl rfl)
theorem dJ30_get_30 : decode cJ30_get 30 = .ok (.athrow, 1) := dk_191 (dk_at dksJ30_get_1 6 rfl rfl)
theorem dJ30_get_31 : decode cJ30_get 31 = .ok (.aload_n 0, 1) := dk_42 (dk_at dksJ30_get_1 7 rfl rfl)
theorem dJ30_get_32 : decode cJ30_get 32 = .ok (.invokevirtual 56, 3) := dk_182 0 56 (dk_at dksJ30_get_1 8 rfl rfl)
theorem dJ30_get_35 : decode cJ30_get 35 = .ok (.iload_n 1, 1) := dk_27 (dk_at dksJ30_get_1 11 rfl rfl)
theorem dJ30_get_36 : decode cJ30_get 36 = .ok (.invokestatic 52, 3) := dk_184 0 52 (dk_at dksJ30_get_1 12 rfl rfl)
theorem dJ30_get_39 : decode cJ30_get 39 = .ok (.istore_n 2, 1) := dk_61 (dk_at dksJ30_get_1 15 rfl rfl)
theorem dJ30_get_40 : decode cJ30_get 40 = .ok (.iload_n 2, 1) := dk_28 (dk_at dksJ30_get_1 16 rfl rfl)
theorem dJ30_get_41 : decode cJ30_get 41 = .ok (.aload_n 0, 1) := dk_42 (dk_at dksJ30_get_1 17 rfl rfl)
theorem dJ30_get_42 : decode cJ30_get 42 = .ok (.getfield 7, 3) := dk_180 0 7 (dk_at dksJ30_get_1 18 rfl rfl)
theorem dJ30_get_45 : decode cJ30_get 45 = .ok (.if_icmp .ge 22, 3) := dk_162 0 22 (dk_at dksJ30_get_1 21 rfl rfl)
theorem dJ30_get_48 : decode cJ30_get 48 = .ok (.aload_n 0, 1) := dk_42 (dk_at dksJ30_get_2 0 rfl rfl)
theorem dJ30_get_49 : decode cJ30_get 49 = .ok (.getfield 11, 3) := dk_180 0 11 (dk_at dksJ30_get_2 1 rfl rfl)
theorem dJ30_get_52 : decode cJ30_get 52 = .ok (.iload_n 2, 1) := dk_28 (dk_at dksJ30_get_2 4 rfl rfl)
theorem dJ30_get_53 : decode cJ30_get 53 = .ok (.laload, 1) := dk_47 (dk_at dksJ30_get_2 5 rfl rfl)
theorem dJ30_get_54 : decode cJ30_get 54 = .ok (.lconst 1, 1) := dk_10 (dk_at dksJ30_get_2 6 rfl rfl)
theorem dJ30_get_55 : decode cJ30_get 55 = .ok (.iload_n 1, 1) := dk_27 (dk_at dksJ30_get_2 7 rfl rfl)
theorem dJ30_get_56 : decode cJ30_get 56 = .ok (.lshl, 1) := dk_121 (dk_at dksJ30_get_2 8 rfl rfl)
theorem dJ30_get_57 : decode cJ30_get 57 = .ok (.land, 1) := dk_127 (dk_at dksJ30_get_2 9 rfl rfl)
theorem dJ30_get_58 : decode cJ30_get 58 = .ok (.lconst 0, 1) := dk_9 (dk_at dksJ30_get_2 10 rfl rfl)
theorem dJ30_get_59 : decode cJ30_get 59 = .ok (.lcmp, 1) := dk_148 (dk_at dksJ30_get_2 11 rfl rfl)
theorem dJ30_get_60 : decode cJ30_get 60 = .ok (.ifCond .eq 7, 3) := dk_153 0 7 (dk_at dksJ30_get_2 12 rfl rfl)
theorem dJ30_get_63 : decode cJ30_get 63 = .ok (.iconst 1, 1) := dk_4 (dk_at dksJ30_get_2 15 rfl rfl)
theorem dJ30_get_64 : decode cJ30_get 64 = .ok (.goto 4, 3) := dk_167 0 4 (dk_at dksJ30_get_2 16 rfl rfl)
theorem dJ30_get_67 : decode cJ30_get 67 = .ok (.iconst 0, 1) := dk_3 (dk_at dksJ30_get_2 19 rfl rfl)
theorem dJ30_get_68 : decode cJ30_get 68 = .ok (.ireturn, 1) := dk_172 (dk_at dksJ30_get_2 20 rfl rfl)
abbrev cJ30_or : ByteArray := prog_39_method_37_code
def yJ30_or : MethodName := ⟨RJ30, "or", "(Ljava/util/BitSet;)V"⟩
def dkwJ30_or_4 : List UInt8 := [180, 0, 7, 28, 100, 184, 0, 199, 42, 182, 0, 56, 177]
abbrev dktJ30_or_4 : List UInt8 := dkwJ30_or_4 ++ []
def dkwJ30_or_3 : List UInt8 := [167, 255, 233, 28, 43, 180, 0, 7, 162, 0, 22, 43, 180, 0, 11, 28, 42, 180, 0, 11, 28, 42]
abbrev dktJ30_or_3 : List UInt8 := dkwJ30_or_3 ++ dktJ30_or_4
def dkwJ30_or_2 : List UInt8 := [29, 28, 162, 0, 24, 42, 180, 0, 11, 29, 92, 47, 43, 180, 0, 11, 29, 47, 129, 80, 132, 3, 1]
abbrev dktJ30_or_2 : List UInt8 := dkwJ30_or_2 ++ dktJ30_or_3
def dkwJ30_or_1 : List UInt8 := [180, 0, 7, 162, 0, 19, 42, 43, 180, 0, 7, 182, 0, 139, 42, 43, 180, 0, 7, 181, 0, 7, 3, 62]
abbrev dktJ30_or_1 : List UInt8 := dkwJ30_or_1 ++ dktJ30_or_2
def dkwJ30_or_0 : List UInt8 := [42, 43, 166, 0, 4, 177, 42, 180, 0, 7, 43, 180, 0, 7, 184, 0, 193, 61, 42, 180, 0, 7, 43]
abbrev dktJ30_or_0 : List UInt8 := dkwJ30_or_0 ++ dktJ30_or_1
theorem dksJ30_or_0 : cJ30_or.data.toList.drop 0 = dktJ30_or_0 := by decide +kernel
theorem dksJ30_or_1 : cJ30_or.data.toList.drop 23 = dktJ30_or_1 := dk_seg dksJ30_or_0 23 rfl rfl
theorem dksJ30_or_2 : cJ30_or.data.toList.drop 47 = dktJ30_or_2 := dk_seg dksJ30_or_1 24 rfl rfl
theorem dksJ30_or_3 : cJ30_or.data.toList.drop 70 = dktJ30_or_3 := dk_seg dksJ30_or_2 23 rfl rfl
theorem dksJ30_or_4 : cJ30_or.data.toList.drop 92 = dktJ30_or_4 := dk_seg dksJ30_or_3 22 rfl rfl
theorem dJ30_or_0 : decode cJ30_or 0 = .ok (.aload_n 0, 1) := dk_42 (dk_at dksJ30_or_0 0 rfl rfl)
theorem dJ30_or_1 : decode cJ30_or 1 = .ok (.aload_n 1, 1) := dk_43 (dk_at dksJ30_or_0 1 rfl rfl)
theorem dJ30_or_2 : decode cJ30_or 2 = .ok (.if_acmp .ne 4, 3) := dk_166 0 4 (dk_at dksJ30_or_0 2 rfl rfl)
theorem dJ30_or_5 : decode cJ30_or 5 = .ok (.return_, 1) := dk_177 (dk_at dksJ30_or_0 5 rfl rfl)
theorem dJ30_or_6 : decode cJ30_or 6 = .ok (.aload_n 0, 1) := dk_42 (dk_at dksJ30_or_0 6 rfl rfl)
theorem dJ30_or_7 : decode cJ30_or 7 = .ok (.getfield 7, 3) := dk_180 0 7 (dk_at dksJ30_or_0 7 rfl rfl)
theorem dJ30_or_10 : decode cJ30_or 10 = .ok (.aload_n 1, 1) := dk_43 (dk_at dksJ30_or_0 10 rfl rfl)
theorem dJ30_or_11 : decode cJ30_or 11 = .ok (.getfield 7, 3) := dk_180 0 7 (dk_at dksJ30_or_0 11 rfl rfl)
theorem dJ30_or_14 : decode cJ30_or 14 = .ok (.invokestatic 193, 3) := dk_184 0 193 (dk_at dksJ30_or_0 14 rfl rfl)
theorem dJ30_or_17 : decode cJ30_or 17 = .ok (.istore_n 2, 1) := dk_61 (dk_at dksJ30_or_0 17 rfl rfl)
theorem dJ30_or_18 : decode cJ30_or 18 = .ok (.aload_n 0, 1) := dk_42 (dk_at dksJ30_or_0 18 rfl rfl)
theorem dJ30_or_19 : decode cJ30_or 19 = .ok (.getfield 7, 3) := dk_180 0 7 (dk_at dksJ30_or_0 19 rfl rfl)
theorem dJ30_or_22 : decode cJ30_or 22 = .ok (.aload_n 1, 1) := dk_43 (dk_at dksJ30_or_0 22 rfl rfl)
theorem dJ30_or_23 : decode cJ30_or 23 = .ok (.getfield 7, 3) := dk_180 0 7 (dk_at dksJ30_or_1 0 rfl rfl)
theorem dJ30_or_26 : decode cJ30_or 26 = .ok (.if_icmp .ge 19, 3) := dk_162 0 19 (dk_at dksJ30_or_1 3 rfl rfl)
theorem dJ30_or_29 : decode cJ30_or 29 = .ok (.aload_n 0, 1) := dk_42 (dk_at dksJ30_or_1 6 rfl rfl)
theorem dJ30_or_30 : decode cJ30_or 30 = .ok (.aload_n 1, 1) := dk_43 (dk_at dksJ30_or_1 7 rfl rfl)
theorem dJ30_or_31 : decode cJ30_or 31 = .ok (.getfield 7, 3) := dk_180 0 7 (dk_at dksJ30_or_1 8 rfl rfl)
theorem dJ30_or_34 : decode cJ30_or 34 = .ok (.invokevirtual 139, 3) := dk_182 0 139 (dk_at dksJ30_or_1 11 rfl rfl)
theorem dJ30_or_37 : decode cJ30_or 37 = .ok (.aload_n 0, 1) := dk_42 (dk_at dksJ30_or_1 14 rfl rfl)
theorem dJ30_or_38 : decode cJ30_or 38 = .ok (.aload_n 1, 1) := dk_43 (dk_at dksJ30_or_1 15 rfl rfl)
theorem dJ30_or_39 : decode cJ30_or 39 = .ok (.getfield 7, 3) := dk_180 0 7 (dk_at dksJ30_or_1 16 rfl rfl)
theorem dJ30_or_42 : decode cJ30_or 42 = .ok (.putfield 7, 3) := dk_181 0 7 (dk_at dksJ30_or_1 19 rfl rfl)
theorem dJ30_or_45 : decode cJ30_or 45 = .ok (.iconst 0, 1) := dk_3 (dk_at dksJ30_or_1 22 rfl rfl)
theorem dJ30_or_46 : decode cJ30_or 46 = .ok (.istore_n 3, 1) := dk_62 (dk_at dksJ30_or_1 23 rfl rfl)
theorem dJ30_or_47 : decode cJ30_or 47 = .ok (.iload_n 3, 1) := dk_29 (dk_at dksJ30_or_2 0 rfl rfl)
theorem dJ30_or_48 : decode cJ30_or 48 = .ok (.iload_n 2, 1) := dk_28 (dk_at dksJ30_or_2 1 rfl rfl)
theorem dJ30_or_49 : decode cJ30_or 49 = .ok (.if_icmp .ge 24, 3) := dk_162 0 24 (dk_at dksJ30_or_2 2 rfl rfl)
theorem dJ30_or_52 : decode cJ30_or 52 = .ok (.aload_n 0, 1) := dk_42 (dk_at dksJ30_or_2 5 rfl rfl)
theorem dJ30_or_53 : decode cJ30_or 53 = .ok (.getfield 11, 3) := dk_180 0 11 (dk_at dksJ30_or_2 6 rfl rfl)
theorem dJ30_or_56 : decode cJ30_or 56 = .ok (.iload_n 3, 1) := dk_29 (dk_at dksJ30_or_2 9 rfl rfl)
theorem dJ30_or_57 : decode cJ30_or 57 = .ok (.dup2, 1) := dk_92 (dk_at dksJ30_or_2 10 rfl rfl)
theorem dJ30_or_58 : decode cJ30_or 58 = .ok (.laload, 1) := dk_47 (dk_at dksJ30_or_2 11 rfl rfl)
theorem dJ30_or_59 : decode cJ30_or 59 = .ok (.aload_n 1, 1) := dk_43 (dk_at dksJ30_or_2 12 rfl rfl)
theorem dJ30_or_60 : decode cJ30_or 60 = .ok (.getfield 11, 3) := dk_180 0 11 (dk_at dksJ30_or_2 13 rfl rfl)
theorem dJ30_or_63 : decode cJ30_or 63 = .ok (.iload_n 3, 1) := dk_29 (dk_at dksJ30_or_2 16 rfl rfl)
theorem dJ30_or_64 : decode cJ30_or 64 = .ok (.laload, 1) := dk_47 (dk_at dksJ30_or_2 17 rfl rfl)
theorem dJ30_or_65 : decode cJ30_or 65 = .ok (.lor, 1) := dk_129 (dk_at dksJ30_or_2 18 rfl rfl)
theorem dJ30_or_66 : decode cJ30_or 66 = .ok (.lastore, 1) := dk_80 (dk_at dksJ30_or_2 19 rfl rfl)
theorem dJ30_or_67 : decode cJ30_or 67 = .ok (.iinc 3 1, 3) := dk_132 3 1 (dk_at dksJ30_or_2 20 rfl rfl)
theorem dJ30_or_70 : decode cJ30_or 70 = .ok (.goto (-23), 3) := dk_167 255 233 (dk_at dksJ30_or_3 0 rfl rfl)
theorem dJ30_or_73 : decode cJ30_or 73 = .ok (.iload_n 2, 1) := dk_28 (dk_at dksJ30_or_3 3 rfl rfl)
theorem dJ30_or_74 : decode cJ30_or 74 = .ok (.aload_n 1, 1) := dk_43 (dk_at dksJ30_or_3 4 rfl rfl)
theorem dJ30_or_75 : decode cJ30_or 75 = .ok (.getfield 7, 3) := dk_180 0 7 (dk_at dksJ30_or_3 5 rfl rfl)
theorem dJ30_or_78 : decode cJ30_or 78 = .ok (.if_icmp .ge 22, 3) := dk_162 0 22 (dk_at dksJ30_or_3 8 rfl rfl)
theorem dJ30_or_81 : decode cJ30_or 81 = .ok (.aload_n 1, 1) := dk_43 (dk_at dksJ30_or_3 11 rfl rfl)
theorem dJ30_or_82 : decode cJ30_or 82 = .ok (.getfield 11, 3) := dk_180 0 11 (dk_at dksJ30_or_3 12 rfl rfl)
theorem dJ30_or_85 : decode cJ30_or 85 = .ok (.iload_n 2, 1) := dk_28 (dk_at dksJ30_or_3 15 rfl rfl)
theorem dJ30_or_86 : decode cJ30_or 86 = .ok (.aload_n 0, 1) := dk_42 (dk_at dksJ30_or_3 16 rfl rfl)
theorem dJ30_or_87 : decode cJ30_or 87 = .ok (.getfield 11, 3) := dk_180 0 11 (dk_at dksJ30_or_3 17 rfl rfl)
theorem dJ30_or_90 : decode cJ30_or 90 = .ok (.iload_n 2, 1) := dk_28 (dk_at dksJ30_or_3 20 rfl rfl)
theorem dJ30_or_91 : decode cJ30_or 91 = .ok (.aload_n 0, 1) := dk_42 (dk_at dksJ30_or_3 21 rfl rfl)
theorem dJ30_or_92 : decode cJ30_or 92 = .ok (.getfield 7, 3) := dk_180 0 7 (dk_at dksJ30_or_4 0 rfl rfl)
theorem dJ30_or_95 : decode cJ30_or 95 = .ok (.iload_n 2, 1) := dk_28 (dk_at dksJ30_or_4 3 rfl rfl)
theorem dJ30_or_96 : decode cJ30_or 96 = .ok (.isub, 1) := dk_100 (dk_at dksJ30_or_4 4 rfl rfl)
theorem dJ30_or_97 : decode cJ30_or 97 = .ok (.invokestatic 199, 3) := dk_184 0 199 (dk_at dksJ30_or_4 5 rfl rfl)
theorem dJ30_or_100 : decode cJ30_or 100 = .ok (.aload_n 0, 1) := dk_42 (dk_at dksJ30_or_4 8 rfl rfl)
theorem dJ30_or_101 : decode cJ30_or 101 = .ok (.invokevirtual 56, 3) := dk_182 0 56 (dk_at dksJ30_or_4 9 rfl rfl)
theorem dJ30_or_104 : decode cJ30_or 104 = .ok (.return_, 1) := dk_177 (dk_at dksJ30_or_4 12 rfl rfl)
abbrev cJ30_intersects : ByteArray := prog_39_method_34_code
def yJ30_intersects : MethodName := ⟨RJ30, "intersects", "(Ljava/util/BitSet;)Z"⟩
def dkwJ30_intersects_1 : List UInt8 := [43, 180, 0, 11, 28, 47, 127, 9, 148, 153, 0, 5, 4, 172, 132, 2, 255, 167, 255, 229, 3, 172]
abbrev dktJ30_intersects_1 : List UInt8 := dkwJ30_intersects_1 ++ []
def dkwJ30_intersects_0 : List UInt8 := [42, 180, 0, 7, 43, 180, 0, 7, 184, 0, 193, 4, 100, 61, 28, 155, 0, 29, 42, 180, 0, 11, 28, 47]
abbrev dktJ30_intersects_0 : List UInt8 := dkwJ30_intersects_0 ++ dktJ30_intersects_1
theorem dksJ30_intersects_0 : cJ30_intersects.data.toList.drop 0 = dktJ30_intersects_0 := by decide +kernel
theorem dksJ30_intersects_1 : cJ30_intersects.data.toList.drop 24 = dktJ30_intersects_1 := dk_seg dksJ30_intersects_0 24 rfl rfl
theorem dJ30_intersects_0 : decode cJ30_intersects 0 = .ok (.aload_n 0, 1) := dk_42 (dk_at dksJ30_intersects_0 0 rfl rfl)
theorem dJ30_intersects_1 : decode cJ30_intersects 1 = .ok (.getfield 7, 3) := dk_180 0 7 (dk_at dksJ30_intersects_0 1 rfl rfl)
theorem dJ30_intersects_4 : decode cJ30_intersects 4 = .ok (.aload_n 1, 1) := dk_43 (dk_at dksJ30_intersects_0 4 rfl rfl)
theorem dJ30_intersects_5 : decode cJ30_intersects 5 = .ok (.getfield 7, 3) := dk_180 0 7 (dk_at dksJ30_intersects_0 5 rfl rfl)
theorem dJ30_intersects_8 : decode cJ30_intersects 8 = .ok (.invokestatic 193, 3) := dk_184 0 193 (dk_at dksJ30_intersects_0 8 rfl rfl)
theorem dJ30_intersects_11 : decode cJ30_intersects 11 = .ok (.iconst 1, 1) := dk_4 (dk_at dksJ30_intersects_0 11 rfl rfl)
theorem dJ30_intersects_12 : decode cJ30_intersects 12 = .ok (.isub, 1) := dk_100 (dk_at dksJ30_intersects_0 12 rfl rfl)
theorem dJ30_intersects_13 : decode cJ30_intersects 13 = .ok (.istore_n 2, 1) := dk_61 (dk_at dksJ30_intersects_0 13 rfl rfl)
theorem dJ30_intersects_14 : decode cJ30_intersects 14 = .ok (.iload_n 2, 1) := dk_28 (dk_at dksJ30_intersects_0 14 rfl rfl)
theorem dJ30_intersects_15 : decode cJ30_intersects 15 = .ok (.ifCond .lt 29, 3) := dk_155 0 29 (dk_at dksJ30_intersects_0 15 rfl rfl)
theorem dJ30_intersects_18 : decode cJ30_intersects 18 = .ok (.aload_n 0, 1) := dk_42 (dk_at dksJ30_intersects_0 18 rfl rfl)
theorem dJ30_intersects_19 : decode cJ30_intersects 19 = .ok (.getfield 11, 3) := dk_180 0 11 (dk_at dksJ30_intersects_0 19 rfl rfl)
theorem dJ30_intersects_22 : decode cJ30_intersects 22 = .ok (.iload_n 2, 1) := dk_28 (dk_at dksJ30_intersects_0 22 rfl rfl)
theorem dJ30_intersects_23 : decode cJ30_intersects 23 = .ok (.laload, 1) := dk_47 (dk_at dksJ30_intersects_0 23 rfl rfl)
theorem dJ30_intersects_24 : decode cJ30_intersects 24 = .ok (.aload_n 1, 1) := dk_43 (dk_at dksJ30_intersects_1 0 rfl rfl)
theorem dJ30_intersects_25 : decode cJ30_intersects 25 = .ok (.getfield 11, 3) := dk_180 0 11 (dk_at dksJ30_intersects_1 1 rfl rfl)
theorem dJ30_intersects_28 : decode cJ30_intersects 28 = .ok (.iload_n 2, 1) := dk_28 (dk_at dksJ30_intersects_1 4 rfl rfl)
theorem dJ30_intersects_29 : decode cJ30_intersects 29 = .ok (.laload, 1) := dk_47 (dk_at dksJ30_intersects_1 5 rfl rfl)
theorem dJ30_intersects_30 : decode cJ30_intersects 30 = .ok (.land, 1) := dk_127 (dk_at dksJ30_intersects_1 6 rfl rfl)
theorem dJ30_intersects_31 : decode cJ30_intersects 31 = .ok (.lconst 0, 1) := dk_9 (dk_at dksJ30_intersects_1 7 rfl rfl)
theorem dJ30_intersects_32 : decode cJ30_intersects 32 = .ok (.lcmp, 1) := dk_148 (dk_at dksJ30_intersects_1 8 rfl rfl)
theorem dJ30_intersects_33 : decode cJ30_intersects 33 = .ok (.ifCond .eq 5, 3) := dk_153 0 5 (dk_at dksJ30_intersects_1 9 rfl rfl)
theorem dJ30_intersects_36 : decode cJ30_intersects 36 = .ok (.iconst 1, 1) := dk_4 (dk_at dksJ30_intersects_1 12 rfl rfl)
theorem dJ30_intersects_37 : decode cJ30_intersects 37 = .ok (.ireturn, 1) := dk_172 (dk_at dksJ30_intersects_1 13 rfl rfl)
theorem dJ30_intersects_38 : decode cJ30_intersects 38 = .ok (.iinc 2 (-1), 3) := dk_132 2 255 (dk_at dksJ30_intersects_1 14 rfl rfl)
theorem dJ30_intersects_41 : decode cJ30_intersects 41 = .ok (.goto (-27), 3) := dk_167 255 229 (dk_at dksJ30_intersects_1 17 rfl rfl)
theorem dJ30_intersects_44 : decode cJ30_intersects 44 = .ok (.iconst 0, 1) := dk_3 (dk_at dksJ30_intersects_1 20 rfl rfl)
theorem dJ30_intersects_45 : decode cJ30_intersects 45 = .ok (.ireturn, 1) := dk_172 (dk_at dksJ30_intersects_1 21 rfl rfl)
theorem q110 : (Jvm.Cond.initialized "java/util/BitSet") ∈ lw_all := lw_g (lw_at lw_m1 39 rfl) rfl
theorem q282 : (Jvm.Cond.selects "java/util/BitSet" ({ cls := "java/lang/Object", name := "getClass", desc := "()Ljava/lang/Class;" } : Jvm.MethodName) ({ cls := "java/lang/Object", name := "getClass", desc := "()Ljava/lang/Class;" } : Jvm.MethodName)) ∈ lw_all := lw_g (lw_at lw_m1 211 rfl) rfl
theorem q905 : (Jvm.Cond.instantiable "java/util/BitSet" (3 : Nat)) ∈ lw_all := lw_g (lw_at lw_m4 114 rfl) rfl
theorem q907 : (Jvm.Cond.instanceMethod ({ cls := "java/util/BitSet", name := "<init>", desc := "()V" } : Jvm.MethodName)) ∈ lw_all := lw_g (lw_at lw_m4 116 rfl) rfl
theorem q908 : (Jvm.Cond.code ({ cls := "java/util/BitSet", name := "<init>", desc := "()V" } : Jvm.MethodName) prog_39_method_4_code (1 : Nat) (Option.none : Option Jvm.ClassFile.FieldType)) ∈ lw_all := lw_g (lw_at lw_m4 117 rfl) rfl
theorem q909 : (Jvm.Cond.methodLink "java/util/BitSet" (21 : Nat) ({ cls := "java/lang/Object", name := "<init>", desc := "()V" } : Jvm.MethodName)) ∈ lw_all := lw_g (lw_at lw_m4 118 rfl) rfl
theorem q910 : (Jvm.Cond.methodLink "java/util/BitSet" (27 : Nat) ({ cls := "java/util/BitSet", name := "initWords", desc := "(I)V" } : Jvm.MethodName)) ∈ lw_all := lw_g (lw_at lw_m4 119 rfl) rfl
theorem q911 : (Jvm.Cond.privateMethod ({ cls := "java/util/BitSet", name := "initWords", desc := "(I)V" } : Jvm.MethodName)) ∈ lw_tbl := lw_at lw_m4 120 rfl
theorem q912 : (Jvm.Cond.instanceMethod ({ cls := "java/util/BitSet", name := "initWords", desc := "(I)V" } : Jvm.MethodName)) ∈ lw_all := lw_g (lw_at lw_m4 121 rfl) rfl
theorem q913 : (Jvm.Cond.code ({ cls := "java/util/BitSet", name := "initWords", desc := "(I)V" } : Jvm.MethodName) prog_39_method_6_code (2 : Nat) (Option.none : Option Jvm.ClassFile.FieldType)) ∈ lw_all := lw_g (lw_at lw_m4 122 rfl) rfl
theorem q914 : (Jvm.Cond.methodLink "java/util/BitSet" (52 : Nat) ({ cls := "java/util/BitSet", name := "wordIndex", desc := "(I)I" } : Jvm.MethodName)) ∈ lw_all := lw_g (lw_at lw_m4 123 rfl) rfl
theorem q915 : (Jvm.Cond.static ({ cls := "java/util/BitSet", name := "wordIndex", desc := "(I)I" } : Jvm.MethodName)) ∈ lw_all := lw_g (lw_at lw_m4 124 rfl) rfl
theorem q916 : (Jvm.Cond.code ({ cls := "java/util/BitSet", name := "wordIndex", desc := "(I)I" } : Jvm.MethodName) prog_39_method_1_code (1 : Nat) (Option.some Jvm.ClassFile.FieldType.int)) ∈ lw_all := lw_g (lw_at lw_m4 125 rfl) rfl
theorem q917 : (Jvm.Cond.fieldLink "java/util/BitSet" (11 : Nat) "java/util/BitSet" "words" "[J") ∈ lw_all := lw_g (lw_at lw_m4 126 rfl) rfl
theorem q918 : (Jvm.Cond.fieldLink "java/util/BitSet" (7 : Nat) "java/util/BitSet" "wordsInUse" "I") ∈ lw_all := lw_g (lw_at lw_m4 127 rfl) rfl
theorem q919 : (Jvm.Cond.fieldLink "java/util/BitSet" (24 : Nat) "java/util/BitSet" "sizeIsSticky" "Z") ∈ lw_all := lw_g (lw_at lw_m4 128 rfl) rfl
theorem q920 : (Jvm.Cond.lays "java/util/BitSet" "java/util/BitSet" "words" "[J") ∈ lw_all := lw_g (lw_at lw_m4 129 rfl) rfl
theorem q921 : (Jvm.Cond.soleField "java/util/BitSet" "words") ∈ lw_all := lw_g (lw_at lw_m4 130 rfl) rfl
theorem q922 : (Jvm.Cond.lays "java/util/BitSet" "java/util/BitSet" "wordsInUse" "I") ∈ lw_all := lw_g (lw_at lw_m4 131 rfl) rfl
theorem q923 : (Jvm.Cond.soleField "java/util/BitSet" "wordsInUse") ∈ lw_all := lw_g (lw_at lw_m4 132 rfl) rfl
theorem q924 : (Jvm.Cond.lays "java/util/BitSet" "java/util/BitSet" "sizeIsSticky" "Z") ∈ lw_all := lw_g (lw_at lw_m4 133 rfl) rfl
theorem q925 : (Jvm.Cond.soleField "java/util/BitSet" "sizeIsSticky") ∈ lw_all := lw_g (lw_at lw_m4 134 rfl) rfl
theorem q926 : (Jvm.Cond.superclass "java/util/BitSet" "java/lang/Object") ∈ lw_all := lw_g (lw_at lw_m4 135 rfl) rfl
theorem q933 : (Jvm.Cond.instanceMethod ({ cls := "java/util/BitSet", name := "set", desc := "(IZ)V" } : Jvm.MethodName)) ∈ lw_all := lw_g (lw_at lw_m4 142 rfl) rfl
theorem q934 : (Jvm.Cond.selects "java/util/BitSet" ({ cls := "java/util/BitSet", name := "set", desc := "(IZ)V" } : Jvm.MethodName) ({ cls := "java/util/BitSet", name := "set", desc := "(IZ)V" } : Jvm.MethodName)) ∈ lw_all := lw_g (lw_at lw_m4 143 rfl) rfl
theorem q935 : (Jvm.Cond.code ({ cls := "java/util/BitSet", name := "set", desc := "(IZ)V" } : Jvm.MethodName) prog_39_method_20_code (3 : Nat) (Option.none : Option Jvm.ClassFile.FieldType)) ∈ lw_all := lw_g (lw_at lw_m4 144 rfl) rfl
theorem q936 : (Jvm.Cond.methodLink "java/util/BitSet" (167 : Nat) ({ cls := "java/util/BitSet", name := "set", desc := "(I)V" } : Jvm.MethodName)) ∈ lw_all := lw_g (lw_at lw_m4 145 rfl) rfl
theorem q937 : (Jvm.Cond.instanceMethod ({ cls := "java/util/BitSet", name := "set", desc := "(I)V" } : Jvm.MethodName)) ∈ lw_all := lw_g (lw_at lw_m4 146 rfl) rfl
theorem q938 : (Jvm.Cond.selects "java/util/BitSet" ({ cls := "java/util/BitSet", name := "set", desc := "(I)V" } : Jvm.MethodName) ({ cls := "java/util/BitSet", name := "set", desc := "(I)V" } : Jvm.MethodName)) ∈ lw_all := lw_g (lw_at lw_m4 147 rfl) rfl
theorem q939 : (Jvm.Cond.code ({ cls := "java/util/BitSet", name := "set", desc := "(I)V" } : Jvm.MethodName) prog_39_method_19_code (3 : Nat) (Option.none : Option Jvm.ClassFile.FieldType)) ∈ lw_all := lw_g (lw_at lw_m4 148 rfl) rfl
theorem q940 : (Jvm.Cond.classLink "java/util/BitSet" (142 : Nat) "java/lang/IndexOutOfBoundsException") ∈ lw_all := lw_g (lw_at lw_m4 149 rfl) rfl
theorem q949 : (Jvm.Cond.classLink "java/util/BitSet" (33 : Nat) "java/lang/StringBuilder") ∈ lw_all := lw_g (lw_at lw_m4 158 rfl) rfl
theorem q950 : (Jvm.Cond.methodLink "java/util/BitSet" (35 : Nat) ({ cls := "java/lang/StringBuilder", name := "<init>", desc := "()V" } : Jvm.MethodName)) ∈ lw_all := lw_g (lw_at lw_m4 159 rfl) rfl
theorem q951 : (Jvm.Cond.stringRef "java/util/BitSet" (153 : Nat) "bitIndex < 0: ") ∈ lw_tbl := lw_at lw_m4 160 rfl
theorem q952 : (Jvm.Cond.methodLink "java/util/BitSet" (38 : Nat) ({ cls := "java/lang/StringBuilder", name := "append", desc := "(Ljava/lang/String;)Ljava/lang/StringBuilder;" } : Jvm.MethodName)) ∈ lw_all := lw_g (lw_at lw_m4 161 rfl) rfl
theorem q953 : (Jvm.Cond.methodLink "java/util/BitSet" (42 : Nat) ({ cls := "java/lang/StringBuilder", name := "append", desc := "(I)Ljava/lang/StringBuilder;" } : Jvm.MethodName)) ∈ lw_all := lw_g (lw_at lw_m4 162 rfl) rfl
theorem q954 : (Jvm.Cond.methodLink "java/util/BitSet" (45 : Nat) ({ cls := "java/lang/StringBuilder", name := "toString", desc := "()Ljava/lang/String;" } : Jvm.MethodName)) ∈ lw_all := lw_g (lw_at lw_m4 163 rfl) rfl
theorem q955 : (Jvm.Cond.methodLink "java/util/BitSet" (146 : Nat) ({ cls := "java/lang/IndexOutOfBoundsException", name := "<init>", desc := "(Ljava/lang/String;)V" } : Jvm.MethodName)) ∈ lw_all := lw_g (lw_at lw_m4 164 rfl) rfl
theorem q961 : (Jvm.Cond.methodLink "java/util/BitSet" (155 : Nat) ({ cls := "java/util/BitSet", name := "expandTo", desc := "(I)V" } : Jvm.MethodName)) ∈ lw_all := lw_g (lw_at lw_m4 170 rfl) rfl
theorem q962 : (Jvm.Cond.privateMethod ({ cls := "java/util/BitSet", name := "expandTo", desc := "(I)V" } : Jvm.MethodName)) ∈ lw_tbl := lw_at lw_m4 171 rfl
theorem q963 : (Jvm.Cond.instanceMethod ({ cls := "java/util/BitSet", name := "expandTo", desc := "(I)V" } : Jvm.MethodName)) ∈ lw_all := lw_g (lw_at lw_m4 172 rfl) rfl
theorem q964 : (Jvm.Cond.code ({ cls := "java/util/BitSet", name := "expandTo", desc := "(I)V" } : Jvm.MethodName) prog_39_method_15_code (3 : Nat) (Option.none : Option Jvm.ClassFile.FieldType)) ∈ lw_all := lw_g (lw_at lw_m4 173 rfl) rfl
theorem q965 : (Jvm.Cond.methodLink "java/util/BitSet" (139 : Nat) ({ cls := "java/util/BitSet", name := "ensureCapacity", desc := "(I)V" } : Jvm.MethodName)) ∈ lw_all := lw_g (lw_at lw_m4 174 rfl) rfl
theorem q966 : (Jvm.Cond.privateMethod ({ cls := "java/util/BitSet", name := "ensureCapacity", desc := "(I)V" } : Jvm.MethodName)) ∈ lw_tbl := lw_at lw_m4 175 rfl
theorem q967 : (Jvm.Cond.instanceMethod ({ cls := "java/util/BitSet", name := "ensureCapacity", desc := "(I)V" } : Jvm.MethodName)) ∈ lw_all := lw_g (lw_at lw_m4 176 rfl) rfl
theorem q968 : (Jvm.Cond.code ({ cls := "java/util/BitSet", name := "ensureCapacity", desc := "(I)V" } : Jvm.MethodName) prog_39_method_14_code (3 : Nat) (Option.none : Option Jvm.ClassFile.FieldType)) ∈ lw_all := lw_g (lw_at lw_m4 177 rfl) rfl
theorem q969 : (Jvm.Cond.methodLink "java/util/BitSet" (133 : Nat) ({ cls := "java/lang/Math", name := "max", desc := "(II)I" } : Jvm.MethodName)) ∈ lw_all := lw_g (lw_at lw_m4 178 rfl) rfl
theorem q970 : (Jvm.Cond.methodLink "java/util/BitSet" (59 : Nat) ({ cls := "java/util/Arrays", name := "copyOf", desc := "([JI)[J" } : Jvm.MethodName)) ∈ lw_all := lw_g (lw_at lw_m4 179 rfl) rfl
theorem q978 : (Jvm.Cond.methodLink "java/util/BitSet" (56 : Nat) ({ cls := "java/util/BitSet", name := "checkInvariants", desc := "()V" } : Jvm.MethodName)) ∈ lw_all := lw_g (lw_at lw_m4 187 rfl) rfl
theorem q979 : (Jvm.Cond.privateMethod ({ cls := "java/util/BitSet", name := "checkInvariants", desc := "()V" } : Jvm.MethodName)) ∈ lw_tbl := lw_at lw_m4 188 rfl
theorem q980 : (Jvm.Cond.instanceMethod ({ cls := "java/util/BitSet", name := "checkInvariants", desc := "()V" } : Jvm.MethodName)) ∈ lw_all := lw_g (lw_at lw_m4 189 rfl) rfl
theorem q981 : (Jvm.Cond.code ({ cls := "java/util/BitSet", name := "checkInvariants", desc := "()V" } : Jvm.MethodName) prog_39_method_2_code (1 : Nat) (Option.none : Option Jvm.ClassFile.FieldType)) ∈ lw_all := lw_g (lw_at lw_m4 190 rfl) rfl
theorem q982 : (Jvm.Cond.fieldLink "java/util/BitSet" (3 : Nat) "java/util/BitSet" "$assertionsDisabled" "Z") ∈ lw_all := lw_g (lw_at lw_m4 191 rfl) rfl
theorem q983 : (Jvm.Cond.laysStatic "java/util/BitSet" "$assertionsDisabled" "Z") ∈ lw_tbl := lw_at lw_m4 192 rfl
theorem q984 : (Jvm.Cond.methodLink "java/util/BitSet" (170 : Nat) ({ cls := "java/util/BitSet", name := "clear", desc := "(I)V" } : Jvm.MethodName)) ∈ lw_all := lw_g (lw_at lw_m4 193 rfl) rfl
theorem q985 : (Jvm.Cond.instanceMethod ({ cls := "java/util/BitSet", name := "clear", desc := "(I)V" } : Jvm.MethodName)) ∈ lw_all := lw_g (lw_at lw_m4 194 rfl) rfl
theorem q986 : (Jvm.Cond.selects "java/util/BitSet" ({ cls := "java/util/BitSet", name := "clear", desc := "(I)V" } : Jvm.MethodName) ({ cls := "java/util/BitSet", name := "clear", desc := "(I)V" } : Jvm.MethodName)) ∈ lw_all := lw_g (lw_at lw_m4 195 rfl) rfl
theorem q987 : (Jvm.Cond.code ({ cls := "java/util/BitSet", name := "clear", desc := "(I)V" } : Jvm.MethodName) prog_39_method_23_code (3 : Nat) (Option.none : Option Jvm.ClassFile.FieldType)) ∈ lw_all := lw_g (lw_at lw_m4 196 rfl) rfl
theorem q988 : (Jvm.Cond.constantLong "java/util/BitSet" (165 : Nat) (-1 : Int64)) ∈ lw_all := lw_g (lw_at lw_m4 197 rfl) rfl
theorem q989 : (Jvm.Cond.methodLink "java/util/BitSet" (158 : Nat) ({ cls := "java/util/BitSet", name := "recalculateWordsInUse", desc := "()V" } : Jvm.MethodName)) ∈ lw_all := lw_g (lw_at lw_m4 198 rfl) rfl
theorem q990 : (Jvm.Cond.privateMethod ({ cls := "java/util/BitSet", name := "recalculateWordsInUse", desc := "()V" } : Jvm.MethodName)) ∈ lw_tbl := lw_at lw_m4 199 rfl
theorem q991 : (Jvm.Cond.instanceMethod ({ cls := "java/util/BitSet", name := "recalculateWordsInUse", desc := "()V" } : Jvm.MethodName)) ∈ lw_all := lw_g (lw_at lw_m4 200 rfl) rfl
theorem q992 : (Jvm.Cond.code ({ cls := "java/util/BitSet", name := "recalculateWordsInUse", desc := "()V" } : Jvm.MethodName) prog_39_method_3_code (2 : Nat) (Option.none : Option Jvm.ClassFile.FieldType)) ∈ lw_all := lw_g (lw_at lw_m4 201 rfl) rfl
theorem q997 : (Jvm.Cond.instanceMethod ({ cls := "java/util/BitSet", name := "nextSetBit", desc := "(I)I" } : Jvm.MethodName)) ∈ lw_all := lw_g (lw_at lw_m4 206 rfl) rfl
theorem q998 : (Jvm.Cond.selects "java/util/BitSet" ({ cls := "java/util/BitSet", name := "nextSetBit", desc := "(I)I" } : Jvm.MethodName) ({ cls := "java/util/BitSet", name := "nextSetBit", desc := "(I)I" } : Jvm.MethodName)) ∈ lw_all := lw_g (lw_at lw_m4 207 rfl) rfl
theorem q999 : (Jvm.Cond.code ({ cls := "java/util/BitSet", name := "nextSetBit", desc := "(I)I" } : Jvm.MethodName) prog_39_method_28_code (5 : Nat) (Option.some Jvm.ClassFile.FieldType.int)) ∈ lw_all := lw_g (lw_at lw_m4 208 rfl) rfl
theorem q1000 : (Jvm.Cond.stringRef "java/util/BitSet" (144 : Nat) "fromIndex < 0: ") ∈ lw_tbl := lw_at lw_m4 209 rfl
theorem q1001 : (Jvm.Cond.methodLink "java/util/BitSet" (182 : Nat) ({ cls := "java/lang/Long", name := "numberOfTrailingZeros", desc := "(J)I" } : Jvm.MethodName)) ∈ lw_all := lw_g (lw_at lw_m4 210 rfl) rfl
theorem q1168 : (Jvm.Cond.instanceMethod ({ cls := "java/util/BitSet", name := "get", desc := "(I)Z" } : Jvm.MethodName)) ∈ lw_all := lw_g (lw_at lw_m5 137 rfl) rfl
theorem q1169 : (Jvm.Cond.selects "java/util/BitSet" ({ cls := "java/util/BitSet", name := "get", desc := "(I)Z" } : Jvm.MethodName) ({ cls := "java/util/BitSet", name := "get", desc := "(I)Z" } : Jvm.MethodName)) ∈ lw_all := lw_g (lw_at lw_m5 138 rfl) rfl
theorem q1170 : (Jvm.Cond.code ({ cls := "java/util/BitSet", name := "get", desc := "(I)Z" } : Jvm.MethodName) prog_39_method_26_code (3 : Nat) (Option.some Jvm.ClassFile.FieldType.boolean)) ∈ lw_all := lw_g (lw_at lw_m5 139 rfl) rfl
theorem q1172 : (Jvm.Cond.instanceMethod ({ cls := "java/util/BitSet", name := "or", desc := "(Ljava/util/BitSet;)V" } : Jvm.MethodName)) ∈ lw_all := lw_g (lw_at lw_m5 141 rfl) rfl
theorem q1173 : (Jvm.Cond.selects "java/util/BitSet" ({ cls := "java/util/BitSet", name := "or", desc := "(Ljava/util/BitSet;)V" } : Jvm.MethodName) ({ cls := "java/util/BitSet", name := "or", desc := "(Ljava/util/BitSet;)V" } : Jvm.MethodName)) ∈ lw_all := lw_g (lw_at lw_m5 142 rfl) rfl
theorem q1174 : (Jvm.Cond.code ({ cls := "java/util/BitSet", name := "or", desc := "(Ljava/util/BitSet;)V" } : Jvm.MethodName) prog_39_method_37_code (4 : Nat) (Option.none : Option Jvm.ClassFile.FieldType)) ∈ lw_all := lw_g (lw_at lw_m5 143 rfl) rfl
theorem q1175 : (Jvm.Cond.methodLink "java/util/BitSet" (193 : Nat) ({ cls := "java/lang/Math", name := "min", desc := "(II)I" } : Jvm.MethodName)) ∈ lw_all := lw_g (lw_at lw_m5 144 rfl) rfl
theorem q1176 : (Jvm.Cond.methodLink "java/util/BitSet" (199 : Nat) ({ cls := "java/lang/System", name := "arraycopy", desc := "(Ljava/lang/Object;ILjava/lang/Object;II)V" } : Jvm.MethodName)) ∈ lw_all := lw_g (lw_at lw_m5 145 rfl) rfl
theorem q1720 : (Jvm.Cond.instanceMethod ({ cls := "java/util/BitSet", name := "intersects", desc := "(Ljava/util/BitSet;)Z" } : Jvm.MethodName)) ∈ lw_all := lw_g (lw_at lw_m7 209 rfl) rfl
theorem q1721 : (Jvm.Cond.selects "java/util/BitSet" ({ cls := "java/util/BitSet", name := "intersects", desc := "(Ljava/util/BitSet;)Z" } : Jvm.MethodName) ({ cls := "java/util/BitSet", name := "intersects", desc := "(Ljava/util/BitSet;)Z" } : Jvm.MethodName)) ∈ lw_all := lw_g (lw_at lw_m7 210 rfl) rfl
theorem q1722 : (Jvm.Cond.code ({ cls := "java/util/BitSet", name := "intersects", desc := "(Ljava/util/BitSet;)Z" } : Jvm.MethodName) prog_39_method_34_code (3 : Nat) (Option.some Jvm.ClassFile.FieldType.boolean)) ∈ lw_all := lw_g (lw_at lw_m7 211 rfl) rfl
theorem q2192 : (Jvm.Cond.castable "java/util/BitSet" "java/lang/Object") ∈ lw_tbl := lw_at lw_m9 201 rfl
theorem in_J30 : ∀ w ∈ wsJ300, w ∈ lw_all := lw_in wsJ300 [920, 922, 924] (by decide +kernel) (by decide +kernel)

-- X6.Pebblegate_Tree.lean.txt
/-! Pebblegate$Tree -/
set_option maxRecDepth 100000
def RX6 : String := "Pebblegate$Tree"
def TX6 : u_T := fun k => match k with
  | 0 => ("Pebblegate$Tree", "all", "Ljava/util/ArrayList;", true)
  | 1 => ("Pebblegate$Tree", "ups", "[I", true)
  | _ => ("Pebblegate$Tree", "isWide", "Z", false)
def tyX6 : Nat → FieldType := fun k => match k with
  | 0 => .object "java/util/ArrayList"
  | 1 => .array .int
  | _ => .boolean
abbrev wsX60 : List Cond := u_ws RX6 TX6 3
theorem nmX6 : ∀ a, a < 3 → ∀ b, b < 3 → a ≠ b → (TX6 a).2.1 ≠ (TX6 b).2.1 := by decide +kernel
theorem tyX6_ok : ∀ k, k < 3 → parseFieldDescriptor (TX6 k).2.2.1 = some (tyX6 k) := by decide +kernel
abbrev cX6_init : ByteArray := prog_4_method_1_code
def yX6_init : MethodName := ⟨RX6, "<init>", "([ILjava/util/ArrayList;)V"⟩
def dkwX6_init_6 : List UInt8 := [182, 0, 63, 29, 182, 0, 67, 167, 255, 187, 132, 3, 1, 167, 255, 146, 177]
abbrev dktX6_init_6 : List UInt8 := dkwX6_init_6 ++ []
def dkwX6_init_5 : List UInt8 := [192, 0, 58, 182, 0, 59, 153, 0, 24, 42, 25, 5, 42, 180, 0, 12, 29, 182, 0, 54, 192, 0, 58]
abbrev dktX6_init_5 : List UInt8 := dkwX6_init_5 ++ dktX6_init_6
def dkwX6_init_4 : List UInt8 := [192, 0, 52, 58, 5, 42, 180, 0, 30, 154, 0, 43, 25, 5, 42, 180, 0, 12, 29, 182, 0, 54]
abbrev dktX6_init_4 : List UInt8 := dkwX6_init_4 ++ dktX6_init_5
def dkwX6_init_3 : List UInt8 := [44, 182, 0, 38, 58, 4, 25, 4, 185, 0, 42, 1, 0, 153, 0, 65, 25, 4, 185, 0, 48, 1, 0]
abbrev dktX6_init_3 : List UInt8 := dkwX6_init_3 ++ dktX6_init_4
def dkwX6_init_2 : List UInt8 := [182, 0, 26, 162, 0, 105, 42, 180, 0, 30, 154, 0, 98, 42, 29, 182, 0, 34, 153, 0, 6, 167, 0, 81]
abbrev dktX6_init_2 : List UInt8 := dkwX6_init_2 ++ dktX6_init_3
def dkwX6_init_1 : List UInt8 := [180, 0, 18, 3, 2, 79, 42, 180, 0, 12, 43, 182, 0, 22, 87, 3, 62, 29, 42, 180, 0, 12]
abbrev dktX6_init_1 : List UInt8 := dkwX6_init_1 ++ dktX6_init_2
def dkwX6_init_0 : List UInt8 := [42, 183, 0, 3, 42, 187, 0, 9, 89, 183, 0, 11, 181, 0, 12, 42, 16, 20, 188, 10, 181, 0, 18, 42]
abbrev dktX6_init_0 : List UInt8 := dkwX6_init_0 ++ dktX6_init_1
theorem dksX6_init_0 : cX6_init.data.toList.drop 0 = dktX6_init_0 := by decide +kernel
theorem dksX6_init_1 : cX6_init.data.toList.drop 24 = dktX6_init_1 := dk_seg dksX6_init_0 24 rfl rfl
theorem dksX6_init_2 : cX6_init.data.toList.drop 46 = dktX6_init_2 := dk_seg dksX6_init_1 22 rfl rfl
theorem dksX6_init_3 : cX6_init.data.toList.drop 70 = dktX6_init_3 := dk_seg dksX6_init_2 24 rfl rfl
theorem dksX6_init_4 : cX6_init.data.toList.drop 93 = dktX6_init_4 := dk_seg dksX6_init_3 23 rfl rfl
theorem dksX6_init_5 : cX6_init.data.toList.drop 115 = dktX6_init_5 := dk_seg dksX6_init_4 22 rfl rfl
theorem dksX6_init_6 : cX6_init.data.toList.drop 138 = dktX6_init_6 := dk_seg dksX6_init_5 23 rfl rfl
theorem dX6_init_0 : decode cX6_init 0 = .ok (.aload_n 0, 1) := dk_42 (dk_at dksX6_init_0 0 rfl rfl)
theorem dX6_init_1 : decode cX6_init 1 = .ok (.invokespecial 3, 3) := dk_183 0 3 (dk_at dksX6_init_0 1 rfl rfl)
theorem dX6_init_4 : decode cX6_init 4 = .ok (.aload_n 0, 1) := dk_42 (dk_at dksX6_init_0 4 rfl rfl)
theorem dX6_init_5 : decode cX6_init 5 = .ok (.new 9, 3) := dk_187 0 9 (dk_at dksX6_init_0 5 rfl rfl)
theorem dX6_init_8 : decode cX6_init 8 = .ok (.dup, 1) := dk_89 (dk_at dksX6_init_0 8 rfl rfl)
theorem dX6_init_9 : decode cX6_init 9 = .ok (.invokespecial 11, 3) := dk_183 0 11 (dk_at dksX6_init_0 9 rfl rfl)
theorem dX6_init_12 : decode cX6_init 12 = .ok (.putfield 12, 3) := dk_181 0 12 (dk_at dksX6_init_0 12 rfl rfl)
theorem dX6_init_15 : decode cX6_init 15 = .ok (.aload_n 0, 1) := dk_42 (dk_at dksX6_init_0 15 rfl rfl)
theorem dX6_init_16 : decode cX6_init 16 = .ok (.bipush 20, 2) := dk_16 20 (dk_at dksX6_init_0 16 rfl rfl)
theorem dX6_init_18 : decode cX6_init 18 = .ok (.newarray .int, 2) := dk_188_10 (dk_at dksX6_init_0 18 rfl rfl)
theorem dX6_init_20 : decode cX6_init 20 = .ok (.putfield 18, 3) := dk_181 0 18 (dk_at dksX6_init_0 20 rfl rfl)
theorem dX6_init_23 : decode cX6_init 23 = .ok (.aload_n 0, 1) := dk_42 (dk_at dksX6_init_0 23 rfl rfl)
theorem dX6_init_24 : decode cX6_init 24 = .ok (.getfield 18, 3) := dk_180 0 18 (dk_at dksX6_init_1 0 rfl rfl)
theorem dX6_init_27 : decode cX6_init 27 = .ok (.iconst 0, 1) := dk_3 (dk_at dksX6_init_1 3 rfl rfl)
theorem dX6_init_28 : decode cX6_init 28 = .ok (.iconst (-1), 1) := dk_2 (dk_at dksX6_init_1 4 rfl rfl)
theorem dX6_init_29 : decode cX6_init 29 = .ok (.iastore, 1) := dk_79 (dk_at dksX6_init_1 5 rfl rfl)
theorem dX6_init_30 : decode cX6_init 30 = .ok (.aload_n 0, 1) := dk_42 (dk_at dksX6_init_1 6 rfl rfl)
theorem dX6_init_31 : decode cX6_init 31 = .ok (.getfield 12, 3) := dk_180 0 12 (dk_at dksX6_init_1 7 rfl rfl)
theorem dX6_init_34 : decode cX6_init 34 = .ok (.aload_n 1, 1) := dk_43 (dk_at dksX6_init_1 10 rfl rfl)
theorem dX6_init_35 : decode cX6_init 35 = .ok (.invokevirtual 22, 3) := dk_182 0 22 (dk_at dksX6_init_1 11 rfl rfl)
theorem dX6_init_38 : decode cX6_init 38 = .ok (.pop, 1) := dk_87 (dk_at dksX6_init_1 14 rfl rfl)
theorem dX6_init_39 : decode cX6_init 39 = .ok (.iconst 0, 1) := dk_3 (dk_at dksX6_init_1 15 rfl rfl)
theorem dX6_init_40 : decode cX6_init 40 = .ok (.istore_n 3, 1) := dk_62 (dk_at dksX6_init_1 16 rfl rfl)
theorem dX6_init_41 : decode cX6_init 41 = .ok (.iload_n 3, 1) := dk_29 (dk_at dksX6_init_1 17 rfl rfl)
theorem dX6_init_42 : decode cX6_init 42 = .ok (.aload_n 0, 1) := dk_42 (dk_at dksX6_init_1 18 rfl rfl)
theorem dX6_init_43 : decode cX6_init 43 = .ok (.getfield 12, 3) := dk_180 0 12 (dk_at dksX6_init_1 19 rfl rfl)
theorem dX6_init_46 : decode cX6_init 46 = .ok (.invokevirtual 26, 3) := dk_182 0 26 (dk_at dksX6_init_2 0 rfl rfl)
theorem dX6_init_49 : decode cX6_init 49 = .ok (.if_icmp .ge 105, 3) := dk_162 0 105 (dk_at dksX6_init_2 3 rfl rfl)
theorem dX6_init_52 : decode cX6_init 52 = .ok (.aload_n 0, 1) := dk_42 (dk_at dksX6_init_2 6 rfl rfl)
theorem dX6_init_53 : decode cX6_init 53 = .ok (.getfield 30, 3) := dk_180 0 30 (dk_at dksX6_init_2 7 rfl rfl)
theorem dX6_init_56 : decode cX6_init 56 = .ok (.ifCond .ne 98, 3) := dk_154 0 98 (dk_at dksX6_init_2 10 rfl rfl)
theorem dX6_init_59 : decode cX6_init 59 = .ok (.aload_n 0, 1) := dk_42 (dk_at dksX6_init_2 13 rfl rfl)
theorem dX6_init_60 : decode cX6_init 60 = .ok (.iload_n 3, 1) := dk_29 (dk_at dksX6_init_2 14 rfl rfl)
theorem dX6_init_61 : decode cX6_init 61 = .ok (.invokevirtual 34, 3) := dk_182 0 34 (dk_at dksX6_init_2 15 rfl rfl)
theorem dX6_init_64 : decode cX6_init 64 = .ok (.ifCond .eq 6, 3) := dk_153 0 6 (dk_at dksX6_init_2 18 rfl rfl)
theorem dX6_init_67 : decode cX6_init 67 = .ok (.goto 81, 3) := dk_167 0 81 (dk_at dksX6_init_2 21 rfl rfl)
theorem dX6_init_70 : decode cX6_init 70 = .ok (.aload_n 2, 1) := dk_44 (dk_at dksX6_init_3 0 rfl rfl)
theorem dX6_init_71 : decode cX6_init 71 = .ok (.invokevirtual 38, 3) := dk_182 0 38 (dk_at dksX6_init_3 1 rfl rfl)
theorem dX6_init_74 : decode cX6_init 74 = .ok (.astore 4, 2) := dk_58 4 (dk_at dksX6_init_3 4 rfl rfl)
theorem dX6_init_76 : decode cX6_init 76 = .ok (.aload 4, 2) := dk_25 4 (dk_at dksX6_init_3 6 rfl rfl)
theorem dX6_init_78 : decode cX6_init 78 = .ok (.invokeinterface 42 1, 5) := by decide +kernel
theorem dX6_init_83 : decode cX6_init 83 = .ok (.ifCond .eq 65, 3) := dk_153 0 65 (dk_at dksX6_init_3 13 rfl rfl)
theorem dX6_init_86 : decode cX6_init 86 = .ok (.aload 4, 2) := dk_25 4 (dk_at dksX6_init_3 16 rfl rfl)
theorem dX6_init_88 : decode cX6_init 88 = .ok (.invokeinterface 48 1, 5) := by decide +kernel
theorem dX6_init_93 : decode cX6_init 93 = .ok (.checkcast 52, 3) := dk_192 0 52 (dk_at dksX6_init_4 0 rfl rfl)
theorem dX6_init_96 : decode cX6_init 96 = .ok (.astore 5, 2) := dk_58 5 (dk_at dksX6_init_4 3 rfl rfl)
theorem dX6_init_98 : decode cX6_init 98 = .ok (.aload_n 0, 1) := dk_42 (dk_at dksX6_init_4 5 rfl rfl)
theorem dX6_init_99 : decode cX6_init 99 = .ok (.getfield 30, 3) := dk_180 0 30 (dk_at dksX6_init_4 6 rfl rfl)
theorem dX6_init_102 : decode cX6_init 102 = .ok (.ifCond .ne 43, 3) := dk_154 0 43 (dk_at dksX6_init_4 9 rfl rfl)
theorem dX6_init_105 : decode cX6_init 105 = .ok (.aload 5, 2) := dk_25 5 (dk_at dksX6_init_4 12 rfl rfl)
theorem dX6_init_107 : decode cX6_init 107 = .ok (.aload_n 0, 1) := dk_42 (dk_at dksX6_init_4 14 rfl rfl)
theorem dX6_init_108 : decode cX6_init 108 = .ok (.getfield 12, 3) := dk_180 0 12 (dk_at dksX6_init_4 15 rfl rfl)
theorem dX6_init_111 : decode cX6_init 111 = .ok (.iload_n 3, 1) := dk_29 (dk_at dksX6_init_4 18 rfl rfl)
theorem dX6_init_112 : decode cX6_init 112 = .ok (.invokevirtual 54, 3) := dk_182 0 54 (dk_at dksX6_init_4 19 rfl rfl)
theorem dX6_init_115 : decode cX6_init 115 = .ok (.checkcast 58, 3) := dk_192 0 58 (dk_at dksX6_init_5 0 rfl rfl)
theorem dX6_init_118 : decode cX6_init 118 = .ok (.invokevirtual 59, 3) := dk_182 0 59 (dk_at dksX6_init_5 3 rfl rfl)
theorem dX6_init_121 : decode cX6_init 121 = .ok (.ifCond .eq 24, 3) := dk_153 0 24 (dk_at dksX6_init_5 6 rfl rfl)
theorem dX6_init_124 : decode cX6_init 124 = .ok (.aload_n 0, 1) := dk_42 (dk_at dksX6_init_5 9 rfl rfl)
theorem dX6_init_125 : decode cX6_init 125 = .ok (.aload 5, 2) := dk_25 5 (dk_at dksX6_init_5 10 rfl rfl)
theorem dX6_init_127 : decode cX6_init 127 = .ok (.aload_n 0, 1) := dk_42 (dk_at dksX6_init_5 12 rfl rfl)
theorem dX6_init_128 : decode cX6_init 128 = .ok (.getfield 12, 3) := dk_180 0 12 (dk_at dksX6_init_5 13 rfl rfl)
theorem dX6_init_131 : decode cX6_init 131 = .ok (.iload_n 3, 1) := dk_29 (dk_at dksX6_init_5 16 rfl rfl)
theorem dX6_init_132 : decode cX6_init 132 = .ok (.invokevirtual 54, 3) := dk_182 0 54 (dk_at dksX6_init_5 17 rfl rfl)
theorem dX6_init_135 : decode cX6_init 135 = .ok (.checkcast 58, 3) := dk_192 0 58 (dk_at dksX6_init_5 20 rfl rfl)
theorem dX6_init_138 : decode cX6_init 138 = .ok (.invokevirtual 63, 3) := dk_182 0 63 (dk_at dksX6_init_6 0 rfl rfl)
theorem dX6_init_141 : decode cX6_init 141 = .ok (.iload_n 3, 1) := dk_29 (dk_at dksX6_init_6 3 rfl rfl)
theorem dX6_init_142 : decode cX6_init 142 = .ok (.invokevirtual 67, 3) := dk_182 0 67 (dk_at dksX6_init_6 4 rfl rfl)
theorem dX6_init_145 : decode cX6_init 145 = .ok (.goto (-69), 3) := dk_167 255 187 (dk_at dksX6_init_6 7 rfl rfl)
theorem dX6_init_148 : decode cX6_init 148 = .ok (.iinc 3 1, 3) := dk_132 3 1 (dk_at dksX6_init_6 10 rfl rfl)
theorem dX6_init_151 : decode cX6_init 151 = .ok (.goto (-110), 3) := dk_167 255 146 (dk_at dksX6_init_6 13 rfl rfl)
theorem dX6_init_154 : decode cX6_init 154 = .ok (.return_, 1) := dk_177 (dk_at dksX6_init_6 16 rfl rfl)
abbrev cX6_isMet : ByteArray := prog_4_method_2_code
def yX6_isMet : MethodName := ⟨RX6, "isMet", "(I)Z"⟩
def dkwX6_isMet_2 : List UInt8 := [61, 167, 255, 214, 3, 172]
abbrev dktX6_isMet_2 : List UInt8 := dkwX6_isMet_2 ++ []
def dkwX6_isMet_1 : List UInt8 := [180, 0, 12, 27, 182, 0, 54, 192, 0, 58, 184, 0, 71, 153, 0, 5, 4, 172, 42, 180, 0, 18, 28, 46]
abbrev dktX6_isMet_1 : List UInt8 := dkwX6_isMet_1 ++ dktX6_isMet_2
def dkwX6_isMet_0 : List UInt8 := [42, 180, 0, 18, 27, 46, 61, 28, 2, 159, 0, 43, 42, 180, 0, 12, 28, 182, 0, 54, 192, 0, 58, 42]
abbrev dktX6_isMet_0 : List UInt8 := dkwX6_isMet_0 ++ dktX6_isMet_1
theorem dksX6_isMet_0 : cX6_isMet.data.toList.drop 0 = dktX6_isMet_0 := by decide +kernel
theorem dksX6_isMet_1 : cX6_isMet.data.toList.drop 24 = dktX6_isMet_1 := dk_seg dksX6_isMet_0 24 rfl rfl
theorem dksX6_isMet_2 : cX6_isMet.data.toList.drop 48 = dktX6_isMet_2 := dk_seg dksX6_isMet_1 24 rfl rfl
theorem dX6_isMet_0 : decode cX6_isMet 0 = .ok (.aload_n 0, 1) := dk_42 (dk_at dksX6_isMet_0 0 rfl rfl)
theorem dX6_isMet_1 : decode cX6_isMet 1 = .ok (.getfield 18, 3) := dk_180 0 18 (dk_at dksX6_isMet_0 1 rfl rfl)
theorem dX6_isMet_4 : decode cX6_isMet 4 = .ok (.iload_n 1, 1) := dk_27 (dk_at dksX6_isMet_0 4 rfl rfl)
theorem dX6_isMet_5 : decode cX6_isMet 5 = .ok (.iaload, 1) := dk_46 (dk_at dksX6_isMet_0 5 rfl rfl)
theorem dX6_isMet_6 : decode cX6_isMet 6 = .ok (.istore_n 2, 1) := dk_61 (dk_at dksX6_isMet_0 6 rfl rfl)
theorem dX6_isMet_7 : decode cX6_isMet 7 = .ok (.iload_n 2, 1) := dk_28 (dk_at dksX6_isMet_0 7 rfl rfl)
theorem dX6_isMet_8 : decode cX6_isMet 8 = .ok (.iconst (-1), 1) := dk_2 (dk_at dksX6_isMet_0 8 rfl rfl)
theorem dX6_isMet_9 : decode cX6_isMet 9 = .ok (.if_icmp .eq 43, 3) := dk_159 0 43 (dk_at dksX6_isMet_0 9 rfl rfl)
theorem dX6_isMet_12 : decode cX6_isMet 12 = .ok (.aload_n 0, 1) := dk_42 (dk_at dksX6_isMet_0 12 rfl rfl)
theorem dX6_isMet_13 : decode cX6_isMet 13 = .ok (.getfield 12, 3) := dk_180 0 12 (dk_at dksX6_isMet_0 13 rfl rfl)
theorem dX6_isMet_16 : decode cX6_isMet 16 = .ok (.iload_n 2, 1) := dk_28 (dk_at dksX6_isMet_0 16 rfl rfl)
theorem dX6_isMet_17 : decode cX6_isMet 17 = .ok (.invokevirtual 54, 3) := dk_182 0 54 (dk_at dksX6_isMet_0 17 rfl rfl)
theorem dX6_isMet_20 : decode cX6_isMet 20 = .ok (.checkcast 58, 3) := dk_192 0 58 (dk_at dksX6_isMet_0 20 rfl rfl)
theorem dX6_isMet_23 : decode cX6_isMet 23 = .ok (.aload_n 0, 1) := dk_42 (dk_at dksX6_isMet_0 23 rfl rfl)
theorem dX6_isMet_24 : decode cX6_isMet 24 = .ok (.getfield 12, 3) := dk_180 0 12 (dk_at dksX6_isMet_1 0 rfl rfl)
theorem dX6_isMet_27 : decode cX6_isMet 27 = .ok (.iload_n 1, 1) := dk_27 (dk_at dksX6_isMet_1 3 rfl rfl)
theorem dX6_isMet_28 : decode cX6_isMet 28 = .ok (.invokevirtual 54, 3) := dk_182 0 54 (dk_at dksX6_isMet_1 4 rfl rfl)
theorem dX6_isMet_31 : decode cX6_isMet 31 = .ok (.checkcast 58, 3) := dk_192 0 58 (dk_at dksX6_isMet_1 7 rfl rfl)
theorem dX6_isMet_34 : decode cX6_isMet 34 = .ok (.invokestatic 71, 3) := dk_184 0 71 (dk_at dksX6_isMet_1 10 rfl rfl)
theorem dX6_isMet_37 : decode cX6_isMet 37 = .ok (.ifCond .eq 5, 3) := dk_153 0 5 (dk_at dksX6_isMet_1 13 rfl rfl)
theorem dX6_isMet_40 : decode cX6_isMet 40 = .ok (.iconst 1, 1) := dk_4 (dk_at dksX6_isMet_1 16 rfl rfl)
theorem dX6_isMet_41 : decode cX6_isMet 41 = .ok (.ireturn, 1) := dk_172 (dk_at dksX6_isMet_1 17 rfl rfl)
theorem dX6_isMet_42 : decode cX6_isMet 42 = .ok (.aload_n 0, 1) := dk_42 (dk_at dksX6_isMet_1 18 rfl rfl)
theorem dX6_isMet_43 : decode cX6_isMet 43 = .ok (.getfield 18, 3) := dk_180 0 18 (dk_at dksX6_isMet_1 19 rfl rfl)
theorem dX6_isMet_46 : decode cX6_isMet 46 = .ok (.iload_n 2, 1) := dk_28 (dk_at dksX6_isMet_1 22 rfl rfl)
theorem dX6_isMet_47 : decode cX6_isMet 47 = .ok (.iaload, 1) := dk_46 (dk_at dksX6_isMet_1 23 rfl rfl)
theorem dX6_isMet_48 : decode cX6_isMet 48 = .ok (.istore_n 2, 1) := dk_61 (dk_at dksX6_isMet_2 0 rfl rfl)
theorem dX6_isMet_49 : decode cX6_isMet 49 = .ok (.goto (-42), 3) := dk_167 255 214 (dk_at dksX6_isMet_2 1 rfl rfl)
theorem dX6_isMet_52 : decode cX6_isMet 52 = .ok (.iconst 0, 1) := dk_3 (dk_at dksX6_isMet_2 4 rfl rfl)
theorem dX6_isMet_53 : decode cX6_isMet 53 = .ok (.ireturn, 1) := dk_172 (dk_at dksX6_isMet_2 5 rfl rfl)
abbrev cX6_enter : ByteArray := prog_4_method_3_code
def yX6_enter : MethodName := ⟨RX6, "enter", "([II)V"⟩
def dkwX6_enter_3 : List UInt8 := [182, 0, 22, 87, 177]
abbrev dktX6_enter_3 : List UInt8 := dkwX6_enter_3 ++ []
def dkwX6_enter_2 : List UInt8 := [181, 0, 30, 177, 42, 180, 0, 18, 42, 180, 0, 12, 182, 0, 26, 28, 79, 42, 180, 0, 12, 43]
abbrev dktX6_enter_2 : List UInt8 := dkwX6_enter_2 ++ dktX6_enter_3
def dkwX6_enter_1 : List UInt8 := [180, 0, 18, 29, 46, 62, 167, 255, 229, 42, 180, 0, 12, 182, 0, 26, 16, 20, 160, 0, 9, 42, 4]
abbrev dktX6_enter_1 : List UInt8 := dkwX6_enter_1 ++ dktX6_enter_2
def dkwX6_enter_0 : List UInt8 := [28, 62, 29, 2, 159, 0, 28, 43, 42, 180, 0, 12, 29, 182, 0, 54, 192, 0, 58, 184, 0, 75, 42]
abbrev dktX6_enter_0 : List UInt8 := dkwX6_enter_0 ++ dktX6_enter_1
theorem dksX6_enter_0 : cX6_enter.data.toList.drop 0 = dktX6_enter_0 := by decide +kernel
theorem dksX6_enter_1 : cX6_enter.data.toList.drop 23 = dktX6_enter_1 := dk_seg dksX6_enter_0 23 rfl rfl
theorem dksX6_enter_2 : cX6_enter.data.toList.drop 46 = dktX6_enter_2 := dk_seg dksX6_enter_1 23 rfl rfl
theorem dksX6_enter_3 : cX6_enter.data.toList.drop 68 = dktX6_enter_3 := dk_seg dksX6_enter_2 22 rfl rfl
theorem dX6_enter_0 : decode cX6_enter 0 = .ok (.iload_n 2, 1) := dk_28 (dk_at dksX6_enter_0 0 rfl rfl)
theorem dX6_enter_1 : decode cX6_enter 1 = .ok (.istore_n 3, 1) := dk_62 (dk_at dksX6_enter_0 1 rfl rfl)
theorem dX6_enter_2 : decode cX6_enter 2 = .ok (.iload_n 3, 1) := dk_29 (dk_at dksX6_enter_0 2 rfl rfl)
theorem dX6_enter_3 : decode cX6_enter 3 = .ok (.iconst (-1), 1) := dk_2 (dk_at dksX6_enter_0 3 rfl rfl)
theorem dX6_enter_4 : decode cX6_enter 4 = .ok (.if_icmp .eq 28, 3) := dk_159 0 28 (dk_at dksX6_enter_0 4 rfl rfl)
theorem dX6_enter_7 : decode cX6_enter 7 = .ok (.aload_n 1, 1) := dk_43 (dk_at dksX6_enter_0 7 rfl rfl)
theorem dX6_enter_8 : decode cX6_enter 8 = .ok (.aload_n 0, 1) := dk_42 (dk_at dksX6_enter_0 8 rfl rfl)
theorem dX6_enter_9 : decode cX6_enter 9 = .ok (.getfield 12, 3) := dk_180 0 12 (dk_at dksX6_enter_0 9 rfl rfl)
theorem dX6_enter_12 : decode cX6_enter 12 = .ok (.iload_n 3, 1) := dk_29 (dk_at dksX6_enter_0 12 rfl rfl)
theorem dX6_enter_13 : decode cX6_enter 13 = .ok (.invokevirtual 54, 3) := dk_182 0 54 (dk_at dksX6_enter_0 13 rfl rfl)
theorem dX6_enter_16 : decode cX6_enter 16 = .ok (.checkcast 58, 3) := dk_192 0 58 (dk_at dksX6_enter_0 16 rfl rfl)
theorem dX6_enter_19 : decode cX6_enter 19 = .ok (.invokestatic 75, 3) := dk_184 0 75 (dk_at dksX6_enter_0 19 rfl rfl)
theorem dX6_enter_22 : decode cX6_enter 22 = .ok (.aload_n 0, 1) := dk_42 (dk_at dksX6_enter_0 22 rfl rfl)
theorem dX6_enter_23 : decode cX6_enter 23 = .ok (.getfield 18, 3) := dk_180 0 18 (dk_at dksX6_enter_1 0 rfl rfl)
theorem dX6_enter_26 : decode cX6_enter 26 = .ok (.iload_n 3, 1) := dk_29 (dk_at dksX6_enter_1 3 rfl rfl)
theorem dX6_enter_27 : decode cX6_enter 27 = .ok (.iaload, 1) := dk_46 (dk_at dksX6_enter_1 4 rfl rfl)
theorem dX6_enter_28 : decode cX6_enter 28 = .ok (.istore_n 3, 1) := dk_62 (dk_at dksX6_enter_1 5 rfl rfl)
theorem dX6_enter_29 : decode cX6_enter 29 = .ok (.goto (-27), 3) := dk_167 255 229 (dk_at dksX6_enter_1 6 rfl rfl)
theorem dX6_enter_32 : decode cX6_enter 32 = .ok (.aload_n 0, 1) := dk_42 (dk_at dksX6_enter_1 9 rfl rfl)
theorem dX6_enter_33 : decode cX6_enter 33 = .ok (.getfield 12, 3) := dk_180 0 12 (dk_at dksX6_enter_1 10 rfl rfl)
theorem dX6_enter_36 : decode cX6_enter 36 = .ok (.invokevirtual 26, 3) := dk_182 0 26 (dk_at dksX6_enter_1 13 rfl rfl)
theorem dX6_enter_39 : decode cX6_enter 39 = .ok (.bipush 20, 2) := dk_16 20 (dk_at dksX6_enter_1 16 rfl rfl)
theorem dX6_enter_41 : decode cX6_enter 41 = .ok (.if_icmp .ne 9, 3) := dk_160 0 9 (dk_at dksX6_enter_1 18 rfl rfl)
theorem dX6_enter_44 : decode cX6_enter 44 = .ok (.aload_n 0, 1) := dk_42 (dk_at dksX6_enter_1 21 rfl rfl)
theorem dX6_enter_45 : decode cX6_enter 45 = .ok (.iconst 1, 1) := dk_4 (dk_at dksX6_enter_1 22 rfl rfl)
theorem dX6_enter_46 : decode cX6_enter 46 = .ok (.putfield 30, 3) := dk_181 0 30 (dk_at dksX6_enter_2 0 rfl rfl)
theorem dX6_enter_49 : decode cX6_enter 49 = .ok (.return_, 1) := dk_177 (dk_at dksX6_enter_2 3 rfl rfl)
theorem dX6_enter_50 : decode cX6_enter 50 = .ok (.aload_n 0, 1) := dk_42 (dk_at dksX6_enter_2 4 rfl rfl)
theorem dX6_enter_51 : decode cX6_enter 51 = .ok (.getfield 18, 3) := dk_180 0 18 (dk_at dksX6_enter_2 5 rfl rfl)
theorem dX6_enter_54 : decode cX6_enter 54 = .ok (.aload_n 0, 1) := dk_42 (dk_at dksX6_enter_2 8 rfl rfl)
theorem dX6_enter_55 : decode cX6_enter 55 = .ok (.getfield 12, 3) := dk_180 0 12 (dk_at dksX6_enter_2 9 rfl rfl)
theorem dX6_enter_58 : decode cX6_enter 58 = .ok (.invokevirtual 26, 3) := dk_182 0 26 (dk_at dksX6_enter_2 12 rfl rfl)
theorem dX6_enter_61 : decode cX6_enter 61 = .ok (.iload_n 2, 1) := dk_28 (dk_at dksX6_enter_2 15 rfl rfl)
theorem dX6_enter_62 : decode cX6_enter 62 = .ok (.iastore, 1) := dk_79 (dk_at dksX6_enter_2 16 rfl rfl)
theorem dX6_enter_63 : decode cX6_enter 63 = .ok (.aload_n 0, 1) := dk_42 (dk_at dksX6_enter_2 17 rfl rfl)
theorem dX6_enter_64 : decode cX6_enter 64 = .ok (.getfield 12, 3) := dk_180 0 12 (dk_at dksX6_enter_2 18 rfl rfl)
theorem dX6_enter_67 : decode cX6_enter 67 = .ok (.aload_n 1, 1) := dk_43 (dk_at dksX6_enter_2 21 rfl rfl)
theorem dX6_enter_68 : decode cX6_enter 68 = .ok (.invokevirtual 22, 3) := dk_182 0 22 (dk_at dksX6_enter_3 0 rfl rfl)
theorem dX6_enter_71 : decode cX6_enter 71 = .ok (.pop, 1) := dk_87 (dk_at dksX6_enter_3 3 rfl rfl)
theorem dX6_enter_72 : decode cX6_enter 72 = .ok (.return_, 1) := dk_177 (dk_at dksX6_enter_3 4 rfl rfl)
abbrev cX6_grow : ByteArray := prog_4_method_4_code
def yX6_grow : MethodName := ⟨RX6, "grow", "([I[I)V"⟩
def dkwX6_grow_2 : List UInt8 := [132, 2, 1, 167, 255, 233, 177]
abbrev dktX6_grow_2 : List UInt8 := dkwX6_grow_2 ++ []
def dkwX6_grow_1 : List UInt8 := [3, 61, 28, 42, 190, 162, 0, 23, 43, 28, 46, 42, 28, 46, 162, 0, 8, 42, 28, 18, 79, 79]
abbrev dktX6_grow_1 : List UInt8 := dkwX6_grow_1 ++ dktX6_grow_2
def dkwX6_grow_0 : List UInt8 := [3, 61, 28, 42, 190, 162, 0, 19, 43, 28, 46, 42, 28, 46, 164, 0, 4, 177, 132, 2, 1, 167, 255, 237]
abbrev dktX6_grow_0 : List UInt8 := dkwX6_grow_0 ++ dktX6_grow_1
theorem dksX6_grow_0 : cX6_grow.data.toList.drop 0 = dktX6_grow_0 := by decide +kernel
theorem dksX6_grow_1 : cX6_grow.data.toList.drop 24 = dktX6_grow_1 := dk_seg dksX6_grow_0 24 rfl rfl
theorem dksX6_grow_2 : cX6_grow.data.toList.drop 46 = dktX6_grow_2 := dk_seg dksX6_grow_1 22 rfl rfl
theorem dX6_grow_0 : decode cX6_grow 0 = .ok (.iconst 0, 1) := dk_3 (dk_at dksX6_grow_0 0 rfl rfl)
theorem dX6_grow_1 : decode cX6_grow 1 = .ok (.istore_n 2, 1) := dk_61 (dk_at dksX6_grow_0 1 rfl rfl)
theorem dX6_grow_2 : decode cX6_grow 2 = .ok (.iload_n 2, 1) := dk_28 (dk_at dksX6_grow_0 2 rfl rfl)
theorem dX6_grow_3 : decode cX6_grow 3 = .ok (.aload_n 0, 1) := dk_42 (dk_at dksX6_grow_0 3 rfl rfl)
theorem dX6_grow_4 : decode cX6_grow 4 = .ok (.arraylength, 1) := dk_190 (dk_at dksX6_grow_0 4 rfl rfl)
theorem dX6_grow_5 : decode cX6_grow 5 = .ok (.if_icmp .ge 19, 3) := dk_162 0 19 (dk_at dksX6_grow_0 5 rfl rfl)
theorem dX6_grow_8 : decode cX6_grow 8 = .ok (.aload_n 1, 1) := dk_43 (dk_at dksX6_grow_0 8 rfl rfl)
theorem dX6_grow_9 : decode cX6_grow 9 = .ok (.iload_n 2, 1) := dk_28 (dk_at dksX6_grow_0 9 rfl rfl)
theorem dX6_grow_10 : decode cX6_grow 10 = .ok (.iaload, 1) := dk_46 (dk_at dksX6_grow_0 10 rfl rfl)
theorem dX6_grow_11 : decode cX6_grow 11 = .ok (.aload_n 0, 1) := dk_42 (dk_at dksX6_grow_0 11 rfl rfl)
theorem dX6_grow_12 : decode cX6_grow 12 = .ok (.iload_n 2, 1) := dk_28 (dk_at dksX6_grow_0 12 rfl rfl)
theorem dX6_grow_13 : decode cX6_grow 13 = .ok (.iaload, 1) := dk_46 (dk_at dksX6_grow_0 13 rfl rfl)
theorem dX6_grow_14 : decode cX6_grow 14 = .ok (.if_icmp .le 4, 3) := dk_164 0 4 (dk_at dksX6_grow_0 14 rfl rfl)
theorem dX6_grow_17 : decode cX6_grow 17 = .ok (.return_, 1) := dk_177 (dk_at dksX6_grow_0 17 rfl rfl)
theorem dX6_grow_18 : decode cX6_grow 18 = .ok (.iinc 2 1, 3) := dk_132 2 1 (dk_at dksX6_grow_0 18 rfl rfl)
theorem dX6_grow_21 : decode cX6_grow 21 = .ok (.goto (-19), 3) := dk_167 255 237 (dk_at dksX6_grow_0 21 rfl rfl)
theorem dX6_grow_24 : decode cX6_grow 24 = .ok (.iconst 0, 1) := dk_3 (dk_at dksX6_grow_1 0 rfl rfl)
theorem dX6_grow_25 : decode cX6_grow 25 = .ok (.istore_n 2, 1) := dk_61 (dk_at dksX6_grow_1 1 rfl rfl)
theorem dX6_grow_26 : decode cX6_grow 26 = .ok (.iload_n 2, 1) := dk_28 (dk_at dksX6_grow_1 2 rfl rfl)
theorem dX6_grow_27 : decode cX6_grow 27 = .ok (.aload_n 0, 1) := dk_42 (dk_at dksX6_grow_1 3 rfl rfl)
theorem dX6_grow_28 : decode cX6_grow 28 = .ok (.arraylength, 1) := dk_190 (dk_at dksX6_grow_1 4 rfl rfl)
theorem dX6_grow_29 : decode cX6_grow 29 = .ok (.if_icmp .ge 23, 3) := dk_162 0 23 (dk_at dksX6_grow_1 5 rfl rfl)
theorem dX6_grow_32 : decode cX6_grow 32 = .ok (.aload_n 1, 1) := dk_43 (dk_at dksX6_grow_1 8 rfl rfl)
theorem dX6_grow_33 : decode cX6_grow 33 = .ok (.iload_n 2, 1) := dk_28 (dk_at dksX6_grow_1 9 rfl rfl)
theorem dX6_grow_34 : decode cX6_grow 34 = .ok (.iaload, 1) := dk_46 (dk_at dksX6_grow_1 10 rfl rfl)
theorem dX6_grow_35 : decode cX6_grow 35 = .ok (.aload_n 0, 1) := dk_42 (dk_at dksX6_grow_1 11 rfl rfl)
theorem dX6_grow_36 : decode cX6_grow 36 = .ok (.iload_n 2, 1) := dk_28 (dk_at dksX6_grow_1 12 rfl rfl)
theorem dX6_grow_37 : decode cX6_grow 37 = .ok (.iaload, 1) := dk_46 (dk_at dksX6_grow_1 13 rfl rfl)
theorem dX6_grow_38 : decode cX6_grow 38 = .ok (.if_icmp .ge 8, 3) := dk_162 0 8 (dk_at dksX6_grow_1 14 rfl rfl)
theorem dX6_grow_41 : decode cX6_grow 41 = .ok (.aload_n 0, 1) := dk_42 (dk_at dksX6_grow_1 17 rfl rfl)
theorem dX6_grow_42 : decode cX6_grow 42 = .ok (.iload_n 2, 1) := dk_28 (dk_at dksX6_grow_1 18 rfl rfl)
theorem dX6_grow_43 : decode cX6_grow 43 = .ok (.ldc 79, 2) := dk_18 79 (dk_at dksX6_grow_1 19 rfl rfl)
theorem dX6_grow_45 : decode cX6_grow 45 = .ok (.iastore, 1) := dk_79 (dk_at dksX6_grow_1 21 rfl rfl)
theorem dX6_grow_46 : decode cX6_grow 46 = .ok (.iinc 2 1, 3) := dk_132 2 1 (dk_at dksX6_grow_2 0 rfl rfl)
theorem dX6_grow_49 : decode cX6_grow 49 = .ok (.goto (-23), 3) := dk_167 255 233 (dk_at dksX6_grow_2 3 rfl rfl)
theorem dX6_grow_52 : decode cX6_grow 52 = .ok (.return_, 1) := dk_177 (dk_at dksX6_grow_2 6 rfl rfl)
abbrev cX6_manies : ByteArray := prog_4_method_6_code
def yX6_manies : MethodName := ⟨RX6, "manies", "(I)I"⟩
def dkwX6_manies_1 : List UInt8 := [3, 184, 0, 90, 29, 120, 128, 61, 132, 3, 1, 167, 255, 225, 28, 172]
abbrev dktX6_manies_1 : List UInt8 := dkwX6_manies_1 ++ []
def dkwX6_manies_0 : List UInt8 := [3, 61, 3, 62, 29, 27, 162, 0, 32, 28, 42, 29, 182, 0, 86, 18, 79, 160, 0, 7, 4, 167, 0, 4]
abbrev dktX6_manies_0 : List UInt8 := dkwX6_manies_0 ++ dktX6_manies_1
theorem dksX6_manies_0 : cX6_manies.data.toList.drop 0 = dktX6_manies_0 := by decide +kernel
theorem dksX6_manies_1 : cX6_manies.data.toList.drop 24 = dktX6_manies_1 := dk_seg dksX6_manies_0 24 rfl rfl
theorem dX6_manies_0 : decode cX6_manies 0 = .ok (.iconst 0, 1) := dk_3 (dk_at dksX6_manies_0 0 rfl rfl)
theorem dX6_manies_1 : decode cX6_manies 1 = .ok (.istore_n 2, 1) := dk_61 (dk_at dksX6_manies_0 1 rfl rfl)
theorem dX6_manies_2 : decode cX6_manies 2 = .ok (.iconst 0, 1) := dk_3 (dk_at dksX6_manies_0 2 rfl rfl)
theorem dX6_manies_3 : decode cX6_manies 3 = .ok (.istore_n 3, 1) := dk_62 (dk_at dksX6_manies_0 3 rfl rfl)
theorem dX6_manies_4 : decode cX6_manies 4 = .ok (.iload_n 3, 1) := dk_29 (dk_at dksX6_manies_0 4 rfl rfl)
theorem dX6_manies_5 : decode cX6_manies 5 = .ok (.iload_n 1, 1) := dk_27 (dk_at dksX6_manies_0 5 rfl rfl)
theorem dX6_manies_6 : decode cX6_manies 6 = .ok (.if_icmp .ge 32, 3) := dk_162 0 32 (dk_at dksX6_manies_0 6 rfl rfl)
theorem dX6_manies_9 : decode cX6_manies 9 = .ok (.iload_n 2, 1) := dk_28 (dk_at dksX6_manies_0 9 rfl rfl)
theorem dX6_manies_10 : decode cX6_manies 10 = .ok (.aload_n 0, 1) := dk_42 (dk_at dksX6_manies_0 10 rfl rfl)
theorem dX6_manies_11 : decode cX6_manies 11 = .ok (.iload_n 3, 1) := dk_29 (dk_at dksX6_manies_0 11 rfl rfl)
theorem dX6_manies_12 : decode cX6_manies 12 = .ok (.invokevirtual 86, 3) := dk_182 0 86 (dk_at dksX6_manies_0 12 rfl rfl)
theorem dX6_manies_15 : decode cX6_manies 15 = .ok (.ldc 79, 2) := dk_18 79 (dk_at dksX6_manies_0 15 rfl rfl)
theorem dX6_manies_17 : decode cX6_manies 17 = .ok (.if_icmp .ne 7, 3) := dk_160 0 7 (dk_at dksX6_manies_0 17 rfl rfl)
theorem dX6_manies_20 : decode cX6_manies 20 = .ok (.iconst 1, 1) := dk_4 (dk_at dksX6_manies_0 20 rfl rfl)
theorem dX6_manies_21 : decode cX6_manies 21 = .ok (.goto 4, 3) := dk_167 0 4 (dk_at dksX6_manies_0 21 rfl rfl)
theorem dX6_manies_24 : decode cX6_manies 24 = .ok (.iconst 0, 1) := dk_3 (dk_at dksX6_manies_1 0 rfl rfl)
theorem dX6_manies_25 : decode cX6_manies 25 = .ok (.invokestatic 90, 3) := dk_184 0 90 (dk_at dksX6_manies_1 1 rfl rfl)
theorem dX6_manies_28 : decode cX6_manies 28 = .ok (.iload_n 3, 1) := dk_29 (dk_at dksX6_manies_1 4 rfl rfl)
theorem dX6_manies_29 : decode cX6_manies 29 = .ok (.ishl, 1) := dk_120 (dk_at dksX6_manies_1 5 rfl rfl)
theorem dX6_manies_30 : decode cX6_manies 30 = .ok (.ior, 1) := dk_128 (dk_at dksX6_manies_1 6 rfl rfl)
theorem dX6_manies_31 : decode cX6_manies 31 = .ok (.istore_n 2, 1) := dk_61 (dk_at dksX6_manies_1 7 rfl rfl)
theorem dX6_manies_32 : decode cX6_manies 32 = .ok (.iinc 3 1, 3) := dk_132 3 1 (dk_at dksX6_manies_1 8 rfl rfl)
theorem dX6_manies_35 : decode cX6_manies 35 = .ok (.goto (-31), 3) := dk_167 255 225 (dk_at dksX6_manies_1 11 rfl rfl)
theorem dX6_manies_38 : decode cX6_manies 38 = .ok (.iload_n 2, 1) := dk_28 (dk_at dksX6_manies_1 14 rfl rfl)
theorem dX6_manies_39 : decode cX6_manies 39 = .ok (.ireturn, 1) := dk_172 (dk_at dksX6_manies_1 15 rfl rfl)
abbrev cX6_most : ByteArray := prog_4_method_5_code
def yX6_most : MethodName := ⟨RX6, "most", "(I)I"⟩
def dkwX6_most_1 : List UInt8 := [185, 0, 48, 1, 0, 192, 0, 58, 58, 4, 28, 25, 4, 27, 46, 184, 0, 80, 61, 167, 255, 227, 28, 172]
abbrev dktX6_most_1 : List UInt8 := dkwX6_most_1 ++ []
def dkwX6_most_0 : List UInt8 := [3, 61, 42, 180, 0, 12, 182, 0, 38, 78, 45, 185, 0, 42, 1, 0, 153, 0, 26, 45]
abbrev dktX6_most_0 : List UInt8 := dkwX6_most_0 ++ dktX6_most_1
theorem dksX6_most_0 : cX6_most.data.toList.drop 0 = dktX6_most_0 := by decide +kernel
theorem dksX6_most_1 : cX6_most.data.toList.drop 20 = dktX6_most_1 := dk_seg dksX6_most_0 20 rfl rfl
theorem dX6_most_0 : decode cX6_most 0 = .ok (.iconst 0, 1) := dk_3 (dk_at dksX6_most_0 0 rfl rfl)
theorem dX6_most_1 : decode cX6_most 1 = .ok (.istore_n 2, 1) := dk_61 (dk_at dksX6_most_0 1 rfl rfl)
theorem dX6_most_2 : decode cX6_most 2 = .ok (.aload_n 0, 1) := dk_42 (dk_at dksX6_most_0 2 rfl rfl)
theorem dX6_most_3 : decode cX6_most 3 = .ok (.getfield 12, 3) := dk_180 0 12 (dk_at dksX6_most_0 3 rfl rfl)
theorem dX6_most_6 : decode cX6_most 6 = .ok (.invokevirtual 38, 3) := dk_182 0 38 (dk_at dksX6_most_0 6 rfl rfl)
theorem dX6_most_9 : decode cX6_most 9 = .ok (.astore_n 3, 1) := dk_78 (dk_at dksX6_most_0 9 rfl rfl)
theorem dX6_most_10 : decode cX6_most 10 = .ok (.aload_n 3, 1) := dk_45 (dk_at dksX6_most_0 10 rfl rfl)
theorem dX6_most_11 : decode cX6_most 11 = .ok (.invokeinterface 42 1, 5) := by decide +kernel
theorem dX6_most_16 : decode cX6_most 16 = .ok (.ifCond .eq 26, 3) := dk_153 0 26 (dk_at dksX6_most_0 16 rfl rfl)
theorem dX6_most_19 : decode cX6_most 19 = .ok (.aload_n 3, 1) := dk_45 (dk_at dksX6_most_0 19 rfl rfl)
theorem dX6_most_20 : decode cX6_most 20 = .ok (.invokeinterface 48 1, 5) := by decide +kernel
theorem dX6_most_25 : decode cX6_most 25 = .ok (.checkcast 58, 3) := dk_192 0 58 (dk_at dksX6_most_1 5 rfl rfl)
theorem dX6_most_28 : decode cX6_most 28 = .ok (.astore 4, 2) := dk_58 4 (dk_at dksX6_most_1 8 rfl rfl)
theorem dX6_most_30 : decode cX6_most 30 = .ok (.iload_n 2, 1) := dk_28 (dk_at dksX6_most_1 10 rfl rfl)
theorem dX6_most_31 : decode cX6_most 31 = .ok (.aload 4, 2) := dk_25 4 (dk_at dksX6_most_1 11 rfl rfl)
theorem dX6_most_33 : decode cX6_most 33 = .ok (.iload_n 1, 1) := dk_27 (dk_at dksX6_most_1 13 rfl rfl)
theorem dX6_most_34 : decode cX6_most 34 = .ok (.iaload, 1) := dk_46 (dk_at dksX6_most_1 14 rfl rfl)
theorem dX6_most_35 : decode cX6_most 35 = .ok (.invokestatic 80, 3) := dk_184 0 80 (dk_at dksX6_most_1 15 rfl rfl)
theorem dX6_most_38 : decode cX6_most 38 = .ok (.istore_n 2, 1) := dk_61 (dk_at dksX6_most_1 18 rfl rfl)
theorem dX6_most_39 : decode cX6_most 39 = .ok (.goto (-29), 3) := dk_167 255 227 (dk_at dksX6_most_1 19 rfl rfl)
theorem dX6_most_42 : decode cX6_most 42 = .ok (.iload_n 2, 1) := dk_28 (dk_at dksX6_most_1 22 rfl rfl)
theorem dX6_most_43 : decode cX6_most 43 = .ok (.ireturn, 1) := dk_172 (dk_at dksX6_most_1 23 rfl rfl)
theorem q111 : (Jvm.Cond.initialized "Pebblegate$Tree") ∈ lw_all := lw_g (lw_at lw_m1 40 rfl) rfl
theorem q271 : (Jvm.Cond.selects "Pebblegate$Tree" ({ cls := "java/lang/Object", name := "getClass", desc := "()Ljava/lang/Class;" } : Jvm.MethodName) ({ cls := "java/lang/Object", name := "getClass", desc := "()Ljava/lang/Class;" } : Jvm.MethodName)) ∈ lw_all := lw_g (lw_at lw_m1 200 rfl) rfl
theorem q1186 : (Jvm.Cond.instantiable "Pebblegate$Tree" (3 : Nat)) ∈ lw_all := lw_g (lw_at lw_m5 155 rfl) rfl
theorem q1188 : (Jvm.Cond.instanceMethod ({ cls := "Pebblegate$Tree", name := "<init>", desc := "([ILjava/util/ArrayList;)V" } : Jvm.MethodName)) ∈ lw_all := lw_g (lw_at lw_m5 157 rfl) rfl
theorem q1189 : (Jvm.Cond.code ({ cls := "Pebblegate$Tree", name := "<init>", desc := "([ILjava/util/ArrayList;)V" } : Jvm.MethodName) prog_4_method_1_code (6 : Nat) (Option.none : Option Jvm.ClassFile.FieldType)) ∈ lw_all := lw_g (lw_at lw_m5 158 rfl) rfl
theorem q1190 : (Jvm.Cond.methodLink "Pebblegate$Tree" (3 : Nat) ({ cls := "java/lang/Object", name := "<init>", desc := "()V" } : Jvm.MethodName)) ∈ lw_all := lw_g (lw_at lw_m5 159 rfl) rfl
theorem q1191 : (Jvm.Cond.classLink "Pebblegate$Tree" (9 : Nat) "java/util/ArrayList") ∈ lw_all := lw_g (lw_at lw_m5 160 rfl) rfl
theorem q1192 : (Jvm.Cond.methodLink "Pebblegate$Tree" (11 : Nat) ({ cls := "java/util/ArrayList", name := "<init>", desc := "()V" } : Jvm.MethodName)) ∈ lw_all := lw_g (lw_at lw_m5 161 rfl) rfl
theorem q1193 : (Jvm.Cond.methodLink "Pebblegate$Tree" (22 : Nat) ({ cls := "java/util/ArrayList", name := "add", desc := "(Ljava/lang/Object;)Z" } : Jvm.MethodName)) ∈ lw_all := lw_g (lw_at lw_m5 162 rfl) rfl
theorem q1194 : (Jvm.Cond.methodLink "Pebblegate$Tree" (26 : Nat) ({ cls := "java/util/ArrayList", name := "size", desc := "()I" } : Jvm.MethodName)) ∈ lw_all := lw_g (lw_at lw_m5 163 rfl) rfl
theorem q1195 : (Jvm.Cond.methodLink "Pebblegate$Tree" (34 : Nat) ({ cls := "Pebblegate$Tree", name := "isMet", desc := "(I)Z" } : Jvm.MethodName)) ∈ lw_all := lw_g (lw_at lw_m5 164 rfl) rfl
theorem q1196 : (Jvm.Cond.privateMethod ({ cls := "Pebblegate$Tree", name := "isMet", desc := "(I)Z" } : Jvm.MethodName)) ∈ lw_tbl := lw_at lw_m5 165 rfl
theorem q1197 : (Jvm.Cond.instanceMethod ({ cls := "Pebblegate$Tree", name := "isMet", desc := "(I)Z" } : Jvm.MethodName)) ∈ lw_all := lw_g (lw_at lw_m5 166 rfl) rfl
theorem q1198 : (Jvm.Cond.code ({ cls := "Pebblegate$Tree", name := "isMet", desc := "(I)Z" } : Jvm.MethodName) prog_4_method_2_code (3 : Nat) (Option.some Jvm.ClassFile.FieldType.boolean)) ∈ lw_all := lw_g (lw_at lw_m5 167 rfl) rfl
theorem q1199 : (Jvm.Cond.methodLink "Pebblegate$Tree" (54 : Nat) ({ cls := "java/util/ArrayList", name := "get", desc := "(I)Ljava/lang/Object;" } : Jvm.MethodName)) ∈ lw_all := lw_g (lw_at lw_m5 168 rfl) rfl
theorem q1200 : (Jvm.Cond.classLink "Pebblegate$Tree" (58 : Nat) "[I") ∈ lw_all := lw_g (lw_at lw_m5 169 rfl) rfl
theorem q1201 : (Jvm.Cond.methodLinkNest "Pebblegate$Tree" (71 : Nat) ({ cls := "Pebblegate", name := "isSame", desc := "([I[I)Z" } : Jvm.MethodName) "Pebblegate") ∈ lw_tbl := lw_at lw_m5 170 rfl
theorem q1204 : (Jvm.Cond.methodLink "Pebblegate$Tree" (38 : Nat) ({ cls := "java/util/ArrayList", name := "iterator", desc := "()Ljava/util/Iterator;" } : Jvm.MethodName)) ∈ lw_all := lw_g (lw_at lw_m5 173 rfl) rfl
theorem q1227 : (Jvm.Cond.interfaceEntry "Pebblegate$Tree" (42 : Nat)) ∈ lw_tbl := lw_at lw_m5 196 rfl
theorem q1228 : (Jvm.Cond.methodLink "Pebblegate$Tree" (42 : Nat) ({ cls := "java/util/Iterator", name := "hasNext", desc := "()Z" } : Jvm.MethodName)) ∈ lw_all := lw_g (lw_at lw_m5 197 rfl) rfl
theorem q1243 : (Jvm.Cond.interfaceEntry "Pebblegate$Tree" (48 : Nat)) ∈ lw_tbl := lw_at lw_m5 212 rfl
theorem q1244 : (Jvm.Cond.methodLink "Pebblegate$Tree" (48 : Nat) ({ cls := "java/util/Iterator", name := "next", desc := "()Ljava/lang/Object;" } : Jvm.MethodName)) ∈ lw_all := lw_g (lw_at lw_m5 213 rfl) rfl
theorem q1270 : (Jvm.Cond.classLink "Pebblegate$Tree" (52 : Nat) "Pebblegate$Step") ∈ lw_all := lw_g (lw_at lw_m5 239 rfl) rfl
theorem q1271 : (Jvm.Cond.methodLink "Pebblegate$Tree" (59 : Nat) ({ cls := "Pebblegate$Step", name := "can", desc := "([I)Z" } : Jvm.MethodName)) ∈ lw_all := lw_g (lw_at lw_m6 0 rfl) rfl
theorem q1272 : (Jvm.Cond.methodLink "Pebblegate$Tree" (63 : Nat) ({ cls := "Pebblegate$Step", name := "go", desc := "([I)[I" } : Jvm.MethodName)) ∈ lw_all := lw_g (lw_at lw_m6 1 rfl) rfl
theorem q1273 : (Jvm.Cond.methodLink "Pebblegate$Tree" (67 : Nat) ({ cls := "Pebblegate$Tree", name := "enter", desc := "([II)V" } : Jvm.MethodName)) ∈ lw_all := lw_g (lw_at lw_m6 2 rfl) rfl
theorem q1274 : (Jvm.Cond.privateMethod ({ cls := "Pebblegate$Tree", name := "enter", desc := "([II)V" } : Jvm.MethodName)) ∈ lw_tbl := lw_at lw_m6 3 rfl
theorem q1275 : (Jvm.Cond.instanceMethod ({ cls := "Pebblegate$Tree", name := "enter", desc := "([II)V" } : Jvm.MethodName)) ∈ lw_all := lw_g (lw_at lw_m6 4 rfl) rfl
theorem q1276 : (Jvm.Cond.code ({ cls := "Pebblegate$Tree", name := "enter", desc := "([II)V" } : Jvm.MethodName) prog_4_method_3_code (4 : Nat) (Option.none : Option Jvm.ClassFile.FieldType)) ∈ lw_all := lw_g (lw_at lw_m6 5 rfl) rfl
theorem q1277 : (Jvm.Cond.methodLink "Pebblegate$Tree" (75 : Nat) ({ cls := "Pebblegate$Tree", name := "grow", desc := "([I[I)V" } : Jvm.MethodName)) ∈ lw_all := lw_g (lw_at lw_m6 6 rfl) rfl
theorem q1278 : (Jvm.Cond.static ({ cls := "Pebblegate$Tree", name := "grow", desc := "([I[I)V" } : Jvm.MethodName)) ∈ lw_all := lw_g (lw_at lw_m6 7 rfl) rfl
theorem q1279 : (Jvm.Cond.code ({ cls := "Pebblegate$Tree", name := "grow", desc := "([I[I)V" } : Jvm.MethodName) prog_4_method_4_code (3 : Nat) (Option.none : Option Jvm.ClassFile.FieldType)) ∈ lw_all := lw_g (lw_at lw_m6 8 rfl) rfl
theorem q1280 : (Jvm.Cond.constant "Pebblegate$Tree" (79 : Nat) (1048576 : Int32)) ∈ lw_all := lw_g (lw_at lw_m6 9 rfl) rfl
theorem q1281 : (Jvm.Cond.fieldLink "Pebblegate$Tree" (12 : Nat) "Pebblegate$Tree" "all" "Ljava/util/ArrayList;") ∈ lw_all := lw_g (lw_at lw_m6 10 rfl) rfl
theorem q1283 : (Jvm.Cond.fieldLink "Pebblegate$Tree" (18 : Nat) "Pebblegate$Tree" "ups" "[I") ∈ lw_all := lw_g (lw_at lw_m6 12 rfl) rfl
theorem q1284 : (Jvm.Cond.fieldLink "Pebblegate$Tree" (30 : Nat) "Pebblegate$Tree" "isWide" "Z") ∈ lw_all := lw_g (lw_at lw_m6 13 rfl) rfl
theorem q1286 : (Jvm.Cond.laysFinal "Pebblegate$Tree" "Pebblegate$Tree" "all" "Ljava/util/ArrayList;") ∈ lw_all := lw_g (lw_at lw_m6 15 rfl) rfl
theorem q1287 : (Jvm.Cond.soleField "Pebblegate$Tree" "all") ∈ lw_all := lw_g (lw_at lw_m6 16 rfl) rfl
theorem q1288 : (Jvm.Cond.laysFinal "Pebblegate$Tree" "Pebblegate$Tree" "ups" "[I") ∈ lw_all := lw_g (lw_at lw_m6 17 rfl) rfl
theorem q1289 : (Jvm.Cond.soleField "Pebblegate$Tree" "ups") ∈ lw_all := lw_g (lw_at lw_m6 18 rfl) rfl
theorem q1290 : (Jvm.Cond.lays "Pebblegate$Tree" "Pebblegate$Tree" "isWide" "Z") ∈ lw_all := lw_g (lw_at lw_m6 19 rfl) rfl
theorem q1291 : (Jvm.Cond.soleField "Pebblegate$Tree" "isWide") ∈ lw_all := lw_g (lw_at lw_m6 20 rfl) rfl
theorem q1292 : (Jvm.Cond.superclass "Pebblegate$Tree" "java/lang/Object") ∈ lw_all := lw_g (lw_at lw_m6 21 rfl) rfl
theorem q1298 : (Jvm.Cond.instanceMethod ({ cls := "Pebblegate$Tree", name := "manies", desc := "(I)I" } : Jvm.MethodName)) ∈ lw_all := lw_g (lw_at lw_m6 27 rfl) rfl
theorem q1299 : (Jvm.Cond.selects "Pebblegate$Tree" ({ cls := "Pebblegate$Tree", name := "manies", desc := "(I)I" } : Jvm.MethodName) ({ cls := "Pebblegate$Tree", name := "manies", desc := "(I)I" } : Jvm.MethodName)) ∈ lw_all := lw_g (lw_at lw_m6 28 rfl) rfl
theorem q1300 : (Jvm.Cond.code ({ cls := "Pebblegate$Tree", name := "manies", desc := "(I)I" } : Jvm.MethodName) prog_4_method_6_code (4 : Nat) (Option.some Jvm.ClassFile.FieldType.int)) ∈ lw_all := lw_g (lw_at lw_m6 29 rfl) rfl
theorem q1301 : (Jvm.Cond.methodLink "Pebblegate$Tree" (86 : Nat) ({ cls := "Pebblegate$Tree", name := "most", desc := "(I)I" } : Jvm.MethodName)) ∈ lw_all := lw_g (lw_at lw_m6 30 rfl) rfl
theorem q1302 : (Jvm.Cond.instanceMethod ({ cls := "Pebblegate$Tree", name := "most", desc := "(I)I" } : Jvm.MethodName)) ∈ lw_all := lw_g (lw_at lw_m6 31 rfl) rfl
theorem q1303 : (Jvm.Cond.selects "Pebblegate$Tree" ({ cls := "Pebblegate$Tree", name := "most", desc := "(I)I" } : Jvm.MethodName) ({ cls := "Pebblegate$Tree", name := "most", desc := "(I)I" } : Jvm.MethodName)) ∈ lw_all := lw_g (lw_at lw_m6 32 rfl) rfl
theorem q1304 : (Jvm.Cond.code ({ cls := "Pebblegate$Tree", name := "most", desc := "(I)I" } : Jvm.MethodName) prog_4_method_5_code (5 : Nat) (Option.some Jvm.ClassFile.FieldType.int)) ∈ lw_all := lw_g (lw_at lw_m6 33 rfl) rfl
theorem q1305 : (Jvm.Cond.methodLink "Pebblegate$Tree" (80 : Nat) ({ cls := "java/lang/Math", name := "max", desc := "(II)I" } : Jvm.MethodName)) ∈ lw_all := lw_g (lw_at lw_m6 34 rfl) rfl
theorem q1306 : (Jvm.Cond.methodLinkNest "Pebblegate$Tree" (90 : Nat) ({ cls := "Pebblegate", name := "bit", desc := "(Z)I" } : Jvm.MethodName) "Pebblegate") ∈ lw_tbl := lw_at lw_m6 35 rfl
theorem q2211 : (Jvm.Cond.castable "Pebblegate$Tree" "java/lang/Object") ∈ lw_tbl := lw_at lw_m9 220 rfl
theorem in_X6 : ∀ w ∈ wsX60, w ∈ lw_all := lw_in wsX60 [1286, 1288, 1290] (by decide +kernel) (by decide +kernel)

-- J31.java_lang_Object.lean.txt
/-! java/lang/Object -/
set_option maxRecDepth 100000
def RJ31 : String := "java/lang/Object"
abbrev cJ31_init : ByteArray := object_method_1_code
def yJ31_init : MethodName := ⟨RJ31, "<init>", "()V"⟩
theorem dJ31_init_0 : decode cJ31_init 0 = .ok (.return_, 1) := by decide +kernel
theorem q118 : (Jvm.Cond.instanceMethod ({ cls := "java/lang/Object", name := "<init>", desc := "()V" } : Jvm.MethodName)) ∈ lw_all := lw_g (lw_at lw_m1 47 rfl) rfl
theorem q119 : (Jvm.Cond.code ({ cls := "java/lang/Object", name := "<init>", desc := "()V" } : Jvm.MethodName) object_method_1_code (1 : Nat) (Option.none : Option Jvm.ClassFile.FieldType)) ∈ lw_all := lw_g (lw_at lw_m1 48 rfl) rfl
theorem q266 : (Jvm.Cond.instanceMethod ({ cls := "java/lang/Object", name := "getClass", desc := "()Ljava/lang/Class;" } : Jvm.MethodName)) ∈ lw_all := lw_g (lw_at lw_m1 195 rfl) rfl
theorem q267 : (Jvm.Cond.sameMethod "java/lang/Object" "java/lang/Object" "getClass" "()Ljava/lang/Class;") ∈ lw_all := lw_g (lw_at lw_m1 196 rfl) rfl
theorem q288 : (Jvm.Cond.native ({ cls := "java/lang/Object", name := "getClass", desc := "()Ljava/lang/Class;" } : Jvm.MethodName)) ∈ lw_all := lw_g (lw_at lw_m1 217 rfl) rfl
theorem q687 : (Jvm.Cond.native ({ cls := "java/lang/Object", name := "clone", desc := "()Ljava/lang/Object;" } : Jvm.MethodName)) ∈ lw_all := lw_g (lw_at lw_m3 136 rfl) rfl
theorem q688 : (Jvm.Cond.instanceMethod ({ cls := "java/lang/Object", name := "clone", desc := "()Ljava/lang/Object;" } : Jvm.MethodName)) ∈ lw_all := lw_g (lw_at lw_m3 137 rfl) rfl
theorem q2190 : (Jvm.Cond.initialized "java/lang/Object") ∈ lw_all := lw_g (lw_at lw_m9 199 rfl) rfl
theorem q2215 : (Jvm.Cond.declares ({ cls := "java/lang/Object", name := "getClass", desc := "()Ljava/lang/Class;" } : Jvm.MethodName)) ∈ lw_tbl := lw_at lw_m9 224 rfl

