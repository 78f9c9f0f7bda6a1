/-! java.util.BitSet: or, nextSetBit -/
set_option maxRecDepth 100000
section JN
variable {G : GG} {M : Mem}
theorem low_bit (v : Nat) (hv : v ≠ 0) : ∃ j, v % 2 ^ (j + 1) = 2 ^ j ∧ v.testBit j = true ∧ ∀ i, i < j → v.testBit i = false := by
  induction v using Nat.strongRecOn with
  | _ v ih =>
    rcases Nat.mod_two_eq_zero_or_one v with h | h
    · obtain ⟨j, h1, h2, h3⟩ := ih (v / 2) (by omega) (by omega)
      refine ⟨j + 1, ?_, ?_, fun i hi => ?_⟩
      · have h4 : v = 2 * (v / 2) := by omega
        have h5 : 2 ^ (j + 1 + 1) = 2 * 2 ^ (j + 1) := by rw [Nat.pow_succ]; omega
        rw [h4, h5, Nat.mul_mod_mul_left, h1, Nat.pow_succ]
        omega
      · rw [Nat.testBit_succ, h2]
      · cases i with
        | zero => simp [Nat.testBit_zero, h]
        | succ i => rw [Nat.testBit_succ, h3 i (by omega)]
    · exact ⟨0, by simpa using h, by simp [Nat.testBit_zero, h], fun i hi => by omega⟩

theorem m_ntz (w j : Nat) (hj : j < 16) (h : w % 2 ^ (j + 1) = 2 ^ j) :
    Ct G wJ18_numberOfTrailingZeros [aI (w : Int)] M 1 0 0 (kI fun r M' => r = (j : Int) ∧ M = M') := by
  refine Ct.mk rfl rfl (Nat.le_of_ble_eq_true rfl) ?_
  refine x_iload_n (i := 0) rfl rfl dJ18_numberOfTrailingZeros_0 ?_
  refine x_iconst dJ18_numberOfTrailingZeros_1 ?_
  refine x_ixor (n_vv32 _) dJ18_numberOfTrailingZeros_2 ?_
  refine x_iload_n (i := 0) rfl rfl dJ18_numberOfTrailingZeros_3 ?_
  refine x_iconst dJ18_numberOfTrailingZeros_4 ?_
  refine x_isub dJ18_numberOfTrailingZeros_5 ?_
  match j, hj, h with
  | 0, _, h =>
    refine x_iand (v := 0) (n_ntz w 0 h _ (n_vv32 _)) dJ18_numberOfTrailingZeros_6 ?_
    refine x_istore_n (i := 0) rfl (by decide) dJ18_numberOfTrailingZeros_7 ?_
    refine x_iload_n (i := 0) rfl rfl dJ18_numberOfTrailingZeros_8 ?_
    refine x_if_gt (tgt := 17) (by omega) dJ18_numberOfTrailingZeros_9 (by decide) (fun z => absurd z (by omega)) (fun _ => ?_)
    refine x_iload_n (i := 0) rfl rfl dJ18_numberOfTrailingZeros_12 ?_
    refine x_bipush (a := 32) rfl dJ18_numberOfTrailingZeros_13 ?_
    refine x_iand (v := 0) (by decide) dJ18_numberOfTrailingZeros_15 ?_
    refine x_iret rfl dJ18_numberOfTrailingZeros_16 ⟨by omega, by omega⟩ ?_
    exact ⟨_, rfl, by omega, rfl⟩
  | 1, _, h =>
    refine x_iand (v := 1) (n_ntz w 1 h _ (n_vv32 _)) dJ18_numberOfTrailingZeros_6 ?_
    refine x_istore_n (i := 0) rfl (by decide) dJ18_numberOfTrailingZeros_7 ?_
    refine x_iload_n (i := 0) rfl rfl dJ18_numberOfTrailingZeros_8 ?_
    refine x_if_gt (tgt := 17) (by omega) dJ18_numberOfTrailingZeros_9 (by decide) (fun _ => ?_) (fun z => absurd z (by omega))
    refine x_iconst dJ18_numberOfTrailingZeros_17 ?_
    refine x_istore_n (i := 1) rfl (by decide) dJ18_numberOfTrailingZeros_18 ?_
    refine x_iload_n (i := 0) rfl rfl dJ18_numberOfTrailingZeros_19 ?_
    refine x_ldcwI (v := 65536) q511 rfl dJ18_numberOfTrailingZeros_20 ?_
    refine x_icmp_le (tgt := 34) (by omega) (by omega) dJ18_numberOfTrailingZeros_23 (by decide) (fun _ => ?_) (fun z => absurd z (by omega))
    refine x_iload_n (i := 0) rfl rfl dJ18_numberOfTrailingZeros_34 ?_
    refine x_sipush (a := 256) rfl dJ18_numberOfTrailingZeros_35 ?_
    refine x_icmp_le (tgt := 49) (by omega) (by omega) dJ18_numberOfTrailingZeros_38 (by decide) (fun _ => ?_) (fun z => absurd z (by omega))
    refine x_iload_n (i := 0) rfl rfl dJ18_numberOfTrailingZeros_49 ?_
    refine x_bipush (a := 16) rfl dJ18_numberOfTrailingZeros_50 ?_
    refine x_icmp_le (tgt := 62) (by omega) (by omega) dJ18_numberOfTrailingZeros_52 (by decide) (fun _ => ?_) (fun z => absurd z (by omega))
    refine x_iload_n (i := 0) rfl rfl dJ18_numberOfTrailingZeros_62 ?_
    refine x_iconst dJ18_numberOfTrailingZeros_63 ?_
    refine x_icmp_le (tgt := 74) (by omega) (by omega) dJ18_numberOfTrailingZeros_64 (by decide) (fun _ => ?_) (fun z => absurd z (by omega))
    refine x_iload_n (i := 1) rfl rfl dJ18_numberOfTrailingZeros_74 ?_
    refine x_iload_n (i := 0) rfl rfl dJ18_numberOfTrailingZeros_75 ?_
    refine x_iconst dJ18_numberOfTrailingZeros_76 ?_
    refine x_iushr (v := 0) (by decide) dJ18_numberOfTrailingZeros_77 ?_
    refine x_iadd dJ18_numberOfTrailingZeros_78 ?_
    refine x_iret rfl dJ18_numberOfTrailingZeros_79 ⟨by omega, by omega⟩ ?_
    exact ⟨_, rfl, by omega, rfl⟩
  | 2, _, h =>
    refine x_iand (v := 3) (n_ntz w 2 h _ (n_vv32 _)) dJ18_numberOfTrailingZeros_6 ?_
    refine x_istore_n (i := 0) rfl (by decide) dJ18_numberOfTrailingZeros_7 ?_
    refine x_iload_n (i := 0) rfl rfl dJ18_numberOfTrailingZeros_8 ?_
    refine x_if_gt (tgt := 17) (by omega) dJ18_numberOfTrailingZeros_9 (by decide) (fun _ => ?_) (fun z => absurd z (by omega))
    refine x_iconst dJ18_numberOfTrailingZeros_17 ?_
    refine x_istore_n (i := 1) rfl (by decide) dJ18_numberOfTrailingZeros_18 ?_
    refine x_iload_n (i := 0) rfl rfl dJ18_numberOfTrailingZeros_19 ?_
    refine x_ldcwI (v := 65536) q511 rfl dJ18_numberOfTrailingZeros_20 ?_
    refine x_icmp_le (tgt := 34) (by omega) (by omega) dJ18_numberOfTrailingZeros_23 (by decide) (fun _ => ?_) (fun z => absurd z (by omega))
    refine x_iload_n (i := 0) rfl rfl dJ18_numberOfTrailingZeros_34 ?_
    refine x_sipush (a := 256) rfl dJ18_numberOfTrailingZeros_35 ?_
    refine x_icmp_le (tgt := 49) (by omega) (by omega) dJ18_numberOfTrailingZeros_38 (by decide) (fun _ => ?_) (fun z => absurd z (by omega))
    refine x_iload_n (i := 0) rfl rfl dJ18_numberOfTrailingZeros_49 ?_
    refine x_bipush (a := 16) rfl dJ18_numberOfTrailingZeros_50 ?_
    refine x_icmp_le (tgt := 62) (by omega) (by omega) dJ18_numberOfTrailingZeros_52 (by decide) (fun _ => ?_) (fun z => absurd z (by omega))
    refine x_iload_n (i := 0) rfl rfl dJ18_numberOfTrailingZeros_62 ?_
    refine x_iconst dJ18_numberOfTrailingZeros_63 ?_
    refine x_icmp_le (tgt := 74) (by omega) (by omega) dJ18_numberOfTrailingZeros_64 (by decide) (fun _ => ?_) (fun z => absurd z (by omega))
    refine x_iload_n (i := 1) rfl rfl dJ18_numberOfTrailingZeros_74 ?_
    refine x_iload_n (i := 0) rfl rfl dJ18_numberOfTrailingZeros_75 ?_
    refine x_iconst dJ18_numberOfTrailingZeros_76 ?_
    refine x_iushr (v := 1) (by decide) dJ18_numberOfTrailingZeros_77 ?_
    refine x_iadd dJ18_numberOfTrailingZeros_78 ?_
    refine x_iret rfl dJ18_numberOfTrailingZeros_79 ⟨by omega, by omega⟩ ?_
    exact ⟨_, rfl, by omega, rfl⟩
  | 3, _, h =>
    refine x_iand (v := 7) (n_ntz w 3 h _ (n_vv32 _)) dJ18_numberOfTrailingZeros_6 ?_
    refine x_istore_n (i := 0) rfl (by decide) dJ18_numberOfTrailingZeros_7 ?_
    refine x_iload_n (i := 0) rfl rfl dJ18_numberOfTrailingZeros_8 ?_
    refine x_if_gt (tgt := 17) (by omega) dJ18_numberOfTrailingZeros_9 (by decide) (fun _ => ?_) (fun z => absurd z (by omega))
    refine x_iconst dJ18_numberOfTrailingZeros_17 ?_
    refine x_istore_n (i := 1) rfl (by decide) dJ18_numberOfTrailingZeros_18 ?_
    refine x_iload_n (i := 0) rfl rfl dJ18_numberOfTrailingZeros_19 ?_
    refine x_ldcwI (v := 65536) q511 rfl dJ18_numberOfTrailingZeros_20 ?_
    refine x_icmp_le (tgt := 34) (by omega) (by omega) dJ18_numberOfTrailingZeros_23 (by decide) (fun _ => ?_) (fun z => absurd z (by omega))
    refine x_iload_n (i := 0) rfl rfl dJ18_numberOfTrailingZeros_34 ?_
    refine x_sipush (a := 256) rfl dJ18_numberOfTrailingZeros_35 ?_
    refine x_icmp_le (tgt := 49) (by omega) (by omega) dJ18_numberOfTrailingZeros_38 (by decide) (fun _ => ?_) (fun z => absurd z (by omega))
    refine x_iload_n (i := 0) rfl rfl dJ18_numberOfTrailingZeros_49 ?_
    refine x_bipush (a := 16) rfl dJ18_numberOfTrailingZeros_50 ?_
    refine x_icmp_le (tgt := 62) (by omega) (by omega) dJ18_numberOfTrailingZeros_52 (by decide) (fun _ => ?_) (fun z => absurd z (by omega))
    refine x_iload_n (i := 0) rfl rfl dJ18_numberOfTrailingZeros_62 ?_
    refine x_iconst dJ18_numberOfTrailingZeros_63 ?_
    refine x_icmp_le (tgt := 74) (by omega) (by omega) dJ18_numberOfTrailingZeros_64 (by decide) (fun z => absurd z (by omega)) (fun _ => ?_)
    refine x_iinc (i := 1) rfl (by decide) dJ18_numberOfTrailingZeros_67 ?_
    refine x_iload_n (i := 0) rfl rfl dJ18_numberOfTrailingZeros_70 ?_
    refine x_iconst dJ18_numberOfTrailingZeros_71 ?_
    refine x_iushr (v := 1) (by decide) dJ18_numberOfTrailingZeros_72 ?_
    refine x_istore_n (i := 0) rfl (by decide) dJ18_numberOfTrailingZeros_73 ?_
    refine x_iload_n (i := 1) rfl rfl dJ18_numberOfTrailingZeros_74 ?_
    refine x_iload_n (i := 0) rfl rfl dJ18_numberOfTrailingZeros_75 ?_
    refine x_iconst dJ18_numberOfTrailingZeros_76 ?_
    refine x_iushr (v := 0) (by decide) dJ18_numberOfTrailingZeros_77 ?_
    refine x_iadd dJ18_numberOfTrailingZeros_78 ?_
    refine x_iret rfl dJ18_numberOfTrailingZeros_79 ⟨by omega, by omega⟩ ?_
    exact ⟨_, rfl, by omega, rfl⟩
  | 4, _, h =>
    refine x_iand (v := 15) (n_ntz w 4 h _ (n_vv32 _)) dJ18_numberOfTrailingZeros_6 ?_
    refine x_istore_n (i := 0) rfl (by decide) dJ18_numberOfTrailingZeros_7 ?_
    refine x_iload_n (i := 0) rfl rfl dJ18_numberOfTrailingZeros_8 ?_
    refine x_if_gt (tgt := 17) (by omega) dJ18_numberOfTrailingZeros_9 (by decide) (fun _ => ?_) (fun z => absurd z (by omega))
    refine x_iconst dJ18_numberOfTrailingZeros_17 ?_
    refine x_istore_n (i := 1) rfl (by decide) dJ18_numberOfTrailingZeros_18 ?_
    refine x_iload_n (i := 0) rfl rfl dJ18_numberOfTrailingZeros_19 ?_
    refine x_ldcwI (v := 65536) q511 rfl dJ18_numberOfTrailingZeros_20 ?_
    refine x_icmp_le (tgt := 34) (by omega) (by omega) dJ18_numberOfTrailingZeros_23 (by decide) (fun _ => ?_) (fun z => absurd z (by omega))
    refine x_iload_n (i := 0) rfl rfl dJ18_numberOfTrailingZeros_34 ?_
    refine x_sipush (a := 256) rfl dJ18_numberOfTrailingZeros_35 ?_
    refine x_icmp_le (tgt := 49) (by omega) (by omega) dJ18_numberOfTrailingZeros_38 (by decide) (fun _ => ?_) (fun z => absurd z (by omega))
    refine x_iload_n (i := 0) rfl rfl dJ18_numberOfTrailingZeros_49 ?_
    refine x_bipush (a := 16) rfl dJ18_numberOfTrailingZeros_50 ?_
    refine x_icmp_le (tgt := 62) (by omega) (by omega) dJ18_numberOfTrailingZeros_52 (by decide) (fun _ => ?_) (fun z => absurd z (by omega))
    refine x_iload_n (i := 0) rfl rfl dJ18_numberOfTrailingZeros_62 ?_
    refine x_iconst dJ18_numberOfTrailingZeros_63 ?_
    refine x_icmp_le (tgt := 74) (by omega) (by omega) dJ18_numberOfTrailingZeros_64 (by decide) (fun z => absurd z (by omega)) (fun _ => ?_)
    refine x_iinc (i := 1) rfl (by decide) dJ18_numberOfTrailingZeros_67 ?_
    refine x_iload_n (i := 0) rfl rfl dJ18_numberOfTrailingZeros_70 ?_
    refine x_iconst dJ18_numberOfTrailingZeros_71 ?_
    refine x_iushr (v := 3) (by decide) dJ18_numberOfTrailingZeros_72 ?_
    refine x_istore_n (i := 0) rfl (by decide) dJ18_numberOfTrailingZeros_73 ?_
    refine x_iload_n (i := 1) rfl rfl dJ18_numberOfTrailingZeros_74 ?_
    refine x_iload_n (i := 0) rfl rfl dJ18_numberOfTrailingZeros_75 ?_
    refine x_iconst dJ18_numberOfTrailingZeros_76 ?_
    refine x_iushr (v := 1) (by decide) dJ18_numberOfTrailingZeros_77 ?_
    refine x_iadd dJ18_numberOfTrailingZeros_78 ?_
    refine x_iret rfl dJ18_numberOfTrailingZeros_79 ⟨by omega, by omega⟩ ?_
    exact ⟨_, rfl, by omega, rfl⟩
  | 5, _, h =>
    refine x_iand (v := 31) (n_ntz w 5 h _ (n_vv32 _)) dJ18_numberOfTrailingZeros_6 ?_
    refine x_istore_n (i := 0) rfl (by decide) dJ18_numberOfTrailingZeros_7 ?_
    refine x_iload_n (i := 0) rfl rfl dJ18_numberOfTrailingZeros_8 ?_
    refine x_if_gt (tgt := 17) (by omega) dJ18_numberOfTrailingZeros_9 (by decide) (fun _ => ?_) (fun z => absurd z (by omega))
    refine x_iconst dJ18_numberOfTrailingZeros_17 ?_
    refine x_istore_n (i := 1) rfl (by decide) dJ18_numberOfTrailingZeros_18 ?_
    refine x_iload_n (i := 0) rfl rfl dJ18_numberOfTrailingZeros_19 ?_
    refine x_ldcwI (v := 65536) q511 rfl dJ18_numberOfTrailingZeros_20 ?_
    refine x_icmp_le (tgt := 34) (by omega) (by omega) dJ18_numberOfTrailingZeros_23 (by decide) (fun _ => ?_) (fun z => absurd z (by omega))
    refine x_iload_n (i := 0) rfl rfl dJ18_numberOfTrailingZeros_34 ?_
    refine x_sipush (a := 256) rfl dJ18_numberOfTrailingZeros_35 ?_
    refine x_icmp_le (tgt := 49) (by omega) (by omega) dJ18_numberOfTrailingZeros_38 (by decide) (fun _ => ?_) (fun z => absurd z (by omega))
    refine x_iload_n (i := 0) rfl rfl dJ18_numberOfTrailingZeros_49 ?_
    refine x_bipush (a := 16) rfl dJ18_numberOfTrailingZeros_50 ?_
    refine x_icmp_le (tgt := 62) (by omega) (by omega) dJ18_numberOfTrailingZeros_52 (by decide) (fun z => absurd z (by omega)) (fun _ => ?_)
    refine x_iinc (i := 1) rfl (by decide) dJ18_numberOfTrailingZeros_55 ?_
    refine x_iload_n (i := 0) rfl rfl dJ18_numberOfTrailingZeros_58 ?_
    refine x_iconst dJ18_numberOfTrailingZeros_59 ?_
    refine x_iushr (v := 1) (by decide) dJ18_numberOfTrailingZeros_60 ?_
    refine x_istore_n (i := 0) rfl (by decide) dJ18_numberOfTrailingZeros_61 ?_
    refine x_iload_n (i := 0) rfl rfl dJ18_numberOfTrailingZeros_62 ?_
    refine x_iconst dJ18_numberOfTrailingZeros_63 ?_
    refine x_icmp_le (tgt := 74) (by omega) (by omega) dJ18_numberOfTrailingZeros_64 (by decide) (fun _ => ?_) (fun z => absurd z (by omega))
    refine x_iload_n (i := 1) rfl rfl dJ18_numberOfTrailingZeros_74 ?_
    refine x_iload_n (i := 0) rfl rfl dJ18_numberOfTrailingZeros_75 ?_
    refine x_iconst dJ18_numberOfTrailingZeros_76 ?_
    refine x_iushr (v := 0) (by decide) dJ18_numberOfTrailingZeros_77 ?_
    refine x_iadd dJ18_numberOfTrailingZeros_78 ?_
    refine x_iret rfl dJ18_numberOfTrailingZeros_79 ⟨by omega, by omega⟩ ?_
    exact ⟨_, rfl, by omega, rfl⟩
  | 6, _, h =>
    refine x_iand (v := 63) (n_ntz w 6 h _ (n_vv32 _)) dJ18_numberOfTrailingZeros_6 ?_
    refine x_istore_n (i := 0) rfl (by decide) dJ18_numberOfTrailingZeros_7 ?_
    refine x_iload_n (i := 0) rfl rfl dJ18_numberOfTrailingZeros_8 ?_
    refine x_if_gt (tgt := 17) (by omega) dJ18_numberOfTrailingZeros_9 (by decide) (fun _ => ?_) (fun z => absurd z (by omega))
    refine x_iconst dJ18_numberOfTrailingZeros_17 ?_
    refine x_istore_n (i := 1) rfl (by decide) dJ18_numberOfTrailingZeros_18 ?_
    refine x_iload_n (i := 0) rfl rfl dJ18_numberOfTrailingZeros_19 ?_
    refine x_ldcwI (v := 65536) q511 rfl dJ18_numberOfTrailingZeros_20 ?_
    refine x_icmp_le (tgt := 34) (by omega) (by omega) dJ18_numberOfTrailingZeros_23 (by decide) (fun _ => ?_) (fun z => absurd z (by omega))
    refine x_iload_n (i := 0) rfl rfl dJ18_numberOfTrailingZeros_34 ?_
    refine x_sipush (a := 256) rfl dJ18_numberOfTrailingZeros_35 ?_
    refine x_icmp_le (tgt := 49) (by omega) (by omega) dJ18_numberOfTrailingZeros_38 (by decide) (fun _ => ?_) (fun z => absurd z (by omega))
    refine x_iload_n (i := 0) rfl rfl dJ18_numberOfTrailingZeros_49 ?_
    refine x_bipush (a := 16) rfl dJ18_numberOfTrailingZeros_50 ?_
    refine x_icmp_le (tgt := 62) (by omega) (by omega) dJ18_numberOfTrailingZeros_52 (by decide) (fun z => absurd z (by omega)) (fun _ => ?_)
    refine x_iinc (i := 1) rfl (by decide) dJ18_numberOfTrailingZeros_55 ?_
    refine x_iload_n (i := 0) rfl rfl dJ18_numberOfTrailingZeros_58 ?_
    refine x_iconst dJ18_numberOfTrailingZeros_59 ?_
    refine x_iushr (v := 3) (by decide) dJ18_numberOfTrailingZeros_60 ?_
    refine x_istore_n (i := 0) rfl (by decide) dJ18_numberOfTrailingZeros_61 ?_
    refine x_iload_n (i := 0) rfl rfl dJ18_numberOfTrailingZeros_62 ?_
    refine x_iconst dJ18_numberOfTrailingZeros_63 ?_
    refine x_icmp_le (tgt := 74) (by omega) (by omega) dJ18_numberOfTrailingZeros_64 (by decide) (fun _ => ?_) (fun z => absurd z (by omega))
    refine x_iload_n (i := 1) rfl rfl dJ18_numberOfTrailingZeros_74 ?_
    refine x_iload_n (i := 0) rfl rfl dJ18_numberOfTrailingZeros_75 ?_
    refine x_iconst dJ18_numberOfTrailingZeros_76 ?_
    refine x_iushr (v := 1) (by decide) dJ18_numberOfTrailingZeros_77 ?_
    refine x_iadd dJ18_numberOfTrailingZeros_78 ?_
    refine x_iret rfl dJ18_numberOfTrailingZeros_79 ⟨by omega, by omega⟩ ?_
    exact ⟨_, rfl, by omega, rfl⟩
  | 7, _, h =>
    refine x_iand (v := 127) (n_ntz w 7 h _ (n_vv32 _)) dJ18_numberOfTrailingZeros_6 ?_
    refine x_istore_n (i := 0) rfl (by decide) dJ18_numberOfTrailingZeros_7 ?_
    refine x_iload_n (i := 0) rfl rfl dJ18_numberOfTrailingZeros_8 ?_
    refine x_if_gt (tgt := 17) (by omega) dJ18_numberOfTrailingZeros_9 (by decide) (fun _ => ?_) (fun z => absurd z (by omega))
    refine x_iconst dJ18_numberOfTrailingZeros_17 ?_
    refine x_istore_n (i := 1) rfl (by decide) dJ18_numberOfTrailingZeros_18 ?_
    refine x_iload_n (i := 0) rfl rfl dJ18_numberOfTrailingZeros_19 ?_
    refine x_ldcwI (v := 65536) q511 rfl dJ18_numberOfTrailingZeros_20 ?_
    refine x_icmp_le (tgt := 34) (by omega) (by omega) dJ18_numberOfTrailingZeros_23 (by decide) (fun _ => ?_) (fun z => absurd z (by omega))
    refine x_iload_n (i := 0) rfl rfl dJ18_numberOfTrailingZeros_34 ?_
    refine x_sipush (a := 256) rfl dJ18_numberOfTrailingZeros_35 ?_
    refine x_icmp_le (tgt := 49) (by omega) (by omega) dJ18_numberOfTrailingZeros_38 (by decide) (fun _ => ?_) (fun z => absurd z (by omega))
    refine x_iload_n (i := 0) rfl rfl dJ18_numberOfTrailingZeros_49 ?_
    refine x_bipush (a := 16) rfl dJ18_numberOfTrailingZeros_50 ?_
    refine x_icmp_le (tgt := 62) (by omega) (by omega) dJ18_numberOfTrailingZeros_52 (by decide) (fun z => absurd z (by omega)) (fun _ => ?_)
    refine x_iinc (i := 1) rfl (by decide) dJ18_numberOfTrailingZeros_55 ?_
    refine x_iload_n (i := 0) rfl rfl dJ18_numberOfTrailingZeros_58 ?_
    refine x_iconst dJ18_numberOfTrailingZeros_59 ?_
    refine x_iushr (v := 7) (by decide) dJ18_numberOfTrailingZeros_60 ?_
    refine x_istore_n (i := 0) rfl (by decide) dJ18_numberOfTrailingZeros_61 ?_
    refine x_iload_n (i := 0) rfl rfl dJ18_numberOfTrailingZeros_62 ?_
    refine x_iconst dJ18_numberOfTrailingZeros_63 ?_
    refine x_icmp_le (tgt := 74) (by omega) (by omega) dJ18_numberOfTrailingZeros_64 (by decide) (fun z => absurd z (by omega)) (fun _ => ?_)
    refine x_iinc (i := 1) rfl (by decide) dJ18_numberOfTrailingZeros_67 ?_
    refine x_iload_n (i := 0) rfl rfl dJ18_numberOfTrailingZeros_70 ?_
    refine x_iconst dJ18_numberOfTrailingZeros_71 ?_
    refine x_iushr (v := 1) (by decide) dJ18_numberOfTrailingZeros_72 ?_
    refine x_istore_n (i := 0) rfl (by decide) dJ18_numberOfTrailingZeros_73 ?_
    refine x_iload_n (i := 1) rfl rfl dJ18_numberOfTrailingZeros_74 ?_
    refine x_iload_n (i := 0) rfl rfl dJ18_numberOfTrailingZeros_75 ?_
    refine x_iconst dJ18_numberOfTrailingZeros_76 ?_
    refine x_iushr (v := 0) (by decide) dJ18_numberOfTrailingZeros_77 ?_
    refine x_iadd dJ18_numberOfTrailingZeros_78 ?_
    refine x_iret rfl dJ18_numberOfTrailingZeros_79 ⟨by omega, by omega⟩ ?_
    exact ⟨_, rfl, by omega, rfl⟩
  | 8, _, h =>
    refine x_iand (v := 255) (n_ntz w 8 h _ (n_vv32 _)) dJ18_numberOfTrailingZeros_6 ?_
    refine x_istore_n (i := 0) rfl (by decide) dJ18_numberOfTrailingZeros_7 ?_
    refine x_iload_n (i := 0) rfl rfl dJ18_numberOfTrailingZeros_8 ?_
    refine x_if_gt (tgt := 17) (by omega) dJ18_numberOfTrailingZeros_9 (by decide) (fun _ => ?_) (fun z => absurd z (by omega))
    refine x_iconst dJ18_numberOfTrailingZeros_17 ?_
    refine x_istore_n (i := 1) rfl (by decide) dJ18_numberOfTrailingZeros_18 ?_
    refine x_iload_n (i := 0) rfl rfl dJ18_numberOfTrailingZeros_19 ?_
    refine x_ldcwI (v := 65536) q511 rfl dJ18_numberOfTrailingZeros_20 ?_
    refine x_icmp_le (tgt := 34) (by omega) (by omega) dJ18_numberOfTrailingZeros_23 (by decide) (fun _ => ?_) (fun z => absurd z (by omega))
    refine x_iload_n (i := 0) rfl rfl dJ18_numberOfTrailingZeros_34 ?_
    refine x_sipush (a := 256) rfl dJ18_numberOfTrailingZeros_35 ?_
    refine x_icmp_le (tgt := 49) (by omega) (by omega) dJ18_numberOfTrailingZeros_38 (by decide) (fun _ => ?_) (fun z => absurd z (by omega))
    refine x_iload_n (i := 0) rfl rfl dJ18_numberOfTrailingZeros_49 ?_
    refine x_bipush (a := 16) rfl dJ18_numberOfTrailingZeros_50 ?_
    refine x_icmp_le (tgt := 62) (by omega) (by omega) dJ18_numberOfTrailingZeros_52 (by decide) (fun z => absurd z (by omega)) (fun _ => ?_)
    refine x_iinc (i := 1) rfl (by decide) dJ18_numberOfTrailingZeros_55 ?_
    refine x_iload_n (i := 0) rfl rfl dJ18_numberOfTrailingZeros_58 ?_
    refine x_iconst dJ18_numberOfTrailingZeros_59 ?_
    refine x_iushr (v := 15) (by decide) dJ18_numberOfTrailingZeros_60 ?_
    refine x_istore_n (i := 0) rfl (by decide) dJ18_numberOfTrailingZeros_61 ?_
    refine x_iload_n (i := 0) rfl rfl dJ18_numberOfTrailingZeros_62 ?_
    refine x_iconst dJ18_numberOfTrailingZeros_63 ?_
    refine x_icmp_le (tgt := 74) (by omega) (by omega) dJ18_numberOfTrailingZeros_64 (by decide) (fun z => absurd z (by omega)) (fun _ => ?_)
    refine x_iinc (i := 1) rfl (by decide) dJ18_numberOfTrailingZeros_67 ?_
    refine x_iload_n (i := 0) rfl rfl dJ18_numberOfTrailingZeros_70 ?_
    refine x_iconst dJ18_numberOfTrailingZeros_71 ?_
    refine x_iushr (v := 3) (by decide) dJ18_numberOfTrailingZeros_72 ?_
    refine x_istore_n (i := 0) rfl (by decide) dJ18_numberOfTrailingZeros_73 ?_
    refine x_iload_n (i := 1) rfl rfl dJ18_numberOfTrailingZeros_74 ?_
    refine x_iload_n (i := 0) rfl rfl dJ18_numberOfTrailingZeros_75 ?_
    refine x_iconst dJ18_numberOfTrailingZeros_76 ?_
    refine x_iushr (v := 1) (by decide) dJ18_numberOfTrailingZeros_77 ?_
    refine x_iadd dJ18_numberOfTrailingZeros_78 ?_
    refine x_iret rfl dJ18_numberOfTrailingZeros_79 ⟨by omega, by omega⟩ ?_
    exact ⟨_, rfl, by omega, rfl⟩
  | 9, _, h =>
    refine x_iand (v := 511) (n_ntz w 9 h _ (n_vv32 _)) dJ18_numberOfTrailingZeros_6 ?_
    refine x_istore_n (i := 0) rfl (by decide) dJ18_numberOfTrailingZeros_7 ?_
    refine x_iload_n (i := 0) rfl rfl dJ18_numberOfTrailingZeros_8 ?_
    refine x_if_gt (tgt := 17) (by omega) dJ18_numberOfTrailingZeros_9 (by decide) (fun _ => ?_) (fun z => absurd z (by omega))
    refine x_iconst dJ18_numberOfTrailingZeros_17 ?_
    refine x_istore_n (i := 1) rfl (by decide) dJ18_numberOfTrailingZeros_18 ?_
    refine x_iload_n (i := 0) rfl rfl dJ18_numberOfTrailingZeros_19 ?_
    refine x_ldcwI (v := 65536) q511 rfl dJ18_numberOfTrailingZeros_20 ?_
    refine x_icmp_le (tgt := 34) (by omega) (by omega) dJ18_numberOfTrailingZeros_23 (by decide) (fun _ => ?_) (fun z => absurd z (by omega))
    refine x_iload_n (i := 0) rfl rfl dJ18_numberOfTrailingZeros_34 ?_
    refine x_sipush (a := 256) rfl dJ18_numberOfTrailingZeros_35 ?_
    refine x_icmp_le (tgt := 49) (by omega) (by omega) dJ18_numberOfTrailingZeros_38 (by decide) (fun z => absurd z (by omega)) (fun _ => ?_)
    refine x_iinc (i := 1) rfl (by decide) dJ18_numberOfTrailingZeros_41 ?_
    refine x_iload_n (i := 0) rfl rfl dJ18_numberOfTrailingZeros_44 ?_
    refine x_bipush (a := 8) rfl dJ18_numberOfTrailingZeros_45 ?_
    refine x_iushr (v := 1) (by decide) dJ18_numberOfTrailingZeros_47 ?_
    refine x_istore_n (i := 0) rfl (by decide) dJ18_numberOfTrailingZeros_48 ?_
    refine x_iload_n (i := 0) rfl rfl dJ18_numberOfTrailingZeros_49 ?_
    refine x_bipush (a := 16) rfl dJ18_numberOfTrailingZeros_50 ?_
    refine x_icmp_le (tgt := 62) (by omega) (by omega) dJ18_numberOfTrailingZeros_52 (by decide) (fun _ => ?_) (fun z => absurd z (by omega))
    refine x_iload_n (i := 0) rfl rfl dJ18_numberOfTrailingZeros_62 ?_
    refine x_iconst dJ18_numberOfTrailingZeros_63 ?_
    refine x_icmp_le (tgt := 74) (by omega) (by omega) dJ18_numberOfTrailingZeros_64 (by decide) (fun _ => ?_) (fun z => absurd z (by omega))
    refine x_iload_n (i := 1) rfl rfl dJ18_numberOfTrailingZeros_74 ?_
    refine x_iload_n (i := 0) rfl rfl dJ18_numberOfTrailingZeros_75 ?_
    refine x_iconst dJ18_numberOfTrailingZeros_76 ?_
    refine x_iushr (v := 0) (by decide) dJ18_numberOfTrailingZeros_77 ?_
    refine x_iadd dJ18_numberOfTrailingZeros_78 ?_
    refine x_iret rfl dJ18_numberOfTrailingZeros_79 ⟨by omega, by omega⟩ ?_
    exact ⟨_, rfl, by omega, rfl⟩
  | 10, _, h =>
    refine x_iand (v := 1023) (n_ntz w 10 h _ (n_vv32 _)) dJ18_numberOfTrailingZeros_6 ?_
    refine x_istore_n (i := 0) rfl (by decide) dJ18_numberOfTrailingZeros_7 ?_
    refine x_iload_n (i := 0) rfl rfl dJ18_numberOfTrailingZeros_8 ?_
    refine x_if_gt (tgt := 17) (by omega) dJ18_numberOfTrailingZeros_9 (by decide) (fun _ => ?_) (fun z => absurd z (by omega))
    refine x_iconst dJ18_numberOfTrailingZeros_17 ?_
    refine x_istore_n (i := 1) rfl (by decide) dJ18_numberOfTrailingZeros_18 ?_
    refine x_iload_n (i := 0) rfl rfl dJ18_numberOfTrailingZeros_19 ?_
    refine x_ldcwI (v := 65536) q511 rfl dJ18_numberOfTrailingZeros_20 ?_
    refine x_icmp_le (tgt := 34) (by omega) (by omega) dJ18_numberOfTrailingZeros_23 (by decide) (fun _ => ?_) (fun z => absurd z (by omega))
    refine x_iload_n (i := 0) rfl rfl dJ18_numberOfTrailingZeros_34 ?_
    refine x_sipush (a := 256) rfl dJ18_numberOfTrailingZeros_35 ?_
    refine x_icmp_le (tgt := 49) (by omega) (by omega) dJ18_numberOfTrailingZeros_38 (by decide) (fun z => absurd z (by omega)) (fun _ => ?_)
    refine x_iinc (i := 1) rfl (by decide) dJ18_numberOfTrailingZeros_41 ?_
    refine x_iload_n (i := 0) rfl rfl dJ18_numberOfTrailingZeros_44 ?_
    refine x_bipush (a := 8) rfl dJ18_numberOfTrailingZeros_45 ?_
    refine x_iushr (v := 3) (by decide) dJ18_numberOfTrailingZeros_47 ?_
    refine x_istore_n (i := 0) rfl (by decide) dJ18_numberOfTrailingZeros_48 ?_
    refine x_iload_n (i := 0) rfl rfl dJ18_numberOfTrailingZeros_49 ?_
    refine x_bipush (a := 16) rfl dJ18_numberOfTrailingZeros_50 ?_
    refine x_icmp_le (tgt := 62) (by omega) (by omega) dJ18_numberOfTrailingZeros_52 (by decide) (fun _ => ?_) (fun z => absurd z (by omega))
    refine x_iload_n (i := 0) rfl rfl dJ18_numberOfTrailingZeros_62 ?_
    refine x_iconst dJ18_numberOfTrailingZeros_63 ?_
    refine x_icmp_le (tgt := 74) (by omega) (by omega) dJ18_numberOfTrailingZeros_64 (by decide) (fun _ => ?_) (fun z => absurd z (by omega))
    refine x_iload_n (i := 1) rfl rfl dJ18_numberOfTrailingZeros_74 ?_
    refine x_iload_n (i := 0) rfl rfl dJ18_numberOfTrailingZeros_75 ?_
    refine x_iconst dJ18_numberOfTrailingZeros_76 ?_
    refine x_iushr (v := 1) (by decide) dJ18_numberOfTrailingZeros_77 ?_
    refine x_iadd dJ18_numberOfTrailingZeros_78 ?_
    refine x_iret rfl dJ18_numberOfTrailingZeros_79 ⟨by omega, by omega⟩ ?_
    exact ⟨_, rfl, by omega, rfl⟩
  | 11, _, h =>
    refine x_iand (v := 2047) (n_ntz w 11 h _ (n_vv32 _)) dJ18_numberOfTrailingZeros_6 ?_
    refine x_istore_n (i := 0) rfl (by decide) dJ18_numberOfTrailingZeros_7 ?_
    refine x_iload_n (i := 0) rfl rfl dJ18_numberOfTrailingZeros_8 ?_
    refine x_if_gt (tgt := 17) (by omega) dJ18_numberOfTrailingZeros_9 (by decide) (fun _ => ?_) (fun z => absurd z (by omega))
    refine x_iconst dJ18_numberOfTrailingZeros_17 ?_
    refine x_istore_n (i := 1) rfl (by decide) dJ18_numberOfTrailingZeros_18 ?_
    refine x_iload_n (i := 0) rfl rfl dJ18_numberOfTrailingZeros_19 ?_
    refine x_ldcwI (v := 65536) q511 rfl dJ18_numberOfTrailingZeros_20 ?_
    refine x_icmp_le (tgt := 34) (by omega) (by omega) dJ18_numberOfTrailingZeros_23 (by decide) (fun _ => ?_) (fun z => absurd z (by omega))
    refine x_iload_n (i := 0) rfl rfl dJ18_numberOfTrailingZeros_34 ?_
    refine x_sipush (a := 256) rfl dJ18_numberOfTrailingZeros_35 ?_
    refine x_icmp_le (tgt := 49) (by omega) (by omega) dJ18_numberOfTrailingZeros_38 (by decide) (fun z => absurd z (by omega)) (fun _ => ?_)
    refine x_iinc (i := 1) rfl (by decide) dJ18_numberOfTrailingZeros_41 ?_
    refine x_iload_n (i := 0) rfl rfl dJ18_numberOfTrailingZeros_44 ?_
    refine x_bipush (a := 8) rfl dJ18_numberOfTrailingZeros_45 ?_
    refine x_iushr (v := 7) (by decide) dJ18_numberOfTrailingZeros_47 ?_
    refine x_istore_n (i := 0) rfl (by decide) dJ18_numberOfTrailingZeros_48 ?_
    refine x_iload_n (i := 0) rfl rfl dJ18_numberOfTrailingZeros_49 ?_
    refine x_bipush (a := 16) rfl dJ18_numberOfTrailingZeros_50 ?_
    refine x_icmp_le (tgt := 62) (by omega) (by omega) dJ18_numberOfTrailingZeros_52 (by decide) (fun _ => ?_) (fun z => absurd z (by omega))
    refine x_iload_n (i := 0) rfl rfl dJ18_numberOfTrailingZeros_62 ?_
    refine x_iconst dJ18_numberOfTrailingZeros_63 ?_
    refine x_icmp_le (tgt := 74) (by omega) (by omega) dJ18_numberOfTrailingZeros_64 (by decide) (fun z => absurd z (by omega)) (fun _ => ?_)
    refine x_iinc (i := 1) rfl (by decide) dJ18_numberOfTrailingZeros_67 ?_
    refine x_iload_n (i := 0) rfl rfl dJ18_numberOfTrailingZeros_70 ?_
    refine x_iconst dJ18_numberOfTrailingZeros_71 ?_
    refine x_iushr (v := 1) (by decide) dJ18_numberOfTrailingZeros_72 ?_
    refine x_istore_n (i := 0) rfl (by decide) dJ18_numberOfTrailingZeros_73 ?_
    refine x_iload_n (i := 1) rfl rfl dJ18_numberOfTrailingZeros_74 ?_
    refine x_iload_n (i := 0) rfl rfl dJ18_numberOfTrailingZeros_75 ?_
    refine x_iconst dJ18_numberOfTrailingZeros_76 ?_
    refine x_iushr (v := 0) (by decide) dJ18_numberOfTrailingZeros_77 ?_
    refine x_iadd dJ18_numberOfTrailingZeros_78 ?_
    refine x_iret rfl dJ18_numberOfTrailingZeros_79 ⟨by omega, by omega⟩ ?_
    exact ⟨_, rfl, by omega, rfl⟩
  | 12, _, h =>
    refine x_iand (v := 4095) (n_ntz w 12 h _ (n_vv32 _)) dJ18_numberOfTrailingZeros_6 ?_
    refine x_istore_n (i := 0) rfl (by decide) dJ18_numberOfTrailingZeros_7 ?_
    refine x_iload_n (i := 0) rfl rfl dJ18_numberOfTrailingZeros_8 ?_
    refine x_if_gt (tgt := 17) (by omega) dJ18_numberOfTrailingZeros_9 (by decide) (fun _ => ?_) (fun z => absurd z (by omega))
    refine x_iconst dJ18_numberOfTrailingZeros_17 ?_
    refine x_istore_n (i := 1) rfl (by decide) dJ18_numberOfTrailingZeros_18 ?_
    refine x_iload_n (i := 0) rfl rfl dJ18_numberOfTrailingZeros_19 ?_
    refine x_ldcwI (v := 65536) q511 rfl dJ18_numberOfTrailingZeros_20 ?_
    refine x_icmp_le (tgt := 34) (by omega) (by omega) dJ18_numberOfTrailingZeros_23 (by decide) (fun _ => ?_) (fun z => absurd z (by omega))
    refine x_iload_n (i := 0) rfl rfl dJ18_numberOfTrailingZeros_34 ?_
    refine x_sipush (a := 256) rfl dJ18_numberOfTrailingZeros_35 ?_
    refine x_icmp_le (tgt := 49) (by omega) (by omega) dJ18_numberOfTrailingZeros_38 (by decide) (fun z => absurd z (by omega)) (fun _ => ?_)
    refine x_iinc (i := 1) rfl (by decide) dJ18_numberOfTrailingZeros_41 ?_
    refine x_iload_n (i := 0) rfl rfl dJ18_numberOfTrailingZeros_44 ?_
    refine x_bipush (a := 8) rfl dJ18_numberOfTrailingZeros_45 ?_
    refine x_iushr (v := 15) (by decide) dJ18_numberOfTrailingZeros_47 ?_
    refine x_istore_n (i := 0) rfl (by decide) dJ18_numberOfTrailingZeros_48 ?_
    refine x_iload_n (i := 0) rfl rfl dJ18_numberOfTrailingZeros_49 ?_
    refine x_bipush (a := 16) rfl dJ18_numberOfTrailingZeros_50 ?_
    refine x_icmp_le (tgt := 62) (by omega) (by omega) dJ18_numberOfTrailingZeros_52 (by decide) (fun _ => ?_) (fun z => absurd z (by omega))
    refine x_iload_n (i := 0) rfl rfl dJ18_numberOfTrailingZeros_62 ?_
    refine x_iconst dJ18_numberOfTrailingZeros_63 ?_
    refine x_icmp_le (tgt := 74) (by omega) (by omega) dJ18_numberOfTrailingZeros_64 (by decide) (fun z => absurd z (by omega)) (fun _ => ?_)
    refine x_iinc (i := 1) rfl (by decide) dJ18_numberOfTrailingZeros_67 ?_
    refine x_iload_n (i := 0) rfl rfl dJ18_numberOfTrailingZeros_70 ?_
    refine x_iconst dJ18_numberOfTrailingZeros_71 ?_
    refine x_iushr (v := 3) (by decide) dJ18_numberOfTrailingZeros_72 ?_
    refine x_istore_n (i := 0) rfl (by decide) dJ18_numberOfTrailingZeros_73 ?_
    refine x_iload_n (i := 1) rfl rfl dJ18_numberOfTrailingZeros_74 ?_
    refine x_iload_n (i := 0) rfl rfl dJ18_numberOfTrailingZeros_75 ?_
    refine x_iconst dJ18_numberOfTrailingZeros_76 ?_
    refine x_iushr (v := 1) (by decide) dJ18_numberOfTrailingZeros_77 ?_
    refine x_iadd dJ18_numberOfTrailingZeros_78 ?_
    refine x_iret rfl dJ18_numberOfTrailingZeros_79 ⟨by omega, by omega⟩ ?_
    exact ⟨_, rfl, by omega, rfl⟩
  | 13, _, h =>
    refine x_iand (v := 8191) (n_ntz w 13 h _ (n_vv32 _)) dJ18_numberOfTrailingZeros_6 ?_
    refine x_istore_n (i := 0) rfl (by decide) dJ18_numberOfTrailingZeros_7 ?_
    refine x_iload_n (i := 0) rfl rfl dJ18_numberOfTrailingZeros_8 ?_
    refine x_if_gt (tgt := 17) (by omega) dJ18_numberOfTrailingZeros_9 (by decide) (fun _ => ?_) (fun z => absurd z (by omega))
    refine x_iconst dJ18_numberOfTrailingZeros_17 ?_
    refine x_istore_n (i := 1) rfl (by decide) dJ18_numberOfTrailingZeros_18 ?_
    refine x_iload_n (i := 0) rfl rfl dJ18_numberOfTrailingZeros_19 ?_
    refine x_ldcwI (v := 65536) q511 rfl dJ18_numberOfTrailingZeros_20 ?_
    refine x_icmp_le (tgt := 34) (by omega) (by omega) dJ18_numberOfTrailingZeros_23 (by decide) (fun _ => ?_) (fun z => absurd z (by omega))
    refine x_iload_n (i := 0) rfl rfl dJ18_numberOfTrailingZeros_34 ?_
    refine x_sipush (a := 256) rfl dJ18_numberOfTrailingZeros_35 ?_
    refine x_icmp_le (tgt := 49) (by omega) (by omega) dJ18_numberOfTrailingZeros_38 (by decide) (fun z => absurd z (by omega)) (fun _ => ?_)
    refine x_iinc (i := 1) rfl (by decide) dJ18_numberOfTrailingZeros_41 ?_
    refine x_iload_n (i := 0) rfl rfl dJ18_numberOfTrailingZeros_44 ?_
    refine x_bipush (a := 8) rfl dJ18_numberOfTrailingZeros_45 ?_
    refine x_iushr (v := 31) (by decide) dJ18_numberOfTrailingZeros_47 ?_
    refine x_istore_n (i := 0) rfl (by decide) dJ18_numberOfTrailingZeros_48 ?_
    refine x_iload_n (i := 0) rfl rfl dJ18_numberOfTrailingZeros_49 ?_
    refine x_bipush (a := 16) rfl dJ18_numberOfTrailingZeros_50 ?_
    refine x_icmp_le (tgt := 62) (by omega) (by omega) dJ18_numberOfTrailingZeros_52 (by decide) (fun z => absurd z (by omega)) (fun _ => ?_)
    refine x_iinc (i := 1) rfl (by decide) dJ18_numberOfTrailingZeros_55 ?_
    refine x_iload_n (i := 0) rfl rfl dJ18_numberOfTrailingZeros_58 ?_
    refine x_iconst dJ18_numberOfTrailingZeros_59 ?_
    refine x_iushr (v := 1) (by decide) dJ18_numberOfTrailingZeros_60 ?_
    refine x_istore_n (i := 0) rfl (by decide) dJ18_numberOfTrailingZeros_61 ?_
    refine x_iload_n (i := 0) rfl rfl dJ18_numberOfTrailingZeros_62 ?_
    refine x_iconst dJ18_numberOfTrailingZeros_63 ?_
    refine x_icmp_le (tgt := 74) (by omega) (by omega) dJ18_numberOfTrailingZeros_64 (by decide) (fun _ => ?_) (fun z => absurd z (by omega))
    refine x_iload_n (i := 1) rfl rfl dJ18_numberOfTrailingZeros_74 ?_
    refine x_iload_n (i := 0) rfl rfl dJ18_numberOfTrailingZeros_75 ?_
    refine x_iconst dJ18_numberOfTrailingZeros_76 ?_
    refine x_iushr (v := 0) (by decide) dJ18_numberOfTrailingZeros_77 ?_
    refine x_iadd dJ18_numberOfTrailingZeros_78 ?_
    refine x_iret rfl dJ18_numberOfTrailingZeros_79 ⟨by omega, by omega⟩ ?_
    exact ⟨_, rfl, by omega, rfl⟩
  | 14, _, h =>
    refine x_iand (v := 16383) (n_ntz w 14 h _ (n_vv32 _)) dJ18_numberOfTrailingZeros_6 ?_
    refine x_istore_n (i := 0) rfl (by decide) dJ18_numberOfTrailingZeros_7 ?_
    refine x_iload_n (i := 0) rfl rfl dJ18_numberOfTrailingZeros_8 ?_
    refine x_if_gt (tgt := 17) (by omega) dJ18_numberOfTrailingZeros_9 (by decide) (fun _ => ?_) (fun z => absurd z (by omega))
    refine x_iconst dJ18_numberOfTrailingZeros_17 ?_
    refine x_istore_n (i := 1) rfl (by decide) dJ18_numberOfTrailingZeros_18 ?_
    refine x_iload_n (i := 0) rfl rfl dJ18_numberOfTrailingZeros_19 ?_
    refine x_ldcwI (v := 65536) q511 rfl dJ18_numberOfTrailingZeros_20 ?_
    refine x_icmp_le (tgt := 34) (by omega) (by omega) dJ18_numberOfTrailingZeros_23 (by decide) (fun _ => ?_) (fun z => absurd z (by omega))
    refine x_iload_n (i := 0) rfl rfl dJ18_numberOfTrailingZeros_34 ?_
    refine x_sipush (a := 256) rfl dJ18_numberOfTrailingZeros_35 ?_
    refine x_icmp_le (tgt := 49) (by omega) (by omega) dJ18_numberOfTrailingZeros_38 (by decide) (fun z => absurd z (by omega)) (fun _ => ?_)
    refine x_iinc (i := 1) rfl (by decide) dJ18_numberOfTrailingZeros_41 ?_
    refine x_iload_n (i := 0) rfl rfl dJ18_numberOfTrailingZeros_44 ?_
    refine x_bipush (a := 8) rfl dJ18_numberOfTrailingZeros_45 ?_
    refine x_iushr (v := 63) (by decide) dJ18_numberOfTrailingZeros_47 ?_
    refine x_istore_n (i := 0) rfl (by decide) dJ18_numberOfTrailingZeros_48 ?_
    refine x_iload_n (i := 0) rfl rfl dJ18_numberOfTrailingZeros_49 ?_
    refine x_bipush (a := 16) rfl dJ18_numberOfTrailingZeros_50 ?_
    refine x_icmp_le (tgt := 62) (by omega) (by omega) dJ18_numberOfTrailingZeros_52 (by decide) (fun z => absurd z (by omega)) (fun _ => ?_)
    refine x_iinc (i := 1) rfl (by decide) dJ18_numberOfTrailingZeros_55 ?_
    refine x_iload_n (i := 0) rfl rfl dJ18_numberOfTrailingZeros_58 ?_
    refine x_iconst dJ18_numberOfTrailingZeros_59 ?_
    refine x_iushr (v := 3) (by decide) dJ18_numberOfTrailingZeros_60 ?_
    refine x_istore_n (i := 0) rfl (by decide) dJ18_numberOfTrailingZeros_61 ?_
    refine x_iload_n (i := 0) rfl rfl dJ18_numberOfTrailingZeros_62 ?_
    refine x_iconst dJ18_numberOfTrailingZeros_63 ?_
    refine x_icmp_le (tgt := 74) (by omega) (by omega) dJ18_numberOfTrailingZeros_64 (by decide) (fun _ => ?_) (fun z => absurd z (by omega))
    refine x_iload_n (i := 1) rfl rfl dJ18_numberOfTrailingZeros_74 ?_
    refine x_iload_n (i := 0) rfl rfl dJ18_numberOfTrailingZeros_75 ?_
    refine x_iconst dJ18_numberOfTrailingZeros_76 ?_
    refine x_iushr (v := 1) (by decide) dJ18_numberOfTrailingZeros_77 ?_
    refine x_iadd dJ18_numberOfTrailingZeros_78 ?_
    refine x_iret rfl dJ18_numberOfTrailingZeros_79 ⟨by omega, by omega⟩ ?_
    exact ⟨_, rfl, by omega, rfl⟩
  | 15, _, h =>
    refine x_iand (v := 32767) (n_ntz w 15 h _ (n_vv32 _)) dJ18_numberOfTrailingZeros_6 ?_
    refine x_istore_n (i := 0) rfl (by decide) dJ18_numberOfTrailingZeros_7 ?_
    refine x_iload_n (i := 0) rfl rfl dJ18_numberOfTrailingZeros_8 ?_
    refine x_if_gt (tgt := 17) (by omega) dJ18_numberOfTrailingZeros_9 (by decide) (fun _ => ?_) (fun z => absurd z (by omega))
    refine x_iconst dJ18_numberOfTrailingZeros_17 ?_
    refine x_istore_n (i := 1) rfl (by decide) dJ18_numberOfTrailingZeros_18 ?_
    refine x_iload_n (i := 0) rfl rfl dJ18_numberOfTrailingZeros_19 ?_
    refine x_ldcwI (v := 65536) q511 rfl dJ18_numberOfTrailingZeros_20 ?_
    refine x_icmp_le (tgt := 34) (by omega) (by omega) dJ18_numberOfTrailingZeros_23 (by decide) (fun _ => ?_) (fun z => absurd z (by omega))
    refine x_iload_n (i := 0) rfl rfl dJ18_numberOfTrailingZeros_34 ?_
    refine x_sipush (a := 256) rfl dJ18_numberOfTrailingZeros_35 ?_
    refine x_icmp_le (tgt := 49) (by omega) (by omega) dJ18_numberOfTrailingZeros_38 (by decide) (fun z => absurd z (by omega)) (fun _ => ?_)
    refine x_iinc (i := 1) rfl (by decide) dJ18_numberOfTrailingZeros_41 ?_
    refine x_iload_n (i := 0) rfl rfl dJ18_numberOfTrailingZeros_44 ?_
    refine x_bipush (a := 8) rfl dJ18_numberOfTrailingZeros_45 ?_
    refine x_iushr (v := 127) (by decide) dJ18_numberOfTrailingZeros_47 ?_
    refine x_istore_n (i := 0) rfl (by decide) dJ18_numberOfTrailingZeros_48 ?_
    refine x_iload_n (i := 0) rfl rfl dJ18_numberOfTrailingZeros_49 ?_
    refine x_bipush (a := 16) rfl dJ18_numberOfTrailingZeros_50 ?_
    refine x_icmp_le (tgt := 62) (by omega) (by omega) dJ18_numberOfTrailingZeros_52 (by decide) (fun z => absurd z (by omega)) (fun _ => ?_)
    refine x_iinc (i := 1) rfl (by decide) dJ18_numberOfTrailingZeros_55 ?_
    refine x_iload_n (i := 0) rfl rfl dJ18_numberOfTrailingZeros_58 ?_
    refine x_iconst dJ18_numberOfTrailingZeros_59 ?_
    refine x_iushr (v := 7) (by decide) dJ18_numberOfTrailingZeros_60 ?_
    refine x_istore_n (i := 0) rfl (by decide) dJ18_numberOfTrailingZeros_61 ?_
    refine x_iload_n (i := 0) rfl rfl dJ18_numberOfTrailingZeros_62 ?_
    refine x_iconst dJ18_numberOfTrailingZeros_63 ?_
    refine x_icmp_le (tgt := 74) (by omega) (by omega) dJ18_numberOfTrailingZeros_64 (by decide) (fun z => absurd z (by omega)) (fun _ => ?_)
    refine x_iinc (i := 1) rfl (by decide) dJ18_numberOfTrailingZeros_67 ?_
    refine x_iload_n (i := 0) rfl rfl dJ18_numberOfTrailingZeros_70 ?_
    refine x_iconst dJ18_numberOfTrailingZeros_71 ?_
    refine x_iushr (v := 1) (by decide) dJ18_numberOfTrailingZeros_72 ?_
    refine x_istore_n (i := 0) rfl (by decide) dJ18_numberOfTrailingZeros_73 ?_
    refine x_iload_n (i := 1) rfl rfl dJ18_numberOfTrailingZeros_74 ?_
    refine x_iload_n (i := 0) rfl rfl dJ18_numberOfTrailingZeros_75 ?_
    refine x_iconst dJ18_numberOfTrailingZeros_76 ?_
    refine x_iushr (v := 0) (by decide) dJ18_numberOfTrailingZeros_77 ?_
    refine x_iadd dJ18_numberOfTrailingZeros_78 ?_
    refine x_iret rfl dJ18_numberOfTrailingZeros_79 ⟨by omega, by omega⟩ ?_
    exact ⟨_, rfl, by omega, rfl⟩
  | n + 16, hn, _ => omega
theorem m_ntzL (w j : Nat) (hj : j < 16) (hw : w < 65536) (h : w % 2 ^ (j + 1) = 2 ^ j) :
    Ct G wJ21_numberOfTrailingZeros [aL (w : Int)] M 2 0 0 (kI fun r M' => r = (j : Int) ∧ M = M') := by
  refine Ct.mk rfl rfl (Nat.le_of_ble_eq_true rfl) ?_
  have h0 : w ≠ 0 := by
    intro h0
    rw [h0, Nat.zero_mod] at h
    have : 0 < 2 ^ j := Nat.pow_pos (by omega)
    omega
  refine x_lload_n (i := 0) rfl rfl dJ21_numberOfTrailingZeros_0 ?_
  refine x_l2i dJ21_numberOfTrailingZeros_1 ?_
  refine x_istore_n (i := 2) rfl (by decide) dJ21_numberOfTrailingZeros_2 ?_
  refine x_iload_n (i := 2) rfl rfl dJ21_numberOfTrailingZeros_3 ?_
  refine x_if_ne (tgt := 21) (by omega) dJ21_numberOfTrailingZeros_4 (by decide) (fun _ => ?_) (fun z => absurd z (by omega))
  refine x_iload_n (i := 2) rfl rfl dJ21_numberOfTrailingZeros_21 ?_
  refine XCl.I (iv_J21_311 rfl (m_ntz w j hj h) rfl rfl rfl (hr_ok (by omega)) (hf_ok (by omega) (by omega)) dJ21_numberOfTrailingZeros_22) fun r M9 h1 => ?_
  obtain ⟨rfl, rfl⟩ := h1
  refine x_iret rfl dJ21_numberOfTrailingZeros_25 ⟨by omega, by omega⟩ ?_
  exact ⟨_, rfl, rfl, rfl⟩
theorem m_Bnext (hC : gConB G) (a w b k : Nat) (h : Bs M a w b) (hk : k < 17) :
    Ct G wJ30_nextSetBit [aR (some a), aI (k : Int)] M 4 0 0 (kI fun r M' => ((r = -1 ∧ ∀ i, k ≤ i → b.testBit i = false) ∨ (∃ j : Nat, r = (j : Int) ∧ k ≤ j ∧ j < 16 ∧ b.testBit j = true ∧ ∀ i, k ≤ i → i < j → b.testBit i = false)) ∧ M = M') := by
  refine Ct.mk rfl rfl (Nat.le_of_ble_eq_true rfl) ?_
  obtain ⟨u, ho, hu, hb, f, hw, hf⟩ := h
  have hk64 : k < 64 := by omega
  refine x_iload_n (i := 1) rfl rfl dJ30_nextSetBit_0 ?_
  refine x_if_ge (tgt := 31) (by omega) dJ30_nextSetBit_1 (by decide) (fun _ => ?_) (fun z => absurd z (by omega))
  refine x_aload_n (i := 0) rfl rfl dJ30_nextSetBit_31 ?_
  refine XCl.V (iv_J30_56 rfl (m_Binv hC a) (rc_o ho rfl) rfl rfl rfl (hr_ok (by omega)) (hf_ok (by omega) (by omega)) dJ30_nextSetBit_32) fun M9 h9 => ?_
  subst h9
  refine x_iload_n (i := 1) rfl rfl dJ30_nextSetBit_35 ?_
  refine XCl.I (iv_J30_52 rfl (m_Bidx k hk64) rfl rfl rfl (hr_ok (by omega)) (hf_ok (by omega) (by omega)) dJ30_nextSetBit_36) fun r M9 h1 => ?_
  obtain ⟨rfl, rfl⟩ := h1
  refine x_istore_n (i := 2) rfl (by decide) dJ30_nextSetBit_39 ?_
  refine x_iload_n (i := 2) rfl rfl dJ30_nextSetBit_40 ?_
  refine x_aload_n (i := 0) rfl rfl dJ30_nextSetBit_41 ?_
  refine gf_J30_7 rfl (by assumption) rfl dJ30_nextSetBit_42 ?_
  refine x_icmp_lt (tgt := 50) (by omega) (by omega) dJ30_nextSetBit_45 (by decide) (fun h1 => ?_) (fun h1 => ?_)
  · refine x_aload_n (i := 0) rfl rfl dJ30_nextSetBit_50 ?_
    refine gf_J30_11 rfl (by assumption) rfl dJ30_nextSetBit_51 ?_
    refine x_iload_n (i := 2) rfl rfl dJ30_nextSetBit_54 ?_
    refine x_lald (0) (by assumption) (by omega) (by omega) dJ30_nextSetBit_55 ?_
    rw [hf]
    refine x_ldc2 (v := -1) q988 rfl dJ30_nextSetBit_56 ?_
    refine x_iload_n (i := 1) rfl rfl dJ30_nextSetBit_59 ?_
    refine x_lshl (n_vv _) dJ30_nextSetBit_60 ?_
    refine x_land (n_lmask b k (by omega) _ (n_vv _)) dJ30_nextSetBit_61 ?_
    have hle : (b >>> k) <<< k ≤ b := by
      rw [Nat.shiftRight_eq_div_pow, Nat.shiftLeft_eq]
      exact Nat.div_mul_le_self b (2 ^ k)
    have htb : ∀ i, ((b >>> k) <<< k).testBit i = (decide (k ≤ i) && b.testBit i) := by
      intro i
      rw [Nat.testBit_shiftLeft, Nat.testBit_shiftRight]
      by_cases hi : k ≤ i
      · rw [show k + (i - k) = i by omega]
      · simp [hi]
    generalize (b >>> k) <<< k = v at hle htb
    refine x_lstore_n (i := 3) rfl (by decide) dJ30_nextSetBit_62 ?_
    refine x_lload_n (i := 3) rfl rfl dJ30_nextSetBit_63 ?_
    refine x_lconst (a := 0) rfl dJ30_nextSetBit_64 ?_
    refine x_lcmp (by omega) (by omega) dJ30_nextSetBit_65 fun c hc => ?_
    refine x_if_eq (tgt := 79) (by omega) dJ30_nextSetBit_66 (by decide) (fun h2 => ?_) (fun h2 => ?_)
    · have hv : v = 0 := by omega
      refine x_iinc (i := 2) rfl (by decide) dJ30_nextSetBit_79 ?_
      refine x_iload_n (i := 2) rfl rfl dJ30_nextSetBit_82 ?_
      refine x_aload_n (i := 0) rfl rfl dJ30_nextSetBit_83 ?_
      refine gf_J30_7 rfl (by assumption) rfl dJ30_nextSetBit_84 ?_
      refine x_icmp_ne (tgt := 92) (by omega) (by omega) dJ30_nextSetBit_87 (by decide) (fun z => absurd z (by omega)) (fun _ => ?_)
      refine x_iconst dJ30_nextSetBit_90 ?_
      refine x_iret rfl dJ30_nextSetBit_91 ⟨by omega, by omega⟩ ?_
      refine ⟨_, rfl, Or.inl ⟨rfl, fun i hi => ?_⟩, rfl⟩
      have h3 := htb i
      rw [hv, Nat.zero_testBit, decide_eq_true hi, Bool.true_and] at h3
      exact h3.symm
    · obtain ⟨j, h3, h4, h5⟩ := low_bit v (by omega)
      have hj : j < 16 := by
        apply Classical.byContradiction
        intro hn
        rw [Nat.testBit_lt_two_pow (Nat.lt_of_lt_of_le (show v < 2 ^ 16 by omega) (Nat.pow_le_pow_right (by omega) (by omega)))] at h4
        cases h4
      refine x_iload_n (i := 2) rfl rfl dJ30_nextSetBit_69 ?_
      refine x_bipush (a := 64) rfl dJ30_nextSetBit_70 ?_
      refine x_imul dJ30_nextSetBit_72 ?_
      refine x_lload_n (i := 3) rfl rfl dJ30_nextSetBit_73 ?_
      refine XCl.I (iv_J30_182 rfl (m_ntzL v j hj (by omega) h3) rfl rfl rfl (hr_ok (by omega)) (hf_ok (by omega) (by omega)) dJ30_nextSetBit_74) fun r M9 h9 => ?_
      obtain ⟨rfl, rfl⟩ := h9
      refine x_iadd dJ30_nextSetBit_77 ?_
      refine x_iret rfl dJ30_nextSetBit_78 ⟨by omega, by omega⟩ ?_
      have h6 := htb j
      rw [h4] at h6
      have h7 : k ≤ j ∧ b.testBit j = true := by simpa using h6.symm
      refine ⟨_, rfl, Or.inr ⟨j, by omega, h7.1, hj, h7.2, fun i hi hij => ?_⟩, rfl⟩
      have h8 := htb i
      rw [h5 i hij, decide_eq_true hi, Bool.true_and] at h8
      exact h8.symm
  · refine x_iconst dJ30_nextSetBit_48 ?_
    refine x_iret rfl dJ30_nextSetBit_49 ⟨by omega, by omega⟩ ?_
    refine ⟨_, rfl, Or.inl ⟨rfl, fun i hi => ?_⟩, rfl⟩
    rw [show b = 0 by omega, Nat.zero_testBit]
theorem m_Bens (a : Nat) (k : Int) (w : Nat) (u z : AV) (f : Nat → Int) (hM : mG M a = some (cO 15 [aR (some w), u, z])) (hw : mG M w = some (cL 1 f)) (hk : k ≤ 1) (hk0 : 0 ≤ k) :
    Ct G wJ30_ensureCapacity [aR (some a), aI k] M 1 0 0 (kV fun M' => M = M') := by
  refine Ct.mk rfl rfl (Nat.le_of_ble_eq_true rfl) ?_
  refine x_aload_n (i := 0) rfl rfl dJ30_ensureCapacity_0 ?_
  refine gf_J30_11 rfl (by assumption) rfl dJ30_ensureCapacity_1 ?_
  refine x_alen (by assumption) (by decide) (by omega) dJ30_ensureCapacity_4 ?_
  refine x_iload_n (i := 1) rfl rfl dJ30_ensureCapacity_5 ?_
  refine x_icmp_ge (tgt := 38) (by omega) (by omega) dJ30_ensureCapacity_6 (by decide) (fun _ => ?_) (fun z => absurd z (by omega))
  refine x_vret rfl dJ30_ensureCapacity_38 ⟨by omega, by omega⟩ ?_
  exact ⟨rfl, rfl⟩
theorem m_Bor (hC : gConB G) (a w b a2 w2 b2 : Nat) (h : Bs M a w b) (h2 : Bs M a2 w2 b2) (hs : a = a2 → w = w2 ∧ b = b2) (hw12 : a ≠ a2 → w ≠ w2) :
    Ct G wJ30_or [aR (some a), aR (some a2)] M 3 0 0 (kV fun M' => Bs M' a w (b ||| b2) ∧ mF (BsC a w) M M') := by
  refine Ct.mk rfl rfl (Nat.le_of_ble_eq_true rfl) ?_
  have hh := h
  have hne := h.ne
  obtain ⟨u, ho, hu, hb, f, hw, hf⟩ := h
  obtain ⟨u2, ho2, hu2, hb2, f2, hw2, hf2⟩ := h2
  refine x_aload_n (i := 0) rfl rfl dJ30_or_0 ?_
  refine x_aload_n (i := 1) rfl rfl dJ30_or_1 ?_
  refine x_acmp_ne (tgt := 6) dJ30_or_2 (by decide) (fun haa => ?_) (fun haa => ?_)
  · refine x_aload_n (i := 0) rfl rfl dJ30_or_6 ?_
    refine gf_J30_7 rfl (by assumption) rfl dJ30_or_7 ?_
    refine x_aload_n (i := 1) rfl rfl dJ30_or_10 ?_
    refine gf_J30_7 rfl (by assumption) rfl dJ30_or_11 ?_
    have hna : a ≠ a2 := fun q => haa (by rw [q])
    have hnw := hw12 hna
    have hwa2 := mG_ne hw ho2 (by simp)
    have hw2a := mG_ne hw2 ho (by simp)
    have hor : b ||| b2 < 65536 := Nat.or_lt_two_pow (n := 16) hb hb2
    have hnz : b ≠ 0 ∨ b2 ≠ 0 → b ||| b2 ≠ 0 := fun q r => by
      rw [Nat.or_eq_zero_iff] at r
      omega
    refine x_mmin q1175 (by omega) (by omega) rfl ⟨Nat.le_of_ble_eq_true rfl, Nat.le_of_ble_eq_true rfl⟩ (hf_ok (by omega) (by omega)) dJ30_or_14 ?_
    refine x_istore_n (i := 2) rfl (by decide) dJ30_or_17 ?_
    refine x_aload_n (i := 0) rfl rfl dJ30_or_18 ?_
    refine gf_J30_7 rfl (by assumption) rfl dJ30_or_19 ?_
    refine x_aload_n (i := 1) rfl rfl dJ30_or_22 ?_
    refine gf_J30_7 rfl (by assumption) rfl dJ30_or_23 ?_
    refine x_icmp_ge (tgt := 45) (by omega) (by omega) dJ30_or_26 (by decide) (fun h1 => ?_) (fun h1 => ?_)
    · refine x_iconst dJ30_or_45 ?_
      refine x_istore_n (i := 3) rfl (by decide) dJ30_or_46 ?_
      refine x_iload_n (i := 3) rfl rfl dJ30_or_47 ?_
      refine x_iload_n (i := 2) rfl rfl dJ30_or_48 ?_
      by_cases hm : min u u2 = 0
      · have hb20 : b2 = 0 := by omega
        refine x_icmp_ge (tgt := 73) (by omega) (by omega) dJ30_or_49 (by decide) (fun _ => ?_) (fun z => absurd z (by omega))
        refine x_iload_n (i := 2) rfl rfl dJ30_or_73 ?_
        refine x_aload_n (i := 1) rfl rfl dJ30_or_74 ?_
        refine gf_J30_7 rfl (by assumption) rfl dJ30_or_75 ?_
        refine x_icmp_ge (tgt := 100) (by omega) (by omega) dJ30_or_78 (by decide) (fun _ => ?_) (fun z => absurd z (by omega))
        refine x_aload_n (i := 0) rfl rfl dJ30_or_100 ?_
        refine XCl.V (iv_J30_56 rfl (m_Binv hC a) (rc_o ho rfl) rfl rfl rfl (hr_ok (by omega)) (hf_ok (by omega) (by omega)) dJ30_or_101) fun M9 h9 => ?_
        subst h9
        refine x_vret rfl dJ30_or_104 ⟨by omega, by omega⟩ ?_
        refine ⟨rfl, ?_, mF.rf _ _⟩
        rw [hb20, Nat.or_zero]
        exact hh
      · refine x_icmp_ge (tgt := 73) (by omega) (by omega) dJ30_or_49 (by decide) (fun z => absurd z (by omega)) (fun _ => ?_)
        refine x_aload_n (i := 0) rfl rfl dJ30_or_52 ?_
        refine gf_J30_11 rfl (by assumption) rfl dJ30_or_53 ?_
        refine x_iload_n (i := 3) rfl rfl dJ30_or_56 ?_
        refine x_dup2 (aCt_ok _) (aCt_ok _) dJ30_or_57 ?_
        refine x_lald (0) (by assumption) (by omega) (by omega) dJ30_or_58 ?_
        refine x_aload_n (i := 1) rfl rfl dJ30_or_59 ?_
        refine gf_J30_11 rfl (by assumption) rfl dJ30_or_60 ?_
        refine x_iload_n (i := 3) rfl rfl dJ30_or_63 ?_
        refine x_lald (0) (by assumption) (by omega) (by omega) dJ30_or_64 ?_
        rw [hf, hf2]
        refine x_lor (v := ((b ||| b2 : Nat) : Int)) (n_lor b _) dJ30_or_65 ?_
        refine u_last (0) (by assumption) (by omega) (by omega) dJ30_or_66 fun M2 h2 => ?_
        have hoo := h2.o ho (Ne.symm hne)
        have hoo2 := h2.o ho2 (Ne.symm hwa2)
        refine x_iinc (i := 3) rfl (by decide) dJ30_or_67 ?_
        refine x_goto (tgt := 47) dJ30_or_70 (by decide) ?_
        refine x_iload_n (i := 3) rfl rfl dJ30_or_47 ?_
        refine x_iload_n (i := 2) rfl rfl dJ30_or_48 ?_
        refine x_icmp_ge (tgt := 73) (by omega) (by omega) dJ30_or_49 (by decide) (fun _ => ?_) (fun z => absurd z (by omega))
        refine x_iload_n (i := 2) rfl rfl dJ30_or_73 ?_
        refine x_aload_n (i := 1) rfl rfl dJ30_or_74 ?_
        refine gf_J30_7 rfl (by assumption) rfl dJ30_or_75 ?_
        refine x_icmp_ge (tgt := 100) (by omega) (by omega) dJ30_or_78 (by decide) (fun _ => ?_) (fun z => absurd z (by omega))
        refine x_aload_n (i := 0) rfl rfl dJ30_or_100 ?_
        refine XCl.V (iv_J30_56 rfl (m_Binv hC a) (rc_o hoo rfl) rfl rfl rfl (hr_ok (by omega)) (hf_ok (by omega) (by omega)) dJ30_or_101) fun M9 h9 => ?_
        subst h9
        refine x_vret rfl dJ30_or_104 ⟨by omega, by omega⟩ ?_
        exact ⟨rfl, ⟨u, hoo, Or.inr ⟨hnz (by omega), by omega⟩, hor, _, h2.s, aup_s _ _ _⟩, h2.f (Or.inr rfl)⟩
    · refine x_aload_n (i := 0) rfl rfl dJ30_or_29 ?_
      refine x_aload_n (i := 1) rfl rfl dJ30_or_30 ?_
      refine gf_J30_7 rfl (by assumption) rfl dJ30_or_31 ?_
      refine XCl.V (iv_J30_139 rfl (m_Bens a u2 w _ _ f ho hw (by omega) (by omega)) (rc_o ho rfl) rfl rfl rfl (hr_ok (by omega)) (hf_ok (by omega) (by omega)) dJ30_or_34) fun M9 h9 => ?_
      subst h9
      refine x_aload_n (i := 0) rfl rfl dJ30_or_37 ?_
      refine x_aload_n (i := 1) rfl rfl dJ30_or_38 ?_
      refine gf_J30_7 rfl (by assumption) rfl dJ30_or_39 ?_
      refine pf_J30_7 (fs' := [_, _, _]) rfl (by assumption) rfl rfl dJ30_or_42 fun M1 h3 => ?_
      have hoo := h3.s
      have hoo2 := h3.o ho2 (Ne.symm hna)
      have hww := h3.o hw hne
      have hww2 := h3.o hw2 hw2a
      refine x_iconst dJ30_or_45 ?_
      refine x_istore_n (i := 3) rfl (by decide) dJ30_or_46 ?_
      refine x_iload_n (i := 3) rfl rfl dJ30_or_47 ?_
      refine x_iload_n (i := 2) rfl rfl dJ30_or_48 ?_
      refine x_icmp_ge (tgt := 73) (by omega) (by omega) dJ30_or_49 (by decide) (fun _ => ?_) (fun z => absurd z (by omega))
      refine x_iload_n (i := 2) rfl rfl dJ30_or_73 ?_
      refine x_aload_n (i := 1) rfl rfl dJ30_or_74 ?_
      refine gf_J30_7 rfl (by assumption) rfl dJ30_or_75 ?_
      refine x_icmp_ge (tgt := 100) (by omega) (by omega) dJ30_or_78 (by decide) (fun z => absurd z (by omega)) (fun _ => ?_)
      refine x_aload_n (i := 1) rfl rfl dJ30_or_81 ?_
      refine gf_J30_11 rfl (by assumption) rfl dJ30_or_82 ?_
      refine x_iload_n (i := 2) rfl rfl dJ30_or_85 ?_
      refine x_aload_n (i := 0) rfl rfl dJ30_or_86 ?_
      refine gf_J30_11 rfl (by assumption) rfl dJ30_or_87 ?_
      refine x_iload_n (i := 2) rfl rfl dJ30_or_90 ?_
      refine x_aload_n (i := 0) rfl rfl dJ30_or_91 ?_
      refine gf_J30_7 rfl (by assumption) rfl dJ30_or_92 ?_
      refine x_iload_n (i := 2) rfl rfl dJ30_or_95 ?_
      refine x_isub dJ30_or_96 ?_
      refine x_copyL (i := 199) 0 0 1 q1176 hww2 hww (by omega) (by omega) (by omega) (by omega) (by omega) rfl (Nat.le_of_ble_eq_true rfl) (Nat.le_of_ble_eq_true rfl) dJ30_or_97 fun M2 h4 => ?_
      have hoo3 := h4.o hoo (Ne.symm hne)
      refine x_aload_n (i := 0) rfl rfl dJ30_or_100 ?_
      refine XCl.V (iv_J30_56 rfl (m_Binv hC a) (rc_o hoo3 rfl) rfl rfl rfl (hr_ok (by omega)) (hf_ok (by omega) (by omega)) dJ30_or_101) fun M9 h9 => ?_
      subst h9
      refine x_vret rfl dJ30_or_104 ⟨by omega, by omega⟩ ?_
      refine ⟨rfl, ⟨u2, hoo3, Or.inr ⟨hnz (by omega), by omega⟩, hor, _, h4.s, ?_⟩, h4.ff (h3.f (Or.inl rfl)) (Or.inl (Or.inr rfl))⟩
      simp only [va_cpy]
      rw [if_pos (by omega), show b = 0 by omega, Nat.zero_or]
      exact hf2
  · refine x_vret rfl dJ30_or_5 ⟨by omega, by omega⟩ ?_
    obtain ⟨rfl, rfl⟩ := hs (by simpa using haa)
    refine ⟨rfl, ?_, mF.rf _ _⟩
    rw [Nat.or_self]
    exact hh
end JN
