/-! ArraysSupport.mismatch: by words of eight and four bytes, then one by one -/
set_option maxRecDepth 100000
section JN
variable {G : GG} {M : Mem}
theorem n_lxor (a b : Nat) : Int64.ofInt (a : Int) ^^^ Int64.ofInt (b : Int) = Int64.ofInt ((a ^^^ b : Nat) : Int) := by
  apply Int64.toBitVec_inj.mp
  rw [Int64.toBitVec_xor, o64, o64, o64]
  apply BitVec.eq_of_getLsbD_eq
  intro i hi
  rw [BitVec.getLsbD_xor, BitVec.getLsbD_ofNat, BitVec.getLsbD_ofNat, BitVec.getLsbD_ofNat, Nat.testBit_xor]
  simp [hi]
theorem n_ixor (a b : Nat) : Int32.ofInt (a : Int) ^^^ Int32.ofInt (b : Int) = Int32.ofInt ((a ^^^ b : Nat) : Int) := by
  apply Int32.toBitVec_inj.mp
  rw [Int32.toBitVec_xor, o32, o32, o32]
  apply BitVec.eq_of_getLsbD_eq
  intro i hi
  rw [BitVec.getLsbD_xor, BitVec.getLsbD_ofNat, BitVec.getLsbD_ofNat, BitVec.getLsbD_ofNat, Nat.testBit_xor]
  simp [hi]
theorem n_lushr32 (w : Nat) (h : w < 2 ^ 64) : ((Int64.ofInt (w : Int)).toUInt64 >>> ((Int32.ofInt 32).toInt64.toUInt64 &&& Int64.toUInt64 63)).toInt64 = Int64.ofInt ((w >>> 32 : Nat) : Int) := by
  apply Int64.toBitVec_inj.mp
  rw [o64]
  show ((Int64.ofInt (w : Int)).toBitVec >>> (32 : BitVec 64)) = _
  rw [o64]
  apply BitVec.eq_of_getLsbD_eq
  intro i hi
  rw [BitVec.ushiftRight_eq', BitVec.getLsbD_ushiftRight, BitVec.getLsbD_ofNat, BitVec.getLsbD_ofNat, Nat.testBit_shiftRight]
  have h1 : (32 : BitVec 64).toNat = 32 := by decide
  rw [h1]
  by_cases h2 : 32 + i < 64
  · simp [h2, hi]
  · have h3 : w.testBit (32 + i) = false := Nat.testBit_lt_two_pow (Nat.lt_of_lt_of_le h (Nat.pow_le_pow_right (by omega) (by omega)))
    simp [h2, h3]
/-- an int on the stack by another whole number that is the same int -/
theorem x_norm {w : MI} {R : Room} {E : XE} {cn sn pc : Nat} {L : List (Option AV)} {st : List AV} {a b : Int} (h : Int32.ofInt a = Int32.ofInt b) (k : X G w R E cn sn pc L (aI b :: st) M) : X G w R E cn sn pc L (aI a :: st) M := by
  intro p e s m args below meth cd H locs ls F hS hH hl
  have k1 := k p e s m args below meth cd H locs ls F hS hH hl
  show W p (gl G) e R s m args below meth cd H locs cn sn (E below args s) (F0 m pc ls (toV (aI a) :: st.map toV))
  rw [show toV (aI a) = toV (aI b) from by show Value.int _ = Value.int _; rw [h]]
  exact k1
theorem o32_mod (w : Nat) : Int32.ofInt (w : Int) = Int32.ofInt ((w % 2 ^ 32 : Nat) : Int) := by
  apply Int32.toBitVec_inj.mp
  rw [o32, o32]
  apply BitVec.eq_of_toNat_eq
  rw [BitVec.toNat_ofNat, BitVec.toNat_ofNat, Nat.mod_mod]
theorem o32_neg (w : Nat) : Int32.ofInt (w : Int) = Int32.ofInt ((w : Int) - 4294967296) := by
  apply Int32.toBitVec_inj.mp
  show BitVec.ofInt 32 _ = BitVec.ofInt 32 _
  apply BitVec.eq_of_toNat_eq
  rw [BitVec.toNat_ofInt, BitVec.toNat_ofInt]
  congr 1
  omega

theorem n_iushr16 (w : Nat) (h : w < 2 ^ 32) : ((Int32.ofInt (w : Int)).toUInt32 >>> ((Int32.ofInt 16).toUInt32 &&& Int32.toUInt32 31)).toInt32 = Int32.ofInt ((w >>> 16 : Nat) : Int) := by
  apply Int32.toBitVec_inj.mp
  rw [o32]
  show ((Int32.ofInt (w : Int)).toBitVec >>> (16 : BitVec 32)) = _
  rw [o32]
  apply BitVec.eq_of_getLsbD_eq
  intro i hi
  rw [BitVec.ushiftRight_eq', BitVec.getLsbD_ushiftRight, BitVec.getLsbD_ofNat, BitVec.getLsbD_ofNat, Nat.testBit_shiftRight]
  have h1 : (16 : BitVec 32).toNat = 16 := by decide
  rw [h1]
  by_cases h2 : 16 + i < 32
  · simp [h2, hi]
  · have h3 : w.testBit (16 + i) = false := Nat.testBit_lt_two_pow (Nat.lt_of_lt_of_le h (Nat.pow_le_pow_right (by omega) (by omega)))
    simp [h2, h3]
theorem m_ntzT (k : Nat) (hk : k < 17) (h0 : k ≠ 0) (v n : Int) (hv : v = ((2 ^ k - 1 : Nat) : Int)) (K : Out → Mem → Prop) (hn : K (.inl (some (aI (n + (k : Int) - 1)))) M) :
    X G wJ18_numberOfTrailingZeros (rmO 1 0 0) (mEnd G K 0 0) 0 0 34 [some (aI v), some (aI n)] [] M := by
  match k, hk, h0, hv, hn with
  | 0, _, h0, _, _ => exact absurd rfl h0
  | 1, _, _, hv, hn =>
    have hv : v = 1 := hv
    subst hv
    refine x_iload_n (i := 0) rfl rfl dJ18_numberOfTrailingZeros_34 ?_
    refine x_sipush (a := 256) rfl dJ18_numberOfTrailingZeros_35 ?_
    refine x_icmp_le (tgt := 49) (by omega) (by omega) dJ18_numberOfTrailingZeros_38 (by decide) (fun _ => ?_) (fun z => absurd z (by omega))
    refine x_iload_n (i := 0) rfl rfl dJ18_numberOfTrailingZeros_49 ?_
    refine x_bipush (a := 16) rfl dJ18_numberOfTrailingZeros_50 ?_
    refine x_icmp_le (tgt := 62) (by omega) (by omega) dJ18_numberOfTrailingZeros_52 (by decide) (fun _ => ?_) (fun z => absurd z (by omega))
    refine x_iload_n (i := 0) rfl rfl dJ18_numberOfTrailingZeros_62 ?_
    refine x_iconst dJ18_numberOfTrailingZeros_63 ?_
    refine x_icmp_le (tgt := 74) (by omega) (by omega) dJ18_numberOfTrailingZeros_64 (by decide) (fun _ => ?_) (fun z => absurd z (by omega))
    refine x_iload_n (i := 1) rfl rfl dJ18_numberOfTrailingZeros_74 ?_
    refine x_iload_n (i := 0) rfl rfl dJ18_numberOfTrailingZeros_75 ?_
    refine x_iconst dJ18_numberOfTrailingZeros_76 ?_
    refine x_iushr (v := 0) (by decide) dJ18_numberOfTrailingZeros_77 ?_
    refine x_iadd dJ18_numberOfTrailingZeros_78 ?_
    refine x_iret rfl dJ18_numberOfTrailingZeros_79 ⟨by omega, by omega⟩ ?_
    exact cast (by congr 4; omega) hn
  | 2, _, _, hv, hn =>
    have hv : v = 3 := hv
    subst hv
    refine x_iload_n (i := 0) rfl rfl dJ18_numberOfTrailingZeros_34 ?_
    refine x_sipush (a := 256) rfl dJ18_numberOfTrailingZeros_35 ?_
    refine x_icmp_le (tgt := 49) (by omega) (by omega) dJ18_numberOfTrailingZeros_38 (by decide) (fun _ => ?_) (fun z => absurd z (by omega))
    refine x_iload_n (i := 0) rfl rfl dJ18_numberOfTrailingZeros_49 ?_
    refine x_bipush (a := 16) rfl dJ18_numberOfTrailingZeros_50 ?_
    refine x_icmp_le (tgt := 62) (by omega) (by omega) dJ18_numberOfTrailingZeros_52 (by decide) (fun _ => ?_) (fun z => absurd z (by omega))
    refine x_iload_n (i := 0) rfl rfl dJ18_numberOfTrailingZeros_62 ?_
    refine x_iconst dJ18_numberOfTrailingZeros_63 ?_
    refine x_icmp_le (tgt := 74) (by omega) (by omega) dJ18_numberOfTrailingZeros_64 (by decide) (fun _ => ?_) (fun z => absurd z (by omega))
    refine x_iload_n (i := 1) rfl rfl dJ18_numberOfTrailingZeros_74 ?_
    refine x_iload_n (i := 0) rfl rfl dJ18_numberOfTrailingZeros_75 ?_
    refine x_iconst dJ18_numberOfTrailingZeros_76 ?_
    refine x_iushr (v := 1) (by decide) dJ18_numberOfTrailingZeros_77 ?_
    refine x_iadd dJ18_numberOfTrailingZeros_78 ?_
    refine x_iret rfl dJ18_numberOfTrailingZeros_79 ⟨by omega, by omega⟩ ?_
    exact cast (by congr 4; omega) hn
  | 3, _, _, hv, hn =>
    have hv : v = 7 := hv
    subst hv
    refine x_iload_n (i := 0) rfl rfl dJ18_numberOfTrailingZeros_34 ?_
    refine x_sipush (a := 256) rfl dJ18_numberOfTrailingZeros_35 ?_
    refine x_icmp_le (tgt := 49) (by omega) (by omega) dJ18_numberOfTrailingZeros_38 (by decide) (fun _ => ?_) (fun z => absurd z (by omega))
    refine x_iload_n (i := 0) rfl rfl dJ18_numberOfTrailingZeros_49 ?_
    refine x_bipush (a := 16) rfl dJ18_numberOfTrailingZeros_50 ?_
    refine x_icmp_le (tgt := 62) (by omega) (by omega) dJ18_numberOfTrailingZeros_52 (by decide) (fun _ => ?_) (fun z => absurd z (by omega))
    refine x_iload_n (i := 0) rfl rfl dJ18_numberOfTrailingZeros_62 ?_
    refine x_iconst dJ18_numberOfTrailingZeros_63 ?_
    refine x_icmp_le (tgt := 74) (by omega) (by omega) dJ18_numberOfTrailingZeros_64 (by decide) (fun z => absurd z (by omega)) (fun _ => ?_)
    refine x_iinc (i := 1) rfl (by decide) dJ18_numberOfTrailingZeros_67 ?_
    refine x_iload_n (i := 0) rfl rfl dJ18_numberOfTrailingZeros_70 ?_
    refine x_iconst dJ18_numberOfTrailingZeros_71 ?_
    refine x_iushr (v := 1) (by decide) dJ18_numberOfTrailingZeros_72 ?_
    refine x_istore_n (i := 0) rfl (by decide) dJ18_numberOfTrailingZeros_73 ?_
    refine x_iload_n (i := 1) rfl rfl dJ18_numberOfTrailingZeros_74 ?_
    refine x_iload_n (i := 0) rfl rfl dJ18_numberOfTrailingZeros_75 ?_
    refine x_iconst dJ18_numberOfTrailingZeros_76 ?_
    refine x_iushr (v := 0) (by decide) dJ18_numberOfTrailingZeros_77 ?_
    refine x_iadd dJ18_numberOfTrailingZeros_78 ?_
    refine x_iret rfl dJ18_numberOfTrailingZeros_79 ⟨by omega, by omega⟩ ?_
    exact cast (by congr 4; omega) hn
  | 4, _, _, hv, hn =>
    have hv : v = 15 := hv
    subst hv
    refine x_iload_n (i := 0) rfl rfl dJ18_numberOfTrailingZeros_34 ?_
    refine x_sipush (a := 256) rfl dJ18_numberOfTrailingZeros_35 ?_
    refine x_icmp_le (tgt := 49) (by omega) (by omega) dJ18_numberOfTrailingZeros_38 (by decide) (fun _ => ?_) (fun z => absurd z (by omega))
    refine x_iload_n (i := 0) rfl rfl dJ18_numberOfTrailingZeros_49 ?_
    refine x_bipush (a := 16) rfl dJ18_numberOfTrailingZeros_50 ?_
    refine x_icmp_le (tgt := 62) (by omega) (by omega) dJ18_numberOfTrailingZeros_52 (by decide) (fun _ => ?_) (fun z => absurd z (by omega))
    refine x_iload_n (i := 0) rfl rfl dJ18_numberOfTrailingZeros_62 ?_
    refine x_iconst dJ18_numberOfTrailingZeros_63 ?_
    refine x_icmp_le (tgt := 74) (by omega) (by omega) dJ18_numberOfTrailingZeros_64 (by decide) (fun z => absurd z (by omega)) (fun _ => ?_)
    refine x_iinc (i := 1) rfl (by decide) dJ18_numberOfTrailingZeros_67 ?_
    refine x_iload_n (i := 0) rfl rfl dJ18_numberOfTrailingZeros_70 ?_
    refine x_iconst dJ18_numberOfTrailingZeros_71 ?_
    refine x_iushr (v := 3) (by decide) dJ18_numberOfTrailingZeros_72 ?_
    refine x_istore_n (i := 0) rfl (by decide) dJ18_numberOfTrailingZeros_73 ?_
    refine x_iload_n (i := 1) rfl rfl dJ18_numberOfTrailingZeros_74 ?_
    refine x_iload_n (i := 0) rfl rfl dJ18_numberOfTrailingZeros_75 ?_
    refine x_iconst dJ18_numberOfTrailingZeros_76 ?_
    refine x_iushr (v := 1) (by decide) dJ18_numberOfTrailingZeros_77 ?_
    refine x_iadd dJ18_numberOfTrailingZeros_78 ?_
    refine x_iret rfl dJ18_numberOfTrailingZeros_79 ⟨by omega, by omega⟩ ?_
    exact cast (by congr 4; omega) hn
  | 5, _, _, hv, hn =>
    have hv : v = 31 := hv
    subst hv
    refine x_iload_n (i := 0) rfl rfl dJ18_numberOfTrailingZeros_34 ?_
    refine x_sipush (a := 256) rfl dJ18_numberOfTrailingZeros_35 ?_
    refine x_icmp_le (tgt := 49) (by omega) (by omega) dJ18_numberOfTrailingZeros_38 (by decide) (fun _ => ?_) (fun z => absurd z (by omega))
    refine x_iload_n (i := 0) rfl rfl dJ18_numberOfTrailingZeros_49 ?_
    refine x_bipush (a := 16) rfl dJ18_numberOfTrailingZeros_50 ?_
    refine x_icmp_le (tgt := 62) (by omega) (by omega) dJ18_numberOfTrailingZeros_52 (by decide) (fun z => absurd z (by omega)) (fun _ => ?_)
    refine x_iinc (i := 1) rfl (by decide) dJ18_numberOfTrailingZeros_55 ?_
    refine x_iload_n (i := 0) rfl rfl dJ18_numberOfTrailingZeros_58 ?_
    refine x_iconst dJ18_numberOfTrailingZeros_59 ?_
    refine x_iushr (v := 1) (by decide) dJ18_numberOfTrailingZeros_60 ?_
    refine x_istore_n (i := 0) rfl (by decide) dJ18_numberOfTrailingZeros_61 ?_
    refine x_iload_n (i := 0) rfl rfl dJ18_numberOfTrailingZeros_62 ?_
    refine x_iconst dJ18_numberOfTrailingZeros_63 ?_
    refine x_icmp_le (tgt := 74) (by omega) (by omega) dJ18_numberOfTrailingZeros_64 (by decide) (fun _ => ?_) (fun z => absurd z (by omega))
    refine x_iload_n (i := 1) rfl rfl dJ18_numberOfTrailingZeros_74 ?_
    refine x_iload_n (i := 0) rfl rfl dJ18_numberOfTrailingZeros_75 ?_
    refine x_iconst dJ18_numberOfTrailingZeros_76 ?_
    refine x_iushr (v := 0) (by decide) dJ18_numberOfTrailingZeros_77 ?_
    refine x_iadd dJ18_numberOfTrailingZeros_78 ?_
    refine x_iret rfl dJ18_numberOfTrailingZeros_79 ⟨by omega, by omega⟩ ?_
    exact cast (by congr 4; omega) hn
  | 6, _, _, hv, hn =>
    have hv : v = 63 := hv
    subst hv
    refine x_iload_n (i := 0) rfl rfl dJ18_numberOfTrailingZeros_34 ?_
    refine x_sipush (a := 256) rfl dJ18_numberOfTrailingZeros_35 ?_
    refine x_icmp_le (tgt := 49) (by omega) (by omega) dJ18_numberOfTrailingZeros_38 (by decide) (fun _ => ?_) (fun z => absurd z (by omega))
    refine x_iload_n (i := 0) rfl rfl dJ18_numberOfTrailingZeros_49 ?_
    refine x_bipush (a := 16) rfl dJ18_numberOfTrailingZeros_50 ?_
    refine x_icmp_le (tgt := 62) (by omega) (by omega) dJ18_numberOfTrailingZeros_52 (by decide) (fun z => absurd z (by omega)) (fun _ => ?_)
    refine x_iinc (i := 1) rfl (by decide) dJ18_numberOfTrailingZeros_55 ?_
    refine x_iload_n (i := 0) rfl rfl dJ18_numberOfTrailingZeros_58 ?_
    refine x_iconst dJ18_numberOfTrailingZeros_59 ?_
    refine x_iushr (v := 3) (by decide) dJ18_numberOfTrailingZeros_60 ?_
    refine x_istore_n (i := 0) rfl (by decide) dJ18_numberOfTrailingZeros_61 ?_
    refine x_iload_n (i := 0) rfl rfl dJ18_numberOfTrailingZeros_62 ?_
    refine x_iconst dJ18_numberOfTrailingZeros_63 ?_
    refine x_icmp_le (tgt := 74) (by omega) (by omega) dJ18_numberOfTrailingZeros_64 (by decide) (fun _ => ?_) (fun z => absurd z (by omega))
    refine x_iload_n (i := 1) rfl rfl dJ18_numberOfTrailingZeros_74 ?_
    refine x_iload_n (i := 0) rfl rfl dJ18_numberOfTrailingZeros_75 ?_
    refine x_iconst dJ18_numberOfTrailingZeros_76 ?_
    refine x_iushr (v := 1) (by decide) dJ18_numberOfTrailingZeros_77 ?_
    refine x_iadd dJ18_numberOfTrailingZeros_78 ?_
    refine x_iret rfl dJ18_numberOfTrailingZeros_79 ⟨by omega, by omega⟩ ?_
    exact cast (by congr 4; omega) hn
  | 7, _, _, hv, hn =>
    have hv : v = 127 := hv
    subst hv
    refine x_iload_n (i := 0) rfl rfl dJ18_numberOfTrailingZeros_34 ?_
    refine x_sipush (a := 256) rfl dJ18_numberOfTrailingZeros_35 ?_
    refine x_icmp_le (tgt := 49) (by omega) (by omega) dJ18_numberOfTrailingZeros_38 (by decide) (fun _ => ?_) (fun z => absurd z (by omega))
    refine x_iload_n (i := 0) rfl rfl dJ18_numberOfTrailingZeros_49 ?_
    refine x_bipush (a := 16) rfl dJ18_numberOfTrailingZeros_50 ?_
    refine x_icmp_le (tgt := 62) (by omega) (by omega) dJ18_numberOfTrailingZeros_52 (by decide) (fun z => absurd z (by omega)) (fun _ => ?_)
    refine x_iinc (i := 1) rfl (by decide) dJ18_numberOfTrailingZeros_55 ?_
    refine x_iload_n (i := 0) rfl rfl dJ18_numberOfTrailingZeros_58 ?_
    refine x_iconst dJ18_numberOfTrailingZeros_59 ?_
    refine x_iushr (v := 7) (by decide) dJ18_numberOfTrailingZeros_60 ?_
    refine x_istore_n (i := 0) rfl (by decide) dJ18_numberOfTrailingZeros_61 ?_
    refine x_iload_n (i := 0) rfl rfl dJ18_numberOfTrailingZeros_62 ?_
    refine x_iconst dJ18_numberOfTrailingZeros_63 ?_
    refine x_icmp_le (tgt := 74) (by omega) (by omega) dJ18_numberOfTrailingZeros_64 (by decide) (fun z => absurd z (by omega)) (fun _ => ?_)
    refine x_iinc (i := 1) rfl (by decide) dJ18_numberOfTrailingZeros_67 ?_
    refine x_iload_n (i := 0) rfl rfl dJ18_numberOfTrailingZeros_70 ?_
    refine x_iconst dJ18_numberOfTrailingZeros_71 ?_
    refine x_iushr (v := 1) (by decide) dJ18_numberOfTrailingZeros_72 ?_
    refine x_istore_n (i := 0) rfl (by decide) dJ18_numberOfTrailingZeros_73 ?_
    refine x_iload_n (i := 1) rfl rfl dJ18_numberOfTrailingZeros_74 ?_
    refine x_iload_n (i := 0) rfl rfl dJ18_numberOfTrailingZeros_75 ?_
    refine x_iconst dJ18_numberOfTrailingZeros_76 ?_
    refine x_iushr (v := 0) (by decide) dJ18_numberOfTrailingZeros_77 ?_
    refine x_iadd dJ18_numberOfTrailingZeros_78 ?_
    refine x_iret rfl dJ18_numberOfTrailingZeros_79 ⟨by omega, by omega⟩ ?_
    exact cast (by congr 4; omega) hn
  | 8, _, _, hv, hn =>
    have hv : v = 255 := hv
    subst hv
    refine x_iload_n (i := 0) rfl rfl dJ18_numberOfTrailingZeros_34 ?_
    refine x_sipush (a := 256) rfl dJ18_numberOfTrailingZeros_35 ?_
    refine x_icmp_le (tgt := 49) (by omega) (by omega) dJ18_numberOfTrailingZeros_38 (by decide) (fun _ => ?_) (fun z => absurd z (by omega))
    refine x_iload_n (i := 0) rfl rfl dJ18_numberOfTrailingZeros_49 ?_
    refine x_bipush (a := 16) rfl dJ18_numberOfTrailingZeros_50 ?_
    refine x_icmp_le (tgt := 62) (by omega) (by omega) dJ18_numberOfTrailingZeros_52 (by decide) (fun z => absurd z (by omega)) (fun _ => ?_)
    refine x_iinc (i := 1) rfl (by decide) dJ18_numberOfTrailingZeros_55 ?_
    refine x_iload_n (i := 0) rfl rfl dJ18_numberOfTrailingZeros_58 ?_
    refine x_iconst dJ18_numberOfTrailingZeros_59 ?_
    refine x_iushr (v := 15) (by decide) dJ18_numberOfTrailingZeros_60 ?_
    refine x_istore_n (i := 0) rfl (by decide) dJ18_numberOfTrailingZeros_61 ?_
    refine x_iload_n (i := 0) rfl rfl dJ18_numberOfTrailingZeros_62 ?_
    refine x_iconst dJ18_numberOfTrailingZeros_63 ?_
    refine x_icmp_le (tgt := 74) (by omega) (by omega) dJ18_numberOfTrailingZeros_64 (by decide) (fun z => absurd z (by omega)) (fun _ => ?_)
    refine x_iinc (i := 1) rfl (by decide) dJ18_numberOfTrailingZeros_67 ?_
    refine x_iload_n (i := 0) rfl rfl dJ18_numberOfTrailingZeros_70 ?_
    refine x_iconst dJ18_numberOfTrailingZeros_71 ?_
    refine x_iushr (v := 3) (by decide) dJ18_numberOfTrailingZeros_72 ?_
    refine x_istore_n (i := 0) rfl (by decide) dJ18_numberOfTrailingZeros_73 ?_
    refine x_iload_n (i := 1) rfl rfl dJ18_numberOfTrailingZeros_74 ?_
    refine x_iload_n (i := 0) rfl rfl dJ18_numberOfTrailingZeros_75 ?_
    refine x_iconst dJ18_numberOfTrailingZeros_76 ?_
    refine x_iushr (v := 1) (by decide) dJ18_numberOfTrailingZeros_77 ?_
    refine x_iadd dJ18_numberOfTrailingZeros_78 ?_
    refine x_iret rfl dJ18_numberOfTrailingZeros_79 ⟨by omega, by omega⟩ ?_
    exact cast (by congr 4; omega) hn
  | 9, _, _, hv, hn =>
    have hv : v = 511 := hv
    subst hv
    refine x_iload_n (i := 0) rfl rfl dJ18_numberOfTrailingZeros_34 ?_
    refine x_sipush (a := 256) rfl dJ18_numberOfTrailingZeros_35 ?_
    refine x_icmp_le (tgt := 49) (by omega) (by omega) dJ18_numberOfTrailingZeros_38 (by decide) (fun z => absurd z (by omega)) (fun _ => ?_)
    refine x_iinc (i := 1) rfl (by decide) dJ18_numberOfTrailingZeros_41 ?_
    refine x_iload_n (i := 0) rfl rfl dJ18_numberOfTrailingZeros_44 ?_
    refine x_bipush (a := 8) rfl dJ18_numberOfTrailingZeros_45 ?_
    refine x_iushr (v := 1) (by decide) dJ18_numberOfTrailingZeros_47 ?_
    refine x_istore_n (i := 0) rfl (by decide) dJ18_numberOfTrailingZeros_48 ?_
    refine x_iload_n (i := 0) rfl rfl dJ18_numberOfTrailingZeros_49 ?_
    refine x_bipush (a := 16) rfl dJ18_numberOfTrailingZeros_50 ?_
    refine x_icmp_le (tgt := 62) (by omega) (by omega) dJ18_numberOfTrailingZeros_52 (by decide) (fun _ => ?_) (fun z => absurd z (by omega))
    refine x_iload_n (i := 0) rfl rfl dJ18_numberOfTrailingZeros_62 ?_
    refine x_iconst dJ18_numberOfTrailingZeros_63 ?_
    refine x_icmp_le (tgt := 74) (by omega) (by omega) dJ18_numberOfTrailingZeros_64 (by decide) (fun _ => ?_) (fun z => absurd z (by omega))
    refine x_iload_n (i := 1) rfl rfl dJ18_numberOfTrailingZeros_74 ?_
    refine x_iload_n (i := 0) rfl rfl dJ18_numberOfTrailingZeros_75 ?_
    refine x_iconst dJ18_numberOfTrailingZeros_76 ?_
    refine x_iushr (v := 0) (by decide) dJ18_numberOfTrailingZeros_77 ?_
    refine x_iadd dJ18_numberOfTrailingZeros_78 ?_
    refine x_iret rfl dJ18_numberOfTrailingZeros_79 ⟨by omega, by omega⟩ ?_
    exact cast (by congr 4; omega) hn
  | 10, _, _, hv, hn =>
    have hv : v = 1023 := hv
    subst hv
    refine x_iload_n (i := 0) rfl rfl dJ18_numberOfTrailingZeros_34 ?_
    refine x_sipush (a := 256) rfl dJ18_numberOfTrailingZeros_35 ?_
    refine x_icmp_le (tgt := 49) (by omega) (by omega) dJ18_numberOfTrailingZeros_38 (by decide) (fun z => absurd z (by omega)) (fun _ => ?_)
    refine x_iinc (i := 1) rfl (by decide) dJ18_numberOfTrailingZeros_41 ?_
    refine x_iload_n (i := 0) rfl rfl dJ18_numberOfTrailingZeros_44 ?_
    refine x_bipush (a := 8) rfl dJ18_numberOfTrailingZeros_45 ?_
    refine x_iushr (v := 3) (by decide) dJ18_numberOfTrailingZeros_47 ?_
    refine x_istore_n (i := 0) rfl (by decide) dJ18_numberOfTrailingZeros_48 ?_
    refine x_iload_n (i := 0) rfl rfl dJ18_numberOfTrailingZeros_49 ?_
    refine x_bipush (a := 16) rfl dJ18_numberOfTrailingZeros_50 ?_
    refine x_icmp_le (tgt := 62) (by omega) (by omega) dJ18_numberOfTrailingZeros_52 (by decide) (fun _ => ?_) (fun z => absurd z (by omega))
    refine x_iload_n (i := 0) rfl rfl dJ18_numberOfTrailingZeros_62 ?_
    refine x_iconst dJ18_numberOfTrailingZeros_63 ?_
    refine x_icmp_le (tgt := 74) (by omega) (by omega) dJ18_numberOfTrailingZeros_64 (by decide) (fun _ => ?_) (fun z => absurd z (by omega))
    refine x_iload_n (i := 1) rfl rfl dJ18_numberOfTrailingZeros_74 ?_
    refine x_iload_n (i := 0) rfl rfl dJ18_numberOfTrailingZeros_75 ?_
    refine x_iconst dJ18_numberOfTrailingZeros_76 ?_
    refine x_iushr (v := 1) (by decide) dJ18_numberOfTrailingZeros_77 ?_
    refine x_iadd dJ18_numberOfTrailingZeros_78 ?_
    refine x_iret rfl dJ18_numberOfTrailingZeros_79 ⟨by omega, by omega⟩ ?_
    exact cast (by congr 4; omega) hn
  | 11, _, _, hv, hn =>
    have hv : v = 2047 := hv
    subst hv
    refine x_iload_n (i := 0) rfl rfl dJ18_numberOfTrailingZeros_34 ?_
    refine x_sipush (a := 256) rfl dJ18_numberOfTrailingZeros_35 ?_
    refine x_icmp_le (tgt := 49) (by omega) (by omega) dJ18_numberOfTrailingZeros_38 (by decide) (fun z => absurd z (by omega)) (fun _ => ?_)
    refine x_iinc (i := 1) rfl (by decide) dJ18_numberOfTrailingZeros_41 ?_
    refine x_iload_n (i := 0) rfl rfl dJ18_numberOfTrailingZeros_44 ?_
    refine x_bipush (a := 8) rfl dJ18_numberOfTrailingZeros_45 ?_
    refine x_iushr (v := 7) (by decide) dJ18_numberOfTrailingZeros_47 ?_
    refine x_istore_n (i := 0) rfl (by decide) dJ18_numberOfTrailingZeros_48 ?_
    refine x_iload_n (i := 0) rfl rfl dJ18_numberOfTrailingZeros_49 ?_
    refine x_bipush (a := 16) rfl dJ18_numberOfTrailingZeros_50 ?_
    refine x_icmp_le (tgt := 62) (by omega) (by omega) dJ18_numberOfTrailingZeros_52 (by decide) (fun _ => ?_) (fun z => absurd z (by omega))
    refine x_iload_n (i := 0) rfl rfl dJ18_numberOfTrailingZeros_62 ?_
    refine x_iconst dJ18_numberOfTrailingZeros_63 ?_
    refine x_icmp_le (tgt := 74) (by omega) (by omega) dJ18_numberOfTrailingZeros_64 (by decide) (fun z => absurd z (by omega)) (fun _ => ?_)
    refine x_iinc (i := 1) rfl (by decide) dJ18_numberOfTrailingZeros_67 ?_
    refine x_iload_n (i := 0) rfl rfl dJ18_numberOfTrailingZeros_70 ?_
    refine x_iconst dJ18_numberOfTrailingZeros_71 ?_
    refine x_iushr (v := 1) (by decide) dJ18_numberOfTrailingZeros_72 ?_
    refine x_istore_n (i := 0) rfl (by decide) dJ18_numberOfTrailingZeros_73 ?_
    refine x_iload_n (i := 1) rfl rfl dJ18_numberOfTrailingZeros_74 ?_
    refine x_iload_n (i := 0) rfl rfl dJ18_numberOfTrailingZeros_75 ?_
    refine x_iconst dJ18_numberOfTrailingZeros_76 ?_
    refine x_iushr (v := 0) (by decide) dJ18_numberOfTrailingZeros_77 ?_
    refine x_iadd dJ18_numberOfTrailingZeros_78 ?_
    refine x_iret rfl dJ18_numberOfTrailingZeros_79 ⟨by omega, by omega⟩ ?_
    exact cast (by congr 4; omega) hn
  | 12, _, _, hv, hn =>
    have hv : v = 4095 := hv
    subst hv
    refine x_iload_n (i := 0) rfl rfl dJ18_numberOfTrailingZeros_34 ?_
    refine x_sipush (a := 256) rfl dJ18_numberOfTrailingZeros_35 ?_
    refine x_icmp_le (tgt := 49) (by omega) (by omega) dJ18_numberOfTrailingZeros_38 (by decide) (fun z => absurd z (by omega)) (fun _ => ?_)
    refine x_iinc (i := 1) rfl (by decide) dJ18_numberOfTrailingZeros_41 ?_
    refine x_iload_n (i := 0) rfl rfl dJ18_numberOfTrailingZeros_44 ?_
    refine x_bipush (a := 8) rfl dJ18_numberOfTrailingZeros_45 ?_
    refine x_iushr (v := 15) (by decide) dJ18_numberOfTrailingZeros_47 ?_
    refine x_istore_n (i := 0) rfl (by decide) dJ18_numberOfTrailingZeros_48 ?_
    refine x_iload_n (i := 0) rfl rfl dJ18_numberOfTrailingZeros_49 ?_
    refine x_bipush (a := 16) rfl dJ18_numberOfTrailingZeros_50 ?_
    refine x_icmp_le (tgt := 62) (by omega) (by omega) dJ18_numberOfTrailingZeros_52 (by decide) (fun _ => ?_) (fun z => absurd z (by omega))
    refine x_iload_n (i := 0) rfl rfl dJ18_numberOfTrailingZeros_62 ?_
    refine x_iconst dJ18_numberOfTrailingZeros_63 ?_
    refine x_icmp_le (tgt := 74) (by omega) (by omega) dJ18_numberOfTrailingZeros_64 (by decide) (fun z => absurd z (by omega)) (fun _ => ?_)
    refine x_iinc (i := 1) rfl (by decide) dJ18_numberOfTrailingZeros_67 ?_
    refine x_iload_n (i := 0) rfl rfl dJ18_numberOfTrailingZeros_70 ?_
    refine x_iconst dJ18_numberOfTrailingZeros_71 ?_
    refine x_iushr (v := 3) (by decide) dJ18_numberOfTrailingZeros_72 ?_
    refine x_istore_n (i := 0) rfl (by decide) dJ18_numberOfTrailingZeros_73 ?_
    refine x_iload_n (i := 1) rfl rfl dJ18_numberOfTrailingZeros_74 ?_
    refine x_iload_n (i := 0) rfl rfl dJ18_numberOfTrailingZeros_75 ?_
    refine x_iconst dJ18_numberOfTrailingZeros_76 ?_
    refine x_iushr (v := 1) (by decide) dJ18_numberOfTrailingZeros_77 ?_
    refine x_iadd dJ18_numberOfTrailingZeros_78 ?_
    refine x_iret rfl dJ18_numberOfTrailingZeros_79 ⟨by omega, by omega⟩ ?_
    exact cast (by congr 4; omega) hn
  | 13, _, _, hv, hn =>
    have hv : v = 8191 := hv
    subst hv
    refine x_iload_n (i := 0) rfl rfl dJ18_numberOfTrailingZeros_34 ?_
    refine x_sipush (a := 256) rfl dJ18_numberOfTrailingZeros_35 ?_
    refine x_icmp_le (tgt := 49) (by omega) (by omega) dJ18_numberOfTrailingZeros_38 (by decide) (fun z => absurd z (by omega)) (fun _ => ?_)
    refine x_iinc (i := 1) rfl (by decide) dJ18_numberOfTrailingZeros_41 ?_
    refine x_iload_n (i := 0) rfl rfl dJ18_numberOfTrailingZeros_44 ?_
    refine x_bipush (a := 8) rfl dJ18_numberOfTrailingZeros_45 ?_
    refine x_iushr (v := 31) (by decide) dJ18_numberOfTrailingZeros_47 ?_
    refine x_istore_n (i := 0) rfl (by decide) dJ18_numberOfTrailingZeros_48 ?_
    refine x_iload_n (i := 0) rfl rfl dJ18_numberOfTrailingZeros_49 ?_
    refine x_bipush (a := 16) rfl dJ18_numberOfTrailingZeros_50 ?_
    refine x_icmp_le (tgt := 62) (by omega) (by omega) dJ18_numberOfTrailingZeros_52 (by decide) (fun z => absurd z (by omega)) (fun _ => ?_)
    refine x_iinc (i := 1) rfl (by decide) dJ18_numberOfTrailingZeros_55 ?_
    refine x_iload_n (i := 0) rfl rfl dJ18_numberOfTrailingZeros_58 ?_
    refine x_iconst dJ18_numberOfTrailingZeros_59 ?_
    refine x_iushr (v := 1) (by decide) dJ18_numberOfTrailingZeros_60 ?_
    refine x_istore_n (i := 0) rfl (by decide) dJ18_numberOfTrailingZeros_61 ?_
    refine x_iload_n (i := 0) rfl rfl dJ18_numberOfTrailingZeros_62 ?_
    refine x_iconst dJ18_numberOfTrailingZeros_63 ?_
    refine x_icmp_le (tgt := 74) (by omega) (by omega) dJ18_numberOfTrailingZeros_64 (by decide) (fun _ => ?_) (fun z => absurd z (by omega))
    refine x_iload_n (i := 1) rfl rfl dJ18_numberOfTrailingZeros_74 ?_
    refine x_iload_n (i := 0) rfl rfl dJ18_numberOfTrailingZeros_75 ?_
    refine x_iconst dJ18_numberOfTrailingZeros_76 ?_
    refine x_iushr (v := 0) (by decide) dJ18_numberOfTrailingZeros_77 ?_
    refine x_iadd dJ18_numberOfTrailingZeros_78 ?_
    refine x_iret rfl dJ18_numberOfTrailingZeros_79 ⟨by omega, by omega⟩ ?_
    exact cast (by congr 4; omega) hn
  | 14, _, _, hv, hn =>
    have hv : v = 16383 := hv
    subst hv
    refine x_iload_n (i := 0) rfl rfl dJ18_numberOfTrailingZeros_34 ?_
    refine x_sipush (a := 256) rfl dJ18_numberOfTrailingZeros_35 ?_
    refine x_icmp_le (tgt := 49) (by omega) (by omega) dJ18_numberOfTrailingZeros_38 (by decide) (fun z => absurd z (by omega)) (fun _ => ?_)
    refine x_iinc (i := 1) rfl (by decide) dJ18_numberOfTrailingZeros_41 ?_
    refine x_iload_n (i := 0) rfl rfl dJ18_numberOfTrailingZeros_44 ?_
    refine x_bipush (a := 8) rfl dJ18_numberOfTrailingZeros_45 ?_
    refine x_iushr (v := 63) (by decide) dJ18_numberOfTrailingZeros_47 ?_
    refine x_istore_n (i := 0) rfl (by decide) dJ18_numberOfTrailingZeros_48 ?_
    refine x_iload_n (i := 0) rfl rfl dJ18_numberOfTrailingZeros_49 ?_
    refine x_bipush (a := 16) rfl dJ18_numberOfTrailingZeros_50 ?_
    refine x_icmp_le (tgt := 62) (by omega) (by omega) dJ18_numberOfTrailingZeros_52 (by decide) (fun z => absurd z (by omega)) (fun _ => ?_)
    refine x_iinc (i := 1) rfl (by decide) dJ18_numberOfTrailingZeros_55 ?_
    refine x_iload_n (i := 0) rfl rfl dJ18_numberOfTrailingZeros_58 ?_
    refine x_iconst dJ18_numberOfTrailingZeros_59 ?_
    refine x_iushr (v := 3) (by decide) dJ18_numberOfTrailingZeros_60 ?_
    refine x_istore_n (i := 0) rfl (by decide) dJ18_numberOfTrailingZeros_61 ?_
    refine x_iload_n (i := 0) rfl rfl dJ18_numberOfTrailingZeros_62 ?_
    refine x_iconst dJ18_numberOfTrailingZeros_63 ?_
    refine x_icmp_le (tgt := 74) (by omega) (by omega) dJ18_numberOfTrailingZeros_64 (by decide) (fun _ => ?_) (fun z => absurd z (by omega))
    refine x_iload_n (i := 1) rfl rfl dJ18_numberOfTrailingZeros_74 ?_
    refine x_iload_n (i := 0) rfl rfl dJ18_numberOfTrailingZeros_75 ?_
    refine x_iconst dJ18_numberOfTrailingZeros_76 ?_
    refine x_iushr (v := 1) (by decide) dJ18_numberOfTrailingZeros_77 ?_
    refine x_iadd dJ18_numberOfTrailingZeros_78 ?_
    refine x_iret rfl dJ18_numberOfTrailingZeros_79 ⟨by omega, by omega⟩ ?_
    exact cast (by congr 4; omega) hn
  | 15, _, _, hv, hn =>
    have hv : v = 32767 := hv
    subst hv
    refine x_iload_n (i := 0) rfl rfl dJ18_numberOfTrailingZeros_34 ?_
    refine x_sipush (a := 256) rfl dJ18_numberOfTrailingZeros_35 ?_
    refine x_icmp_le (tgt := 49) (by omega) (by omega) dJ18_numberOfTrailingZeros_38 (by decide) (fun z => absurd z (by omega)) (fun _ => ?_)
    refine x_iinc (i := 1) rfl (by decide) dJ18_numberOfTrailingZeros_41 ?_
    refine x_iload_n (i := 0) rfl rfl dJ18_numberOfTrailingZeros_44 ?_
    refine x_bipush (a := 8) rfl dJ18_numberOfTrailingZeros_45 ?_
    refine x_iushr (v := 127) (by decide) dJ18_numberOfTrailingZeros_47 ?_
    refine x_istore_n (i := 0) rfl (by decide) dJ18_numberOfTrailingZeros_48 ?_
    refine x_iload_n (i := 0) rfl rfl dJ18_numberOfTrailingZeros_49 ?_
    refine x_bipush (a := 16) rfl dJ18_numberOfTrailingZeros_50 ?_
    refine x_icmp_le (tgt := 62) (by omega) (by omega) dJ18_numberOfTrailingZeros_52 (by decide) (fun z => absurd z (by omega)) (fun _ => ?_)
    refine x_iinc (i := 1) rfl (by decide) dJ18_numberOfTrailingZeros_55 ?_
    refine x_iload_n (i := 0) rfl rfl dJ18_numberOfTrailingZeros_58 ?_
    refine x_iconst dJ18_numberOfTrailingZeros_59 ?_
    refine x_iushr (v := 7) (by decide) dJ18_numberOfTrailingZeros_60 ?_
    refine x_istore_n (i := 0) rfl (by decide) dJ18_numberOfTrailingZeros_61 ?_
    refine x_iload_n (i := 0) rfl rfl dJ18_numberOfTrailingZeros_62 ?_
    refine x_iconst dJ18_numberOfTrailingZeros_63 ?_
    refine x_icmp_le (tgt := 74) (by omega) (by omega) dJ18_numberOfTrailingZeros_64 (by decide) (fun z => absurd z (by omega)) (fun _ => ?_)
    refine x_iinc (i := 1) rfl (by decide) dJ18_numberOfTrailingZeros_67 ?_
    refine x_iload_n (i := 0) rfl rfl dJ18_numberOfTrailingZeros_70 ?_
    refine x_iconst dJ18_numberOfTrailingZeros_71 ?_
    refine x_iushr (v := 1) (by decide) dJ18_numberOfTrailingZeros_72 ?_
    refine x_istore_n (i := 0) rfl (by decide) dJ18_numberOfTrailingZeros_73 ?_
    refine x_iload_n (i := 1) rfl rfl dJ18_numberOfTrailingZeros_74 ?_
    refine x_iload_n (i := 0) rfl rfl dJ18_numberOfTrailingZeros_75 ?_
    refine x_iconst dJ18_numberOfTrailingZeros_76 ?_
    refine x_iushr (v := 0) (by decide) dJ18_numberOfTrailingZeros_77 ?_
    refine x_iadd dJ18_numberOfTrailingZeros_78 ?_
    refine x_iret rfl dJ18_numberOfTrailingZeros_79 ⟨by omega, by omega⟩ ?_
    exact cast (by congr 4; omega) hn
  | 16, _, _, hv, hn =>
    have hv : v = 65535 := hv
    subst hv
    refine x_iload_n (i := 0) rfl rfl dJ18_numberOfTrailingZeros_34 ?_
    refine x_sipush (a := 256) rfl dJ18_numberOfTrailingZeros_35 ?_
    refine x_icmp_le (tgt := 49) (by omega) (by omega) dJ18_numberOfTrailingZeros_38 (by decide) (fun z => absurd z (by omega)) (fun _ => ?_)
    refine x_iinc (i := 1) rfl (by decide) dJ18_numberOfTrailingZeros_41 ?_
    refine x_iload_n (i := 0) rfl rfl dJ18_numberOfTrailingZeros_44 ?_
    refine x_bipush (a := 8) rfl dJ18_numberOfTrailingZeros_45 ?_
    refine x_iushr (v := 255) (by decide) dJ18_numberOfTrailingZeros_47 ?_
    refine x_istore_n (i := 0) rfl (by decide) dJ18_numberOfTrailingZeros_48 ?_
    refine x_iload_n (i := 0) rfl rfl dJ18_numberOfTrailingZeros_49 ?_
    refine x_bipush (a := 16) rfl dJ18_numberOfTrailingZeros_50 ?_
    refine x_icmp_le (tgt := 62) (by omega) (by omega) dJ18_numberOfTrailingZeros_52 (by decide) (fun z => absurd z (by omega)) (fun _ => ?_)
    refine x_iinc (i := 1) rfl (by decide) dJ18_numberOfTrailingZeros_55 ?_
    refine x_iload_n (i := 0) rfl rfl dJ18_numberOfTrailingZeros_58 ?_
    refine x_iconst dJ18_numberOfTrailingZeros_59 ?_
    refine x_iushr (v := 15) (by decide) dJ18_numberOfTrailingZeros_60 ?_
    refine x_istore_n (i := 0) rfl (by decide) dJ18_numberOfTrailingZeros_61 ?_
    refine x_iload_n (i := 0) rfl rfl dJ18_numberOfTrailingZeros_62 ?_
    refine x_iconst dJ18_numberOfTrailingZeros_63 ?_
    refine x_icmp_le (tgt := 74) (by omega) (by omega) dJ18_numberOfTrailingZeros_64 (by decide) (fun z => absurd z (by omega)) (fun _ => ?_)
    refine x_iinc (i := 1) rfl (by decide) dJ18_numberOfTrailingZeros_67 ?_
    refine x_iload_n (i := 0) rfl rfl dJ18_numberOfTrailingZeros_70 ?_
    refine x_iconst dJ18_numberOfTrailingZeros_71 ?_
    refine x_iushr (v := 3) (by decide) dJ18_numberOfTrailingZeros_72 ?_
    refine x_istore_n (i := 0) rfl (by decide) dJ18_numberOfTrailingZeros_73 ?_
    refine x_iload_n (i := 1) rfl rfl dJ18_numberOfTrailingZeros_74 ?_
    refine x_iload_n (i := 0) rfl rfl dJ18_numberOfTrailingZeros_75 ?_
    refine x_iconst dJ18_numberOfTrailingZeros_76 ?_
    refine x_iushr (v := 1) (by decide) dJ18_numberOfTrailingZeros_77 ?_
    refine x_iadd dJ18_numberOfTrailingZeros_78 ?_
    refine x_iret rfl dJ18_numberOfTrailingZeros_79 ⟨by omega, by omega⟩ ?_
    exact cast (by congr 4; omega) hn
  | n + 17, hn, _, _, _ => omega
theorem m_ntz32 (w j : Nat) (hj : j < 32) (h : w % 2 ^ (j + 1) = 2 ^ j) :
    Ct G wJ18_numberOfTrailingZeros [aI (w : Int)] M 1 0 0 (kI fun r M' => r = (j : Int) ∧ M = M') := by
  refine Ct.mk rfl rfl (Nat.le_of_ble_eq_true rfl) ?_
  have hp : 0 < 2 ^ j := Nat.pow_pos (by omega)
  have hlt : 2 ^ j ≤ 2 ^ 31 := Nat.pow_le_pow_right (by omega) (by omega)
  refine x_iload_n (i := 0) rfl rfl dJ18_numberOfTrailingZeros_0 ?_
  refine x_iconst dJ18_numberOfTrailingZeros_1 ?_
  refine x_ixor (n_vv32 _) dJ18_numberOfTrailingZeros_2 ?_
  refine x_iload_n (i := 0) rfl rfl dJ18_numberOfTrailingZeros_3 ?_
  refine x_iconst dJ18_numberOfTrailingZeros_4 ?_
  refine x_isub dJ18_numberOfTrailingZeros_5 ?_
  refine x_iand (v := ((2 ^ j - 1 : Nat) : Int)) (n_ntz w j h _ (n_vv32 _)) dJ18_numberOfTrailingZeros_6 ?_
  refine x_istore_n (i := 0) rfl (by decide) dJ18_numberOfTrailingZeros_7 ?_
  refine x_iload_n (i := 0) rfl rfl dJ18_numberOfTrailingZeros_8 ?_
  by_cases hj0 : j = 0
  · subst hj0
    refine x_if_gt (tgt := 17) (by omega) dJ18_numberOfTrailingZeros_9 (by decide) (fun z => absurd z (by simp)) (fun _ => ?_)
    refine x_iload_n (i := 0) rfl rfl dJ18_numberOfTrailingZeros_12 ?_
    refine x_bipush (a := 32) rfl dJ18_numberOfTrailingZeros_13 ?_
    refine x_iand (v := 0) (by decide) dJ18_numberOfTrailingZeros_15 ?_
    refine x_iret rfl dJ18_numberOfTrailingZeros_16 ⟨by omega, by omega⟩ ?_
    exact ⟨_, rfl, rfl, rfl⟩
  · have h2 : 2 ≤ 2 ^ j := (show 2 = 2 ^ 1 from rfl) ▸ Nat.pow_le_pow_right (by omega) (by omega)
    refine x_if_gt (tgt := 17) (by omega) dJ18_numberOfTrailingZeros_9 (by decide) (fun _ => ?_) (fun z => absurd z (by omega))
    refine x_iconst dJ18_numberOfTrailingZeros_17 ?_
    refine x_istore_n (i := 1) rfl (by decide) dJ18_numberOfTrailingZeros_18 ?_
    refine x_iload_n (i := 0) rfl rfl dJ18_numberOfTrailingZeros_19 ?_
    refine x_ldcwI (v := 65536) q511 rfl dJ18_numberOfTrailingZeros_20 ?_
    by_cases hj1 : j < 17
    · have h3 : 2 ^ j ≤ 2 ^ 16 := Nat.pow_le_pow_right (by omega) (by omega)
      refine x_icmp_le (tgt := 34) (by omega) (by omega) dJ18_numberOfTrailingZeros_23 (by decide) (fun _ => ?_) (fun z => absurd z (by omega))
      exact m_ntzT j hj1 hj0 _ 1 rfl _ ⟨_, rfl, by omega, rfl⟩
    · have h3 : 2 ^ 17 ≤ 2 ^ j := Nat.pow_le_pow_right (by omega) (by omega)
      refine x_icmp_le (tgt := 34) (by omega) (by omega) dJ18_numberOfTrailingZeros_23 (by decide) (fun z => absurd z (by omega)) (fun _ => ?_)
      refine x_iinc (i := 1) rfl (by decide) dJ18_numberOfTrailingZeros_26 ?_
      refine x_iload_n (i := 0) rfl rfl dJ18_numberOfTrailingZeros_29 ?_
      refine x_bipush (a := 16) rfl dJ18_numberOfTrailingZeros_30 ?_
      refine x_iushr (n_iushr16 _ (by omega)) dJ18_numberOfTrailingZeros_32 ?_
      refine x_istore_n (i := 0) rfl (by decide) dJ18_numberOfTrailingZeros_33 ?_
      have h5 : 2 ^ j = 2 ^ 16 * 2 ^ (j - 16) := by rw [← Nat.pow_add]; congr 1; omega
      refine m_ntzT (j - 16) (by omega) (by omega) _ (1 + 16) ?_ _ ⟨_, rfl, by omega, rfl⟩
      rw [Nat.shiftRight_eq_div_pow, h5]
      congr 1
      omega
theorem m_ntz64 (w j : Nat) (hj : j < 64) (hw : w < 2 ^ 64) (h : w % 2 ^ (j + 1) = 2 ^ j) :
    Ct G wJ21_numberOfTrailingZeros [aL (w : Int)] M 2 0 0 (kI fun r M' => r = (j : Int) ∧ M = M') := by
  refine Ct.mk rfl rfl (Nat.le_of_ble_eq_true rfl) ?_
  have hp : 0 < 2 ^ j := Nat.pow_pos (by omega)
  refine x_lload_n (i := 0) rfl rfl dJ21_numberOfTrailingZeros_0 ?_
  refine x_l2i dJ21_numberOfTrailingZeros_1 ?_
  by_cases hj2 : j < 32
  · -- the low half is not 0
    obtain ⟨sw, hs1, hs2, hs3⟩ : ∃ sw : Int, Int32.ofInt (w : Int) = Int32.ofInt sw ∧ sw ≠ 0 ∧ (-2147483648 ≤ sw ∧ sw < 2147483648) := by
      have hm := o32_mod w
      have hz : w % 2 ^ 32 ≠ 0 := by
        intro hz
        have h1 : w % 2 ^ (j + 1) = 0 := by
          have h2 : 2 ^ (j + 1) ∣ 2 ^ 32 := Nat.pow_dvd_pow 2 (by omega)
          rw [← Nat.mod_mod_of_dvd w h2, hz, Nat.zero_mod]
        omega
      by_cases hb : w % 2 ^ 32 < 2147483648
      · exact ⟨_, hm, by omega, by omega⟩
      · exact ⟨_, hm.trans (o32_neg _), by omega, by omega⟩
    refine x_norm hs1 ?_
    refine x_istore_n (i := 2) rfl (by decide) dJ21_numberOfTrailingZeros_2 ?_
    refine x_iload_n (i := 2) rfl rfl dJ21_numberOfTrailingZeros_3 ?_
    refine x_if_ne (tgt := 21) (by omega) dJ21_numberOfTrailingZeros_4 (by decide) (fun _ => ?_) (fun z => absurd z (by omega))
    refine x_iload_n (i := 2) rfl rfl dJ21_numberOfTrailingZeros_21 ?_
    refine x_norm hs1.symm ?_
    refine XCl.I (iv_J21_311 rfl (m_ntz32 w j hj2 h) rfl rfl rfl (hr_ok (by omega)) (hf_ok (by omega) (by omega)) dJ21_numberOfTrailingZeros_22) fun r M9 h1 => ?_
    obtain ⟨rfl, rfl⟩ := h1
    refine x_iret rfl dJ21_numberOfTrailingZeros_25 ⟨by omega, by omega⟩ ?_
    exact ⟨_, rfl, rfl, rfl⟩
  · have hz : w % 2 ^ 32 = 0 := by
      have h2 : 2 ^ 32 ∣ 2 ^ (j + 1) := Nat.pow_dvd_pow 2 (by omega)
      have h3 : 2 ^ 32 ∣ 2 ^ j := Nat.pow_dvd_pow 2 (by omega)
      rw [← Nat.mod_mod_of_dvd w h2, h]
      exact Nat.mod_eq_zero_of_dvd h3
    refine x_norm ((o32_mod w).trans (by rw [hz]; rfl) : Int32.ofInt (w : Int) = Int32.ofInt 0) ?_
    refine x_istore_n (i := 2) rfl (by decide) dJ21_numberOfTrailingZeros_2 ?_
    refine x_iload_n (i := 2) rfl rfl dJ21_numberOfTrailingZeros_3 ?_
    refine x_if_ne (tgt := 21) (by omega) dJ21_numberOfTrailingZeros_4 (by decide) (fun z => absurd z (by omega)) (fun _ => ?_)
    refine x_bipush (a := 32) rfl dJ21_numberOfTrailingZeros_7 ?_
    refine x_lload_n (i := 0) rfl rfl dJ21_numberOfTrailingZeros_9 ?_
    refine x_bipush (a := 32) rfl dJ21_numberOfTrailingZeros_10 ?_
    refine x_lushr (n_lushr32 w hw) dJ21_numberOfTrailingZeros_12 ?_
    refine x_l2i dJ21_numberOfTrailingZeros_13 ?_
    have hsh : (w >>> 32) % 2 ^ (j - 32 + 1) = 2 ^ (j - 32) := by
      rw [Nat.shiftRight_eq_div_pow]
      have h4 : 2 ^ (j + 1) = 2 ^ 32 * 2 ^ (j - 32 + 1) := by rw [← Nat.pow_add]; congr 1; omega
      have h5 : 2 ^ j = 2 ^ 32 * 2 ^ (j - 32) := by rw [← Nat.pow_add]; congr 1; omega
      rw [h4, h5, Nat.mod_mul, hz, Nat.zero_add] at h
      exact Nat.eq_of_mul_eq_mul_left (by omega) h
    refine XCl.I (iv_J21_311 rfl (m_ntz32 (w >>> 32) (j - 32) (by omega) hsh) rfl rfl rfl (hr_ok (by omega)) (hf_ok (by omega) (by omega)) dJ21_numberOfTrailingZeros_14) fun r M9 h1 => ?_
    obtain ⟨rfl, rfl⟩ := h1
    refine x_iadd dJ21_numberOfTrailingZeros_17 ?_
    refine x_goto (tgt := 25) dJ21_numberOfTrailingZeros_18 (by decide) ?_
    refine x_iret rfl dJ21_numberOfTrailingZeros_25 ⟨by omega, by omega⟩ ?_
    exact ⟨_, rfl, by omega, rfl⟩
end JN
