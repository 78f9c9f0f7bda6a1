/-! BITS: the machine's words against whole numbers -/
set_option maxRecDepth 100000
theorem o32 (n : Nat) : (Int32.ofInt (n : Int)).toBitVec = BitVec.ofNat 32 n := by
  show BitVec.ofInt 32 (n : Int) = _
  exact BitVec.ofInt_natCast 32 n
theorem o64 (n : Nat) : (Int64.ofInt (n : Int)).toBitVec = BitVec.ofNat 64 n := by
  show BitVec.ofInt 64 (n : Int) = _
  exact BitVec.ofInt_natCast 64 n
theorem n_land (a b : Nat) : Int64.ofInt (a : Int) &&& Int64.ofInt (b : Int) = Int64.ofInt ((a &&& b : Nat) : Int) := by
  apply Int64.toBitVec_inj.mp
  rw [Int64.toBitVec_and, o64, o64, o64, BitVec.ofNat_and]
theorem n_lor (a b : Nat) : Int64.ofInt (a : Int) ||| Int64.ofInt (b : Int) = Int64.ofInt ((a ||| b : Nat) : Int) := by
  apply Int64.toBitVec_inj.mp
  rw [Int64.toBitVec_or, o64, o64, o64, BitVec.ofNat_or]
theorem n_iand (a b : Nat) : Int32.ofInt (a : Int) &&& Int32.ofInt (b : Int) = Int32.ofInt ((a &&& b : Nat) : Int) := by
  apply Int32.toBitVec_inj.mp
  rw [Int32.toBitVec_and, o32, o32, o32, BitVec.ofNat_and]
theorem n_ior (a b : Nat) : Int32.ofInt (a : Int) ||| Int32.ofInt (b : Int) = Int32.ofInt ((a ||| b : Nat) : Int) := by
  apply Int32.toBitVec_inj.mp
  rw [Int32.toBitVec_or, o32, o32, o32, BitVec.ofNat_or]
theorem sh32 (k : Nat) (h : k < 32) : (Int32.ofInt (k : Int) &&& 31).toBitVec.smod 32 = BitVec.ofNat 32 k := by
  have : ∀ k : Fin 32, (Int32.ofInt ((k : Nat) : Int) &&& 31).toBitVec.smod 32 = BitVec.ofNat 32 k := by decide
  exact this ⟨k, h⟩
theorem sh64 (k : Nat) (h : k < 64) : ((Int32.ofInt (k : Int)).toInt64 &&& 63).toBitVec.smod 64 = BitVec.ofNat 64 k := by
  have : ∀ k : Fin 64, ((Int32.ofInt ((k : Nat) : Int)).toInt64 &&& 63).toBitVec.smod 64 = BitVec.ofNat 64 k := by decide
  exact this ⟨k, h⟩
theorem n_ishl (a k : Nat) (h : k < 32) : Int32.ofInt (a : Int) <<< (Int32.ofInt (k : Int) &&& 31) = Int32.ofInt ((a <<< k : Nat) : Int) := by
  apply Int32.toBitVec_inj.mp
  rw [Int32.toBitVec_shiftLeft, sh32 k h, o32, o32, BitVec.shiftLeft_eq']
  apply BitVec.eq_of_getLsbD_eq
  intro i hi
  rw [BitVec.getLsbD_shiftLeft, BitVec.getLsbD_ofNat, BitVec.getLsbD_ofNat, BitVec.toNat_ofNat, Nat.testBit_shiftLeft, Nat.mod_eq_of_lt (by omega)]
  by_cases hk : i < k
  · simp [hk]
    intros
    omega
  · have h2 : i - k < 32 := by omega
    have h3 : k ≤ i := by omega
    simp [hi, hk, h2, h3]
theorem n_lshl (a k : Nat) (h : k < 64) : Int64.ofInt (a : Int) <<< ((Int32.ofInt (k : Int)).toInt64 &&& 63) = Int64.ofInt ((a <<< k : Nat) : Int) := by
  apply Int64.toBitVec_inj.mp
  rw [Int64.toBitVec_shiftLeft, sh64 k h, o64, o64, BitVec.shiftLeft_eq']
  apply BitVec.eq_of_getLsbD_eq
  intro i hi
  rw [BitVec.getLsbD_shiftLeft, BitVec.getLsbD_ofNat, BitVec.getLsbD_ofNat, BitVec.toNat_ofNat, Nat.testBit_shiftLeft, Nat.mod_eq_of_lt (by omega)]
  by_cases hk : i < k
  · simp [hk]
    intros
    omega
  · have h2 : i - k < 64 := by omega
    have h3 : k ≤ i := by omega
    simp [hi, hk, h2, h3]
theorem n_ishr (a k : Nat) (ha : a < 2147483648) (h : k < 32) : Int32.ofInt (a : Int) >>> (Int32.ofInt (k : Int) &&& 31) = Int32.ofInt ((a >>> k : Nat) : Int) := by
  apply Int32.toBitVec_inj.mp
  rw [Int32.toBitVec_shiftRight, sh32 k h, o32, o32, BitVec.sshiftRight_eq']
  apply BitVec.eq_of_getLsbD_eq
  intro i hi
  have hm : (BitVec.ofNat 32 a).msb = false := by
    rw [BitVec.msb_eq_getLsbD_last, BitVec.getLsbD_ofNat]
    simp
    exact Nat.testBit_lt_two_pow (by omega)
  rw [BitVec.getLsbD_sshiftRight, hm, BitVec.getLsbD_ofNat, BitVec.getLsbD_ofNat, BitVec.toNat_ofNat, Nat.testBit_shiftRight, Nat.mod_eq_of_lt (by omega)]
  by_cases hk : k + i < 32
  · simp [hk, hi]
  · have h2 : a.testBit (k + i) = false := Nat.testBit_lt_two_pow (Nat.lt_of_lt_of_le ha (by have := Nat.pow_le_pow_right (show 0 < 2 by omega) (show 31 ≤ k + i by omega); omega))
    simp [hi, hk, h2]
-- clear: a && ~(2^k) = a when a < 2^k
theorem n_lclr (a k : Nat) (ha : a < 2 ^ k) (hk : k < 64) (v : Int) (hv : Int64.ofInt ((1 <<< k : Nat) : Int) ^^^ Int64.ofInt (-1) = Int64.ofInt v) : Int64.ofInt (a : Int) &&& Int64.ofInt v = Int64.ofInt (a : Int) := by
  rw [← hv]
  apply Int64.toBitVec_inj.mp
  rw [Int64.toBitVec_and, Int64.toBitVec_xor, o64, o64]
  have h1 : (Int64.ofInt (-1)).toBitVec = BitVec.allOnes 64 := by decide
  rw [h1, BitVec.xor_allOnes]
  apply BitVec.eq_of_getLsbD_eq
  intro i hi
  rw [BitVec.getLsbD_and, BitVec.getLsbD_not, BitVec.getLsbD_ofNat, BitVec.getLsbD_ofNat]
  rw [Nat.shiftLeft_eq, Nat.one_mul, Nat.testBit_two_pow]
  by_cases hik : k = i
  · subst hik
    simp [Nat.testBit_lt_two_pow ha]
  · simp [hi, hik]
theorem n_vv (x : Int64) : x = Int64.ofInt x.toInt := (Int64.ofInt_toInt x).symm
-- -1 << k
theorem n_lmask (a k : Nat) (hk : k < 64) (v : Int) (hv : Int64.ofInt (-1) <<< ((Int32.ofInt (k : Int)).toInt64 &&& 63) = Int64.ofInt v) : Int64.ofInt (a : Int) &&& Int64.ofInt v = Int64.ofInt (((a >>> k) <<< k : Nat) : Int) := by
  rw [← hv]
  apply Int64.toBitVec_inj.mp
  have h1 : (Int64.ofInt (-1)).toBitVec = BitVec.allOnes 64 := by decide
  rw [Int64.toBitVec_and, Int64.toBitVec_shiftLeft, sh64 k hk, h1, o64, o64, BitVec.shiftLeft_eq']
  apply BitVec.eq_of_getLsbD_eq
  intro i hi
  rw [BitVec.getLsbD_and, BitVec.getLsbD_shiftLeft, BitVec.getLsbD_ofNat, BitVec.getLsbD_ofNat, BitVec.toNat_ofNat, Nat.testBit_shiftLeft, Nat.testBit_shiftRight, Nat.mod_eq_of_lt (by omega), BitVec.getLsbD_allOnes]
  by_cases h2 : i < k
  · simp [hi, h2]
    intros
    omega
  · have h3 : k ≤ i := by omega
    have h4 : i - k < 64 := by omega
    have h5 : k + (i - k) = i := by omega
    simp [hi, h2, h3, h4, h5]

theorem n_ntz (w j : Nat) (h : w % 2 ^ (j + 1) = 2 ^ j) (v : Int) (hv : Int32.ofInt (w : Int) ^^^ Int32.ofInt (-1) = Int32.ofInt v) : Int32.ofInt v &&& Int32.ofInt ((w : Int) - 1) = Int32.ofInt ((2 ^ j - 1 : Nat) : Int) := by
  rw [← hv]
  have hp : 0 < 2 ^ j := Nat.pow_pos (by omega)
  have hp2 : 2 ^ (j + 1) = 2 ^ j * 2 := Nat.pow_succ ..
  obtain ⟨q, hw⟩ : ∃ q, w = 2 ^ (j + 1) * q + 2 ^ j := ⟨w / 2 ^ (j + 1), by
    have := Nat.div_add_mod w (2 ^ (j + 1))
    omega⟩
  have h1 : ((w : Int) - 1) = ((w - 1 : Nat) : Int) := by omega
  have hw1 : w - 1 = 2 ^ (j + 1) * q + (2 ^ j - 1) := by omega
  apply Int32.toBitVec_inj.mp
  have h2 : (Int32.ofInt (-1)).toBitVec = BitVec.allOnes 32 := by decide
  rw [Int32.toBitVec_and, Int32.toBitVec_xor, h2, BitVec.xor_allOnes, h1, o32, o32, o32]
  apply BitVec.eq_of_getLsbD_eq
  intro i hi
  rw [BitVec.getLsbD_and, BitVec.getLsbD_not, BitVec.getLsbD_ofNat, BitVec.getLsbD_ofNat, BitVec.getLsbD_ofNat]
  rw [hw1, hw, Nat.testBit_two_pow_mul_add _ (by omega), Nat.testBit_two_pow_mul_add _ (by omega), Nat.testBit_two_pow_sub_one, Nat.testBit_two_pow]
  by_cases h3 : i < j + 1
  · simp only [hi, h3, if_true, decide_true, Bool.true_and]
    by_cases h4 : i < j
    · have h5 : ¬ j = i := by omega
      simp [h4, h5]
    · simp [h4]
  · have h4 : ¬ i < j := by omega
    simp [hi, h3, h4]
theorem n_vv32 (x : Int32) : x = Int32.ofInt x.toInt := (Int32.ofInt_toInt x).symm
