/-! ArraysSupport.mismatch: by words of eight and of four bytes, then one by one -/
set_option maxRecDepth 100000
section JN
variable {G : GG} {M : Mem}
/-- packed bytes: where they differ first -/
theorem pkb_lt (b : Nat → Nat) (p n : Nat) (h : ∀ i, i < n → b (p + i) < 256) : pk b p n < 2 ^ (8 * n) := by
  induction n generalizing p with
  | zero => rw [pk_0]; exact Nat.pow_pos (by omega)
  | succ n ih =>
    have h1 := ih (p + 1) (fun i hi => by have := h (i + 1) (by omega); rwa [show p + (i + 1) = p + 1 + i by omega] at this)
    have h2 := h 0 (by omega)
    rw [pk_s, show 8 * (n + 1) = 8 + 8 * n by omega, Nat.pow_add, show (2 : Nat) ^ 8 = 256 from rfl]
    rw [Nat.add_zero] at h2
    omega
theorem pk_tb (b : Nat → Nat) (p n : Nat) (h : b p < 256) (i : Nat) : (pk b p (n + 1)).testBit i = if i < 8 then (b p).testBit i else (pk b (p + 1) n).testBit (i - 8) := by
  rw [pk_s, Nat.add_comm, show (256 : Nat) = 2 ^ 8 from rfl, Nat.testBit_two_pow_mul_add _ (by exact h)]
theorem pk_low (b c : Nat → Nat) (p n : Nat) (hb : ∀ i, i < n → b (p + i) < 256) (hc : ∀ i, i < n → c (p + i) < 256) (j : Nat) (h1 : (pk b p n ^^^ pk c p n).testBit j = true) (h2 : ∀ i, i < j → (pk b p n ^^^ pk c p n).testBit i = false) :
    j / 8 < n ∧ (∀ i, i < j / 8 → b (p + i) = c (p + i)) ∧ b (p + j / 8) ≠ c (p + j / 8) := by
  induction n generalizing p j with
  | zero =>
    rw [pk_0, pk_0, Nat.xor_self, Nat.zero_testBit] at h1
    cases h1
  | succ n ih =>
    have b0 := hb 0 (by omega)
    have c0 := hc 0 (by omega)
    rw [Nat.add_zero] at b0 c0
    have tb : ∀ i, (pk b p (n + 1) ^^^ pk c p (n + 1)).testBit i = if i < 8 then (b p ^^^ c p).testBit i else (pk b (p + 1) n ^^^ pk c (p + 1) n).testBit (i - 8) := by
      intro i
      rw [Nat.testBit_xor, pk_tb b p n b0, pk_tb c p n c0]
      split
      · rw [Nat.testBit_xor]
      · rw [Nat.testBit_xor]
    by_cases hj : j < 8
    · have e : j / 8 = 0 := by omega
      rw [e, Nat.add_zero]
      refine ⟨by omega, fun i hi => by omega, fun q => ?_⟩
      rw [Nat.add_zero] at q
      rw [tb, if_pos hj, q, Nat.xor_self, Nat.zero_testBit] at h1
      cases h1
    · have hbc : b p = c p := by
        apply Nat.eq_of_testBit_eq
        intro i
        by_cases hi : i < 8
        · have := h2 i (by omega)
          rw [tb, if_pos hi, Nat.testBit_xor] at this
          simpa using this
        · rw [Nat.testBit_lt_two_pow (Nat.lt_of_lt_of_le (show b p < 2 ^ 8 from b0) (Nat.pow_le_pow_right (by omega) (by omega))), Nat.testBit_lt_two_pow (Nat.lt_of_lt_of_le (show c p < 2 ^ 8 from c0) (Nat.pow_le_pow_right (by omega) (by omega)))]
      have hb' : ∀ i, i < n → b (p + 1 + i) < 256 := fun i hi => by have := hb (i + 1) (by omega); rwa [show p + (i + 1) = p + 1 + i by omega] at this
      have hc' : ∀ i, i < n → c (p + 1 + i) < 256 := fun i hi => by have := hc (i + 1) (by omega); rwa [show p + (i + 1) = p + 1 + i by omega] at this
      obtain ⟨i1, i2, i3⟩ := ih (p + 1) hb' hc' (j - 8) (by rw [tb, if_neg hj] at h1; exact h1) (fun i hi => by
        have := h2 (i + 8) (by omega)
        rw [tb, if_neg (by omega), show i + 8 - 8 = i by omega] at this
        exact this)
      have e : j / 8 = (j - 8) / 8 + 1 := by omega
      rw [e]
      refine ⟨by omega, fun i hi => ?_, ?_⟩
      · cases i with
        | zero => exact hbc
        | succ i =>
          have := i2 i (by omega)
          rwa [show p + 1 + i = p + (i + 1) by omega] at this
      · rwa [show p + 1 + (j - 8) / 8 = p + ((j - 8) / 8 + 1) by omega] at i3
theorem pkb_eq (b c : Nat → Nat) (p n : Nat) (hb : ∀ i, i < n → b (p + i) < 256) (hc : ∀ i, i < n → c (p + i) < 256) (h : pk b p n = pk c p n) : ∀ i, i < n → b (p + i) = c (p + i) := by
  induction n generalizing p with
  | zero => intro i hi; omega
  | succ n ih =>
    have b0 := hb 0 (by omega)
    have c0 := hc 0 (by omega)
    rw [Nat.add_zero] at b0 c0
    rw [pk_s, pk_s] at h
    have hb' : ∀ i, i < n → b (p + 1 + i) < 256 := fun i hi => by have := hb (i + 1) (by omega); rwa [show p + (i + 1) = p + 1 + i by omega] at this
    have hc' : ∀ i, i < n → c (p + 1 + i) < 256 := fun i hi => by have := hc (i + 1) (by omega); rwa [show p + (i + 1) = p + 1 + i by omega] at this
    have h3 := ih (p + 1) hb' hc' (by omega)
    intro i hi
    cases i with
    | zero => rw [Nat.add_zero]; omega
    | succ i =>
      have := h3 i (by omega)
      rwa [show p + 1 + i = p + (i + 1) by omega] at this
/-- a low bit of a number by its remainder, as numberOfTrailingZeros wants it -/
theorem low_mod (v : Nat) (hv : v ≠ 0) : ∃ j, v % 2 ^ (j + 1) = 2 ^ j ∧ v.testBit j = true ∧ ∀ i, i < j → v.testBit i = false := low_bit v hv
/-- a byte array new in memory, its bytes as whole numbers below 128 -/
def Yb (M : Mem) (a n : Nat) (b : Nat → Nat) : Prop := n < 1000000 ∧ (∀ i, i < n → b i < 128) ∧ ∃ f, mG M a = some (cY n f) ∧ ∀ i, i < n → f i = (b i : Int)
/-- the statics that mismatch reads; 261 is the Unsafe object -/
def gConM (G : GG) : Prop := gZ G "jdk/internal/misc/Unsafe" "ARRAY_BYTE_BASE_OFFSET" "I" (aI 16) ∧ gZ G "jdk/internal/util/ArraysSupport" "LOG2_ARRAY_BYTE_INDEX_SCALE" "I" (aI 0) ∧ gZ G "jdk/internal/util/ArraysSupport" "LOG2_ARRAY_LONG_INDEX_SCALE" "I" (aI 3) ∧ gZ G "jdk/internal/util/ArraysSupport" "LOG2_ARRAY_INT_INDEX_SCALE" "I" (aI 2) ∧ gZ G "jdk/internal/util/ArraysSupport" "LOG2_BYTE_BIT_SIZE" "I" (aI 3) ∧ gZ G "jdk/internal/util/ArraysSupport" "BIG_ENDIAN" "Z" (aI 0) ∧ gZ G "jdk/internal/util/ArraysSupport" "U" "Ljdk/internal/misc/Unsafe;" (aR (some (gK G 261))) ∧ gO G "jdk/internal/misc/Unsafe" (gK G 261)
theorem m_getLU (u a n p : Nat) (b : Nat → Nat) (hu : gO G "jdk/internal/misc/Unsafe" u) (hY : Yb M a n b) (hp : p + 8 ≤ n) (hp8 : p % 8 = 0) :
    Ct G wJ20_getLongUnaligned [aR (some u), aR (some a), aL (16 + (p : Int))] M 1 0 0 (kL fun r M' => r = (pk b p 8 : Nat) ∧ M = M') := by
  refine Ct.mkF pf_GL rfl (Nat.le_of_ble_eq_true rfl) ?_
  obtain ⟨hn, hb, f, hM, hf⟩ := hY
  have he : (16 + (p : Int)) = ((16 + p : Nat) : Int) := by omega
  rw [he]
  refine x_lload_n (i := 2) rfl rfl dJ20_getLongUnaligned_0 ?_
  refine x_ldc2 (v := 7) q455 rfl dJ20_getLongUnaligned_1 ?_
  refine x_land (v := 0) ((n_land (16 + p) 7).trans (by rw [show (7 : Nat) = 2 ^ 3 - 1 from rfl, Nat.and_two_pow_sub_one_eq_mod, show (16 + p) % 2 ^ 3 = 0 by omega]; rfl)) dJ20_getLongUnaligned_4 ?_
  refine x_lconst (a := 0) rfl dJ20_getLongUnaligned_5 ?_
  refine x_lcmp_same dJ20_getLongUnaligned_6 ?_
  refine x_if_ne (tgt := 17) (by omega) dJ20_getLongUnaligned_7 (by decide) (fun z => absurd z (by omega)) (fun _ => ?_)
  refine x_aload_n (i := 0) rfl rfl dJ20_getLongUnaligned_10 ?_
  refine x_aload_n (i := 1) rfl rfl dJ20_getLongUnaligned_11 ?_
  refine x_lload_n (i := 2) rfl rfl dJ20_getLongUnaligned_12 ?_
  refine x_uGetL p b rfl q456 hu hM (fun j hj => ⟨hf _ (by omega), by have := hb (p + j) (by omega); omega⟩) hp hn (by omega) rfl ⟨Nat.le_of_ble_eq_true rfl, Nat.le_of_ble_eq_true rfl⟩ dJ20_getLongUnaligned_13 ?_
  refine x_lret rfl dJ20_getLongUnaligned_16 ⟨by omega, by omega⟩ ?_
  exact ⟨_, rfl, rfl, rfl⟩
theorem m_getIU (u a n p : Nat) (b : Nat → Nat) (hu : gO G "jdk/internal/misc/Unsafe" u) (hY : Yb M a n b) (hp : p + 4 ≤ n) (hp8 : p % 8 = 0) :
    Ct G wJ20_getIntUnaligned [aR (some u), aR (some a), aL (16 + (p : Int))] M 1 0 0 (kI fun r M' => r = (pk b p 4 : Nat) ∧ M = M') := by
  refine Ct.mkF pf_GI rfl (Nat.le_of_ble_eq_true rfl) ?_
  obtain ⟨hn, hb, f, hM, hf⟩ := hY
  have he : (16 + (p : Int)) = ((16 + p : Nat) : Int) := by omega
  rw [he]
  refine x_lload_n (i := 2) rfl rfl dJ20_getIntUnaligned_0 ?_
  refine x_ldc2 (v := 3) q460 rfl dJ20_getIntUnaligned_1 ?_
  refine x_land (v := 0) ((n_land (16 + p) 3).trans (by rw [show (3 : Nat) = 2 ^ 2 - 1 from rfl, Nat.and_two_pow_sub_one_eq_mod, show (16 + p) % 2 ^ 2 = 0 by omega]; rfl)) dJ20_getIntUnaligned_4 ?_
  refine x_lconst (a := 0) rfl dJ20_getIntUnaligned_5 ?_
  refine x_lcmp_same dJ20_getIntUnaligned_6 ?_
  refine x_if_ne (tgt := 17) (by omega) dJ20_getIntUnaligned_7 (by decide) (fun z => absurd z (by omega)) (fun _ => ?_)
  refine x_aload_n (i := 0) rfl rfl dJ20_getIntUnaligned_10 ?_
  refine x_aload_n (i := 1) rfl rfl dJ20_getIntUnaligned_11 ?_
  refine x_lload_n (i := 2) rfl rfl dJ20_getIntUnaligned_12 ?_
  refine x_uGetI p b rfl q461 hu hM (fun j hj => ⟨hf _ (by omega), by have := hb (p + j) (by omega); omega⟩) hp hn (by omega) rfl ⟨Nat.le_of_ble_eq_true rfl, Nat.le_of_ble_eq_true rfl⟩ dJ20_getIntUnaligned_13 ?_
  refine x_iret rfl dJ20_getIntUnaligned_16 ⟨by omega, by omega⟩ ?_
  exact ⟨_, rfl, rfl, rfl⟩
theorem iv_J9_30 {w : MI} {R : Room} {cn sn pc : Nat} {L : List (Option AV)} {st stk : List AV} {args : List AV} {h2 mc2 ms2 b : Nat} {K2 : Out → Mem → Prop} (hw : (wy w).cls = RJ9) (C2 : Ct G wJ20_getLongUnaligned (aR (some b) :: args) M h2 mc2 ms2 K2) (hRc : RC G M b "jdk/internal/misc/Unsafe") (hlen : args.length = 2) (hstk : stk = args.reverse ++ aR (some b) :: st) (hst : Nat.ble (st.map aCt).sum 8 = true) (hR : h2 + 1 ≤ R.frames ∧ 64 * h2 + 64 ≤ R.locals) (hf : cn + mc2 ≤ R.cells ∧ sn + ms2 ≤ R.slots) (hd : decode (wc w) pc = .ok (.invokevirtual 30, 3)) : XCl G w R cn sn pc (pc + 3) L stk st M mc2 ms2 K2 :=
  x_callV (w2 := wJ20_getLongUnaligned) (n := 2) (by rw [hw]; exact q451) q452 q453 q98 q454 (by decide +kernel) hRc C2 hlen hstk hst (hr_w rfl hR) hf hd
theorem iv_J9_54 {w : MI} {R : Room} {cn sn pc : Nat} {L : List (Option AV)} {st stk : List AV} {args : List AV} {h2 mc2 ms2 b : Nat} {K2 : Out → Mem → Prop} (hw : (wy w).cls = RJ9) (C2 : Ct G wJ20_getIntUnaligned (aR (some b) :: args) M h2 mc2 ms2 K2) (hRc : RC G M b "jdk/internal/misc/Unsafe") (hlen : args.length = 2) (hstk : stk = args.reverse ++ aR (some b) :: st) (hst : Nat.ble (st.map aCt).sum 8 = true) (hR : h2 + 1 ≤ R.frames ∧ 64 * h2 + 64 ≤ R.locals) (hf : cn + mc2 ≤ R.cells ∧ sn + ms2 ≤ R.slots) (hd : decode (wc w) pc = .ok (.invokevirtual 54, 3)) : XCl G w R cn sn pc (pc + 3) L stk st M mc2 ms2 K2 :=
  x_callV (w2 := wJ20_getIntUnaligned) (n := 2) (by rw [hw]; exact q522) q523 q524 q98 q525 (by decide +kernel) hRc C2 hlen hstk hst (hr_w rfl hR) hf hd
/-- what mismatch answers -/
def msA (b c : Nat → Nat) (len : Nat) (r : Int) : Prop := (r = -1 ∧ ∀ i, i < len → b i = c i) ∨ ∃ j, j < len ∧ r = (j : Int) ∧ b j ≠ c j ∧ ∀ i, i < j → b i = c i
/-- what vectorizedMismatch answers: a place, or how many are left -/
def vmA (b c : Nat → Nat) (len : Nat) (r : Int) : Prop := (∃ k, k ≤ len ∧ r = -((len - k : Nat) : Int) - 1 ∧ ∀ i, i < k → b i = c i) ∨ ∃ j, j < len ∧ r = (j : Int) ∧ b j ≠ c j ∧ ∀ i, i < j → b i = c i
theorem pkb_half (b : Nat → Nat) (p n : Nat) (h : ∀ i, i < n → b (p + i) < 128) : 2 * pk b p n < 2 ^ (8 * n) := by
  induction n generalizing p with
  | zero => rw [pk_0]; exact Nat.pow_pos (by omega)
  | succ n ih =>
    have h1 := ih (p + 1) (fun i hi => by have := h (i + 1) (by omega); rwa [show p + (i + 1) = p + 1 + i by omega] at this)
    have h2 := h 0 (by omega)
    rw [pk_s, show 8 * (n + 1) = 8 + 8 * n by omega, Nat.pow_add, show (2 : Nat) ^ 8 = 256 from rfl]
    rw [Nat.add_zero] at h2
    omega
theorem n_inot (t : Int) : Int32.ofInt t ^^^ Int32.ofInt (-1) = Int32.ofInt (-t - 1) := by
  apply Int32.toBitVec_inj.mp
  rw [Int32.toBitVec_xor]
  show BitVec.ofInt 32 t ^^^ BitVec.allOnes 32 = BitVec.ofInt 32 (-t - 1)
  rw [BitVec.xor_allOnes]
  have h0 : BitVec.ofInt 32 (-1) = -1#32 := by decide
  have h1 : BitVec.ofInt 32 (-t - 1) = -(BitVec.ofInt 32 t) - 1#32 := by
    rw [show -t - 1 = -t + (-1) by omega, BitVec.ofInt_add, BitVec.ofInt_neg, h0, BitVec.sub_eq_add_neg]
  rw [h1, BitVec.neg_eq_not_add]
  exact (BitVec.add_sub_cancel _ _).symm
theorem m_vmis (hC : gConM G) (a1 n1 : Nat) (b : Nat → Nat) (a2 n2 : Nat) (c : Nat → Nat) (len : Nat) (h1 : Yb M a1 n1 b) (h2 : Yb M a2 n2 c) (hl : len ≤ n1 ∧ len ≤ n2) :
    Ct G wJ9_vectorizedMismatch [aR (some a1), aL 16, aR (some a2), aL 16, aI (len : Int), aI 0] M 3 0 0 (kI fun r M' => vmA b c len r ∧ M = M') := by
  refine Ct.mk rfl rfl (Nat.le_of_ble_eq_true rfl) ?_
  obtain ⟨c1, c2, c3, c4, c5, c6, c7, c8⟩ := hC
  have hn1 := h1.1
  have hn2 := h2.1
  have hb := h1.2.1
  have hcc := h2.2.1
  refine x_gets (c3) q447 dJ9_vectorizedMismatch_0 ?_
  refine x_iload (i := 7) rfl dJ9_vectorizedMismatch_3 ?_
  refine x_isub dJ9_vectorizedMismatch_5 ?_
  refine x_istore (i := 8) (by decide) dJ9_vectorizedMismatch_6 ?_
  refine x_iconst dJ9_vectorizedMismatch_8 ?_
  refine x_istore (i := 9) (by decide) dJ9_vectorizedMismatch_9 ?_
  have done9 : ∀ (k : Nat) (r : Int), k ≤ len → (∀ i, i < k → b i = c i) → r = -((len - k : Nat) : Int) - 1 → vmA b c len r := fun k r h1 h2 h3 => Or.inl ⟨k, h1, h3, h2⟩
  have loop : ∀ (rem wi : Nat) (L10 L12 : List (Option AV)), wi + rem = len / 8 → (∀ i, i < 8 * wi → b i = c i) → L10.length = 9 →
      X G wJ9_vectorizedMismatch (rmO 3 0 0) (mEnd G (kI fun r M' => vmA b c len r ∧ M = M') 0 0) 0 0 11 ([some (aR (some a1)), some (aL 16), none, some (aR (some a2)), some (aL 16), none, some (aI (len : Int)), some (aI 0), some (aI 3), some (aI (wi : Int))] ++ L10) [] M := by
    intro rem
    induction rem with
    | zero =>
      intro wi L10 L12 hw he hL
      obtain ⟨y0, y1, y2, y3, y4, y5, y6, y7, y8, rfl⟩ : ∃ y0 y1 y2 y3 y4 y5 y6 y7 y8, L10 = [y0, y1, y2, y3, y4, y5, y6, y7, y8] := by
        match L10, hL with
        | [y0, y1, y2, y3, y4, y5, y6, y7, y8], _ => exact ⟨_, _, _, _, _, _, _, _, _, rfl⟩
      have hsh : wi <<< 3 = 8 * wi := by rw [Nat.shiftLeft_eq]; omega
      refine x_iload (i := 9) rfl dJ9_vectorizedMismatch_11 ?_
      refine x_iload (i := 6) rfl dJ9_vectorizedMismatch_13 ?_
      refine x_iload (i := 8) rfl dJ9_vectorizedMismatch_15 ?_
      refine x_ishr (v := ((len >>> 3 : Nat) : Int)) (n_ishr len 3 (by omega) (by omega)) dJ9_vectorizedMismatch_17 ?_
      rw [Nat.shiftRight_eq_div_pow]
      refine x_icmp_ge (tgt := 122) (by omega) (by omega) dJ9_vectorizedMismatch_18 (by decide) (fun _ => ?_) (fun z => absurd z (by omega))
      refine x_iload (i := 6) rfl dJ9_vectorizedMismatch_122 ?_
      refine x_iload (i := 9) rfl dJ9_vectorizedMismatch_124 ?_
      refine x_iload (i := 8) rfl dJ9_vectorizedMismatch_126 ?_
      refine x_ishl (v := ((wi <<< 3 : Nat) : Int)) (n_ishl wi 3 (by omega)) dJ9_vectorizedMismatch_128 ?_
      rw [hsh]
      refine x_isub dJ9_vectorizedMismatch_129 ?_
      refine x_istore (i := 10) (by decide) dJ9_vectorizedMismatch_130 ?_
      refine x_iload (i := 7) rfl dJ9_vectorizedMismatch_132 ?_
      refine x_gets (c4) q520 dJ9_vectorizedMismatch_134 ?_
      refine x_icmp_ge (tgt := 263) (by omega) (by omega) dJ9_vectorizedMismatch_137 (by decide) (fun z => absurd z (by omega)) (fun _ => ?_)
      refine x_iconst dJ9_vectorizedMismatch_140 ?_
      refine x_gets (c4) q520 dJ9_vectorizedMismatch_141 ?_
      refine x_iload (i := 7) rfl dJ9_vectorizedMismatch_144 ?_
      refine x_isub dJ9_vectorizedMismatch_146 ?_
      refine x_ishl (v := 4) (by decide) dJ9_vectorizedMismatch_147 ?_
      refine x_istore (i := 11) (by decide) dJ9_vectorizedMismatch_148 ?_
      refine x_iload (i := 10) rfl dJ9_vectorizedMismatch_150 ?_
      refine x_iload (i := 11) rfl dJ9_vectorizedMismatch_152 ?_
      refine x_icmp_lt (tgt := 258) (by omega) (by omega) dJ9_vectorizedMismatch_154 (by decide) (fun ht => ?_) (fun ht => ?_)
      · refine x_iload (i := 10) rfl dJ9_vectorizedMismatch_258 ?_
        refine x_iconst dJ9_vectorizedMismatch_260 ?_
        refine x_ixor (n_inot _) dJ9_vectorizedMismatch_261 ?_
        refine x_iret rfl dJ9_vectorizedMismatch_262 ⟨by omega, by omega⟩ ?_
        exact ⟨_, rfl, done9 (8 * wi) _ (by omega) he (by omega), rfl⟩
      · refine x_iload (i := 9) rfl dJ9_vectorizedMismatch_157 ?_
        refine x_i2l (by omega) dJ9_vectorizedMismatch_159 ?_
        refine x_gets (c3) q447 dJ9_vectorizedMismatch_160 ?_
        refine x_lshl (v := ((wi <<< 3 : Nat) : Int)) (n_lshl wi 3 (by omega)) dJ9_vectorizedMismatch_163 ?_
        rw [hsh]
        refine x_lstore (i := 12) (by decide) dJ9_vectorizedMismatch_164 ?_
        refine x_gets (c7) q449 dJ9_vectorizedMismatch_166 ?_
        refine x_aload_n (i := 0) rfl rfl dJ9_vectorizedMismatch_169 ?_
        refine x_lload_n (i := 1) rfl rfl dJ9_vectorizedMismatch_170 ?_
        refine x_lload (i := 12) rfl dJ9_vectorizedMismatch_171 ?_
        refine x_ladd dJ9_vectorizedMismatch_173 ?_
        refine XCl.I (iv_J9_54 rfl (m_getIU _ a1 n1 (8 * wi) b c8 h1 (by omega) (by omega)) (rc_c c8) rfl rfl rfl (hr_ok (by omega)) (hf_ok (by omega) (by omega)) dJ9_vectorizedMismatch_174) fun r M9 h9 => ?_
        obtain ⟨rfl, rfl⟩ := h9
        refine x_istore (i := 14) (by decide) dJ9_vectorizedMismatch_177 ?_
        refine x_gets (c7) q449 dJ9_vectorizedMismatch_179 ?_
        refine x_aload_n (i := 3) rfl rfl dJ9_vectorizedMismatch_182 ?_
        refine x_lload (i := 4) rfl dJ9_vectorizedMismatch_183 ?_
        refine x_lload (i := 12) rfl dJ9_vectorizedMismatch_185 ?_
        refine x_ladd dJ9_vectorizedMismatch_187 ?_
        refine XCl.I (iv_J9_54 rfl (m_getIU _ a2 n2 (8 * wi) c c8 h2 (by omega) (by omega)) (rc_c c8) rfl rfl rfl (hr_ok (by omega)) (hf_ok (by omega) (by omega)) dJ9_vectorizedMismatch_188) fun r M9 h9 => ?_
        obtain ⟨rfl, rfl⟩ := h9
        refine x_istore (i := 15) (by decide) dJ9_vectorizedMismatch_191 ?_
        refine x_iload (i := 14) rfl dJ9_vectorizedMismatch_193 ?_
        refine x_iload (i := 15) rfl dJ9_vectorizedMismatch_195 ?_
        have r1 := pkb_half b (8 * wi) 4 (fun i hi => hb _ (by omega))
        have r2 := pkb_half c (8 * wi) 4 (fun i hi => hcc _ (by omega))
        have q1 : ∀ i, i < 4 → b (8 * wi + i) < 256 := fun i hi => by have := hb (8 * wi + i) (by omega); omega
        have q2 : ∀ i, i < 4 → c (8 * wi + i) < 256 := fun i hi => by have := hcc (8 * wi + i) (by omega); omega
        refine x_icmp_eq (tgt := 251) (by omega) (by omega) dJ9_vectorizedMismatch_197 (by decide) (fun hz => ?_) (fun hz => ?_)
        · have he2 := pkb_eq b c (8 * wi) 4 q1 q2 (by omega)
          refine x_iload (i := 10) rfl dJ9_vectorizedMismatch_251 ?_
          refine x_iload (i := 11) rfl dJ9_vectorizedMismatch_253 ?_
          refine x_isub dJ9_vectorizedMismatch_255 ?_
          refine x_istore (i := 10) (by decide) dJ9_vectorizedMismatch_256 ?_
          refine x_iload (i := 10) rfl dJ9_vectorizedMismatch_258 ?_
          refine x_iconst dJ9_vectorizedMismatch_260 ?_
          refine x_ixor (n_inot _) dJ9_vectorizedMismatch_261 ?_
          refine x_iret rfl dJ9_vectorizedMismatch_262 ⟨by omega, by omega⟩ ?_
          refine ⟨_, rfl, done9 (8 * wi + 4) _ (by omega) (fun i hi => ?_) (by omega), rfl⟩
          by_cases hi2 : i < 8 * wi
          · exact he i hi2
          · have := he2 (i - 8 * wi) (by omega)
            rwa [show 8 * wi + (i - 8 * wi) = i by omega] at this
        · have hx0 : pk b (8 * wi) 4 ^^^ pk c (8 * wi) 4 ≠ 0 := by
            intro q
            have : pk b (8 * wi) 4 = pk c (8 * wi) 4 := by
              apply Nat.eq_of_testBit_eq
              intro i
              have h3 : (pk b (8 * wi) 4 ^^^ pk c (8 * wi) 4).testBit i = false := by rw [q, Nat.zero_testBit]
              rw [Nat.testBit_xor] at h3
              simpa using h3
            omega
          obtain ⟨j, j1, j2, j3⟩ := low_mod _ hx0
          obtain ⟨k1, k2, k3⟩ := pk_low b c (8 * wi) 4 q1 q2 j j2 j3
          refine x_iload (i := 14) rfl dJ9_vectorizedMismatch_200 ?_
          refine x_iload (i := 15) rfl dJ9_vectorizedMismatch_202 ?_
          refine x_ixor (n_ixor _ _) dJ9_vectorizedMismatch_204 ?_
          refine x_istore (i := 16) (by decide) dJ9_vectorizedMismatch_205 ?_
          refine x_gets (c6) q503 dJ9_vectorizedMismatch_207 ?_
          refine x_if_eq (tgt := 228) (by omega) dJ9_vectorizedMismatch_210 (by decide) (fun _ => ?_) (fun z => absurd z (by omega))
          refine x_iload (i := 16) rfl dJ9_vectorizedMismatch_228 ?_
          refine XCl.I (iv_J9_11 rfl (m_ntz32 _ j (by omega) j1) rfl rfl rfl (hr_ok (by omega)) (hf_ok (by omega) (by omega)) dJ9_vectorizedMismatch_230) fun r M9 h9 => ?_
          obtain ⟨rfl, rfl⟩ := h9
          refine x_gets (c5) q512 dJ9_vectorizedMismatch_233 ?_
          refine x_iload (i := 7) rfl dJ9_vectorizedMismatch_236 ?_
          refine x_iadd dJ9_vectorizedMismatch_238 ?_
          refine x_ishr (v := ((j >>> 3 : Nat) : Int)) (n_ishr j 3 (by omega) (by omega)) dJ9_vectorizedMismatch_239 ?_
          refine x_istore (i := 17) (by decide) dJ9_vectorizedMismatch_240 ?_
          refine x_iload (i := 9) rfl dJ9_vectorizedMismatch_242 ?_
          refine x_iload (i := 8) rfl dJ9_vectorizedMismatch_244 ?_
          refine x_ishl (v := ((wi <<< 3 : Nat) : Int)) (n_ishl wi 3 (by omega)) dJ9_vectorizedMismatch_246 ?_
          refine x_iload (i := 17) rfl dJ9_vectorizedMismatch_247 ?_
          refine x_iadd dJ9_vectorizedMismatch_249 ?_
          refine x_iret rfl dJ9_vectorizedMismatch_250 ⟨by omega, by omega⟩ ?_
          refine ⟨_, rfl, Or.inr ⟨8 * wi + j / 8, by omega, ?_, k3, fun i hi => ?_⟩, rfl⟩
          · rw [hsh, Nat.shiftRight_eq_div_pow]
            omega
          · by_cases hi2 : i < 8 * wi
            · exact he i hi2
            · have := k2 (i - 8 * wi) (by omega)
              rwa [show 8 * wi + (i - 8 * wi) = i by omega] at this
    | succ rem ih =>
      intro wi L10 L12 hw he hL
      obtain ⟨y0, y1, y2, y3, y4, y5, y6, y7, y8, rfl⟩ : ∃ y0 y1 y2 y3 y4 y5 y6 y7 y8, L10 = [y0, y1, y2, y3, y4, y5, y6, y7, y8] := by
        match L10, hL with
        | [y0, y1, y2, y3, y4, y5, y6, y7, y8], _ => exact ⟨_, _, _, _, _, _, _, _, _, rfl⟩
      refine x_iload (i := 9) rfl dJ9_vectorizedMismatch_11 ?_
      refine x_iload (i := 6) rfl dJ9_vectorizedMismatch_13 ?_
      refine x_iload (i := 8) rfl dJ9_vectorizedMismatch_15 ?_
      refine x_ishr (v := ((len >>> 3 : Nat) : Int)) (n_ishr len 3 (by omega) (by omega)) dJ9_vectorizedMismatch_17 ?_
      rw [Nat.shiftRight_eq_div_pow]
      refine x_icmp_ge (tgt := 122) (by omega) (by omega) dJ9_vectorizedMismatch_18 (by decide) (fun z => absurd z (by omega)) (fun _ => ?_)
      refine x_iload (i := 9) rfl dJ9_vectorizedMismatch_21 ?_
      refine x_i2l (by omega) dJ9_vectorizedMismatch_23 ?_
      refine x_gets (c3) q447 dJ9_vectorizedMismatch_24 ?_
      refine x_lshl (v := ((wi <<< 3 : Nat) : Int)) (n_lshl wi 3 (by omega)) dJ9_vectorizedMismatch_27 ?_
      have hsh : wi <<< 3 = 8 * wi := by rw [Nat.shiftLeft_eq]; omega
      rw [hsh]
      refine x_lstore (i := 10) (by decide) dJ9_vectorizedMismatch_28 ?_
      refine x_gets (c7) q449 dJ9_vectorizedMismatch_30 ?_
      refine x_aload_n (i := 0) rfl rfl dJ9_vectorizedMismatch_33 ?_
      refine x_lload_n (i := 1) rfl rfl dJ9_vectorizedMismatch_34 ?_
      refine x_lload (i := 10) rfl dJ9_vectorizedMismatch_35 ?_
      refine x_ladd dJ9_vectorizedMismatch_37 ?_
      refine XCl.J (iv_J9_30 rfl (m_getLU _ a1 n1 (8 * wi) b c8 h1 (by omega) (by omega)) (rc_c c8) rfl rfl rfl (hr_ok (by omega)) (hf_ok (by omega) (by omega)) dJ9_vectorizedMismatch_38) fun r M9 h9 => ?_
      obtain ⟨rfl, rfl⟩ := h9
      refine x_lstore (i := 12) (by decide) dJ9_vectorizedMismatch_41 ?_
      refine x_gets (c7) q449 dJ9_vectorizedMismatch_43 ?_
      refine x_aload_n (i := 3) rfl rfl dJ9_vectorizedMismatch_46 ?_
      refine x_lload (i := 4) rfl dJ9_vectorizedMismatch_47 ?_
      refine x_lload (i := 10) rfl dJ9_vectorizedMismatch_49 ?_
      refine x_ladd dJ9_vectorizedMismatch_51 ?_
      refine XCl.J (iv_J9_30 rfl (m_getLU _ a2 n2 (8 * wi) c c8 h2 (by omega) (by omega)) (rc_c c8) rfl rfl rfl (hr_ok (by omega)) (hf_ok (by omega) (by omega)) dJ9_vectorizedMismatch_52) fun r M9 h9 => ?_
      obtain ⟨rfl, rfl⟩ := h9
      refine x_lstore (i := 14) (by decide) dJ9_vectorizedMismatch_55 ?_
      refine x_lload (i := 12) rfl dJ9_vectorizedMismatch_57 ?_
      refine x_lload (i := 14) rfl dJ9_vectorizedMismatch_59 ?_
      have r1 := pkb_half b (8 * wi) 8 (fun i hi => hb _ (by omega))
      have r2 := pkb_half c (8 * wi) 8 (fun i hi => hcc _ (by omega))
      have q1 : ∀ i, i < 8 → b (8 * wi + i) < 256 := fun i hi => by have := hb (8 * wi + i) (by omega); omega
      have q2 : ∀ i, i < 8 → c (8 * wi + i) < 256 := fun i hi => by have := hcc (8 * wi + i) (by omega); omega
      refine x_lcmp (by omega) (by omega) dJ9_vectorizedMismatch_61 fun v hv => ?_
      refine x_if_eq (tgt := 116) (by omega) dJ9_vectorizedMismatch_62 (by decide) (fun hz => ?_) (fun hz => ?_)
      · have he2 := pkb_eq b c (8 * wi) 8 q1 q2 (by omega)
        refine x_iinc (i := 9) rfl (by decide) dJ9_vectorizedMismatch_116 ?_
        refine x_goto (tgt := 11) dJ9_vectorizedMismatch_119 (by decide) ?_
        refine ih (wi + 1) [_, _, _, _, _, _, _, _, _] L12 (by omega) (fun i hi => ?_) rfl
        by_cases hi2 : i < 8 * wi
        · exact he i hi2
        · have := he2 (i - 8 * wi) (by omega)
          rwa [show 8 * wi + (i - 8 * wi) = i by omega] at this
      · have hx0 : pk b (8 * wi) 8 ^^^ pk c (8 * wi) 8 ≠ 0 := by
          intro q
          have : pk b (8 * wi) 8 = pk c (8 * wi) 8 := by
            apply Nat.eq_of_testBit_eq
            intro i
            have h3 : (pk b (8 * wi) 8 ^^^ pk c (8 * wi) 8).testBit i = false := by rw [q, Nat.zero_testBit]
            rw [Nat.testBit_xor] at h3
            simpa using h3
          omega
        obtain ⟨j, j1, j2, j3⟩ := low_mod _ hx0
        obtain ⟨k1, k2, k3⟩ := pk_low b c (8 * wi) 8 q1 q2 j j2 j3
        have hxl : pk b (8 * wi) 8 ^^^ pk c (8 * wi) 8 < 2 ^ 64 := Nat.xor_lt_two_pow (by omega) (by omega)
        refine x_lload (i := 12) rfl dJ9_vectorizedMismatch_65 ?_
        refine x_lload (i := 14) rfl dJ9_vectorizedMismatch_67 ?_
        refine x_lxor (n_lxor _ _) dJ9_vectorizedMismatch_69 ?_
        refine x_lstore (i := 16) (by decide) dJ9_vectorizedMismatch_70 ?_
        refine x_gets (c6) q503 dJ9_vectorizedMismatch_72 ?_
        refine x_if_eq (tgt := 93) (by omega) dJ9_vectorizedMismatch_75 (by decide) (fun _ => ?_) (fun z => absurd z (by omega))
        refine x_lload (i := 16) rfl dJ9_vectorizedMismatch_93 ?_
        refine XCl.I (iv_J9_49 rfl (m_ntz64 _ j (by omega) hxl j1) rfl rfl rfl (hr_ok (by omega)) (hf_ok (by omega) (by omega)) dJ9_vectorizedMismatch_95) fun r M9 h9 => ?_
        obtain ⟨rfl, rfl⟩ := h9
        refine x_gets (c5) q512 dJ9_vectorizedMismatch_98 ?_
        refine x_iload (i := 7) rfl dJ9_vectorizedMismatch_101 ?_
        refine x_iadd dJ9_vectorizedMismatch_103 ?_
        refine x_ishr (v := ((j >>> 3 : Nat) : Int)) (n_ishr j 3 (by omega) (by omega)) dJ9_vectorizedMismatch_104 ?_
        refine x_istore (i := 18) (by decide) dJ9_vectorizedMismatch_105 ?_
        refine x_iload (i := 9) rfl dJ9_vectorizedMismatch_107 ?_
        refine x_iload (i := 8) rfl dJ9_vectorizedMismatch_109 ?_
        refine x_ishl (v := ((wi <<< 3 : Nat) : Int)) (n_ishl wi 3 (by omega)) dJ9_vectorizedMismatch_111 ?_
        refine x_iload (i := 18) rfl dJ9_vectorizedMismatch_112 ?_
        refine x_iadd dJ9_vectorizedMismatch_114 ?_
        refine x_iret rfl dJ9_vectorizedMismatch_115 ⟨by omega, by omega⟩ ?_
        refine ⟨_, rfl, Or.inr ⟨8 * wi + j / 8, by omega, ?_, k3, fun i hi => ?_⟩, rfl⟩
        · rw [hsh, Nat.shiftRight_eq_div_pow]
          omega
        · by_cases hi2 : i < 8 * wi
          · exact he i hi2
          · have := k2 (i - 8 * wi) (by omega)
            rwa [show 8 * wi + (i - 8 * wi) = i by omega] at this
  exact loop (len / 8) 0 _ [] (by omega) (fun i hi => by omega) rfl
theorem m_mism (hC : gConM G) (a1 n1 : Nat) (b : Nat → Nat) (a2 n2 : Nat) (c : Nat → Nat) (len : Nat) (h1 : Yb M a1 n1 b) (h2 : Yb M a2 n2 c) (hl : len ≤ n1 ∧ len ≤ n2) :
    Ct G wJ9_mismatch [aR (some a1), aR (some a2), aI (len : Int)] M 4 0 0 (kI fun r M' => msA b c len r ∧ M = M') := by
  refine Ct.mk rfl rfl (Nat.le_of_ble_eq_true rfl) ?_
  have hC9 := hC
  obtain ⟨c1, c2, c3, c4, c5, c6, c7, c8⟩ := hC
  have h1' := h1
  have h2' := h2
  obtain ⟨hn1, hb, f, hM1, hf⟩ := h1
  obtain ⟨hn2, hcc, g, hM2, hg⟩ := h2
  have loop : ∀ (rem k : Nat), k + rem = len → (∀ i, i < k → b i = c i) →
      X G wJ9_mismatch (rmO 4 0 0) (mEnd G (kI fun r M' => msA b c len r ∧ M = M') 0 0) 0 0 49 [some (aR (some a1)), some (aR (some a2)), some (aI (len : Int)), some (aI (k : Int))] [] M := by
    intro rem
    induction rem with
    | zero =>
      intro k hk he
      refine x_iload_n (i := 3) rfl rfl dJ9_mismatch_49 ?_
      refine x_iload_n (i := 2) rfl rfl dJ9_mismatch_50 ?_
      refine x_icmp_ge (tgt := 71) (by omega) (by omega) dJ9_mismatch_51 (by decide) (fun _ => ?_) (fun z => absurd z (by omega))
      refine x_iconst dJ9_mismatch_71 ?_
      refine x_iret rfl dJ9_mismatch_72 ⟨by omega, by omega⟩ ?_
      exact ⟨_, rfl, Or.inl ⟨rfl, fun i hi => he i (by omega)⟩, rfl⟩
    | succ rem ih =>
      intro k hk he
      have b1 := hb k (by omega)
      have b2 := hcc k (by omega)
      refine x_iload_n (i := 3) rfl rfl dJ9_mismatch_49 ?_
      refine x_iload_n (i := 2) rfl rfl dJ9_mismatch_50 ?_
      refine x_icmp_ge (tgt := 71) (by omega) (by omega) dJ9_mismatch_51 (by decide) (fun z => absurd z (by omega)) (fun _ => ?_)
      refine x_aload_n (i := 0) rfl rfl dJ9_mismatch_54 ?_
      refine x_iload_n (i := 3) rfl rfl dJ9_mismatch_55 ?_
      refine x_bald (k) (by assumption) (by omega) (by omega) dJ9_mismatch_56 ?_
      refine x_aload_n (i := 1) rfl rfl dJ9_mismatch_57 ?_
      refine x_iload_n (i := 3) rfl rfl dJ9_mismatch_58 ?_
      refine x_bald (k) (by assumption) (by omega) (by omega) dJ9_mismatch_59 ?_
      rw [hf k (by omega), hg k (by omega)]
      refine x_icmp_eq (tgt := 65) (by omega) (by omega) dJ9_mismatch_60 (by decide) (fun hx => ?_) (fun hx => ?_)
      · refine x_iinc (i := 3) rfl (by decide) dJ9_mismatch_65 ?_
        refine x_goto (tgt := 49) dJ9_mismatch_68 (by decide) ?_
        refine ih (k + 1) (by omega) fun i hi => ?_
        by_cases hik : i = k
        · rw [hik]
          omega
        · exact he i (by omega)
      · refine x_iload_n (i := 3) rfl rfl dJ9_mismatch_63 ?_
        refine x_iret rfl dJ9_mismatch_64 ⟨by omega, by omega⟩ ?_
        exact ⟨_, rfl, Or.inr ⟨k, by omega, rfl, by omega, he⟩, rfl⟩
  refine x_iconst dJ9_mismatch_0 ?_
  refine x_istore_n (i := 3) rfl (by decide) dJ9_mismatch_1 ?_
  refine x_iload_n (i := 2) rfl rfl dJ9_mismatch_2 ?_
  refine x_bipush (a := 7) rfl dJ9_mismatch_3 ?_
  refine x_icmp_le (tgt := 49) (by omega) (by omega) dJ9_mismatch_5 (by decide) (fun hs => ?_) (fun hs => ?_)
  · exact loop len 0 (by omega) fun i hi => by omega
  · have b1 := hb 0 (by omega)
    have b2 := hcc 0 (by omega)
    refine x_aload_n (i := 0) rfl rfl dJ9_mismatch_8 ?_
    refine x_iconst dJ9_mismatch_9 ?_
    refine x_bald (0) (by assumption) (by omega) (by omega) dJ9_mismatch_10 ?_
    refine x_aload_n (i := 1) rfl rfl dJ9_mismatch_11 ?_
    refine x_iconst dJ9_mismatch_12 ?_
    refine x_bald (0) (by assumption) (by omega) (by omega) dJ9_mismatch_13 ?_
    rw [hf 0 (by omega), hg 0 (by omega)]
    refine x_icmp_eq (tgt := 19) (by omega) (by omega) dJ9_mismatch_14 (by decide) (fun hx => ?_) (fun hx => ?_)
    · refine x_aload_n (i := 0) rfl rfl dJ9_mismatch_19 ?_
      refine x_gets (c1) q440 dJ9_mismatch_20 ?_
      refine x_i2l (by omega) dJ9_mismatch_23 ?_
      refine x_aload_n (i := 1) rfl rfl dJ9_mismatch_24 ?_
      refine x_gets (c1) q440 dJ9_mismatch_25 ?_
      refine x_i2l (by omega) dJ9_mismatch_28 ?_
      refine x_iload_n (i := 2) rfl rfl dJ9_mismatch_29 ?_
      refine x_gets (c2) q442 dJ9_mismatch_30 ?_
      refine XCl.I (iv_J9_122 rfl (m_vmis hC9 a1 n1 b a2 n2 c len h1' h2' hl) rfl rfl rfl (hr_ok (by omega)) (hf_ok (by omega) (by omega)) dJ9_mismatch_33) fun r M9 h9 => ?_
      obtain ⟨hv, rfl⟩ := h9
      rcases hv with ⟨k, k1, rfl, k3⟩ | ⟨j, j1, rfl, j3, j4⟩
      · refine x_istore_n (i := 3) rfl (by decide) dJ9_mismatch_36 ?_
        refine x_iload_n (i := 3) rfl rfl dJ9_mismatch_37 ?_
        refine x_if_lt (tgt := 43) (by omega) dJ9_mismatch_38 (by decide) (fun _ => ?_) (fun z => absurd z (by omega))
        refine x_iload_n (i := 2) rfl rfl dJ9_mismatch_43 ?_
        refine x_iload_n (i := 3) rfl rfl dJ9_mismatch_44 ?_
        refine x_iconst dJ9_mismatch_45 ?_
        refine x_ixor (n_inot _) dJ9_mismatch_46 ?_
        refine x_isub dJ9_mismatch_47 ?_
        refine x_istore_n (i := 3) rfl (by decide) dJ9_mismatch_48 ?_
        rw [show (len : Int) - (-(-((len - k : Nat) : Int) - 1) - 1) = ((k : Nat) : Int) by omega]
        exact loop (len - k) k (by omega) k3
      · refine x_istore_n (i := 3) rfl (by decide) dJ9_mismatch_36 ?_
        refine x_iload_n (i := 3) rfl rfl dJ9_mismatch_37 ?_
        refine x_if_lt (tgt := 43) (by omega) dJ9_mismatch_38 (by decide) (fun z => absurd z (by omega)) (fun _ => ?_)
        refine x_iload_n (i := 3) rfl rfl dJ9_mismatch_41 ?_
        refine x_iret rfl dJ9_mismatch_42 ⟨by omega, by omega⟩ ?_
        exact ⟨_, rfl, Or.inr ⟨j, j1, rfl, j3, j4⟩, rfl⟩
    · refine x_iconst dJ9_mismatch_17 ?_
      refine x_iret rfl dJ9_mismatch_18 ⟨by omega, by omega⟩ ?_
      exact ⟨_, rfl, Or.inr ⟨0, by omega, rfl, by omega, fun i hi => by omega⟩, rfl⟩
end JN
