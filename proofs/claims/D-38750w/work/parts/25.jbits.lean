/-! java.util.BitSet (of one word), Long.numberOfTrailingZeros -/
set_option maxRecDepth 100000
section JN
variable {G : GG} {M : Mem}
/-- a set at a, its word at w, the bits b -/
def Bs (M : Mem) (a w b : Nat) : Prop := ∃ u : Int, mG M a = some (cO 15 [aR (some w), aI u, aI 0]) ∧ ((b = 0 ∧ u = 0) ∨ (b ≠ 0 ∧ u = 1)) ∧ b < 65536 ∧ ∃ f, mG M w = some (cL 1 f) ∧ f 0 = (b : Int)
/-- assertions are off -/
def gConB (G : GG) : Prop := gZ G "java/util/BitSet" "$assertionsDisabled" "Z" (aI 1)
theorem Bs.e {M M' : Mem} {a w b : Nat} (h : Bs M a w b) (k : mE M M') : Bs M' a w b := by
  obtain ⟨u, h1, h2, h3, f, h4, h5⟩ := h
  exact ⟨u, k.g h1, h2, h3, f, k.g h4, h5⟩
theorem Bs.f {M M' : Mem} {a w b : Nat} {P : Nat → Prop} (h : Bs M a w b) (k : mF P M M') (ha : ¬ P a) (hw : ¬ P w) : Bs M' a w b := by
  obtain ⟨u, h1, h2, h3, f, h4, h5⟩ := h
  exact ⟨u, k.g h1 ha, h2, h3, f, k.g h4 hw, h5⟩
theorem m_Binv (hC : gConB G) (a : Nat) :
    Ct G wJ30_checkInvariants [aR (some a)] M 1 0 0 (kV fun M' => M = M') := by
  refine Ct.mk rfl rfl (Nat.le_of_ble_eq_true rfl) ?_
  refine x_gets (hC) q982 dJ30_checkInvariants_0 ?_
  refine x_if_ne (tgt := 37) (by omega) dJ30_checkInvariants_3 (by decide) (fun _ => ?_) (fun z => absurd z (by omega))
  refine x_gets (hC) q982 dJ30_checkInvariants_37 ?_
  refine x_if_ne (tgt := 70) (by omega) dJ30_checkInvariants_40 (by decide) (fun _ => ?_) (fun z => absurd z (by omega))
  refine x_gets (hC) q982 dJ30_checkInvariants_70 ?_
  refine x_if_ne (tgt := 110) (by omega) dJ30_checkInvariants_73 (by decide) (fun _ => ?_) (fun z => absurd z (by omega))
  refine x_vret rfl dJ30_checkInvariants_110 ⟨by omega, by omega⟩ ?_
  exact ⟨rfl, rfl⟩
theorem m_Bidx (k : Nat) (hk : k < 64) :
    Ct G wJ30_wordIndex [aI (k : Int)] M 1 0 0 (kI fun r M' => r = 0 ∧ M = M') := by
  refine Ct.mk rfl rfl (Nat.le_of_ble_eq_true rfl) ?_
  refine x_iload_n (i := 0) rfl rfl dJ30_wordIndex_0 ?_
  refine x_bipush (a := 6) rfl dJ30_wordIndex_1 ?_
  refine x_ishr (v := ((k >>> 6 : Nat) : Int)) (n_ishr k 6 (by omega) (by omega)) dJ30_wordIndex_3 ?_
  refine x_iret rfl dJ30_wordIndex_4 ⟨by omega, by omega⟩ ?_
  refine ⟨_, rfl, ?_, rfl⟩
  rw [Nat.shiftRight_eq_div_pow]
  omega
theorem m_Bidx63 :
    Ct G wJ30_wordIndex [aI 63] M 1 0 0 (kI fun r M' => r = 0 ∧ M = M') := by
  refine Ct.mk rfl rfl (Nat.le_of_ble_eq_true rfl) ?_
  refine x_iload_n (i := 0) rfl rfl dJ30_wordIndex_0 ?_
  refine x_bipush (a := 6) rfl dJ30_wordIndex_1 ?_
  refine x_ishr (v := 0) (by decide) dJ30_wordIndex_3 ?_
  refine x_iret rfl dJ30_wordIndex_4 ⟨by omega, by omega⟩ ?_
  exact ⟨_, rfl, rfl, rfl⟩
theorem m_Bwords (a : Nat) (hM : mG M a = some (cO 15 [aR none, aI 0, aI 0])) :
    Ct G wJ30_initWords [aR (some a), aI 64] M 2 1 1 (kV fun M' => ∃ w, mG M' a = some (cO 15 [aR (some w), aI 0, aI 0]) ∧ mG M' w = some (cL 1 fun _ => 0) ∧ mZ M ≤ w ∧ mF (fun x => x = a) M M') := by
  refine Ct.mk rfl rfl (Nat.le_of_ble_eq_true rfl) ?_
  refine x_aload_n (i := 0) rfl rfl dJ30_initWords_0 ?_
  refine x_iload_n (i := 1) rfl rfl dJ30_initWords_1 ?_
  refine x_iconst dJ30_initWords_2 ?_
  refine x_isub dJ30_initWords_3 ?_
  refine XCl.I (iv_J30_52 rfl (m_Bidx63) rfl rfl rfl (hr_ok (by omega)) (hf_ok (by omega) (by omega)) dJ30_initWords_4) fun r M9 h1 => ?_
  obtain ⟨rfl, rfl⟩ := h1
  refine x_iconst dJ30_initWords_7 ?_
  refine x_iadd dJ30_initWords_8 ?_
  refine u_newL (n := 1) (by omega) (by omega) (hf_ok (by omega) (by omega)) dJ30_initWords_9 fun w M1 hA => ?_
  have ho := hA.o hM
  refine pf_J30_11 (fs' := [_, _, _]) rfl (by assumption) rfl rfl dJ30_initWords_11 fun M2 h2 => ?_
  refine x_vret rfl dJ30_initWords_14 ⟨by omega, by omega⟩ ?_
  refine ⟨rfl, w, h2.s, h2.o hA.s (mG_ne hA.s ho (by simp)), by rw [hA.q]; omega, h2.ff (hA.e.f _) (Or.inl rfl)⟩
theorem m_Binit (a : Nat) (hM : mG M a = some (cO 15 [aR none, aI 0, aI 0])) :
    Ct G wJ30_init [aR (some a)] M 3 1 1 (kV fun M' => ∃ w, Bs M' a w 0 ∧ mZ M ≤ w ∧ mF (fun x => x = a) M M') := by
  refine Ct.mk rfl rfl (Nat.le_of_ble_eq_true rfl) ?_
  refine x_aload_n (i := 0) rfl rfl dJ30_init_0 ?_
  refine x_objInit q909 (Nat.le_of_ble_eq_true rfl) (Nat.le_of_ble_eq_true rfl) (by decide) dJ30_init_1 ?_
  refine x_aload_n (i := 0) rfl rfl dJ30_init_4 ?_
  refine x_iconst dJ30_init_5 ?_
  refine pf_J30_7 (fs' := [_, _, _]) rfl (by assumption) rfl rfl dJ30_init_6 fun M1 h1 => ?_
  have e1 := h1.s
  refine x_aload_n (i := 0) rfl rfl dJ30_init_9 ?_
  refine x_iconst dJ30_init_10 ?_
  refine pf_J30_24 (fs' := [_, _, _]) rfl (by omega) (by assumption) rfl rfl dJ30_init_11 fun M2 h2 => ?_
  have e2 := h2.s
  refine x_aload_n (i := 0) rfl rfl dJ30_init_14 ?_
  refine x_bipush (a := 64) rfl dJ30_init_15 ?_
  refine XCl.V (iv_J30_27 rfl (m_Bwords a e2) (rc_o e2 rfl) rfl rfl rfl (hr_ok (by omega)) (hf_ok (by omega) (by omega)) dJ30_init_17) fun M3 h3 => ?_
  obtain ⟨w, e3, e4, e5, e6⟩ := h3
  refine x_aload_n (i := 0) rfl rfl dJ30_init_20 ?_
  refine x_iconst dJ30_init_21 ?_
  refine pf_J30_24 (fs' := [_, _, _]) rfl (by omega) (by assumption) rfl rfl dJ30_init_22 fun M4 h4 => ?_
  refine x_vret rfl dJ30_init_25 ⟨by omega, by omega⟩ ?_
  have hz1 := h1.z
  have hz2 := h2.z
  refine ⟨rfl, w, ⟨0, h4.s, Or.inl ⟨rfl, rfl⟩, by omega, _, h4.o e4 (mG_ne e4 e3 (by simp)), rfl⟩, by omega, ?_⟩
  have e8 : mF (fun x => x = a) M M1 := h1.f rfl
  have e7 : mF (fun x => x = a) M1 M2 := h2.f rfl
  have e9 := e8.tr e7
  exact h4.ff (e9.tr e6) (Or.inl rfl)
/-- a set's own cells -/
def BsC (a w : Nat) : Nat → Prop := fun x => x = a ∨ x = w
theorem Bs.ne {M : Mem} {a w b : Nat} (h : Bs M a w b) : w ≠ a := by
  obtain ⟨u, h1, -, -, f, h4, -⟩ := h
  exact mG_ne h4 h1 (by simp)
theorem m_Bexp (a w b : Nat) (h : Bs M a w b) :
    Ct G wJ30_expandTo [aR (some a), aI 0] M 2 0 0 (kV fun M' => mG M' a = some (cO 15 [aR (some w), aI 1, aI 0]) ∧ mF (fun x => x = a) M M') := by
  refine Ct.mk rfl rfl (Nat.le_of_ble_eq_true rfl) ?_
  obtain ⟨u, ho, hu, hb, f, hw, hf⟩ := h
  refine x_iload_n (i := 1) rfl rfl dJ30_expandTo_0 ?_
  refine x_iconst dJ30_expandTo_1 ?_
  refine x_iadd dJ30_expandTo_2 ?_
  refine x_istore_n (i := 2) rfl (by decide) dJ30_expandTo_3 ?_
  refine x_aload_n (i := 0) rfl rfl dJ30_expandTo_4 ?_
  refine gf_J30_7 rfl (by assumption) rfl dJ30_expandTo_5 ?_
  refine x_iload_n (i := 2) rfl rfl dJ30_expandTo_8 ?_
  refine x_icmp_ge (tgt := 22) (by omega) (by omega) dJ30_expandTo_9 (by decide) (fun h1 => ?_) (fun h1 => ?_)
  · refine x_vret rfl dJ30_expandTo_22 ⟨by omega, by omega⟩ ?_
    refine ⟨rfl, ?_, mF.rf _ _⟩
    rw [ho, show u = 1 by omega]
  · refine x_aload_n (i := 0) rfl rfl dJ30_expandTo_12 ?_
    refine x_iload_n (i := 2) rfl rfl dJ30_expandTo_13 ?_
    have hens : Ct G wJ30_ensureCapacity [aR (some a), aI 1] M 1 0 0 (kV fun M' => M = M') := by
      refine Ct.mk rfl rfl (Nat.le_of_ble_eq_true rfl) ?_
      refine x_aload_n (i := 0) rfl rfl dJ30_ensureCapacity_0 ?_
      refine gf_J30_11 rfl (by assumption) rfl dJ30_ensureCapacity_1 ?_
      refine x_alen (by assumption) (by decide) (by omega) dJ30_ensureCapacity_4 ?_
      refine x_iload_n (i := 1) rfl rfl dJ30_ensureCapacity_5 ?_
      refine x_icmp_ge (tgt := 38) (by omega) (by omega) dJ30_ensureCapacity_6 (by decide) (fun _ => ?_) (fun z => absurd z (by omega))
      refine x_vret rfl dJ30_ensureCapacity_38 ⟨by omega, by omega⟩ ?_
      exact ⟨rfl, rfl⟩
    refine XCl.V (iv_J30_139 rfl (hens) (rc_o ho rfl) rfl rfl rfl (hr_ok (by omega)) (hf_ok (by omega) (by omega)) dJ30_expandTo_14) fun M9 h9 => ?_
    subst h9
    refine x_aload_n (i := 0) rfl rfl dJ30_expandTo_17 ?_
    refine x_iload_n (i := 2) rfl rfl dJ30_expandTo_18 ?_
    refine pf_J30_7 (fs' := [_, _, _]) rfl (by assumption) rfl rfl dJ30_expandTo_19 fun M1 h1 => ?_
    refine x_vret rfl dJ30_expandTo_22 ⟨by omega, by omega⟩ ?_
    exact ⟨rfl, h1.s, h1.f rfl⟩
theorem bit_lt (b k : Nat) (hb : b < 65536) (hk : k < 16) : b ||| (1 <<< k) < 65536 := by
  have h1 : (1 : Nat) <<< k < 2 ^ 16 := by
    rw [Nat.shiftLeft_eq, Nat.one_mul]
    exact Nat.pow_lt_pow_right (by omega) hk
  exact Nat.or_lt_two_pow (n := 16) hb h1
theorem bit_nz (b k : Nat) : b ||| (1 <<< k) ≠ 0 := by
  intro h
  have h1 : (b ||| (1 <<< k)).testBit k = true := by
    rw [Nat.testBit_or, Nat.shiftLeft_eq, Nat.one_mul, Nat.testBit_two_pow]
    simp
  rw [h, Nat.zero_testBit] at h1
  cases h1
theorem m_Bset (hC : gConB G) (a w b k : Nat) (h : Bs M a w b) (hk : k < 16) :
    Ct G wJ30_set_2 [aR (some a), aI (k : Int)] M 3 0 0 (kV fun M' => Bs M' a w (b ||| (1 <<< k)) ∧ mF (BsC a w) M M') := by
  refine Ct.mk rfl rfl (Nat.le_of_ble_eq_true rfl) ?_
  have hne := h.ne
  have hh := h
  obtain ⟨u, ho, hu, hb, f, hw, hf⟩ := h
  refine x_iload_n (i := 1) rfl rfl dJ30_set_2_0 ?_
  refine x_if_ge (tgt := 31) (by omega) dJ30_set_2_1 (by decide) (fun _ => ?_) (fun z => absurd z (by omega))
  refine x_iload_n (i := 1) rfl rfl dJ30_set_2_31 ?_
  refine XCl.I (iv_J30_52 rfl (m_Bidx k (by omega)) rfl rfl rfl (hr_ok (by omega)) (hf_ok (by omega) (by omega)) dJ30_set_2_32) fun r M9 h1 => ?_
  obtain ⟨rfl, rfl⟩ := h1
  refine x_istore_n (i := 2) rfl (by decide) dJ30_set_2_35 ?_
  refine x_aload_n (i := 0) rfl rfl dJ30_set_2_36 ?_
  refine x_iload_n (i := 2) rfl rfl dJ30_set_2_37 ?_
  refine XCl.V (iv_J30_155 rfl (m_Bexp a w b hh) (rc_o ho rfl) rfl rfl rfl (hr_ok (by omega)) (hf_ok (by omega) (by omega)) dJ30_set_2_38) fun M1 h1 => ?_
  obtain ⟨ho1, hF1⟩ := h1
  have hw1 := hF1.g hw hne
  refine x_aload_n (i := 0) rfl rfl dJ30_set_2_41 ?_
  refine gf_J30_11 rfl (by assumption) rfl dJ30_set_2_42 ?_
  refine x_iload_n (i := 2) rfl rfl dJ30_set_2_45 ?_
  refine x_dup2 (aCt_ok _) (aCt_ok _) dJ30_set_2_46 ?_
  refine x_lald (0) (by assumption) (by omega) (by omega) dJ30_set_2_47 ?_
  rw [hf]
  refine x_lconst (a := 1) rfl dJ30_set_2_48 ?_
  refine x_iload_n (i := 1) rfl rfl dJ30_set_2_49 ?_
  refine x_lshl (v := ((1 <<< k : Nat) : Int)) (n_lshl 1 k (by omega)) dJ30_set_2_50 ?_
  refine x_lor (v := ((b ||| (1 <<< k) : Nat) : Int)) (n_lor b _) dJ30_set_2_51 ?_
  refine u_last (0) (by assumption) (by omega) (by omega) dJ30_set_2_52 fun M2 h2 => ?_
  have ho2 := h2.o ho1 (Ne.symm hne)
  refine x_aload_n (i := 0) rfl rfl dJ30_set_2_53 ?_
  refine XCl.V (iv_J30_56 rfl (m_Binv hC a) (rc_o ho2 rfl) rfl rfl rfl (hr_ok (by omega)) (hf_ok (by omega) (by omega)) dJ30_set_2_54) fun M9 h9 => ?_
  subst h9
  refine x_vret rfl dJ30_set_2_57 ⟨by omega, by omega⟩ ?_
  exact ⟨rfl, ⟨1, ho2, Or.inr ⟨bit_nz b k, rfl⟩, bit_lt b k hb hk, _, h2.s, aup_s _ _ _⟩, h2.ff (hF1.mono fun x _ hx => Or.inl hx) (Or.inl (Or.inr rfl))⟩
theorem m_Bclr (hC : gConB G) (a w b k : Nat) (h : Bs M a w b) (hk : k < 16) (hb2 : b < 2 ^ k) :
    Ct G wJ30_clear [aR (some a), aI (k : Int)] M 2 0 0 (kV fun M' => Bs M' a w b ∧ mF (BsC a w) M M') := by
  refine Ct.mk rfl rfl (Nat.le_of_ble_eq_true rfl) ?_
  have hh := h
  have hne := h.ne
  obtain ⟨u, ho, hu, hb, f, hw, hf⟩ := h
  refine x_iload_n (i := 1) rfl rfl dJ30_clear_0 ?_
  refine x_if_ge (tgt := 31) (by omega) dJ30_clear_1 (by decide) (fun _ => ?_) (fun z => absurd z (by omega))
  refine x_iload_n (i := 1) rfl rfl dJ30_clear_31 ?_
  refine XCl.I (iv_J30_52 rfl (m_Bidx k (by omega)) rfl rfl rfl (hr_ok (by omega)) (hf_ok (by omega) (by omega)) dJ30_clear_32) fun r M9 h1 => ?_
  obtain ⟨rfl, rfl⟩ := h1
  refine x_istore_n (i := 2) rfl (by decide) dJ30_clear_35 ?_
  refine x_iload_n (i := 2) rfl rfl dJ30_clear_36 ?_
  refine x_aload_n (i := 0) rfl rfl dJ30_clear_37 ?_
  refine gf_J30_7 rfl (by assumption) rfl dJ30_clear_38 ?_
  refine x_icmp_lt (tgt := 45) (by omega) (by omega) dJ30_clear_41 (by decide) (fun h1 => ?_) (fun h1 => ?_)
  · have hb0 : b ≠ 0 := by omega
    refine x_aload_n (i := 0) rfl rfl dJ30_clear_45 ?_
    refine gf_J30_11 rfl (by assumption) rfl dJ30_clear_46 ?_
    refine x_iload_n (i := 2) rfl rfl dJ30_clear_49 ?_
    refine x_dup2 (aCt_ok _) (aCt_ok _) dJ30_clear_50 ?_
    refine x_lald (0) (by assumption) (by omega) (by omega) dJ30_clear_51 ?_
    rw [hf]
    refine x_lconst (a := 1) rfl dJ30_clear_52 ?_
    refine x_iload_n (i := 1) rfl rfl dJ30_clear_53 ?_
    refine x_lshl (v := ((1 <<< k : Nat) : Int)) (n_lshl 1 k (by omega)) dJ30_clear_54 ?_
    refine x_ldc2 (v := -1) q988 rfl dJ30_clear_55 ?_
    refine x_lxor (n_vv _) dJ30_clear_58 ?_
    refine x_land (v := ((b : Nat) : Int)) (n_lclr b k hb2 (by omega) _ (n_vv _)) dJ30_clear_59 ?_
    refine u_last (0) (by assumption) (by omega) (by omega) dJ30_clear_60 fun M2 h2 => ?_
    have ho2 := h2.o ho (Ne.symm hne)
    have hrec : Ct G wJ30_recalculateWordsInUse [aR (some a)] M2 1 0 0 (kV fun M' => mU M2 M' a (cO 15 [aR (some w), aI 1, aI 0])) := by
      refine Ct.mk rfl rfl (Nat.le_of_ble_eq_true rfl) ?_
      have hw2 := h2.s
      refine x_aload_n (i := 0) rfl rfl dJ30_recalculateWordsInUse_0 ?_
      refine gf_J30_7 rfl (by assumption) rfl dJ30_recalculateWordsInUse_1 ?_
      refine x_iconst dJ30_recalculateWordsInUse_4 ?_
      refine x_isub dJ30_recalculateWordsInUse_5 ?_
      refine x_istore_n (i := 1) rfl (by decide) dJ30_recalculateWordsInUse_6 ?_
      refine x_iload_n (i := 1) rfl rfl dJ30_recalculateWordsInUse_7 ?_
      refine x_if_lt (tgt := 31) (by omega) dJ30_recalculateWordsInUse_8 (by decide) (fun z => absurd z (by omega)) (fun _ => ?_)
      refine x_aload_n (i := 0) rfl rfl dJ30_recalculateWordsInUse_11 ?_
      refine gf_J30_11 rfl (by assumption) rfl dJ30_recalculateWordsInUse_12 ?_
      refine x_iload_n (i := 1) rfl rfl dJ30_recalculateWordsInUse_15 ?_
      refine x_lald (0) (by assumption) (by omega) (by omega) dJ30_recalculateWordsInUse_16 ?_
      rw [aup_s]
      refine x_lconst (a := 0) rfl dJ30_recalculateWordsInUse_17 ?_
      refine x_lcmp (by omega) (by omega) dJ30_recalculateWordsInUse_18 fun c hc => ?_
      refine x_if_eq (tgt := 25) (by omega) dJ30_recalculateWordsInUse_19 (by decide) (fun z => absurd z (by omega)) (fun _ => ?_)
      refine x_goto (tgt := 31) dJ30_recalculateWordsInUse_22 (by decide) ?_
      refine x_aload_n (i := 0) rfl rfl dJ30_recalculateWordsInUse_31 ?_
      refine x_iload_n (i := 1) rfl rfl dJ30_recalculateWordsInUse_32 ?_
      refine x_iconst dJ30_recalculateWordsInUse_33 ?_
      refine x_iadd dJ30_recalculateWordsInUse_34 ?_
      refine pf_J30_7 (fs' := [_, _, _]) rfl (by assumption) rfl rfl dJ30_recalculateWordsInUse_35 fun M3 h3 => ?_
      refine x_vret rfl dJ30_recalculateWordsInUse_38 ⟨by omega, by omega⟩ ?_
      refine ⟨rfl, ?_⟩
      rw [show u = 1 by omega] at h3
      exact h3
    refine x_aload_n (i := 0) rfl rfl dJ30_clear_61 ?_
    refine XCl.V (iv_J30_158 rfl (hrec) (rc_o ho2 rfl) rfl rfl rfl (hr_ok (by omega)) (hf_ok (by omega) (by omega)) dJ30_clear_62) fun M3 h3 => ?_
    have ho3 := h3.s
    refine x_aload_n (i := 0) rfl rfl dJ30_clear_65 ?_
    refine XCl.V (iv_J30_56 rfl (m_Binv hC a) (rc_o ho3 rfl) rfl rfl rfl (hr_ok (by omega)) (hf_ok (by omega) (by omega)) dJ30_clear_66) fun M9 h9 => ?_
    subst h9
    refine x_vret rfl dJ30_clear_69 ⟨by omega, by omega⟩ ?_
    exact ⟨rfl, ⟨1, ho3, Or.inr ⟨hb0, rfl⟩, hb, _, h3.o h2.s hne, aup_s _ _ _⟩, h3.ff (h2.f (Or.inr rfl)) (Or.inl (Or.inl rfl))⟩
  · refine x_vret rfl dJ30_clear_44 ⟨by omega, by omega⟩ ?_
    exact ⟨rfl, hh, mF.rf _ _⟩
/-- a bit set, or left away behind all that are set -/
def bput (b k : Nat) (is : Bool) : Nat := if is then b ||| (1 <<< k) else b
theorem m_Bset2 (hC : gConB G) (a w b k : Nat) (is : Bool) (z : Int) (hz : z = if is then 1 else 0) (h : Bs M a w b) (hk : k < 16) (hb2 : b < 2 ^ k) :
    Ct G wJ30_set [aR (some a), aI (k : Int), aI z] M 4 0 0 (kV fun M' => Bs M' a w (bput b k is) ∧ mF (BsC a w) M M') := by
  refine Ct.mk rfl rfl (Nat.le_of_ble_eq_true rfl) ?_
  obtain ⟨u, ho, -⟩ := id h
  cases is
  · have hz0 : z = 0 := hz
    subst hz0
    refine x_iload_n (i := 2) rfl rfl dJ30_set_0 ?_
    refine x_if_eq (tgt := 12) (by omega) dJ30_set_1 (by decide) (fun _ => ?_) (fun z => absurd z (by omega))
    refine x_aload_n (i := 0) rfl rfl dJ30_set_12 ?_
    refine x_iload_n (i := 1) rfl rfl dJ30_set_13 ?_
    refine XCl.V (iv_J30_170 rfl (m_Bclr hC a w b k h hk hb2) (rc_o ho rfl) rfl rfl rfl (hr_ok (by omega)) (hf_ok (by omega) (by omega)) dJ30_set_14) fun M1 h1 => ?_
    refine x_vret rfl dJ30_set_17 ⟨by omega, by omega⟩ ?_
    exact ⟨rfl, h1⟩
  · have hz0 : z = 1 := hz
    subst hz0
    refine x_iload_n (i := 2) rfl rfl dJ30_set_0 ?_
    refine x_if_eq (tgt := 12) (by omega) dJ30_set_1 (by decide) (fun z => absurd z (by omega)) (fun _ => ?_)
    refine x_aload_n (i := 0) rfl rfl dJ30_set_4 ?_
    refine x_iload_n (i := 1) rfl rfl dJ30_set_5 ?_
    refine XCl.V (iv_J30_167 rfl (m_Bset hC a w b k h hk) (rc_o ho rfl) rfl rfl rfl (hr_ok (by omega)) (hf_ok (by omega) (by omega)) dJ30_set_6) fun M1 h1 => ?_
    refine x_goto (tgt := 17) dJ30_set_9 (by decide) ?_
    refine x_vret rfl dJ30_set_17 ⟨by omega, by omega⟩ ?_
    exact ⟨rfl, h1⟩
theorem bit_and (b k : Nat) : (b &&& (1 <<< k) = 0 ∧ b.testBit k = false) ∨ (b &&& (1 <<< k) ≠ 0 ∧ b.testBit k = true) := by
  have h0 : (1 : Nat) <<< k = 2 ^ k := by rw [Nat.shiftLeft_eq, Nat.one_mul]
  rw [h0]
  cases hb : b.testBit k
  · refine Or.inl ⟨?_, rfl⟩
    apply Nat.eq_of_testBit_eq
    intro i
    rw [Nat.testBit_and, Nat.testBit_two_pow, Nat.zero_testBit]
    by_cases hik : k = i
    · subst hik
      simp [hb]
    · simp [hik]
  · refine Or.inr ⟨fun h => ?_, rfl⟩
    have h1 : (b &&& 2 ^ k).testBit k = true := by
      rw [Nat.testBit_and, Nat.testBit_two_pow, hb]
      simp
    rw [h, Nat.zero_testBit] at h1
    cases h1
theorem m_Bget (hC : gConB G) (a w b k : Nat) (h : Bs M a w b) (hk : k < 16) :
    Ct G wJ30_get [aR (some a), aI (k : Int)] M 2 0 0 (kI fun r M' => r = (if b.testBit k then 1 else 0) ∧ M = M') := by
  refine Ct.mk rfl rfl (Nat.le_of_ble_eq_true rfl) ?_
  obtain ⟨u, ho, hu, hb, f, hw, hf⟩ := h
  refine x_iload_n (i := 1) rfl rfl dJ30_get_0 ?_
  refine x_if_ge (tgt := 31) (by omega) dJ30_get_1 (by decide) (fun _ => ?_) (fun z => absurd z (by omega))
  refine x_aload_n (i := 0) rfl rfl dJ30_get_31 ?_
  refine XCl.V (iv_J30_56 rfl (m_Binv hC a) (rc_o ho rfl) rfl rfl rfl (hr_ok (by omega)) (hf_ok (by omega) (by omega)) dJ30_get_32) fun M9 h9 => ?_
  subst h9
  refine x_iload_n (i := 1) rfl rfl dJ30_get_35 ?_
  refine XCl.I (iv_J30_52 rfl (m_Bidx k (by omega)) rfl rfl rfl (hr_ok (by omega)) (hf_ok (by omega) (by omega)) dJ30_get_36) fun r M9 h1 => ?_
  obtain ⟨rfl, rfl⟩ := h1
  refine x_istore_n (i := 2) rfl (by decide) dJ30_get_39 ?_
  refine x_iload_n (i := 2) rfl rfl dJ30_get_40 ?_
  refine x_aload_n (i := 0) rfl rfl dJ30_get_41 ?_
  refine gf_J30_7 rfl (by assumption) rfl dJ30_get_42 ?_
  refine x_icmp_ge (tgt := 67) (by omega) (by omega) dJ30_get_45 (by decide) (fun h1 => ?_) (fun h1 => ?_)
  · refine x_iconst dJ30_get_67 ?_
    refine x_zret rfl (by omega) dJ30_get_68 ⟨by omega, by omega⟩ ?_
    refine ⟨_, rfl, ?_, rfl⟩
    rw [show b = 0 by omega, Nat.zero_testBit]
    rfl
  · refine x_aload_n (i := 0) rfl rfl dJ30_get_48 ?_
    refine gf_J30_11 rfl (by assumption) rfl dJ30_get_49 ?_
    refine x_iload_n (i := 2) rfl rfl dJ30_get_52 ?_
    refine x_lald (0) (by assumption) (by omega) (by omega) dJ30_get_53 ?_
    rw [hf]
    refine x_lconst (a := 1) rfl dJ30_get_54 ?_
    refine x_iload_n (i := 1) rfl rfl dJ30_get_55 ?_
    refine x_lshl (v := ((1 <<< k : Nat) : Int)) (n_lshl 1 k (by omega)) dJ30_get_56 ?_
    refine x_land (v := ((b &&& (1 <<< k) : Nat) : Int)) (n_land b _) dJ30_get_57 ?_
    refine x_lconst (a := 0) rfl dJ30_get_58 ?_
    have hle := Nat.and_le_left (n := b) (m := 1 <<< k)
    refine x_lcmp (by omega) (by omega) dJ30_get_59 fun c hc => ?_
    rcases bit_and b k with ⟨h2, h3⟩ | ⟨h2, h3⟩
    · refine x_if_eq (tgt := 67) (by omega) dJ30_get_60 (by decide) (fun _ => ?_) (fun z => absurd z (by omega))
      refine x_iconst dJ30_get_67 ?_
      refine x_zret rfl (by omega) dJ30_get_68 ⟨by omega, by omega⟩ ?_
      exact ⟨_, rfl, by rw [h3]; rfl, rfl⟩
    · refine x_if_eq (tgt := 67) (by omega) dJ30_get_60 (by decide) (fun z => absurd z (by omega)) (fun _ => ?_)
      refine x_iconst dJ30_get_63 ?_
      refine x_goto (tgt := 68) dJ30_get_64 (by decide) ?_
      refine x_zret rfl (by omega) dJ30_get_68 ⟨by omega, by omega⟩ ?_
      exact ⟨_, rfl, by rw [h3]; rfl, rfl⟩
theorem m_Binter (a w b a2 w2 b2 : Nat) (h : Bs M a w b) (h2 : Bs M a2 w2 b2) :
    Ct G wJ30_intersects [aR (some a), aR (some a2)] M 2 0 0 (kI fun r M' => r = (if b &&& b2 = 0 then 0 else 1) ∧ M = M') := by
  refine Ct.mk rfl rfl (Nat.le_of_ble_eq_true rfl) ?_
  obtain ⟨u, ho, hu, hb, f, hw, hf⟩ := h
  obtain ⟨u2, ho2, hu2, hb2, f2, hw2, hf2⟩ := h2
  refine x_aload_n (i := 0) rfl rfl dJ30_intersects_0 ?_
  refine gf_J30_7 rfl (by assumption) rfl dJ30_intersects_1 ?_
  refine x_aload_n (i := 1) rfl rfl dJ30_intersects_4 ?_
  refine gf_J30_7 rfl (by assumption) rfl dJ30_intersects_5 ?_
  refine x_mmin q1175 (by omega) (by omega) rfl ⟨Nat.le_of_ble_eq_true rfl, Nat.le_of_ble_eq_true rfl⟩ (hf_ok (by omega) (by omega)) dJ30_intersects_8 ?_
  refine x_iconst dJ30_intersects_11 ?_
  refine x_isub dJ30_intersects_12 ?_
  refine x_istore_n (i := 2) rfl (by decide) dJ30_intersects_13 ?_
  refine x_iload_n (i := 2) rfl rfl dJ30_intersects_14 ?_
  refine x_if_lt (tgt := 44) (by omega) dJ30_intersects_15 (by decide) (fun h1 => ?_) (fun h1 => ?_)
  · refine x_iconst dJ30_intersects_44 ?_
    refine x_zret rfl (by omega) dJ30_intersects_45 ⟨by omega, by omega⟩ ?_
    refine ⟨_, rfl, ?_, rfl⟩
    have h3 : b = 0 ∨ b2 = 0 := by omega
    rcases h3 with h3 | h3 <;> simp [h3]
  · have hm : min u u2 = 1 := by omega
    refine x_aload_n (i := 0) rfl rfl dJ30_intersects_18 ?_
    refine gf_J30_11 rfl (by assumption) rfl dJ30_intersects_19 ?_
    refine x_iload_n (i := 2) rfl rfl dJ30_intersects_22 ?_
    refine x_lald (0) (by assumption) (by omega) (by omega) dJ30_intersects_23 ?_
    rw [hf]
    refine x_aload_n (i := 1) rfl rfl dJ30_intersects_24 ?_
    refine gf_J30_11 rfl (by assumption) rfl dJ30_intersects_25 ?_
    refine x_iload_n (i := 2) rfl rfl dJ30_intersects_28 ?_
    refine x_lald (0) (by assumption) (by omega) (by omega) dJ30_intersects_29 ?_
    rw [hf2]
    refine x_land (v := ((b &&& b2 : Nat) : Int)) (n_land b _) dJ30_intersects_30 ?_
    refine x_lconst (a := 0) rfl dJ30_intersects_31 ?_
    have hle := Nat.and_le_left (n := b) (m := b2)
    refine x_lcmp (by omega) (by omega) dJ30_intersects_32 fun c hc => ?_
    refine x_if_eq (tgt := 38) (by omega) dJ30_intersects_33 (by decide) (fun h4 => ?_) (fun h4 => ?_)
    · refine x_iinc (i := 2) rfl (by decide) dJ30_intersects_38 ?_
      refine x_goto (tgt := 14) dJ30_intersects_41 (by decide) ?_
      refine x_iload_n (i := 2) rfl rfl dJ30_intersects_14 ?_
      refine x_if_lt (tgt := 44) (by omega) dJ30_intersects_15 (by decide) (fun _ => ?_) (fun z => absurd z (by omega))
      refine x_iconst dJ30_intersects_44 ?_
      refine x_zret rfl (by omega) dJ30_intersects_45 ⟨by omega, by omega⟩ ?_
      exact ⟨_, rfl, by rw [if_pos (by omega)], rfl⟩
    · refine x_iconst dJ30_intersects_36 ?_
      refine x_zret rfl (by omega) dJ30_intersects_37 ⟨by omega, by omega⟩ ?_
      exact ⟨_, rfl, by rw [if_neg (by omega)], rfl⟩
end JN
