/-! JDK leaves: Math, Objects, Arrays.copyOf, ArraysSupport.newLength -/
set_option maxRecDepth 100000
section JB
variable {G : GG} {M : Mem}
theorem m_pcheck (i n : Int) (r : Option Nat) (h0 : 0 ≤ i) (h : i < n) (hn : n < 2147483648) : Ct G wJ16_checkIndex [aI i, aI n, aR r] M 1 0 0 (kI fun r M' => r = i ∧ M = M') := by
  refine Ct.mk rfl rfl (Nat.le_of_ble_eq_true rfl) ?_
  refine x_iload_n (i := 0) rfl rfl dJ16_checkIndex_0 ?_
  refine x_if_lt (tgt := 9) (by omega) dJ16_checkIndex_1 (by decide) (fun z => absurd z (by omega)) (fun _ => ?_)
  refine x_iload_n (i := 0) rfl rfl dJ16_checkIndex_4 ?_
  refine x_iload_n (i := 1) rfl rfl dJ16_checkIndex_5 ?_
  refine x_icmp_lt (tgt := 16) (by omega) (by omega) dJ16_checkIndex_6 (by decide) (fun _ => ?_) (fun z => absurd z (by omega))
  refine x_iload_n (i := 0) rfl rfl dJ16_checkIndex_16 ?_
  refine x_iret rfl dJ16_checkIndex_17 ⟨by omega, by omega⟩ ?_
  exact ⟨_, rfl, rfl, rfl⟩
theorem m_check (i n : Int) (h0 : 0 ≤ i) (h : i < n) (hn : n < 2147483648) : Ct G wJ15_checkIndex [aI i, aI n] M 2 0 0 (kI fun r M' => r = i ∧ M = M') := by
  refine Ct.mk rfl rfl (Nat.le_of_ble_eq_true rfl) ?_
  refine x_iload_n (i := 0) rfl rfl dJ15_checkIndex_0 ?_
  refine x_iload_n (i := 1) rfl rfl dJ15_checkIndex_1 ?_
  refine x_null dJ15_checkIndex_2 ?_
  refine XCl.I (iv_J15_105 rfl (m_pcheck i n none h0 h hn) rfl rfl rfl (hr_ok (by omega)) (hf_ok (by omega) (by omega)) dJ15_checkIndex_3) fun r M' h => ?_
  obtain ⟨rfl, rfl⟩ := h
  refine x_iret rfl dJ15_checkIndex_6 ⟨by omega, by omega⟩ ?_
  exact ⟨_, rfl, rfl, rfl⟩
theorem m_newLen (o g p : Int) (ho : 0 ≤ o ∧ o < 1000000) (hg : 0 < g ∧ g < 1000000) (hp : 0 ≤ p ∧ p < 1000000) : Ct G wJ9_newLength [aI o, aI g, aI p] M 2 0 0 (kI fun r M' => r = o + max g p ∧ M = M') := by
  refine Ct.mk rfl rfl (Nat.le_of_ble_eq_true rfl) ?_
  refine x_iload_n (i := 0) rfl rfl dJ9_newLength_0 ?_
  refine x_iload_n (i := 1) rfl rfl dJ9_newLength_1 ?_
  refine x_iload_n (i := 2) rfl rfl dJ9_newLength_2 ?_
  refine x_mmax q255 (by omega) (by omega) rfl ⟨Nat.le_of_ble_eq_true rfl, Nat.le_of_ble_eq_true rfl⟩ (hf_ok (by omega) (by omega)) dJ9_newLength_3 ?_
  refine x_iadd dJ9_newLength_6 ?_
  refine x_istore_n (i := 3) rfl (by decide) dJ9_newLength_7 ?_
  refine x_iconst dJ9_newLength_8 ?_
  refine x_iload_n (i := 3) rfl rfl dJ9_newLength_9 ?_
  refine x_icmp_ge (tgt := 21) (by omega) (by omega) dJ9_newLength_10 (by decide) (fun z => absurd z (by omega)) (fun _ => ?_)
  refine x_iload_n (i := 3) rfl rfl dJ9_newLength_13 ?_
  refine x_ldcI (v := 2147483639) q258 rfl dJ9_newLength_14 ?_
  refine x_icmp_gt (tgt := 21) (by omega) (by omega) dJ9_newLength_16 (by decide) (fun z => absurd z (by omega)) (fun _ => ?_)
  refine x_iload_n (i := 3) rfl rfl dJ9_newLength_19 ?_
  refine x_iret rfl dJ9_newLength_20 ⟨by omega, by omega⟩ ?_
  exact ⟨_, rfl, rfl, rfl⟩
end JB
