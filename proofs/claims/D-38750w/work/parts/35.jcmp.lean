/-! String.equals, compareTo; Integer.compareTo; keys -/
set_option maxRecDepth 100000
section JN
variable {G : GG} {M : Mem}
theorem m_Seq (hC : gConS G) (a1 a2 : Nat) (l1 l2 : List Nat) (h1 : Str G M a1 l1) (h2 : Str G M a2 l2) (hs : a1 = a2 → l1 = l2) :
    Ct G wJ14_equals [aR (some a1), aR (some a2)] M 2 0 0 (kI fun r M' => r = (if l1 = l2 then 1 else 0) ∧ M = M') := by
  refine Ct.mk rfl rfl (Nat.le_of_ble_eq_true rfl) ?_
  have k1 := h1.lt
  have k2 := h2.lt
  refine x_aload_n (i := 0) rfl rfl dJ14_equals_0 ?_
  refine x_aload_n (i := 1) rfl rfl dJ14_equals_1 ?_
  refine x_acmp_ne (tgt := 7) dJ14_equals_2 (by decide) (fun hx => ?_) (fun hx => ?_)
  · refine x_aload_n (i := 1) rfl rfl dJ14_equals_7 ?_
    refine x_instS (ci := 8) rfl q419 h2.rc dJ14_equals_8 ?_
    refine x_if_eq (tgt := 54) (by omega) dJ14_equals_11 (by decide) (fun z => absurd z (by omega)) (fun _ => ?_)
    refine x_aload_n (i := 1) rfl rfl dJ14_equals_14 ?_
    refine x_castS (ci := 8) rfl q419 h2.rc dJ14_equals_15 ?_
    refine x_astore_n (i := 2) rfl (by decide) dJ14_equals_18 ?_
    refine x_gets (hC) q428 dJ14_equals_19 ?_
    refine x_if_eq (tgt := 36) (by omega) dJ14_equals_22 (by decide) (fun z => absurd z (by omega)) (fun _ => ?_)
    refine x_aload_n (i := 0) rfl rfl dJ14_equals_25 ?_
    refine x_Scod rfl h1 dJ14_equals_26 ?_
    refine x_aload_n (i := 2) rfl rfl dJ14_equals_29 ?_
    refine x_Scod rfl h2 dJ14_equals_30 ?_
    refine x_icmp_ne (tgt := 54) (by omega) (by omega) dJ14_equals_33 (by decide) (fun z => absurd z (by omega)) (fun _ => ?_)
    refine x_aload_n (i := 0) rfl rfl dJ14_equals_36 ?_
    refine x_Sval rfl h1 dJ14_equals_37 fun v1 hv1 => ?_
    refine x_aload_n (i := 2) rfl rfl dJ14_equals_40 ?_
    refine x_Sval rfl h2 dJ14_equals_41 fun v2 hv2 => ?_
    refine XCl.I (iv_J14_541 rfl (m_SLeq v1 v2 l1 l2 hv1 hv2 ⟨k1.1, k2.1⟩ ⟨k1.2, k2.2⟩) rfl rfl rfl (hr_ok (by omega)) (hf_ok (by omega) (by omega)) dJ14_equals_44) fun r M9 h9 => ?_
    obtain ⟨rfl, rfl⟩ := h9
    by_cases he : l1 = l2
    · rw [if_pos he]
      refine x_if_eq (tgt := 54) (by omega) dJ14_equals_47 (by decide) (fun z => absurd z (by omega)) (fun _ => ?_)
      refine x_iconst dJ14_equals_50 ?_
      refine x_goto (tgt := 55) dJ14_equals_51 (by decide) ?_
      refine x_zret rfl (by omega) dJ14_equals_55 ⟨by omega, by omega⟩ ?_
      exact ⟨_, rfl, rfl, rfl⟩
    · rw [if_neg he]
      refine x_if_eq (tgt := 54) (by omega) dJ14_equals_47 (by decide) (fun _ => ?_) (fun z => absurd z (by omega))
      refine x_iconst dJ14_equals_54 ?_
      refine x_zret rfl (by omega) dJ14_equals_55 ⟨by omega, by omega⟩ ?_
      exact ⟨_, rfl, rfl, rfl⟩
  · refine x_iconst dJ14_equals_5 ?_
    refine x_zret rfl (by omega) dJ14_equals_6 ⟨by omega, by omega⟩ ?_
    refine ⟨_, rfl, ?_, rfl⟩
    rw [if_pos (hs (by simpa using hx))]
/-- the order of texts, by their bytes -/
def lx : List Nat → List Nat → Int
  | [], [] => 0
  | [], _ :: _ => -1
  | _ :: _, [] => 1
  | a :: s, b :: t => if a < b then -1 else if b < a then 1 else lx s t
theorem lx_c (a b : Nat) (s t : List Nat) : lx (a :: s) (b :: t) = if a < b then -1 else if b < a then 1 else lx s t := rfl
theorem lx_0 {s t : List Nat} : lx s t = 0 ↔ s = t := by
  induction s generalizing t with
  | nil => cases t <;> simp [lx]
  | cons a s ih =>
    cases t with
    | nil => simp [lx]
    | cons b t =>
      rw [lx_c]
      by_cases h1 : a < b
      · rw [if_pos h1]
        constructor
        · intro h; omega
        · intro h; injection h with h2; omega
      · rw [if_neg h1]
        by_cases h2 : b < a
        · rw [if_pos h2]
          constructor
          · intro h; omega
          · intro h; injection h with h3; omega
        · rw [if_neg h2, ih]
          constructor
          · intro h; rw [h, show a = b by omega]
          · intro h; injection h
theorem lx_3 (s t : List Nat) : lx s t = -1 ∨ lx s t = 0 ∨ lx s t = 1 := by
  induction s generalizing t with
  | nil => cases t <;> simp [lx]
  | cons a s ih =>
    cases t with
    | nil => simp [lx]
    | cons b t =>
      rw [lx_c]
      split
      · exact Or.inl rfl
      · split
        · exact Or.inr (Or.inr rfl)
        · exact ih t
theorem lx_neg (s t : List Nat) : lx t s = - lx s t := by
  induction s generalizing t with
  | nil => cases t <;> simp [lx]
  | cons a s ih =>
    cases t with
    | nil => simp [lx]
    | cons b t =>
      rw [lx_c, lx_c, ih]
      split <;> split <;> first | rfl | omega
theorem lx_tr {s t u : List Nat} (h1 : lx s t = -1) (h2 : lx t u = -1) : lx s u = -1 := by
  induction s generalizing t u with
  | nil =>
    cases t with
    | nil => simp [lx] at h1
    | cons b t =>
      cases u with
      | nil => simp [lx] at h2
      | cons c u => rfl
  | cons a s ih =>
    cases t with
    | nil => simp [lx] at h1
    | cons b t =>
      cases u with
      | nil => simp [lx] at h2
      | cons c u =>
        rw [lx_c] at h1 h2 ⊢
        by_cases q1 : a < b
        · by_cases q2 : b < c
          · rw [if_pos (by omega)]
          · rw [if_neg q2] at h2
            by_cases q3 : c < b
            · rw [if_pos q3] at h2; omega
            · rw [if_pos (by omega)]
        · rw [if_neg q1] at h1
          by_cases q4 : b < a
          · rw [if_pos q4] at h1; omega
          · rw [if_neg q4] at h1
            by_cases q2 : b < c
            · rw [if_pos (by omega)]
            · rw [if_neg q2] at h2
              by_cases q3 : c < b
              · rw [if_pos q3] at h2; omega
              · rw [if_neg q3] at h2
                rw [if_neg (by omega), if_neg (by omega)]
                exact ih h1 h2
/-- an answer of compareTo -/
def cpA (s t : List Nat) (r : Int) : Prop := ((-1000000 ≤ r ∧ r < 0) ∧ lx s t = -1) ∨ (r = 0 ∧ lx s t = 0) ∨ ((0 < r ∧ r ≤ 1000000) ∧ lx s t = 1)
/-- the order by the first place at which two texts differ -/
theorem lx_at (s t : List Nat) (j : Nat) (h : ∀ i, i < j → bt s i = bt t i) (h1 : j < s.length) (h2 : j < t.length) (hne : bt s j ≠ bt t j) : lx s t = if bt s j < bt t j then -1 else 1 := by
  induction j generalizing s t with
  | zero =>
    cases s with
    | nil => simp at h1
    | cons a s =>
      cases t with
      | nil => simp at h2
      | cons b t =>
        have e1 : bt (a :: s) 0 = a := rfl
        have e2 : bt (b :: t) 0 = b := rfl
        rw [lx_c, e1, e2]
        rw [e1, e2] at hne
        by_cases q : a < b
        · rw [if_pos q, if_pos q]
        · rw [if_neg q, if_neg q, if_pos (by omega)]
  | succ j ih =>
    cases s with
    | nil => simp at h1
    | cons a s =>
      cases t with
      | nil => simp at h2
      | cons b t =>
        have e1 : bt (a :: s) 0 = a := rfl
        have e2 : bt (b :: t) 0 = b := rfl
        have h0 := h 0 (by omega)
        rw [e1, e2] at h0
        rw [lx_c, if_neg (by omega), if_neg (by omega)]
        refine ih s t (fun i hi => h (i + 1) (by omega)) (by simpa using h1) (by simpa using h2) hne
theorem lx_pre (s t : List Nat) (h : ∀ i, i < s.length → i < t.length → bt s i = bt t i) : lx s t = if s.length < t.length then -1 else if t.length < s.length then 1 else 0 := by
  induction s generalizing t with
  | nil => cases t <;> simp [lx]
  | cons a s ih =>
    cases t with
    | nil => simp [lx]
    | cons b t =>
      have e1 : bt (a :: s) 0 = a := rfl
      have e2 : bt (b :: t) 0 = b := rfl
      have h0 := h 0 (by simp) (by simp)
      rw [e1, e2] at h0
      rw [lx_c, if_neg (by omega), if_neg (by omega), ih t (fun i h1 h2 => h (i + 1) (by simpa using h1) (by simpa using h2))]
      simp only [List.length_cons, Nat.add_lt_add_iff_right]
theorem m_getChar (v n i b : Nat) (f : Nat → Int) (hv : rY G M v n f) (hi : i < n ∧ n < 1000000) (hf : f i = (b : Int)) (hb : b < 128) :
    Ct G wJ19_getChar [aR (some v), aI (i : Int)] M 1 0 0 (kI fun r M' => r = (b : Int) ∧ M = M') := by
  refine Ct.mk rfl rfl (Nat.le_of_ble_eq_true rfl) ?_
  refine x_aload_n (i := 0) rfl rfl dJ19_getChar_0 ?_
  refine x_iload_n (i := 1) rfl rfl dJ19_getChar_1 ?_
  refine x_baldR i rfl (by omega) hv dJ19_getChar_2 ?_
  rw [hf]
  refine x_sipush (a := 255) rfl dJ19_getChar_3 ?_
  have e : b &&& 255 = b := by
    rw [show (255 : Nat) = 2 ^ 8 - 1 from rfl, Nat.and_two_pow_sub_one_eq_mod]
    omega
  refine x_iand (v := ((b : Nat) : Int)) ((n_iand b 255).trans (by rw [e])) dJ19_getChar_6 ?_
  refine x_i2c b hb dJ19_getChar_7 ?_
  refine x_cret b hb rfl dJ19_getChar_8 ⟨by omega, by omega⟩ ?_
  exact ⟨_, rfl, rfl, rfl⟩
theorem m_SLcmp (hM : gConM G) (v1 v2 : Nat) (l1 l2 : List Nat) (h1 : Yb M v1 l1.length (bt l1)) (h2 : Yb M v2 l2.length (bt l2)) :
    Ct G wJ19_compareTo_2 [aR (some v1), aR (some v2), aI (l1.length : Int), aI (l2.length : Int)] M 5 0 0 (kI fun r M' => cpA l1 l2 r ∧ M = M') := by
  refine Ct.mk rfl rfl (Nat.le_of_ble_eq_true rfl) ?_
  obtain ⟨n1, b1, f1, g1, e1⟩ := id h1
  obtain ⟨n2, b2, f2, g2, e2⟩ := id h2
  refine x_iload_n (i := 2) rfl rfl dJ19_compareTo_2_0 ?_
  refine x_iload_n (i := 3) rfl rfl dJ19_compareTo_2_1 ?_
  refine x_mmin q436 (by omega) (by omega) rfl ⟨Nat.le_of_ble_eq_true rfl, Nat.le_of_ble_eq_true rfl⟩ (hf_ok (by omega) (by omega)) dJ19_compareTo_2_2 ?_
  rw [show min (l1.length : Int) (l2.length : Int) = ((min l1.length l2.length : Nat) : Int) by omega]
  refine x_istore (i := 4) (by decide) dJ19_compareTo_2_5 ?_
  refine x_aload_n (i := 0) rfl rfl dJ19_compareTo_2_7 ?_
  refine x_aload_n (i := 1) rfl rfl dJ19_compareTo_2_8 ?_
  refine x_iload (i := 4) rfl dJ19_compareTo_2_9 ?_
  refine XCl.I (iv_J19_44 rfl (m_mism hM v1 l1.length (bt l1) v2 l2.length (bt l2) (min l1.length l2.length) h1 h2 (by omega)) rfl rfl rfl (hr_ok (by omega)) (hf_ok (by omega) (by omega)) dJ19_compareTo_2_11) fun r M9 h9 => ?_
  obtain ⟨hr, rfl⟩ := h9
  rcases hr with ⟨rfl, hr⟩ | ⟨j, j1, rfl, j3, j4⟩
  · refine x_istore (i := 5) (by decide) dJ19_compareTo_2_14 ?_
    refine x_iload (i := 5) rfl dJ19_compareTo_2_16 ?_
    refine x_if_ge (tgt := 27) (by omega) dJ19_compareTo_2_18 (by decide) (fun z => absurd z (by omega)) (fun _ => ?_)
    refine x_iload_n (i := 2) rfl rfl dJ19_compareTo_2_21 ?_
    refine x_iload_n (i := 3) rfl rfl dJ19_compareTo_2_22 ?_
    refine x_isub dJ19_compareTo_2_23 ?_
    refine x_goto (tgt := 40) dJ19_compareTo_2_24 (by decide) ?_
    refine x_iret rfl dJ19_compareTo_2_40 ⟨by omega, by omega⟩ ?_
    refine ⟨_, rfl, ?_, rfl⟩
    have := lx_pre l1 l2 (fun i h1 h2 => hr i (by omega))
    unfold cpA
    rw [this]
    split
    · exact Or.inl ⟨by omega, rfl⟩
    · split
      · exact Or.inr (Or.inr ⟨by omega, rfl⟩)
      · exact Or.inr (Or.inl ⟨by omega, rfl⟩)
  · have c1 := b1 j (by omega)
    have c2 := b2 j (by omega)
    refine x_istore (i := 5) (by decide) dJ19_compareTo_2_14 ?_
    refine x_iload (i := 5) rfl dJ19_compareTo_2_16 ?_
    refine x_if_ge (tgt := 27) (by omega) dJ19_compareTo_2_18 (by decide) (fun _ => ?_) (fun z => absurd z (by omega))
    refine x_aload_n (i := 0) rfl rfl dJ19_compareTo_2_27 ?_
    refine x_iload (i := 5) rfl dJ19_compareTo_2_28 ?_
    refine XCl.I (iv_J19_50 rfl (m_getChar v1 l1.length j (bt l1 j) f1 (Or.inl g1) (by omega) (e1 j (by omega)) c1) rfl rfl rfl (hr_ok (by omega)) (hf_ok (by omega) (by omega)) dJ19_compareTo_2_30) fun r M9 h9 => ?_
    obtain ⟨rfl, rfl⟩ := h9
    refine x_aload_n (i := 1) rfl rfl dJ19_compareTo_2_33 ?_
    refine x_iload (i := 5) rfl dJ19_compareTo_2_34 ?_
    refine XCl.I (iv_J19_50 rfl (m_getChar v2 l2.length j (bt l2 j) f2 (Or.inl g2) (by omega) (e2 j (by omega)) c2) rfl rfl rfl (hr_ok (by omega)) (hf_ok (by omega) (by omega)) dJ19_compareTo_2_36) fun r M9 h9 => ?_
    obtain ⟨rfl, rfl⟩ := h9
    refine x_isub dJ19_compareTo_2_39 ?_
    refine x_iret rfl dJ19_compareTo_2_40 ⟨by omega, by omega⟩ ?_
    refine ⟨_, rfl, ?_, rfl⟩
    have := lx_at l1 l2 j j4 (by omega) (by omega) j3
    unfold cpA
    rw [this]
    split
    · exact Or.inl ⟨by omega, rfl⟩
    · exact Or.inr (Or.inr ⟨by omega, rfl⟩)
end JN
