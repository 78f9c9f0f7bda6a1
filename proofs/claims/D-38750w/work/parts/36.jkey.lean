/-! Integers (all of the cache), keys of a TreeMap, compareTo called by the interface -/
set_option maxRecDepth 100000
section JN
variable {G : GG} {M : Mem}
/-- the cache of Integers: 0 .. 255 are its members, 256 the array -/
def gConI (G : GG) : Prop := gZ G "java/lang/Integer$IntegerCache" "high" "I" (aI 127) ∧ gZ G "java/lang/Integer$IntegerCache" "cache" "[Ljava/lang/Integer;" (aR (some (gK G 256))) ∧ gT G (.object "java/lang/Integer") (gK G 256) 256 (fun j => aR (some (gK G j))) ∧ ∀ i, i < 256 → gO G "java/lang/Integer" (gK G i) ∧ gF G "java/lang/Integer" "value" "I" (gK G i) (aI ((i : Int) - 128))
/-- the Integer of v -/
def gN (G : GG) (v : Nat) : Nat := gK G (128 + v)
theorem gN_o (h : gConI G) {v : Nat} (hv : v < 128) : gO G "java/lang/Integer" (gN G v) := (h.2.2.2 (128 + v) (by omega)).1
theorem gN_f (h : gConI G) {v : Nat} (hv : v < 128) : gF G "java/lang/Integer" "value" "I" (gN G v) (aI (v : Int)) := by
  have := (h.2.2.2 (128 + v) (by omega)).2
  rwa [show ((128 + v : Nat) : Int) - 128 = (v : Int) by omega] at this
theorem m_Nof (h : gConI G) (v : Nat) (hv : v < 128) :
    Ct G wJ18_valueOf [aI (v : Int)] M 1 0 0 (kR fun r M' => r = some (gN G v) ∧ M = M') := by
  refine Ct.mk rfl rfl (Nat.le_of_ble_eq_true rfl) ?_
  refine x_iload_n (i := 0) rfl rfl dJ18_valueOf_0 ?_
  refine x_bipush (a := -128) rfl dJ18_valueOf_1 ?_
  refine x_icmp_lt (tgt := 23) (by omega) (by omega) dJ18_valueOf_3 (by decide) (fun z => absurd z (by omega)) (fun _ => ?_)
  refine x_iload_n (i := 0) rfl rfl dJ18_valueOf_6 ?_
  refine x_gets (h.1) q359 dJ18_valueOf_7 ?_
  refine x_icmp_gt (tgt := 23) (by omega) (by omega) dJ18_valueOf_10 (by decide) (fun z => absurd z (by omega)) (fun _ => ?_)
  refine x_gets (h.2.1) q361 dJ18_valueOf_13 ?_
  refine x_iload_n (i := 0) rfl rfl dJ18_valueOf_16 ?_
  refine x_sipush (a := 128) rfl dJ18_valueOf_17 ?_
  refine x_iadd dJ18_valueOf_20 ?_
  refine x_aaldc (128 + v) (by omega) (by omega) h.2.2.1 dJ18_valueOf_21 ?_
  refine x_aret rfl (Or.inl ⟨_, rfl⟩) dJ18_valueOf_22 ⟨by omega, by omega⟩ ?_
  exact ⟨_, rfl, rfl, rfl⟩
theorem m_Nval (h : gConI G) (v : Nat) (hv : v < 128) :
    Ct G wJ18_intValue [aR (some (gN G v))] M 1 0 0 (kI fun r M' => r = (v : Int) ∧ M = M') := by
  refine Ct.mk rfl rfl (Nat.le_of_ble_eq_true rfl) ?_
  refine x_aload_n (i := 0) rfl rfl dJ18_intValue_0 ?_
  refine x_getc (gN_f h hv) q372 dJ18_intValue_1 ?_
  refine x_iret rfl dJ18_intValue_4 ⟨by omega, by omega⟩ ?_
  exact ⟨_, rfl, rfl, rfl⟩
theorem m_Ncmp0 (a b : Nat) (ha : a < 128) (hb : b < 128) :
    Ct G wJ18_compare [aI (a : Int), aI (b : Int)] M 1 0 0 (kI fun r M' => cpA [a] [b] r ∧ M = M') := by
  refine Ct.mk rfl rfl (Nat.le_of_ble_eq_true rfl) ?_
  refine x_iload_n (i := 0) rfl rfl dJ18_compare_0 ?_
  refine x_iload_n (i := 1) rfl rfl dJ18_compare_1 ?_
  refine x_icmp_ge (tgt := 9) (by omega) (by omega) dJ18_compare_2 (by decide) (fun h1 => ?_) (fun h1 => ?_)
  · refine x_iload_n (i := 0) rfl rfl dJ18_compare_9 ?_
    refine x_iload_n (i := 1) rfl rfl dJ18_compare_10 ?_
    refine x_icmp_ne (tgt := 18) (by omega) (by omega) dJ18_compare_11 (by decide) (fun h2 => ?_) (fun h2 => ?_)
    · refine x_iconst dJ18_compare_18 ?_
      refine x_iret rfl dJ18_compare_19 ⟨by omega, by omega⟩ ?_
      exact ⟨_, rfl, Or.inr (Or.inr ⟨by omega, by rw [lx_c, if_neg (by omega), if_pos (by omega)]⟩), rfl⟩
    · refine x_iconst dJ18_compare_14 ?_
      refine x_goto (tgt := 19) dJ18_compare_15 (by decide) ?_
      refine x_iret rfl dJ18_compare_19 ⟨by omega, by omega⟩ ?_
      exact ⟨_, rfl, Or.inr (Or.inl ⟨rfl, by rw [lx_c, if_neg (by omega), if_neg (by omega)]; rfl⟩), rfl⟩
  · refine x_iconst dJ18_compare_5 ?_
    refine x_goto (tgt := 19) dJ18_compare_6 (by decide) ?_
    refine x_iret rfl dJ18_compare_19 ⟨by omega, by omega⟩ ?_
    exact ⟨_, rfl, Or.inl ⟨by omega, by rw [lx_c, if_pos (by omega)]⟩, rfl⟩
theorem m_Ncmp2 (h : gConI G) (a b : Nat) (ha : a < 128) (hb : b < 128) :
    Ct G wJ18_compareTo_2 [aR (some (gN G a)), aR (some (gN G b))] M 2 0 0 (kI fun r M' => cpA [a] [b] r ∧ M = M') := by
  refine Ct.mk rfl rfl (Nat.le_of_ble_eq_true rfl) ?_
  refine x_aload_n (i := 0) rfl rfl dJ18_compareTo_2_0 ?_
  refine x_getc (gN_f h ha) q372 dJ18_compareTo_2_1 ?_
  refine x_aload_n (i := 1) rfl rfl dJ18_compareTo_2_4 ?_
  refine x_getc (gN_f h hb) q372 dJ18_compareTo_2_5 ?_
  refine XCl.I (iv_J18_259 rfl (m_Ncmp0 a b ha hb) rfl rfl rfl (hr_ok (by omega)) (hf_ok (by omega) (by omega)) dJ18_compareTo_2_8) fun r M9 h9 => ?_
  obtain ⟨h9, rfl⟩ := h9
  refine x_iret rfl dJ18_compareTo_2_11 ⟨by omega, by omega⟩ ?_
  exact ⟨_, rfl, h9, rfl⟩
theorem m_Ncmp (h : gConI G) (a b : Nat) (ha : a < 128) (hb : b < 128) :
    Ct G wJ18_compareTo [aR (some (gN G a)), aR (some (gN G b))] M 3 0 0 (kI fun r M' => cpA [a] [b] r ∧ M = M') := by
  refine Ct.mk rfl rfl (Nat.le_of_ble_eq_true rfl) ?_
  refine x_aload_n (i := 0) rfl rfl dJ18_compareTo_0 ?_
  refine x_aload_n (i := 1) rfl rfl dJ18_compareTo_1 ?_
  refine x_castS (ci := 9) rfl q363 (rc_c (gN_o h hb)) dJ18_compareTo_2 ?_
  refine XCl.I (iv_J18_284 rfl (m_Ncmp2 h a b ha hb) (rc_c (gN_o h ha)) rfl rfl rfl (hr_ok (by omega)) (hf_ok (by omega) (by omega)) dJ18_compareTo_5) fun r M9 h9 => ?_
  obtain ⟨h9, rfl⟩ := h9
  refine x_iret rfl dJ18_compareTo_8 ⟨by omega, by omega⟩ ?_
  exact ⟨_, rfl, h9, rfl⟩
theorem m_Scmp1 (hM : gConM G) (v1 v2 : Nat) (l1 l2 : List Nat) (h1 : Yb M v1 l1.length (bt l1)) (h2 : Yb M v2 l2.length (bt l2)) :
    Ct G wJ19_compareTo [aR (some v1), aR (some v2)] M 6 0 0 (kI fun r M' => cpA l1 l2 r ∧ M = M') := by
  refine Ct.mk rfl rfl (Nat.le_of_ble_eq_true rfl) ?_
  obtain ⟨n1, b1, f1, g1, e1⟩ := id h1
  obtain ⟨n2, b2, f2, g2, e2⟩ := id h2
  refine x_aload_n (i := 0) rfl rfl dJ19_compareTo_0 ?_
  refine x_alen g1 (by decide) (by omega) dJ19_compareTo_1 ?_
  refine x_istore_n (i := 2) rfl (by decide) dJ19_compareTo_2 ?_
  refine x_aload_n (i := 1) rfl rfl dJ19_compareTo_3 ?_
  refine x_alen g2 (by decide) (by omega) dJ19_compareTo_4 ?_
  refine x_istore_n (i := 3) rfl (by decide) dJ19_compareTo_5 ?_
  refine x_aload_n (i := 0) rfl rfl dJ19_compareTo_6 ?_
  refine x_aload_n (i := 1) rfl rfl dJ19_compareTo_7 ?_
  refine x_iload_n (i := 2) rfl rfl dJ19_compareTo_8 ?_
  refine x_iload_n (i := 3) rfl rfl dJ19_compareTo_9 ?_
  refine XCl.I (iv_J19_34 rfl (m_SLcmp hM v1 v2 l1 l2 h1 h2) rfl rfl rfl (hr_ok (by omega)) (hf_ok (by omega) (by omega)) dJ19_compareTo_10) fun r M9 h9 => ?_
  obtain ⟨h9, rfl⟩ := h9
  refine x_iret rfl dJ19_compareTo_13 ⟨by omega, by omega⟩ ?_
  exact ⟨_, rfl, h9, rfl⟩
theorem m_Scmp2 (hC : gConS G) (hM : gConM G) (a1 a2 : Nat) (l1 l2 : List Nat) (h1 : StrN M a1 l1) (h2 : StrN M a2 l2) :
    Ct G wJ14_compareTo_2 [aR (some a1), aR (some a2)] M 7 0 0 (kI fun r M' => cpA l1 l2 r ∧ M = M') := by
  refine Ct.mk rfl rfl (Nat.le_of_ble_eq_true rfl) ?_
  have s1 : Str G M a1 l1 := Or.inl h1
  have s2 : Str G M a2 l2 := Or.inl h2
  obtain ⟨v1, x1, y1, g1, e1⟩ := h1
  obtain ⟨v2, x2, y2, g2, e2⟩ := h2
  refine x_aload_n (i := 0) rfl rfl dJ14_compareTo_2_0 ?_
  refine gf_J14_9 rfl g1 rfl dJ14_compareTo_2_1 ?_
  refine x_astore_n (i := 2) rfl (by decide) dJ14_compareTo_2_4 ?_
  refine x_aload_n (i := 1) rfl rfl dJ14_compareTo_2_5 ?_
  refine gf_J14_9 rfl g2 rfl dJ14_compareTo_2_6 ?_
  refine x_astore_n (i := 3) rfl (by decide) dJ14_compareTo_2_9 ?_
  refine x_aload_n (i := 0) rfl rfl dJ14_compareTo_2_10 ?_
  refine XCl.I (iv_J14_335 rfl (m_Scoder hC a1 l1 s1) (s1.rc) rfl rfl rfl (hr_ok (by omega)) (hf_ok (by omega) (by omega)) dJ14_compareTo_2_11) fun r M9 h9 => ?_
  obtain ⟨rfl, rfl⟩ := h9
  refine x_istore (i := 4) (by decide) dJ14_compareTo_2_14 ?_
  refine x_iload (i := 4) rfl dJ14_compareTo_2_16 ?_
  refine x_aload_n (i := 1) rfl rfl dJ14_compareTo_2_18 ?_
  refine XCl.I (iv_J14_335 rfl (m_Scoder hC a2 l2 s2) (s2.rc) rfl rfl rfl (hr_ok (by omega)) (hf_ok (by omega) (by omega)) dJ14_compareTo_2_19) fun r M9 h9 => ?_
  obtain ⟨rfl, rfl⟩ := h9
  refine x_icmp_ne (tgt := 44) (by omega) (by omega) dJ14_compareTo_2_22 (by decide) (fun z => absurd z (by omega)) (fun _ => ?_)
  refine x_iload (i := 4) rfl dJ14_compareTo_2_25 ?_
  refine x_if_ne (tgt := 38) (by omega) dJ14_compareTo_2_27 (by decide) (fun z => absurd z (by omega)) (fun _ => ?_)
  refine x_aload_n (i := 2) rfl rfl dJ14_compareTo_2_30 ?_
  refine x_aload_n (i := 3) rfl rfl dJ14_compareTo_2_31 ?_
  refine XCl.I (iv_J14_586 rfl (m_Scmp1 hM v1 v2 l1 l2 e1 e2) rfl rfl rfl (hr_ok (by omega)) (hf_ok (by omega) (by omega)) dJ14_compareTo_2_32) fun r M9 h9 => ?_
  obtain ⟨h9, rfl⟩ := h9
  refine x_goto (tgt := 43) dJ14_compareTo_2_35 (by decide) ?_
  refine x_iret rfl dJ14_compareTo_2_43 ⟨by omega, by omega⟩ ?_
  exact ⟨_, rfl, h9, rfl⟩
theorem m_Scmp (hC : gConS G) (hM : gConM G) (a1 a2 : Nat) (l1 l2 : List Nat) (h1 : StrN M a1 l1) (h2 : StrN M a2 l2) :
    Ct G wJ14_compareTo [aR (some a1), aR (some a2)] M 8 0 0 (kI fun r M' => cpA l1 l2 r ∧ M = M') := by
  refine Ct.mk rfl rfl (Nat.le_of_ble_eq_true rfl) ?_
  have s1 : Str G M a1 l1 := Or.inl h1
  have s2 : Str G M a2 l2 := Or.inl h2
  refine x_aload_n (i := 0) rfl rfl dJ14_compareTo_0 ?_
  refine x_aload_n (i := 1) rfl rfl dJ14_compareTo_1 ?_
  refine x_castS (ci := 8) rfl q419 s2.rc dJ14_compareTo_2 ?_
  refine XCl.I (iv_J14_1084 rfl (m_Scmp2 hC hM a1 a2 l1 l2 h1 h2) (s1.rc) rfl rfl rfl (hr_ok (by omega)) (hf_ok (by omega) (by omega)) dJ14_compareTo_5) fun r M9 h9 => ?_
  obtain ⟨h9, rfl⟩ := h9
  refine x_iret rfl dJ14_compareTo_8 ⟨by omega, by omega⟩ ?_
  exact ⟨_, rfl, h9, rfl⟩
/-- a key of a TreeMap: an Integer of the cache (its order that of [v]), or a new String -/
def Ky (G : GG) (M : Mem) (i : Bool) (k : Nat) (x : List Nat) : Prop := if i then (∃ v, v < 128 ∧ x = [v] ∧ k = gN G v) else StrN M k x
def gConK (G : GG) : Prop := gConI G ∧ gConS G ∧ gConM G
theorem Ky.e {M M' : Mem} {i : Bool} {k : Nat} {x : List Nat} (h : Ky G M i k x) (q : mE M M') : Ky G M' i k x := by
  cases i
  · exact StrN.e h q
  · exact h
theorem Ky.rc (hC : gConK G) {i : Bool} {k : Nat} {x : List Nat} (h : Ky G M i k x) : RC G M k "java/lang/String" ∨ RC G M k "java/lang/Integer" := by
  cases i
  · obtain ⟨v, h1, z, h2, -⟩ := h
    exact Or.inl (rc_o h2 rfl)
  · obtain ⟨v, h1, -, rfl⟩ := h
    exact Or.inr (rc_c (gN_o hC.1 h1))
/-- a key cast to Comparable -/
theorem x_castK {w : MI} {R : Room} {E : XE} {cn sn pc : Nat} {L : List (Option AV)} {st : List AV} (hw : (wy w).cls = RJ4) (hC : gConK G) {i : Bool} {k : Nat} {x : List Nat} (h : Ky G M i k x) (hd : decode (wc w) pc = .ok (.checkcast 99, 3)) (kk : X G w R E cn sn (pc + 3) L (aR (some k) :: st) M) : X G w R E cn sn pc L (aR (some k) :: st) M := by
  rcases h.rc hC with h1 | h1
  · exact x_castC (C := "java/lang/String") (nm := "java/lang/Comparable") q413 (by rw [hw]; exact q395) h1 hd kk
  · exact x_castC (C := "java/lang/Integer") (nm := "java/lang/Comparable") q400 (by rw [hw]; exact q395) h1 hd kk
/-- compareTo by the interface -/
theorem x_cmpK {w : MI} {R : Room} {E : XE} {cn sn pc : Nat} {L : List (Option AV)} {st : List AV} (hw : (wy w).cls = RJ4) (hC : gConK G) {i : Bool} {k k2 : Nat} {x x2 : List Nat} (h : Ky G M i k x) (h2 : Ky G M i k2 x2) (hst : Nat.ble (st.map aCt).sum 8 = true) (hR : 9 ≤ R.frames ∧ 640 ≤ R.locals) (hf : cn ≤ R.cells ∧ sn ≤ R.slots) (hd : decode (wc w) pc = .ok (.invokeinterface 107 2, 5))
    (kk : ∀ r : Int, cpA x x2 r → X G w R E cn sn (pc + 5) L (aI r :: st) M) : X G w R E cn sn pc L (aR (some k2) :: aR (some k) :: st) M := by
  cases i
  · refine XCl.I (iv_J4_107_8 hw (m_Scmp hC.2.1 hC.2.2 k k2 x x2 h h2) (Str.rc (Or.inl h)) rfl rfl hst ⟨by omega, by omega⟩ ⟨by omega, by omega⟩ hd) fun r M9 h9 => ?_
    obtain ⟨h9, rfl⟩ := h9
    exact kk r h9
  · obtain ⟨v, v1, rfl, rfl⟩ := h
    obtain ⟨v2, v3, rfl, rfl⟩ := h2
    refine XCl.I (iv_J4_107_9 hw (m_Ncmp hC.1 v v2 v1 v3) (rc_c (gN_o hC.1 v1)) rfl rfl hst ⟨by omega, by omega⟩ ⟨by omega, by omega⟩ hd) fun r M9 h9 => ?_
    obtain ⟨h9, rfl⟩ := h9
    exact kk r h9
end JN
