/-! java.util.ArrayList: remove, clear, set; its iterator -/
set_option maxRecDepth 100000
section JN
variable {G : GG} {M : Mem}
/-- two known cells that differ lie apart -/
theorem mG_ne {M : Mem} {a b : Nat} {x y : ACl} (ha : mG M a = some x) (hb : mG M b = some y) (h : x ≠ y) : a ≠ b := by
  intro z
  subst z
  rw [ha] at hb
  exact h (Option.some.inj hb)
theorem m_Lset (a d e : Nat) (mod : Int) (xs : List Nat) (i x : Nat) (h : Ls G M a d mod xs) (hx : xs[i]? = some x) (he : El G M e) :
    Ct G wJ2_set [aR (some a), aI (i : Int), aR (some e)] M 4 0 0 (kR fun r M' => r = some x ∧ Ls G M' a d mod (xs.set i e) ∧ mF (LsC a d) M M') := by
  refine Ct.mk rfl rfl (Nat.le_of_ble_eq_true rfl) ?_
  have ho := h.obj
  have hi : i < xs.length := (List.getElem?_eq_some_iff.mp hx).1
  have hl := h.len
  refine x_iload_n (i := 1) rfl rfl dJ2_set_0 ?_
  refine x_aload_n (i := 0) rfl rfl dJ2_set_1 ?_
  refine gf_J2_48 rfl (by assumption) rfl dJ2_set_2 ?_
  refine XCl.I (iv_J2_118 rfl (m_check (i : Int) (xs.length : Int) (by omega) (by omega) (by omega)) rfl rfl rfl (hr_ok (by omega)) (hf_ok (by omega) (by omega)) dJ2_set_5) fun r M9 h1 => ?_
  obtain ⟨rfl, rfl⟩ := h1
  refine x_pop (aCt_ok _) dJ2_set_8 ?_
  refine x_aload_n (i := 0) rfl rfl dJ2_set_9 ?_
  refine x_iload_n (i := 1) rfl rfl dJ2_set_10 ?_
  refine XCl.A (iv_J2_123 rfl (m_Ldata a d mod xs i x h hx) (rc_o (by assumption) rfl) rfl rfl rfl (hr_ok (by omega)) (hf_ok (by omega) (by omega)) dJ2_set_11) fun r M9 h1 => ?_
  obtain ⟨rfl, rfl⟩ := h1
  obtain ⟨n, f, hd, hn, hn2, hf⟩ := h.arr hi
  have hda := mG_ne hd ho (by simp)
  refine x_astore_n (i := 3) rfl (by decide) dJ2_set_14 ?_
  refine x_aload_n (i := 0) rfl rfl dJ2_set_15 ?_
  refine gf_J2_9 rfl (by assumption) rfl dJ2_set_16 ?_
  refine x_iload_n (i := 1) rfl rfl dJ2_set_19 ?_
  refine x_aload_n (i := 2) rfl rfl dJ2_set_20 ?_
  refine u_aast (i) (by assumption) (by decide) (by omega) (by omega) (he.ok) dJ2_set_21 fun M1 h1 => ?_
  refine x_aload_n (i := 3) rfl rfl dJ2_set_22 ?_
  refine x_aret rfl (Or.inl ⟨_, rfl⟩) dJ2_set_23 ⟨by omega, by omega⟩ ?_
  refine ⟨_, rfl, rfl, ⟨n, aup f i (some e), ⟨by rw [List.length_set]; exact h1.o ho (Ne.symm hda), by rw [List.length_set]; exact hn, hn2, Or.inr ⟨by omega, h1.s⟩⟩, fun j y hy => ?_⟩, h1.f (Or.inr rfl)⟩
  rw [List.getElem?_set] at hy
  split at hy
  · rename_i hij
    subst hij
    rw [aup_s, hy]
  · rename_i hij
    rw [aup_n _ _ (Ne.symm hij)]
    exact hf j y hy
theorem m_Lfast (hC : gConL G) (a d n : Nat) (f : Nat → Option Nat) (mod : Int) (k i : Nat) (h : LsR G M a d n f mod k) (hi : i < k) (hel : ∀ j x, j < k → f j = some x → El G M x) :
    Ct G wJ2_fastRemove [aR (some a), aR (some d), aI (i : Int)] M 2 0 0 (kV fun M' => ∃ g, LsR G M' a d n g (mod + 1) (k - 1) ∧ mF (LsC a d) M M' ∧ (∀ j, j < i → g j = f j) ∧ ∀ j, i ≤ j → j + 1 < k → g j = f (j + 1)) := by
  refine Ct.mk rfl rfl (Nat.le_of_ble_eq_true rfl) ?_
  refine x_gB fun hb => ?_
  have ho := h.1
  have hkn := h.2.1
  have hn2 := h.2.2.1
  have hd := h.dyn (by omega)
  have hda := h.ne (by omega)
  refine x_aload_n (i := 0) rfl rfl dJ2_fastRemove_0 ?_
  refine x_dup (aCt_ok _) dJ2_fastRemove_1 ?_
  refine gf_J2_63 rfl (by assumption) rfl dJ2_fastRemove_2 ?_
  refine x_iconst dJ2_fastRemove_5 ?_
  refine x_iadd dJ2_fastRemove_6 ?_
  refine pf_J2_63 (fs' := [_, _, _]) rfl (by assumption) rfl rfl dJ2_fastRemove_7 fun M1 h1 => ?_
  have ho1 := h1.s
  have hd1 := h1.o hd hda
  refine x_aload_n (i := 0) rfl rfl dJ2_fastRemove_10 ?_
  refine gf_J2_48 rfl (by assumption) rfl dJ2_fastRemove_11 ?_
  refine x_iconst dJ2_fastRemove_14 ?_
  refine x_isub dJ2_fastRemove_15 ?_
  refine x_dup (aCt_ok _) dJ2_fastRemove_16 ?_
  refine x_istore_n (i := 3) rfl (by decide) dJ2_fastRemove_17 ?_
  refine x_iload_n (i := 2) rfl rfl dJ2_fastRemove_18 ?_
  have hrest : ∀ (M2 : Mem) (g : Nat → Option Nat), mG M2 a = some (cO 6 [aI (mod + 1), aR (some d), aI (k : Int)]) → mG M2 d = some (cQ 3 n g) → mF (LsC a d) M M2 → (∀ j, j < i → g j = f j) → (∀ j, i ≤ j → j + 1 < k → g j = f (j + 1)) → ∀ (L : List (Option AV)), L = [some (aR (some a)), some (aR (some d)), some (aI (i : Int)), some (aI ((k : Int) - 1))] →
      X G wJ2_fastRemove (rmO 2 0 0) (mEnd G (kV fun M' => ∃ g, LsR G M' a d n g (mod + 1) (k - 1) ∧ mF (LsC a d) M M' ∧ (∀ j, j < i → g j = f j) ∧ ∀ j, i ≤ j → j + 1 < k → g j = f (j + 1)) 0 0) 0 0 34 L [] M2 := by
    intro M2 g ho2 hd2 hF g1 g2 L hL
    subst hL
    refine x_aload_n (i := 1) rfl rfl dJ2_fastRemove_34 ?_
    refine x_aload_n (i := 0) rfl rfl dJ2_fastRemove_35 ?_
    refine x_iload_n (i := 3) rfl rfl dJ2_fastRemove_36 ?_
    refine x_dup_x1 (aCt_ok _) (aCt_ok _) dJ2_fastRemove_37 ?_
    refine pf_J2_48 (fs' := [_, _, _]) rfl (by assumption) rfl rfl dJ2_fastRemove_38 fun M3 h3 => ?_
    have hd3 := h3.o hd2 hda
    refine x_null dJ2_fastRemove_41 ?_
    refine u_aastN (k := 3) (C := "java/lang/Object") (k - 1) hd3 (by decide) rfl (by omega) (by omega) dJ2_fastRemove_42 fun M4 h4 => ?_
    refine x_vret rfl dJ2_fastRemove_43 ⟨by omega, by omega⟩ ?_
    refine ⟨rfl, aup g (k - 1) none, ⟨?_, by omega, hn2, Or.inr ⟨by omega, h4.s⟩⟩, h4.ff (h3.ff hF (Or.inl (Or.inl rfl))) (Or.inl (Or.inr rfl)), fun j hj => by rw [aup_n _ _ (by omega), g1 j hj], fun j hj1 hj2 => by rw [aup_n _ _ (by omega), g2 j hj1 hj2]⟩
    have h9 := h4.o h3.s (Ne.symm hda)
    rw [h9]
    simp
    omega
  refine x_icmp_le (tgt := 34) (by omega) (by omega) dJ2_fastRemove_19 (by decide) (fun hlt => ?_) (fun hlt => ?_)
  · exact hrest M1 f ho1 hd1 (h1.f (Or.inl rfl)) (fun _ _ => rfl) (fun j h1 h2 => by omega) _ rfl
  · refine x_aload_n (i := 1) rfl rfl dJ2_fastRemove_22 ?_
    refine x_iload_n (i := 2) rfl rfl dJ2_fastRemove_23 ?_
    refine x_iconst dJ2_fastRemove_24 ?_
    refine x_iadd dJ2_fastRemove_25 ?_
    refine x_aload_n (i := 1) rfl rfl dJ2_fastRemove_26 ?_
    refine x_iload_n (i := 2) rfl rfl dJ2_fastRemove_27 ?_
    refine x_iload_n (i := 3) rfl rfl dJ2_fastRemove_28 ?_
    refine x_iload_n (i := 2) rfl rfl dJ2_fastRemove_29 ?_
    refine x_isub dJ2_fastRemove_30 ?_
    refine x_copyQ (k := 3) (i + 1) i (k - 1 - i) q1549 (by decide) hd1 hd1 (by omega) (by omega) (by omega) (by omega) (by omega) (fun j b hj hb9 => ?_) rfl (Nat.le_of_ble_eq_true rfl) (Nat.le_of_ble_eq_true rfl) dJ2_fastRemove_31 fun M2 h2 => ?_
    · exact ((hel _ b (by omega) hb9).c fun c hc => h1.o hc ((hel _ b (by omega) hb9).na ho hb)).ok
    · refine hrest M2 _ (h2.o ho1 (Ne.symm hda)) h2.s (h2.ff (h1.f (Or.inl rfl)) (Or.inl (Or.inr rfl))) (fun j hj => ?_) (fun j hj1 hj2 => ?_) _ rfl
      · simp only [va_cpy]
        rw [if_neg (by omega)]
      · simp only [va_cpy]
        rw [if_pos (by omega)]
        congr 1
        omega
theorem m_Lremove (hC : gConL G) (a d : Nat) (mod : Int) (xs : List Nat) (i x : Nat) (h : Ls G M a d mod xs) (hx : xs[i]? = some x) (hel : LsE G M xs) :
    Ct G wJ2_remove [aR (some a), aI (i : Int)] M 4 0 0 (kR fun r M' => r = some x ∧ Ls G M' a d (mod + 1) (xs.eraseIdx i) ∧ mF (LsC a d) M M') := by
  refine Ct.mk rfl rfl (Nat.le_of_ble_eq_true rfl) ?_
  have ho := h.obj
  have hi : i < xs.length := (List.getElem?_eq_some_iff.mp hx).1
  have hl := h.len
  refine x_iload_n (i := 1) rfl rfl dJ2_remove_0 ?_
  refine x_aload_n (i := 0) rfl rfl dJ2_remove_1 ?_
  refine gf_J2_48 rfl (by assumption) rfl dJ2_remove_2 ?_
  refine XCl.I (iv_J2_118 rfl (m_check (i : Int) (xs.length : Int) (by omega) (by omega) (by omega)) rfl rfl rfl (hr_ok (by omega)) (hf_ok (by omega) (by omega)) dJ2_remove_5) fun r M9 h1 => ?_
  obtain ⟨rfl, rfl⟩ := h1
  obtain ⟨n, f, hR, hf⟩ := h
  have hkn := hR.2.1
  have hn2 := hR.2.2.1
  have hd := hR.dyn (by omega)
  refine x_pop (aCt_ok _) dJ2_remove_8 ?_
  refine x_aload_n (i := 0) rfl rfl dJ2_remove_9 ?_
  refine gf_J2_9 rfl (by assumption) rfl dJ2_remove_10 ?_
  refine x_astore_n (i := 2) rfl (by decide) dJ2_remove_13 ?_
  refine x_aload_n (i := 2) rfl rfl dJ2_remove_14 ?_
  refine x_iload_n (i := 1) rfl rfl dJ2_remove_15 ?_
  refine x_aald (i) (by assumption) (by decide) (by omega) (by omega) dJ2_remove_16 ?_
  rw [hf i x hx]
  refine x_astore_n (i := 3) rfl (by decide) dJ2_remove_17 ?_
  refine x_aload_n (i := 0) rfl rfl dJ2_remove_18 ?_
  refine x_aload_n (i := 2) rfl rfl dJ2_remove_19 ?_
  refine x_iload_n (i := 1) rfl rfl dJ2_remove_20 ?_
  refine XCl.V (iv_J2_144 rfl (m_Lfast hC a d n f mod xs.length i hR hi (fun j y hj hy => hel y (Ls_at hf hj hy))) (rc_o (by assumption) rfl) rfl rfl rfl (hr_ok (by omega)) (hf_ok (by omega) (by omega)) dJ2_remove_21) fun M1 h1 => ?_
  obtain ⟨g, hR1, hF, g1, g2⟩ := h1
  refine x_aload_n (i := 3) rfl rfl dJ2_remove_24 ?_
  refine x_aret rfl (Or.inl ⟨_, rfl⟩) dJ2_remove_25 ⟨by omega, by omega⟩ ?_
  refine ⟨_, rfl, rfl, ⟨n, g, ?_, fun j y hy => ?_⟩, hF⟩
  · rw [List.length_eraseIdx, if_pos hi]
    exact hR1
  · rw [List.getElem?_eraseIdx] at hy
    split at hy
    · rename_i hj
      rw [g1 j hj]
      exact hf j y hy
    · rename_i hj
      have hj2 := (List.getElem?_eq_some_iff.mp hy).1
      rw [g2 j (by omega) hj2]
      exact hf _ y hy
theorem m_Lclear (a d : Nat) (mod : Int) (xs : List Nat) (h : Ls G M a d mod xs) :
    Ct G wJ2_clear [aR (some a)] M 2 0 0 (kV fun M' => Ls G M' a d (mod + 1) [] ∧ mF (LsC a d) M M') := by
  refine Ct.mk rfl rfl (Nat.le_of_ble_eq_true rfl) ?_
  obtain ⟨n, f, hR, hf⟩ := h
  have ho := hR.1
  have hkn := hR.2.1
  have hn2 := hR.2.2.1
  refine x_aload_n (i := 0) rfl rfl dJ2_clear_0 ?_
  refine x_dup (aCt_ok _) dJ2_clear_1 ?_
  refine gf_J2_63 rfl (by assumption) rfl dJ2_clear_2 ?_
  refine x_iconst dJ2_clear_5 ?_
  refine x_iadd dJ2_clear_6 ?_
  refine pf_J2_63 (fs' := [_, _, _]) rfl (by assumption) rfl rfl dJ2_clear_7 fun M1 h1 => ?_
  have ho1 := h1.s
  refine x_aload_n (i := 0) rfl rfl dJ2_clear_10 ?_
  refine gf_J2_9 rfl (by assumption) rfl dJ2_clear_11 ?_
  refine x_astore_n (i := 1) rfl (by decide) dJ2_clear_14 ?_
  refine x_aload_n (i := 0) rfl rfl dJ2_clear_15 ?_
  refine gf_J2_48 rfl (by assumption) rfl dJ2_clear_16 ?_
  refine x_istore_n (i := 2) rfl (by decide) dJ2_clear_19 ?_
  refine x_aload_n (i := 0) rfl rfl dJ2_clear_20 ?_
  refine x_iconst dJ2_clear_21 ?_
  refine x_dup_x1 (aCt_ok _) (aCt_ok _) dJ2_clear_22 ?_
  refine pf_J2_48 (fs' := [_, _, _]) rfl (by assumption) rfl rfl dJ2_clear_23 fun M2 h2 => ?_
  have ho2 := h2.s
  have hR2 : LsR G M2 a d n f (mod + 1) 0 := ((hR.obj2 h1 hkn).obj2 (k' := 0) h2 (Nat.zero_le _))
  have hF2 : mF (LsC a d) M M2 := h2.ff (h1.f (Or.inl rfl)) (Or.inl (Or.inl rfl))
  refine x_istore_n (i := 3) rfl (by decide) dJ2_clear_26 ?_
  have loop : ∀ (r i : Nat) (M3 : Mem) (g : Nat → Option Nat), i + r = xs.length → LsR G M3 a d n g (mod + 1) 0 → mF (LsC a d) M M3 →
      X G wJ2_clear (rmO 2 0 0) (mEnd G (kV fun M' => Ls G M' a d (mod + 1) [] ∧ mF (LsC a d) M M') 0 0) 0 0 27 [some (aR (some a)), some (aR (some d)), some (aI (xs.length : Int)), some (aI (i : Int))] [] M3 := by
    intro r
    induction r with
    | zero =>
      intro i M3 g hi hR3 hF3
      refine x_iload_n (i := 3) rfl rfl dJ2_clear_27 ?_
      refine x_iload_n (i := 2) rfl rfl dJ2_clear_28 ?_
      refine x_icmp_ge (tgt := 42) (by omega) (by omega) dJ2_clear_29 (by decide) (fun _ => ?_) (fun z => absurd z (by omega))
      refine x_vret rfl dJ2_clear_42 ⟨by omega, by omega⟩ ?_
      exact ⟨rfl, ⟨n, g, hR3, fun i x hx => by simp at hx⟩, hF3⟩
    | succ r ih =>
      intro i M3 g hi hR3 hF3
      have hd3 := hR3.dyn (by omega)
      have hda := hR3.ne (by omega)
      refine x_iload_n (i := 3) rfl rfl dJ2_clear_27 ?_
      refine x_iload_n (i := 2) rfl rfl dJ2_clear_28 ?_
      refine x_icmp_ge (tgt := 42) (by omega) (by omega) dJ2_clear_29 (by decide) (fun z => absurd z (by omega)) (fun _ => ?_)
      refine x_aload_n (i := 1) rfl rfl dJ2_clear_32 ?_
      refine x_iload_n (i := 3) rfl rfl dJ2_clear_33 ?_
      refine x_null dJ2_clear_34 ?_
      refine u_aastN (k := 3) (C := "java/lang/Object") i hd3 (by decide) rfl (by omega) (by omega) dJ2_clear_35 fun M4 h4 => ?_
      refine x_iinc (i := 3) rfl (by decide) dJ2_clear_36 ?_
      refine x_goto (tgt := 27) dJ2_clear_39 (by decide) ?_
      exact ih (i + 1) M4 _ (by omega) ⟨h4.o hR3.1 (Ne.symm hda), Nat.zero_le _, hn2, Or.inr ⟨by omega, h4.s⟩⟩ (h4.ff hF3 (Or.inl (Or.inr rfl)))
  exact loop xs.length 0 M2 f (by omega) hR2 hF2
/-! the iterator -/
theorem m_Iinit (a it : Nat) (d : Nat) (mod : Int) (xs : List Nat) (h : Ls G M a d mod xs) (hM : mG M it = some (cO 12 [aI 0, aI 0, aI 0, aR none])) :
    Ct G wJ25_init [aR (some it), aR (some a)] M 2 0 0 (kV fun M' => mU M M' it (cO 12 [aI 0, aI (-1), aI mod, aR (some a)])) := by
  refine Ct.mk rfl rfl (Nat.le_of_ble_eq_true rfl) ?_
  have ho := h.obj
  have hia := mG_ne hM ho (by simp)
  refine x_aload_n (i := 0) rfl rfl dJ25_init_0 ?_
  refine x_aload_n (i := 1) rfl rfl dJ25_init_1 ?_
  refine pf_J25_1 (fs' := [_, _, _, _]) rfl rfl (by assumption) rfl rfl dJ25_init_2 fun M1 h1 => ?_
  have e1 := h1.s
  refine x_aload_n (i := 0) rfl rfl dJ25_init_5 ?_
  refine x_objInit q1213 (Nat.le_of_ble_eq_true rfl) (Nat.le_of_ble_eq_true rfl) (by decide) dJ25_init_6 ?_
  refine x_aload_n (i := 0) rfl rfl dJ25_init_9 ?_
  refine x_iconst dJ25_init_10 ?_
  refine pf_J25_13 (fs' := [_, _, _, _]) rfl (by assumption) rfl rfl dJ25_init_11 fun M2 h2 => ?_
  have e2 := h2.s
  have ho2 := h2.o (h1.o ho (Ne.symm hia)) (Ne.symm hia)
  refine x_aload_n (i := 0) rfl rfl dJ25_init_14 ?_
  refine x_aload_n (i := 0) rfl rfl dJ25_init_15 ?_
  refine gf_J25_1 rfl (by assumption) rfl dJ25_init_16 ?_
  refine gf_J25_17 rfl (by assumption) rfl dJ25_init_19 ?_
  refine pf_J25_22 (fs' := [_, _, _, _]) rfl (by assumption) rfl rfl dJ25_init_22 fun M3 h3 => ?_
  refine x_vret rfl dJ25_init_25 ⟨by omega, by omega⟩ ?_
  exact ⟨rfl, h3.s, by rw [h3.z, h2.z, h1.z], fun b hb => by rw [h3.2.2 b hb, h2.2.2 b hb, h1.2.2 b hb]⟩
theorem m_Liter (a d : Nat) (mod : Int) (xs : List Nat) (h : Ls G M a d mod xs) :
    Ct G wJ2_iterator [aR (some a)] M 3 1 4 (kR fun r M' => ∃ it, r = some it ∧ mA M M' it (cO 12 [aI 0, aI (-1), aI mod, aR (some a)])) := by
  refine Ct.mk rfl rfl (Nat.le_of_ble_eq_true rfl) ?_
  refine nw_J2_267 rfl (hf_ok (by omega) (by omega)) dJ2_iterator_0 fun it M1 hA => ?_
  have h1 := h.e hA.e
  have e1 := hA.s
  refine x_dup (aCt_ok _) dJ2_iterator_3 ?_
  refine x_aload_n (i := 0) rfl rfl dJ2_iterator_4 ?_
  refine XCl.V (iv_J2_269 rfl (m_Iinit a it d mod xs h1 e1) rfl rfl rfl (hr_ok (by omega)) (hf_ok (by omega) (by omega)) dJ2_iterator_5) fun M2 h2 => ?_
  refine x_aret rfl (Or.inl ⟨_, rfl⟩) dJ2_iterator_8 ⟨by omega, by omega⟩ ?_
  refine ⟨_, rfl, it, rfl, hA.q, h2.s, by rw [h2.z, hA.z], fun b hb => ?_⟩
  rw [h2.2.2 b (by rw [hA.q]; omega), hA.2.2.2 b hb]
theorem m_Ihas (a it d i : Nat) (mod : Int) (xs : List Nat) (l : Int) (h : Ls G M a d mod xs) (hi : i ≤ xs.length) (hM : mG M it = some (cO 12 [aI (i : Int), aI l, aI mod, aR (some a)])) :
    Ct G wJ25_hasNext [aR (some it)] M 1 0 0 (kI fun r M' => ((r = 1 ∧ i < xs.length) ∨ (r = 0 ∧ i = xs.length)) ∧ M = M') := by
  refine Ct.mk rfl rfl (Nat.le_of_ble_eq_true rfl) ?_
  have ho := h.obj
  have hl := h.len
  refine x_aload_n (i := 0) rfl rfl dJ25_hasNext_0 ?_
  refine gf_J25_25 rfl (by assumption) rfl dJ25_hasNext_1 ?_
  refine x_aload_n (i := 0) rfl rfl dJ25_hasNext_4 ?_
  refine gf_J25_1 rfl (by assumption) rfl dJ25_hasNext_5 ?_
  refine gf_J25_28 rfl (by assumption) rfl dJ25_hasNext_8 ?_
  refine x_icmp_eq (tgt := 18) (by omega) (by omega) dJ25_hasNext_11 (by decide) (fun hx => ?_) (fun hx => ?_)
  · refine x_iconst dJ25_hasNext_18 ?_
    refine x_zret rfl (by omega) dJ25_hasNext_19 ⟨by omega, by omega⟩ ?_
    exact ⟨_, rfl, Or.inr ⟨rfl, by omega⟩, rfl⟩
  · refine x_iconst dJ25_hasNext_14 ?_
    refine x_goto (tgt := 19) dJ25_hasNext_15 (by decide) ?_
    refine x_zret rfl (by omega) dJ25_hasNext_19 ⟨by omega, by omega⟩ ?_
    exact ⟨_, rfl, Or.inl ⟨rfl, by omega⟩, rfl⟩
theorem m_Icheck (a it d : Nat) (i l : AV) (mod : Int) (xs : List Nat) (h : Ls G M a d mod xs) (hM : mG M it = some (cO 12 [i, l, aI mod, aR (some a)])) :
    Ct G wJ25_checkForComodification [aR (some it)] M 1 0 0 (kV fun M' => M = M') := by
  refine Ct.mk rfl rfl (Nat.le_of_ble_eq_true rfl) ?_
  have ho := h.obj
  refine x_aload_n (i := 0) rfl rfl dJ25_checkForComodification_0 ?_
  refine gf_J25_1 rfl (by assumption) rfl dJ25_checkForComodification_1 ?_
  refine gf_J25_17 rfl (by assumption) rfl dJ25_checkForComodification_4 ?_
  refine x_aload_n (i := 0) rfl rfl dJ25_checkForComodification_7 ?_
  refine gf_J25_22 rfl (by assumption) rfl dJ25_checkForComodification_8 ?_
  refine x_icmp_eq_same (tgt := 22) dJ25_checkForComodification_11 (by decide) ?_
  refine x_vret rfl dJ25_checkForComodification_22 ⟨by omega, by omega⟩ ?_
  exact ⟨rfl, rfl⟩
theorem m_Inext (a it d i x : Nat) (mod : Int) (xs : List Nat) (l : Int) (h : Ls G M a d mod xs) (hx : xs[i]? = some x) (hM : mG M it = some (cO 12 [aI (i : Int), aI l, aI mod, aR (some a)])) :
    Ct G wJ25_next [aR (some it)] M 2 0 0 (kR fun r M' => r = some x ∧ mU M M' it (cO 12 [aI ((i : Int) + 1), aI (i : Int), aI mod, aR (some a)])) := by
  refine Ct.mk rfl rfl (Nat.le_of_ble_eq_true rfl) ?_
  have ho := h.obj
  have hl := h.len
  have hi : i < xs.length := (List.getElem?_eq_some_iff.mp hx).1
  obtain ⟨n, f, hd, hn, hn2, hf⟩ := h.arr hi
  have hdi := mG_ne hd hM (by simp)
  refine x_aload_n (i := 0) rfl rfl dJ25_next_0 ?_
  refine XCl.V (iv_J25_31 rfl (m_Icheck a it d _ _ mod xs h hM) (rc_o hM rfl) rfl rfl rfl (hr_ok (by omega)) (hf_ok (by omega) (by omega)) dJ25_next_1) fun M9 h9 => ?_
  subst h9
  refine x_aload_n (i := 0) rfl rfl dJ25_next_4 ?_
  refine gf_J25_25 rfl (by assumption) rfl dJ25_next_5 ?_
  refine x_istore_n (i := 1) rfl (by decide) dJ25_next_8 ?_
  refine x_iload_n (i := 1) rfl rfl dJ25_next_9 ?_
  refine x_aload_n (i := 0) rfl rfl dJ25_next_10 ?_
  refine gf_J25_1 rfl (by assumption) rfl dJ25_next_11 ?_
  refine gf_J25_28 rfl (by assumption) rfl dJ25_next_14 ?_
  refine x_icmp_lt (tgt := 28) (by omega) (by omega) dJ25_next_17 (by decide) (fun _ => ?_) (fun z => absurd z (by omega))
  refine x_aload_n (i := 0) rfl rfl dJ25_next_28 ?_
  refine gf_J25_1 rfl (by assumption) rfl dJ25_next_29 ?_
  refine gf_J25_37 rfl (by assumption) rfl dJ25_next_32 ?_
  refine x_astore_n (i := 2) rfl (by decide) dJ25_next_35 ?_
  refine x_iload_n (i := 1) rfl rfl dJ25_next_36 ?_
  refine x_aload_n (i := 2) rfl rfl dJ25_next_37 ?_
  refine x_alen (by assumption) (by decide) (by omega) dJ25_next_38 ?_
  refine x_icmp_lt (tgt := 50) (by omega) (by omega) dJ25_next_39 (by decide) (fun _ => ?_) (fun z => absurd z (by omega))
  refine x_aload_n (i := 0) rfl rfl dJ25_next_50 ?_
  refine x_iload_n (i := 1) rfl rfl dJ25_next_51 ?_
  refine x_iconst dJ25_next_52 ?_
  refine x_iadd dJ25_next_53 ?_
  refine pf_J25_25 (fs' := [_, _, _, _]) rfl (by assumption) rfl rfl dJ25_next_54 fun M1 h1 => ?_
  have e1 := h1.s
  refine x_aload_n (i := 2) rfl rfl dJ25_next_57 ?_
  refine x_aload_n (i := 0) rfl rfl dJ25_next_58 ?_
  refine x_iload_n (i := 1) rfl rfl dJ25_next_59 ?_
  refine x_dup_x1 (aCt_ok _) (aCt_ok _) dJ25_next_60 ?_
  refine pf_J25_13 (fs' := [_, _, _, _]) rfl (by assumption) rfl rfl dJ25_next_61 fun M2 h2 => ?_
  have hd2 := h2.o (h1.o hd hdi) hdi
  refine x_aald (i) (by assumption) (by decide) (by omega) (by omega) dJ25_next_64 ?_
  rw [hf i x hx]
  refine x_aret rfl (Or.inl ⟨_, rfl⟩) dJ25_next_65 ⟨by omega, by omega⟩ ?_
  exact ⟨_, rfl, rfl, h2.s, by rw [h2.z, h1.z], fun b hb => by rw [h2.2.2 b hb, h1.2.2 b hb]⟩
end JN
