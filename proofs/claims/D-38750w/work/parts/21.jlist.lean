/-! java.util.ArrayList, its iterator, Arrays.copyOf -/
set_option maxRecDepth 100000
/-- the constants that lists read: 259 the empty array, 260 Object[]'s class object -/
def gConL (G : GG) : Prop := gZ G "java/util/ArrayList" "DEFAULTCAPACITY_EMPTY_ELEMENTDATA" "[Ljava/lang/Object;" (aR (some (gK G 259))) ∧ gT G (.object "java/lang/Object") (gK G 259) 0 (fun _ => aR none) ∧ va_Mi "[Ljava/lang/Object;" (gK G 260) (gs G)
/-- what may be an element of a list: anything of a known class -/
def okEl : ACl → Bool
  | .inl (0, _, _) => true
  | .inl (1, _, _) => true
  | .inr (c, _) => decide (c < 16) && !decide (c = 6)
  | _ => false
def El (G : GG) (M : Mem) (e : Nat) : Prop := (∃ c, mG M e = some c ∧ okEl c = true) ∨ gO G "java/lang/Integer" e
theorem cst_obj {ci : Nat} (h : ci < 16) : ∃ q, pgCl[ci]? = some q ∧ Cond.castable q.1 "java/lang/Object" ∈ lw_tbl := by
  match ci, h with
  | 0, _ => exact ⟨_, rfl, q2193⟩
  | 1, _ => exact ⟨_, rfl, q2196⟩
  | 2, _ => exact ⟨_, rfl, q2197⟩
  | 3, _ => exact ⟨_, rfl, q2199⟩
  | 4, _ => exact ⟨_, rfl, q2207⟩
  | 5, _ => exact ⟨_, rfl, q2211⟩
  | 6, _ => exact ⟨_, rfl, q2194⟩
  | 7, _ => exact ⟨_, rfl, q2195⟩
  | 8, _ => exact ⟨_, rfl, q2209⟩
  | 9, _ => exact ⟨_, rfl, q2202⟩
  | 10, _ => exact ⟨_, rfl, q2203⟩
  | 11, _ => exact ⟨_, rfl, q2204⟩
  | 12, _ => exact ⟨_, rfl, q2205⟩
  | 13, _ => exact ⟨_, rfl, q2206⟩
  | 14, _ => exact ⟨_, rfl, q2208⟩
  | 15, _ => exact ⟨_, rfl, q2192⟩
  | n + 16, h => omega
theorem El.ok {G : GG} {M : Mem} {e : Nat} (h : El G M e) : okQ G M 3 e := by
  rcases h with ⟨c, h1, h2⟩ | h
  · rcases c with ⟨k, n, c⟩ | ⟨ci, fs⟩
    · match k, h2 with
      | 0, _ => exact okq_c (by decide) (rc_aI h1) q2217
      | 1, _ => exact okq_c (by decide) (rc_aL h1) q2220
    · have h3 : ci < 16 := by simp [okEl] at h2; exact h2.1
      obtain ⟨q, h4, h5⟩ := cst_obj h3
      exact okq_c (by decide) (rc_o h1 h4) h5
  · exact okq_c (by decide) (rc_c h) q2202
theorem El.c {G : GG} {M M' : Mem} {e : Nat} (h : El G M e) (k : ∀ c, mG M e = some c → mG M' e = some c) : El G M' e := by
  rcases h with ⟨c, h1, h2⟩ | h
  · exact Or.inl ⟨c, k c h1, h2⟩
  · exact Or.inr h
theorem El.e {G : GG} {M M' : Mem} {e : Nat} (h : El G M e) (k : mE M M') : El G M' e := h.c fun _ q => k.g q
theorem El.na {G : GG} {M : Mem} {e a : Nat} {fs : List AV} (h : El G M e) (ha : mG M a = some (cO 6 fs)) (hb : bK G M) : e ≠ a := by
  intro z
  subst z
  rcases h with ⟨c, h1, h2⟩ | h
  · rw [ha] at h1
    cases h1
    simp [okEl] at h2
  · have := h.lt
    have := hb.2 _ _ ha
    omega
theorem El.nd {G : GG} {M : Mem} {e d n : Nat} {f : Nat → Option Nat} (h : El G M e) (hd : mG M d = some (cQ 3 n f)) (hb : bK G M) : e ≠ d := by
  intro z
  subst z
  rcases h with ⟨c, h1, h2⟩ | h
  · rw [hd] at h1
    cases h1
    simp [okEl] at h2
  · have := h.lt
    have := hb.2 _ _ hd
    omega
theorem El.nz {G : GG} {M : Mem} {e q : Nat} (h : El G M e) (hq : mZ M ≤ q) (hb : bK G M) : e ≠ q := by
  intro z
  subst z
  rcases h with ⟨c, h1, h2⟩ | h
  · have := mG_lt h1
    omega
  · have := h.lt
    have := hb.1
    omega
section JL
variable {G : GG} {M : Mem}
theorem m_copyOf2 (hC : gConL G) (d n k : Nat) (f : Nat → Option Nat) (hM : mG M d = some (cQ 3 n f)) (hn : n ≤ 40) (hk : k ≤ 40) (hel : ∀ j e, j < n → f j = some e → El G M e) :
    Ct G wJ11_copyOf_2 [aR (some d), aI (k : Int), aR (some (gK G 260))] M 3 1 40 (kR fun r M' => ∃ q g, r = some q ∧ mE M M' ∧ mZ M ≤ q ∧ mG M' q = some (cQ 3 k g) ∧ ∀ j, j < n → j < k → g j = f j) := by
  refine Ct.mk rfl rfl (Nat.le_of_ble_eq_true rfl) ?_
  refine x_aload_n (i := 2) rfl rfl dJ11_copyOf_2_0 ?_
  refine x_ldcM hC.2.2 q292 dJ11_copyOf_2_1 ?_
  refine x_acmp_ne (tgt := 13) dJ11_copyOf_2_3 (by decide) (fun z => absurd z (fun q => q rfl)) (fun _ => ?_)
  refine x_iload_n (i := 1) rfl rfl dJ11_copyOf_2_6 ?_
  refine u_newQ (n := k) (k := 3) (C := "java/lang/Object") (by decide) rfl q294 q293 (by omega) (by omega) (hf_ok (by omega) (by omega)) dJ11_copyOf_2_7 fun q M1 hA => ?_
  have hM1 := hA.o hM
  have hq := hA.s
  refine x_goto (tgt := 24) dJ11_copyOf_2_10 (by decide) ?_
  refine x_astore_n (i := 3) rfl (by decide) dJ11_copyOf_2_24 ?_
  refine x_aload_n (i := 0) rfl rfl dJ11_copyOf_2_25 ?_
  refine x_iconst dJ11_copyOf_2_26 ?_
  refine x_aload_n (i := 3) rfl rfl dJ11_copyOf_2_27 ?_
  refine x_iconst dJ11_copyOf_2_28 ?_
  refine x_aload_n (i := 0) rfl rfl dJ11_copyOf_2_29 ?_
  refine x_alen (by assumption) (by decide) (by omega) dJ11_copyOf_2_30 ?_
  refine x_iload_n (i := 1) rfl rfl dJ11_copyOf_2_31 ?_
  refine x_mmin q295 (by omega) (by omega) rfl ⟨Nat.le_of_ble_eq_true rfl, Nat.le_of_ble_eq_true rfl⟩ (hf_ok (by omega) (by omega)) dJ11_copyOf_2_32 ?_
  refine x_copyQ (k := 3) 0 0 (min n k) q298 (by decide) hM1 hq (by omega) (by omega) (by omega) (by omega) (by omega) (fun j b hj hb => ((hel _ b (by omega) hb).e hA.e).ok) rfl (Nat.le_of_ble_eq_true rfl) (Nat.le_of_ble_eq_true rfl) dJ11_copyOf_2_35 fun M2 hU => ?_
  refine x_aload_n (i := 3) rfl rfl dJ11_copyOf_2_38 ?_
  refine x_aret rfl (Or.inr ⟨_, rfl⟩) dJ11_copyOf_2_39 ⟨by omega, by omega⟩ ?_
  refine ⟨_, rfl, q, _, rfl, hU.e hA.e (by rw [hA.q]; exact Nat.le_refl _), by rw [hA.q]; exact Nat.le_refl _, hU.s, fun j h1 h2 => ?_⟩
  simp [va_cpy]
  omega
theorem m_copyOfQ (hC : gConL G) (d n k : Nat) (f : Nat → Option Nat) (hM : mG M d = some (cQ 3 n f)) (hn : n ≤ 40) (hk : k ≤ 40) (hel : ∀ j e, j < n → f j = some e → El G M e) :
    Ct G wJ11_copyOf [aR (some d), aI (k : Int)] M 4 1 40 (kR fun r M' => ∃ q g, r = some q ∧ mE M M' ∧ mZ M ≤ q ∧ mG M' q = some (cQ 3 k g) ∧ ∀ j, j < n → j < k → g j = f j) := by
  refine Ct.mk rfl rfl (Nat.le_of_ble_eq_true rfl) ?_
  refine x_aload_n (i := 0) rfl rfl dJ11_copyOf_0 ?_
  refine x_iload_n (i := 1) rfl rfl dJ11_copyOf_1 ?_
  refine x_aload_n (i := 0) rfl rfl dJ11_copyOf_2 ?_
  refine x_getC hC.2.2 q265 hM rfl (Nat.le_of_ble_eq_true rfl) (Nat.le_of_ble_eq_true rfl) dJ11_copyOf_3 ?_
  refine XCl.A (iv_J11_300 rfl (m_copyOf2 hC d n k f hM hn hk hel) rfl rfl rfl (hr_ok (by omega)) (hf_ok (by omega) (by omega)) dJ11_copyOf_6) fun r M' h => ?_
  refine x_aret rfl (Or.inr ⟨_, rfl⟩) dJ11_copyOf_9 ⟨by omega, by omega⟩ ?_
  exact ⟨_, rfl, h⟩
end JL
/-- a list's two cells: the object, its array (or the constant empty one) -/
def LsR (G : GG) (M : Mem) (a d n : Nat) (f : Nat → Option Nat) (mod : Int) (k : Nat) : Prop := mG M a = some (cO 6 [aI mod, aR (some d), aI (k : Int)]) ∧ k ≤ n ∧ n ≤ 33 ∧ ((n = 0 ∧ d = gK G 259) ∨ (1 ≤ n ∧ mG M d = some (cQ 3 n f)))
/-- a list at a, its array at d, with the elements xs (no null among them) -/
def Ls (G : GG) (M : Mem) (a d : Nat) (mod : Int) (xs : List Nat) : Prop := ∃ n f, LsR G M a d n f mod xs.length ∧ ∀ i x, xs[i]? = some x → f i = some x
/-- a list's cells -/
def LsC (a d : Nat) : Nat → Prop := fun b => b = a ∨ b = d
theorem Ls.keep {G : GG} {M M' : Mem} {a d : Nat} {mod : Int} {xs : List Nat} (h : Ls G M a d mod xs) (ha : ∀ c, mG M a = some c → mG M' a = some c) (hd : ∀ c, mG M d = some c → mG M' d = some c) : Ls G M' a d mod xs := by
  obtain ⟨n, f, ⟨h1, h2, h3, h4⟩, h5⟩ := h
  exact ⟨n, f, ⟨ha _ h1, h2, h3, h4.imp id (fun q => ⟨q.1, hd _ q.2⟩)⟩, h5⟩
theorem Ls.e {G : GG} {M M' : Mem} {a d : Nat} {mod : Int} {xs : List Nat} (h : Ls G M a d mod xs) (k : mE M M') : Ls G M' a d mod xs := h.keep (fun _ q => k.g q) (fun _ q => k.g q)
theorem Ls.f {G : GG} {M M' : Mem} {a d : Nat} {mod : Int} {xs : List Nat} {P : Nat → Prop} (h : Ls G M a d mod xs) (k : mF P M M') (ha : ¬ P a) (hd : ¬ P d) : Ls G M' a d mod xs := h.keep (fun _ q => k.g q ha) (fun _ q => k.g q hd)
theorem Ls.obj {G : GG} {M : Mem} {a d : Nat} {mod : Int} {xs : List Nat} (h : Ls G M a d mod xs) : mG M a = some (cO 6 [aI mod, aR (some d), aI (xs.length : Int)]) := by
  obtain ⟨n, f, h, -⟩ := h
  exact h.1
theorem Ls.len {G : GG} {M : Mem} {a d : Nat} {mod : Int} {xs : List Nat} (h : Ls G M a d mod xs) : xs.length ≤ 33 := by
  obtain ⟨n, f, h, -⟩ := h
  exact Nat.le_trans h.2.1 h.2.2.1
/-- with an element there the array is a cell -/
theorem Ls.arr {G : GG} {M : Mem} {a d : Nat} {mod : Int} {xs : List Nat} (h : Ls G M a d mod xs) {i : Nat} (hi : i < xs.length) : ∃ n f, mG M d = some (cQ 3 n f) ∧ xs.length ≤ n ∧ n ≤ 33 ∧ ∀ i x, xs[i]? = some x → f i = some x := by
  obtain ⟨n, f, ⟨h1, h2, h3, h4⟩, h5⟩ := h
  rcases h4 with ⟨h4, -⟩ | ⟨-, h4⟩
  · omega
  · exact ⟨n, f, h4, h2, h3, h5⟩
section JL2
variable {G : GG} {M : Mem}
theorem m_ACinit (a : Nat) (ci : Nat) (fs : List AV) (hM : mG M a = some (cO ci fs)) : Ct G wJ0_init [aR (some a)] M 1 0 0 (kV fun M' => M = M') := by
  refine Ct.mk rfl rfl (Nat.le_of_ble_eq_true rfl) ?_
  refine x_aload_n (i := 0) rfl rfl dJ0_init_0 ?_
  refine x_objInit q131 (Nat.le_of_ble_eq_true rfl) (Nat.le_of_ble_eq_true rfl) (by decide) dJ0_init_1 ?_
  refine x_vret rfl dJ0_init_4 ⟨by omega, by omega⟩ ?_
  exact ⟨rfl, rfl⟩
theorem m_ALinit (a : Nat) (x1 x2 x3 : AV) (hM : mG M a = some (cO 6 [x1, x2, x3])) : Ct G wJ1_init [aR (some a)] M 2 0 0 (kV fun M' => mU M M' a (cO 6 [aI 0, x2, x3])) := by
  refine Ct.mk rfl rfl (Nat.le_of_ble_eq_true rfl) ?_
  refine x_aload_n (i := 0) rfl rfl dJ1_init_0 ?_
  refine XCl.V (iv_J1_1 rfl (m_ACinit a 6 _ hM) rfl rfl rfl (hr_ok (by omega)) (hf_ok (by omega) (by omega)) dJ1_init_1) fun M' h => ?_
  subst h
  refine x_aload_n (i := 0) rfl rfl dJ1_init_4 ?_
  refine x_iconst dJ1_init_5 ?_
  refine pf_J1_7 (fs' := [_, _, _]) rfl (by assumption) rfl rfl dJ1_init_6 fun M' hU => ?_
  refine x_vret rfl dJ1_init_9 ⟨by omega, by omega⟩ ?_
  exact ⟨rfl, hU⟩
theorem m_Linit (hC : gConL G) (a : Nat) (hM : mG M a = some (cO 6 [aI 0, aR none, aI 0])) : Ct G wJ2_init [aR (some a)] M 3 0 0 (kV fun M' => Ls G M' a (gK G 259) 0 [] ∧ mF (fun b => b = a) M M') := by
  refine Ct.mk rfl rfl (Nat.le_of_ble_eq_true rfl) ?_
  refine x_aload_n (i := 0) rfl rfl dJ2_init_0 ?_
  refine XCl.V (iv_J2_1 rfl (m_ALinit a _ _ _ hM) rfl rfl rfl (hr_ok (by omega)) (hf_ok (by omega) (by omega)) dJ2_init_1) fun M1 h1 => ?_
  have hM1 := h1.s
  refine x_aload_n (i := 0) rfl rfl dJ2_init_4 ?_
  refine x_gets (hC.1) q132 dJ2_init_5 ?_
  refine pf_J2_9 (fs' := [_, _, _]) rfl (by assumption) rfl rfl dJ2_init_8 fun M2 h2 => ?_
  refine x_vret rfl dJ2_init_11 ⟨by omega, by omega⟩ ?_
  exact ⟨rfl, ⟨0, fun _ => none, ⟨h2.s, Nat.le_refl _, by omega, Or.inl ⟨rfl, rfl⟩⟩, fun i x h => by simp at h⟩, h2.ff (h1.f rfl) (Or.inl rfl)⟩
theorem m_Lsize (a d : Nat) (mod : Int) (xs : List Nat) (h : Ls G M a d mod xs) : Ct G wJ2_size [aR (some a)] M 1 0 0 (kI fun r M' => r = xs.length ∧ M = M') := by
  refine Ct.mk rfl rfl (Nat.le_of_ble_eq_true rfl) ?_
  have ho := h.obj
  refine x_aload_n (i := 0) rfl rfl dJ2_size_0 ?_
  refine gf_J2_48 rfl (by assumption) rfl dJ2_size_1 ?_
  refine x_iret rfl dJ2_size_4 ⟨by omega, by omega⟩ ?_
  exact ⟨_, rfl, rfl, rfl⟩
theorem m_Ldata (a d : Nat) (mod : Int) (xs : List Nat) (i : Nat) (x : Nat) (h : Ls G M a d mod xs) (hx : xs[i]? = some x) : Ct G wJ2_elementData [aR (some a), aI (i : Int)] M 1 0 0 (kR fun r M' => r = some x ∧ M = M') := by
  refine Ct.mk rfl rfl (Nat.le_of_ble_eq_true rfl) ?_
  have ho := h.obj
  have hi : i < xs.length := (List.getElem?_eq_some_iff.mp hx).1
  obtain ⟨n, f, hd, hn, hn2, hf⟩ := h.arr hi
  refine x_aload_n (i := 0) rfl rfl dJ2_elementData_0 ?_
  refine gf_J2_9 rfl (by assumption) rfl dJ2_elementData_1 ?_
  refine x_iload_n (i := 1) rfl rfl dJ2_elementData_4 ?_
  refine x_aald (i) (by assumption) (by decide) (by omega) (by omega) dJ2_elementData_5 ?_
  rw [hf i x hx]
  refine x_aret rfl (Or.inl ⟨_, rfl⟩) dJ2_elementData_6 ⟨by omega, by omega⟩ ?_
  exact ⟨_, rfl, rfl, rfl⟩
theorem m_Lget (a d : Nat) (mod : Int) (xs : List Nat) (i : Nat) (x : Nat) (h : Ls G M a d mod xs) (hx : xs[i]? = some x) : Ct G wJ2_get [aR (some a), aI (i : Int)] M 3 0 0 (kR fun r M' => r = some x ∧ M = M') := by
  refine Ct.mk rfl rfl (Nat.le_of_ble_eq_true rfl) ?_
  have ho := h.obj
  have hi : i < xs.length := (List.getElem?_eq_some_iff.mp hx).1
  have hl := h.len
  refine x_iload_n (i := 1) rfl rfl dJ2_get_0 ?_
  refine x_aload_n (i := 0) rfl rfl dJ2_get_1 ?_
  refine gf_J2_48 rfl (by assumption) rfl dJ2_get_2 ?_
  refine XCl.I (iv_J2_118 rfl (m_check (i : Int) (xs.length : Int) (by omega) (by omega) (by omega)) rfl rfl rfl (hr_ok (by omega)) (hf_ok (by omega) (by omega)) dJ2_get_5) fun r M' h1 => ?_
  obtain ⟨rfl, rfl⟩ := h1
  refine x_pop (aCt_ok _) dJ2_get_8 ?_
  refine x_aload_n (i := 0) rfl rfl dJ2_get_9 ?_
  refine x_iload_n (i := 1) rfl rfl dJ2_get_10 ?_
  refine XCl.A (iv_J2_123 rfl (m_Ldata a d mod xs i x h hx) (rc_o (by assumption) rfl) rfl rfl rfl (hr_ok (by omega)) (hf_ok (by omega) (by omega)) dJ2_get_11) fun r M' h1 => ?_
  obtain ⟨rfl, rfl⟩ := h1
  refine x_aret rfl (Or.inl ⟨_, rfl⟩) dJ2_get_14 ⟨by omega, by omega⟩ ?_
  exact ⟨_, rfl, rfl, rfl⟩
end JL2
section JL3
variable {G : GG} {M : Mem}
theorem i32_shr1 {n : Nat} (h : n < 1000000) : Int32.ofInt (n : Int) >>> (Int32.ofInt 1 &&& 31) = Int32.ofInt ((n / 2 : Nat) : Int) := by
  have h1 : Int32.ofInt (n : Int) = nI n := (i32_ofNat n).symm
  have h2 : Int32.ofInt ((n / 2 : Nat) : Int) = nI (n / 2) := (i32_ofNat _).symm
  rw [h1, h2]
  exact pk_shrN (by omega) _ 1 (by decide)
/-- the array of a list that is full grows: a new one, longer, holds the same -/
theorem m_Lgrow2 (hC : gConL G) (a d n k : Nat) (f : Nat → Option Nat) (mod : Int) (h : LsR G M a d n f mod k) (hkn : n = k) (hk : k ≤ 21) (hel : ∀ j e, j < k → f j = some e → El G M e) :
    Ct G wJ2_grow_2 [aR (some a), aI ((k : Int) + 1)] M 6 1 40 (kR fun r M' => ∃ q n' g, r = some q ∧ mZ M ≤ q ∧ mF (fun b => b = a) M M' ∧ mG M' a = some (cO 6 [aI mod, aR (some q), aI (k : Int)]) ∧ mG M' q = some (cQ 3 n' g) ∧ k + 1 ≤ n' ∧ n' ≤ 33 ∧ ∀ j, j < k → g j = f j) := by
  refine Ct.mk rfl rfl (Nat.le_of_ble_eq_true rfl) ?_
  obtain ⟨ho, h1, h2, h3⟩ := h
  subst hkn
  refine x_aload_n (i := 0) rfl rfl dJ2_grow_2_0 ?_
  refine gf_J2_9 rfl (by assumption) rfl dJ2_grow_2_1 ?_
  rcases h3 with ⟨h3, rfl⟩ | ⟨hn, h3⟩
  · subst h3
    refine x_alenc hC.2.1 dJ2_grow_2_4 ?_
    refine x_istore_n (i := 2) rfl (by decide) dJ2_grow_2_5 ?_
    refine x_iload_n (i := 2) rfl rfl dJ2_grow_2_6 ?_
    refine x_if_gt (tgt := 20) (by omega) dJ2_grow_2_7 (by decide) (fun z => absurd z (by omega)) (fun _ => ?_)
    refine x_aload_n (i := 0) rfl rfl dJ2_grow_2_10 ?_
    refine gf_J2_9 rfl (by assumption) rfl dJ2_grow_2_11 ?_
    refine x_gets (hC.1) q132 dJ2_grow_2_14 ?_
    refine x_acmp_eq (tgt := 45) dJ2_grow_2_17 (by decide) (fun _ => ?_) (fun z => absurd z (fun y => z rfl))
    refine x_aload_n (i := 0) rfl rfl dJ2_grow_2_45 ?_
    refine x_bipush (a := 10) rfl dJ2_grow_2_46 ?_
    refine x_iload_n (i := 1) rfl rfl dJ2_grow_2_48 ?_
    refine x_mmax q301 (by omega) (by omega) rfl ⟨Nat.le_of_ble_eq_true rfl, Nat.le_of_ble_eq_true rfl⟩ (hf_ok (by omega) (by omega)) dJ2_grow_2_49 ?_
    refine u_newQ (n := 10) (k := 3) (C := "java/lang/Object") (by decide) rfl q302 q293 (by omega) (by omega) (hf_ok (by omega) (by omega)) dJ2_grow_2_52 fun q M1 hA => ?_
    have ho1 := hA.o ho
    refine x_dup_x1 (aCt_ok _) (aCt_ok _) dJ2_grow_2_55 ?_
    refine pf_J2_9 (fs' := [_, _, _]) rfl (by assumption) rfl rfl dJ2_grow_2_56 fun M2 hU => ?_
    refine x_aret rfl (Or.inr ⟨_, rfl⟩) dJ2_grow_2_59 ⟨by omega, by omega⟩ ?_
    have hq := hA.q
    refine ⟨_, rfl, q, 10, fun _ => none, rfl, by omega, hU.ff (hA.e.f _) (Or.inl rfl), hU.s, hU.o hA.s (Ne.symm (hA.ne ho)), by omega, by omega, fun j hj => by omega⟩
  · refine x_alen (by assumption) (by decide) (by omega) dJ2_grow_2_4 ?_
    refine x_istore_n (i := 2) rfl (by decide) dJ2_grow_2_5 ?_
    refine x_iload_n (i := 2) rfl rfl dJ2_grow_2_6 ?_
    refine x_if_gt (tgt := 20) (by omega) dJ2_grow_2_7 (by decide) (fun _ => ?_) (fun z => absurd z (by omega))
    refine x_iload_n (i := 2) rfl rfl dJ2_grow_2_20 ?_
    refine x_iload_n (i := 1) rfl rfl dJ2_grow_2_21 ?_
    refine x_iload_n (i := 2) rfl rfl dJ2_grow_2_22 ?_
    refine x_isub dJ2_grow_2_23 ?_
    refine x_iload_n (i := 2) rfl rfl dJ2_grow_2_24 ?_
    refine x_iconst dJ2_grow_2_25 ?_
    refine x_ishr (v := ((n / 2 : Nat) : Int)) (i32_shr1 (by omega)) dJ2_grow_2_26 ?_
    refine XCl.I (iv_J2_73 rfl (m_newLen (n : Int) ((n : Int) + 1 - (n : Int)) ((n / 2 : Nat) : Int) (by omega) (by omega) (by omega)) rfl rfl rfl (hr_ok (by omega)) (hf_ok (by omega) (by omega)) dJ2_grow_2_27) fun r M' h4 => ?_
    obtain ⟨h4, rfl⟩ := h4
    refine x_istore_n (i := 3) rfl (by decide) dJ2_grow_2_30 ?_
    refine x_aload_n (i := 0) rfl rfl dJ2_grow_2_31 ?_
    refine x_aload_n (i := 0) rfl rfl dJ2_grow_2_32 ?_
    refine gf_J2_9 rfl (by assumption) rfl dJ2_grow_2_33 ?_
    refine x_iload_n (i := 3) rfl rfl dJ2_grow_2_36 ?_
    obtain ⟨n', rfl⟩ : ∃ n' : Nat, r = (n' : Int) := ⟨r.toNat, by omega⟩
    refine XCl.A (iv_J2_66 rfl (m_copyOfQ hC d n n' f h3 (by omega) (by omega) hel) rfl rfl rfl (hr_ok (by omega)) (hf_ok (by omega) (by omega)) dJ2_grow_2_37) fun r M1 h5 => ?_
    obtain ⟨q, g, rfl, hE, hq, hg, hj⟩ := h5
    have ho1 := hE.g ho
    refine x_dup_x1 (aCt_ok _) (aCt_ok _) dJ2_grow_2_40 ?_
    refine pf_J2_9 (fs' := [_, _, _]) rfl (by assumption) rfl rfl dJ2_grow_2_41 fun M2 hU => ?_
    refine x_aret rfl (Or.inr ⟨_, rfl⟩) dJ2_grow_2_44 ⟨by omega, by omega⟩ ?_
    refine ⟨_, rfl, q, n', g, rfl, hq, hU.ff (hE.f _) (Or.inl rfl), hU.s, hU.o hg (fun e => ?_), by omega, by omega, fun j hj2 => hj j hj2 (by omega)⟩
    have := mG_lt ho
    omega
theorem m_Lgrow (hC : gConL G) (a d n k : Nat) (f : Nat → Option Nat) (mod : Int) (h : LsR G M a d n f mod k) (hkn : n = k) (hk : k ≤ 21) (hel : ∀ j e, j < k → f j = some e → El G M e) :
    Ct G wJ2_grow [aR (some a)] M 7 1 40 (kR fun r M' => ∃ q n' g, r = some q ∧ mZ M ≤ q ∧ mF (fun b => b = a) M M' ∧ mG M' a = some (cO 6 [aI mod, aR (some q), aI (k : Int)]) ∧ mG M' q = some (cQ 3 n' g) ∧ k + 1 ≤ n' ∧ n' ≤ 33 ∧ ∀ j, j < k → g j = f j) := by
  refine Ct.mk rfl rfl (Nat.le_of_ble_eq_true rfl) ?_
  have ho := h.1
  refine x_aload_n (i := 0) rfl rfl dJ2_grow_0 ?_
  refine x_aload_n (i := 0) rfl rfl dJ2_grow_1 ?_
  refine gf_J2_48 rfl (by assumption) rfl dJ2_grow_2 ?_
  refine x_iconst dJ2_grow_5 ?_
  refine x_iadd dJ2_grow_6 ?_
  refine XCl.A (iv_J2_69 rfl (m_Lgrow2 hC a d n k f mod h hkn hk hel) (rc_o (by assumption) rfl) rfl rfl rfl (hr_ok (by omega)) (hf_ok (by omega) (by omega)) dJ2_grow_7) fun r M' h1 => ?_
  refine x_aret rfl (Or.inr ⟨_, rfl⟩) dJ2_grow_10 ⟨by omega, by omega⟩ ?_
  exact ⟨_, rfl, h1⟩
theorem LsR.keep {G : GG} {M M' : Mem} {a d n k : Nat} {f : Nat → Option Nat} {mod : Int} (h : LsR G M a d n f mod k) (ha : ∀ c, mG M a = some c → mG M' a = some c) (hd : ∀ c, mG M d = some c → mG M' d = some c) : LsR G M' a d n f mod k := by
  obtain ⟨h1, h2, h3, h4⟩ := h
  exact ⟨ha _ h1, h2, h3, h4.imp id (fun q => ⟨q.1, hd _ q.2⟩)⟩
theorem LsR.ne {G : GG} {M : Mem} {a d n k : Nat} {f : Nat → Option Nat} {mod : Int} (h : LsR G M a d n f mod k) (hn : 1 ≤ n) : d ≠ a := by
  obtain ⟨h1, h2, h3, h4⟩ := h
  rcases h4 with ⟨h4, -⟩ | ⟨-, h4⟩
  · omega
  · intro e
    rw [e, h1] at h4
    cases h4
/-- add(e, array, size): behind it the list has e as its last one -/
theorem m_Ladd2 (hC : gConL G) (a d n e : Nat) (f : Nat → Option Nat) (mod : Int) (k : Nat) (h : LsR G M a d n f mod k) (hk : k ≤ 21) (hel : ∀ j x, j < k → f j = some x → El G M x) (he : El G M e) :
    Ct G wJ2_add_2 [aR (some a), aR (some e), aR (some d), aI (k : Int)] M 8 1 40 (kV fun M' => ∃ d' n' g, LsR G M' a d' n' g mod (k + 1) ∧ (d' = d ∨ mZ M ≤ d') ∧ mF (LsC a d) M M' ∧ g k = some e ∧ ∀ j, j < k → g j = f j) := by
  refine Ct.mk rfl rfl (Nat.le_of_ble_eq_true rfl) ?_
  refine x_gB fun hb => ?_
  have hea : e ≠ a := he.na h.1 hb
  have hk2 := h.2.1
  have hn33 := h.2.2.1
  refine x_iload_n (i := 3) rfl rfl dJ2_add_2_0 ?_
  refine x_aload_n (i := 2) rfl rfl dJ2_add_2_1 ?_
  have hlen : ∀ {L : List (Option AV)} {E : XE}, X G wJ2_add_2 (rmO 8 1 40) E 0 0 3 L [aI (n : Int), aI (k : Int)] M → X G wJ2_add_2 (rmO 8 1 40) E 0 0 2 L [aR (some d), aI (k : Int)] M := by
    intro L E kk
    rcases h.2.2.2 with ⟨h3, h4⟩ | ⟨h3, h4⟩
    · subst h3; subst h4
      exact x_alenc hC.2.1 dJ2_add_2_2 kk
    · exact x_alen h4 (by decide) (by omega) dJ2_add_2_2 kk
  refine hlen ?_
  refine x_icmp_ne (tgt := 11) (by omega) (by omega) dJ2_add_2_3 (by decide) (fun hne => ?_) (fun hne => ?_)
  · have hd : mG M d = some (cQ 3 n f) := by
      rcases h.2.2.2 with ⟨h3, -⟩ | ⟨-, h4⟩
      · omega
      · exact h4
    have ho := h.1
    refine x_aload_n (i := 2) rfl rfl dJ2_add_2_11 ?_
    refine x_iload_n (i := 3) rfl rfl dJ2_add_2_12 ?_
    refine x_aload_n (i := 1) rfl rfl dJ2_add_2_13 ?_
    refine u_aast (k) (by assumption) (by decide) (by omega) (by omega) (he.ok) dJ2_add_2_14 fun M1 h1 => ?_
    have ho1 := h1.o ho (Ne.symm (h.ne (by omega)))
    refine x_aload_n (i := 0) rfl rfl dJ2_add_2_15 ?_
    refine x_iload_n (i := 3) rfl rfl dJ2_add_2_16 ?_
    refine x_iconst dJ2_add_2_17 ?_
    refine x_iadd dJ2_add_2_18 ?_
    refine pf_J2_48 (fs' := [_, _, _]) rfl (by assumption) rfl rfl dJ2_add_2_19 fun M2 h2 => ?_
    refine x_vret rfl dJ2_add_2_22 ⟨by omega, by omega⟩ ?_
    refine ⟨rfl, d, n, aup f k (some e), ⟨h2.s, by omega, hn33, Or.inr ⟨by omega, h2.o h1.s (h.ne (by omega))⟩⟩, Or.inl rfl, h2.ff (h1.f (Or.inr rfl)) (Or.inl (Or.inl rfl)), aup_s _ _ _, fun j hj => aup_n _ _ (by omega)⟩
  · refine x_aload_n (i := 0) rfl rfl dJ2_add_2_6 ?_
    refine XCl.A (iv_J2_129 rfl (m_Lgrow hC a d n k f mod h (by omega) hk hel) (rc_o h.1 rfl) rfl rfl rfl (hr_ok (by omega)) (hf_ok (by omega) (by omega)) dJ2_add_2_7) fun r M1 h1 => ?_
    obtain ⟨q, n', g, rfl, hq, hF, ho, hg, hkn, hn', hj⟩ := h1
    have he1 : El G M1 e := he.c fun c hc => hF.g hc hea
    have hqa : a ≠ q := by
      have := mG_lt h.1
      omega
    refine x_astore_n (i := 2) rfl (by decide) dJ2_add_2_10 ?_
    refine x_aload_n (i := 2) rfl rfl dJ2_add_2_11 ?_
    refine x_iload_n (i := 3) rfl rfl dJ2_add_2_12 ?_
    refine x_aload_n (i := 1) rfl rfl dJ2_add_2_13 ?_
    refine u_aast (k) (by assumption) (by decide) (by omega) (by omega) (he1.ok) dJ2_add_2_14 fun M2 h2 => ?_
    have ho1 := h2.o ho hqa
    refine x_aload_n (i := 0) rfl rfl dJ2_add_2_15 ?_
    refine x_iload_n (i := 3) rfl rfl dJ2_add_2_16 ?_
    refine x_iconst dJ2_add_2_17 ?_
    refine x_iadd dJ2_add_2_18 ?_
    refine pf_J2_48 (fs' := [_, _, _]) rfl (by assumption) rfl rfl dJ2_add_2_19 fun M3 h3 => ?_
    refine x_vret rfl dJ2_add_2_22 ⟨by omega, by omega⟩ ?_
    have hF' : mF (LsC a d) M M1 := hF.mono fun _ _ z => Or.inl z
    refine ⟨rfl, q, n', aup g k (some e), ⟨h3.s, by omega, hn', Or.inr ⟨by omega, h3.o h2.s (Ne.symm hqa)⟩⟩, Or.inr hq, h3.ff (h2.ff hF' (Or.inr hq)) (Or.inl (Or.inl rfl)), aup_s _ _ _, fun j hj2 => by rw [aup_n _ _ (by omega), hj j hj2]⟩
/-- the elements of a list are of known classes -/
def LsE (G : GG) (M : Mem) (xs : List Nat) : Prop := ∀ x ∈ xs, El G M x
theorem LsE.e {G : GG} {M M' : Mem} {xs : List Nat} (h : LsE G M xs) (k : mE M M') : LsE G M' xs := fun x hx => (h x hx).e k
theorem m_Ladd (hC : gConL G) (a d e : Nat) (mod : Int) (xs : List Nat) (h : Ls G M a d mod xs) (hk : xs.length ≤ 21) (hel : LsE G M xs) (he : El G M e) :
    Ct G wJ2_add [aR (some a), aR (some e)] M 9 1 40 (kI fun r M' => r = 1 ∧ ∃ d', Ls G M' a d' (mod + 1) (xs ++ [e]) ∧ (d' = d ∨ mZ M ≤ d') ∧ mF (LsC a d) M M') := by
  refine Ct.mk rfl rfl (Nat.le_of_ble_eq_true rfl) ?_
  refine x_gB fun hb => ?_
  obtain ⟨n, f, hR, hf⟩ := h
  have ho := hR.1
  have hea : e ≠ a := he.na ho hb
  have hxa : ∀ x ∈ xs, x ≠ a := fun x hx => (hel x hx).na ho hb
  refine x_aload_n (i := 0) rfl rfl dJ2_add_0 ?_
  refine x_dup (aCt_ok _) dJ2_add_1 ?_
  refine gf_J2_63 rfl (by assumption) rfl dJ2_add_2 ?_
  refine x_iconst dJ2_add_5 ?_
  refine x_iadd dJ2_add_6 ?_
  refine pf_J2_63 (fs' := [_, _, _]) rfl (by assumption) rfl rfl dJ2_add_7 fun M1 h1 => ?_
  have ho1 := h1.s
  have hf2 : ∀ (j : Nat) (hj : j < xs.length) (x : Nat), f j = some x → xs[j] = x := by
    intro j hj x hx
    have h9 := hf j _ (List.getElem?_eq_getElem hj)
    rw [h9] at hx
    exact Option.some.inj hx
  have hR1 : LsR G M1 a d n f (mod + 1) xs.length := by
    refine ⟨h1.s, hR.2.1, hR.2.2.1, ?_⟩
    rcases hR.2.2.2 with q | ⟨q1, q2⟩
    · exact Or.inl q
    · exact Or.inr ⟨q1, h1.o q2 (hR.ne q1)⟩
  refine x_aload_n (i := 0) rfl rfl dJ2_add_10 ?_
  refine x_aload_n (i := 1) rfl rfl dJ2_add_11 ?_
  refine x_aload_n (i := 0) rfl rfl dJ2_add_12 ?_
  refine gf_J2_9 rfl (by assumption) rfl dJ2_add_13 ?_
  refine x_aload_n (i := 0) rfl rfl dJ2_add_16 ?_
  refine gf_J2_48 rfl (by assumption) rfl dJ2_add_17 ?_
  have hel1 : ∀ j x, j < xs.length → f j = some x → El G M1 x := fun j x hj hx => by
    have hm : x ∈ xs := by rw [← hf2 j hj x hx]; exact List.getElem_mem hj
    exact (hel x hm).c fun c hc => h1.o hc (hxa x hm)
  refine XCl.V (iv_J2_131 rfl (m_Ladd2 hC a d n e f (mod + 1) xs.length hR1 hk hel1 (he.c fun c hc => h1.o hc hea)) (rc_o (by assumption) rfl) rfl rfl rfl (hr_ok (by omega)) (hf_ok (by omega) (by omega)) dJ2_add_20) fun M2 h2 => ?_
  obtain ⟨d', n', g, hR2, hd', hF, hg, hj⟩ := h2
  refine x_iconst dJ2_add_23 ?_
  refine x_zret rfl (by omega) dJ2_add_24 ⟨by omega, by omega⟩ ?_
  refine ⟨_, rfl, rfl, d', ⟨n', g, by rw [List.length_append]; exact hR2, fun i x hx => ?_⟩, ?_, (h1.f (Or.inl rfl)).tr (hF.mono fun _ _ z => z)⟩
  · rcases Nat.lt_or_ge i xs.length with q | q
    · rw [List.getElem?_append_left q] at hx
      rw [hj i q]
      exact hf i x hx
    · rw [List.getElem?_append_right q] at hx
      have hi : i = xs.length := by
        have := (List.getElem?_eq_some_iff.mp hx).1
        simp at this
        omega
      subst hi
      simp at hx
      rw [hg, hx]
  · rw [h1.z] at hd'
    exact hd'
end JL3
