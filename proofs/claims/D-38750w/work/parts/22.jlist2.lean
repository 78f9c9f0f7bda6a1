/-! java.util.ArrayList: add at the front, remove, clear, set; its iterator -/
set_option maxRecDepth 100000
section JM
variable {G : GG} {M : Mem}
/-- the array of a list that has an element is no constant -/
theorem LsR.dyn {a d n k : Nat} {f : Nat → Option Nat} {mod : Int} (h : LsR G M a d n f mod k) (hn : 1 ≤ n) : mG M d = some (cQ 3 n f) := by
  rcases h.2.2.2 with ⟨q, -⟩ | ⟨-, q⟩
  · omega
  · exact q
/-- the list's object written over, its array left -/
theorem LsR.obj2 {M' : Mem} {a d n k k' : Nat} {f : Nat → Option Nat} {mod mod' : Int} (h : LsR G M a d n f mod k) (hU : mU M M' a (cO 6 [aI mod', aR (some d), aI (k' : Int)])) (hk : k' ≤ n) : LsR G M' a d n f mod' k' := by
  refine ⟨hU.s, hk, h.2.2.1, ?_⟩
  rcases h.2.2.2 with q | ⟨q1, q2⟩
  · exact Or.inl q
  · exact Or.inr ⟨q1, hU.o q2 (h.ne q1)⟩
theorem Ls_at {f : Nat → Option Nat} {xs : List Nat} (hf : ∀ i x, xs[i]? = some x → f i = some x) {j x : Nat} (hj : j < xs.length) (hx : f j = some x) : x ∈ xs := by
  have h9 := hf j _ (List.getElem?_eq_getElem hj)
  rw [h9] at hx
  rw [← Option.some.inj hx]
  exact List.getElem_mem hj
theorem m_Lrange (a d : Nat) (mod : Int) (xs : List Nat) (h : Ls G M a d mod xs) : Ct G wJ2_rangeCheckForAdd [aR (some a), aI 0] M 1 0 0 (kV fun M' => M = M') := by
  refine Ct.mk rfl rfl (Nat.le_of_ble_eq_true rfl) ?_
  have ho := h.obj
  have hl := h.len
  refine x_iload_n (i := 1) rfl rfl dJ2_rangeCheckForAdd_0 ?_
  refine x_aload_n (i := 0) rfl rfl dJ2_rangeCheckForAdd_1 ?_
  refine gf_J2_48 rfl (by assumption) rfl dJ2_rangeCheckForAdd_2 ?_
  refine x_icmp_gt (tgt := 12) (by omega) (by omega) dJ2_rangeCheckForAdd_5 (by decide) (fun z => absurd z (by omega)) (fun _ => ?_)
  refine x_iload_n (i := 1) rfl rfl dJ2_rangeCheckForAdd_8 ?_
  refine x_if_ge (tgt := 25) (by omega) dJ2_rangeCheckForAdd_9 (by decide) (fun _ => ?_) (fun z => absurd z (by omega))
  refine x_vret rfl dJ2_rangeCheckForAdd_25 ⟨by omega, by omega⟩ ?_
  exact ⟨rfl, rfl⟩
/-- add(0, e) -/
theorem m_Ladd0 (hC : gConL G) (a d e : Nat) (mod : Int) (xs : List Nat) (h : Ls G M a d mod xs) (hk : xs.length ≤ 21) (hel : LsE G M xs) (he : El G M e) :
    Ct G wJ2_add_3 [aR (some a), aI 0, aR (some e)] M 9 1 40 (kV fun M' => ∃ d', Ls G M' a d' (mod + 1) (e :: xs) ∧ (d' = d ∨ mZ M ≤ d') ∧ mF (LsC a d) M M') := by
  refine Ct.mk rfl rfl (Nat.le_of_ble_eq_true rfl) ?_
  refine x_gB fun hb => ?_
  have hlen := h.len
  refine x_aload_n (i := 0) rfl rfl dJ2_add_3_0 ?_
  refine x_iload_n (i := 1) rfl rfl dJ2_add_3_1 ?_
  refine XCl.V (iv_J2_135 rfl (m_Lrange a d mod xs h) (rc_o h.obj rfl) rfl rfl rfl (hr_ok (by omega)) (hf_ok (by omega) (by omega)) dJ2_add_3_2) fun M9 h9 => ?_
  subst h9
  obtain ⟨n, f, hR, hf⟩ := h
  have ho := hR.1
  have hkn := hR.2.1
  have hn33 := hR.2.2.1
  refine x_aload_n (i := 0) rfl rfl dJ2_add_3_5 ?_
  refine x_dup (aCt_ok _) dJ2_add_3_6 ?_
  refine gf_J2_63 rfl (by assumption) rfl dJ2_add_3_7 ?_
  refine x_iconst dJ2_add_3_10 ?_
  refine x_iadd dJ2_add_3_11 ?_
  refine pf_J2_63 (fs' := [_, _, _]) rfl (by assumption) rfl rfl dJ2_add_3_12 fun M1 h1 => ?_
  have ho1 := h1.s
  have hR1 := hR.obj2 h1 hkn
  have hel1 : ∀ x ∈ xs, El G M1 x := fun x hm => (hel x hm).c fun c hc => h1.o hc ((hel x hm).na ho hb)
  have he1 : El G M1 e := he.c fun c hc => h1.o hc (he.na ho hb)
  have hF1 : mF (LsC a d) M M1 := h1.f (Or.inl rfl)
  refine x_aload_n (i := 0) rfl rfl dJ2_add_3_15 ?_
  refine gf_J2_48 rfl (by assumption) rfl dJ2_add_3_16 ?_
  refine x_dup (aCt_ok _) dJ2_add_3_19 ?_
  refine x_istore_n (i := 3) rfl (by decide) dJ2_add_3_20 ?_
  refine x_aload_n (i := 0) rfl rfl dJ2_add_3_21 ?_
  refine gf_J2_9 rfl (by assumption) rfl dJ2_add_3_22 ?_
  refine x_dup (aCt_ok _) dJ2_add_3_25 ?_
  refine x_astore (i := 4) (by decide) dJ2_add_3_26 ?_
  -- behind the growing, if any: the array has room
  have hrest : ∀ (M2 : Mem) (q n' : Nat) (g : Nat → Option Nat) (cn sn : Nat), cn ≤ 1 → sn ≤ 40 → LsR G M2 a q n' g (mod + 1) xs.length → xs.length + 1 ≤ n' → (q = d ∨ mZ M ≤ q) → mF (LsC a d) M M2 → (∀ j, j < xs.length → g j = f j) → El G M2 e → (∀ x ∈ xs, El G M2 x) → ∀ (L : List (Option AV)), L = [some (aR (some a)), some (aI 0), some (aR (some e)), some (aI (xs.length : Int)), some (aR (some q))] →
      X G wJ2_add_3 (rmO 9 1 40) (mEnd G (kV fun M' => ∃ d', Ls G M' a d' (mod + 1) (e :: xs) ∧ (d' = d ∨ mZ M ≤ d') ∧ mF (LsC a d) M M') 1 40) cn sn 38 L [] M2 := by
    intro M2 q n' g cn sn hcn hsn hR2 hn' hq hF hg he2 hel2 L hL
    subst hL
    refine x_gB fun hb2 => ?_
    have hdyn := hR2.dyn (by omega)
    have hqa := hR2.ne (by omega)
    have ho2 := hR2.1
    have hn2 := hR2.2.2.1
    refine x_aload (i := 4) rfl dJ2_add_3_38 ?_
    refine x_iload_n (i := 1) rfl rfl dJ2_add_3_40 ?_
    refine x_aload (i := 4) rfl dJ2_add_3_41 ?_
    refine x_iload_n (i := 1) rfl rfl dJ2_add_3_43 ?_
    refine x_iconst dJ2_add_3_44 ?_
    refine x_iadd dJ2_add_3_45 ?_
    refine x_iload_n (i := 3) rfl rfl dJ2_add_3_46 ?_
    refine x_iload_n (i := 1) rfl rfl dJ2_add_3_47 ?_
    refine x_isub dJ2_add_3_48 ?_
    refine x_copyQ (k := 3) 0 1 xs.length q1549 (by decide) hdyn hdyn (by omega) (by omega) (by omega) (by omega) (by omega) (fun j b hj hb => ?_) rfl (Nat.le_of_ble_eq_true rfl) (Nat.le_of_ble_eq_true rfl) dJ2_add_3_49 fun M3 h3 => ?_
    · rw [Nat.zero_add, hg j hj] at hb
      exact (hel2 b (Ls_at hf hj hb)).ok
    · have h3s := h3.s
      have ho3 := h3.o ho2 (Ne.symm hqa)
      have he3 : El G M3 e := he2.c fun c hc => h3.o hc (he2.nd hdyn hb2)
      refine x_aload (i := 4) rfl dJ2_add_3_52 ?_
      refine x_iload_n (i := 1) rfl rfl dJ2_add_3_54 ?_
      refine x_aload_n (i := 2) rfl rfl dJ2_add_3_55 ?_
      refine u_aast (0) (by assumption) (by decide) (by omega) (by omega) (he3.ok) dJ2_add_3_56 fun M4 h4 => ?_
      have ho4 := h4.o ho3 (Ne.symm hqa)
      refine x_aload_n (i := 0) rfl rfl dJ2_add_3_57 ?_
      refine x_iload_n (i := 3) rfl rfl dJ2_add_3_58 ?_
      refine x_iconst dJ2_add_3_59 ?_
      refine x_iadd dJ2_add_3_60 ?_
      refine pf_J2_48 (fs' := [_, _, _]) rfl (by assumption) rfl rfl dJ2_add_3_61 fun M5 h5 => ?_
      refine x_vret rfl dJ2_add_3_64 ⟨by omega, by omega⟩ ?_
      have hqd : LsC a d q ∨ mZ M ≤ q := hq.imp (fun z => Or.inr z) id
      refine ⟨rfl, q, ⟨n', aup (va_cpy g g 0 1 xs.length) 0 (some e), ⟨h5.s, by simp only [List.length_cons]; omega, hn2, Or.inr ⟨by omega, h5.o h4.s hqa⟩⟩, fun i x hx => ?_⟩, hq, h5.ff (h4.ff (h3.ff hF hqd) hqd) (Or.inl (Or.inl rfl))⟩
      cases i with
      | zero =>
        rw [aup_s]
        simpa using hx
      | succ i =>
        rw [aup_n _ _ (by omega)]
        have hx' : xs[i]? = some x := by simpa using hx
        have hi := (List.getElem?_eq_some_iff.mp hx').1
        rw [← hf i x hx', ← hg i hi]
        simp only [va_cpy]
        rw [if_pos (by omega)]
        congr 1
        omega
  have hlen2 : ∀ {L : List (Option AV)} {E : XE} {st : List AV}, X G wJ2_add_3 (rmO 9 1 40) E 0 0 29 L (aI (n : Int) :: st) M1 → X G wJ2_add_3 (rmO 9 1 40) E 0 0 28 L (aR (some d) :: st) M1 := by
    intro L E st kk
    rcases hR1.2.2.2 with ⟨h3, h4⟩ | ⟨h3, h4⟩
    · subst h3; subst h4
      exact x_alenc hC.2.1 dJ2_add_3_28 kk
    · exact x_alen h4 (by decide) (by omega) dJ2_add_3_28 kk
  refine hlen2 ?_
  refine x_icmp_ne (tgt := 38) (by omega) (by omega) dJ2_add_3_29 (by decide) (fun hne => ?_) (fun hne => ?_)
  · exact hrest M1 d n f 0 0 (by omega) (by omega) hR1 (by omega) (Or.inl rfl) hF1 (fun _ _ => rfl) he1 hel1 _ rfl
  · refine x_aload_n (i := 0) rfl rfl dJ2_add_3_32 ?_
    refine XCl.A (iv_J2_129 rfl (m_Lgrow hC a d n xs.length f (mod + 1) hR1 (by omega) hk (fun j x hj hx => hel1 x (Ls_at hf hj hx))) (rc_o hR1.1 rfl) rfl rfl rfl (hr_ok (by omega)) (hf_ok (by omega) (by omega)) dJ2_add_3_33) fun r M2 h2 => ?_
    obtain ⟨q, n', g, rfl, hq, hF, ho2, hg, hkn2, hn', hj⟩ := h2
    refine x_astore (i := 4) (by decide) dJ2_add_3_36 ?_
    have hz := h1.z
    refine hrest M2 q n' g _ _ (by omega) (by omega) ⟨ho2, by omega, hn', Or.inr ⟨by omega, hg⟩⟩ hkn2 (Or.inr (by omega)) (hF1.tr (hF.mono fun _ _ z => Or.inl z)) hj (he1.c fun c hc => hF.g hc (he.na ho hb)) (fun x hx => (hel1 x hx).c fun c hc => hF.g hc ((hel x hx).na ho hb)) _ rfl
end JM
