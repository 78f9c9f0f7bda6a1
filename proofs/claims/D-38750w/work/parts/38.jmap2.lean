/-! java.util.TreeMap: the constructor, clear, get -/
set_option maxRecDepth 100000
section JN
variable {G : GG} {M : Mem}
theorem m_Tinit (m : Nat) (hM : mG M m = some (mC none none 0 0)) :
    Ct G wJ4_init [aR (some m)] M 2 0 0 (kV fun M' => mU M M' m (mC none none 0 0)) := by
  refine Ct.mk rfl rfl (Nat.le_of_ble_eq_true rfl) ?_
  have habs : Ct G wJ3_init [aR (some m)] M 1 0 0 (kV fun M' => M = M') := by
    refine Ct.mk rfl rfl (Nat.le_of_ble_eq_true rfl) ?_
    refine x_aload_n (i := 0) rfl rfl dJ3_init_0 ?_
    refine x_objInit q157 (Nat.le_of_ble_eq_true rfl) (Nat.le_of_ble_eq_true rfl) (by decide) dJ3_init_1 ?_
    refine x_vret rfl dJ3_init_4 ⟨by omega, by omega⟩ ?_
    exact ⟨rfl, rfl⟩
  refine x_aload_n (i := 0) rfl rfl dJ4_init_0 ?_
  refine XCl.V (iv_J4_1 rfl (habs) rfl rfl rfl (hr_ok (by omega)) (hf_ok (by omega) (by omega)) dJ4_init_1) fun M9 h9 => ?_
  subst h9
  refine x_aload_n (i := 0) rfl rfl dJ4_init_4 ?_
  refine x_iconst dJ4_init_5 ?_
  refine pf_J4_7 (fs' := [_, _, _, _, _, _, _, _, _]) rfl (by assumption) rfl rfl dJ4_init_6 fun M1 h1 => ?_
  have e1 := h1.s
  refine x_aload_n (i := 0) rfl rfl dJ4_init_9 ?_
  refine x_iconst dJ4_init_10 ?_
  refine pf_J4_13 (fs' := [_, _, _, _, _, _, _, _, _]) rfl (by assumption) rfl rfl dJ4_init_11 fun M2 h2 => ?_
  have e2 := h2.s
  refine x_aload_n (i := 0) rfl rfl dJ4_init_14 ?_
  refine x_null dJ4_init_15 ?_
  refine pf_J4_16 (fs' := [_, _, _, _, _, _, _, _, _]) rfl rfl (by assumption) rfl rfl dJ4_init_16 fun M3 h3 => ?_
  refine x_vret rfl dJ4_init_19 ⟨by omega, by omega⟩ ?_
  exact ⟨rfl, h3.s, by rw [h3.z, h2.z, h1.z], fun b hb => by rw [h3.2.2 b hb, h2.2.2 b hb, h1.2.2 b hb]⟩
theorem TM_empty {m : Nat} {vals : Option Nat} {sz mod : Int} (h : mG M m = some (mC vals none sz mod)) : TM M m vals sz mod lf := ⟨h, fun q hq => (by rw [tP_lf] at hq; cases hq), List.nodup_nil, trivial⟩
theorem m_Tclear (m : Nat) (i : Bool) (vals : Option Nat) (A : List Nat) (es : List (List Nat × Nat)) (h : Mp G M m i vals A es) :
    Ct G wJ4_clear [aR (some m)] M 1 0 0 (kV fun M' => Mp G M' m i vals [] [] ∧ mF (fun x => x = m) M M') := by
  refine Ct.mk rfl rfl (Nat.le_of_ble_eq_true rfl) ?_
  obtain ⟨sz, mod, t, h1, -, -, -⟩ := h
  have hm := h1.1
  refine x_aload_n (i := 0) rfl rfl dJ4_clear_0 ?_
  refine x_dup (aCt_ok _) dJ4_clear_1 ?_
  refine gf_J4_13 rfl (by assumption) rfl dJ4_clear_2 ?_
  refine x_iconst dJ4_clear_5 ?_
  refine x_iadd dJ4_clear_6 ?_
  refine pf_J4_13 (fs' := [_, _, _, _, _, _, _, _, _]) rfl (by assumption) rfl rfl dJ4_clear_7 fun M1 h1 => ?_
  have e1 := h1.s
  refine x_aload_n (i := 0) rfl rfl dJ4_clear_10 ?_
  refine x_iconst dJ4_clear_11 ?_
  refine pf_J4_7 (fs' := [_, _, _, _, _, _, _, _, _]) rfl (by assumption) rfl rfl dJ4_clear_12 fun M2 h2 => ?_
  have e2 := h2.s
  refine x_aload_n (i := 0) rfl rfl dJ4_clear_15 ?_
  refine x_null dJ4_clear_16 ?_
  refine pf_J4_101 (fs' := [_, _, _, _, _, _, _, _, _]) rfl (by assumption) rfl rfl dJ4_clear_17 fun M3 h3 => ?_
  refine x_vret rfl dJ4_clear_20 ⟨by omega, by omega⟩ ?_
  refine ⟨rfl, ⟨_, _, lf, TM_empty h3.s, trivial, List.Pairwise.nil, rfl⟩, ?_⟩
  have f1 : mF (fun x => x = m) M M1 := h1.f rfl
  exact h3.ff (h2.ff f1 (Or.inl rfl)) (Or.inl rfl)
theorem m_TgetE (hC : gConK G) (m : Nat) (vals : Option Nat) (sz mod : Int) (t : Tr) (i : Bool) (es : List (List Nat × Nat)) (k : Nat) (x : List Nat) (h : TM M m vals sz mod t) (hK : KL G M i (tIo t) es) (hs : Srt es) (hk : Ky G M i k x) :
    Ct G wJ4_getEntry [aR (some m), aR (some k)] M 10 0 0 (kR fun r M' => ((r = none ∧ ∀ p, p ∈ es → p.1 ≠ x) ∨ ∃ a k2 v c l r2 cx, r = some a ∧ t = plug cx (nd a k2 v c l r2) ∧ Fnd G M i x es cx k2 v l r2) ∧ M = M') := by
  refine Ct.mk rfl rfl (Nat.le_of_ble_eq_true rfl) ?_
  have hm := h.1
  refine x_aload_n (i := 0) rfl rfl dJ4_getEntry_0 ?_
  refine gf_J4_16 rfl (by assumption) rfl dJ4_getEntry_1 ?_
  refine x_ifnull (tgt := 13) dJ4_getEntry_4 (by decide) (fun _ => ?_) (fun _ z => absurd z (by simp))
  refine x_aload_n (i := 1) rfl rfl dJ4_getEntry_13 ?_
  refine XCl.A (iv_J4_95 rfl (m_req k) rfl rfl rfl (hr_ok (by omega)) (hf_ok (by omega) (by omega)) dJ4_getEntry_14) fun r9 M9 h9 => ?_
  obtain ⟨rfl, rfl⟩ := h9
  refine x_pop (aCt_ok _) dJ4_getEntry_17 ?_
  refine x_aload_n (i := 1) rfl rfl dJ4_getEntry_18 ?_
  refine x_castK rfl hC hk dJ4_getEntry_19 ?_
  refine x_astore_n (i := 2) rfl (by decide) dJ4_getEntry_22 ?_
  refine x_aload_n (i := 0) rfl rfl dJ4_getEntry_23 ?_
  refine gf_J4_101 rfl (by assumption) rfl dJ4_getEntry_24 ?_
  refine x_astore_n (i := 3) rfl (by decide) dJ4_getEntry_27 ?_
  have loop : ∀ (t1 : Tr) (cx : List Fr) (y : Option AV), Sch G M i x t es cx t1 →
      X G wJ4_getEntry (rmO 10 0 0) (mEnd G (kR fun r M' => ((r = none ∧ ∀ p, p ∈ es → p.1 ≠ x) ∨ ∃ a k2 v c l r2 cx, r = some a ∧ t = plug cx (nd a k2 v c l r2) ∧ Fnd G M i x es cx k2 v l r2) ∧ M = M') 0 0) 0 0 28 [some (aR (some m)), some (aR (some k)), some (aR (some k)), some (aR (tR t1)), y] [] M := by
    intro t1
    induction t1 using Tr_ind with
    | h0 =>
      intro cx y hS
      refine x_aload_n (i := 3) rfl rfl dJ4_getEntry_28 ?_
      refine x_ifnull (tgt := 75) dJ4_getEntry_29 (by decide) (fun _ => ?_) (fun _ z => absurd z (by simp [tR]))
      refine x_null dJ4_getEntry_75 ?_
      refine x_aret rfl (Or.inl ⟨_, rfl⟩) dJ4_getEntry_76 ⟨by omega, by omega⟩ ?_
      exact ⟨_, rfl, Or.inl ⟨rfl, hS.out.1⟩, rfl⟩
    | h1 a k2 v c l r ihl ihr =>
      intro cx y hS
      have ht := hS.1
      have hT := h
      rw [ht] at hT
      have ha := hT.at.2.1.dn.1
      obtain ⟨y2, hy, s1, s2, s3⟩ := hS.nd hs
      refine x_aload_n (i := 3) rfl rfl dJ4_getEntry_28 ?_
      refine x_ifnull (tgt := 75) dJ4_getEntry_29 (by decide) (fun z => absurd z (by simp [tR])) (fun z e => ?_)
      refine x_aload_n (i := 2) rfl rfl dJ4_getEntry_32 ?_
      refine x_aload_n (i := 3) rfl rfl dJ4_getEntry_33 ?_
      refine gf_J4_105 rfl (by assumption) rfl dJ4_getEntry_34 ?_
      refine x_cmpK (x := x) (x2 := y2) rfl hC hk hy rfl ⟨Nat.le_of_ble_eq_true rfl, Nat.le_of_ble_eq_true rfl⟩ ⟨by omega, by omega⟩ dJ4_getEntry_37 fun rr hr => ?_
      rcases hr with ⟨r1, r2⟩ | ⟨r1, r2⟩ | ⟨r1, r2⟩
      · refine x_istore (i := 4) (by decide) dJ4_getEntry_42 ?_
        refine x_iload (i := 4) rfl dJ4_getEntry_44 ?_
        refine x_if_ge (tgt := 57) (by omega) dJ4_getEntry_46 (by decide) (fun z => absurd z (by omega)) (fun _ => ?_)
        refine x_aload_n (i := 3) rfl rfl dJ4_getEntry_49 ?_
        refine gf_J4_111 rfl (by assumption) rfl dJ4_getEntry_50 ?_
        refine x_astore_n (i := 3) rfl (by decide) dJ4_getEntry_53 ?_
        refine x_goto (tgt := 72) dJ4_getEntry_54 (by decide) ?_
        refine x_goto (tgt := 28) dJ4_getEntry_72 (by decide) ?_
        exact ihl _ _ (s1 r2)
      · subst r1
        refine x_istore (i := 4) (by decide) dJ4_getEntry_42 ?_
        refine x_iload (i := 4) rfl dJ4_getEntry_44 ?_
        refine x_if_ge (tgt := 57) (by omega) dJ4_getEntry_46 (by decide) (fun _ => ?_) (fun z => absurd z (by omega))
        refine x_iload (i := 4) rfl dJ4_getEntry_57 ?_
        refine x_if_le (tgt := 70) (by omega) dJ4_getEntry_59 (by decide) (fun _ => ?_) (fun z => absurd z (by omega))
        refine x_aload_n (i := 3) rfl rfl dJ4_getEntry_70 ?_
        refine x_aret rfl (Or.inl ⟨_, rfl⟩) dJ4_getEntry_71 ⟨by omega, by omega⟩ ?_
        exact ⟨_, rfl, Or.inr ⟨a, k2, v, c, l, r, cx, rfl, ht, s3 r2⟩, rfl⟩
      · refine x_istore (i := 4) (by decide) dJ4_getEntry_42 ?_
        refine x_iload (i := 4) rfl dJ4_getEntry_44 ?_
        refine x_if_ge (tgt := 57) (by omega) dJ4_getEntry_46 (by decide) (fun _ => ?_) (fun z => absurd z (by omega))
        refine x_iload (i := 4) rfl dJ4_getEntry_57 ?_
        refine x_if_le (tgt := 70) (by omega) dJ4_getEntry_59 (by decide) (fun z => absurd z (by omega)) (fun _ => ?_)
        refine x_aload_n (i := 3) rfl rfl dJ4_getEntry_62 ?_
        refine gf_J4_114 rfl (by assumption) rfl dJ4_getEntry_63 ?_
        refine x_astore_n (i := 3) rfl (by decide) dJ4_getEntry_66 ?_
        refine x_goto (tgt := 72) dJ4_getEntry_67 (by decide) ?_
        refine x_goto (tgt := 28) dJ4_getEntry_72 (by decide) ?_
        exact ihr _ _ (s2 r2)
  exact loop t [] _ (Sch.init x hK)
theorem m_Tget (hC : gConK G) (m : Nat) (vals : Option Nat) (i : Bool) (A : List Nat) (es : List (List Nat × Nat)) (k : Nat) (x : List Nat) (h : Mp G M m i vals A es) (hk : Ky G M i k x) :
    Ct G wJ4_get [aR (some m), aR (some k)] M 11 0 0 (kR fun r M' => r = mget es x ∧ M = M') := by
  refine Ct.mk rfl rfl (Nat.le_of_ble_eq_true rfl) ?_
  obtain ⟨sz, mod, t, h1, h2, h3, -⟩ := h
  have hm := h1.1
  refine x_aload_n (i := 0) rfl rfl dJ4_get_0 ?_
  refine x_aload_n (i := 1) rfl rfl dJ4_get_1 ?_
  refine XCl.A (iv_J4_50 rfl (m_TgetE hC m vals sz mod t i es k x h1 h2 h3 hk) (rc_o hm rfl) rfl rfl rfl (hr_ok (by omega)) (hf_ok (by omega) (by omega)) dJ4_get_2) fun r9 M9 h9 => ?_
  obtain ⟨hr, rfl⟩ := h9
  rcases hr with ⟨rfl, hn⟩ | ⟨a, k2, v, c, l, r2, cx, rfl, ht, e1, e3, he, -, -, -, h4, -⟩
  · refine x_astore_n (i := 2) rfl (by decide) dJ4_get_5 ?_
    refine x_aload_n (i := 2) rfl rfl dJ4_get_6 ?_
    refine x_ifnonnull (tgt := 14) dJ4_get_7 (by decide) (fun _ z => absurd z (by simp)) (fun _ => ?_)
    refine x_null dJ4_get_10 ?_
    refine x_goto (tgt := 18) dJ4_get_11 (by decide) ?_
    refine x_aret rfl (Or.inl ⟨_, rfl⟩) dJ4_get_18 ⟨by omega, by omega⟩ ?_
    exact ⟨_, rfl, (mget_out es x hn).symm, rfl⟩
  · rw [ht] at h1
    have ha := h1.at.2.1.dn.1
    refine x_astore_n (i := 2) rfl (by decide) dJ4_get_5 ?_
    refine x_aload_n (i := 2) rfl rfl dJ4_get_6 ?_
    refine x_ifnonnull (tgt := 14) dJ4_get_7 (by decide) (fun z e => ?_) (fun z => absurd z (by simp))
    refine x_aload_n (i := 2) rfl rfl dJ4_get_14 ?_
    refine gf_J4_58 rfl (by assumption) rfl dJ4_get_15 ?_
    refine x_aret rfl (Or.inl ⟨_, rfl⟩) dJ4_get_18 ⟨by omega, by omega⟩ ?_
    exact ⟨_, rfl, by rw [he, mget_in e1 e3 x v h4], rfl⟩
end JN
