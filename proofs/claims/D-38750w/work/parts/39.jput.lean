/-! java.util.TreeMap: put -/
set_option maxRecDepth 100000
section JN
variable {G : GG} {M : Mem}
theorem m_Einit (e k v : Nat) (p : Option Nat) (hM : mG M e = some (cO 10 [aR none, aR none, aR none, aR none, aR none, aI 0])) :
    Ct G wJ23_init [aR (some e), aR (some k), aR (some v), aR p] M 1 0 0 (kV fun M' => mU M M' e (eC k v none none p 1)) := by
  refine Ct.mk rfl rfl (Nat.le_of_ble_eq_true rfl) ?_
  refine x_aload_n (i := 0) rfl rfl dJ23_init_0 ?_
  refine x_objInit q1052 (Nat.le_of_ble_eq_true rfl) (Nat.le_of_ble_eq_true rfl) (by decide) dJ23_init_1 ?_
  refine x_aload_n (i := 0) rfl rfl dJ23_init_4 ?_
  refine x_iconst dJ23_init_5 ?_
  refine pf_J23_9 (fs' := [_, _, _, _, _, _]) rfl (by omega) (by assumption) rfl rfl dJ23_init_6 fun M1 h1 => ?_
  have e1 := h1.s
  refine x_aload_n (i := 0) rfl rfl dJ23_init_9 ?_
  refine x_aload_n (i := 1) rfl rfl dJ23_init_10 ?_
  refine pf_J23_15 (fs' := [_, _, _, _, _, _]) rfl (by assumption) rfl rfl dJ23_init_11 fun M2 h2 => ?_
  have e2 := h2.s
  refine x_aload_n (i := 0) rfl rfl dJ23_init_14 ?_
  refine x_aload_n (i := 2) rfl rfl dJ23_init_15 ?_
  refine pf_J23_19 (fs' := [_, _, _, _, _, _]) rfl (by assumption) rfl rfl dJ23_init_16 fun M3 h3 => ?_
  have e3 := h3.s
  refine x_aload_n (i := 0) rfl rfl dJ23_init_19 ?_
  refine x_aload_n (i := 3) rfl rfl dJ23_init_20 ?_
  refine pf_J23_22 (fs' := [_, _, _, _, _, _]) rfl (by assumption) rfl rfl dJ23_init_21 fun M4 h4 => ?_
  refine x_vret rfl dJ23_init_24 ⟨by omega, by omega⟩ ?_
  exact ⟨rfl, h4.s, by rw [h4.z, h3.z, h2.z, h1.z], fun b hb => by rw [h4.2.2 b hb, h3.2.2 b hb, h2.2.2 b hb, h1.2.2 b hb]⟩
theorem m_Tcmp (hC : gConK G) (m : Nat) (vals root : Option Nat) (sz mod : Int) (i : Bool) (k k2 : Nat) (x x2 : List Nat) (hm : mG M m = some (mC vals root sz mod)) (hk : Ky G M i k x) (hk2 : Ky G M i k2 x2) :
    Ct G wJ4_compare [aR (some m), aR (some k), aR (some k2)] M 10 0 0 (kI fun r M' => cpA x x2 r ∧ M = M') := by
  refine Ct.mk rfl rfl (Nat.le_of_ble_eq_true rfl) ?_
  refine x_aload_n (i := 0) rfl rfl dJ4_compare_0 ?_
  refine gf_J4_16 rfl (by assumption) rfl dJ4_compare_1 ?_
  refine x_ifnonnull (tgt := 20) dJ4_compare_4 (by decide) (fun _ z => absurd z (by simp)) (fun _ => ?_)
  refine x_aload_n (i := 1) rfl rfl dJ4_compare_7 ?_
  refine x_castK rfl hC hk dJ4_compare_8 ?_
  refine x_aload_n (i := 2) rfl rfl dJ4_compare_11 ?_
  refine x_cmpK (x := x) (x2 := x2) rfl hC hk hk2 rfl ⟨Nat.le_of_ble_eq_true rfl, Nat.le_of_ble_eq_true rfl⟩ ⟨by omega, by omega⟩ dJ4_compare_12 fun rr hr => ?_
  refine x_goto (tgt := 31) dJ4_compare_17 (by decide) ?_
  refine x_iret rfl dJ4_compare_31 ⟨by omega, by omega⟩ ?_
  exact ⟨_, rfl, hr, rfl⟩
/-- strings are no entries, no maps -/
theorem Ky.t {M' : Mem} {i : Bool} {k : Nat} {x : List Nat} {m : Nat} {vals : Option Nat} {sz mod : Int} {t : Tr} (h : Ky G M i k x) (hT : TM M m vals sz mod t) (q : mF (TmC m (tIo t)) M M') : Ky G M' i k x := by
  cases i
  · have hcell : ∀ a c, mG M a = some c → (∀ fs, c ≠ cO 10 fs) → (∀ fs, c ≠ cO 7 fs) → mG M' a = some c := by
      intro a c ha h10 h7
      refine q.g ha fun hp => ?_
      rcases hp with hp | hp
      · rw [hp, hT.1] at ha
        exact h7 _ (Option.some.inj ha).symm
      · obtain ⟨c2, hc2⟩ := ad_pt (t := t) none hp
        have h1 := hT.2.1 _ hc2
        have h2 : ∀ (t : Tr) (p : Option Nat) (c : ACl) (a : Nat), (a, c) ∈ tP t p → ∃ fs, c = cO 10 fs := by
          intro t
          induction t using Tr_ind with
          | h0 => intro p c a h; simp [tP_lf] at h
          | h1 b k v x l r ihl ihr =>
            intro p c a h
            simp only [tP_nd, List.mem_cons, List.mem_append] at h
            rcases h with h | h | h
            · injection h with h1 h2
              exact ⟨_, h2⟩
            · exact ihl _ _ _ h
            · exact ihr _ _ _ h
        obtain ⟨fs, h3⟩ := h2 t none c2 a hc2
        rw [h1, h3] at ha
        exact h10 _ (Option.some.inj ha).symm
    obtain ⟨v, y, z, h1, h2, h3, f, h4, h5⟩ := h
    exact ⟨v, y, z, hcell _ _ h1 (fun fs => by simp) (fun fs => by simp), h2, h3, f, hcell _ _ h4 (fun fs => by simp) (fun fs => by simp), h5⟩
  · exact h
theorem TM.link {M' : Mem} {m : Nat} {vals : Option Nat} {sz mod : Int} {f : Fr} {cx : List Fr} {e k v : Nat} (h : TM M m vals sz mod (plug (f :: cx) lf)) (he : mZ M ≤ e) (h1 : mG M' e = some (eC k v none none (some f.2.1) 1)) (h2 : mG M' f.2.1 = some (fcl f (some e) (top cx))) (h3 : ∀ a, a < mZ M → a ≠ f.2.1 → mG M' a = mG M a) :
    TM M' m vals sz mod (plug (f :: cx) (nd e k v 1 lf lf)) := by
  have hmad := h.m_ad
  have hnd := h.2.2.1
  obtain ⟨hm, -, hX, hok⟩ := h.at
  have hlt : ∀ a, a ∈ adC (f :: cx) → a < mZ M := by
    intro a ha
    have h4 : a ∈ adT (plug (f :: cx) lf) := (adT_plug ..).mpr (Or.inr ha)
    obtain ⟨c, hc⟩ := ad_pt none h4
    exact mG_lt (h.2.1 _ hc)
  have hne : ∀ a, a ∈ adC (f :: cx) → a ≠ e := fun a ha q => by have := hlt a ha; omega
  obtain ⟨x1, x2, x3⟩ := hX.fr
  obtain ⟨d, a, k9, v9, c9, s⟩ := f
  obtain ⟨n16, n17, n18, n19, n20⟩ := nd_cons hnd
  have ic := adC_cons d a k9 v9 c9 s cx
  have ia : a ∈ adC ((d, a, k9, v9, c9, s) :: cx) := (ic a).mpr (Or.inl rfl)
  rw [adT_plug] at hmad
  refine TM.of ?_ (HM.mkn h1 (fun q hq => (by rw [tP_lf] at hq; cases hq)) (fun q hq => (by rw [tP_lf] at hq; cases hq))) (HM.mkf h2 (x2.uT fun b hb => ?_) (x3.uC fun b hb => ?_)) ?_ ⟨⟨Or.inr rfl, trivial, trivial⟩, hok.2⟩
  · rw [h3 m (mG_lt hm) fun q => hmad (Or.inr (q ▸ ia))]
    exact hm
  · exact h3 b (hlt b ((ic b).mpr (Or.inr (Or.inl hb)))) fun q => n17 ((show b = a from q) ▸ hb)
  · exact h3 b (hlt b ((ic b).mpr (Or.inr (Or.inr hb)))) fun q => n18 ((show b = a from q) ▸ hb)
  · simp only [adT, plug_io, List.map_append, tIo_lf, List.map_nil, List.nil_append, tIo_nd, List.map_cons] at hnd ⊢
    rw [List.nodup_append] at hnd ⊢
    obtain ⟨w1, w2, w3⟩ := hnd
    refine ⟨w1, ?_, fun b hb b2 hb2 => ?_⟩
    · show (e :: _).Nodup
      rw [List.nodup_cons]
      exact ⟨fun q => hne e (List.mem_append_right _ q) rfl, w2⟩
    · have hb2 : b2 ∈ e :: List.map (fun x => x.1) (cr ((d, a, k9, v9, c9, s) :: cx)) := hb2
      rcases List.mem_cons.mp hb2 with q | q
      · rw [q]
        exact hne b (List.mem_append_left _ hb)
      · exact w3 b hb b2 q
theorem m_addE (m : Nat) (vals : Option Nat) (sz mod : Int) (d : Bool) (p kp vp : Nat) (cp : Int) (s : Tr) (cx : List Fr) (k v : Nat) (z : Int) (hz : z = if d then 1 else 0) (h : TM M m vals sz mod (plug ((d, p, kp, vp, cp, s) :: cx) lf)) :
    Ct G wJ4_addEntry [aR (some m), aR (some k), aR (some v), aR (some p), aI z] M 3 1 6 (kV fun M' => ∃ sz' mod' t', TM M' m vals sz' mod' t' ∧ tIo t' = cl ((d, p, kp, vp, cp, s) :: cx) ++ (mZ M, k, v) :: cr ((d, p, kp, vp, cp, s) :: cx) ∧ mF (TmC m (tIo (plug ((d, p, kp, vp, cp, s) :: cx) lf))) M M') := by
  refine Ct.mk rfl rfl (Nat.le_of_ble_eq_true rfl) ?_
  have hX := h.at.2.2.1
  have hp : mG M p = some (fcl (d, p, kp, vp, cp, s) none (top cx)) := hX.fr.1
  have hm := h.1
  refine nw_J4_59 rfl (hf_ok (by omega) (by omega)) dJ4_addEntry_0 fun e M1 hA => ?_
  have he := hA.q
  subst he
  refine x_dup (aCt_ok _) dJ4_addEntry_3 ?_
  refine x_aload_n (i := 1) rfl rfl dJ4_addEntry_4 ?_
  refine x_aload_n (i := 2) rfl rfl dJ4_addEntry_5 ?_
  refine x_aload_n (i := 3) rfl rfl dJ4_addEntry_6 ?_
  refine XCl.V (iv_J4_167 rfl (m_Einit (mZ M) k v (some p) hA.s) rfl rfl rfl (hr_ok (by omega)) (hf_ok (by omega) (by omega)) dJ4_addEntry_7) fun M2 h2 => ?_
  have hlt := mG_lt hp
  have hpe : p ≠ mZ M := by omega
  have hp2 := h2.o (hA.e.g hp) hpe
  have hfo : ∀ M3 : Mem, mU M2 M3 p (fcl (d, p, kp, vp, cp, s) (some (mZ M)) (top cx)) → TM M3 m vals sz mod (plug ((d, p, kp, vp, cp, s) :: cx) (nd (mZ M) k v 1 lf lf)) ∧ mF (TmC m (tIo (plug ((d, p, kp, vp, cp, s) :: cx) lf))) M M3 := by
    intro M3 h3
    have hin : p ∈ (tIo (plug ((d, p, kp, vp, cp, s) :: cx) lf)).map (·.1) := (adT_plug ..).mpr (Or.inr ((adC_cons ..).mpr (Or.inl rfl)))
    refine ⟨h.link (Nat.le_refl _) (h3.o h2.s (Ne.symm hpe)) h3.s fun a ha hne => ?_, ?_⟩
    · rw [h3.2.2 a hne, h2.2.2 a (by omega)]
      exact hA.e.2 a ha
    · exact h3.ff (h2.ff (hA.e.f _) (Or.inr (Nat.le_refl _))) (Or.inl (Or.inr hin))
  have fin : ∀ (M3 : Mem) (y : Option AV), TM M3 m vals sz mod (plug ((d, p, kp, vp, cp, s) :: cx) (nd (mZ M) k v 1 lf lf)) ∧ mF (TmC m (tIo (plug ((d, p, kp, vp, cp, s) :: cx) lf))) M M3 →
      X G wJ4_addEntry (rmO 3 1 6) (mEnd G (kV fun M' => ∃ sz' mod' t', TM M' m vals sz' mod' t' ∧ tIo t' = cl ((d, p, kp, vp, cp, s) :: cx) ++ (mZ M, k, v) :: cr ((d, p, kp, vp, cp, s) :: cx) ∧ mF (TmC m (tIo (plug ((d, p, kp, vp, cp, s) :: cx) lf))) M M') 1 6) 1 6 32 [some (aR (some m)), some (aR (some k)), some (aR (some v)), some (aR (some p)), y, some (aR (some (mZ M)))] [] M3 := by
    intro M3 y hh
    obtain ⟨hT, hF⟩ := hh
    have hm3 := hT.1
    refine x_aload_n (i := 0) rfl rfl dJ4_addEntry_32 ?_
    refine x_aload (i := 5) rfl dJ4_addEntry_33 ?_
    refine XCl.V (iv_J4_170 rfl (m_fixI M3 m vals sz mod _ ((d, p, kp, vp, cp, s) :: cx) (mZ M) k v 1 lf lf ⟨hT, rfl, mF.rf _ _⟩) (rc_o hm3 rfl) rfl rfl rfl (hr_ok (by omega)) (hf_ok (by omega) (by omega)) dJ4_addEntry_35) fun M4 h4 => ?_
    obtain ⟨t4, hT4, hio, hF4⟩ := h4
    have hm4 := hT4.1
    refine x_aload_n (i := 0) rfl rfl dJ4_addEntry_38 ?_
    refine x_dup (aCt_ok _) dJ4_addEntry_39 ?_
    refine gf_J4_7 rfl (by assumption) rfl dJ4_addEntry_40 ?_
    refine x_iconst dJ4_addEntry_43 ?_
    refine x_iadd dJ4_addEntry_44 ?_
    refine pf_J4_7 (fs' := [_, _, _, _, _, _, _, _, _]) rfl (by assumption) rfl rfl dJ4_addEntry_45 fun M5 h5 => ?_
    have hm5 := h5.s
    refine x_aload_n (i := 0) rfl rfl dJ4_addEntry_48 ?_
    refine x_dup (aCt_ok _) dJ4_addEntry_49 ?_
    refine gf_J4_13 rfl (by assumption) rfl dJ4_addEntry_50 ?_
    refine x_iconst dJ4_addEntry_53 ?_
    refine x_iadd dJ4_addEntry_54 ?_
    refine pf_J4_13 (fs' := [_, _, _, _, _, _, _, _, _]) rfl (by assumption) rfl rfl dJ4_addEntry_55 fun M6 h6 => ?_
    refine x_vret rfl dJ4_addEntry_58 ⟨by omega, by omega⟩ ?_
    have hoth : ∀ a, a ≠ m → mG M6 a = mG M4 a := fun a ha => by rw [h6.2.2 a ha, h5.2.2 a ha]
    refine ⟨rfl, _, _, t4, ⟨h6.s, fun q hq => ?_, hT4.2.2.1, hT4.2.2.2⟩, ?_, ?_⟩
    · rw [hoth q.1 fun z => hT4.m_ad (z ▸ pt_ad hq)]
      exact hT4.2.1 q hq
    · rw [hio, plug_io]
      rfl
    · refine ⟨by have := hF.1; have := hF4.1; rw [h6.z, h5.z]; omega, fun a ha hp => ?_⟩
      have ha4 : a < mZ M3 := by have := hF.1; omega
      rw [hoth a fun z => hp (Or.inl z), hF4.2 a ha4 ?_, hF.2 a ha hp]
      intro z
      rcases z with z | z
      · exact hp (Or.inl z)
      · rw [plug_io, List.map_append] at z
        refine hp (Or.inr ?_)
        rw [plug_io, List.map_append]
        rcases List.mem_append.mp z with z | z
        · exact List.mem_append_left _ z
        · refine List.mem_append_right _ ?_
          rw [tIo_nd, tIo_lf] at z
          have z : a ∈ mZ M :: List.map (fun x => x.1) (cr ((d, p, kp, vp, cp, s) :: cx)) := z
          rcases List.mem_cons.mp z with z | z
          · omega
          · exact z
  cases d with
  | true =>
    have hz1 : z = 1 := hz
    subst hz1
    refine x_astore (i := 5) (by decide) dJ4_addEntry_10 ?_
    refine x_iload (i := 4) rfl dJ4_addEntry_12 ?_
    refine x_if_eq (tgt := 26) (by omega) dJ4_addEntry_14 (by decide) (fun z => absurd z (by omega)) (fun _ => ?_)
    simp only [fcl] at hp2 hfo
    refine x_aload_n (i := 3) rfl rfl dJ4_addEntry_17 ?_
    refine x_aload (i := 5) rfl dJ4_addEntry_18 ?_
    refine pf_J4_111 (fs' := [_, _, _, _, _, _]) rfl (by assumption) rfl rfl dJ4_addEntry_20 fun M3 h3 => ?_
    refine x_goto (tgt := 32) dJ4_addEntry_23 (by decide) ?_
    exact fin M3 _ (hfo M3 h3)
  | false =>
    have hz1 : z = 0 := hz
    subst hz1
    refine x_astore (i := 5) (by decide) dJ4_addEntry_10 ?_
    refine x_iload (i := 4) rfl dJ4_addEntry_12 ?_
    refine x_if_eq (tgt := 26) (by omega) dJ4_addEntry_14 (by decide) (fun _ => ?_) (fun z => absurd z (by omega))
    simp only [fcl] at hp2 hfo
    refine x_aload_n (i := 3) rfl rfl dJ4_addEntry_26 ?_
    refine x_aload (i := 5) rfl dJ4_addEntry_27 ?_
    refine pf_J4_114 (fs' := [_, _, _, _, _, _]) rfl (by assumption) rfl rfl dJ4_addEntry_29 fun M3 h3 => ?_
    exact fin M3 _ (hfo M3 h3)
end JN
