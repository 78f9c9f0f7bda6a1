/-! java.util.TreeMap: fixAfterDeletion -/
set_option maxRecDepth 100000
section JN
variable {G : GG} {M : Mem}
theorem m_fixD (M0 : Mem) (m : Nat) (vals : Option Nat) (sz mod : Int) (L : List (Nat × Nat × Nat)) (cx : List Fr) (a k v : Nat) (c : Int) (l r : Tr) (X0 : Tr) (hX0 : X0 = nd a k v c l r) (h : TL M0 M m vals sz mod L (plug cx X0)) :
    Ct G wJ4_fixAfterDeletion [aR (some m), aR (some a)] M 2 0 0 (kV fun M' => ∃ t, TL M0 M' m vals sz mod L t ∧ ∀ a0, tLf a0 X0 → tLf a0 t) := by
  refine Ct.mk rfl rfl (Nat.le_of_ble_eq_true rfl) ?_
  have fin : ∀ (M1 : Mem) (cx : List Fr) (Y : Tr) (y : Option AV), TL M0 M1 m vals sz mod L (plug cx Y) → (∀ a0, tLf a0 X0 → tLf a0 Y) →
      X G wJ4_fixAfterDeletion (rmO 2 0 0) (mEnd G (kV fun M' => ∃ t, TL M0 M' m vals sz mod L t ∧ ∀ a0, tLf a0 X0 → tLf a0 t) 0 0) 0 0 345 [some (aR (some m)), some (aR (tR Y)), y] [] M1 := by
    intro M1 cx Y y h1 hq
    refine x_aload_n (i := 1) rfl rfl dJ4_fixAfterDeletion_345 ?_
    refine x_iconst dJ4_fixAfterDeletion_346 ?_
    refine XCl.V (iv_J4_307 rfl (TL.setc h1 1 (Or.inr rfl)) rfl rfl rfl (hr_ok (by omega)) (hf_ok (by omega) (by omega)) dJ4_fixAfterDeletion_347) fun M2 h2 => ?_
    refine x_vret rfl dJ4_fixAfterDeletion_350 ⟨by omega, by omega⟩ ?_
    refine ⟨rfl, _, h2, fun a0 ha => tLf_plug ?_⟩
    have h3 := hq a0 ha
    induction Y using Tr_ind with
    | h0 => exact h3
    | h1 b kb vb cb lb rb _ _ => exact h3
  have head : ∀ (M1 : Mem) (cx : List Fr) (a k v : Nat) (c : Int) (l r : Tr) (y : Option AV), TL M0 M1 m vals sz mod L (plug cx (nd a k v c l r)) → (∀ a0, tLf a0 X0 → tLf a0 (nd a k v c l r)) →
      (∀ f cx', cx = f :: cx' → c = 1 → X G wJ4_fixAfterDeletion (rmO 2 0 0) (mEnd G (kV fun M' => ∃ t, TL M0 M' m vals sz mod L t ∧ ∀ a0, tLf a0 X0 → tLf a0 t) 0 0) 0 0 16 [some (aR (some m)), some (aR (some a)), y] [] M1) →
      X G wJ4_fixAfterDeletion (rmO 2 0 0) (mEnd G (kV fun M' => ∃ t, TL M0 M' m vals sz mod L t ∧ ∀ a0, tLf a0 X0 → tLf a0 t) 0 0) 0 0 0 [some (aR (some m)), some (aR (some a)), y] [] M1 := by
    intro M1 cx a k v c l r y h1 hq hk
    have hm := h1.1.at.1
    have hok := h1.1.at.2.2.2
    have hc : c = 0 ∨ c = 1 := hok.1.1
    have nx := TL.nf (cx := cx) (nd a k v c l r) h1
    refine x_aload_n (i := 1) rfl rfl dJ4_fixAfterDeletion_0 ?_
    refine x_aload_n (i := 0) rfl rfl dJ4_fixAfterDeletion_1 ?_
    refine gf_J4_101 rfl (by assumption) rfl dJ4_fixAfterDeletion_2 ?_
    cases cx with
    | nil =>
      refine x_acmp_eq (tgt := 345) dJ4_fixAfterDeletion_5 (by decide) (fun _ => ?_) (fun z => absurd z (by simp [crt, tR]))
      exact fin M1 [] (nd a k v c l r) _ h1 hq
    | cons f cx' =>
      obtain ⟨b, hb, hb2⟩ := crt_ad (f := f) (cx := cx') (tR (nd a k v c l r))
      have hn := (nd_plug h1.1.2.2.1).2 a ((adT_nd ..).mpr (Or.inl rfl))
      refine x_acmp_eq (tgt := 345) dJ4_fixAfterDeletion_5 (by decide) (fun z => absurd z (fun q => hn (by rw [hb] at z; rw [Option.some.inj z]; exact hb2))) (fun _ => ?_)
      refine x_aload_n (i := 1) rfl rfl dJ4_fixAfterDeletion_8 ?_
      refine XCl.I (iv_J4_303 rfl (m_colorOf _ _ _ _ _ nx) rfl rfl rfl (hr_ok (by omega)) (hf_ok (by omega) (by omega)) dJ4_fixAfterDeletion_9) fun r9 M9 h9 => ?_
      obtain ⟨hr9, rfl⟩ := h9
      have hr9 : r9 = c := hr9
      refine x_iconst dJ4_fixAfterDeletion_12 ?_
      refine x_icmp_ne (tgt := 345) (by omega) (by omega) dJ4_fixAfterDeletion_13 (by decide) (fun h9 => ?_) (fun h9 => ?_)
      · exact fin M1 (f :: cx') (nd a k v c l r) _ h1 hq
      · exact hk _ _ rfl (by omega)
  -- the root as what is looked at next: the end
  have last : ∀ (M1 : Mem) (T : Tr) (y : Option AV), TL M0 M1 m vals sz mod L T → tR T ≠ none → (∀ a0, tLf a0 X0 → tLf a0 T) →
      X G wJ4_fixAfterDeletion (rmO 2 0 0) (mEnd G (kV fun M' => ∃ t, TL M0 M' m vals sz mod L t ∧ ∀ a0, tLf a0 X0 → tLf a0 t) 0 0) 0 0 0 [some (aR (some m)), some (aR (tR T)), y] [] M1 := by
    intro M1 T y h1 hne hq
    rcases hr : tR T with _ | b
    · exact absurd hr hne
    · obtain ⟨kb, vb, cb, lb, rb, rfl⟩ := tR_some hr
      exact head M1 [] b kb vb cb lb rb y h1 hq (fun f cx' hf => by cases hf)
  have tailL : ∀ (M1 : Mem) (cx1 : List Fr) (a k v : Nat) (c : Int) (l r : Tr) (p kp vp : Nat) (cp : Int) (sa sk sv : Nat) (sc : Int) (A B : Tr), TL M0 M1 m vals sz mod L (plug ((true, p, kp, vp, cp, (nd sa sk sv sc A B)) :: cx1) (nd a k v c l r)) → (∀ a0, tLf a0 X0 → tLf a0 (nd a k v c l r)) →
      X G wJ4_fixAfterDeletion (rmO 2 0 0) (mEnd G (kV fun M' => ∃ t, TL M0 M' m vals sz mod L t ∧ ∀ a0, tLf a0 X0 → tLf a0 t) 0 0) 0 0 143 [some (aR (some m)), some (aR (some a)), some (aR (some sa))] [] M1 := by
    intro M1 cx1 a k v c l r p kp vp cp sa sk sv sc A B h1 hq
    have hcp : cp = 0 ∨ cp = 1 := (TM.at (cx := cx1) (t := (nd p kp vp cp (nd a k v c l r) (nd sa sk sv sc A B))) h1.1).2.2.2.1.1
    refine x_aload_n (i := 2) rfl rfl dJ4_fixAfterDeletion_143 ?_
    refine x_aload_n (i := 1) rfl rfl dJ4_fixAfterDeletion_144 ?_
    refine XCl.A (iv_J4_294 rfl (m_parentOf _ _ _ _ _ (TL.nf (cx := (true, p, kp, vp, cp, (nd sa sk sv sc A B)) :: cx1) (nd a k v c l r) h1)) rfl rfl rfl (hr_ok (by omega)) (hf_ok (by omega) (by omega)) dJ4_fixAfterDeletion_145) fun r9 M9 h9 => ?_
    obtain ⟨rfl, rfl⟩ := h9
    refine XCl.I (iv_J4_303 rfl (m_colorOf _ _ _ _ _ (TL.nf (cx := cx1) (nd p kp vp cp (nd a k v c l r) (nd sa sk sv sc A B)) h1)) rfl rfl rfl (hr_ok (by omega)) (hf_ok (by omega) (by omega)) dJ4_fixAfterDeletion_148) fun r9 M9 h9 => ?_
    obtain ⟨hr9, rfl⟩ := h9
    rw [show r9 = cp from hr9]
    refine XCl.V (iv_J4_307 rfl (TL.setc (cx := (false, p, kp, vp, cp, (nd a k v c l r)) :: cx1) (t := (nd sa sk sv sc A B)) h1 cp hcp) rfl rfl rfl (hr_ok (by omega)) (hf_ok (by omega) (by omega)) dJ4_fixAfterDeletion_151) fun M2 h2 => ?_
    refine x_aload_n (i := 1) rfl rfl dJ4_fixAfterDeletion_154 ?_
    refine XCl.A (iv_J4_294 rfl (m_parentOf _ _ _ _ _ (TL.nf (cx := (true, p, kp, vp, cp, (nd sa sk sv cp A B)) :: cx1) (nd a k v c l r) h2)) rfl rfl rfl (hr_ok (by omega)) (hf_ok (by omega) (by omega)) dJ4_fixAfterDeletion_155) fun r9 M9 h9 => ?_
    obtain ⟨rfl, rfl⟩ := h9
    refine x_iconst dJ4_fixAfterDeletion_158 ?_
    refine XCl.V (iv_J4_307 rfl (TL.setc (cx := cx1) (t := (nd p kp vp cp (nd a k v c l r) (nd sa sk sv cp A B))) h2 1 (Or.inr rfl)) rfl rfl rfl (hr_ok (by omega)) (hf_ok (by omega) (by omega)) dJ4_fixAfterDeletion_159) fun M3 h3 => ?_
    refine x_aload_n (i := 2) rfl rfl dJ4_fixAfterDeletion_162 ?_
    refine XCl.A (iv_J4_300 rfl (m_rightOf _ _ _ _ _ (TL.nf (cx := (false, p, kp, vp, 1, (nd a k v c l r)) :: cx1) (nd sa sk sv cp A B) h3)) rfl rfl rfl (hr_ok (by omega)) (hf_ok (by omega) (by omega)) dJ4_fixAfterDeletion_163) fun r9 M9 h9 => ?_
    obtain ⟨rfl, rfl⟩ := h9
    refine x_iconst dJ4_fixAfterDeletion_166 ?_
    refine XCl.V (iv_J4_307 rfl (TL.setc (cx := (false, sa, sk, sv, cp, A) :: (false, p, kp, vp, 1, (nd a k v c l r)) :: cx1) (t := B) h3 1 (Or.inr rfl)) rfl rfl rfl (hr_ok (by omega)) (hf_ok (by omega) (by omega)) dJ4_fixAfterDeletion_167) fun M4 h4 => ?_
    refine x_aload_n (i := 0) rfl rfl dJ4_fixAfterDeletion_170 ?_
    refine x_aload_n (i := 1) rfl rfl dJ4_fixAfterDeletion_171 ?_
    refine XCl.A (iv_J4_294 rfl (m_parentOf _ _ _ _ _ (TL.nf (cx := (true, p, kp, vp, 1, (nd sa sk sv cp A (tRe 1 B))) :: cx1) (nd a k v c l r) h4)) rfl rfl rfl (hr_ok (by omega)) (hf_ok (by omega) (by omega)) dJ4_fixAfterDeletion_172) fun r9 M9 h9 => ?_
    obtain ⟨rfl, rfl⟩ := h9
    refine XCl.V (iv_J4_311 rfl (TL.rotL (cx := cx1) h4) (rc_o h4.root rfl) rfl rfl rfl (hr_ok (by omega)) (hf_ok (by omega) (by omega)) dJ4_fixAfterDeletion_175) fun M5 h5 => ?_
    have hm5 := h5.root
    refine x_aload_n (i := 0) rfl rfl dJ4_fixAfterDeletion_178 ?_
    refine gf_J4_101 rfl (by assumption) rfl dJ4_fixAfterDeletion_179 ?_
    refine x_astore_n (i := 1) rfl (by decide) dJ4_fixAfterDeletion_182 ?_
    refine x_goto (tgt := 0) dJ4_fixAfterDeletion_183 (by decide) ?_
    refine last M5 (plug ((true, p, kp, vp, 1, A) :: (true, sa, sk, sv, cp, tRe 1 B) :: cx1) (nd a k v c l r)) _ h5 ?_ (fun a0 ha => tLf_plug (hq a0 ha))
    obtain ⟨b, hb, -⟩ := crt_ad (f := (true, p, kp, vp, 1, A)) (cx := (true, sa, sk, sv, cp, tRe 1 B) :: cx1) (tR (nd a k v c l r))
    rw [plug_rt, hb]
    simp
  have midL : ∀ (M1 : Mem) (cx1 : List Fr) (a k v : Nat) (c : Int) (l r : Tr) (p kp vp : Nat) (cp : Int) (N : Tr), TL M0 M1 m vals sz mod L (plug ((true, p, kp, vp, cp, N) :: cx1) (nd a k v c l r)) → (∀ a0, tLf a0 X0 → tLf a0 (nd a k v c l r)) →
      (∀ (M2 : Mem) (N2 : Tr) (y : Option AV), TL M0 M2 m vals sz mod L (plug cx1 (nd p kp vp cp (nd a k v c l r) N2)) → X G wJ4_fixAfterDeletion (rmO 2 0 0) (mEnd G (kV fun M' => ∃ t, TL M0 M' m vals sz mod L t ∧ ∀ a0, tLf a0 X0 → tLf a0 t) 0 0) 0 0 0 [some (aR (some m)), some (aR (some p)), y] [] M2) →
      X G wJ4_fixAfterDeletion (rmO 2 0 0) (mEnd G (kV fun M' => ∃ t, TL M0 M' m vals sz mod L t ∧ ∀ a0, tLf a0 X0 → tLf a0 t) 0 0) 0 0 71 [some (aR (some m)), some (aR (some a)), some (aR (tR N))] [] M1 := by
    intro M1 cx1 a k v c l r p kp vp cp N h1 hq hk
    have hnear : ∃ l r q, Nf M1 (tR (tLc N)) l r q (tC (tLc N)) := by
      induction N using Tr_ind with
      | h0 => exact ⟨_, _, _, Nf.none _⟩
      | h1 sa sk sv sc sl sr _ _ => exact ⟨_, _, _, TL.nf (cx := (true, sa, sk, sv, sc, sr) :: (false, p, kp, vp, cp, (nd a k v c l r)) :: cx1) sl h1⟩
    have hfar : ∃ l r q, Nf M1 (tR (tRc N)) l r q (tC (tRc N)) := by
      induction N using Tr_ind with
      | h0 => exact ⟨_, _, _, Nf.none _⟩
      | h1 sa sk sv sc sl sr _ _ => exact ⟨_, _, _, TL.nf (cx := (false, sa, sk, sv, sc, sl) :: (false, p, kp, vp, cp, (nd a k v c l r)) :: cx1) sr h1⟩
    obtain ⟨ln, rn, qn, hnear⟩ := hnear
    obtain ⟨lf9, rf9, qf9, hfar⟩ := hfar
    have hokN : tOk N := (TM.at (cx := (false, p, kp, vp, cp, (nd a k v c l r)) :: cx1) (t := N) h1.1).2.2.2.1
    have hcn : tC (tLc N) = 0 ∨ tC (tLc N) = 1 := by
      induction N using Tr_ind with
      | h0 => exact Or.inr rfl
      | h1 sa sk sv sc sl sr _ _ => exact tC_01 hokN.2.1
    have hcf : tC (tRc N) = 0 ∨ tC (tRc N) = 1 := by
      induction N using Tr_ind with
      | h0 => exact Or.inr rfl
      | h1 sa sk sv sc sl sr _ _ => exact tC_01 hokN.2.2
    have at106 : (tC (tLc N) = 0 ∨ tC (tRc N) = 0) → X G wJ4_fixAfterDeletion (rmO 2 0 0) (mEnd G (kV fun M' => ∃ t, TL M0 M' m vals sz mod L t ∧ ∀ a0, tLf a0 X0 → tLf a0 t) 0 0) 0 0 106 [some (aR (some m)), some (aR (some a)), some (aR (tR N))] [] M1 := by
      intro hz
      refine x_aload_n (i := 2) rfl rfl dJ4_fixAfterDeletion_106 ?_
      refine XCl.A (iv_J4_300 rfl (m_rightOf _ _ _ _ _ (TL.nf (cx := (false, p, kp, vp, cp, (nd a k v c l r)) :: cx1) N h1)) rfl rfl rfl (hr_ok (by omega)) (hf_ok (by omega) (by omega)) dJ4_fixAfterDeletion_107) fun r9 M9 h9 => ?_
      obtain ⟨rfl, rfl⟩ := h9
      refine XCl.I (iv_J4_303 rfl (m_colorOf _ _ _ _ _ hfar) rfl rfl rfl (hr_ok (by omega)) (hf_ok (by omega) (by omega)) dJ4_fixAfterDeletion_110) fun r9 M9 h9 => ?_
      obtain ⟨rfl, rfl⟩ := h9
      refine x_iconst dJ4_fixAfterDeletion_113 ?_
      refine x_icmp_ne (tgt := 143) (by omega) (by omega) dJ4_fixAfterDeletion_114 (by decide) (fun hx => ?_) (fun hx => ?_)
      · rcases hN : tR N with _ | sa
        · exfalso
          induction N using Tr_ind with
          | h0 => exact hx rfl
          | h1 sa sk sv sc sl sr _ _ => cases hN
        · obtain ⟨sk, sv, sc, sl, sr, rfl⟩ := tR_some hN
          exact tailL M1 cx1 a k v c l r p kp vp cp sa sk sv sc sl sr h1 hq
      · have hn0 : tC (tLc N) = 0 := by omega
        rcases hN : tR N with _ | sa
        · exfalso
          induction N using Tr_ind with
          | h0 => exact absurd hn0 (by decide)
          | h1 sa sk sv sc sl sr _ _ => cases hN
        obtain ⟨sk, sv, sc, sl, sr, rfl⟩ := tR_some hN
        rcases hN2 : tR sl with _ | na
        · exfalso
          induction sl using Tr_ind with
          | h0 => exact absurd (show (1 : Int) = 0 from hn0) (by decide)
          | h1 na nk nv nc nl nr _ _ => cases hN2
        obtain ⟨nk, nv, nc, nl, nr, rfl⟩ := tR_some hN2
        refine x_aload_n (i := 2) rfl rfl dJ4_fixAfterDeletion_117 ?_
        refine XCl.A (iv_J4_297 rfl (m_leftOf _ _ _ _ _ (TL.nf (cx := (false, p, kp, vp, cp, (nd a k v c l r)) :: cx1) (nd sa sk sv sc (nd na nk nv nc nl nr) sr) h1)) rfl rfl rfl (hr_ok (by omega)) (hf_ok (by omega) (by omega)) dJ4_fixAfterDeletion_118) fun r9 M9 h9 => ?_
        obtain ⟨rfl, rfl⟩ := h9
        refine x_iconst dJ4_fixAfterDeletion_121 ?_
        refine XCl.V (iv_J4_307 rfl (TL.setc (cx := (true, sa, sk, sv, sc, sr) :: (false, p, kp, vp, cp, (nd a k v c l r)) :: cx1) (t := (nd na nk nv nc nl nr)) h1 1 (Or.inr rfl)) rfl rfl rfl (hr_ok (by omega)) (hf_ok (by omega) (by omega)) dJ4_fixAfterDeletion_122) fun M2 h2 => ?_
        refine x_aload_n (i := 2) rfl rfl dJ4_fixAfterDeletion_125 ?_
        refine x_iconst dJ4_fixAfterDeletion_126 ?_
        refine XCl.V (iv_J4_307 rfl (TL.setc (cx := (false, p, kp, vp, cp, (nd a k v c l r)) :: cx1) (t := (nd sa sk sv sc (nd na nk nv 1 nl nr) sr)) h2 0 (Or.inl rfl)) rfl rfl rfl (hr_ok (by omega)) (hf_ok (by omega) (by omega)) dJ4_fixAfterDeletion_127) fun M3 h3 => ?_
        refine x_aload_n (i := 0) rfl rfl dJ4_fixAfterDeletion_130 ?_
        refine x_aload_n (i := 2) rfl rfl dJ4_fixAfterDeletion_131 ?_
        refine XCl.V (iv_J4_314 rfl (TL.rotR (cx := (false, p, kp, vp, cp, (nd a k v c l r)) :: cx1) h3) (rc_o h3.root rfl) rfl rfl rfl (hr_ok (by omega)) (hf_ok (by omega) (by omega)) dJ4_fixAfterDeletion_132) fun M4 h4 => ?_
        refine x_aload_n (i := 1) rfl rfl dJ4_fixAfterDeletion_135 ?_
        refine XCl.A (iv_J4_294 rfl (m_parentOf _ _ _ _ _ (TL.nf (cx := (true, p, kp, vp, cp, (nd na nk nv 1 nl (nd sa sk sv 0 nr sr))) :: cx1) (nd a k v c l r) h4)) rfl rfl rfl (hr_ok (by omega)) (hf_ok (by omega) (by omega)) dJ4_fixAfterDeletion_136) fun r9 M9 h9 => ?_
        obtain ⟨rfl, rfl⟩ := h9
        refine XCl.A (iv_J4_300 rfl (m_rightOf _ _ _ _ _ (TL.nf (cx := cx1) (nd p kp vp cp (nd a k v c l r) (nd na nk nv 1 nl (nd sa sk sv 0 nr sr))) h4)) rfl rfl rfl (hr_ok (by omega)) (hf_ok (by omega) (by omega)) dJ4_fixAfterDeletion_139) fun r9 M9 h9 => ?_
        obtain ⟨rfl, rfl⟩ := h9
        refine x_astore_n (i := 2) rfl (by decide) dJ4_fixAfterDeletion_142 ?_
        exact tailL M4 cx1 a k v c l r p kp vp cp na nk nv 1 nl (nd sa sk sv 0 nr sr) h4 hq
    refine x_aload_n (i := 2) rfl rfl dJ4_fixAfterDeletion_71 ?_
    refine XCl.A (iv_J4_297 rfl (m_leftOf _ _ _ _ _ (TL.nf (cx := (false, p, kp, vp, cp, (nd a k v c l r)) :: cx1) N h1)) rfl rfl rfl (hr_ok (by omega)) (hf_ok (by omega) (by omega)) dJ4_fixAfterDeletion_72) fun r9 M9 h9 => ?_
    obtain ⟨rfl, rfl⟩ := h9
    refine XCl.I (iv_J4_303 rfl (m_colorOf _ _ _ _ _ hnear) rfl rfl rfl (hr_ok (by omega)) (hf_ok (by omega) (by omega)) dJ4_fixAfterDeletion_75) fun r9 M9 h9 => ?_
    obtain ⟨rfl, rfl⟩ := h9
    refine x_iconst dJ4_fixAfterDeletion_78 ?_
    refine x_icmp_ne (tgt := 106) (by omega) (by omega) dJ4_fixAfterDeletion_79 (by decide) (fun hx => ?_) (fun hx => ?_)
    · exact at106 (Or.inl (by omega))
    refine x_aload_n (i := 2) rfl rfl dJ4_fixAfterDeletion_82 ?_
    refine XCl.A (iv_J4_300 rfl (m_rightOf _ _ _ _ _ (TL.nf (cx := (false, p, kp, vp, cp, (nd a k v c l r)) :: cx1) N h1)) rfl rfl rfl (hr_ok (by omega)) (hf_ok (by omega) (by omega)) dJ4_fixAfterDeletion_83) fun r9 M9 h9 => ?_
    obtain ⟨rfl, rfl⟩ := h9
    refine XCl.I (iv_J4_303 rfl (m_colorOf _ _ _ _ _ hfar) rfl rfl rfl (hr_ok (by omega)) (hf_ok (by omega) (by omega)) dJ4_fixAfterDeletion_86) fun r9 M9 h9 => ?_
    obtain ⟨rfl, rfl⟩ := h9
    refine x_iconst dJ4_fixAfterDeletion_89 ?_
    refine x_icmp_ne (tgt := 106) (by omega) (by omega) dJ4_fixAfterDeletion_90 (by decide) (fun hx2 => ?_) (fun hx2 => ?_)
    · exact at106 (Or.inr (by omega))
    refine x_aload_n (i := 2) rfl rfl dJ4_fixAfterDeletion_93 ?_
    refine x_iconst dJ4_fixAfterDeletion_94 ?_
    refine XCl.V (iv_J4_307 rfl (TL.setc (cx := (false, p, kp, vp, cp, (nd a k v c l r)) :: cx1) (t := N) h1 0 (Or.inl rfl)) rfl rfl rfl (hr_ok (by omega)) (hf_ok (by omega) (by omega)) dJ4_fixAfterDeletion_95) fun M2 h2 => ?_
    refine x_aload_n (i := 1) rfl rfl dJ4_fixAfterDeletion_98 ?_
    refine XCl.A (iv_J4_294 rfl (m_parentOf _ _ _ _ _ (TL.nf (cx := (true, p, kp, vp, cp, (tRe 0 N)) :: cx1) (nd a k v c l r) h2)) rfl rfl rfl (hr_ok (by omega)) (hf_ok (by omega) (by omega)) dJ4_fixAfterDeletion_99) fun r9 M9 h9 => ?_
    obtain ⟨rfl, rfl⟩ := h9
    refine x_astore_n (i := 1) rfl (by decide) dJ4_fixAfterDeletion_102 ?_
    refine x_goto (tgt := 183) dJ4_fixAfterDeletion_103 (by decide) ?_
    refine x_goto (tgt := 0) dJ4_fixAfterDeletion_183 (by decide) ?_
    exact hk M2 (tRe 0 N) _ h2
  have tailR : ∀ (M1 : Mem) (cx1 : List Fr) (a k v : Nat) (c : Int) (l r : Tr) (p kp vp : Nat) (cp : Int) (sa sk sv : Nat) (sc : Int) (A B : Tr), TL M0 M1 m vals sz mod L (plug ((false, p, kp, vp, cp, (nd sa sk sv sc B A)) :: cx1) (nd a k v c l r)) → (∀ a0, tLf a0 X0 → tLf a0 (nd a k v c l r)) →
      X G wJ4_fixAfterDeletion (rmO 2 0 0) (mEnd G (kV fun M' => ∃ t, TL M0 M' m vals sz mod L t ∧ ∀ a0, tLf a0 X0 → tLf a0 t) 0 0) 0 0 302 [some (aR (some m)), some (aR (some a)), some (aR (some sa))] [] M1 := by
    intro M1 cx1 a k v c l r p kp vp cp sa sk sv sc A B h1 hq
    have hcp : cp = 0 ∨ cp = 1 := (TM.at (cx := cx1) (t := (nd p kp vp cp (nd sa sk sv sc B A) (nd a k v c l r))) h1.1).2.2.2.1.1
    refine x_aload_n (i := 2) rfl rfl dJ4_fixAfterDeletion_302 ?_
    refine x_aload_n (i := 1) rfl rfl dJ4_fixAfterDeletion_303 ?_
    refine XCl.A (iv_J4_294 rfl (m_parentOf _ _ _ _ _ (TL.nf (cx := (false, p, kp, vp, cp, (nd sa sk sv sc B A)) :: cx1) (nd a k v c l r) h1)) rfl rfl rfl (hr_ok (by omega)) (hf_ok (by omega) (by omega)) dJ4_fixAfterDeletion_304) fun r9 M9 h9 => ?_
    obtain ⟨rfl, rfl⟩ := h9
    refine XCl.I (iv_J4_303 rfl (m_colorOf _ _ _ _ _ (TL.nf (cx := cx1) (nd p kp vp cp (nd sa sk sv sc B A) (nd a k v c l r)) h1)) rfl rfl rfl (hr_ok (by omega)) (hf_ok (by omega) (by omega)) dJ4_fixAfterDeletion_307) fun r9 M9 h9 => ?_
    obtain ⟨hr9, rfl⟩ := h9
    rw [show r9 = cp from hr9]
    refine XCl.V (iv_J4_307 rfl (TL.setc (cx := (true, p, kp, vp, cp, (nd a k v c l r)) :: cx1) (t := (nd sa sk sv sc B A)) h1 cp hcp) rfl rfl rfl (hr_ok (by omega)) (hf_ok (by omega) (by omega)) dJ4_fixAfterDeletion_310) fun M2 h2 => ?_
    refine x_aload_n (i := 1) rfl rfl dJ4_fixAfterDeletion_313 ?_
    refine XCl.A (iv_J4_294 rfl (m_parentOf _ _ _ _ _ (TL.nf (cx := (false, p, kp, vp, cp, (nd sa sk sv cp B A)) :: cx1) (nd a k v c l r) h2)) rfl rfl rfl (hr_ok (by omega)) (hf_ok (by omega) (by omega)) dJ4_fixAfterDeletion_314) fun r9 M9 h9 => ?_
    obtain ⟨rfl, rfl⟩ := h9
    refine x_iconst dJ4_fixAfterDeletion_317 ?_
    refine XCl.V (iv_J4_307 rfl (TL.setc (cx := cx1) (t := (nd p kp vp cp (nd sa sk sv cp B A) (nd a k v c l r))) h2 1 (Or.inr rfl)) rfl rfl rfl (hr_ok (by omega)) (hf_ok (by omega) (by omega)) dJ4_fixAfterDeletion_318) fun M3 h3 => ?_
    refine x_aload_n (i := 2) rfl rfl dJ4_fixAfterDeletion_321 ?_
    refine XCl.A (iv_J4_297 rfl (m_leftOf _ _ _ _ _ (TL.nf (cx := (true, p, kp, vp, 1, (nd a k v c l r)) :: cx1) (nd sa sk sv cp B A) h3)) rfl rfl rfl (hr_ok (by omega)) (hf_ok (by omega) (by omega)) dJ4_fixAfterDeletion_322) fun r9 M9 h9 => ?_
    obtain ⟨rfl, rfl⟩ := h9
    refine x_iconst dJ4_fixAfterDeletion_325 ?_
    refine XCl.V (iv_J4_307 rfl (TL.setc (cx := (true, sa, sk, sv, cp, A) :: (true, p, kp, vp, 1, (nd a k v c l r)) :: cx1) (t := B) h3 1 (Or.inr rfl)) rfl rfl rfl (hr_ok (by omega)) (hf_ok (by omega) (by omega)) dJ4_fixAfterDeletion_326) fun M4 h4 => ?_
    refine x_aload_n (i := 0) rfl rfl dJ4_fixAfterDeletion_329 ?_
    refine x_aload_n (i := 1) rfl rfl dJ4_fixAfterDeletion_330 ?_
    refine XCl.A (iv_J4_294 rfl (m_parentOf _ _ _ _ _ (TL.nf (cx := (false, p, kp, vp, 1, (nd sa sk sv cp (tRe 1 B) A)) :: cx1) (nd a k v c l r) h4)) rfl rfl rfl (hr_ok (by omega)) (hf_ok (by omega) (by omega)) dJ4_fixAfterDeletion_331) fun r9 M9 h9 => ?_
    obtain ⟨rfl, rfl⟩ := h9
    refine XCl.V (iv_J4_314 rfl (TL.rotR (cx := cx1) h4) (rc_o h4.root rfl) rfl rfl rfl (hr_ok (by omega)) (hf_ok (by omega) (by omega)) dJ4_fixAfterDeletion_334) fun M5 h5 => ?_
    have hm5 := h5.root
    refine x_aload_n (i := 0) rfl rfl dJ4_fixAfterDeletion_337 ?_
    refine gf_J4_101 rfl (by assumption) rfl dJ4_fixAfterDeletion_338 ?_
    refine x_astore_n (i := 1) rfl (by decide) dJ4_fixAfterDeletion_341 ?_
    refine x_goto (tgt := 0) dJ4_fixAfterDeletion_342 (by decide) ?_
    refine last M5 (plug ((false, p, kp, vp, 1, A) :: (false, sa, sk, sv, cp, tRe 1 B) :: cx1) (nd a k v c l r)) _ h5 ?_ (fun a0 ha => tLf_plug (hq a0 ha))
    obtain ⟨b, hb, -⟩ := crt_ad (f := (false, p, kp, vp, 1, A)) (cx := (false, sa, sk, sv, cp, tRe 1 B) :: cx1) (tR (nd a k v c l r))
    rw [plug_rt, hb]
    simp
  have midR : ∀ (M1 : Mem) (cx1 : List Fr) (a k v : Nat) (c : Int) (l r : Tr) (p kp vp : Nat) (cp : Int) (N : Tr), TL M0 M1 m vals sz mod L (plug ((false, p, kp, vp, cp, N) :: cx1) (nd a k v c l r)) → (∀ a0, tLf a0 X0 → tLf a0 (nd a k v c l r)) →
      (∀ (M2 : Mem) (N2 : Tr) (y : Option AV), TL M0 M2 m vals sz mod L (plug cx1 (nd p kp vp cp N2 (nd a k v c l r))) → X G wJ4_fixAfterDeletion (rmO 2 0 0) (mEnd G (kV fun M' => ∃ t, TL M0 M' m vals sz mod L t ∧ ∀ a0, tLf a0 X0 → tLf a0 t) 0 0) 0 0 0 [some (aR (some m)), some (aR (some p)), y] [] M2) →
      X G wJ4_fixAfterDeletion (rmO 2 0 0) (mEnd G (kV fun M' => ∃ t, TL M0 M' m vals sz mod L t ∧ ∀ a0, tLf a0 X0 → tLf a0 t) 0 0) 0 0 230 [some (aR (some m)), some (aR (some a)), some (aR (tR N))] [] M1 := by
    intro M1 cx1 a k v c l r p kp vp cp N h1 hq hk
    have hnear : ∃ l r q, Nf M1 (tR (tRc N)) l r q (tC (tRc N)) := by
      induction N using Tr_ind with
      | h0 => exact ⟨_, _, _, Nf.none _⟩
      | h1 sa sk sv sc sl sr _ _ => exact ⟨_, _, _, TL.nf (cx := (false, sa, sk, sv, sc, sl) :: (true, p, kp, vp, cp, (nd a k v c l r)) :: cx1) sr h1⟩
    have hfar : ∃ l r q, Nf M1 (tR (tLc N)) l r q (tC (tLc N)) := by
      induction N using Tr_ind with
      | h0 => exact ⟨_, _, _, Nf.none _⟩
      | h1 sa sk sv sc sl sr _ _ => exact ⟨_, _, _, TL.nf (cx := (true, sa, sk, sv, sc, sr) :: (true, p, kp, vp, cp, (nd a k v c l r)) :: cx1) sl h1⟩
    obtain ⟨ln, rn, qn, hnear⟩ := hnear
    obtain ⟨lf9, rf9, qf9, hfar⟩ := hfar
    have hokN : tOk N := (TM.at (cx := (true, p, kp, vp, cp, (nd a k v c l r)) :: cx1) (t := N) h1.1).2.2.2.1
    have hcn : tC (tRc N) = 0 ∨ tC (tRc N) = 1 := by
      induction N using Tr_ind with
      | h0 => exact Or.inr rfl
      | h1 sa sk sv sc sl sr _ _ => exact tC_01 hokN.2.2
    have hcf : tC (tLc N) = 0 ∨ tC (tLc N) = 1 := by
      induction N using Tr_ind with
      | h0 => exact Or.inr rfl
      | h1 sa sk sv sc sl sr _ _ => exact tC_01 hokN.2.1
    have at106 : (tC (tRc N) = 0 ∨ tC (tLc N) = 0) → X G wJ4_fixAfterDeletion (rmO 2 0 0) (mEnd G (kV fun M' => ∃ t, TL M0 M' m vals sz mod L t ∧ ∀ a0, tLf a0 X0 → tLf a0 t) 0 0) 0 0 265 [some (aR (some m)), some (aR (some a)), some (aR (tR N))] [] M1 := by
      intro hz
      refine x_aload_n (i := 2) rfl rfl dJ4_fixAfterDeletion_265 ?_
      refine XCl.A (iv_J4_297 rfl (m_leftOf _ _ _ _ _ (TL.nf (cx := (true, p, kp, vp, cp, (nd a k v c l r)) :: cx1) N h1)) rfl rfl rfl (hr_ok (by omega)) (hf_ok (by omega) (by omega)) dJ4_fixAfterDeletion_266) fun r9 M9 h9 => ?_
      obtain ⟨rfl, rfl⟩ := h9
      refine XCl.I (iv_J4_303 rfl (m_colorOf _ _ _ _ _ hfar) rfl rfl rfl (hr_ok (by omega)) (hf_ok (by omega) (by omega)) dJ4_fixAfterDeletion_269) fun r9 M9 h9 => ?_
      obtain ⟨rfl, rfl⟩ := h9
      refine x_iconst dJ4_fixAfterDeletion_272 ?_
      refine x_icmp_ne (tgt := 302) (by omega) (by omega) dJ4_fixAfterDeletion_273 (by decide) (fun hx => ?_) (fun hx => ?_)
      · rcases hN : tR N with _ | sa
        · exfalso
          induction N using Tr_ind with
          | h0 => exact hx rfl
          | h1 sa sk sv sc sl sr _ _ => cases hN
        · obtain ⟨sk, sv, sc, sl, sr, rfl⟩ := tR_some hN
          exact tailR M1 cx1 a k v c l r p kp vp cp sa sk sv sc sr sl h1 hq
      · have hn0 : tC (tRc N) = 0 := by omega
        rcases hN : tR N with _ | sa
        · exfalso
          induction N using Tr_ind with
          | h0 => exact absurd hn0 (by decide)
          | h1 sa sk sv sc sl sr _ _ => cases hN
        obtain ⟨sk, sv, sc, sl, sr, rfl⟩ := tR_some hN
        rcases hN2 : tR sr with _ | na
        · exfalso
          induction sr using Tr_ind with
          | h0 => exact absurd (show (1 : Int) = 0 from hn0) (by decide)
          | h1 na nk nv nc nl nr _ _ => cases hN2
        obtain ⟨nk, nv, nc, nl, nr, rfl⟩ := tR_some hN2
        refine x_aload_n (i := 2) rfl rfl dJ4_fixAfterDeletion_276 ?_
        refine XCl.A (iv_J4_300 rfl (m_rightOf _ _ _ _ _ (TL.nf (cx := (true, p, kp, vp, cp, (nd a k v c l r)) :: cx1) (nd sa sk sv sc sl (nd na nk nv nc nl nr)) h1)) rfl rfl rfl (hr_ok (by omega)) (hf_ok (by omega) (by omega)) dJ4_fixAfterDeletion_277) fun r9 M9 h9 => ?_
        obtain ⟨rfl, rfl⟩ := h9
        refine x_iconst dJ4_fixAfterDeletion_280 ?_
        refine XCl.V (iv_J4_307 rfl (TL.setc (cx := (false, sa, sk, sv, sc, sl) :: (true, p, kp, vp, cp, (nd a k v c l r)) :: cx1) (t := (nd na nk nv nc nl nr)) h1 1 (Or.inr rfl)) rfl rfl rfl (hr_ok (by omega)) (hf_ok (by omega) (by omega)) dJ4_fixAfterDeletion_281) fun M2 h2 => ?_
        refine x_aload_n (i := 2) rfl rfl dJ4_fixAfterDeletion_284 ?_
        refine x_iconst dJ4_fixAfterDeletion_285 ?_
        refine XCl.V (iv_J4_307 rfl (TL.setc (cx := (true, p, kp, vp, cp, (nd a k v c l r)) :: cx1) (t := (nd sa sk sv sc sl (nd na nk nv 1 nl nr))) h2 0 (Or.inl rfl)) rfl rfl rfl (hr_ok (by omega)) (hf_ok (by omega) (by omega)) dJ4_fixAfterDeletion_286) fun M3 h3 => ?_
        refine x_aload_n (i := 0) rfl rfl dJ4_fixAfterDeletion_289 ?_
        refine x_aload_n (i := 2) rfl rfl dJ4_fixAfterDeletion_290 ?_
        refine XCl.V (iv_J4_311 rfl (TL.rotL (cx := (true, p, kp, vp, cp, (nd a k v c l r)) :: cx1) h3) (rc_o h3.root rfl) rfl rfl rfl (hr_ok (by omega)) (hf_ok (by omega) (by omega)) dJ4_fixAfterDeletion_291) fun M4 h4 => ?_
        refine x_aload_n (i := 1) rfl rfl dJ4_fixAfterDeletion_294 ?_
        refine XCl.A (iv_J4_294 rfl (m_parentOf _ _ _ _ _ (TL.nf (cx := (false, p, kp, vp, cp, (nd na nk nv 1 (nd sa sk sv 0 sl nl) nr)) :: cx1) (nd a k v c l r) h4)) rfl rfl rfl (hr_ok (by omega)) (hf_ok (by omega) (by omega)) dJ4_fixAfterDeletion_295) fun r9 M9 h9 => ?_
        obtain ⟨rfl, rfl⟩ := h9
        refine XCl.A (iv_J4_297 rfl (m_leftOf _ _ _ _ _ (TL.nf (cx := cx1) (nd p kp vp cp (nd na nk nv 1 (nd sa sk sv 0 sl nl) nr) (nd a k v c l r)) h4)) rfl rfl rfl (hr_ok (by omega)) (hf_ok (by omega) (by omega)) dJ4_fixAfterDeletion_298) fun r9 M9 h9 => ?_
        obtain ⟨rfl, rfl⟩ := h9
        refine x_astore_n (i := 2) rfl (by decide) dJ4_fixAfterDeletion_301 ?_
        exact tailR M4 cx1 a k v c l r p kp vp cp na nk nv 1 nr (nd sa sk sv 0 sl nl) h4 hq
    refine x_aload_n (i := 2) rfl rfl dJ4_fixAfterDeletion_230 ?_
    refine XCl.A (iv_J4_300 rfl (m_rightOf _ _ _ _ _ (TL.nf (cx := (true, p, kp, vp, cp, (nd a k v c l r)) :: cx1) N h1)) rfl rfl rfl (hr_ok (by omega)) (hf_ok (by omega) (by omega)) dJ4_fixAfterDeletion_231) fun r9 M9 h9 => ?_
    obtain ⟨rfl, rfl⟩ := h9
    refine XCl.I (iv_J4_303 rfl (m_colorOf _ _ _ _ _ hnear) rfl rfl rfl (hr_ok (by omega)) (hf_ok (by omega) (by omega)) dJ4_fixAfterDeletion_234) fun r9 M9 h9 => ?_
    obtain ⟨rfl, rfl⟩ := h9
    refine x_iconst dJ4_fixAfterDeletion_237 ?_
    refine x_icmp_ne (tgt := 265) (by omega) (by omega) dJ4_fixAfterDeletion_238 (by decide) (fun hx => ?_) (fun hx => ?_)
    · exact at106 (Or.inl (by omega))
    refine x_aload_n (i := 2) rfl rfl dJ4_fixAfterDeletion_241 ?_
    refine XCl.A (iv_J4_297 rfl (m_leftOf _ _ _ _ _ (TL.nf (cx := (true, p, kp, vp, cp, (nd a k v c l r)) :: cx1) N h1)) rfl rfl rfl (hr_ok (by omega)) (hf_ok (by omega) (by omega)) dJ4_fixAfterDeletion_242) fun r9 M9 h9 => ?_
    obtain ⟨rfl, rfl⟩ := h9
    refine XCl.I (iv_J4_303 rfl (m_colorOf _ _ _ _ _ hfar) rfl rfl rfl (hr_ok (by omega)) (hf_ok (by omega) (by omega)) dJ4_fixAfterDeletion_245) fun r9 M9 h9 => ?_
    obtain ⟨rfl, rfl⟩ := h9
    refine x_iconst dJ4_fixAfterDeletion_248 ?_
    refine x_icmp_ne (tgt := 265) (by omega) (by omega) dJ4_fixAfterDeletion_249 (by decide) (fun hx2 => ?_) (fun hx2 => ?_)
    · exact at106 (Or.inr (by omega))
    refine x_aload_n (i := 2) rfl rfl dJ4_fixAfterDeletion_252 ?_
    refine x_iconst dJ4_fixAfterDeletion_253 ?_
    refine XCl.V (iv_J4_307 rfl (TL.setc (cx := (true, p, kp, vp, cp, (nd a k v c l r)) :: cx1) (t := N) h1 0 (Or.inl rfl)) rfl rfl rfl (hr_ok (by omega)) (hf_ok (by omega) (by omega)) dJ4_fixAfterDeletion_254) fun M2 h2 => ?_
    refine x_aload_n (i := 1) rfl rfl dJ4_fixAfterDeletion_257 ?_
    refine XCl.A (iv_J4_294 rfl (m_parentOf _ _ _ _ _ (TL.nf (cx := (false, p, kp, vp, cp, (tRe 0 N)) :: cx1) (nd a k v c l r) h2)) rfl rfl rfl (hr_ok (by omega)) (hf_ok (by omega) (by omega)) dJ4_fixAfterDeletion_258) fun r9 M9 h9 => ?_
    obtain ⟨rfl, rfl⟩ := h9
    refine x_astore_n (i := 1) rfl (by decide) dJ4_fixAfterDeletion_261 ?_
    refine x_goto (tgt := 342) dJ4_fixAfterDeletion_262 (by decide) ?_
    refine x_goto (tgt := 0) dJ4_fixAfterDeletion_342 (by decide) ?_
    exact hk M2 (tRe 0 N) _ h2
  have loop : ∀ (n : Nat) (cx : List Fr) (a k v : Nat) (c : Int) (l r : Tr) (y : Option AV) (M1 : Mem), cx.length ≤ n → TL M0 M1 m vals sz mod L (plug cx (nd a k v c l r)) → (∀ a0, tLf a0 X0 → tLf a0 (nd a k v c l r)) →
      X G wJ4_fixAfterDeletion (rmO 2 0 0) (mEnd G (kV fun M' => ∃ t, TL M0 M' m vals sz mod L t ∧ ∀ a0, tLf a0 X0 → tLf a0 t) 0 0) 0 0 0 [some (aR (some m)), some (aR (some a)), y] [] M1 := by
    intro n
    induction n with
    | zero =>
      intro cx a k v c l r y M1 hn h1 hq
      refine head M1 cx a k v c l r y h1 hq fun f cx' hcx _ => ?_
      rw [hcx] at hn
      simp at hn
    | succ n ih =>
      intro cx a k v c l r y M1 hn h1 hq
      refine head M1 cx a k v c l r y h1 hq fun f cx1 hcx hc1 => ?_
      subst hcx
      obtain ⟨d, p, kp, vp, cp, N⟩ := f
      have nx := TL.nf (cx := (d, p, kp, vp, cp, N) :: cx1) (nd a k v c l r) h1
      cases d with
      | true =>
        have np := TL.nf (cx := cx1) (nd p kp vp cp (nd a k v c l r) N) h1
        have nN := TL.nf (cx := (false, p, kp, vp, cp, (nd a k v c l r)) :: cx1) N h1
        have hnP := nd_nd (nd_plug (cx := cx1) (t := (nd p kp vp cp (nd a k v c l r) N)) h1.1.2.2.1).1
        have hN : tR N ≠ some a := fun q => hnP.2.2.1 a ((adT_nd ..).mpr (Or.inl rfl)) (rt_ad q)
        have hcN := tC_01 (TM.at (cx := (false, p, kp, vp, cp, (nd a k v c l r)) :: cx1) (t := N) h1.1).2.2.2.1
        have up : ∀ a0, tLf a0 X0 → ∀ N2 : Tr, tLf a0 (nd p kp vp 0 (nd a k v c l r) N2) := fun a0 ha N2 => Or.inr (Or.inl (hq a0 ha))
        refine x_aload_n (i := 1) rfl rfl dJ4_fixAfterDeletion_16 ?_
        refine x_aload_n (i := 1) rfl rfl dJ4_fixAfterDeletion_17 ?_
        refine XCl.A (iv_J4_294 rfl (m_parentOf _ _ _ _ _ nx) rfl rfl rfl (hr_ok (by omega)) (hf_ok (by omega) (by omega)) dJ4_fixAfterDeletion_18) fun r9 M9 h9 => ?_
        obtain ⟨rfl, rfl⟩ := h9
        refine XCl.A (iv_J4_297 rfl (m_leftOf _ _ _ _ _ np) rfl rfl rfl (hr_ok (by omega)) (hf_ok (by omega) (by omega)) dJ4_fixAfterDeletion_21) fun r9 M9 h9 => ?_
        obtain ⟨rfl, rfl⟩ := h9
        refine x_acmp_ne (tgt := 186) dJ4_fixAfterDeletion_24 (by decide) (fun z => absurd z (fun q => q rfl)) (fun _ => ?_)
        refine x_aload_n (i := 1) rfl rfl dJ4_fixAfterDeletion_27 ?_
        refine XCl.A (iv_J4_294 rfl (m_parentOf _ _ _ _ _ nx) rfl rfl rfl (hr_ok (by omega)) (hf_ok (by omega) (by omega)) dJ4_fixAfterDeletion_28) fun r9 M9 h9 => ?_
        obtain ⟨rfl, rfl⟩ := h9
        refine XCl.A (iv_J4_300 rfl (m_rightOf _ _ _ _ _ np) rfl rfl rfl (hr_ok (by omega)) (hf_ok (by omega) (by omega)) dJ4_fixAfterDeletion_31) fun r9 M9 h9 => ?_
        obtain ⟨rfl, rfl⟩ := h9
        refine x_astore_n (i := 2) rfl (by decide) dJ4_fixAfterDeletion_34 ?_
        refine x_aload_n (i := 2) rfl rfl dJ4_fixAfterDeletion_35 ?_
        refine XCl.I (iv_J4_303 rfl (m_colorOf _ _ _ _ _ nN) rfl rfl rfl (hr_ok (by omega)) (hf_ok (by omega) (by omega)) dJ4_fixAfterDeletion_36) fun r9 M9 h9 => ?_
        obtain ⟨rfl, rfl⟩ := h9
        refine x_if_ne (tgt := 71) (by omega) dJ4_fixAfterDeletion_39 (by decide) (fun hcol => ?_) (fun hcol => ?_)
        · refine midL M1 cx1 a k v c l r p kp vp cp N h1 hq fun M2 N2 y h2 => ?_
          exact ih cx1 p kp vp cp _ _ y M2 (by simp at hn; omega) h2 fun a0 ha => up a0 ha N2
        rcases hN0 : tR N with _ | sa
        · exfalso
          induction N using Tr_ind with
          | h0 => exact absurd hcol (by decide)
          | h1 sa sk sv sc sl sr _ _ => cases hN0
        obtain ⟨sk, sv, sc, sl, sr, rfl⟩ := tR_some hN0
        refine x_aload_n (i := 2) rfl rfl dJ4_fixAfterDeletion_42 ?_
        refine x_iconst dJ4_fixAfterDeletion_43 ?_
        refine XCl.V (iv_J4_307 rfl (TL.setc (cx := (false, p, kp, vp, cp, (nd a k v c l r)) :: cx1) (t := (nd sa sk sv sc sl sr)) h1 1 (Or.inr rfl)) rfl rfl rfl (hr_ok (by omega)) (hf_ok (by omega) (by omega)) dJ4_fixAfterDeletion_44) fun M2 h2 => ?_
        refine x_aload_n (i := 1) rfl rfl dJ4_fixAfterDeletion_47 ?_
        refine XCl.A (iv_J4_294 rfl (m_parentOf _ _ _ _ _ (TL.nf (cx := (true, p, kp, vp, cp, (nd sa sk sv 1 sl sr)) :: cx1) (nd a k v c l r) h2)) rfl rfl rfl (hr_ok (by omega)) (hf_ok (by omega) (by omega)) dJ4_fixAfterDeletion_48) fun r9 M9 h9 => ?_
        obtain ⟨rfl, rfl⟩ := h9
        refine x_iconst dJ4_fixAfterDeletion_51 ?_
        refine XCl.V (iv_J4_307 rfl (TL.setc (cx := cx1) (t := (nd p kp vp cp (nd a k v c l r) (nd sa sk sv 1 sl sr))) h2 0 (Or.inl rfl)) rfl rfl rfl (hr_ok (by omega)) (hf_ok (by omega) (by omega)) dJ4_fixAfterDeletion_52) fun M3 h3 => ?_
        refine x_aload_n (i := 0) rfl rfl dJ4_fixAfterDeletion_55 ?_
        refine x_aload_n (i := 1) rfl rfl dJ4_fixAfterDeletion_56 ?_
        refine XCl.A (iv_J4_294 rfl (m_parentOf _ _ _ _ _ (TL.nf (cx := (true, p, kp, vp, 0, (nd sa sk sv 1 sl sr)) :: cx1) (nd a k v c l r) h3)) rfl rfl rfl (hr_ok (by omega)) (hf_ok (by omega) (by omega)) dJ4_fixAfterDeletion_57) fun r9 M9 h9 => ?_
        obtain ⟨rfl, rfl⟩ := h9
        refine XCl.V (iv_J4_311 rfl (TL.rotL (cx := cx1) h3) (rc_o h3.root rfl) rfl rfl rfl (hr_ok (by omega)) (hf_ok (by omega) (by omega)) dJ4_fixAfterDeletion_60) fun M4 h4 => ?_
        refine x_aload_n (i := 1) rfl rfl dJ4_fixAfterDeletion_63 ?_
        refine XCl.A (iv_J4_294 rfl (m_parentOf _ _ _ _ _ (TL.nf (cx := (true, p, kp, vp, 0, sl) :: (true, sa, sk, sv, 1, sr) :: cx1) (nd a k v c l r) h4)) rfl rfl rfl (hr_ok (by omega)) (hf_ok (by omega) (by omega)) dJ4_fixAfterDeletion_64) fun r9 M9 h9 => ?_
        obtain ⟨rfl, rfl⟩ := h9
        refine XCl.A (iv_J4_300 rfl (m_rightOf _ _ _ _ _ (TL.nf (cx := (true, sa, sk, sv, 1, sr) :: cx1) (nd p kp vp 0 (nd a k v c l r) sl) h4)) rfl rfl rfl (hr_ok (by omega)) (hf_ok (by omega) (by omega)) dJ4_fixAfterDeletion_67) fun r9 M9 h9 => ?_
        obtain ⟨rfl, rfl⟩ := h9
        refine x_astore_n (i := 2) rfl (by decide) dJ4_fixAfterDeletion_70 ?_
        refine midL M4 ((true, sa, sk, sv, 1, sr) :: cx1) a k v c l r p kp vp 0 sl h4 hq fun M5 N2 y h5 => ?_
        exact head M5 ((true, sa, sk, sv, 1, sr) :: cx1) p kp vp 0 _ _ y h5 (fun a0 ha => up a0 ha N2) (fun f cx9 hf hc => absurd hc (by decide))
      | false =>
        have np := TL.nf (cx := cx1) (nd p kp vp cp N (nd a k v c l r)) h1
        have nN := TL.nf (cx := (true, p, kp, vp, cp, (nd a k v c l r)) :: cx1) N h1
        have hnP := nd_nd (nd_plug (cx := cx1) (t := (nd p kp vp cp N (nd a k v c l r))) h1.1.2.2.1).1
        have hN : tR N ≠ some a := fun q => hnP.2.2.1 a (rt_ad q) ((adT_nd ..).mpr (Or.inl rfl))
        have hcN := tC_01 (TM.at (cx := (true, p, kp, vp, cp, (nd a k v c l r)) :: cx1) (t := N) h1.1).2.2.2.1
        have up : ∀ a0, tLf a0 X0 → ∀ N2 : Tr, tLf a0 (nd p kp vp 0 N2 (nd a k v c l r)) := fun a0 ha N2 => Or.inr (Or.inr (hq a0 ha))
        refine x_aload_n (i := 1) rfl rfl dJ4_fixAfterDeletion_16 ?_
        refine x_aload_n (i := 1) rfl rfl dJ4_fixAfterDeletion_17 ?_
        refine XCl.A (iv_J4_294 rfl (m_parentOf _ _ _ _ _ nx) rfl rfl rfl (hr_ok (by omega)) (hf_ok (by omega) (by omega)) dJ4_fixAfterDeletion_18) fun r9 M9 h9 => ?_
        obtain ⟨rfl, rfl⟩ := h9
        refine XCl.A (iv_J4_297 rfl (m_leftOf _ _ _ _ _ np) rfl rfl rfl (hr_ok (by omega)) (hf_ok (by omega) (by omega)) dJ4_fixAfterDeletion_21) fun r9 M9 h9 => ?_
        obtain ⟨rfl, rfl⟩ := h9
        refine x_acmp_ne (tgt := 186) dJ4_fixAfterDeletion_24 (by decide) (fun _ => ?_) (fun z => absurd z (fun q => hN (show some a = tR N from q).symm))
        refine x_aload_n (i := 1) rfl rfl dJ4_fixAfterDeletion_186 ?_
        refine XCl.A (iv_J4_294 rfl (m_parentOf _ _ _ _ _ nx) rfl rfl rfl (hr_ok (by omega)) (hf_ok (by omega) (by omega)) dJ4_fixAfterDeletion_187) fun r9 M9 h9 => ?_
        obtain ⟨rfl, rfl⟩ := h9
        refine XCl.A (iv_J4_297 rfl (m_leftOf _ _ _ _ _ np) rfl rfl rfl (hr_ok (by omega)) (hf_ok (by omega) (by omega)) dJ4_fixAfterDeletion_190) fun r9 M9 h9 => ?_
        obtain ⟨rfl, rfl⟩ := h9
        refine x_astore_n (i := 2) rfl (by decide) dJ4_fixAfterDeletion_193 ?_
        refine x_aload_n (i := 2) rfl rfl dJ4_fixAfterDeletion_194 ?_
        refine XCl.I (iv_J4_303 rfl (m_colorOf _ _ _ _ _ nN) rfl rfl rfl (hr_ok (by omega)) (hf_ok (by omega) (by omega)) dJ4_fixAfterDeletion_195) fun r9 M9 h9 => ?_
        obtain ⟨rfl, rfl⟩ := h9
        refine x_if_ne (tgt := 230) (by omega) dJ4_fixAfterDeletion_198 (by decide) (fun hcol => ?_) (fun hcol => ?_)
        · refine midR M1 cx1 a k v c l r p kp vp cp N h1 hq fun M2 N2 y h2 => ?_
          exact ih cx1 p kp vp cp _ _ y M2 (by simp at hn; omega) h2 fun a0 ha => up a0 ha N2
        rcases hN0 : tR N with _ | sa
        · exfalso
          induction N using Tr_ind with
          | h0 => exact absurd hcol (by decide)
          | h1 sa sk sv sc sl sr _ _ => cases hN0
        obtain ⟨sk, sv, sc, sl, sr, rfl⟩ := tR_some hN0
        refine x_aload_n (i := 2) rfl rfl dJ4_fixAfterDeletion_201 ?_
        refine x_iconst dJ4_fixAfterDeletion_202 ?_
        refine XCl.V (iv_J4_307 rfl (TL.setc (cx := (true, p, kp, vp, cp, (nd a k v c l r)) :: cx1) (t := (nd sa sk sv sc sl sr)) h1 1 (Or.inr rfl)) rfl rfl rfl (hr_ok (by omega)) (hf_ok (by omega) (by omega)) dJ4_fixAfterDeletion_203) fun M2 h2 => ?_
        refine x_aload_n (i := 1) rfl rfl dJ4_fixAfterDeletion_206 ?_
        refine XCl.A (iv_J4_294 rfl (m_parentOf _ _ _ _ _ (TL.nf (cx := (false, p, kp, vp, cp, (nd sa sk sv 1 sl sr)) :: cx1) (nd a k v c l r) h2)) rfl rfl rfl (hr_ok (by omega)) (hf_ok (by omega) (by omega)) dJ4_fixAfterDeletion_207) fun r9 M9 h9 => ?_
        obtain ⟨rfl, rfl⟩ := h9
        refine x_iconst dJ4_fixAfterDeletion_210 ?_
        refine XCl.V (iv_J4_307 rfl (TL.setc (cx := cx1) (t := (nd p kp vp cp (nd sa sk sv 1 sl sr) (nd a k v c l r))) h2 0 (Or.inl rfl)) rfl rfl rfl (hr_ok (by omega)) (hf_ok (by omega) (by omega)) dJ4_fixAfterDeletion_211) fun M3 h3 => ?_
        refine x_aload_n (i := 0) rfl rfl dJ4_fixAfterDeletion_214 ?_
        refine x_aload_n (i := 1) rfl rfl dJ4_fixAfterDeletion_215 ?_
        refine XCl.A (iv_J4_294 rfl (m_parentOf _ _ _ _ _ (TL.nf (cx := (false, p, kp, vp, 0, (nd sa sk sv 1 sl sr)) :: cx1) (nd a k v c l r) h3)) rfl rfl rfl (hr_ok (by omega)) (hf_ok (by omega) (by omega)) dJ4_fixAfterDeletion_216) fun r9 M9 h9 => ?_
        obtain ⟨rfl, rfl⟩ := h9
        refine XCl.V (iv_J4_314 rfl (TL.rotR (cx := cx1) h3) (rc_o h3.root rfl) rfl rfl rfl (hr_ok (by omega)) (hf_ok (by omega) (by omega)) dJ4_fixAfterDeletion_219) fun M4 h4 => ?_
        refine x_aload_n (i := 1) rfl rfl dJ4_fixAfterDeletion_222 ?_
        refine XCl.A (iv_J4_294 rfl (m_parentOf _ _ _ _ _ (TL.nf (cx := (false, p, kp, vp, 0, sr) :: (false, sa, sk, sv, 1, sl) :: cx1) (nd a k v c l r) h4)) rfl rfl rfl (hr_ok (by omega)) (hf_ok (by omega) (by omega)) dJ4_fixAfterDeletion_223) fun r9 M9 h9 => ?_
        obtain ⟨rfl, rfl⟩ := h9
        refine XCl.A (iv_J4_297 rfl (m_leftOf _ _ _ _ _ (TL.nf (cx := (false, sa, sk, sv, 1, sl) :: cx1) (nd p kp vp 0 sr (nd a k v c l r)) h4)) rfl rfl rfl (hr_ok (by omega)) (hf_ok (by omega) (by omega)) dJ4_fixAfterDeletion_226) fun r9 M9 h9 => ?_
        obtain ⟨rfl, rfl⟩ := h9
        refine x_astore_n (i := 2) rfl (by decide) dJ4_fixAfterDeletion_229 ?_
        refine midR M4 ((false, sa, sk, sv, 1, sl) :: cx1) a k v c l r p kp vp 0 sr h4 hq fun M5 N2 y h5 => ?_
        exact head M5 ((false, sa, sk, sv, 1, sl) :: cx1) p kp vp 0 _ _ y h5 (fun a0 ha => up a0 ha N2) (fun f cx9 hf hc => absurd hc (by decide))
  subst hX0
  exact loop cx.length cx a k v c l r _ M (Nat.le_refl _) h fun a0 ha => ha
end JN
