/-! java.util.TreeMap: fixAfterInsertion -/
set_option maxRecDepth 100000
section JN
variable {G : GG} {M : Mem}
/-- a map whose tree is t; the entries from the least on are L, as they were over M0; only its own cells are written since -/
def TL (M0 M : Mem) (m : Nat) (vals : Option Nat) (sz mod : Int) (L : List (Nat × Nat × Nat)) (t : Tr) : Prop := TM M m vals sz mod t ∧ tIo t = L ∧ mF (TmC m L) M0 M
def tC : Tr → Int
  | .leaf => 1
  | .inner _ (_, _, c) _ _ _ => c
def tLc : Tr → Tr
  | .leaf => lf
  | .inner _ _ _ l _ => l
def tRc : Tr → Tr
  | .leaf => lf
  | .inner _ _ _ _ r => r
/-- the color set anew -/
def tRe (x : Int) : Tr → Tr
  | .leaf => lf
  | .inner a (k, v, _) _ l r => nd a k v x l r
def tUp : Tr → Option Nat → Option Nat
  | .leaf, _ => none
  | .inner .., p => p
theorem tC_01 {t : Tr} (h : tOk t) : tC t = 0 ∨ tC t = 1 := by
  induction t using Tr_ind with
  | h0 => exact Or.inr rfl
  | h1 a k v c l r _ _ => exact h.1
theorem Nf.none (M : Mem) : Nf M none none none none 1 := Or.inl ⟨rfl, rfl, rfl, rfl, rfl⟩
theorem TL.nf {M0 : Mem} {m : Nat} {vals : Option Nat} {sz mod : Int} {L : List (Nat × Nat × Nat)} {cx : List Fr} (t : Tr) (h : TL M0 M m vals sz mod L (plug cx t)) : Nf M (tR t) (tR (tLc t)) (tR (tRc t)) (tUp t (top cx)) (tC t) := by
  obtain ⟨h1, h2, h3, h4⟩ := h.1.at
  induction t using Tr_ind with
  | h0 => exact Nf.none M
  | h1 a k v c l r _ _ => exact Or.inr ⟨a, k, v, rfl, h2.dn.1, h4.1.1⟩
theorem m_rotLN (m : Nat) : Ct G wJ4_rotateLeft [aR (some m), aR none] M 1 0 0 (kV fun M' => M = M') := by
  refine Ct.mk rfl rfl (Nat.le_of_ble_eq_true rfl) ?_
  refine x_aload_n (i := 1) rfl rfl dJ4_rotateLeft_0 ?_
  refine x_ifnull (tgt := 95) dJ4_rotateLeft_1 (by decide) (fun _ => ?_) (fun _ z => absurd z (by simp))
  refine x_vret rfl dJ4_rotateLeft_95 ⟨by omega, by omega⟩ ?_
  exact ⟨rfl, rfl⟩
theorem m_rotRN (m : Nat) : Ct G wJ4_rotateRight [aR (some m), aR none] M 1 0 0 (kV fun M' => M = M') := by
  refine Ct.mk rfl rfl (Nat.le_of_ble_eq_true rfl) ?_
  refine x_aload_n (i := 1) rfl rfl dJ4_rotateRight_0 ?_
  refine x_ifnull (tgt := 95) dJ4_rotateRight_1 (by decide) (fun _ => ?_) (fun _ z => absurd z (by simp))
  refine x_vret rfl dJ4_rotateRight_95 ⟨by omega, by omega⟩ ?_
  exact ⟨rfl, rfl⟩
section LL
variable {M0 : Mem} {m : Nat} {vals : Option Nat} {sz mod : Int} {L : List (Nat × Nat × Nat)} {cx : List Fr}
theorem TL.rotL {p k v : Nat} {c : Int} {A : Tr} {r k2 v2 : Nat} {c2 : Int} {B C : Tr} (h : TL M0 M m vals sz mod L (plug cx (nd p k v c A (nd r k2 v2 c2 B C)))) :
    Ct G wJ4_rotateLeft [aR (some m), aR (some p)] M 1 0 0 (kV fun M' => TL M0 M' m vals sz mod L (plug cx (nd r k2 v2 c2 (nd p k v c A B) C))) := by
  refine (m_rotL m vals sz mod cx p k v c A r k2 v2 c2 B C h.1).weak ?_
  rintro C2 M' ⟨h0, h1, h2⟩
  refine ⟨h0, h1, ?_, ?_⟩
  · rw [← h.2.1, plug_io, plug_io]
    simp only [tIo_nd, List.append_assoc, List.cons_append, List.nil_append]
  · rw [h.2.1] at h2
    exact h.2.2.tr h2
theorem TL.rotR {p k v : Nat} {c : Int} {A : Tr} {r k2 v2 : Nat} {c2 : Int} {B C : Tr} (h : TL M0 M m vals sz mod L (plug cx (nd p k v c (nd r k2 v2 c2 C B) A))) :
    Ct G wJ4_rotateRight [aR (some m), aR (some p)] M 1 0 0 (kV fun M' => TL M0 M' m vals sz mod L (plug cx (nd r k2 v2 c2 C (nd p k v c B A)))) := by
  refine (m_rotR m vals sz mod cx p k v c A r k2 v2 c2 B C h.1).weak ?_
  rintro C2 M' ⟨h0, h1, h2⟩
  refine ⟨h0, h1, ?_, ?_⟩
  · rw [← h.2.1, plug_io, plug_io]
    simp only [tIo_nd, List.append_assoc, List.cons_append, List.nil_append]
  · rw [h.2.1] at h2
    exact h.2.2.tr h2
/-- one entry's cell written: its color -/
theorem TL.col {M' : Mem} {a k v : Nat} {c : Int} {l r : Tr} (h : TL M0 M m vals sz mod L (plug cx (nd a k v c l r))) (x : Int) (hx : x = 0 ∨ x = 1) (hu : mU M M' a (eC k v (tR l) (tR r) (top cx) x)) : TL M0 M' m vals sz mod L (plug cx (nd a k v x l r)) := by
  have hmad := h.1.m_ad
  have hnd := h.1.2.2.1
  obtain ⟨h1, h2, h3, h4⟩ := h.1.at
  obtain ⟨n1, n2⟩ := nd_plug hnd
  obtain ⟨n3, n4, n5, n6, n7⟩ := nd_nd n1
  rw [adT_plug, adT_nd] at hmad
  have ia : a ∈ adT (nd a k v c l r) := (adT_nd ..).mpr (Or.inl rfl)
  have hio : tIo (plug cx (nd a k v x l r)) = tIo (plug cx (nd a k v c l r)) := by
    rw [plug_io, plug_io]
    rfl
  refine ⟨TM.of ?_ (HM.mkn hu.s (h2.dn.2.1.uT fun b hb => hu.2.2 b fun q => n3 (q ▸ hb)) (h2.dn.2.2.uT fun b hb => hu.2.2 b fun q => n4 (q ▸ hb))) (h3.uC fun b hb => hu.2.2 b fun q => n2 _ ia (q ▸ hb)) ?_ ⟨⟨hx, h4.1.2⟩, h4.2⟩, by rw [hio, h.2.1], ?_⟩
  · rw [hu.2.2 m fun q => hmad (Or.inl (Or.inl q))]
    exact h1
  · simp only [adT, hio] at hnd ⊢
    exact hnd
  · refine hu.ff h.2.2 (Or.inl (Or.inr ?_))
    have h5 : a ∈ adT (plug cx (nd a k v c l r)) := (adT_plug ..).mpr (Or.inl ia)
    rw [adT, h.2.1] at h5
    exact h5
theorem TL.setc {t : Tr} (h : TL M0 M m vals sz mod L (plug cx t)) (x : Int) (hx : x = 0 ∨ x = 1) :
    Ct G wJ4_setColor [aR (tR t), aI x] M 1 0 0 (kV fun M' => TL M0 M' m vals sz mod L (plug cx (tRe x t))) := by
  induction t using Tr_ind with
  | h0 =>
    refine (m_setColorN x).weak ?_
    rintro C2 M' ⟨h0, rfl⟩
    exact ⟨h0, h⟩
  | h1 a k v c l r _ _ =>
    refine (m_setColor1 x hx a k v _ _ _ c h.1.at.2.1.dn.1).weak ?_
    rintro C2 M' ⟨h0, h1⟩
    exact ⟨h0, h.col x hx h1⟩
end LL
/-- a tree's root -/
theorem TL.root {M0 : Mem} {m : Nat} {vals : Option Nat} {sz mod : Int} {L : List (Nat × Nat × Nat)} {t : Tr} (h : TL M0 M m vals sz mod L t) : mG M m = some (mC vals (tR t) sz mod) := h.1.1

theorem m_fixI (M0 : Mem) (m : Nat) (vals : Option Nat) (sz mod : Int) (L : List (Nat × Nat × Nat)) (cx : List Fr) (a k v : Nat) (c : Int) (l r : Tr) (h : TL M0 M m vals sz mod L (plug cx (nd a k v c l r))) :
    Ct G wJ4_fixAfterInsertion [aR (some m), aR (some a)] M 2 0 0 (kV fun M' => ∃ t, TL M0 M' m vals sz mod L t) := by
  refine Ct.mk rfl rfl (Nat.le_of_ble_eq_true rfl) ?_
  have fin : ∀ (M1 : Mem) (t : Tr) (a : Nat) (Ls : List (Option AV)), TL M0 M1 m vals sz mod L t → tR t ≠ none → Ls[0]? = some (some (aR (some m))) →
      X G wJ4_fixAfterInsertion (rmO 2 0 0) (mEnd G (kV fun M' => ∃ t, TL M0 M' m vals sz mod L t) 0 0) 0 0 258 Ls [] M1 := by
    intro M1 t a Ls h1 hne hL
    have hm := h1.root
    rcases hr : tR t with _ | b
    · exact absurd hr hne
    · obtain ⟨kb, vb, cb, lb, rb, rfl⟩ := tR_some hr
      have hb := (TM.at (cx := []) h1.1).2.1.dn.1
      rw [hr] at hm
      refine x_aload_n (i := 0) rfl hL dJ4_fixAfterInsertion_258 ?_
      refine gf_J4_101 rfl (by assumption) rfl dJ4_fixAfterInsertion_259 ?_
      refine x_iconst dJ4_fixAfterInsertion_262 ?_
      refine pf_J4_290 (fs' := [_, _, _, _, _, _]) rfl (by omega) (by assumption) rfl rfl dJ4_fixAfterInsertion_263 fun M2 h2 => ?_
      refine x_vret rfl dJ4_fixAfterInsertion_266 ⟨by omega, by omega⟩ ?_
      exact ⟨rfl, _, TL.col (cx := []) h1 1 (Or.inr rfl) h2⟩
  have head : ∀ (M1 : Mem) (cx : List Fr) (a k v : Nat) (c : Int) (l r : Tr) (y : Option AV), TL M0 M1 m vals sz mod L (plug cx (nd a k v c l r)) →
      (∀ f cx', cx = f :: cx' → f.2.2.2.2.1 = 0 → X G wJ4_fixAfterInsertion (rmO 2 0 0) (mEnd G (kV fun M' => ∃ t, TL M0 M' m vals sz mod L t) 0 0) 0 0 27 [some (aR (some m)), some (aR (some a)), y] [] M1) →
      X G wJ4_fixAfterInsertion (rmO 2 0 0) (mEnd G (kV fun M' => ∃ t, TL M0 M' m vals sz mod L t) 0 0) 0 0 5 [some (aR (some m)), some (aR (some a)), y] [] M1 := by
    intro M1 cx a k v c l r y h1 hk
    have hm := h1.1.at.1
    have ha := h1.1.at.2.1.dn.1
    have hX := h1.1.at.2.2.1
    have hok := h1.1.at.2.2.2
    have hne : tR (plug cx (nd a k v c l r)) ≠ none := by
      rw [plug_rt]
      cases cx with
      | nil => simp [crt, tR]
      | cons f cx' =>
        obtain ⟨b, hb, -⟩ := crt_ad (f := f) (cx := cx') (tR (nd a k v c l r))
        rw [hb]
        simp
    refine x_aload_n (i := 1) rfl rfl dJ4_fixAfterInsertion_5 ?_
    refine x_ifnull (tgt := 258) dJ4_fixAfterInsertion_6 (by decide) (fun z => absurd z (by simp)) (fun z e => ?_)
    refine x_aload_n (i := 1) rfl rfl dJ4_fixAfterInsertion_9 ?_
    refine x_aload_n (i := 0) rfl rfl dJ4_fixAfterInsertion_10 ?_
    refine gf_J4_101 rfl (by assumption) rfl dJ4_fixAfterInsertion_11 ?_
    cases cx with
    | nil =>
      refine x_acmp_eq (tgt := 258) dJ4_fixAfterInsertion_14 (by decide) (fun _ => ?_) (fun z => absurd z (by simp [crt, tR]))
      exact fin M1 _ a _ h1 hne rfl
    | cons f cx' =>
      obtain ⟨b, hb, hb2⟩ := crt_ad (f := f) (cx := cx') (tR (nd a k v c l r))
      have hn := (nd_plug h1.1.2.2.1).2 a ((adT_nd ..).mpr (Or.inl rfl))
      refine x_acmp_eq (tgt := 258) dJ4_fixAfterInsertion_14 (by decide) (fun z => absurd z (fun q => hn (by rw [hb] at z; rw [Option.some.inj z]; exact hb2))) (fun _ => ?_)
      have hf := hX.fr.1
      obtain ⟨d, p, kp, vp, cp, s1⟩ := f
      have hcf : cp = 0 ∨ cp = 1 := hok.2.1
      simp only [top] at ha hf
      refine x_aload_n (i := 1) rfl rfl dJ4_fixAfterInsertion_17 ?_
      refine gf_J4_124 rfl (by assumption) rfl dJ4_fixAfterInsertion_18 ?_
      cases d with
      | true =>
        simp only [fcl] at hf
        refine gf_J4_290 rfl (by assumption) rfl dJ4_fixAfterInsertion_21 ?_
        refine x_if_ne (tgt := 258) (by omega) dJ4_fixAfterInsertion_24 (by decide) (fun h9 => ?_) (fun h9 => ?_)
        · exact fin M1 _ a _ h1 hne rfl
        · exact hk _ _ rfl h9
      | false =>
        simp only [fcl] at hf
        refine gf_J4_290 rfl (by assumption) rfl dJ4_fixAfterInsertion_21 ?_
        refine x_if_ne (tgt := 258) (by omega) dJ4_fixAfterInsertion_24 (by decide) (fun h9 => ?_) (fun h9 => ?_)
        · exact fin M1 _ a _ h1 hne rfl
        · exact hk _ _ rfl h9
  have loop : ∀ (n : Nat) (cx : List Fr) (a k v : Nat) (c : Int) (l r : Tr) (y : Option AV) (M1 : Mem), cx.length ≤ n → TL M0 M1 m vals sz mod L (plug cx (nd a k v c l r)) →
      X G wJ4_fixAfterInsertion (rmO 2 0 0) (mEnd G (kV fun M' => ∃ t, TL M0 M' m vals sz mod L t) 0 0) 0 0 5 [some (aR (some m)), some (aR (some a)), y] [] M1 := by
    intro n
    induction n with
    | zero =>
      intro cx a k v c l r y M1 hn h1
      refine head M1 cx a k v c l r y h1 fun f cx' hcx _ => ?_
      rw [hcx] at hn
      simp at hn
    | succ n ih =>
      intro cx a k v c l r y M1 hn h1
      refine head M1 cx a k v c l r y h1 fun f cx' hcx hc0 => ?_
      subst hcx
      obtain ⟨d, p, kp, vp, cp, s1⟩ := f
      have hc1 : cp = 0 := hc0
      subst hc1
      have nx := TL.nf (cx := (d, p, kp, vp, 0, s1) :: cx') (nd a k v c l r) h1
      have hrm := h1.root
      cases d with
      | true =>
        cases cx' with
        | nil =>
          have np := TL.nf (cx := []) (nd p kp vp 0 (nd a k v c l r) s1) h1
          have hnP := nd_nd (nd_plug (cx := []) (t := (nd p kp vp 0 (nd a k v c l r) s1)) h1.1.2.2.1).1
          have hs1 : tR s1 ≠ some a := fun q => hnP.2.2.1 a ((adT_nd ..).mpr (Or.inl rfl)) (rt_ad q)
          refine x_aload_n (i := 1) rfl rfl dJ4_fixAfterInsertion_27 ?_
          refine XCl.A (iv_J4_294 rfl (m_parentOf _ _ _ _ _ nx) rfl rfl rfl (hr_ok (by omega)) (hf_ok (by omega) (by omega)) dJ4_fixAfterInsertion_28) fun r9 M9 h9 => ?_
          obtain ⟨rfl, rfl⟩ := h9
          refine x_aload_n (i := 1) rfl rfl dJ4_fixAfterInsertion_31 ?_
          refine XCl.A (iv_J4_294 rfl (m_parentOf _ _ _ _ _ nx) rfl rfl rfl (hr_ok (by omega)) (hf_ok (by omega) (by omega)) dJ4_fixAfterInsertion_32) fun r9 M9 h9 => ?_
          obtain ⟨rfl, rfl⟩ := h9
          refine XCl.A (iv_J4_294 rfl (m_parentOf _ _ _ _ _ np) rfl rfl rfl (hr_ok (by omega)) (hf_ok (by omega) (by omega)) dJ4_fixAfterInsertion_35) fun r9 M9 h9 => ?_
          obtain ⟨rfl, rfl⟩ := h9
          refine XCl.A (iv_J4_297 rfl (m_leftOf _ _ _ _ _ (Nf.none _)) rfl rfl rfl (hr_ok (by omega)) (hf_ok (by omega) (by omega)) dJ4_fixAfterInsertion_38) fun r9 M9 h9 => ?_
          obtain ⟨rfl, rfl⟩ := h9
          refine x_acmp_ne (tgt := 151) dJ4_fixAfterInsertion_41 (by decide) (fun _ => ?_) (fun z => absurd z (fun q => absurd (show some p = none from q) (by simp)))
          refine x_aload_n (i := 1) rfl rfl dJ4_fixAfterInsertion_151 ?_
          refine XCl.A (iv_J4_294 rfl (m_parentOf _ _ _ _ _ nx) rfl rfl rfl (hr_ok (by omega)) (hf_ok (by omega) (by omega)) dJ4_fixAfterInsertion_152) fun r9 M9 h9 => ?_
          obtain ⟨rfl, rfl⟩ := h9
          refine XCl.A (iv_J4_294 rfl (m_parentOf _ _ _ _ _ np) rfl rfl rfl (hr_ok (by omega)) (hf_ok (by omega) (by omega)) dJ4_fixAfterInsertion_155) fun r9 M9 h9 => ?_
          obtain ⟨rfl, rfl⟩ := h9
          refine XCl.A (iv_J4_297 rfl (m_leftOf _ _ _ _ _ (Nf.none _)) rfl rfl rfl (hr_ok (by omega)) (hf_ok (by omega) (by omega)) dJ4_fixAfterInsertion_158) fun r9 M9 h9 => ?_
          obtain ⟨rfl, rfl⟩ := h9
          refine x_astore_n (i := 2) rfl (by decide) dJ4_fixAfterInsertion_161 ?_
          refine x_aload_n (i := 2) rfl rfl dJ4_fixAfterInsertion_162 ?_
          refine XCl.I (iv_J4_303 rfl (m_colorOf _ _ _ _ _ (Nf.none _)) rfl rfl rfl (hr_ok (by omega)) (hf_ok (by omega) (by omega)) dJ4_fixAfterInsertion_163) fun r9 M9 h9 => ?_
          obtain ⟨rfl, rfl⟩ := h9
          refine x_if_ne (tgt := 204) (by omega) dJ4_fixAfterInsertion_166 (by decide) (fun _ => ?_) (fun z => absurd z (by omega))
          refine x_aload_n (i := 1) rfl rfl dJ4_fixAfterInsertion_204 ?_
          refine x_aload_n (i := 1) rfl rfl dJ4_fixAfterInsertion_205 ?_
          refine XCl.A (iv_J4_294 rfl (m_parentOf _ _ _ _ _ nx) rfl rfl rfl (hr_ok (by omega)) (hf_ok (by omega) (by omega)) dJ4_fixAfterInsertion_206) fun r9 M9 h9 => ?_
          obtain ⟨rfl, rfl⟩ := h9
          refine XCl.A (iv_J4_297 rfl (m_leftOf _ _ _ _ _ np) rfl rfl rfl (hr_ok (by omega)) (hf_ok (by omega) (by omega)) dJ4_fixAfterInsertion_209) fun r9 M9 h9 => ?_
          obtain ⟨rfl, rfl⟩ := h9
          refine x_acmp_ne (tgt := 225) dJ4_fixAfterInsertion_212 (by decide) (fun z => absurd z (fun q => q rfl)) (fun _ => ?_)
          refine x_aload_n (i := 1) rfl rfl dJ4_fixAfterInsertion_215 ?_
          refine XCl.A (iv_J4_294 rfl (m_parentOf _ _ _ _ _ nx) rfl rfl rfl (hr_ok (by omega)) (hf_ok (by omega) (by omega)) dJ4_fixAfterInsertion_216) fun r9 M9 h9 => ?_
          obtain ⟨rfl, rfl⟩ := h9
          refine x_astore_n (i := 1) rfl (by decide) dJ4_fixAfterInsertion_219 ?_
          refine x_aload_n (i := 0) rfl rfl dJ4_fixAfterInsertion_220 ?_
          refine x_aload_n (i := 1) rfl rfl dJ4_fixAfterInsertion_221 ?_
          refine XCl.V (iv_J4_314 rfl (TL.rotR (cx := []) h1) (rc_o hrm rfl) rfl rfl rfl (hr_ok (by omega)) (hf_ok (by omega) (by omega)) dJ4_fixAfterInsertion_222) fun M2 h2 => ?_
          have nx2 := TL.nf (cx := (false, a, k, v, c, l) :: []) (nd p kp vp 0 r s1) h2
          refine x_aload_n (i := 1) rfl rfl dJ4_fixAfterInsertion_225 ?_
          refine XCl.A (iv_J4_294 rfl (m_parentOf _ _ _ _ _ nx2) rfl rfl rfl (hr_ok (by omega)) (hf_ok (by omega) (by omega)) dJ4_fixAfterInsertion_226) fun r9 M9 h9 => ?_
          obtain ⟨rfl, rfl⟩ := h9
          refine x_iconst dJ4_fixAfterInsertion_229 ?_
          refine XCl.V (iv_J4_307 rfl (TL.setc (cx := []) (t := (nd a k v c l (nd p kp vp 0 r s1))) h2 1 (Or.inr rfl)) rfl rfl rfl (hr_ok (by omega)) (hf_ok (by omega) (by omega)) dJ4_fixAfterInsertion_230) fun M3 h3 => ?_
          have nx3 := TL.nf (cx := (false, a, k, v, 1, l) :: []) (nd p kp vp 0 r s1) h3
          have np3 := TL.nf (cx := []) (nd a k v 1 l (nd p kp vp 0 r s1)) h3
          refine x_aload_n (i := 1) rfl rfl dJ4_fixAfterInsertion_233 ?_
          refine XCl.A (iv_J4_294 rfl (m_parentOf _ _ _ _ _ nx3) rfl rfl rfl (hr_ok (by omega)) (hf_ok (by omega) (by omega)) dJ4_fixAfterInsertion_234) fun r9 M9 h9 => ?_
          obtain ⟨rfl, rfl⟩ := h9
          refine XCl.A (iv_J4_294 rfl (m_parentOf _ _ _ _ _ np3) rfl rfl rfl (hr_ok (by omega)) (hf_ok (by omega) (by omega)) dJ4_fixAfterInsertion_237) fun r9 M9 h9 => ?_
          obtain ⟨rfl, rfl⟩ := h9
          refine x_iconst dJ4_fixAfterInsertion_240 ?_
          refine XCl.V (iv_J4_307 rfl (m_setColorN 0) rfl rfl rfl (hr_ok (by omega)) (hf_ok (by omega) (by omega)) dJ4_fixAfterInsertion_241) fun M9 h9 => ?_
          subst h9
          refine x_aload_n (i := 0) rfl rfl dJ4_fixAfterInsertion_244 ?_
          refine x_aload_n (i := 1) rfl rfl dJ4_fixAfterInsertion_245 ?_
          refine XCl.A (iv_J4_294 rfl (m_parentOf _ _ _ _ _ nx3) rfl rfl rfl (hr_ok (by omega)) (hf_ok (by omega) (by omega)) dJ4_fixAfterInsertion_246) fun r9 M9 h9 => ?_
          obtain ⟨rfl, rfl⟩ := h9
          refine XCl.A (iv_J4_294 rfl (m_parentOf _ _ _ _ _ np3) rfl rfl rfl (hr_ok (by omega)) (hf_ok (by omega) (by omega)) dJ4_fixAfterInsertion_249) fun r9 M9 h9 => ?_
          obtain ⟨rfl, rfl⟩ := h9
          refine XCl.V (iv_J4_311 rfl (m_rotLN m) (rc_o h3.root rfl) rfl rfl rfl (hr_ok (by omega)) (hf_ok (by omega) (by omega)) dJ4_fixAfterInsertion_252) fun M9 h9 => ?_
          subst h9
          refine x_goto (tgt := 5) dJ4_fixAfterInsertion_255 (by decide) ?_
          exact head _ [(false, a, k, v, 1, l)] p kp vp 0 r s1 _ h3 (fun f cx9 hf hc => by cases hf; exact absurd (show (1 : Int) = 0 from hc) (by decide))
        | cons f2 cx2 =>
          obtain ⟨d2, g, kg, vg, cg, U⟩ := f2
          cases d2 with
          | true =>
            have np := TL.nf (cx := (true, g, kg, vg, cg, U) :: cx2) (nd p kp vp 0 (nd a k v c l r) s1) h1
            have ng := TL.nf (cx := cx2) (nd g kg vg cg (nd p kp vp 0 (nd a k v c l r) s1) U) h1
            have nu := TL.nf (cx := (false, g, kg, vg, cg, (nd p kp vp 0 (nd a k v c l r) s1)) :: cx2) U h1
            have hnG := nd_nd (nd_plug (cx := cx2) (t := (nd g kg vg cg (nd p kp vp 0 (nd a k v c l r) s1) U)) h1.1.2.2.1).1
            have hnP := nd_nd (nd_plug (cx := (true, g, kg, vg, cg, U) :: cx2) (t := (nd p kp vp 0 (nd a k v c l r) s1)) h1.1.2.2.1).1
            have hs1 : tR s1 ≠ some a := fun q => hnP.2.2.1 a ((adT_nd ..).mpr (Or.inl rfl)) (rt_ad q)
            refine x_aload_n (i := 1) rfl rfl dJ4_fixAfterInsertion_27 ?_
            refine XCl.A (iv_J4_294 rfl (m_parentOf _ _ _ _ _ nx) rfl rfl rfl (hr_ok (by omega)) (hf_ok (by omega) (by omega)) dJ4_fixAfterInsertion_28) fun r9 M9 h9 => ?_
            obtain ⟨rfl, rfl⟩ := h9
            refine x_aload_n (i := 1) rfl rfl dJ4_fixAfterInsertion_31 ?_
            refine XCl.A (iv_J4_294 rfl (m_parentOf _ _ _ _ _ nx) rfl rfl rfl (hr_ok (by omega)) (hf_ok (by omega) (by omega)) dJ4_fixAfterInsertion_32) fun r9 M9 h9 => ?_
            obtain ⟨rfl, rfl⟩ := h9
            refine XCl.A (iv_J4_294 rfl (m_parentOf _ _ _ _ _ np) rfl rfl rfl (hr_ok (by omega)) (hf_ok (by omega) (by omega)) dJ4_fixAfterInsertion_35) fun r9 M9 h9 => ?_
            obtain ⟨rfl, rfl⟩ := h9
            refine XCl.A (iv_J4_297 rfl (m_leftOf _ _ _ _ _ ng) rfl rfl rfl (hr_ok (by omega)) (hf_ok (by omega) (by omega)) dJ4_fixAfterInsertion_38) fun r9 M9 h9 => ?_
            obtain ⟨rfl, rfl⟩ := h9
            refine x_acmp_ne (tgt := 151) dJ4_fixAfterInsertion_41 (by decide) (fun z => absurd z (fun q => q rfl)) (fun _ => ?_)
            refine x_aload_n (i := 1) rfl rfl dJ4_fixAfterInsertion_44 ?_
            refine XCl.A (iv_J4_294 rfl (m_parentOf _ _ _ _ _ nx) rfl rfl rfl (hr_ok (by omega)) (hf_ok (by omega) (by omega)) dJ4_fixAfterInsertion_45) fun r9 M9 h9 => ?_
            obtain ⟨rfl, rfl⟩ := h9
            refine XCl.A (iv_J4_294 rfl (m_parentOf _ _ _ _ _ np) rfl rfl rfl (hr_ok (by omega)) (hf_ok (by omega) (by omega)) dJ4_fixAfterInsertion_48) fun r9 M9 h9 => ?_
            obtain ⟨rfl, rfl⟩ := h9
            refine XCl.A (iv_J4_300 rfl (m_rightOf _ _ _ _ _ ng) rfl rfl rfl (hr_ok (by omega)) (hf_ok (by omega) (by omega)) dJ4_fixAfterInsertion_51) fun r9 M9 h9 => ?_
            obtain ⟨rfl, rfl⟩ := h9
            refine x_astore_n (i := 2) rfl (by decide) dJ4_fixAfterInsertion_54 ?_
            refine x_aload_n (i := 2) rfl rfl dJ4_fixAfterInsertion_55 ?_
            refine XCl.I (iv_J4_303 rfl (m_colorOf _ _ _ _ _ nu) rfl rfl rfl (hr_ok (by omega)) (hf_ok (by omega) (by omega)) dJ4_fixAfterInsertion_56) fun r9 M9 h9 => ?_
            obtain ⟨rfl, rfl⟩ := h9
            have hcU := tC_01 (TM.at (cx := (false, g, kg, vg, cg, (nd p kp vp 0 (nd a k v c l r) s1)) :: cx2) (t := U) h1.1).2.2.2.1
            refine x_if_ne (tgt := 97) (by omega) dJ4_fixAfterInsertion_59 (by decide) (fun hcol => ?_) (fun hcol => ?_)
            · skip
              refine x_aload_n (i := 1) rfl rfl dJ4_fixAfterInsertion_97 ?_
              refine x_aload_n (i := 1) rfl rfl dJ4_fixAfterInsertion_98 ?_
              refine XCl.A (iv_J4_294 rfl (m_parentOf _ _ _ _ _ nx) rfl rfl rfl (hr_ok (by omega)) (hf_ok (by omega) (by omega)) dJ4_fixAfterInsertion_99) fun r9 M9 h9 => ?_
              obtain ⟨rfl, rfl⟩ := h9
              refine XCl.A (iv_J4_300 rfl (m_rightOf _ _ _ _ _ np) rfl rfl rfl (hr_ok (by omega)) (hf_ok (by omega) (by omega)) dJ4_fixAfterInsertion_102) fun r9 M9 h9 => ?_
              obtain ⟨rfl, rfl⟩ := h9
              refine x_acmp_ne (tgt := 118) dJ4_fixAfterInsertion_105 (by decide) (fun _ => ?_) (fun z => absurd z (fun q => hs1 (show some a = tR s1 from q).symm))
              have nx2 := TL.nf (cx := (true, p, kp, vp, 0, s1) :: (true, g, kg, vg, cg, U) :: cx2) (nd a k v c l r) h1
              refine x_aload_n (i := 1) rfl rfl dJ4_fixAfterInsertion_118 ?_
              refine XCl.A (iv_J4_294 rfl (m_parentOf _ _ _ _ _ nx2) rfl rfl rfl (hr_ok (by omega)) (hf_ok (by omega) (by omega)) dJ4_fixAfterInsertion_119) fun r9 M9 h9 => ?_
              obtain ⟨rfl, rfl⟩ := h9
              refine x_iconst dJ4_fixAfterInsertion_122 ?_
              refine XCl.V (iv_J4_307 rfl (TL.setc (cx := (true, g, kg, vg, cg, U) :: cx2) (t := (nd p kp vp 0 (nd a k v c l r) s1)) h1 1 (Or.inr rfl)) rfl rfl rfl (hr_ok (by omega)) (hf_ok (by omega) (by omega)) dJ4_fixAfterInsertion_123) fun M3 h3 => ?_
              have nx3 := TL.nf (cx := (true, p, kp, vp, 1, s1) :: (true, g, kg, vg, cg, U) :: cx2) (nd a k v c l r) h3
              have np3 := TL.nf (cx := (true, g, kg, vg, cg, U) :: cx2) (nd p kp vp 1 (nd a k v c l r) s1) h3
              refine x_aload_n (i := 1) rfl rfl dJ4_fixAfterInsertion_126 ?_
              refine XCl.A (iv_J4_294 rfl (m_parentOf _ _ _ _ _ nx3) rfl rfl rfl (hr_ok (by omega)) (hf_ok (by omega) (by omega)) dJ4_fixAfterInsertion_127) fun r9 M9 h9 => ?_
              obtain ⟨rfl, rfl⟩ := h9
              refine XCl.A (iv_J4_294 rfl (m_parentOf _ _ _ _ _ np3) rfl rfl rfl (hr_ok (by omega)) (hf_ok (by omega) (by omega)) dJ4_fixAfterInsertion_130) fun r9 M9 h9 => ?_
              obtain ⟨rfl, rfl⟩ := h9
              refine x_iconst dJ4_fixAfterInsertion_133 ?_
              refine XCl.V (iv_J4_307 rfl (TL.setc (cx := cx2) (t := (nd g kg vg cg (nd p kp vp 1 (nd a k v c l r) s1) U)) h3 0 (Or.inl rfl)) rfl rfl rfl (hr_ok (by omega)) (hf_ok (by omega) (by omega)) dJ4_fixAfterInsertion_134) fun M4 h4 => ?_
              have nx4 := TL.nf (cx := (true, p, kp, vp, 1, s1) :: (true, g, kg, vg, 0, U) :: cx2) (nd a k v c l r) h4
              have np4 := TL.nf (cx := (true, g, kg, vg, 0, U) :: cx2) (nd p kp vp 1 (nd a k v c l r) s1) h4
              refine x_aload_n (i := 0) rfl rfl dJ4_fixAfterInsertion_137 ?_
              refine x_aload_n (i := 1) rfl rfl dJ4_fixAfterInsertion_138 ?_
              refine XCl.A (iv_J4_294 rfl (m_parentOf _ _ _ _ _ nx4) rfl rfl rfl (hr_ok (by omega)) (hf_ok (by omega) (by omega)) dJ4_fixAfterInsertion_139) fun r9 M9 h9 => ?_
              obtain ⟨rfl, rfl⟩ := h9
              refine XCl.A (iv_J4_294 rfl (m_parentOf _ _ _ _ _ np4) rfl rfl rfl (hr_ok (by omega)) (hf_ok (by omega) (by omega)) dJ4_fixAfterInsertion_142) fun r9 M9 h9 => ?_
              obtain ⟨rfl, rfl⟩ := h9
              refine XCl.V (iv_J4_314 rfl (TL.rotR (cx := cx2) h4) (rc_o h4.root rfl) rfl rfl rfl (hr_ok (by omega)) (hf_ok (by omega) (by omega)) dJ4_fixAfterInsertion_145) fun M5 h5 => ?_
              refine x_goto (tgt := 5) dJ4_fixAfterInsertion_148 (by decide) ?_
              exact head _ ((true, p, kp, vp, 1, (nd g kg vg 0 s1 U)) :: cx2) a k v c l r _ h5 (fun f cx9 hf hc => by cases hf; exact absurd (show (1 : Int) = 0 from hc) (by decide))
            · skip
              refine x_aload_n (i := 1) rfl rfl dJ4_fixAfterInsertion_62 ?_
              refine XCl.A (iv_J4_294 rfl (m_parentOf _ _ _ _ _ nx) rfl rfl rfl (hr_ok (by omega)) (hf_ok (by omega) (by omega)) dJ4_fixAfterInsertion_63) fun r9 M9 h9 => ?_
              obtain ⟨rfl, rfl⟩ := h9
              refine x_iconst dJ4_fixAfterInsertion_66 ?_
              refine XCl.V (iv_J4_307 rfl (TL.setc (cx := (true, g, kg, vg, cg, U) :: cx2) (t := (nd p kp vp 0 (nd a k v c l r) s1)) h1 1 (Or.inr rfl)) rfl rfl rfl (hr_ok (by omega)) (hf_ok (by omega) (by omega)) dJ4_fixAfterInsertion_67) fun M2 h2 => ?_
              refine x_aload_n (i := 2) rfl rfl dJ4_fixAfterInsertion_70 ?_
              refine x_iconst dJ4_fixAfterInsertion_71 ?_
              refine XCl.V (iv_J4_307 rfl (TL.setc (cx := (false, g, kg, vg, cg, (nd p kp vp 1 (nd a k v c l r) s1)) :: cx2) (t := U) h2 1 (Or.inr rfl)) rfl rfl rfl (hr_ok (by omega)) (hf_ok (by omega) (by omega)) dJ4_fixAfterInsertion_72) fun M3 h3 => ?_
              have nx3 := TL.nf (cx := (true, p, kp, vp, 1, s1) :: (true, g, kg, vg, cg, tRe 1 U) :: cx2) (nd a k v c l r) h3
              have np3 := TL.nf (cx := (true, g, kg, vg, cg, tRe 1 U) :: cx2) (nd p kp vp 1 (nd a k v c l r) s1) h3
              refine x_aload_n (i := 1) rfl rfl dJ4_fixAfterInsertion_75 ?_
              refine XCl.A (iv_J4_294 rfl (m_parentOf _ _ _ _ _ nx3) rfl rfl rfl (hr_ok (by omega)) (hf_ok (by omega) (by omega)) dJ4_fixAfterInsertion_76) fun r9 M9 h9 => ?_
              obtain ⟨rfl, rfl⟩ := h9
              refine XCl.A (iv_J4_294 rfl (m_parentOf _ _ _ _ _ np3) rfl rfl rfl (hr_ok (by omega)) (hf_ok (by omega) (by omega)) dJ4_fixAfterInsertion_79) fun r9 M9 h9 => ?_
              obtain ⟨rfl, rfl⟩ := h9
              refine x_iconst dJ4_fixAfterInsertion_82 ?_
              refine XCl.V (iv_J4_307 rfl (TL.setc (cx := cx2) (t := (nd g kg vg cg (nd p kp vp 1 (nd a k v c l r) s1) (tRe 1 U))) h3 0 (Or.inl rfl)) rfl rfl rfl (hr_ok (by omega)) (hf_ok (by omega) (by omega)) dJ4_fixAfterInsertion_83) fun M4 h4 => ?_
              have nx4 := TL.nf (cx := (true, p, kp, vp, 1, s1) :: (true, g, kg, vg, 0, tRe 1 U) :: cx2) (nd a k v c l r) h4
              have np4 := TL.nf (cx := (true, g, kg, vg, 0, tRe 1 U) :: cx2) (nd p kp vp 1 (nd a k v c l r) s1) h4
              refine x_aload_n (i := 1) rfl rfl dJ4_fixAfterInsertion_86 ?_
              refine XCl.A (iv_J4_294 rfl (m_parentOf _ _ _ _ _ nx4) rfl rfl rfl (hr_ok (by omega)) (hf_ok (by omega) (by omega)) dJ4_fixAfterInsertion_87) fun r9 M9 h9 => ?_
              obtain ⟨rfl, rfl⟩ := h9
              refine XCl.A (iv_J4_294 rfl (m_parentOf _ _ _ _ _ np4) rfl rfl rfl (hr_ok (by omega)) (hf_ok (by omega) (by omega)) dJ4_fixAfterInsertion_90) fun r9 M9 h9 => ?_
              obtain ⟨rfl, rfl⟩ := h9
              refine x_astore_n (i := 1) rfl (by decide) dJ4_fixAfterInsertion_93 ?_
              refine x_goto (tgt := 148) dJ4_fixAfterInsertion_94 (by decide) ?_
              refine x_goto (tgt := 5) dJ4_fixAfterInsertion_148 (by decide) ?_
              exact ih cx2 g kg vg 0 _ _ _ M4 (by simp at hn; omega) h4
          | false =>
            have np := TL.nf (cx := (false, g, kg, vg, cg, U) :: cx2) (nd p kp vp 0 (nd a k v c l r) s1) h1
            have ng := TL.nf (cx := cx2) (nd g kg vg cg U (nd p kp vp 0 (nd a k v c l r) s1)) h1
            have nu := TL.nf (cx := (true, g, kg, vg, cg, (nd p kp vp 0 (nd a k v c l r) s1)) :: cx2) U h1
            have hnG := nd_nd (nd_plug (cx := cx2) (t := (nd g kg vg cg U (nd p kp vp 0 (nd a k v c l r) s1))) h1.1.2.2.1).1
            have hnP := nd_nd (nd_plug (cx := (false, g, kg, vg, cg, U) :: cx2) (t := (nd p kp vp 0 (nd a k v c l r) s1)) h1.1.2.2.1).1
            have hs1 : tR s1 ≠ some a := fun q => hnP.2.2.1 a ((adT_nd ..).mpr (Or.inl rfl)) (rt_ad q)
            refine x_aload_n (i := 1) rfl rfl dJ4_fixAfterInsertion_27 ?_
            refine XCl.A (iv_J4_294 rfl (m_parentOf _ _ _ _ _ nx) rfl rfl rfl (hr_ok (by omega)) (hf_ok (by omega) (by omega)) dJ4_fixAfterInsertion_28) fun r9 M9 h9 => ?_
            obtain ⟨rfl, rfl⟩ := h9
            refine x_aload_n (i := 1) rfl rfl dJ4_fixAfterInsertion_31 ?_
            refine XCl.A (iv_J4_294 rfl (m_parentOf _ _ _ _ _ nx) rfl rfl rfl (hr_ok (by omega)) (hf_ok (by omega) (by omega)) dJ4_fixAfterInsertion_32) fun r9 M9 h9 => ?_
            obtain ⟨rfl, rfl⟩ := h9
            refine XCl.A (iv_J4_294 rfl (m_parentOf _ _ _ _ _ np) rfl rfl rfl (hr_ok (by omega)) (hf_ok (by omega) (by omega)) dJ4_fixAfterInsertion_35) fun r9 M9 h9 => ?_
            obtain ⟨rfl, rfl⟩ := h9
            refine XCl.A (iv_J4_297 rfl (m_leftOf _ _ _ _ _ ng) rfl rfl rfl (hr_ok (by omega)) (hf_ok (by omega) (by omega)) dJ4_fixAfterInsertion_38) fun r9 M9 h9 => ?_
            obtain ⟨rfl, rfl⟩ := h9
            have hU : tR U ≠ some p := fun q => hnG.2.2.1 p (rt_ad q) ((adT_nd ..).mpr (Or.inl rfl))
            refine x_acmp_ne (tgt := 151) dJ4_fixAfterInsertion_41 (by decide) (fun _ => ?_) (fun z => absurd z (fun q => hU (show some p = tR U from q).symm))
            refine x_aload_n (i := 1) rfl rfl dJ4_fixAfterInsertion_151 ?_
            refine XCl.A (iv_J4_294 rfl (m_parentOf _ _ _ _ _ nx) rfl rfl rfl (hr_ok (by omega)) (hf_ok (by omega) (by omega)) dJ4_fixAfterInsertion_152) fun r9 M9 h9 => ?_
            obtain ⟨rfl, rfl⟩ := h9
            refine XCl.A (iv_J4_294 rfl (m_parentOf _ _ _ _ _ np) rfl rfl rfl (hr_ok (by omega)) (hf_ok (by omega) (by omega)) dJ4_fixAfterInsertion_155) fun r9 M9 h9 => ?_
            obtain ⟨rfl, rfl⟩ := h9
            refine XCl.A (iv_J4_297 rfl (m_leftOf _ _ _ _ _ ng) rfl rfl rfl (hr_ok (by omega)) (hf_ok (by omega) (by omega)) dJ4_fixAfterInsertion_158) fun r9 M9 h9 => ?_
            obtain ⟨rfl, rfl⟩ := h9
            refine x_astore_n (i := 2) rfl (by decide) dJ4_fixAfterInsertion_161 ?_
            refine x_aload_n (i := 2) rfl rfl dJ4_fixAfterInsertion_162 ?_
            refine XCl.I (iv_J4_303 rfl (m_colorOf _ _ _ _ _ nu) rfl rfl rfl (hr_ok (by omega)) (hf_ok (by omega) (by omega)) dJ4_fixAfterInsertion_163) fun r9 M9 h9 => ?_
            obtain ⟨rfl, rfl⟩ := h9
            have hcU := tC_01 (TM.at (cx := (true, g, kg, vg, cg, (nd p kp vp 0 (nd a k v c l r) s1)) :: cx2) (t := U) h1.1).2.2.2.1
            refine x_if_ne (tgt := 204) (by omega) dJ4_fixAfterInsertion_166 (by decide) (fun hcol => ?_) (fun hcol => ?_)
            · skip
              refine x_aload_n (i := 1) rfl rfl dJ4_fixAfterInsertion_204 ?_
              refine x_aload_n (i := 1) rfl rfl dJ4_fixAfterInsertion_205 ?_
              refine XCl.A (iv_J4_294 rfl (m_parentOf _ _ _ _ _ nx) rfl rfl rfl (hr_ok (by omega)) (hf_ok (by omega) (by omega)) dJ4_fixAfterInsertion_206) fun r9 M9 h9 => ?_
              obtain ⟨rfl, rfl⟩ := h9
              refine XCl.A (iv_J4_297 rfl (m_leftOf _ _ _ _ _ np) rfl rfl rfl (hr_ok (by omega)) (hf_ok (by omega) (by omega)) dJ4_fixAfterInsertion_209) fun r9 M9 h9 => ?_
              obtain ⟨rfl, rfl⟩ := h9
              refine x_acmp_ne (tgt := 225) dJ4_fixAfterInsertion_212 (by decide) (fun z => absurd z (fun q => q rfl)) (fun _ => ?_)
              refine x_aload_n (i := 1) rfl rfl dJ4_fixAfterInsertion_215 ?_
              refine XCl.A (iv_J4_294 rfl (m_parentOf _ _ _ _ _ nx) rfl rfl rfl (hr_ok (by omega)) (hf_ok (by omega) (by omega)) dJ4_fixAfterInsertion_216) fun r9 M9 h9 => ?_
              obtain ⟨rfl, rfl⟩ := h9
              refine x_astore_n (i := 1) rfl (by decide) dJ4_fixAfterInsertion_219 ?_
              refine x_aload_n (i := 0) rfl rfl dJ4_fixAfterInsertion_220 ?_
              refine x_aload_n (i := 1) rfl rfl dJ4_fixAfterInsertion_221 ?_
              refine XCl.V (iv_J4_314 rfl (TL.rotR (cx := (false, g, kg, vg, cg, U) :: cx2) h1) (rc_o hrm rfl) rfl rfl rfl (hr_ok (by omega)) (hf_ok (by omega) (by omega)) dJ4_fixAfterInsertion_222) fun M2 h2 => ?_
              have nx2 := TL.nf (cx := (false, a, k, v, c, l) :: (false, g, kg, vg, cg, U) :: cx2) (nd p kp vp 0 r s1) h2
              refine x_aload_n (i := 1) rfl rfl dJ4_fixAfterInsertion_225 ?_
              refine XCl.A (iv_J4_294 rfl (m_parentOf _ _ _ _ _ nx2) rfl rfl rfl (hr_ok (by omega)) (hf_ok (by omega) (by omega)) dJ4_fixAfterInsertion_226) fun r9 M9 h9 => ?_
              obtain ⟨rfl, rfl⟩ := h9
              refine x_iconst dJ4_fixAfterInsertion_229 ?_
              refine XCl.V (iv_J4_307 rfl (TL.setc (cx := (false, g, kg, vg, cg, U) :: cx2) (t := (nd a k v c l (nd p kp vp 0 r s1))) h2 1 (Or.inr rfl)) rfl rfl rfl (hr_ok (by omega)) (hf_ok (by omega) (by omega)) dJ4_fixAfterInsertion_230) fun M3 h3 => ?_
              have nx3 := TL.nf (cx := (false, a, k, v, 1, l) :: (false, g, kg, vg, cg, U) :: cx2) (nd p kp vp 0 r s1) h3
              have np3 := TL.nf (cx := (false, g, kg, vg, cg, U) :: cx2) (nd a k v 1 l (nd p kp vp 0 r s1)) h3
              refine x_aload_n (i := 1) rfl rfl dJ4_fixAfterInsertion_233 ?_
              refine XCl.A (iv_J4_294 rfl (m_parentOf _ _ _ _ _ nx3) rfl rfl rfl (hr_ok (by omega)) (hf_ok (by omega) (by omega)) dJ4_fixAfterInsertion_234) fun r9 M9 h9 => ?_
              obtain ⟨rfl, rfl⟩ := h9
              refine XCl.A (iv_J4_294 rfl (m_parentOf _ _ _ _ _ np3) rfl rfl rfl (hr_ok (by omega)) (hf_ok (by omega) (by omega)) dJ4_fixAfterInsertion_237) fun r9 M9 h9 => ?_
              obtain ⟨rfl, rfl⟩ := h9
              refine x_iconst dJ4_fixAfterInsertion_240 ?_
              refine XCl.V (iv_J4_307 rfl (TL.setc (cx := cx2) (t := (nd g kg vg cg U (nd a k v 1 l (nd p kp vp 0 r s1)))) h3 0 (Or.inl rfl)) rfl rfl rfl (hr_ok (by omega)) (hf_ok (by omega) (by omega)) dJ4_fixAfterInsertion_241) fun M4 h4 => ?_
              have nx4 := TL.nf (cx := (false, a, k, v, 1, l) :: (false, g, kg, vg, 0, U) :: cx2) (nd p kp vp 0 r s1) h4
              have np4 := TL.nf (cx := (false, g, kg, vg, 0, U) :: cx2) (nd a k v 1 l (nd p kp vp 0 r s1)) h4
              refine x_aload_n (i := 0) rfl rfl dJ4_fixAfterInsertion_244 ?_
              refine x_aload_n (i := 1) rfl rfl dJ4_fixAfterInsertion_245 ?_
              refine XCl.A (iv_J4_294 rfl (m_parentOf _ _ _ _ _ nx4) rfl rfl rfl (hr_ok (by omega)) (hf_ok (by omega) (by omega)) dJ4_fixAfterInsertion_246) fun r9 M9 h9 => ?_
              obtain ⟨rfl, rfl⟩ := h9
              refine XCl.A (iv_J4_294 rfl (m_parentOf _ _ _ _ _ np4) rfl rfl rfl (hr_ok (by omega)) (hf_ok (by omega) (by omega)) dJ4_fixAfterInsertion_249) fun r9 M9 h9 => ?_
              obtain ⟨rfl, rfl⟩ := h9
              refine XCl.V (iv_J4_311 rfl (TL.rotL (cx := cx2) h4) (rc_o h4.root rfl) rfl rfl rfl (hr_ok (by omega)) (hf_ok (by omega) (by omega)) dJ4_fixAfterInsertion_252) fun M5 h5 => ?_
              refine x_goto (tgt := 5) dJ4_fixAfterInsertion_255 (by decide) ?_
              exact head _ ((false, a, k, v, 1, (nd g kg vg 0 U l)) :: cx2) p kp vp 0 r s1 _ h5 (fun f cx9 hf hc => by cases hf; exact absurd (show (1 : Int) = 0 from hc) (by decide))
            · skip
              refine x_aload_n (i := 1) rfl rfl dJ4_fixAfterInsertion_169 ?_
              refine XCl.A (iv_J4_294 rfl (m_parentOf _ _ _ _ _ nx) rfl rfl rfl (hr_ok (by omega)) (hf_ok (by omega) (by omega)) dJ4_fixAfterInsertion_170) fun r9 M9 h9 => ?_
              obtain ⟨rfl, rfl⟩ := h9
              refine x_iconst dJ4_fixAfterInsertion_173 ?_
              refine XCl.V (iv_J4_307 rfl (TL.setc (cx := (false, g, kg, vg, cg, U) :: cx2) (t := (nd p kp vp 0 (nd a k v c l r) s1)) h1 1 (Or.inr rfl)) rfl rfl rfl (hr_ok (by omega)) (hf_ok (by omega) (by omega)) dJ4_fixAfterInsertion_174) fun M2 h2 => ?_
              refine x_aload_n (i := 2) rfl rfl dJ4_fixAfterInsertion_177 ?_
              refine x_iconst dJ4_fixAfterInsertion_178 ?_
              refine XCl.V (iv_J4_307 rfl (TL.setc (cx := (true, g, kg, vg, cg, (nd p kp vp 1 (nd a k v c l r) s1)) :: cx2) (t := U) h2 1 (Or.inr rfl)) rfl rfl rfl (hr_ok (by omega)) (hf_ok (by omega) (by omega)) dJ4_fixAfterInsertion_179) fun M3 h3 => ?_
              have nx3 := TL.nf (cx := (true, p, kp, vp, 1, s1) :: (false, g, kg, vg, cg, tRe 1 U) :: cx2) (nd a k v c l r) h3
              have np3 := TL.nf (cx := (false, g, kg, vg, cg, tRe 1 U) :: cx2) (nd p kp vp 1 (nd a k v c l r) s1) h3
              refine x_aload_n (i := 1) rfl rfl dJ4_fixAfterInsertion_182 ?_
              refine XCl.A (iv_J4_294 rfl (m_parentOf _ _ _ _ _ nx3) rfl rfl rfl (hr_ok (by omega)) (hf_ok (by omega) (by omega)) dJ4_fixAfterInsertion_183) fun r9 M9 h9 => ?_
              obtain ⟨rfl, rfl⟩ := h9
              refine XCl.A (iv_J4_294 rfl (m_parentOf _ _ _ _ _ np3) rfl rfl rfl (hr_ok (by omega)) (hf_ok (by omega) (by omega)) dJ4_fixAfterInsertion_186) fun r9 M9 h9 => ?_
              obtain ⟨rfl, rfl⟩ := h9
              refine x_iconst dJ4_fixAfterInsertion_189 ?_
              refine XCl.V (iv_J4_307 rfl (TL.setc (cx := cx2) (t := (nd g kg vg cg (tRe 1 U) (nd p kp vp 1 (nd a k v c l r) s1))) h3 0 (Or.inl rfl)) rfl rfl rfl (hr_ok (by omega)) (hf_ok (by omega) (by omega)) dJ4_fixAfterInsertion_190) fun M4 h4 => ?_
              have nx4 := TL.nf (cx := (true, p, kp, vp, 1, s1) :: (false, g, kg, vg, 0, tRe 1 U) :: cx2) (nd a k v c l r) h4
              have np4 := TL.nf (cx := (false, g, kg, vg, 0, tRe 1 U) :: cx2) (nd p kp vp 1 (nd a k v c l r) s1) h4
              refine x_aload_n (i := 1) rfl rfl dJ4_fixAfterInsertion_193 ?_
              refine XCl.A (iv_J4_294 rfl (m_parentOf _ _ _ _ _ nx4) rfl rfl rfl (hr_ok (by omega)) (hf_ok (by omega) (by omega)) dJ4_fixAfterInsertion_194) fun r9 M9 h9 => ?_
              obtain ⟨rfl, rfl⟩ := h9
              refine XCl.A (iv_J4_294 rfl (m_parentOf _ _ _ _ _ np4) rfl rfl rfl (hr_ok (by omega)) (hf_ok (by omega) (by omega)) dJ4_fixAfterInsertion_197) fun r9 M9 h9 => ?_
              obtain ⟨rfl, rfl⟩ := h9
              refine x_astore_n (i := 1) rfl (by decide) dJ4_fixAfterInsertion_200 ?_
              refine x_goto (tgt := 255) dJ4_fixAfterInsertion_201 (by decide) ?_
              refine x_goto (tgt := 5) dJ4_fixAfterInsertion_255 (by decide) ?_
              exact ih cx2 g kg vg 0 _ _ _ M4 (by simp at hn; omega) h4
      | false =>
        cases cx' with
        | nil =>
          have np := TL.nf (cx := []) (nd p kp vp 0 s1 (nd a k v c l r)) h1
          have hnP := nd_nd (nd_plug (cx := []) (t := (nd p kp vp 0 s1 (nd a k v c l r))) h1.1.2.2.1).1
          have hs1 : tR s1 ≠ some a := fun q => hnP.2.2.1 a (rt_ad q) ((adT_nd ..).mpr (Or.inl rfl))
          refine x_aload_n (i := 1) rfl rfl dJ4_fixAfterInsertion_27 ?_
          refine XCl.A (iv_J4_294 rfl (m_parentOf _ _ _ _ _ nx) rfl rfl rfl (hr_ok (by omega)) (hf_ok (by omega) (by omega)) dJ4_fixAfterInsertion_28) fun r9 M9 h9 => ?_
          obtain ⟨rfl, rfl⟩ := h9
          refine x_aload_n (i := 1) rfl rfl dJ4_fixAfterInsertion_31 ?_
          refine XCl.A (iv_J4_294 rfl (m_parentOf _ _ _ _ _ nx) rfl rfl rfl (hr_ok (by omega)) (hf_ok (by omega) (by omega)) dJ4_fixAfterInsertion_32) fun r9 M9 h9 => ?_
          obtain ⟨rfl, rfl⟩ := h9
          refine XCl.A (iv_J4_294 rfl (m_parentOf _ _ _ _ _ np) rfl rfl rfl (hr_ok (by omega)) (hf_ok (by omega) (by omega)) dJ4_fixAfterInsertion_35) fun r9 M9 h9 => ?_
          obtain ⟨rfl, rfl⟩ := h9
          refine XCl.A (iv_J4_297 rfl (m_leftOf _ _ _ _ _ (Nf.none _)) rfl rfl rfl (hr_ok (by omega)) (hf_ok (by omega) (by omega)) dJ4_fixAfterInsertion_38) fun r9 M9 h9 => ?_
          obtain ⟨rfl, rfl⟩ := h9
          refine x_acmp_ne (tgt := 151) dJ4_fixAfterInsertion_41 (by decide) (fun _ => ?_) (fun z => absurd z (fun q => absurd (show some p = none from q) (by simp)))
          refine x_aload_n (i := 1) rfl rfl dJ4_fixAfterInsertion_151 ?_
          refine XCl.A (iv_J4_294 rfl (m_parentOf _ _ _ _ _ nx) rfl rfl rfl (hr_ok (by omega)) (hf_ok (by omega) (by omega)) dJ4_fixAfterInsertion_152) fun r9 M9 h9 => ?_
          obtain ⟨rfl, rfl⟩ := h9
          refine XCl.A (iv_J4_294 rfl (m_parentOf _ _ _ _ _ np) rfl rfl rfl (hr_ok (by omega)) (hf_ok (by omega) (by omega)) dJ4_fixAfterInsertion_155) fun r9 M9 h9 => ?_
          obtain ⟨rfl, rfl⟩ := h9
          refine XCl.A (iv_J4_297 rfl (m_leftOf _ _ _ _ _ (Nf.none _)) rfl rfl rfl (hr_ok (by omega)) (hf_ok (by omega) (by omega)) dJ4_fixAfterInsertion_158) fun r9 M9 h9 => ?_
          obtain ⟨rfl, rfl⟩ := h9
          refine x_astore_n (i := 2) rfl (by decide) dJ4_fixAfterInsertion_161 ?_
          refine x_aload_n (i := 2) rfl rfl dJ4_fixAfterInsertion_162 ?_
          refine XCl.I (iv_J4_303 rfl (m_colorOf _ _ _ _ _ (Nf.none _)) rfl rfl rfl (hr_ok (by omega)) (hf_ok (by omega) (by omega)) dJ4_fixAfterInsertion_163) fun r9 M9 h9 => ?_
          obtain ⟨rfl, rfl⟩ := h9
          refine x_if_ne (tgt := 204) (by omega) dJ4_fixAfterInsertion_166 (by decide) (fun _ => ?_) (fun z => absurd z (by omega))
          refine x_aload_n (i := 1) rfl rfl dJ4_fixAfterInsertion_204 ?_
          refine x_aload_n (i := 1) rfl rfl dJ4_fixAfterInsertion_205 ?_
          refine XCl.A (iv_J4_294 rfl (m_parentOf _ _ _ _ _ nx) rfl rfl rfl (hr_ok (by omega)) (hf_ok (by omega) (by omega)) dJ4_fixAfterInsertion_206) fun r9 M9 h9 => ?_
          obtain ⟨rfl, rfl⟩ := h9
          refine XCl.A (iv_J4_297 rfl (m_leftOf _ _ _ _ _ np) rfl rfl rfl (hr_ok (by omega)) (hf_ok (by omega) (by omega)) dJ4_fixAfterInsertion_209) fun r9 M9 h9 => ?_
          obtain ⟨rfl, rfl⟩ := h9
          refine x_acmp_ne (tgt := 225) dJ4_fixAfterInsertion_212 (by decide) (fun _ => ?_) (fun z => absurd z (fun q => hs1 (show some a = tR s1 from q).symm))
          have nx2 := TL.nf (cx := (false, p, kp, vp, 0, s1) :: []) (nd a k v c l r) h1
          refine x_aload_n (i := 1) rfl rfl dJ4_fixAfterInsertion_225 ?_
          refine XCl.A (iv_J4_294 rfl (m_parentOf _ _ _ _ _ nx2) rfl rfl rfl (hr_ok (by omega)) (hf_ok (by omega) (by omega)) dJ4_fixAfterInsertion_226) fun r9 M9 h9 => ?_
          obtain ⟨rfl, rfl⟩ := h9
          refine x_iconst dJ4_fixAfterInsertion_229 ?_
          refine XCl.V (iv_J4_307 rfl (TL.setc (cx := []) (t := (nd p kp vp 0 s1 (nd a k v c l r))) h1 1 (Or.inr rfl)) rfl rfl rfl (hr_ok (by omega)) (hf_ok (by omega) (by omega)) dJ4_fixAfterInsertion_230) fun M3 h3 => ?_
          have nx3 := TL.nf (cx := (false, p, kp, vp, 1, s1) :: []) (nd a k v c l r) h3
          have np3 := TL.nf (cx := []) (nd p kp vp 1 s1 (nd a k v c l r)) h3
          refine x_aload_n (i := 1) rfl rfl dJ4_fixAfterInsertion_233 ?_
          refine XCl.A (iv_J4_294 rfl (m_parentOf _ _ _ _ _ nx3) rfl rfl rfl (hr_ok (by omega)) (hf_ok (by omega) (by omega)) dJ4_fixAfterInsertion_234) fun r9 M9 h9 => ?_
          obtain ⟨rfl, rfl⟩ := h9
          refine XCl.A (iv_J4_294 rfl (m_parentOf _ _ _ _ _ np3) rfl rfl rfl (hr_ok (by omega)) (hf_ok (by omega) (by omega)) dJ4_fixAfterInsertion_237) fun r9 M9 h9 => ?_
          obtain ⟨rfl, rfl⟩ := h9
          refine x_iconst dJ4_fixAfterInsertion_240 ?_
          refine XCl.V (iv_J4_307 rfl (m_setColorN 0) rfl rfl rfl (hr_ok (by omega)) (hf_ok (by omega) (by omega)) dJ4_fixAfterInsertion_241) fun M9 h9 => ?_
          subst h9
          refine x_aload_n (i := 0) rfl rfl dJ4_fixAfterInsertion_244 ?_
          refine x_aload_n (i := 1) rfl rfl dJ4_fixAfterInsertion_245 ?_
          refine XCl.A (iv_J4_294 rfl (m_parentOf _ _ _ _ _ nx3) rfl rfl rfl (hr_ok (by omega)) (hf_ok (by omega) (by omega)) dJ4_fixAfterInsertion_246) fun r9 M9 h9 => ?_
          obtain ⟨rfl, rfl⟩ := h9
          refine XCl.A (iv_J4_294 rfl (m_parentOf _ _ _ _ _ np3) rfl rfl rfl (hr_ok (by omega)) (hf_ok (by omega) (by omega)) dJ4_fixAfterInsertion_249) fun r9 M9 h9 => ?_
          obtain ⟨rfl, rfl⟩ := h9
          refine XCl.V (iv_J4_311 rfl (m_rotLN m) (rc_o h3.root rfl) rfl rfl rfl (hr_ok (by omega)) (hf_ok (by omega) (by omega)) dJ4_fixAfterInsertion_252) fun M9 h9 => ?_
          subst h9
          refine x_goto (tgt := 5) dJ4_fixAfterInsertion_255 (by decide) ?_
          exact head _ [(false, p, kp, vp, 1, s1)] a k v c l r _ h3 (fun f cx9 hf hc => by cases hf; exact absurd (show (1 : Int) = 0 from hc) (by decide))
        | cons f2 cx2 =>
          obtain ⟨d2, g, kg, vg, cg, U⟩ := f2
          cases d2 with
          | true =>
            have np := TL.nf (cx := (true, g, kg, vg, cg, U) :: cx2) (nd p kp vp 0 s1 (nd a k v c l r)) h1
            have ng := TL.nf (cx := cx2) (nd g kg vg cg (nd p kp vp 0 s1 (nd a k v c l r)) U) h1
            have nu := TL.nf (cx := (false, g, kg, vg, cg, (nd p kp vp 0 s1 (nd a k v c l r))) :: cx2) U h1
            have hnG := nd_nd (nd_plug (cx := cx2) (t := (nd g kg vg cg (nd p kp vp 0 s1 (nd a k v c l r)) U)) h1.1.2.2.1).1
            have hnP := nd_nd (nd_plug (cx := (true, g, kg, vg, cg, U) :: cx2) (t := (nd p kp vp 0 s1 (nd a k v c l r))) h1.1.2.2.1).1
            have hs1 : tR s1 ≠ some a := fun q => hnP.2.2.1 a (rt_ad q) ((adT_nd ..).mpr (Or.inl rfl))
            refine x_aload_n (i := 1) rfl rfl dJ4_fixAfterInsertion_27 ?_
            refine XCl.A (iv_J4_294 rfl (m_parentOf _ _ _ _ _ nx) rfl rfl rfl (hr_ok (by omega)) (hf_ok (by omega) (by omega)) dJ4_fixAfterInsertion_28) fun r9 M9 h9 => ?_
            obtain ⟨rfl, rfl⟩ := h9
            refine x_aload_n (i := 1) rfl rfl dJ4_fixAfterInsertion_31 ?_
            refine XCl.A (iv_J4_294 rfl (m_parentOf _ _ _ _ _ nx) rfl rfl rfl (hr_ok (by omega)) (hf_ok (by omega) (by omega)) dJ4_fixAfterInsertion_32) fun r9 M9 h9 => ?_
            obtain ⟨rfl, rfl⟩ := h9
            refine XCl.A (iv_J4_294 rfl (m_parentOf _ _ _ _ _ np) rfl rfl rfl (hr_ok (by omega)) (hf_ok (by omega) (by omega)) dJ4_fixAfterInsertion_35) fun r9 M9 h9 => ?_
            obtain ⟨rfl, rfl⟩ := h9
            refine XCl.A (iv_J4_297 rfl (m_leftOf _ _ _ _ _ ng) rfl rfl rfl (hr_ok (by omega)) (hf_ok (by omega) (by omega)) dJ4_fixAfterInsertion_38) fun r9 M9 h9 => ?_
            obtain ⟨rfl, rfl⟩ := h9
            refine x_acmp_ne (tgt := 151) dJ4_fixAfterInsertion_41 (by decide) (fun z => absurd z (fun q => q rfl)) (fun _ => ?_)
            refine x_aload_n (i := 1) rfl rfl dJ4_fixAfterInsertion_44 ?_
            refine XCl.A (iv_J4_294 rfl (m_parentOf _ _ _ _ _ nx) rfl rfl rfl (hr_ok (by omega)) (hf_ok (by omega) (by omega)) dJ4_fixAfterInsertion_45) fun r9 M9 h9 => ?_
            obtain ⟨rfl, rfl⟩ := h9
            refine XCl.A (iv_J4_294 rfl (m_parentOf _ _ _ _ _ np) rfl rfl rfl (hr_ok (by omega)) (hf_ok (by omega) (by omega)) dJ4_fixAfterInsertion_48) fun r9 M9 h9 => ?_
            obtain ⟨rfl, rfl⟩ := h9
            refine XCl.A (iv_J4_300 rfl (m_rightOf _ _ _ _ _ ng) rfl rfl rfl (hr_ok (by omega)) (hf_ok (by omega) (by omega)) dJ4_fixAfterInsertion_51) fun r9 M9 h9 => ?_
            obtain ⟨rfl, rfl⟩ := h9
            refine x_astore_n (i := 2) rfl (by decide) dJ4_fixAfterInsertion_54 ?_
            refine x_aload_n (i := 2) rfl rfl dJ4_fixAfterInsertion_55 ?_
            refine XCl.I (iv_J4_303 rfl (m_colorOf _ _ _ _ _ nu) rfl rfl rfl (hr_ok (by omega)) (hf_ok (by omega) (by omega)) dJ4_fixAfterInsertion_56) fun r9 M9 h9 => ?_
            obtain ⟨rfl, rfl⟩ := h9
            have hcU := tC_01 (TM.at (cx := (false, g, kg, vg, cg, (nd p kp vp 0 s1 (nd a k v c l r))) :: cx2) (t := U) h1.1).2.2.2.1
            refine x_if_ne (tgt := 97) (by omega) dJ4_fixAfterInsertion_59 (by decide) (fun hcol => ?_) (fun hcol => ?_)
            · skip
              refine x_aload_n (i := 1) rfl rfl dJ4_fixAfterInsertion_97 ?_
              refine x_aload_n (i := 1) rfl rfl dJ4_fixAfterInsertion_98 ?_
              refine XCl.A (iv_J4_294 rfl (m_parentOf _ _ _ _ _ nx) rfl rfl rfl (hr_ok (by omega)) (hf_ok (by omega) (by omega)) dJ4_fixAfterInsertion_99) fun r9 M9 h9 => ?_
              obtain ⟨rfl, rfl⟩ := h9
              refine XCl.A (iv_J4_300 rfl (m_rightOf _ _ _ _ _ np) rfl rfl rfl (hr_ok (by omega)) (hf_ok (by omega) (by omega)) dJ4_fixAfterInsertion_102) fun r9 M9 h9 => ?_
              obtain ⟨rfl, rfl⟩ := h9
              refine x_acmp_ne (tgt := 118) dJ4_fixAfterInsertion_105 (by decide) (fun z => absurd z (fun q => q rfl)) (fun _ => ?_)
              refine x_aload_n (i := 1) rfl rfl dJ4_fixAfterInsertion_108 ?_
              refine XCl.A (iv_J4_294 rfl (m_parentOf _ _ _ _ _ nx) rfl rfl rfl (hr_ok (by omega)) (hf_ok (by omega) (by omega)) dJ4_fixAfterInsertion_109) fun r9 M9 h9 => ?_
              obtain ⟨rfl, rfl⟩ := h9
              refine x_astore_n (i := 1) rfl (by decide) dJ4_fixAfterInsertion_112 ?_
              refine x_aload_n (i := 0) rfl rfl dJ4_fixAfterInsertion_113 ?_
              refine x_aload_n (i := 1) rfl rfl dJ4_fixAfterInsertion_114 ?_
              refine XCl.V (iv_J4_311 rfl (TL.rotL (cx := (true, g, kg, vg, cg, U) :: cx2) h1) (rc_o hrm rfl) rfl rfl rfl (hr_ok (by omega)) (hf_ok (by omega) (by omega)) dJ4_fixAfterInsertion_115) fun M2 h2 => ?_
              have nx2 := TL.nf (cx := (true, a, k, v, c, r) :: (true, g, kg, vg, cg, U) :: cx2) (nd p kp vp 0 s1 l) h2
              refine x_aload_n (i := 1) rfl rfl dJ4_fixAfterInsertion_118 ?_
              refine XCl.A (iv_J4_294 rfl (m_parentOf _ _ _ _ _ nx2) rfl rfl rfl (hr_ok (by omega)) (hf_ok (by omega) (by omega)) dJ4_fixAfterInsertion_119) fun r9 M9 h9 => ?_
              obtain ⟨rfl, rfl⟩ := h9
              refine x_iconst dJ4_fixAfterInsertion_122 ?_
              refine XCl.V (iv_J4_307 rfl (TL.setc (cx := (true, g, kg, vg, cg, U) :: cx2) (t := (nd a k v c (nd p kp vp 0 s1 l) r)) h2 1 (Or.inr rfl)) rfl rfl rfl (hr_ok (by omega)) (hf_ok (by omega) (by omega)) dJ4_fixAfterInsertion_123) fun M3 h3 => ?_
              have nx3 := TL.nf (cx := (true, a, k, v, 1, r) :: (true, g, kg, vg, cg, U) :: cx2) (nd p kp vp 0 s1 l) h3
              have np3 := TL.nf (cx := (true, g, kg, vg, cg, U) :: cx2) (nd a k v 1 (nd p kp vp 0 s1 l) r) h3
              refine x_aload_n (i := 1) rfl rfl dJ4_fixAfterInsertion_126 ?_
              refine XCl.A (iv_J4_294 rfl (m_parentOf _ _ _ _ _ nx3) rfl rfl rfl (hr_ok (by omega)) (hf_ok (by omega) (by omega)) dJ4_fixAfterInsertion_127) fun r9 M9 h9 => ?_
              obtain ⟨rfl, rfl⟩ := h9
              refine XCl.A (iv_J4_294 rfl (m_parentOf _ _ _ _ _ np3) rfl rfl rfl (hr_ok (by omega)) (hf_ok (by omega) (by omega)) dJ4_fixAfterInsertion_130) fun r9 M9 h9 => ?_
              obtain ⟨rfl, rfl⟩ := h9
              refine x_iconst dJ4_fixAfterInsertion_133 ?_
              refine XCl.V (iv_J4_307 rfl (TL.setc (cx := cx2) (t := (nd g kg vg cg (nd a k v 1 (nd p kp vp 0 s1 l) r) U)) h3 0 (Or.inl rfl)) rfl rfl rfl (hr_ok (by omega)) (hf_ok (by omega) (by omega)) dJ4_fixAfterInsertion_134) fun M4 h4 => ?_
              have nx4 := TL.nf (cx := (true, a, k, v, 1, r) :: (true, g, kg, vg, 0, U) :: cx2) (nd p kp vp 0 s1 l) h4
              have np4 := TL.nf (cx := (true, g, kg, vg, 0, U) :: cx2) (nd a k v 1 (nd p kp vp 0 s1 l) r) h4
              refine x_aload_n (i := 0) rfl rfl dJ4_fixAfterInsertion_137 ?_
              refine x_aload_n (i := 1) rfl rfl dJ4_fixAfterInsertion_138 ?_
              refine XCl.A (iv_J4_294 rfl (m_parentOf _ _ _ _ _ nx4) rfl rfl rfl (hr_ok (by omega)) (hf_ok (by omega) (by omega)) dJ4_fixAfterInsertion_139) fun r9 M9 h9 => ?_
              obtain ⟨rfl, rfl⟩ := h9
              refine XCl.A (iv_J4_294 rfl (m_parentOf _ _ _ _ _ np4) rfl rfl rfl (hr_ok (by omega)) (hf_ok (by omega) (by omega)) dJ4_fixAfterInsertion_142) fun r9 M9 h9 => ?_
              obtain ⟨rfl, rfl⟩ := h9
              refine XCl.V (iv_J4_314 rfl (TL.rotR (cx := cx2) h4) (rc_o h4.root rfl) rfl rfl rfl (hr_ok (by omega)) (hf_ok (by omega) (by omega)) dJ4_fixAfterInsertion_145) fun M5 h5 => ?_
              refine x_goto (tgt := 5) dJ4_fixAfterInsertion_148 (by decide) ?_
              exact head _ ((true, a, k, v, 1, (nd g kg vg 0 r U)) :: cx2) p kp vp 0 s1 l _ h5 (fun f cx9 hf hc => by cases hf; exact absurd (show (1 : Int) = 0 from hc) (by decide))
            · skip
              refine x_aload_n (i := 1) rfl rfl dJ4_fixAfterInsertion_62 ?_
              refine XCl.A (iv_J4_294 rfl (m_parentOf _ _ _ _ _ nx) rfl rfl rfl (hr_ok (by omega)) (hf_ok (by omega) (by omega)) dJ4_fixAfterInsertion_63) fun r9 M9 h9 => ?_
              obtain ⟨rfl, rfl⟩ := h9
              refine x_iconst dJ4_fixAfterInsertion_66 ?_
              refine XCl.V (iv_J4_307 rfl (TL.setc (cx := (true, g, kg, vg, cg, U) :: cx2) (t := (nd p kp vp 0 s1 (nd a k v c l r))) h1 1 (Or.inr rfl)) rfl rfl rfl (hr_ok (by omega)) (hf_ok (by omega) (by omega)) dJ4_fixAfterInsertion_67) fun M2 h2 => ?_
              refine x_aload_n (i := 2) rfl rfl dJ4_fixAfterInsertion_70 ?_
              refine x_iconst dJ4_fixAfterInsertion_71 ?_
              refine XCl.V (iv_J4_307 rfl (TL.setc (cx := (false, g, kg, vg, cg, (nd p kp vp 1 s1 (nd a k v c l r))) :: cx2) (t := U) h2 1 (Or.inr rfl)) rfl rfl rfl (hr_ok (by omega)) (hf_ok (by omega) (by omega)) dJ4_fixAfterInsertion_72) fun M3 h3 => ?_
              have nx3 := TL.nf (cx := (false, p, kp, vp, 1, s1) :: (true, g, kg, vg, cg, tRe 1 U) :: cx2) (nd a k v c l r) h3
              have np3 := TL.nf (cx := (true, g, kg, vg, cg, tRe 1 U) :: cx2) (nd p kp vp 1 s1 (nd a k v c l r)) h3
              refine x_aload_n (i := 1) rfl rfl dJ4_fixAfterInsertion_75 ?_
              refine XCl.A (iv_J4_294 rfl (m_parentOf _ _ _ _ _ nx3) rfl rfl rfl (hr_ok (by omega)) (hf_ok (by omega) (by omega)) dJ4_fixAfterInsertion_76) fun r9 M9 h9 => ?_
              obtain ⟨rfl, rfl⟩ := h9
              refine XCl.A (iv_J4_294 rfl (m_parentOf _ _ _ _ _ np3) rfl rfl rfl (hr_ok (by omega)) (hf_ok (by omega) (by omega)) dJ4_fixAfterInsertion_79) fun r9 M9 h9 => ?_
              obtain ⟨rfl, rfl⟩ := h9
              refine x_iconst dJ4_fixAfterInsertion_82 ?_
              refine XCl.V (iv_J4_307 rfl (TL.setc (cx := cx2) (t := (nd g kg vg cg (nd p kp vp 1 s1 (nd a k v c l r)) (tRe 1 U))) h3 0 (Or.inl rfl)) rfl rfl rfl (hr_ok (by omega)) (hf_ok (by omega) (by omega)) dJ4_fixAfterInsertion_83) fun M4 h4 => ?_
              have nx4 := TL.nf (cx := (false, p, kp, vp, 1, s1) :: (true, g, kg, vg, 0, tRe 1 U) :: cx2) (nd a k v c l r) h4
              have np4 := TL.nf (cx := (true, g, kg, vg, 0, tRe 1 U) :: cx2) (nd p kp vp 1 s1 (nd a k v c l r)) h4
              refine x_aload_n (i := 1) rfl rfl dJ4_fixAfterInsertion_86 ?_
              refine XCl.A (iv_J4_294 rfl (m_parentOf _ _ _ _ _ nx4) rfl rfl rfl (hr_ok (by omega)) (hf_ok (by omega) (by omega)) dJ4_fixAfterInsertion_87) fun r9 M9 h9 => ?_
              obtain ⟨rfl, rfl⟩ := h9
              refine XCl.A (iv_J4_294 rfl (m_parentOf _ _ _ _ _ np4) rfl rfl rfl (hr_ok (by omega)) (hf_ok (by omega) (by omega)) dJ4_fixAfterInsertion_90) fun r9 M9 h9 => ?_
              obtain ⟨rfl, rfl⟩ := h9
              refine x_astore_n (i := 1) rfl (by decide) dJ4_fixAfterInsertion_93 ?_
              refine x_goto (tgt := 148) dJ4_fixAfterInsertion_94 (by decide) ?_
              refine x_goto (tgt := 5) dJ4_fixAfterInsertion_148 (by decide) ?_
              exact ih cx2 g kg vg 0 _ _ _ M4 (by simp at hn; omega) h4
          | false =>
            have np := TL.nf (cx := (false, g, kg, vg, cg, U) :: cx2) (nd p kp vp 0 s1 (nd a k v c l r)) h1
            have ng := TL.nf (cx := cx2) (nd g kg vg cg U (nd p kp vp 0 s1 (nd a k v c l r))) h1
            have nu := TL.nf (cx := (true, g, kg, vg, cg, (nd p kp vp 0 s1 (nd a k v c l r))) :: cx2) U h1
            have hnG := nd_nd (nd_plug (cx := cx2) (t := (nd g kg vg cg U (nd p kp vp 0 s1 (nd a k v c l r)))) h1.1.2.2.1).1
            have hnP := nd_nd (nd_plug (cx := (false, g, kg, vg, cg, U) :: cx2) (t := (nd p kp vp 0 s1 (nd a k v c l r))) h1.1.2.2.1).1
            have hs1 : tR s1 ≠ some a := fun q => hnP.2.2.1 a (rt_ad q) ((adT_nd ..).mpr (Or.inl rfl))
            refine x_aload_n (i := 1) rfl rfl dJ4_fixAfterInsertion_27 ?_
            refine XCl.A (iv_J4_294 rfl (m_parentOf _ _ _ _ _ nx) rfl rfl rfl (hr_ok (by omega)) (hf_ok (by omega) (by omega)) dJ4_fixAfterInsertion_28) fun r9 M9 h9 => ?_
            obtain ⟨rfl, rfl⟩ := h9
            refine x_aload_n (i := 1) rfl rfl dJ4_fixAfterInsertion_31 ?_
            refine XCl.A (iv_J4_294 rfl (m_parentOf _ _ _ _ _ nx) rfl rfl rfl (hr_ok (by omega)) (hf_ok (by omega) (by omega)) dJ4_fixAfterInsertion_32) fun r9 M9 h9 => ?_
            obtain ⟨rfl, rfl⟩ := h9
            refine XCl.A (iv_J4_294 rfl (m_parentOf _ _ _ _ _ np) rfl rfl rfl (hr_ok (by omega)) (hf_ok (by omega) (by omega)) dJ4_fixAfterInsertion_35) fun r9 M9 h9 => ?_
            obtain ⟨rfl, rfl⟩ := h9
            refine XCl.A (iv_J4_297 rfl (m_leftOf _ _ _ _ _ ng) rfl rfl rfl (hr_ok (by omega)) (hf_ok (by omega) (by omega)) dJ4_fixAfterInsertion_38) fun r9 M9 h9 => ?_
            obtain ⟨rfl, rfl⟩ := h9
            have hU : tR U ≠ some p := fun q => hnG.2.2.1 p (rt_ad q) ((adT_nd ..).mpr (Or.inl rfl))
            refine x_acmp_ne (tgt := 151) dJ4_fixAfterInsertion_41 (by decide) (fun _ => ?_) (fun z => absurd z (fun q => hU (show some p = tR U from q).symm))
            refine x_aload_n (i := 1) rfl rfl dJ4_fixAfterInsertion_151 ?_
            refine XCl.A (iv_J4_294 rfl (m_parentOf _ _ _ _ _ nx) rfl rfl rfl (hr_ok (by omega)) (hf_ok (by omega) (by omega)) dJ4_fixAfterInsertion_152) fun r9 M9 h9 => ?_
            obtain ⟨rfl, rfl⟩ := h9
            refine XCl.A (iv_J4_294 rfl (m_parentOf _ _ _ _ _ np) rfl rfl rfl (hr_ok (by omega)) (hf_ok (by omega) (by omega)) dJ4_fixAfterInsertion_155) fun r9 M9 h9 => ?_
            obtain ⟨rfl, rfl⟩ := h9
            refine XCl.A (iv_J4_297 rfl (m_leftOf _ _ _ _ _ ng) rfl rfl rfl (hr_ok (by omega)) (hf_ok (by omega) (by omega)) dJ4_fixAfterInsertion_158) fun r9 M9 h9 => ?_
            obtain ⟨rfl, rfl⟩ := h9
            refine x_astore_n (i := 2) rfl (by decide) dJ4_fixAfterInsertion_161 ?_
            refine x_aload_n (i := 2) rfl rfl dJ4_fixAfterInsertion_162 ?_
            refine XCl.I (iv_J4_303 rfl (m_colorOf _ _ _ _ _ nu) rfl rfl rfl (hr_ok (by omega)) (hf_ok (by omega) (by omega)) dJ4_fixAfterInsertion_163) fun r9 M9 h9 => ?_
            obtain ⟨rfl, rfl⟩ := h9
            have hcU := tC_01 (TM.at (cx := (true, g, kg, vg, cg, (nd p kp vp 0 s1 (nd a k v c l r))) :: cx2) (t := U) h1.1).2.2.2.1
            refine x_if_ne (tgt := 204) (by omega) dJ4_fixAfterInsertion_166 (by decide) (fun hcol => ?_) (fun hcol => ?_)
            · skip
              refine x_aload_n (i := 1) rfl rfl dJ4_fixAfterInsertion_204 ?_
              refine x_aload_n (i := 1) rfl rfl dJ4_fixAfterInsertion_205 ?_
              refine XCl.A (iv_J4_294 rfl (m_parentOf _ _ _ _ _ nx) rfl rfl rfl (hr_ok (by omega)) (hf_ok (by omega) (by omega)) dJ4_fixAfterInsertion_206) fun r9 M9 h9 => ?_
              obtain ⟨rfl, rfl⟩ := h9
              refine XCl.A (iv_J4_297 rfl (m_leftOf _ _ _ _ _ np) rfl rfl rfl (hr_ok (by omega)) (hf_ok (by omega) (by omega)) dJ4_fixAfterInsertion_209) fun r9 M9 h9 => ?_
              obtain ⟨rfl, rfl⟩ := h9
              refine x_acmp_ne (tgt := 225) dJ4_fixAfterInsertion_212 (by decide) (fun _ => ?_) (fun z => absurd z (fun q => hs1 (show some a = tR s1 from q).symm))
              have nx2 := TL.nf (cx := (false, p, kp, vp, 0, s1) :: (false, g, kg, vg, cg, U) :: cx2) (nd a k v c l r) h1
              refine x_aload_n (i := 1) rfl rfl dJ4_fixAfterInsertion_225 ?_
              refine XCl.A (iv_J4_294 rfl (m_parentOf _ _ _ _ _ nx2) rfl rfl rfl (hr_ok (by omega)) (hf_ok (by omega) (by omega)) dJ4_fixAfterInsertion_226) fun r9 M9 h9 => ?_
              obtain ⟨rfl, rfl⟩ := h9
              refine x_iconst dJ4_fixAfterInsertion_229 ?_
              refine XCl.V (iv_J4_307 rfl (TL.setc (cx := (false, g, kg, vg, cg, U) :: cx2) (t := (nd p kp vp 0 s1 (nd a k v c l r))) h1 1 (Or.inr rfl)) rfl rfl rfl (hr_ok (by omega)) (hf_ok (by omega) (by omega)) dJ4_fixAfterInsertion_230) fun M3 h3 => ?_
              have nx3 := TL.nf (cx := (false, p, kp, vp, 1, s1) :: (false, g, kg, vg, cg, U) :: cx2) (nd a k v c l r) h3
              have np3 := TL.nf (cx := (false, g, kg, vg, cg, U) :: cx2) (nd p kp vp 1 s1 (nd a k v c l r)) h3
              refine x_aload_n (i := 1) rfl rfl dJ4_fixAfterInsertion_233 ?_
              refine XCl.A (iv_J4_294 rfl (m_parentOf _ _ _ _ _ nx3) rfl rfl rfl (hr_ok (by omega)) (hf_ok (by omega) (by omega)) dJ4_fixAfterInsertion_234) fun r9 M9 h9 => ?_
              obtain ⟨rfl, rfl⟩ := h9
              refine XCl.A (iv_J4_294 rfl (m_parentOf _ _ _ _ _ np3) rfl rfl rfl (hr_ok (by omega)) (hf_ok (by omega) (by omega)) dJ4_fixAfterInsertion_237) fun r9 M9 h9 => ?_
              obtain ⟨rfl, rfl⟩ := h9
              refine x_iconst dJ4_fixAfterInsertion_240 ?_
              refine XCl.V (iv_J4_307 rfl (TL.setc (cx := cx2) (t := (nd g kg vg cg U (nd p kp vp 1 s1 (nd a k v c l r)))) h3 0 (Or.inl rfl)) rfl rfl rfl (hr_ok (by omega)) (hf_ok (by omega) (by omega)) dJ4_fixAfterInsertion_241) fun M4 h4 => ?_
              have nx4 := TL.nf (cx := (false, p, kp, vp, 1, s1) :: (false, g, kg, vg, 0, U) :: cx2) (nd a k v c l r) h4
              have np4 := TL.nf (cx := (false, g, kg, vg, 0, U) :: cx2) (nd p kp vp 1 s1 (nd a k v c l r)) h4
              refine x_aload_n (i := 0) rfl rfl dJ4_fixAfterInsertion_244 ?_
              refine x_aload_n (i := 1) rfl rfl dJ4_fixAfterInsertion_245 ?_
              refine XCl.A (iv_J4_294 rfl (m_parentOf _ _ _ _ _ nx4) rfl rfl rfl (hr_ok (by omega)) (hf_ok (by omega) (by omega)) dJ4_fixAfterInsertion_246) fun r9 M9 h9 => ?_
              obtain ⟨rfl, rfl⟩ := h9
              refine XCl.A (iv_J4_294 rfl (m_parentOf _ _ _ _ _ np4) rfl rfl rfl (hr_ok (by omega)) (hf_ok (by omega) (by omega)) dJ4_fixAfterInsertion_249) fun r9 M9 h9 => ?_
              obtain ⟨rfl, rfl⟩ := h9
              refine XCl.V (iv_J4_311 rfl (TL.rotL (cx := cx2) h4) (rc_o h4.root rfl) rfl rfl rfl (hr_ok (by omega)) (hf_ok (by omega) (by omega)) dJ4_fixAfterInsertion_252) fun M5 h5 => ?_
              refine x_goto (tgt := 5) dJ4_fixAfterInsertion_255 (by decide) ?_
              exact head _ ((false, p, kp, vp, 1, (nd g kg vg 0 U s1)) :: cx2) a k v c l r _ h5 (fun f cx9 hf hc => by cases hf; exact absurd (show (1 : Int) = 0 from hc) (by decide))
            · skip
              refine x_aload_n (i := 1) rfl rfl dJ4_fixAfterInsertion_169 ?_
              refine XCl.A (iv_J4_294 rfl (m_parentOf _ _ _ _ _ nx) rfl rfl rfl (hr_ok (by omega)) (hf_ok (by omega) (by omega)) dJ4_fixAfterInsertion_170) fun r9 M9 h9 => ?_
              obtain ⟨rfl, rfl⟩ := h9
              refine x_iconst dJ4_fixAfterInsertion_173 ?_
              refine XCl.V (iv_J4_307 rfl (TL.setc (cx := (false, g, kg, vg, cg, U) :: cx2) (t := (nd p kp vp 0 s1 (nd a k v c l r))) h1 1 (Or.inr rfl)) rfl rfl rfl (hr_ok (by omega)) (hf_ok (by omega) (by omega)) dJ4_fixAfterInsertion_174) fun M2 h2 => ?_
              refine x_aload_n (i := 2) rfl rfl dJ4_fixAfterInsertion_177 ?_
              refine x_iconst dJ4_fixAfterInsertion_178 ?_
              refine XCl.V (iv_J4_307 rfl (TL.setc (cx := (true, g, kg, vg, cg, (nd p kp vp 1 s1 (nd a k v c l r))) :: cx2) (t := U) h2 1 (Or.inr rfl)) rfl rfl rfl (hr_ok (by omega)) (hf_ok (by omega) (by omega)) dJ4_fixAfterInsertion_179) fun M3 h3 => ?_
              have nx3 := TL.nf (cx := (false, p, kp, vp, 1, s1) :: (false, g, kg, vg, cg, tRe 1 U) :: cx2) (nd a k v c l r) h3
              have np3 := TL.nf (cx := (false, g, kg, vg, cg, tRe 1 U) :: cx2) (nd p kp vp 1 s1 (nd a k v c l r)) h3
              refine x_aload_n (i := 1) rfl rfl dJ4_fixAfterInsertion_182 ?_
              refine XCl.A (iv_J4_294 rfl (m_parentOf _ _ _ _ _ nx3) rfl rfl rfl (hr_ok (by omega)) (hf_ok (by omega) (by omega)) dJ4_fixAfterInsertion_183) fun r9 M9 h9 => ?_
              obtain ⟨rfl, rfl⟩ := h9
              refine XCl.A (iv_J4_294 rfl (m_parentOf _ _ _ _ _ np3) rfl rfl rfl (hr_ok (by omega)) (hf_ok (by omega) (by omega)) dJ4_fixAfterInsertion_186) fun r9 M9 h9 => ?_
              obtain ⟨rfl, rfl⟩ := h9
              refine x_iconst dJ4_fixAfterInsertion_189 ?_
              refine XCl.V (iv_J4_307 rfl (TL.setc (cx := cx2) (t := (nd g kg vg cg (tRe 1 U) (nd p kp vp 1 s1 (nd a k v c l r)))) h3 0 (Or.inl rfl)) rfl rfl rfl (hr_ok (by omega)) (hf_ok (by omega) (by omega)) dJ4_fixAfterInsertion_190) fun M4 h4 => ?_
              have nx4 := TL.nf (cx := (false, p, kp, vp, 1, s1) :: (false, g, kg, vg, 0, tRe 1 U) :: cx2) (nd a k v c l r) h4
              have np4 := TL.nf (cx := (false, g, kg, vg, 0, tRe 1 U) :: cx2) (nd p kp vp 1 s1 (nd a k v c l r)) h4
              refine x_aload_n (i := 1) rfl rfl dJ4_fixAfterInsertion_193 ?_
              refine XCl.A (iv_J4_294 rfl (m_parentOf _ _ _ _ _ nx4) rfl rfl rfl (hr_ok (by omega)) (hf_ok (by omega) (by omega)) dJ4_fixAfterInsertion_194) fun r9 M9 h9 => ?_
              obtain ⟨rfl, rfl⟩ := h9
              refine XCl.A (iv_J4_294 rfl (m_parentOf _ _ _ _ _ np4) rfl rfl rfl (hr_ok (by omega)) (hf_ok (by omega) (by omega)) dJ4_fixAfterInsertion_197) fun r9 M9 h9 => ?_
              obtain ⟨rfl, rfl⟩ := h9
              refine x_astore_n (i := 1) rfl (by decide) dJ4_fixAfterInsertion_200 ?_
              refine x_goto (tgt := 255) dJ4_fixAfterInsertion_201 (by decide) ?_
              refine x_goto (tgt := 5) dJ4_fixAfterInsertion_255 (by decide) ?_
              exact ih cx2 g kg vg 0 _ _ _ M4 (by simp at hn; omega) h4
  refine x_aload_n (i := 1) rfl rfl dJ4_fixAfterInsertion_0 ?_
  refine x_iconst dJ4_fixAfterInsertion_1 ?_
  have ha := h.1.at.2.1.dn.1
  refine pf_J4_290 (fs' := [_, _, _, _, _, _]) rfl (by omega) (by assumption) rfl rfl dJ4_fixAfterInsertion_2 fun M1 h1 => ?_
  exact loop cx.length cx a k v 0 l r _ M1 (Nat.le_refl _) (h.col 0 (Or.inl rfl) h1)
end JN
