/-! java.util.TreeMap: its entries, rotations -/
set_option maxRecDepth 100000
section JN
variable {G : GG} {M : Mem}
/-- what is read of an entry that may be null -/
def Nf (M : Mem) (o l r p : Option Nat) (c : Int) : Prop := (o = none ∧ l = none ∧ r = none ∧ p = none ∧ c = 1) ∨ (∃ a k v, o = some a ∧ mG M a = some (eC k v l r p c) ∧ (c = 0 ∨ c = 1))
theorem m_parentOf (o l r p : Option Nat) (c : Int) (h : Nf M o l r p c) :
    Ct G wJ4_parentOf [aR o] M 1 0 0 (kR fun x M' => x = p ∧ M = M') := by
  refine Ct.mk rfl rfl (Nat.le_of_ble_eq_true rfl) ?_
  rcases h with ⟨rfl, rfl, rfl, rfl, rfl⟩ | ⟨a, k, v, rfl, hM, hc⟩
  · refine x_aload_n (i := 0) rfl rfl dJ4_parentOf_0 ?_
    refine x_ifnonnull (tgt := 8) dJ4_parentOf_1 (by decide) (fun _ z => absurd z (by simp)) (fun _ => ?_)
    refine x_null dJ4_parentOf_4 ?_
    refine x_goto (tgt := 12) dJ4_parentOf_5 (by decide) ?_
    refine x_aret rfl (Or.inl ⟨_, rfl⟩) dJ4_parentOf_12 ⟨by omega, by omega⟩ ?_
    exact ⟨_, rfl, rfl, rfl⟩
  · refine x_aload_n (i := 0) rfl rfl dJ4_parentOf_0 ?_
    refine x_ifnonnull (tgt := 8) dJ4_parentOf_1 (by decide) (fun z e => ?_) (fun z => absurd z (by simp))
    refine x_aload_n (i := 0) rfl rfl dJ4_parentOf_8 ?_
    refine gf_J4_124 rfl (by assumption) rfl dJ4_parentOf_9 ?_
    refine x_aret rfl (Or.inl ⟨_, rfl⟩) dJ4_parentOf_12 ⟨by omega, by omega⟩ ?_
    exact ⟨_, rfl, rfl, rfl⟩
theorem m_leftOf (o l r p : Option Nat) (c : Int) (h : Nf M o l r p c) :
    Ct G wJ4_leftOf [aR o] M 1 0 0 (kR fun x M' => x = l ∧ M = M') := by
  refine Ct.mk rfl rfl (Nat.le_of_ble_eq_true rfl) ?_
  rcases h with ⟨rfl, rfl, rfl, rfl, rfl⟩ | ⟨a, k, v, rfl, hM, hc⟩
  · refine x_aload_n (i := 0) rfl rfl dJ4_leftOf_0 ?_
    refine x_ifnonnull (tgt := 8) dJ4_leftOf_1 (by decide) (fun _ z => absurd z (by simp)) (fun _ => ?_)
    refine x_null dJ4_leftOf_4 ?_
    refine x_goto (tgt := 12) dJ4_leftOf_5 (by decide) ?_
    refine x_aret rfl (Or.inl ⟨_, rfl⟩) dJ4_leftOf_12 ⟨by omega, by omega⟩ ?_
    exact ⟨_, rfl, rfl, rfl⟩
  · refine x_aload_n (i := 0) rfl rfl dJ4_leftOf_0 ?_
    refine x_ifnonnull (tgt := 8) dJ4_leftOf_1 (by decide) (fun z e => ?_) (fun z => absurd z (by simp))
    refine x_aload_n (i := 0) rfl rfl dJ4_leftOf_8 ?_
    refine gf_J4_111 rfl (by assumption) rfl dJ4_leftOf_9 ?_
    refine x_aret rfl (Or.inl ⟨_, rfl⟩) dJ4_leftOf_12 ⟨by omega, by omega⟩ ?_
    exact ⟨_, rfl, rfl, rfl⟩
theorem m_rightOf (o l r p : Option Nat) (c : Int) (h : Nf M o l r p c) :
    Ct G wJ4_rightOf [aR o] M 1 0 0 (kR fun x M' => x = r ∧ M = M') := by
  refine Ct.mk rfl rfl (Nat.le_of_ble_eq_true rfl) ?_
  rcases h with ⟨rfl, rfl, rfl, rfl, rfl⟩ | ⟨a, k, v, rfl, hM, hc⟩
  · refine x_aload_n (i := 0) rfl rfl dJ4_rightOf_0 ?_
    refine x_ifnonnull (tgt := 8) dJ4_rightOf_1 (by decide) (fun _ z => absurd z (by simp)) (fun _ => ?_)
    refine x_null dJ4_rightOf_4 ?_
    refine x_goto (tgt := 12) dJ4_rightOf_5 (by decide) ?_
    refine x_aret rfl (Or.inl ⟨_, rfl⟩) dJ4_rightOf_12 ⟨by omega, by omega⟩ ?_
    exact ⟨_, rfl, rfl, rfl⟩
  · refine x_aload_n (i := 0) rfl rfl dJ4_rightOf_0 ?_
    refine x_ifnonnull (tgt := 8) dJ4_rightOf_1 (by decide) (fun z e => ?_) (fun z => absurd z (by simp))
    refine x_aload_n (i := 0) rfl rfl dJ4_rightOf_8 ?_
    refine gf_J4_114 rfl (by assumption) rfl dJ4_rightOf_9 ?_
    refine x_aret rfl (Or.inl ⟨_, rfl⟩) dJ4_rightOf_12 ⟨by omega, by omega⟩ ?_
    exact ⟨_, rfl, rfl, rfl⟩
theorem m_colorOf (o l r p : Option Nat) (c : Int) (h : Nf M o l r p c) :
    Ct G wJ4_colorOf [aR o] M 1 0 0 (kI fun x M' => x = c ∧ M = M') := by
  refine Ct.mk rfl rfl (Nat.le_of_ble_eq_true rfl) ?_
  rcases h with ⟨rfl, rfl, rfl, rfl, rfl⟩ | ⟨a, k, v, rfl, hM, hc⟩
  · refine x_aload_n (i := 0) rfl rfl dJ4_colorOf_0 ?_
    refine x_ifnonnull (tgt := 8) dJ4_colorOf_1 (by decide) (fun _ z => absurd z (by simp)) (fun _ => ?_)
    refine x_iconst dJ4_colorOf_4 ?_
    refine x_goto (tgt := 12) dJ4_colorOf_5 (by decide) ?_
    refine x_zret rfl (by omega) dJ4_colorOf_12 ⟨by omega, by omega⟩ ?_
    exact ⟨_, rfl, rfl, rfl⟩
  · refine x_aload_n (i := 0) rfl rfl dJ4_colorOf_0 ?_
    refine x_ifnonnull (tgt := 8) dJ4_colorOf_1 (by decide) (fun z e => ?_) (fun z => absurd z (by simp))
    refine x_aload_n (i := 0) rfl rfl dJ4_colorOf_8 ?_
    refine gf_J4_290 rfl (by assumption) rfl dJ4_colorOf_9 ?_
    refine x_zret rfl (by omega) dJ4_colorOf_12 ⟨by omega, by omega⟩ ?_
    exact ⟨_, rfl, rfl, rfl⟩
theorem m_setColorN (x : Int) : Ct G wJ4_setColor [aR none, aI x] M 1 0 0 (kV fun M' => M = M') := by
  refine Ct.mk rfl rfl (Nat.le_of_ble_eq_true rfl) ?_
  refine x_aload_n (i := 0) rfl rfl dJ4_setColor_0 ?_
  refine x_ifnull (tgt := 9) dJ4_setColor_1 (by decide) (fun _ => ?_) (fun _ z => absurd z (by simp))
  refine x_vret rfl dJ4_setColor_9 ⟨by omega, by omega⟩ ?_
  exact ⟨rfl, rfl⟩
theorem m_setColor1 (x : Int) (hx : x = 0 ∨ x = 1) (a k v : Nat) (l r p : Option Nat) (c : Int) (hM : mG M a = some (eC k v l r p c)) : Ct G wJ4_setColor [aR (some a), aI x] M 1 0 0 (kV fun M' => mU M M' a (eC k v l r p x)) := by
  refine Ct.mk rfl rfl (Nat.le_of_ble_eq_true rfl) ?_
  refine x_aload_n (i := 0) rfl rfl dJ4_setColor_0 ?_
  refine x_ifnull (tgt := 9) dJ4_setColor_1 (by decide) (fun z => absurd z (by simp)) (fun z e => ?_)
  refine x_aload_n (i := 0) rfl rfl dJ4_setColor_4 ?_
  refine x_iload_n (i := 1) rfl rfl dJ4_setColor_5 ?_
  refine pf_J4_290 (fs' := [_, _, _, _, _, _]) rfl (by omega) (by assumption) rfl rfl dJ4_setColor_6 fun M1 h1 => ?_
  refine x_vret rfl dJ4_setColor_9 ⟨by omega, by omega⟩ ?_
  exact ⟨rfl, h1⟩
/-- the map's own cell -/
abbrev mC (vals root : Option Nat) (sz mod : Int) : ACl := cO 7 [aR none, aR vals, aR none, aR root, aI sz, aI mod, aR none, aR none, aR none]
def HM (M : Mem) (L : List (Nat × ACl)) : Prop := ∀ q, q ∈ L → mG M q.1 = some q.2
/-- a map at m with the tree t -/
def TM (M : Mem) (m : Nat) (vals : Option Nat) (sz mod : Int) (t : Tr) : Prop := mG M m = some (mC vals (tR t) sz mod) ∧ HM M (tP t none) ∧ (adT t).Nodup ∧ tOk t
/-- a map's own cells -/
def TmC (m : Nat) (L : List (Nat × Nat × Nat)) : Nat → Prop := fun x => x = m ∨ x ∈ L.map (·.1)
theorem TM.m_ad {m : Nat} {vals : Option Nat} {sz mod : Int} {t : Tr} (h : TM M m vals sz mod t) : m ∉ adT t := by
  intro q
  obtain ⟨c, hc⟩ := ad_pt none q
  have h1 := h.2.1 _ hc
  have h2 : ∀ (t : Tr) (p : Option Nat) (c : ACl), (m, c) ∈ tP t p → ∃ k v l r q x, c = eC k v l r q x := by
    intro t
    induction t using Tr_ind with
    | h0 => intro p c h; simp [tP_lf] at h
    | h1 a k v x l r ihl ihr =>
      intro p c h
      simp only [tP_nd, List.mem_cons, List.mem_append] at h
      rcases h with h | h | h
      · injection h with h1 h2
        exact ⟨_, _, _, _, _, _, h2⟩
      · exact ihl _ _ h
      · exact ihr _ _ h
  obtain ⟨k, v, l, r, q, x, h3⟩ := h2 t none c hc
  rw [h3] at h1
  rw [h.1] at h1
  simp at h1
/-- a place in the tree: what is there and what is above -/
theorem TM.at {m : Nat} {vals : Option Nat} {sz mod : Int} {cx : List Fr} {t : Tr} (h : TM M m vals sz mod (plug cx t)) : mG M m = some (mC vals (crt cx (tR t)) sz mod) ∧ HM M (tP t (top cx)) ∧ HM M (cpt cx (tR t)) ∧ (tOk t ∧ okC cx) := by
  obtain ⟨h1, h2, h3, h4⟩ := h
  rw [plug_rt] at h1
  exact ⟨h1, fun q hq => h2 q ((plug_pt ..).mpr (Or.inl hq)), fun q hq => h2 q ((plug_pt ..).mpr (Or.inr hq)), (plug_ok ..).mp h4⟩
theorem TM.of {m : Nat} {vals : Option Nat} {sz mod : Int} {cx : List Fr} {t : Tr} (h1 : mG M m = some (mC vals (crt cx (tR t)) sz mod)) (h2 : HM M (tP t (top cx))) (h3 : HM M (cpt cx (tR t))) (h4 : (adT (plug cx t)).Nodup) (h5 : tOk t ∧ okC cx) : TM M m vals sz mod (plug cx t) := by
  refine ⟨by rw [plug_rt]; exact h1, fun q hq => ?_, h4, (plug_ok ..).mpr h5⟩
  rcases (plug_pt ..).mp hq with h | h
  · exact h2 q h
  · exact h3 q h
theorem HM.cons {q : Nat × ACl} {L : List (Nat × ACl)} (h : HM M (q :: L)) : mG M q.1 = some q.2 ∧ HM M L := ⟨h q (List.mem_cons_self ..), fun x hx => h x (List.mem_cons_of_mem _ hx)⟩
theorem HM.app {L L' : List (Nat × ACl)} (h : HM M (L ++ L')) : HM M L ∧ HM M L' := ⟨fun x hx => h x (List.mem_append_left _ hx), fun x hx => h x (List.mem_append_right _ hx)⟩
theorem HM.mk {q : Nat × ACl} {L : List (Nat × ACl)} (h : mG M q.1 = some q.2) (k : HM M L) : HM M (q :: L) := fun x hx => by
  rcases List.mem_cons.mp hx with e | e
  · rw [e]; exact h
  · exact k x e
theorem HM.mka {L L' : List (Nat × ACl)} (h : HM M L) (k : HM M L') : HM M (L ++ L') := fun x hx => by
  rcases List.mem_append.mp hx with e | e
  · exact h x e
  · exact k x e
/-- an entry's cell and its children's -/
theorem HM.dn {a k v : Nat} {c : Int} {l r : Tr} {p : Option Nat} (h : HM M (tP (nd a k v c l r) p)) : mG M a = some (eC k v (tR l) (tR r) p c) ∧ HM M (tP l (some a)) ∧ HM M (tP r (some a)) := ⟨h.cons.1, h.cons.2.app⟩
theorem HM.mkn {a k v : Nat} {c : Int} {l r : Tr} {p : Option Nat} (h : mG M a = some (eC k v (tR l) (tR r) p c)) (hl : HM M (tP l (some a))) (hr : HM M (tP r (some a))) : HM M (tP (nd a k v c l r) p) := HM.mk (q := (a, _)) h (hl.mka hr)
/-- what is not written stays -/
theorem HM.u {M' : Mem} {L : List (Nat × ACl)} (h : HM M L) (k : ∀ a c, (a, c) ∈ L → mG M' a = mG M a) : HM M' L := fun q hq => by rw [k q.1 q.2 hq, h q hq]
theorem HM.uT {M' : Mem} {t : Tr} {p : Option Nat} (h : HM M (tP t p)) (k : ∀ a, a ∈ adT t → mG M' a = mG M a) : HM M' (tP t p) := h.u fun a _ hc => k a (pt_ad hc)
theorem HM.uC {M' : Mem} {cx : List Fr} {p : Option Nat} (h : HM M (cpt cx p)) (k : ∀ a, a ∈ adC cx → mG M' a = mG M a) : HM M' (cpt cx p) := h.u fun a _ hc => k a (cpt_ad hc)
/-- a frame's cell and what is above -/
theorem HM.fr {f : Fr} {cx : List Fr} {p : Option Nat} (h : HM M (cpt (f :: cx) p)) : mG M f.2.1 = some (fcl f p (top cx)) ∧ HM M (tP f.2.2.2.2.2 (some f.2.1)) ∧ HM M (cpt cx (some f.2.1)) := ⟨h.cons.1, h.cons.2.app⟩
theorem HM.mkf {f : Fr} {cx : List Fr} {p : Option Nat} (h : mG M f.2.1 = some (fcl f p (top cx))) (h2 : HM M (tP f.2.2.2.2.2 (some f.2.1))) (h3 : HM M (cpt cx (some f.2.1))) : HM M (cpt (f :: cx) p) := HM.mk h (h2.mka h3)
/-- a tree's facts for who reads it -/
theorem HM.nf {t : Tr} {p : Option Nat} (h : HM M (tP t p)) (ho : tOk t) : ∃ l r q c, Nf M (tR t) l r q c := by
  induction t using Tr_ind with
  | h0 => exact ⟨none, none, none, 1, Or.inl ⟨rfl, rfl, rfl, rfl, rfl⟩⟩
  | h1 a k v c l r _ _ => exact ⟨_, _, _, _, Or.inr ⟨a, k, v, rfl, h.dn.1, ho.1⟩⟩
theorem rotL_fin {M' : Mem} {m : Nat} {vals : Option Nat} {sz mod : Int} {cx : List Fr} {p k v : Nat} {c : Int} {A : Tr} {r k2 v2 : Nat} {c2 : Int} {B C : Tr} (h : TM M m vals sz mod (plug cx (nd p k v c A (nd r k2 v2 c2 B C))))
    (fm : mG M' m = some (mC vals (crt cx (some r)) sz mod)) (fp : mG M' p = some (eC k v (tR A) (tR B) (some r) c)) (fr : mG M' r = some (eC k2 v2 (some p) (tR C) (top cx) c2))
    (fb : ∀ b kb vb cb lb rb, B = nd b kb vb cb lb rb → mG M' b = some (eC kb vb (tR lb) (tR rb) (some p) cb)) (fx : ∀ f cx', cx = f :: cx' → mG M' f.2.1 = some (fcl f (some r) (top cx')))
    (fo : ∀ a, a ≠ m → a ≠ p → a ≠ r → tR B ≠ some a → top cx ≠ some a → mG M' a = mG M a) (fz : mZ M' = mZ M) :
    TM M' m vals sz mod (plug cx (nd r k2 v2 c2 (nd p k v c A B) C)) ∧ mF (TmC m (tIo (plug cx (nd p k v c A (nd r k2 v2 c2 B C))))) M M' := by
  have hmad := h.m_ad
  have hnd := h.2.2.1
  have hio : tIo (nd r k2 v2 c2 (nd p k v c A B) C) = tIo (nd p k v c A (nd r k2 v2 c2 B C)) := by
    simp only [tIo_nd, List.append_assoc, List.cons_append, List.nil_append]
  have hnd2 : (adT (plug cx (nd r k2 v2 c2 (nd p k v c A B) C))).Nodup := by
    simp only [adT, plug_io, hio] at hnd ⊢
    exact hnd
  have hin := adT_plug cx (nd p k v c A (nd r k2 v2 c2 B C))
  rw [adT_plug] at hmad
  obtain ⟨hm, hT, hX, hok⟩ := h.at
  obtain ⟨hp, hA, hR⟩ := hT.dn
  obtain ⟨hr, hB, hC⟩ := hR.dn
  obtain ⟨n1, n2⟩ := nd_plug hnd
  have m1 := adT_nd p k v c A (nd r k2 v2 c2 B C)
  have m2 := adT_nd r k2 v2 c2 B C
  have i0 : p ∈ adT (nd p k v c A (nd r k2 v2 c2 B C)) := (m1 _).mpr (Or.inl rfl)
  have i1 : ∀ x, x ∈ adT A → x ∈ adT (nd p k v c A (nd r k2 v2 c2 B C)) := fun x hx => (m1 _).mpr (Or.inr (Or.inl hx))
  have i2 : ∀ x, x ∈ adT (nd r k2 v2 c2 B C) → x ∈ adT (nd p k v c A (nd r k2 v2 c2 B C)) := fun x hx => (m1 _).mpr (Or.inr (Or.inr hx))
  have i3 : ∀ x, x ∈ adT B → x ∈ adT (nd r k2 v2 c2 B C) := fun x hx => (m2 _).mpr (Or.inr (Or.inl hx))
  have i4 : ∀ x, x ∈ adT C → x ∈ adT (nd r k2 v2 c2 B C) := fun x hx => (m2 _).mpr (Or.inr (Or.inr hx))
  have i5 : r ∈ adT (nd r k2 v2 c2 B C) := (m2 _).mpr (Or.inl rfl)
  have q1 : p ∉ adT A ∧ p ∉ adT (nd r k2 v2 c2 B C) ∧ (∀ x, x ∈ adT A → x ∉ adT (nd r k2 v2 c2 B C)) ∧ (adT (nd r k2 v2 c2 B C)).Nodup := by
    obtain ⟨n3, n4, n5, n6, n7⟩ := nd_nd n1
    exact ⟨n3, n4, n5, n7⟩
  obtain ⟨n3, n4, n5, n7⟩ := q1
  have q2 : r ∉ adT B ∧ r ∉ adT C ∧ (∀ x, x ∈ adT B → x ∉ adT C) ∧ (adT B).Nodup := by
    obtain ⟨n8, n9, n10, n11, n12⟩ := nd_nd n7
    exact ⟨n8, n9, n10, n11⟩
  obtain ⟨n8, n9, n10, n11⟩ := q2
  have hA2 : HM M' (tP A (some p)) := hA.uT fun a ha => fo a (fun q => hmad (Or.inl (q ▸ i1 _ ha))) (fun q => n3 (q ▸ ha)) (fun q => n5 _ ha (q ▸ i5)) (fun q => n5 _ ha (i3 _ (rt_ad q))) (fun q => n2 _ (i1 _ ha) (top_ad q))
  have hC2 : HM M' (tP C (some r)) := hC.uT fun a ha => fo a (fun q => hmad (Or.inl (q ▸ i2 _ (i4 _ ha)))) (fun q => n4 (q ▸ i4 _ ha)) (fun q => n9 (q ▸ ha)) (fun q => n10 _ (rt_ad q) ha) (fun q => n2 _ (i2 _ (i4 _ ha)) (top_ad q))
  have hB2 : HM M' (tP B (some p)) := by
    induction B using Tr_ind with
    | h0 => exact fun q hq => by rw [tP_lf] at hq; cases hq
    | h1 b kb vb cb lb rb _ _ =>
      obtain ⟨n13, n14, n15, -, -⟩ := nd_nd n11
      have mb := adT_nd b kb vb cb lb rb
      have hh := hB.dn
      exact HM.mkn (fb _ _ _ _ _ _ rfl)
        (hh.2.1.uT fun a ha => fo a (fun q => hmad (Or.inl (q ▸ i2 _ (i3 _ ((mb _).mpr (Or.inr (Or.inl ha))))))) (fun q => n4 (q ▸ i3 _ ((mb _).mpr (Or.inr (Or.inl ha))))) (fun q => n8 (q ▸ (mb _).mpr (Or.inr (Or.inl ha)))) (fun q => n13 (Option.some.inj q ▸ ha)) (fun q => n2 _ (i2 _ (i3 _ ((mb _).mpr (Or.inr (Or.inl ha))))) (top_ad q)))
        (hh.2.2.uT fun a ha => fo a (fun q => hmad (Or.inl (q ▸ i2 _ (i3 _ ((mb _).mpr (Or.inr (Or.inr ha))))))) (fun q => n4 (q ▸ i3 _ ((mb _).mpr (Or.inr (Or.inr ha))))) (fun q => n8 (q ▸ (mb _).mpr (Or.inr (Or.inr ha)))) (fun q => n14 (Option.some.inj q ▸ ha)) (fun q => n2 _ (i2 _ (i3 _ ((mb _).mpr (Or.inr (Or.inr ha))))) (top_ad q)))
  have hX2 : HM M' (cpt cx (some r)) := by
    cases cx with
    | nil => exact fun q hq => by cases hq
    | cons f cx' =>
      obtain ⟨x1, x2, x3⟩ := hX.fr
      obtain ⟨d, a, k9, v9, c9, s⟩ := f
      obtain ⟨n16, n17, n18, n19, n20⟩ := nd_cons hnd
      have ic := adC_cons d a k9 v9 c9 s cx'
      refine HM.mkf (fx _ _ rfl) (x2.uT fun b hb => ?_) (x3.uC fun b hb => ?_)
      · have hb9 := (ic b).mpr (Or.inr (Or.inl hb))
        exact fo b (fun q => hmad (Or.inr (q ▸ hb9))) (fun q => n2 _ i0 (q ▸ hb9)) (fun q => n2 _ (i2 _ i5) (q ▸ hb9)) (fun q => n2 _ (i2 _ (i3 _ (rt_ad q))) hb9) (fun q => n17 ((show b = a from (Option.some.inj q).symm) ▸ hb))
      · have hb9 := (ic b).mpr (Or.inr (Or.inr hb))
        exact fo b (fun q => hmad (Or.inr (q ▸ hb9))) (fun q => n2 _ i0 (q ▸ hb9)) (fun q => n2 _ (i2 _ i5) (q ▸ hb9)) (fun q => n2 _ (i2 _ (i3 _ (rt_ad q))) hb9) (fun q => n18 ((show b = a from (Option.some.inj q).symm) ▸ hb))
  refine ⟨TM.of fm (HM.mkn fr (HM.mkn fp hA2 hB2) hC2) hX2 hnd2 ?_, by rw [fz]; exact Nat.le_refl _, fun a _ ha => ?_⟩
  · obtain ⟨⟨o1, o2, o3⟩, o4⟩ := hok
    exact ⟨⟨o3.1, ⟨o1, o2, o3.2.1⟩, o3.2.2⟩, o4⟩
  · have hb9 : ∀ x, x ∈ adT (nd p k v c A (nd r k2 v2 c2 B C)) ∨ x ∈ adC cx → a ≠ x := fun x hx q => ha (Or.inr (q ▸ (hin x).mpr hx))
    exact fo a (fun q => ha (Or.inl q)) (hb9 _ (Or.inl i0)) (hb9 _ (Or.inl (i2 _ i5))) (fun q => hb9 a (Or.inl (i2 _ (i3 _ (rt_ad q)))) rfl) (fun q => hb9 a (Or.inr (top_ad q)) rfl)
theorem m_rotL (m : Nat) (vals : Option Nat) (sz mod : Int) (cx : List Fr) (p k v : Nat) (c : Int) (A : Tr) (r k2 v2 : Nat) (c2 : Int) (B C : Tr) (h : TM M m vals sz mod (plug cx (nd p k v c A (nd r k2 v2 c2 B C)))) :
    Ct G wJ4_rotateLeft [aR (some m), aR (some p)] M 1 0 0 (kV fun M' => TM M' m vals sz mod (plug cx (nd r k2 v2 c2 (nd p k v c A B) C)) ∧ mF (TmC m (tIo (plug cx (nd p k v c A (nd r k2 v2 c2 B C))))) M M') := by
  refine Ct.mk rfl rfl (Nat.le_of_ble_eq_true rfl) ?_
  have hmad := h.m_ad
  have hnd := h.2.2.1
  rw [adT_plug] at hmad
  obtain ⟨hm, hT, hX, hok⟩ := h.at
  obtain ⟨hp, hA, hR⟩ := hT.dn
  obtain ⟨hr, hB, hC⟩ := hR.dn
  obtain ⟨n1, n2⟩ := nd_plug hnd
  have m1 := adT_nd p k v c A (nd r k2 v2 c2 B C)
  have m2 := adT_nd r k2 v2 c2 B C
  have ip : p ∈ adT (nd p k v c A (nd r k2 v2 c2 B C)) := (m1 _).mpr (Or.inl rfl)
  have i2 : ∀ x, x ∈ adT (nd r k2 v2 c2 B C) → x ∈ adT (nd p k v c A (nd r k2 v2 c2 B C)) := fun x hx => (m1 _).mpr (Or.inr (Or.inr hx))
  have i3 : ∀ x, x ∈ adT B → x ∈ adT (nd r k2 v2 c2 B C) := fun x hx => (m2 _).mpr (Or.inr (Or.inl hx))
  have i5 : r ∈ adT (nd r k2 v2 c2 B C) := (m2 _).mpr (Or.inl rfl)
  have q1 : p ∉ adT (nd r k2 v2 c2 B C) ∧ (adT (nd r k2 v2 c2 B C)).Nodup := by
    obtain ⟨n3, n4, n5, n6, n7⟩ := nd_nd n1
    exact ⟨n4, n7⟩
  have q2 : r ∉ adT B := by
    obtain ⟨n8, n9, n10, n11, n12⟩ := nd_nd q1.2
    exact n8
  have e1 : p ≠ r := fun q => q1.1 (q ▸ i5)
  have e2 : m ≠ p := fun q => hmad (Or.inl (q ▸ ip))
  have e3 : m ≠ r := fun q => hmad (Or.inl (q ▸ i2 _ i5))
  have eb : ∀ b, tR B = some b → b ≠ m ∧ b ≠ p ∧ b ≠ r := fun b hb => ⟨fun q => hmad (Or.inl (q ▸ i2 _ (i3 _ (rt_ad hb)))), fun q => q1.1 (q ▸ i3 _ (rt_ad hb)), fun q => q2 (q ▸ rt_ad hb)⟩
  have ef : ∀ a, top cx = some a → a ≠ m ∧ a ≠ p ∧ a ≠ r ∧ tR B ≠ some a := fun a ha => ⟨fun q => hmad (Or.inr (q ▸ top_ad ha)), fun q => n2 _ ip (q ▸ top_ad ha), fun q => n2 _ (i2 _ i5) (q ▸ top_ad ha), fun q => n2 _ (i2 _ (i3 _ (rt_ad q))) (top_ad ha)⟩
  -- from 85 on
  have tail : ∀ M4 : Mem, mG M4 m = some (mC vals (crt cx (some r)) sz mod) → mG M4 p = some (eC k v (tR A) (tR B) (top cx) c) → mG M4 r = some (eC k2 v2 (tR B) (tR C) (top cx) c2) →
      (∀ b kb vb cb lb rb, B = nd b kb vb cb lb rb → mG M4 b = some (eC kb vb (tR lb) (tR rb) (some p) cb)) → (∀ f cx', cx = f :: cx' → mG M4 f.2.1 = some (fcl f (some r) (top cx'))) →
      (∀ a, a ≠ m → a ≠ p → a ≠ r → tR B ≠ some a → top cx ≠ some a → mG M4 a = mG M a) → mZ M4 = mZ M →
      X G wJ4_rotateLeft (rmO 1 0 0) (mEnd G (kV fun M' => TM M' m vals sz mod (plug cx (nd r k2 v2 c2 (nd p k v c A B) C)) ∧ mF (TmC m (tIo (plug cx (nd p k v c A (nd r k2 v2 c2 B C))))) M M') 0 0) 0 0 85 [some (aR (some m)), some (aR (some p)), some (aR (some r))] [] M4 := by
    intro M4 fm fp fr fb fx fo fz
    refine x_aload_n (i := 2) rfl rfl dJ4_rotateLeft_85 ?_
    refine x_aload_n (i := 1) rfl rfl dJ4_rotateLeft_86 ?_
    refine pf_J4_111 (fs' := [_, _, _, _, _, _]) rfl (by assumption) rfl rfl dJ4_rotateLeft_87 fun M5 h5 => ?_
    have fp5 := h5.o fp e1
    refine x_aload_n (i := 1) rfl rfl dJ4_rotateLeft_90 ?_
    refine x_aload_n (i := 2) rfl rfl dJ4_rotateLeft_91 ?_
    refine pf_J4_124 (fs' := [_, _, _, _, _, _]) rfl (by assumption) rfl rfl dJ4_rotateLeft_92 fun M6 h6 => ?_
    refine x_vret rfl dJ4_rotateLeft_95 ⟨by omega, by omega⟩ ?_
    have others : ∀ a, a ≠ p → a ≠ r → mG M6 a = mG M4 a := fun a ha hr => by rw [h6.2.2 a ha, h5.2.2 a hr]
    refine ⟨rfl, rotL_fin h ?_ h6.s (h6.o h5.s (Ne.symm e1)) (fun b kb vb cb lb rb hb => ?_) (fun f cx' hf => ?_) (fun a a1 a2 a3 a4 a5 => by rw [others a a2 a3, fo a a1 a2 a3 a4 a5]) (by rw [h6.z, h5.z, fz])⟩
    · rw [others m e2 e3, fm]
    · have e := eb b (by rw [hb]; rfl)
      rw [others b e.2.1 e.2.2, fb _ _ _ _ _ _ hb]
    · have e := ef f.2.1 (by rw [hf]; rfl)
      rw [others _ e.2.1 e.2.2.1, fx _ _ hf]
  have mid : ∀ M2 : Mem, mG M2 p = some (eC k v (tR A) (tR B) (top cx) c) →
      (∀ b kb vb cb lb rb, B = nd b kb vb cb lb rb → mG M2 b = some (eC kb vb (tR lb) (tR rb) (some p) cb)) →
      (∀ a, a ≠ p → tR B ≠ some a → mG M2 a = mG M a) → mZ M2 = mZ M →
      X G wJ4_rotateLeft (rmO 1 0 0) (mEnd G (kV fun M' => TM M' m vals sz mod (plug cx (nd r k2 v2 c2 (nd p k v c A B) C)) ∧ mF (TmC m (tIo (plug cx (nd p k v c A (nd r k2 v2 c2 B C))))) M M') 0 0) 0 0 32 [some (aR (some m)), some (aR (some p)), some (aR (some r))] [] M2 := by
    intro M2 fp fb fo fz
    have bm : tR B ≠ some m := fun q => (eb _ q).1 rfl
    have br : tR B ≠ some r := fun q => (eb _ q).2.2 rfl
    have fm2 : mG M2 m = some (mC vals (crt cx (some p)) sz mod) := by
      rw [fo m e2 bm]
      exact hm
    have fr2 : mG M2 r = some (eC k2 v2 (tR B) (tR C) (some p) c2) := by
      rw [fo r (Ne.symm e1) br]
      exact hr
    refine x_aload_n (i := 2) rfl rfl dJ4_rotateLeft_32 ?_
    refine x_aload_n (i := 1) rfl rfl dJ4_rotateLeft_33 ?_
    refine gf_J4_124 rfl (by assumption) rfl dJ4_rotateLeft_34 ?_
    refine pf_J4_124 (fs' := [_, _, _, _, _, _]) rfl (by assumption) rfl rfl dJ4_rotateLeft_37 fun M3 h3 => ?_
    have fp3 := h3.o fp e1
    have fm3 := h3.o fm2 e3
    have fr3 := h3.s
    refine x_aload_n (i := 1) rfl rfl dJ4_rotateLeft_40 ?_
    refine gf_J4_124 rfl (by assumption) rfl dJ4_rotateLeft_41 ?_
    cases cx with
    | nil =>
      refine x_ifnonnull (tgt := 55) dJ4_rotateLeft_44 (by decide) (fun _ z => absurd z (by simp [top])) (fun _ => ?_)
      refine x_aload_n (i := 0) rfl rfl dJ4_rotateLeft_47 ?_
      refine x_aload_n (i := 2) rfl rfl dJ4_rotateLeft_48 ?_
      refine pf_J4_101 (fs' := [_, _, _, _, _, _, _, _, _]) rfl (by assumption) rfl rfl dJ4_rotateLeft_49 fun M4 h4 => ?_
      refine x_goto (tgt := 85) dJ4_rotateLeft_52 (by decide) ?_
      refine tail M4 h4.s (h4.o fp3 (Ne.symm e2)) (h4.o fr3 (Ne.symm e3)) (fun b kb vb cb lb rb hb => ?_) (fun f cx' hf => by cases hf) (fun a a1 a2 a3 a4 a5 => ?_) (by rw [h4.z, h3.z, fz])
      · have e := eb b (by rw [hb]; rfl)
        rw [h4.2.2 b e.1, h3.2.2 b e.2.2]
        exact fb _ _ _ _ _ _ hb
      · rw [h4.2.2 a a1, h3.2.2 a a3, fo a a2 a4]
    | cons f cx' =>
      obtain ⟨d, a, k9, v9, c9, s⟩ := f
      have e := ef a rfl
      have ha3 : mG M3 a = some (fcl (d, a, k9, v9, c9, s) (some p) (top cx')) := by
        rw [h3.2.2 a e.2.2.1, fo a e.2.1 e.2.2.2]
        exact hX.fr.1
      have fin4 : ∀ M4 : Mem, mU M3 M4 a (fcl (d, a, k9, v9, c9, s) (some r) (top cx')) → X G wJ4_rotateLeft (rmO 1 0 0) (mEnd G (kV fun M' => TM M' m vals sz mod (plug ((d, a, k9, v9, c9, s) :: cx') (nd r k2 v2 c2 (nd p k v c A B) C)) ∧ mF (TmC m (tIo (plug ((d, a, k9, v9, c9, s) :: cx') (nd p k v c A (nd r k2 v2 c2 B C))))) M M') 0 0) 0 0 85 [some (aR (some m)), some (aR (some p)), some (aR (some r))] [] M4 := by
        intro M4 h4
        refine tail M4 (h4.o fm3 (Ne.symm e.1)) (h4.o fp3 (Ne.symm e.2.1)) (h4.o fr3 (Ne.symm e.2.2.1)) (fun b kb vb cb lb rb hb => ?_) (fun f cx9 hf => ?_) (fun b a1 a2 a3 a4 a5 => ?_) (by rw [h4.z, h3.z, fz])
        · have eb9 := eb b (by rw [hb]; rfl)
          rw [h4.2.2 b (fun q => e.2.2.2 (by rw [hb, ← q]; rfl)), h3.2.2 b eb9.2.2]
          exact fb _ _ _ _ _ _ hb
        · injection hf with hf1 hf2
          subst hf1 hf2
          exact h4.s
        · rw [h4.2.2 b (fun q => a5 (by rw [q]; rfl)), h3.2.2 b a3, fo b a2 a4]
      refine x_ifnonnull (tgt := 55) dJ4_rotateLeft_44 (by decide) (fun z e => ?_) (fun z => absurd z (by simp [top]))
      cases d with
      | true =>
        simp only [fcl] at ha3 fin4
        refine x_aload_n (i := 1) rfl rfl dJ4_rotateLeft_55 ?_
        refine gf_J4_124 rfl (by assumption) rfl dJ4_rotateLeft_56 ?_
        refine gf_J4_111 rfl (by assumption) rfl dJ4_rotateLeft_59 ?_
        refine x_aload_n (i := 1) rfl rfl dJ4_rotateLeft_62 ?_
        refine x_acmp_ne (tgt := 77) dJ4_rotateLeft_63 (by decide) (fun z => absurd z (by simp)) (fun _ => ?_)
        refine x_aload_n (i := 1) rfl rfl dJ4_rotateLeft_66 ?_
        refine gf_J4_124 rfl (by assumption) rfl dJ4_rotateLeft_67 ?_
        refine x_aload_n (i := 2) rfl rfl dJ4_rotateLeft_70 ?_
        refine pf_J4_111 (fs' := [_, _, _, _, _, _]) rfl (by assumption) rfl rfl dJ4_rotateLeft_71 fun M4 h4 => ?_
        refine x_goto (tgt := 85) dJ4_rotateLeft_74 (by decide) ?_
        exact fin4 M4 h4
      | false =>
        simp only [fcl] at ha3 fin4
        refine x_aload_n (i := 1) rfl rfl dJ4_rotateLeft_55 ?_
        refine gf_J4_124 rfl (by assumption) rfl dJ4_rotateLeft_56 ?_
        refine gf_J4_111 rfl (by assumption) rfl dJ4_rotateLeft_59 ?_
        refine x_aload_n (i := 1) rfl rfl dJ4_rotateLeft_62 ?_
        refine x_acmp_ne (tgt := 77) dJ4_rotateLeft_63 (by decide) (fun _ => ?_) (fun z => absurd z (fun q => n2 _ ip ((adC_cons ..).mpr (Or.inr (Or.inl (rt_ad (by simpa using q)))))))
        refine x_aload_n (i := 1) rfl rfl dJ4_rotateLeft_77 ?_
        refine gf_J4_124 rfl (by assumption) rfl dJ4_rotateLeft_78 ?_
        refine x_aload_n (i := 2) rfl rfl dJ4_rotateLeft_81 ?_
        refine pf_J4_114 (fs' := [_, _, _, _, _, _]) rfl (by assumption) rfl rfl dJ4_rotateLeft_82 fun M4 h4 => ?_
        exact fin4 M4 h4
  refine x_aload_n (i := 1) rfl rfl dJ4_rotateLeft_0 ?_
  refine x_ifnull (tgt := 95) dJ4_rotateLeft_1 (by decide) (fun z => absurd z (by simp)) (fun z e => ?_)
  refine x_aload_n (i := 1) rfl rfl dJ4_rotateLeft_4 ?_
  refine gf_J4_114 rfl (by assumption) rfl dJ4_rotateLeft_5 ?_
  refine x_astore_n (i := 2) rfl (by decide) dJ4_rotateLeft_8 ?_
  refine x_aload_n (i := 1) rfl rfl dJ4_rotateLeft_9 ?_
  refine x_aload_n (i := 2) rfl rfl dJ4_rotateLeft_10 ?_
  refine gf_J4_111 rfl (by assumption) rfl dJ4_rotateLeft_11 ?_
  refine pf_J4_114 (fs' := [_, _, _, _, _, _]) rfl (by assumption) rfl rfl dJ4_rotateLeft_14 fun M1 h1 => ?_
  have fr1 := h1.o hr (Ne.symm e1)
  refine x_aload_n (i := 2) rfl rfl dJ4_rotateLeft_17 ?_
  refine gf_J4_111 rfl (by assumption) rfl dJ4_rotateLeft_18 ?_
  rcases hB0 : tR B with _ | b
  · refine x_ifnull (tgt := 32) dJ4_rotateLeft_21 (by decide) (fun _ => ?_) (fun _ z => absurd z (by simp))
    rw [hB0] at h1
    refine mid M1 (by rw [hB0]; exact h1.s) (fun b kb vb cb lb rb hb => by rw [hb] at hB0; cases hB0) (fun a a1 a2 => h1.2.2 a a1) h1.z
  · refine x_ifnull (tgt := 32) dJ4_rotateLeft_21 (by decide) (fun z => absurd z (by simp)) (fun z e => ?_)
    obtain ⟨kb, vb, cb, lb, rb, hbe⟩ := tR_some hB0
    have eb9 := eb b hB0
    have hb1 : mG M b = some (eC kb vb (tR lb) (tR rb) (some r) cb) := by
      rw [hbe] at hB
      exact hB.dn.1
    have hb2 := h1.o hb1 eb9.2.1
    refine x_aload_n (i := 2) rfl rfl dJ4_rotateLeft_24 ?_
    refine gf_J4_111 rfl (by assumption) rfl dJ4_rotateLeft_25 ?_
    refine x_aload_n (i := 1) rfl rfl dJ4_rotateLeft_28 ?_
    rw [hB0]
    refine pf_J4_124 (fs' := [_, _, _, _, _, _]) rfl (by assumption) rfl rfl dJ4_rotateLeft_29 fun M2 h2 => ?_
    rw [hB0] at h1
    refine mid M2 ?_ (fun b' kb' vb' cb' lb' rb' hb => ?_) (fun a a1 a2 => by rw [h2.2.2 a (fun q => a2 (by rw [q, hB0])), h1.2.2 a a1]) (by rw [h2.z, h1.z])
    · rw [hB0]
      exact h2.o h1.s (Ne.symm eb9.2.1)
    · rw [hbe] at hb
      injection hb with z1 z2 z3 z4 z5
      subst z1 z4 z5
      injection z2 with z6 z7
      injection z7 with z8 z9
      subst z6 z8 z9
      exact h2.s
theorem rotR_fin {M' : Mem} {m : Nat} {vals : Option Nat} {sz mod : Int} {cx : List Fr} {p k v : Nat} {c : Int} {A : Tr} {r k2 v2 : Nat} {c2 : Int} {B C : Tr} (h : TM M m vals sz mod (plug cx (nd p k v c (nd r k2 v2 c2 C B) A)))
    (fm : mG M' m = some (mC vals (crt cx (some r)) sz mod)) (fp : mG M' p = some (eC k v (tR B) (tR A) (some r) c)) (fr : mG M' r = some (eC k2 v2 (tR C) (some p) (top cx) c2))
    (fb : ∀ b kb vb cb lb rb, B = nd b kb vb cb lb rb → mG M' b = some (eC kb vb (tR lb) (tR rb) (some p) cb)) (fx : ∀ f cx', cx = f :: cx' → mG M' f.2.1 = some (fcl f (some r) (top cx')))
    (fo : ∀ a, a ≠ m → a ≠ p → a ≠ r → tR B ≠ some a → top cx ≠ some a → mG M' a = mG M a) (fz : mZ M' = mZ M) :
    TM M' m vals sz mod (plug cx (nd r k2 v2 c2 C (nd p k v c B A))) ∧ mF (TmC m (tIo (plug cx (nd p k v c (nd r k2 v2 c2 C B) A)))) M M' := by
  have hmad := h.m_ad
  have hnd := h.2.2.1
  have hio : tIo (nd r k2 v2 c2 C (nd p k v c B A)) = tIo (nd p k v c (nd r k2 v2 c2 C B) A) := by
    simp only [tIo_nd, List.append_assoc, List.cons_append, List.nil_append]
  have hnd2 : (adT (plug cx (nd r k2 v2 c2 C (nd p k v c B A)))).Nodup := by
    simp only [adT, plug_io, hio] at hnd ⊢
    exact hnd
  have hin := adT_plug cx (nd p k v c (nd r k2 v2 c2 C B) A)
  rw [adT_plug] at hmad
  obtain ⟨hm, hT, hX, hok⟩ := h.at
  obtain ⟨hp, hR, hA⟩ := hT.dn
  obtain ⟨hr, hC, hB⟩ := hR.dn
  obtain ⟨n1, n2⟩ := nd_plug hnd
  have m1 := adT_nd p k v c (nd r k2 v2 c2 C B) A
  have m2 := adT_nd r k2 v2 c2 C B
  have i0 : p ∈ adT (nd p k v c (nd r k2 v2 c2 C B) A) := (m1 _).mpr (Or.inl rfl)
  have i1 : ∀ x, x ∈ adT A → x ∈ adT (nd p k v c (nd r k2 v2 c2 C B) A) := fun x hx => (m1 _).mpr (Or.inr (Or.inr hx))
  have i2 : ∀ x, x ∈ adT (nd r k2 v2 c2 C B) → x ∈ adT (nd p k v c (nd r k2 v2 c2 C B) A) := fun x hx => (m1 _).mpr (Or.inr (Or.inl hx))
  have i3 : ∀ x, x ∈ adT B → x ∈ adT (nd r k2 v2 c2 C B) := fun x hx => (m2 _).mpr (Or.inr (Or.inr hx))
  have i4 : ∀ x, x ∈ adT C → x ∈ adT (nd r k2 v2 c2 C B) := fun x hx => (m2 _).mpr (Or.inr (Or.inl hx))
  have i5 : r ∈ adT (nd r k2 v2 c2 C B) := (m2 _).mpr (Or.inl rfl)
  have q1 : p ∉ adT A ∧ p ∉ adT (nd r k2 v2 c2 C B) ∧ (∀ x, x ∈ adT A → x ∉ adT (nd r k2 v2 c2 C B)) ∧ (adT (nd r k2 v2 c2 C B)).Nodup := by
    obtain ⟨n3, n4, n5, n6, n7⟩ := nd_nd n1
    exact ⟨n4, n3, fun x hx hy => n5 x hy hx, n6⟩
  obtain ⟨n3, n4, n5, n7⟩ := q1
  have q2 : r ∉ adT B ∧ r ∉ adT C ∧ (∀ x, x ∈ adT B → x ∉ adT C) ∧ (adT B).Nodup := by
    obtain ⟨n8, n9, n10, n11, n12⟩ := nd_nd n7
    exact ⟨n9, n8, fun x hx hy => n10 x hy hx, n12⟩
  obtain ⟨n8, n9, n10, n11⟩ := q2
  have hA2 : HM M' (tP A (some p)) := hA.uT fun a ha => fo a (fun q => hmad (Or.inl (q ▸ i1 _ ha))) (fun q => n3 (q ▸ ha)) (fun q => n5 _ ha (q ▸ i5)) (fun q => n5 _ ha (i3 _ (rt_ad q))) (fun q => n2 _ (i1 _ ha) (top_ad q))
  have hC2 : HM M' (tP C (some r)) := hC.uT fun a ha => fo a (fun q => hmad (Or.inl (q ▸ i2 _ (i4 _ ha)))) (fun q => n4 (q ▸ i4 _ ha)) (fun q => n9 (q ▸ ha)) (fun q => n10 _ (rt_ad q) ha) (fun q => n2 _ (i2 _ (i4 _ ha)) (top_ad q))
  have hB2 : HM M' (tP B (some p)) := by
    induction B using Tr_ind with
    | h0 => exact fun q hq => by rw [tP_lf] at hq; cases hq
    | h1 b kb vb cb lb rb _ _ =>
      obtain ⟨n13, n14, n15, -, -⟩ := nd_nd n11
      have mb := adT_nd b kb vb cb lb rb
      have hh := hB.dn
      exact HM.mkn (fb _ _ _ _ _ _ rfl)
        (hh.2.1.uT fun a ha => fo a (fun q => hmad (Or.inl (q ▸ i2 _ (i3 _ ((mb _).mpr (Or.inr (Or.inl ha))))))) (fun q => n4 (q ▸ i3 _ ((mb _).mpr (Or.inr (Or.inl ha))))) (fun q => n8 (q ▸ (mb _).mpr (Or.inr (Or.inl ha)))) (fun q => n13 (Option.some.inj q ▸ ha)) (fun q => n2 _ (i2 _ (i3 _ ((mb _).mpr (Or.inr (Or.inl ha))))) (top_ad q)))
        (hh.2.2.uT fun a ha => fo a (fun q => hmad (Or.inl (q ▸ i2 _ (i3 _ ((mb _).mpr (Or.inr (Or.inr ha))))))) (fun q => n4 (q ▸ i3 _ ((mb _).mpr (Or.inr (Or.inr ha))))) (fun q => n8 (q ▸ (mb _).mpr (Or.inr (Or.inr ha)))) (fun q => n14 (Option.some.inj q ▸ ha)) (fun q => n2 _ (i2 _ (i3 _ ((mb _).mpr (Or.inr (Or.inr ha))))) (top_ad q)))
  have hX2 : HM M' (cpt cx (some r)) := by
    cases cx with
    | nil => exact fun q hq => by cases hq
    | cons f cx' =>
      obtain ⟨x1, x2, x3⟩ := hX.fr
      obtain ⟨d, a, k9, v9, c9, s⟩ := f
      obtain ⟨n16, n17, n18, n19, n20⟩ := nd_cons hnd
      have ic := adC_cons d a k9 v9 c9 s cx'
      refine HM.mkf (fx _ _ rfl) (x2.uT fun b hb => ?_) (x3.uC fun b hb => ?_)
      · have hb9 := (ic b).mpr (Or.inr (Or.inl hb))
        exact fo b (fun q => hmad (Or.inr (q ▸ hb9))) (fun q => n2 _ i0 (q ▸ hb9)) (fun q => n2 _ (i2 _ i5) (q ▸ hb9)) (fun q => n2 _ (i2 _ (i3 _ (rt_ad q))) hb9) (fun q => n17 ((show b = a from (Option.some.inj q).symm) ▸ hb))
      · have hb9 := (ic b).mpr (Or.inr (Or.inr hb))
        exact fo b (fun q => hmad (Or.inr (q ▸ hb9))) (fun q => n2 _ i0 (q ▸ hb9)) (fun q => n2 _ (i2 _ i5) (q ▸ hb9)) (fun q => n2 _ (i2 _ (i3 _ (rt_ad q))) hb9) (fun q => n18 ((show b = a from (Option.some.inj q).symm) ▸ hb))
  refine ⟨TM.of fm (HM.mkn fr hC2 (HM.mkn fp hB2 hA2)) hX2 hnd2 ?_, by rw [fz]; exact Nat.le_refl _, fun a _ ha => ?_⟩
  · obtain ⟨⟨o1, o2, o3⟩, o4⟩ := hok
    exact ⟨⟨o2.1, o2.2.1, ⟨o1, o2.2.2, o3⟩⟩, o4⟩
  · have hb9 : ∀ x, x ∈ adT (nd p k v c (nd r k2 v2 c2 C B) A) ∨ x ∈ adC cx → a ≠ x := fun x hx q => ha (Or.inr (q ▸ (hin x).mpr hx))
    exact fo a (fun q => ha (Or.inl q)) (hb9 _ (Or.inl i0)) (hb9 _ (Or.inl (i2 _ i5))) (fun q => hb9 a (Or.inl (i2 _ (i3 _ (rt_ad q)))) rfl) (fun q => hb9 a (Or.inr (top_ad q)) rfl)
theorem m_rotR (m : Nat) (vals : Option Nat) (sz mod : Int) (cx : List Fr) (p k v : Nat) (c : Int) (A : Tr) (r k2 v2 : Nat) (c2 : Int) (B C : Tr) (h : TM M m vals sz mod (plug cx (nd p k v c (nd r k2 v2 c2 C B) A))) :
    Ct G wJ4_rotateRight [aR (some m), aR (some p)] M 1 0 0 (kV fun M' => TM M' m vals sz mod (plug cx (nd r k2 v2 c2 C (nd p k v c B A))) ∧ mF (TmC m (tIo (plug cx (nd p k v c (nd r k2 v2 c2 C B) A)))) M M') := by
  refine Ct.mk rfl rfl (Nat.le_of_ble_eq_true rfl) ?_
  have hmad := h.m_ad
  have hnd := h.2.2.1
  rw [adT_plug] at hmad
  obtain ⟨hm, hT, hX, hok⟩ := h.at
  obtain ⟨hp, hR, hA⟩ := hT.dn
  obtain ⟨hr, hC, hB⟩ := hR.dn
  obtain ⟨n1, n2⟩ := nd_plug hnd
  have m1 := adT_nd p k v c (nd r k2 v2 c2 C B) A
  have m2 := adT_nd r k2 v2 c2 C B
  have ip : p ∈ adT (nd p k v c (nd r k2 v2 c2 C B) A) := (m1 _).mpr (Or.inl rfl)
  have i2 : ∀ x, x ∈ adT (nd r k2 v2 c2 C B) → x ∈ adT (nd p k v c (nd r k2 v2 c2 C B) A) := fun x hx => (m1 _).mpr (Or.inr (Or.inl hx))
  have i3 : ∀ x, x ∈ adT B → x ∈ adT (nd r k2 v2 c2 C B) := fun x hx => (m2 _).mpr (Or.inr (Or.inr hx))
  have i5 : r ∈ adT (nd r k2 v2 c2 C B) := (m2 _).mpr (Or.inl rfl)
  have q1 : p ∉ adT (nd r k2 v2 c2 C B) ∧ (adT (nd r k2 v2 c2 C B)).Nodup := by
    obtain ⟨n3, n4, n5, n6, n7⟩ := nd_nd n1
    exact ⟨n3, n6⟩
  have q2 : r ∉ adT B := by
    obtain ⟨n8, n9, n10, n11, n12⟩ := nd_nd q1.2
    exact n9
  have e1 : p ≠ r := fun q => q1.1 (q ▸ i5)
  have e2 : m ≠ p := fun q => hmad (Or.inl (q ▸ ip))
  have e3 : m ≠ r := fun q => hmad (Or.inl (q ▸ i2 _ i5))
  have eb : ∀ b, tR B = some b → b ≠ m ∧ b ≠ p ∧ b ≠ r := fun b hb => ⟨fun q => hmad (Or.inl (q ▸ i2 _ (i3 _ (rt_ad hb)))), fun q => q1.1 (q ▸ i3 _ (rt_ad hb)), fun q => q2 (q ▸ rt_ad hb)⟩
  have ef : ∀ a, top cx = some a → a ≠ m ∧ a ≠ p ∧ a ≠ r ∧ tR B ≠ some a := fun a ha => ⟨fun q => hmad (Or.inr (q ▸ top_ad ha)), fun q => n2 _ ip (q ▸ top_ad ha), fun q => n2 _ (i2 _ i5) (q ▸ top_ad ha), fun q => n2 _ (i2 _ (i3 _ (rt_ad q))) (top_ad ha)⟩
  -- from 85 on
  have tail : ∀ M4 : Mem, mG M4 m = some (mC vals (crt cx (some r)) sz mod) → mG M4 p = some (eC k v (tR B) (tR A) (top cx) c) → mG M4 r = some (eC k2 v2 (tR C) (tR B) (top cx) c2) →
      (∀ b kb vb cb lb rb, B = nd b kb vb cb lb rb → mG M4 b = some (eC kb vb (tR lb) (tR rb) (some p) cb)) → (∀ f cx', cx = f :: cx' → mG M4 f.2.1 = some (fcl f (some r) (top cx'))) →
      (∀ a, a ≠ m → a ≠ p → a ≠ r → tR B ≠ some a → top cx ≠ some a → mG M4 a = mG M a) → mZ M4 = mZ M →
      X G wJ4_rotateRight (rmO 1 0 0) (mEnd G (kV fun M' => TM M' m vals sz mod (plug cx (nd r k2 v2 c2 C (nd p k v c B A))) ∧ mF (TmC m (tIo (plug cx (nd p k v c (nd r k2 v2 c2 C B) A)))) M M') 0 0) 0 0 85 [some (aR (some m)), some (aR (some p)), some (aR (some r))] [] M4 := by
    intro M4 fm fp fr fb fx fo fz
    refine x_aload_n (i := 2) rfl rfl dJ4_rotateRight_85 ?_
    refine x_aload_n (i := 1) rfl rfl dJ4_rotateRight_86 ?_
    refine pf_J4_114 (fs' := [_, _, _, _, _, _]) rfl (by assumption) rfl rfl dJ4_rotateRight_87 fun M5 h5 => ?_
    have fp5 := h5.o fp e1
    refine x_aload_n (i := 1) rfl rfl dJ4_rotateRight_90 ?_
    refine x_aload_n (i := 2) rfl rfl dJ4_rotateRight_91 ?_
    refine pf_J4_124 (fs' := [_, _, _, _, _, _]) rfl (by assumption) rfl rfl dJ4_rotateRight_92 fun M6 h6 => ?_
    refine x_vret rfl dJ4_rotateRight_95 ⟨by omega, by omega⟩ ?_
    have others : ∀ a, a ≠ p → a ≠ r → mG M6 a = mG M4 a := fun a ha hr => by rw [h6.2.2 a ha, h5.2.2 a hr]
    refine ⟨rfl, rotR_fin h ?_ h6.s (h6.o h5.s (Ne.symm e1)) (fun b kb vb cb lb rb hb => ?_) (fun f cx' hf => ?_) (fun a a1 a2 a3 a4 a5 => by rw [others a a2 a3, fo a a1 a2 a3 a4 a5]) (by rw [h6.z, h5.z, fz])⟩
    · rw [others m e2 e3, fm]
    · have e := eb b (by rw [hb]; rfl)
      rw [others b e.2.1 e.2.2, fb _ _ _ _ _ _ hb]
    · have e := ef f.2.1 (by rw [hf]; rfl)
      rw [others _ e.2.1 e.2.2.1, fx _ _ hf]
  have mid : ∀ M2 : Mem, mG M2 p = some (eC k v (tR B) (tR A) (top cx) c) →
      (∀ b kb vb cb lb rb, B = nd b kb vb cb lb rb → mG M2 b = some (eC kb vb (tR lb) (tR rb) (some p) cb)) →
      (∀ a, a ≠ p → tR B ≠ some a → mG M2 a = mG M a) → mZ M2 = mZ M →
      X G wJ4_rotateRight (rmO 1 0 0) (mEnd G (kV fun M' => TM M' m vals sz mod (plug cx (nd r k2 v2 c2 C (nd p k v c B A))) ∧ mF (TmC m (tIo (plug cx (nd p k v c (nd r k2 v2 c2 C B) A)))) M M') 0 0) 0 0 32 [some (aR (some m)), some (aR (some p)), some (aR (some r))] [] M2 := by
    intro M2 fp fb fo fz
    have bm : tR B ≠ some m := fun q => (eb _ q).1 rfl
    have br : tR B ≠ some r := fun q => (eb _ q).2.2 rfl
    have fm2 : mG M2 m = some (mC vals (crt cx (some p)) sz mod) := by
      rw [fo m e2 bm]
      exact hm
    have fr2 : mG M2 r = some (eC k2 v2 (tR C) (tR B) (some p) c2) := by
      rw [fo r (Ne.symm e1) br]
      exact hr
    refine x_aload_n (i := 2) rfl rfl dJ4_rotateRight_32 ?_
    refine x_aload_n (i := 1) rfl rfl dJ4_rotateRight_33 ?_
    refine gf_J4_124 rfl (by assumption) rfl dJ4_rotateRight_34 ?_
    refine pf_J4_124 (fs' := [_, _, _, _, _, _]) rfl (by assumption) rfl rfl dJ4_rotateRight_37 fun M3 h3 => ?_
    have fp3 := h3.o fp e1
    have fm3 := h3.o fm2 e3
    have fr3 := h3.s
    refine x_aload_n (i := 1) rfl rfl dJ4_rotateRight_40 ?_
    refine gf_J4_124 rfl (by assumption) rfl dJ4_rotateRight_41 ?_
    cases cx with
    | nil =>
      refine x_ifnonnull (tgt := 55) dJ4_rotateRight_44 (by decide) (fun _ z => absurd z (by simp [top])) (fun _ => ?_)
      refine x_aload_n (i := 0) rfl rfl dJ4_rotateRight_47 ?_
      refine x_aload_n (i := 2) rfl rfl dJ4_rotateRight_48 ?_
      refine pf_J4_101 (fs' := [_, _, _, _, _, _, _, _, _]) rfl (by assumption) rfl rfl dJ4_rotateRight_49 fun M4 h4 => ?_
      refine x_goto (tgt := 85) dJ4_rotateRight_52 (by decide) ?_
      refine tail M4 h4.s (h4.o fp3 (Ne.symm e2)) (h4.o fr3 (Ne.symm e3)) (fun b kb vb cb lb rb hb => ?_) (fun f cx' hf => by cases hf) (fun a a1 a2 a3 a4 a5 => ?_) (by rw [h4.z, h3.z, fz])
      · have e := eb b (by rw [hb]; rfl)
        rw [h4.2.2 b e.1, h3.2.2 b e.2.2]
        exact fb _ _ _ _ _ _ hb
      · rw [h4.2.2 a a1, h3.2.2 a a3, fo a a2 a4]
    | cons f cx' =>
      obtain ⟨d, a, k9, v9, c9, s⟩ := f
      have e := ef a rfl
      have ha3 : mG M3 a = some (fcl (d, a, k9, v9, c9, s) (some p) (top cx')) := by
        rw [h3.2.2 a e.2.2.1, fo a e.2.1 e.2.2.2]
        exact hX.fr.1
      have fin4 : ∀ M4 : Mem, mU M3 M4 a (fcl (d, a, k9, v9, c9, s) (some r) (top cx')) → X G wJ4_rotateRight (rmO 1 0 0) (mEnd G (kV fun M' => TM M' m vals sz mod (plug ((d, a, k9, v9, c9, s) :: cx') (nd r k2 v2 c2 C (nd p k v c B A))) ∧ mF (TmC m (tIo (plug ((d, a, k9, v9, c9, s) :: cx') (nd p k v c (nd r k2 v2 c2 C B) A)))) M M') 0 0) 0 0 85 [some (aR (some m)), some (aR (some p)), some (aR (some r))] [] M4 := by
        intro M4 h4
        refine tail M4 (h4.o fm3 (Ne.symm e.1)) (h4.o fp3 (Ne.symm e.2.1)) (h4.o fr3 (Ne.symm e.2.2.1)) (fun b kb vb cb lb rb hb => ?_) (fun f cx9 hf => ?_) (fun b a1 a2 a3 a4 a5 => ?_) (by rw [h4.z, h3.z, fz])
        · have eb9 := eb b (by rw [hb]; rfl)
          rw [h4.2.2 b (fun q => e.2.2.2 (by rw [hb, ← q]; rfl)), h3.2.2 b eb9.2.2]
          exact fb _ _ _ _ _ _ hb
        · injection hf with hf1 hf2
          subst hf1 hf2
          exact h4.s
        · rw [h4.2.2 b (fun q => a5 (by rw [q]; rfl)), h3.2.2 b a3, fo b a2 a4]
      refine x_ifnonnull (tgt := 55) dJ4_rotateRight_44 (by decide) (fun z e => ?_) (fun z => absurd z (by simp [top]))
      cases d with
      | true =>
        simp only [fcl] at ha3 fin4
        refine x_aload_n (i := 1) rfl rfl dJ4_rotateRight_55 ?_
        refine gf_J4_124 rfl (by assumption) rfl dJ4_rotateRight_56 ?_
        refine gf_J4_114 rfl (by assumption) rfl dJ4_rotateRight_59 ?_
        refine x_aload_n (i := 1) rfl rfl dJ4_rotateRight_62 ?_
        refine x_acmp_ne (tgt := 77) dJ4_rotateRight_63 (by decide) (fun _ => ?_) (fun z => absurd z (fun q => n2 _ ip ((adC_cons ..).mpr (Or.inr (Or.inl (rt_ad (by simpa using q)))))))
        refine x_aload_n (i := 1) rfl rfl dJ4_rotateRight_77 ?_
        refine gf_J4_124 rfl (by assumption) rfl dJ4_rotateRight_78 ?_
        refine x_aload_n (i := 2) rfl rfl dJ4_rotateRight_81 ?_
        refine pf_J4_111 (fs' := [_, _, _, _, _, _]) rfl (by assumption) rfl rfl dJ4_rotateRight_82 fun M4 h4 => ?_
        exact fin4 M4 h4
      | false =>
        simp only [fcl] at ha3 fin4
        refine x_aload_n (i := 1) rfl rfl dJ4_rotateRight_55 ?_
        refine gf_J4_124 rfl (by assumption) rfl dJ4_rotateRight_56 ?_
        refine gf_J4_114 rfl (by assumption) rfl dJ4_rotateRight_59 ?_
        refine x_aload_n (i := 1) rfl rfl dJ4_rotateRight_62 ?_
        refine x_acmp_ne (tgt := 77) dJ4_rotateRight_63 (by decide) (fun z => absurd z (by simp)) (fun _ => ?_)
        refine x_aload_n (i := 1) rfl rfl dJ4_rotateRight_66 ?_
        refine gf_J4_124 rfl (by assumption) rfl dJ4_rotateRight_67 ?_
        refine x_aload_n (i := 2) rfl rfl dJ4_rotateRight_70 ?_
        refine pf_J4_114 (fs' := [_, _, _, _, _, _]) rfl (by assumption) rfl rfl dJ4_rotateRight_71 fun M4 h4 => ?_
        refine x_goto (tgt := 85) dJ4_rotateRight_74 (by decide) ?_
        exact fin4 M4 h4
  refine x_aload_n (i := 1) rfl rfl dJ4_rotateRight_0 ?_
  refine x_ifnull (tgt := 95) dJ4_rotateRight_1 (by decide) (fun z => absurd z (by simp)) (fun z e => ?_)
  refine x_aload_n (i := 1) rfl rfl dJ4_rotateRight_4 ?_
  refine gf_J4_111 rfl (by assumption) rfl dJ4_rotateRight_5 ?_
  refine x_astore_n (i := 2) rfl (by decide) dJ4_rotateRight_8 ?_
  refine x_aload_n (i := 1) rfl rfl dJ4_rotateRight_9 ?_
  refine x_aload_n (i := 2) rfl rfl dJ4_rotateRight_10 ?_
  refine gf_J4_114 rfl (by assumption) rfl dJ4_rotateRight_11 ?_
  refine pf_J4_111 (fs' := [_, _, _, _, _, _]) rfl (by assumption) rfl rfl dJ4_rotateRight_14 fun M1 h1 => ?_
  have fr1 := h1.o hr (Ne.symm e1)
  refine x_aload_n (i := 2) rfl rfl dJ4_rotateRight_17 ?_
  refine gf_J4_114 rfl (by assumption) rfl dJ4_rotateRight_18 ?_
  rcases hB0 : tR B with _ | b
  · refine x_ifnull (tgt := 32) dJ4_rotateRight_21 (by decide) (fun _ => ?_) (fun _ z => absurd z (by simp))
    rw [hB0] at h1
    refine mid M1 (by rw [hB0]; exact h1.s) (fun b kb vb cb lb rb hb => by rw [hb] at hB0; cases hB0) (fun a a1 a2 => h1.2.2 a a1) h1.z
  · refine x_ifnull (tgt := 32) dJ4_rotateRight_21 (by decide) (fun z => absurd z (by simp)) (fun z e => ?_)
    obtain ⟨kb, vb, cb, lb, rb, hbe⟩ := tR_some hB0
    have eb9 := eb b hB0
    have hb1 : mG M b = some (eC kb vb (tR lb) (tR rb) (some r) cb) := by
      rw [hbe] at hB
      exact hB.dn.1
    have hb2 := h1.o hb1 eb9.2.1
    refine x_aload_n (i := 2) rfl rfl dJ4_rotateRight_24 ?_
    refine gf_J4_114 rfl (by assumption) rfl dJ4_rotateRight_25 ?_
    refine x_aload_n (i := 1) rfl rfl dJ4_rotateRight_28 ?_
    rw [hB0]
    refine pf_J4_124 (fs' := [_, _, _, _, _, _]) rfl (by assumption) rfl rfl dJ4_rotateRight_29 fun M2 h2 => ?_
    rw [hB0] at h1
    refine mid M2 ?_ (fun b' kb' vb' cb' lb' rb' hb => ?_) (fun a a1 a2 => by rw [h2.2.2 a (fun q => a2 (by rw [q, hB0])), h1.2.2 a a1]) (by rw [h2.z, h1.z])
    · rw [hB0]
      exact h2.o h1.s (Ne.symm eb9.2.1)
    · rw [hbe] at hb
      injection hb with z1 z2 z3 z4 z5
      subst z1 z4 z5
      injection z2 with z6 z7
      injection z7 with z8 z9
      subst z6 z8 z9
      exact h2.s
end JN
