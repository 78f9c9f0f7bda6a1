/-! rows: new cells, references put into arrays -/
set_option maxRecDepth 100000
def pgNm : Nat → String := fun k => match k with
  | 3 => "java/lang/Object"
  | 4 => "[I"
  | _ => "java/util/BitSet"
theorem gTy_cls {G : GG} {s : State} (hG : gOK G) (hW : gW G s) {k : Nat} (hk : k < 6) : va_RA s (gR G k) (pgTy k) := ((hG.K hW).2 k _ (gTys_at G k hk)).2
theorem rc_aI {G : GG} {M : Mem} {b n : Nat} {c : AA} (hM : mG M b = some (.inl (0, n, c))) : RC G M b "[I" := by
  intro s H hG hW hH _
  have h1 := (hH.2.2 b _ hM).2
  have h2 := gTy_cls hG hW (k := 0) (by decide)
  rcases c with f | f | f <;> exact ⟨_, h1, rfl, h2⟩
theorem rc_aL {G : GG} {M : Mem} {b n : Nat} {c : AA} (hM : mG M b = some (.inl (1, n, c))) : RC G M b "[J" := by
  intro s H hG hW hH _
  have h1 := (hH.2.2 b _ hM).2
  have h2 := gTy_cls hG hW (k := 1) (by decide)
  rcases c with f | f | f <;> exact ⟨_, h1, rfl, h2⟩
theorem rc_aO {G : GG} {M : Mem} {b n : Nat} {c : AA} (hM : mG M b = some (.inl (3, n, c))) : RC G M b "[Ljava/lang/Object;" := by
  intro s H hG hW hH _
  have h1 := (hH.2.2 b _ hM).2
  obtain ⟨kA, comp, -, -, -, h2⟩ := gTy_cls hG hW (k := 3) (by decide)
  rcases c with f | f | f <;> exact ⟨_, h1, rfl, h2⟩
theorem gArr.cm {G : GG} {s : State} (hG : gOK G) (hW : gW G s) {k : Nat} (hk : 3 ≤ k ∧ k < 6) {kA : Class} {cm : ClassId} {comp : FieldType} (h1 : s.vm.classes[gR G k]? = some kA) (h2 : kA.kind = .array cm comp) : s.vm.findClass (pgNm k) = some cm := by
  have key : ∀ {cp : FieldType} {nm : String}, gArr G (gs G) k cp nm → s.vm.findClass nm = some cm := by
    intro cp nm h
    obtain ⟨kA', cm', kc, g1, g2, g3, g4⟩ := h
    obtain ⟨k', hk', he⟩ := hW.alike.2.2 _ _ g1
    cases hk'.symm.trans h1
    rw [he] at h2
    cases g2.symm.trans h2
    rw [hW.alike.findClass]
    exact g3
  obtain ⟨-, -, -, h3, h4, h5, -⟩ := hG
  match k, hk with
  | 3, _ => exact key h3
  | 4, _ => exact key h4
  | 5, _ => exact key h5
  | k + 6, hk => exact absurd hk.2 (by omega)
theorem okq_c {G : GG} {M : Mem} {k b : Nat} {C : String} (hk : 3 ≤ k ∧ k < 6) (h : RC G M b C) (hc : Cond.castable C (pgNm k) ∈ lw_tbl) : okQ G M k b := by
  intro s H hG hW hH hf
  obtain ⟨cv, h1, h2, h3⟩ := h s H hG hW hH hf
  obtain ⟨kC, hkC, -⟩ := Vm.findClass_spec h3
  refine ⟨cv, kC, h1, (fun q z => by rw [z] at h2; cases h2), hkC, fun kA cm comp g1 g2 => ?_⟩
  have h4 := gArr.cm hG hW hk g1 g2
  have h5 : (Cond.castable C (pgNm k)).before #[] s = true := va_Nw.warmC hW.1 (hG.2.2.1 _ hc)
  obtain ⟨c1, c2, e1, e2, e3⟩ := Cond.castable_spec h5
  cases h3.symm.trans e1
  cases h4.symm.trans e2
  exact e3
theorem okq_s {G : GG} {M : Mem} {k b : Nat} (hk : 3 ≤ k ∧ k < 6) (h : RC G M b (pgNm k)) : okQ G M k b := by
  intro s H hG hW hH hf
  obtain ⟨cv, h1, h2, h3⟩ := h s H hG hW hH hf
  obtain ⟨kC, hkC, -⟩ := Vm.findClass_spec h3
  refine ⟨cv, kC, h1, (fun q z => by rw [z] at h2; cases h2), hkC, fun kA cm comp g1 g2 => ?_⟩
  have h4 := gArr.cm hG hW hk g1 g2
  cases h3.symm.trans h4
  exact va_asg _ _
def dfl (ty : FieldType) : AV := match ty with
  | .long => aL 0
  | .object _ => aR none
  | .array _ => aR none
  | _ => aI 0
theorem dfl_ok (ty : FieldType) (h : ty ≠ .float ∧ ty ≠ .double) : defaultValue ty = toV (dfl ty) := by
  cases ty <;> first | rfl | exact absurd rfl h.1 | exact absurd rfl h.2
section XN
variable {G : GG} {w : MI} {R : Room} {E : XE} {cn sn pc : Nat} {L : List (Option AV)} {st : List AV} {M : Mem}
theorem x_new {C : String} {T : u_T} {N ci i : Nat} (fs : List AV) (hc : pgCl[ci]? = some (C, T, N)) (hin : ∀ q ∈ u_ws C T N, q ∈ lw_all) (ty : Nat → FieldType) (hty : ∀ k, k < N → parseFieldDescriptor (T k).2.2.1 = some (ty k)) (hnf : ∀ k, k < N → ty k ≠ .float ∧ ty k ≠ .double) (hfs : fs = (List.range N).map (fun k => dfl (ty k)))
    (hlink : Cond.classLink (wy w).cls i C ∈ lw_all) (hinst : Cond.instantiable C N ∈ lw_all) (hini : Cond.initialized C ∈ lw_all) (hR : cn + 1 ≤ R.cells ∧ sn + N ≤ R.slots) (hd : decode (wc w) pc = .ok (.new i, 3))
    (kk : X G w R E (cn + 1) (sn + N) (pc + 3) L (aR (some (mZ M)) :: st) (mN M (cO ci fs))) : X G w R E cn sn pc L st M := by
  intro p e s m args below meth cd H locs ls F hS hH hl
  have hts : ∀ q ∈ lw_all, q.before args s = true := F.2.2.2.2.2.2.2.1
  have hG := F.2.2.2.2.2.2.2.2.1
  have hW := F.2.2.2.2.2.2.2.2.2.1
  have hKn := (hG.K hW).1 ci _ hc
  refine W.newcK F.1 F.2.1 F.2.2.2.2.2.1 (hts _ hlink) (hts _ hinst) (hts _ hini) rfl hd hR.1 hR.2 hKn.2.1 rfl fun H' kC k1 k2 k3 k4 => ?_
  have hb := u_born ty hts hin hKn k1 k2 hty
  rw [hH.1] at hb ⊢
  refine kk p e s m args below meth cd H' locs ls F (hS.new2 k3 k4) (hH.new k3 k4 ⟨_, hc, hb.to (fun j hj => ?_)⟩) hl
  rw [dfl_ok _ (hnf j hj), hfs]
  simp [vp_V, List.getD, hj]
theorem x_newar {atype : ArrayType} {k n : Nat} {i : Int} (c0 : AA) (hk : k < 6) (hat : newarray.typeOf atype = pgTy k) (hw : Cond.arrayClass (pgTy k) ∈ lw_all) (hnm : va_RA = va_RA) (hc0 : ∀ cA : ClassId, vp_cell cA (n, toA c0) = arrV cA n (fun _ => defaultValue (pgTy k))) (hcls : ∀ s cA, va_RA s cA (pgTy k) → s.vm.findClass ("[" ++ (pgTy k).toString) = some cA)
    (hi : i = (n : Int)) (hn : n ≤ 100000) (hR : cn + 1 ≤ R.cells ∧ sn + n ≤ R.slots) (hd : decode (wc w) pc = .ok (.newarray atype, 2))
    (kk : X G w R E (cn + 1) (sn + n) (pc + 2) L (aR (some (mZ M)) :: st) (mN M (.inl (k, n, c0)))) : X G w R E cn sn pc L (aI i :: st) M := by
  intro p e s m args below meth cd H locs ls F hS hH hl
  subst hi
  have hts : ∀ q ∈ lw_all, q.before args s = true := F.2.2.2.2.2.2.2.1
  have hG := F.2.2.2.2.2.2.2.2.1
  have hW := F.2.2.2.2.2.2.2.2.2.1
  have hcl : (Int32.ofInt (n : Int)).toNatClampNeg = n := by rw [i32_cl (by omega)]; rfl
  have hneg : ¬ Int32.ofInt (n : Int) < 0 := by rw [i32_0, i32_lt (by omega) (by omega)]; omega
  have hcb : componentBytes (newarray.typeOf atype) ≤ 8 := by cases atype <;> decide
  refine va_newaK F.1 F.2.1 (by rw [hat]; exact hts _ hw) rfl hd rfl hneg hcl ?_ hR.1 hR.2 rfl fun H' cA k1 k2 k3 k4 k5 => ?_
  · exact Nat.le_trans (Nat.mul_le_mul hn hcb) (by decide)
  · rw [hat] at k1 k5
    have e1 : cA = gR G k := by
      have := hcls s _ (gTy_cls hG hW hk)
      rw [k5] at this
      exact Option.some.inj this
    subst e1
    rw [hH.1] at k1 ⊢
    refine kk p e s m args below meth cd H' locs ls F (hS.new2 k2 k3) (hH.new k2 k3 ?_) hl
    show H'[mZ M]? = some (vp_cell _ _)
    rw [k1, ← hc0]
theorem x_newI {n : Nat} {i : Int} (hi : i = (n : Int)) (hn : n ≤ 100000) (hR : cn + 1 ≤ R.cells ∧ sn + n ≤ R.slots) (hd : decode (wc w) pc = .ok (.newarray .int, 2))
    (kk : X G w R E (cn + 1) (sn + n) (pc + 2) L (aR (some (mZ M)) :: st) (mN M (cI n (fun _ => 0)))) : X G w R E cn sn pc L (aI i :: st) M :=
  x_newar (k := 0) (.inl (fun _ => 0)) (by decide) rfl q208 rfl (fun _ => rfl) (fun _ _ h => h) hi hn hR hd kk
theorem x_newL {n : Nat} {i : Int} (hi : i = (n : Int)) (hn : n ≤ 100000) (hR : cn + 1 ≤ R.cells ∧ sn + n ≤ R.slots) (hd : decode (wc w) pc = .ok (.newarray .long, 2))
    (kk : X G w R E (cn + 1) (sn + n) (pc + 2) L (aR (some (mZ M)) :: st) (mN M (cL n (fun _ => 0)))) : X G w R E cn sn pc L (aI i :: st) M :=
  x_newar (k := 1) (.inr (.inl (fun _ => 0))) (by decide) rfl q927 rfl (fun _ => rfl) (fun _ _ h => h) hi hn hR hd kk
theorem x_newY {n : Nat} {i : Int} (hi : i = (n : Int)) (hn : n ≤ 100000) (hR : cn + 1 ≤ R.cells ∧ sn + n ≤ R.slots) (hd : decode (wc w) pc = .ok (.newarray .byte, 2))
    (kk : X G w R E (cn + 1) (sn + n) (pc + 2) L (aR (some (mZ M)) :: st) (mN M (cY n (fun _ => 0)))) : X G w R E cn sn pc L (aI i :: st) M :=
  x_newar (k := 2) (.inl (fun _ => 0)) (by decide) rfl q658 rfl (fun _ => rfl) (fun _ _ h => h) hi hn hR hd kk
theorem i32_clN {n : Nat} (hn : n ≤ 100000) : (Int32.ofInt (n : Int)).toNatClampNeg = n ∧ ¬ Int32.ofInt (n : Int) < 0 :=
  ⟨by rw [i32_cl (by omega)]; rfl, by rw [i32_0, i32_lt (by omega) (by omega)]; omega⟩
theorem x_newQ {n k j : Nat} {i : Int} {C : String} (hk : k < 6) (hty : pgTy k = .object C) (hlink : Cond.classLink (wy w).cls j C ∈ lw_all) (hover : Cond.arrayOver (.object C) ∈ lw_tbl) (hi : i = (n : Int)) (hn : n ≤ 100000) (hR : cn + 1 ≤ R.cells ∧ sn + n ≤ R.slots) (hd : decode (wc w) pc = .ok (.anewarray j, 3))
    (kk : X G w R E (cn + 1) (sn + n) (pc + 3) L (aR (some (mZ M)) :: st) (mN M (cQ k n (fun _ => none)))) : X G w R E cn sn pc L (aI i :: st) M := by
  intro p e s m args below meth cd H locs ls F hS hH hl
  subst hi
  have hts : ∀ q ∈ lw_all, q.before args s = true := F.2.2.2.2.2.2.2.1
  have hG := F.2.2.2.2.2.2.2.2.1
  have hW := F.2.2.2.2.2.2.2.2.2.1
  obtain ⟨hcl, hneg⟩ := i32_clN hn
  have hov : va_AO C s := va_AO.moved hW.alike (hG.2.2.1 _ hover)
  refine W.anew F.1 F.2.1 F.2.2.2.2.2.1 (hts _ hlink) (va_AO.use hov) rfl hd rfl hneg (by rw [hcl]; omega) hR.1 (by rw [hcl]; exact hR.2) fun cA kA comp k1 k2 k3 k4 => ?_
  have hra := gTy_cls hG hW hk
  rw [hty] at hra
  obtain ⟨_, _, -, -, -, h9⟩ := hra
  have e1 : cA = gR G k := Option.some.inj (k1.symm.trans h9)
  subst e1
  rw [hcl]
  rw [hH.1]
  have hz : (H.push { cls := gR G k, slots := Array.replicate n .null, vm := .none }).size = H.size + 1 := by simp
  have ho : ∀ q : Nat, q < H.size → (H.push { cls := gR G k, slots := Array.replicate n .null, vm := .none })[q]? = H[q]? := fun q hq => by rw [Array.getElem?_push, if_neg (by omega)]
  refine kk p e s m args below meth cd _ locs ls F (hS.new2 hz ho) (hH.new hz ho ?_) hl
  show (H.push _)[mZ M]? = some (vp_cell (gR G k) (n, .inr (.inr (.inr (.inr fun _ => none)))))
  rw [← hH.1, Array.getElem?_push, if_pos rfl, arrV_new]
  rfl
theorem x_newII {n j : Nat} {i : Int} (hlink : Cond.classLink (wy w).cls j "[I" ∈ lw_all) (hi : i = (n : Int)) (hn : n ≤ 100000) (hR : cn + 1 ≤ R.cells ∧ sn + n ≤ R.slots) (hd : decode (wc w) pc = .ok (.anewarray j, 3))
    (kk : X G w R E (cn + 1) (sn + n) (pc + 3) L (aR (some (mZ M)) :: st) (mN M (cQ 4 n (fun _ => none)))) : X G w R E cn sn pc L (aI i :: st) M := by
  intro p e s m args below meth cd H locs ls F hS hH hl
  subst hi
  have hts : ∀ q ∈ lw_all, q.before args s = true := F.2.2.2.2.2.2.2.1
  have hG := F.2.2.2.2.2.2.2.2.1
  have hW := F.2.2.2.2.2.2.2.2.2.1
  obtain ⟨hcl, hneg⟩ := i32_clN hn
  have hov : (Cond.arrayOver (.array .int)).before args s = true := over_moved hW.alike (hG.2.2.1 _ q185)
  refine W.anewA (t := .int) F.1 F.2.1 F.2.2.2.2.2.1 (hts _ hlink) hov rfl hd rfl hneg (by rw [hcl]; omega) hR.1 (by rw [hcl]; exact hR.2) fun cA kA comp k1 k2 k3 k4 => ?_
  have hra := gTy_cls hG hW (k := 4) (by decide)
  have e1 : cA = gR G 4 := Option.some.inj (k1.symm.trans hra)
  subst e1
  rw [hcl]
  rw [hH.1]
  have hz : (H.push { cls := gR G 4, slots := Array.replicate n .null, vm := .none }).size = H.size + 1 := by simp
  have ho : ∀ q : Nat, q < H.size → (H.push { cls := gR G 4, slots := Array.replicate n .null, vm := .none })[q]? = H[q]? := fun q hq => by rw [Array.getElem?_push, if_neg (by omega)]
  refine kk p e s m args below meth cd _ locs ls F (hS.new2 hz ho) (hH.new hz ho ?_) hl
  show (H.push _)[mZ M]? = some (vp_cell (gR G 4) (n, .inr (.inr (.inr (.inr fun _ => none)))))
  rw [← hH.1, Array.getElem?_push, if_pos rfl, arrV_new]
  rfl
/-- null into an array of references -/
theorem x_aastN {a n k : Nat} {i : Int} {C : String} {f : Nat → Option Nat} (j : Nat) (hM : mG M a = some (cQ k n f)) (hk : k < 6) (hty : pgTy k = .object C) (hi : i = (j : Int)) (hj : j < n ∧ j < 2147483648) (hd : decode (wc w) pc = .ok (.aastore, 1))
    (kk : X G w R E cn sn (pc + 1) L st (mS M a (cQ k n (aup f j none)))) : X G w R E cn sn pc L (aR none :: aI i :: aR (some a) :: st) M := by
  intro p e s m args below meth cd H locs ls F hS hH hl
  subst hi
  have hG := F.2.2.2.2.2.2.2.2.1
  have hW := F.2.2.2.2.2.2.2.2.2.1
  obtain ⟨h1, h2⟩ := i32_in (a := (j : Int)) (n := n) ⟨by omega, by omega⟩ (by omega)
  refine va_WaastN (C := C) F.1 F.2.1 (hH.P hM 0 _ rfl) ?_ (fun q => by cases q) ?_ rfl rfl hd fun H1 e1 e2 e3 => ?_
  · have h5 := hG.arr hW hk n (fun j => va_rf (f j))
    rw [hty] at h5
    exact h5
  · show ¬ (_ < 0 ∨ (arrV _ _ _).slots.size ≤ _)
    rw [arrV_size]
    exact h1
  · refine kk p e s m args below meth cd H1 _ ls F (hS.put2 e2 e3 (hH.2.2 a _ hM).1) (hH.set hM e2 e3 ?_) hl
    show H1[a]? = some (vp_cell (gR G k) (n, .inr (.inr (.inr (.inr (aup f j none))))))
    rw [e1]
    show some ((arrV (gR G k) n (fun q => va_rf (f q))).setSlot _ _) = some (arrV (gR G k) n (fun q => va_rf (aup f j none q)))
    rw [arrV_store, h2, show (j : Int).toNat = j from rfl, show Value.null = va_rf none from rfl, upd_aup (fun x : Option Nat => va_rf x)]
end XN
