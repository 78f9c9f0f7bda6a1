/-! rows: constants, copies, casts, switches -/
set_option maxRecDepth 100000
def gZ (G : GG) (C n d : String) (v : AV) : Prop := va_Z C n d (toV v) (gA G) (gs G) (gs G).heap
def gO (G : GG) (C : String) (a : Nat) : Prop := va_O C a (gA G) (gs G) (gs G).heap
def gF (G : GG) (C n d : String) (a : Nat) (v : AV) : Prop := va_OF C n d (toV v) a (gA G) (gs G) (gs G).heap
def gT (G : GG) (ty : FieldType) (a n : Nat) (f : Nat → AV) : Prop := va_T ty a n (fun j => toV (f j)) (gA G) (gs G) (gs G).heap
theorem gW.kp {G : GG} {s : State} (hW : gW G s) : ∀ a : Nat, a < (gs G).heap.size → ¬ gA G a → s.heap[a]? = (gs G).heap[a]? := fun a h _ => hW.2.2 a h
theorem gW.kp2 {G : GG} {s : State} {H : Heap} {locs : List Loc} (hW : gW G s) (hS : va_S (gA G) s.heap H locs) : ∀ a : Nat, a < (gs G).heap.size → ¬ gA G a → H[a]? = (gs G).heap[a]? := fun a h _ => hW.fr hS a h
theorem rc_c {G : GG} {M : Mem} {a : Nat} {C : String} (h : gO G C a) : RC G M a C := by
  intro s H _ hW _ hf
  obtain ⟨cell, h1, h2, h3, -⟩ := va_O.kept (va_O.moved hW.alike h) (fun a h1 _ => hf a h1)
  exact ⟨cell, h1, h2, h3⟩
section XS
variable {G : GG} {w : MI} {R : Room} {E : XE} {cn sn pc : Nat} {L : List (Option AV)} {st : List AV} {M : Mem}
theorem x_gets {C n d : String} {v : AV} {i : Nat} (hZ : gZ G C n d v) (hlink : Cond.fieldLink (wy w).cls i C n d ∈ lw_all) (hd : decode (wc w) pc = .ok (.getstatic i, 3))
    (kk : X G w R E cn sn (pc + 3) L (v :: st) M) : X G w R E cn sn pc L st M := by
  intro p e s m args below meth cd H locs ls F hS hH hl
  have hts : ∀ q ∈ lw_all, q.before args s = true := F.2.2.2.2.2.2.2.1
  have hW := F.2.2.2.2.2.2.2.2.2.1
  exact va_gets F.1 F.2.1 (va_Z.kept (va_Z.moved hW.alike hZ) hW.kp) hS F.2.2.2.2.2.1 (hts _ hlink) (fun _ h => h) hd (kk p e s m args below meth cd H locs ls F hS hH hl)
/-- a String constant -/
def gSt (G : GG) (own : String) (i a : Nat) : Prop := ∃ tx : String, vk_R own i tx a (gs G)
theorem x_ldcS {i a : Nat} (hZ : gSt G (wy w).cls i a) (hd : decode (wc w) pc = .ok (.ldc i, 2))
    (kk : X G w R E cn sn (pc + 2) L (aR (some a) :: st) M) : X G w R E cn sn pc L st M := by
  intro p e s m args below meth cd H locs ls F hS hH hl
  have hW := F.2.2.2.2.2.2.2.2.2.1
  obtain ⟨tx, h⟩ := hZ
  exact va_ldcS F.1 F.2.1 F.2.2.2.2.2.1 (vk_R.warm hW.1 h) hd (kk p e s m args below meth cd H locs ls F hS hH hl)
/-- a class constant -/
theorem x_ldcM {i a : Nat} {C : String} (hZ : va_Mi C a (gs G)) (hlink : Cond.classLink (wy w).cls i C ∈ lw_all) (hd : decode (wc w) pc = .ok (.ldc i, 2))
    (kk : X G w R E cn sn (pc + 2) L (aR (some a) :: st) M) : X G w R E cn sn pc L st M := by
  intro p e s m args below meth cd H locs ls F hS hH hl
  have hts : ∀ q ∈ lw_all, q.before args s = true := F.2.2.2.2.2.2.2.1
  have hW := F.2.2.2.2.2.2.2.2.2.1
  exact va_ldcM F.1 F.2.1 F.2.2.2.2.2.1 (hts _ hlink) (va_Mi.moved hW.alike hZ) hd (kk p e s m args below meth cd H locs ls F hS hH hl)
/-! casts -/
theorem x_castN {i : Nat} (hd : decode (wc w) pc = .ok (.checkcast i, 3))
    (kk : X G w R E cn sn (pc + 3) L (aR none :: st) M) : X G w R E cn sn pc L (aR none :: st) M := by
  intro p e s m args below meth cd H locs ls F hS hH hl
  exact lv_castN F.1 F.2.1 hd (kk p e s m args below meth cd H locs ls F hS hH hl)
/-- to the very class -/
theorem x_castS {i a ci : Nat} {q : vw_C} (hci : pgCl[ci]? = some q) (hlink : Cond.classLink (wy w).cls i q.1 ∈ lw_all) (hRc : RC G M a q.1) (hd : decode (wc w) pc = .ok (.checkcast i, 3))
    (kk : X G w R E cn sn (pc + 3) L (aR (some a) :: st) M) : X G w R E cn sn pc L (aR (some a) :: st) M := by
  intro p e s m args below meth cd H locs ls F hS hH hl
  have hts : ∀ q ∈ lw_all, q.before args s = true := F.2.2.2.2.2.2.2.1
  have hG := F.2.2.2.2.2.2.2.2.1
  have hW := F.2.2.2.2.2.2.2.2.2.1
  exact va_castS F.1 F.2.1 F.2.2.2.2.2.1 (hts _ hlink) ((hG.K hW).1 ci q hci).2 (hRc s H hG hW hH (hW.fr hS)) hd (kk p e s m args below meth cd H locs ls F hS hH hl)
theorem x_castC {i a : Nat} {C nm : String} (hc : Cond.castable C nm ∈ lw_tbl) (hlink : Cond.classLink (wy w).cls i nm ∈ lw_all) (hRc : RC G M a C) (hd : decode (wc w) pc = .ok (.checkcast i, 3))
    (kk : X G w R E cn sn (pc + 3) L (aR (some a) :: st) M) : X G w R E cn sn pc L (aR (some a) :: st) M := by
  intro p e s m args below meth cd H locs ls F hS hH hl
  have hts : ∀ q ∈ lw_all, q.before args s = true := F.2.2.2.2.2.2.2.1
  have hG := F.2.2.2.2.2.2.2.2.1
  have hW := F.2.2.2.2.2.2.2.2.2.1
  exact va_castY F.1 F.2.1 F.2.2.2.2.2.1 (hts _ hlink) (va_Nw.warmC hW.1 (hG.2.2.1 _ hc)) (hRc s H hG hW hH (hW.fr hS)) hd (kk p e s m args below meth cd H locs ls F hS hH hl)
/-- an array to its own class -/
def pgAn : Nat → String := fun k => match k with
  | 0 => "[I"
  | 1 => "[J"
  | 2 => "[B"
  | 3 => "[Ljava/lang/Object;"
  | 4 => "[[I"
  | _ => "[Ljava/util/BitSet;"
theorem gAn {G : GG} {s : State} (hG : gOK G) (hW : gW G s) : ∀ {k : Nat}, k < 6 → s.vm.findClass (pgAn k) = some (gR G k)
  | 0, h => gTy_cls hG hW h
  | 1, h => gTy_cls hG hW h
  | 2, h => gTy_cls hG hW h
  | 3, h => by obtain ⟨_, _, -, -, -, h2⟩ := gTy_cls hG hW h; exact h2
  | 4, h => gTy_cls hG hW h
  | 5, h => by obtain ⟨_, _, -, -, -, h2⟩ := gTy_cls hG hW h; exact h2
  | k + 6, h => absurd h (by omega)
theorem x_castA {i a k n : Nat} {c : AA} (hk : k < 6) (hM : mG M a = some (.inl (k, n, c))) (hlink : Cond.classLink (wy w).cls i (pgAn k) ∈ lw_all) (hd : decode (wc w) pc = .ok (.checkcast i, 3))
    (kk : X G w R E cn sn (pc + 3) L (aR (some a) :: st) M) : X G w R E cn sn pc L (aR (some a) :: st) M := by
  intro p e s m args below meth cd H locs ls F hS hH hl
  have hts : ∀ q ∈ lw_all, q.before args s = true := F.2.2.2.2.2.2.2.1
  have hG := F.2.2.2.2.2.2.2.2.1
  have hW := F.2.2.2.2.2.2.2.2.2.1
  exact va_castA F.1 F.2.1 F.2.2.2.2.2.1 (hts _ hlink) (hH.P hM) 0 rfl (gAn hG hW hk) hd (kk p e s m args below meth cd H locs ls F hS hH hl)
theorem x_instS {i a ci : Nat} {q : vw_C} (hci : pgCl[ci]? = some q) (hlink : Cond.classLink (wy w).cls i q.1 ∈ lw_all) (hRc : RC G M a q.1) (hd : decode (wc w) pc = .ok (.instanceof i, 3))
    (kk : X G w R E cn sn (pc + 3) L (aI 1 :: st) M) : X G w R E cn sn pc L (aR (some a) :: st) M := by
  intro p e s m args below meth cd H locs ls F hS hH hl
  have hts : ∀ q ∈ lw_all, q.before args s = true := F.2.2.2.2.2.2.2.1
  have hG := F.2.2.2.2.2.2.2.2.1
  have hW := F.2.2.2.2.2.2.2.2.2.1
  exact va_instS F.1 F.2.1 F.2.2.2.2.2.1 (hts _ hlink) ((hG.K hW).1 ci q hci).2 (hRc s H hG hW hH (hW.fr hS)) hd (kk p e s m args below meth cd H locs ls F hS hH hl)
/-! constant objects and arrays, read -/
theorem x_getc {i a : Nat} {C n d : String} {v : AV} (hF : gF G C n d a v) (hlink : Cond.fieldLink (wy w).cls i C n d ∈ lw_all) (hd : decode (wc w) pc = .ok (.getfield i, 3))
    (kk : X G w R E cn sn (pc + 3) L (v :: st) M) : X G w R E cn sn pc L (aR (some a) :: st) M := by
  intro p e s m args below meth cd H locs ls F hS hH hl
  have hts : ∀ q ∈ lw_all, q.before args s = true := F.2.2.2.2.2.2.2.1
  have hW := F.2.2.2.2.2.2.2.2.2.1
  exact vk_getf F.1 F.2.1 (va_OF.kept (va_OF.moved hW.alike hF) hW.kp) hS F.2.2.2.2.2.1 (hts _ hlink) (fun _ h => h) hd (kk p e s m args below meth cd H locs ls F hS hH hl)
theorem x_baldc {a n : Nat} {i : Int} {f : Nat → AV} (j : Nat) (hi : i = (j : Int)) (hj : j < n ∧ j < 2147483648) (hT : gT G .byte a n f) (hd : decode (wc w) pc = .ok (.baload, 1))
    (kk : X G w R E cn sn (pc + 1) L (f j :: st) M) : X G w R E cn sn pc L (aI i :: aR (some a) :: st) M := by
  intro p e s m args below meth cd H locs ls F hS hH hl
  subst hi
  have hW := F.2.2.2.2.2.2.2.2.2.1
  obtain ⟨h1, h2⟩ := i32_in (a := (j : Int)) (n := n) ⟨by omega, by omega⟩ (by omega)
  exact va_tb F.1 F.2.1 (va_T.kept (va_T.moved hW.alike hT) hW.kp) hS h1 (by rw [h2]; rfl) hd (kk p e s m args below meth cd H locs ls F hS hH hl)
theorem x_aaldc {a n : Nat} {i : Int} {C : String} {f : Nat → AV} (j : Nat) (hi : i = (j : Int)) (hj : j < n ∧ j < 2147483648) (hT : gT G (.object C) a n f) (hd : decode (wc w) pc = .ok (.aaload, 1))
    (kk : X G w R E cn sn (pc + 1) L (f j :: st) M) : X G w R E cn sn pc L (aI i :: aR (some a) :: st) M := by
  intro p e s m args below meth cd H locs ls F hS hH hl
  subst hi
  have hW := F.2.2.2.2.2.2.2.2.2.1
  obtain ⟨h1, h2⟩ := i32_in (a := (j : Int)) (n := n) ⟨by omega, by omega⟩ (by omega)
  exact vb_tq F.1 F.2.1 (va_T.kept (va_T.moved hW.alike hT) hW.kp) hS h1 (by rw [h2]; rfl) hd (kk p e s m args below meth cd H locs ls F hS hH hl)
theorem x_alenc {a n : Nat} {ty : FieldType} {f : Nat → AV} (hT : gT G ty a n f) (hd : decode (wc w) pc = .ok (.arraylength, 1))
    (kk : X G w R E cn sn (pc + 1) L (aI (n : Int) :: st) M) : X G w R E cn sn pc L (aR (some a) :: st) M := by
  intro p e s m args below meth cd H locs ls F hS hH hl
  have hW := F.2.2.2.2.2.2.2.2.2.1
  exact va_tlen F.1 F.2.1 (va_T.kept (va_T.moved hW.alike hT) hW.kp) hS (i32_ofNat n) hd (kk p e s m args below meth cd H locs ls F hS hH hl)
/-- the script -/
def gX (G : GG) (b n : Nat) (xs : Nat → Int32) : Prop := va_X b n xs (gs G) (gs G).heap ∧ b < gB G
/-! bytes, of a new array or a constant one -/
def rY (G : GG) (M : Mem) (a n : Nat) (f : Nat → Int) : Prop := mG M a = some (cY n f) ∨ gT G .byte a n (fun j => aI (f j))
theorem rY.e {G : GG} {M M' : Mem} {a n : Nat} {f : Nat → Int} (h : rY G M a n f) (k : mE M M') : rY G M' a n f := h.imp (fun q => k.g q) id
theorem x_baldR {a n : Nat} {i : Int} {f : Nat → Int} (j : Nat) (hi : i = (j : Int)) (hj : j < n ∧ j < 2147483648) (hM : rY G M a n f) (hd : decode (wc w) pc = .ok (.baload, 1))
    (kk : X G w R E cn sn (pc + 1) L (aI (f j) :: st) M) : X G w R E cn sn pc L (aI i :: aR (some a) :: st) M := by
  rcases hM with h | h
  · exact x_bald j h hi hj hd kk
  · exact x_baldc j hi hj h hd kk
theorem x_alenR {a n : Nat} {f : Nat → Int} (hM : rY G M a n f) (hn : n < 2147483648) (hd : decode (wc w) pc = .ok (.arraylength, 1))
    (kk : X G w R E cn sn (pc + 1) L (aI (n : Int) :: st) M) : X G w R E cn sn pc L (aR (some a) :: st) M := by
  rcases hM with h | h
  · exact x_alen (k := 2) h (by decide) hn hd kk
  · exact x_alenc h hd kk
/-! System.arraycopy -/
theorem cpy_map {α β : Type} (mk : α → β) (f g : Nat → α) (sp dp n : Nat) : va_cpy (fun j => mk (f j)) (fun j => mk (g j)) sp dp n = fun j => mk (va_cpy f g sp dp n j) := by
  funext j
  simp only [va_cpy]
  split <;> rfl
theorem i32_sum {a b : Nat} (ha : a < 2147483648) (hb : b < 2147483648) : (Int32.ofInt (a : Int)).toInt + (Int32.ofInt (b : Int)).toInt = (a : Int) + b := by
  rw [i32_toInt (by omega), i32_toInt (by omega)]
theorem x_copy {i a0 a k n1 sp dp n : Nat} {xs xd xn : Int} {α : Type} (mk : α → Value) (f : Nat → α) (c0 c1 : AA) (n0 : Nat) (g : Nat → α) (hlink : Cond.methodLink (wy w).cls i arraycopyName ∈ lw_all) (hk : k < 6)
    (hsrc : ∀ s H, gOK G → gW G s → gH G M H → (∀ q, q < gB G → H[q]? = (gs G).heap[q]?) → ∃ (cs : Cell) (ks : Class) (sC : ClassId) , H[a0]? = some cs ∧ (∀ q, cs.vm ≠ .statics q) ∧ cs.vm ≠ .unknown ∧ s.vm.classes[cs.cls]? = some ks ∧ ks.kind = .array sC (pgTy k) ∧ (∀ j, j < n0 → cs.slots[j]? = some (mk (f j))) ∧ n0 ≤ cs.slots.size)
    (hM : mG M a = some (.inl (k, n1, c0))) (e0 : ∀ cA, vp_cell cA (n1, toA c0) = arrV cA n1 (fun j => mk (g j))) (e1 : ∀ cA, vp_cell cA (n1, toA c1) = arrV cA n1 (fun j => mk (va_cpy f g sp dp n j)))
    (hxs : xs = (sp : Int)) (hxd : xd = (dp : Int)) (hxn : xn = (n : Int)) (h4 : sp + n ≤ n0 ∧ n0 ≤ 1000000) (h5 : dp + n ≤ n1 ∧ n1 ≤ 1000000)
    (hfit : ∀ s H, gOK G → gW G s → gH G M H → (∀ q, q < gB G → H[q]? = (gs G).heap[q]?) → ∀ (T : State) (dC : ClassId), T.heap = H → s.vm.Alike T.vm → (∃ kd : Class, s.vm.classes[gR G k]? = some kd ∧ kd.kind = .array dC (pgTy k)) → ∀ j, j < n → fits (pgTy k) (mk (f (sp + j))) = true ∧ T.takes dC (mk (f (sp + j))))
    (hst : Nat.ble (st.map aCt).sum 8 = true) (hfr : 1 ≤ R.frames) (hlo : 64 ≤ R.locals) (hd : decode (wc w) pc = .ok (.invokestatic i, 3))
    (kk : ∀ M', mU M M' a (.inl (k, n1, c1)) → X G w R E cn sn (pc + 3) L st M') : X G w R E cn sn pc L (aI xn :: aI xd :: aR (some a) :: aI xs :: aR (some a0) :: st) M := by
  intro p e s m args below meth cd H locs ls F hS hH hl
  subst hxs; subst hxd; subst hxn
  have hts : ∀ q ∈ lw_all, q.before args s = true := F.2.2.2.2.2.2.2.1
  have hG := F.2.2.2.2.2.2.2.2.1
  have hW := F.2.2.2.2.2.2.2.2.2.1
  obtain ⟨cs, ks, sC, s1, s2, s3, s4, s5, s6, s7⟩ := hsrc s H hG hW hH (hW.fr hS)
  have hc1 : H[a]? = some (vp_cell (gR G k) (n1, toA c0)) := hH.P hM 0 _ rfl
  rw [e0] at hc1
  obtain ⟨-, kd, hkd, dC, hkkd⟩ := hG.arr hW hk n1 (fun j => mk (g j))
  have q1 : (Int32.ofInt (sp : Int)).toNatClampNeg = sp := by rw [i32_cl (by omega)]; rfl
  have q2 : (Int32.ofInt (dp : Int)).toNatClampNeg = dp := by rw [i32_cl (by omega)]; rfl
  have q3 : (Int32.ofInt (n : Int)).toNatClampNeg = n := by rw [i32_cl (by omega)]; rfl
  intro T hT hX
  obtain ⟨vm', X', step⟩ := hX.arraycopy F.1 F.2.2.2.2.2.1 (hts _ hlink) (hts _ q300) (hts _ q299) (hts _ q88) (src := a0) (dst := a) (cs := cs) (cd := arrV (gR G k) n1 (fun j => mk (g j))) (srcPos := Int32.ofInt (sp : Int)) (destPos := Int32.ofInt (dp : Int)) (n := Int32.ofInt (n : Int)) (by rw [hT]; exact s1) (by rw [hT]; exact hc1)
    s2 (fun _ h => by cases h) s3 (fun h => by cases h) s4 hkd s5 hkkd (by cases hq : refKind (pgTy k) <;> simp) (by rw [i32_0, i32_lt (by omega) (by omega)]; omega) (by rw [i32_0, i32_lt (by omega) (by omega)]; omega) (by rw [i32_0, i32_lt (by omega) (by omega)]; omega)
    (by rw [i32_sum (by omega) (by omega)]; omega)
    (by rw [i32_sum (by omega) (by omega), arrV_size]; omega)
    (fun vm₁ hal j hj => by
      rw [q3] at hj
      rw [q1]
      have e : cs.slots.getD (sp + j) .null = mk (f (sp + j)) := by
        rw [Array.getD_eq_getD_getElem?, s6 _ (by omega)]
        rfl
      rw [e]
      exact hfit s H hG hW hH (hW.fr hS) (T.setVm vm₁) dC hT hal ⟨kd, hkd, hkkd⟩ j hj)
    (g := F0 m pc ls (.int (Int32.ofInt (n : Int)) :: .int (Int32.ofInt (dp : Int)) :: .ref a :: .int (Int32.ofInt (sp : Int)) :: .ref a0 :: st.map toV)) rfl (hl.1.trans F.2.2.1.symm) (rest := st.map toV) rfl (by rw [F.2.1]; exact hd) hfr (by
      have hw : nativeFrameWords "java/lang/System" "arraycopy" 5 + 11 ≤ 40 := by decide
      have := tv_cat st hst
      show 2 * 0 + _ + _ ≤ _
      omega)
  have e2 : copied cs (arrV (gR G k) n1 (fun j => mk (g j))) (Int32.ofInt (sp : Int)) (Int32.ofInt (dp : Int)) (Int32.ofInt (n : Int)) = arrV (gR G k) n1 (fun j => mk (va_cpy f g sp dp n j)) := by
    show (arrV _ _ _).storeRun _ (cs.stretch _ _) = _
    rw [q1, q2, q3]
    exact va_copiedX mk cs (gR G k) (n0 := n0) f g s6 h4.1
  rw [e2] at X' step
  have hla : a < H.size := (Array.getElem?_eq_some_iff.mp hc1).1
  generalize hH1 : H.setIfInBounds a (arrV (gR G k) n1 (fun j => mk (va_cpy f g sp dp n j))) = H1
  have hheap : ((T.setVm vm').setCell a (arrV (gR G k) n1 (fun j => mk (va_cpy f g sp dp n j)))).heap = H1 := by rw [← hH1, ← hT]; rfl
  have z1 : H1.size = H.size := by rw [← hH1]; simp
  have oq : ∀ q : Nat, q ≠ a → H1[q]? = H[q]? := fun q hq => by rw [← hH1]; simp [Array.getElem?_setIfInBounds, Ne.symm hq]
  have sq : H1[a]? = some (arrV (gR G k) n1 (fun j => mk (va_cpy f g sp dp n j))) := by rw [← hH1]; simp [Array.getElem?_setIfInBounds, hla]
  have hAa := (hH.2.2 a _ hM).1
  have hS1 : va_S (gA G) s.heap H1 (locs ++ (cs.stretch (Int32.ofInt (sp : Int)).toNatClampNeg (Int32.ofInt (n : Int)).toNatClampNeg).zipIdx.map fun q => ⟨a, (Int32.ofInt (dp : Int)).toNatClampNeg + q.2⟩) := by
    refine ⟨by rw [z1]; exact hS.1, fun q g1 g2 => ?_, fun q hq => ?_⟩
    · rw [oq q (fun e => g2 (by rw [e]; exact hAa))]
      exact hS.2.1 q g1 g2
    · rcases List.mem_append.mp hq with h | h
      · exact hS.2.2 q h
      · obtain ⟨z, -, hz⟩ := List.mem_map.mp h
        rw [← hz]
        exact hAa
  have hH2 : gH G (mS M a (.inl (k, n1, c1))) H1 := hH.set hM z1 oq (by
    show H1[a]? = some (vp_cell (gR G k) (n1, toA c1))
    rw [sq, e1])
  obtain ⟨t, a1, b1⟩ := kk _ (mU_mS hM) p e s m args below meth cd H1 _ ls F hS1 hH2 hl _ hheap X'
  exact ⟨t, step t a1, b1⟩
theorem src_dyn {k a0 n0 : Nat} {α : Type} (mk : α → Value) (f : Nat → α) (c : AA) (hk : k < 6) (hM : mG M a0 = some (.inl (k, n0, c))) (e0 : ∀ cA, vp_cell cA (n0, toA c) = arrV cA n0 (fun j => mk (f j))) :
    ∀ s H, gOK G → gW G s → gH G M H → (∀ q, q < gB G → H[q]? = (gs G).heap[q]?) → ∃ (cs : Cell) (ks : Class) (sC : ClassId) , H[a0]? = some cs ∧ (∀ q, cs.vm ≠ .statics q) ∧ cs.vm ≠ .unknown ∧ s.vm.classes[cs.cls]? = some ks ∧ ks.kind = .array sC (pgTy k) ∧ (∀ j, j < n0 → cs.slots[j]? = some (mk (f j))) ∧ n0 ≤ cs.slots.size := by
  intro s H hG hW hH _
  have hc1 : H[a0]? = some (vp_cell (gR G k) (n0, toA c)) := hH.P hM 0 _ rfl
  rw [e0] at hc1
  obtain ⟨-, kd, hkd, dC, hkkd⟩ := hG.arr hW hk n0 (fun j => mk (f j))
  exact ⟨_, kd, dC, hc1, (fun q h => by cases h), (fun h => by cases h), hkd, hkkd, (fun j hj => arrV_read _ _ hj), (by rw [arrV_size]; exact Nat.le_refl _)⟩
theorem x_copyY {i a0 a n0 n1 : Nat} {xs xd xn : Int} {f g : Nat → Int} (sp dp n : Nat) (hlink : Cond.methodLink (wy w).cls i arraycopyName ∈ lw_all) (h0 : rY G M a0 n0 f) (hM : mG M a = some (cY n1 g))
    (hxs : xs = (sp : Int)) (hxd : xd = (dp : Int)) (hxn : xn = (n : Int)) (h4 : sp + n ≤ n0 ∧ n0 ≤ 1000000) (h5 : dp + n ≤ n1 ∧ n1 ≤ 1000000) (hb : ∀ j, j < n0 → -128 ≤ f j ∧ f j < 128)
    (hst : Nat.ble (st.map aCt).sum 8 = true) (hfr : 1 ≤ R.frames) (hlo : 64 ≤ R.locals) (hd : decode (wc w) pc = .ok (.invokestatic i, 3))
    (kk : ∀ M', mU M M' a (cY n1 (va_cpy f g sp dp n)) → X G w R E cn sn (pc + 3) L st M') : X G w R E cn sn pc L (aI xn :: aI xd :: aR (some a) :: aI xs :: aR (some a0) :: st) M := by
  refine x_copy (k := 2) (fun z : Int => Value.int (Int32.ofInt z)) f (.inl g) (.inl (va_cpy f g sp dp n)) n0 g hlink (by decide) ?_ hM (fun _ => rfl) (fun _ => rfl) hxs hxd hxn h4 h5 ?_ hst hfr hlo hd kk
  · rcases h0 with h0 | h0
    · exact src_dyn (fun z : Int => Value.int (Int32.ofInt z)) f (.inl f) (by decide) h0 (fun _ => rfl)
    · intro s H hG hW hH hf
      obtain ⟨cell, t1, t2, t3, t4, -, t6, -⟩ := va_T.kept (va_T.moved hW.alike h0) (fun a h1 _ => hf a h1)
      obtain ⟨t7, ks, hks, sC, hkk⟩ := t2
      exact ⟨cell, ks, sC, t1, t7, t3, hks, hkk, t6, t4⟩
  · intro s H hG hW hH hf T dC hT hal _ j hj
    refine ⟨(okF_B (hb _ (by omega))).2, trivial⟩
theorem x_copyL {i a0 a n0 n1 : Nat} {xs xd xn : Int} {f g : Nat → Int} (sp dp n : Nat) (hlink : Cond.methodLink (wy w).cls i arraycopyName ∈ lw_all) (h0 : mG M a0 = some (cL n0 f)) (hM : mG M a = some (cL n1 g))
    (hxs : xs = (sp : Int)) (hxd : xd = (dp : Int)) (hxn : xn = (n : Int)) (h4 : sp + n ≤ n0 ∧ n0 ≤ 1000000) (h5 : dp + n ≤ n1 ∧ n1 ≤ 1000000)
    (hst : Nat.ble (st.map aCt).sum 8 = true) (hfr : 1 ≤ R.frames) (hlo : 64 ≤ R.locals) (hd : decode (wc w) pc = .ok (.invokestatic i, 3))
    (kk : ∀ M', mU M M' a (cL n1 (va_cpy f g sp dp n)) → X G w R E cn sn (pc + 3) L st M') : X G w R E cn sn pc L (aI xn :: aI xd :: aR (some a) :: aI xs :: aR (some a0) :: st) M := by
  refine x_copy (k := 1) (fun z : Int => Value.long (Int64.ofInt z)) f (.inr (.inl g)) (.inr (.inl (va_cpy f g sp dp n))) n0 g hlink (by decide) (src_dyn (fun z : Int => Value.long (Int64.ofInt z)) f (.inr (.inl f)) (by decide) h0 (fun _ => rfl)) hM (fun _ => rfl) (fun _ => rfl) hxs hxd hxn h4 h5 ?_ hst hfr hlo hd kk
  intro s H hG hW hH hf T dC hT hal _ j hj
  exact ⟨rfl, trivial⟩
theorem x_copyQ {i a0 a k n0 n1 : Nat} {xs xd xn : Int} {f g : Nat → Option Nat} (sp dp n : Nat) (hlink : Cond.methodLink (wy w).cls i arraycopyName ∈ lw_all) (hk : 3 ≤ k ∧ k < 6) (h0 : mG M a0 = some (cQ k n0 f)) (hM : mG M a = some (cQ k n1 g))
    (hxs : xs = (sp : Int)) (hxd : xd = (dp : Int)) (hxn : xn = (n : Int)) (h4 : sp + n ≤ n0 ∧ n0 ≤ 1000000) (h5 : dp + n ≤ n1 ∧ n1 ≤ 1000000) (hok : ∀ j b, j < n → f (sp + j) = some b → okQ G M k b)
    (hst : Nat.ble (st.map aCt).sum 8 = true) (hfr : 1 ≤ R.frames) (hlo : 64 ≤ R.locals) (hd : decode (wc w) pc = .ok (.invokestatic i, 3))
    (kk : ∀ M', mU M M' a (cQ k n1 (va_cpy f g sp dp n)) → X G w R E cn sn (pc + 3) L st M') : X G w R E cn sn pc L (aI xn :: aI xd :: aR (some a) :: aI xs :: aR (some a0) :: st) M := by
  refine x_copy (k := k) (fun z : Option Nat => va_rf z) f (.inr (.inr g)) (.inr (.inr (va_cpy f g sp dp n))) n0 g hlink hk.2 (src_dyn (fun z : Option Nat => va_rf z) f (.inr (.inr f)) hk.2 h0 (fun _ => rfl)) hM (fun _ => rfl) (fun _ => rfl) hxs hxd hxn h4 h5 ?_ hst hfr hlo hd kk
  intro s H hG hW hH hf T dC hT hal hkd j hj
  obtain ⟨kd, hkd, hkk⟩ := hkd
  have hr := pgTy_ref hk.1
  cases hy : f (sp + j) with
  | none =>
    refine ⟨?_, trivial⟩
    show fits (pgTy k) .null = true
    match k, hk with
    | 3, _ => rfl
    | 4, _ => rfl
    | k + 5, _ => rfl
  | some b =>
    obtain ⟨cv, kv, v1, v2, v3, v4⟩ := hok j b hj hy s H hG hW hH hf
    obtain ⟨kA, cm, kc, comp, g1, g2, g3, g4⟩ := gArr.at hG hW hk
    cases g1.symm.trans hkd
    cases g2.symm.trans hkk
    obtain ⟨kv', hkv', -⟩ := hal.2.2 _ _ v3
    obtain ⟨kc', hkc', -⟩ := hal.2.2 _ _ g4
    refine ⟨?_, cv, by rw [hT]; exact v1, v2, ⟨kv', hkv'⟩, ⟨kc', hkc'⟩, ?_⟩
    · show fits (pgTy k) (.ref b) = true
      match k, hk with
      | 3, _ => rfl
      | 4, _ => rfl
      | k + 5, _ => rfl
    · show T.vm.assignable _ _ = true
      rw [hal.assignable]
      exact v4 _ _ _ g1 g2
end XS
section XS2
variable {G : GG} {w : MI} {R : Room} {E : XE} {cn sn pc : Nat} {L : List (Option AV)} {st : List AV} {M : Mem}
/-- a byte array's clone -/
theorem x_cloneY {i a n : Nat} {f : Nat → Int} (hlink : Cond.methodLink (wy w).cls i ⟨"[B", "clone", "()Ljava/lang/Object;"⟩ ∈ lw_all) (hM : mG M a = some (cY n f)) (hb : ∀ j, j < n → -128 ≤ f j ∧ f j < 128)
    (hst : Nat.ble (st.map aCt).sum 8 = true) (hfr : 1 ≤ R.frames) (hlo : 64 ≤ R.locals) (hR : cn + 1 ≤ R.cells ∧ sn + n ≤ R.slots) (hd : decode (wc w) pc = .ok (.invokevirtual i, 3))
    (kk : ∀ q M', mA M M' q (cY n f) → X G w R E (cn + 1) (sn + n) (pc + 3) L (aR (some q) :: st) M') : X G w R E cn sn pc L (aR (some a) :: st) M := by
  intro p e s m args below meth cd H locs ls F hS hH hl
  have hts : ∀ q ∈ lw_all, q.before args s = true := F.2.2.2.2.2.2.2.1
  have hG := F.2.2.2.2.2.2.2.2.1
  have hW := F.2.2.2.2.2.2.2.2.2.1
  have hc1 : H[a]? = some (arrV (gR G 2) n (fun j => .int (Int32.ofInt (f j)))) := hH.P hM 0 _ rfl
  obtain ⟨c0, t0', f1, f2, f3⟩ := Cond.castable_spec (va_Nw.use (A := args) rfl (va_Nw.warmC hW.1 (hG.2.2.1 _ q690)))
  have hnm := gAn hG hW (k := 2) (by decide)
  cases hnm.symm.trans f1
  intro T hT hX
  obtain ⟨-, kA, hkA, comp, hkind⟩ := State.isArrayOf_alike hX.warmed.alike (hG.arr hW (k := 2) (by decide) 0 (fun _ => .null))
  obtain ⟨-, kS, hkS, compS, hkindS⟩ := hG.arr hW (k := 2) (by decide) 0 (fun _ => .null)
  obtain ⟨vm', X', stp⟩ := hX.cloneArray F.1 F.2.2.2.2.2.1 (hts _ hlink) (hts _ q686) (hts _ q687) (hts _ q688) (hts _ q689) (a := a) (cell := arrV (gR G 2) n (fun j => .int (Int32.ofInt (f j)))) (by rw [hT]; exact hc1) (fun k h => by cases h) (fun h => by cases h) hnm f2 f3
    (fun i v hv => by
      have hk' : T.vm.classes[gR G 2]? = some kA := hkA
      have hlt : i < n := by
        have := (Array.getElem?_eq_some_iff.mp hv).1
        rw [arrV_size] at this
        exact this
      rw [arrV_read _ _ hlt] at hv
      cases hv
      have h9 := (okF_B (hb i hlt)).2
      have hk9 : kA.kind = .array comp .byte := hkind
      show T.fitsSlot (gR G 2) _ i (toV (aI (f i))) = true
      simpa [State.fitsSlot, State.slotType?, hk', hk9] using h9)
    (g := F0 m pc ls (.ref a :: st.map toV)) rfl (hl.1.trans F.2.2.1.symm) rfl (by rw [F.2.1]; exact hd) hfr (by have := tv_cat st hst; show 2 * 0 + _ + 14 ≤ _; omega) hR.1 (by rw [arrV_size]; exact hR.2) (hloader := Vm.clonesLoader_of_array hkS hkindS)
  rw [arrV_size] at X'
  have hcellE : ({ cls := (arrV (gR G 2) n (fun j => Value.int (Int32.ofInt (f j)))).cls, slots := (arrV (gR G 2) n (fun j => Value.int (Int32.ofInt (f j)))).slots } : Cell) = arrV (gR G 2) n (fun j => .int (Int32.ofInt (f j))) := rfl
  rw [hcellE] at X'
  generalize hH1 : H.push (arrV (gR G 2) n (fun j => Value.int (Int32.ofInt (f j)))) = H1
  have z1 : H1.size = H.size + 1 := by rw [← hH1, Array.size_push]
  have e1 : H1[H.size]? = some (arrV (gR G 2) n (fun j => Value.int (Int32.ofInt (f j)))) := by rw [← hH1, Array.getElem?_push_size]
  have o1 : ∀ q : Nat, q < H.size → H1[q]? = H[q]? := fun q hq => by rw [← hH1, Array.getElem?_push, if_neg (Nat.ne_of_lt hq)]
  obtain ⟨t, b1, b2⟩ := kk _ _ (mA_mN M _) p e s m args below meth cd H1 locs ls F (hS.new2 z1 o1) (hH.new (c := cY n f) z1 o1 (by
    show H1[mZ M]? = some _
    rw [← hH.1, e1]
    rfl)) hl ((T.setVm vm').pushCell (arrV (gR G 2) n (fun j => Value.int (Int32.ofInt (f j))))) (by rw [← hH1, ← hT]; rfl) X'
  refine ⟨t, stp t ?_, b2⟩
  rw [hcellE, hT, hH.1]
  exact b1
/-- getClass() of an array of Objects -/
theorem x_getC {i a n mi : Nat} {f : Nat → Option Nat} (hmi : va_Mi "[Ljava/lang/Object;" mi (gs G)) (hlink : Cond.methodLink (wy w).cls i ⟨"java/lang/Object", "getClass", "()Ljava/lang/Class;"⟩ ∈ lw_all) (hM : mG M a = some (cQ 3 n f))
    (hst : Nat.ble (st.map aCt).sum 8 = true) (hfr : 1 ≤ R.frames) (hlo : 64 ≤ R.locals) (hd : decode (wc w) pc = .ok (.invokevirtual i, 3))
    (kk : X G w R E cn sn (pc + 3) L (aR (some mi) :: st) M) : X G w R E cn sn pc L (aR (some a) :: st) M := by
  intro p e s m args below meth cd H locs ls F hS hH hl
  have hts : ∀ q ∈ lw_all, q.before args s = true := F.2.2.2.2.2.2.2.1
  have hG := F.2.2.2.2.2.2.2.2.1
  have hW := F.2.2.2.2.2.2.2.2.2.1
  have hdc : (Cond.declares ⟨"java/lang/Object", "getClass", "()Ljava/lang/Class;"⟩).before args s = true := va_Dc.use (va_Dc.moved hW.alike (va_Dc.of (hG.2.2.1 _ q2215)))
  exact va_getC F.1 F.2.1 (hl.1.trans F.2.2.1.symm).symm F.2.2.2.2.2.1 (hts _ hlink) hdc (hts _ q2214) (hts _ q266) (hts _ q288) (va_Mi.moved hW.alike hmi) (rc_aO hM s H hG hW hH (hW.fr hS)) hfr (by have := tv_cat st hst; omega) hd (kk p e s m args below meth cd H locs ls F hS hH hl)
/-- a table switch -/
theorem x_switch {dflt lo hi a : Int} {offs : Array Int} {len : Nat} (ha : -2147483648 ≤ a ∧ a < 2147483648) (hd : decode (wc w) pc = .ok (.tableswitch dflt lo hi offs, len)) (j : Nat) (hj : a = lo + (j : Int)) (hh : a ≤ hi) (off : Int) (ho : offs[j]? = some off) (tgt : Nat) (ht : (pc : Int) + off = (tgt : Int))
    (kk : X G w R E cn sn tgt L st M) : X G w R E cn sn pc L (aI a :: st) M := by
  intro p e s m args below meth cd H locs ls F hS hH hl
  refine lv_tableIn F.1 F.2.1 hd (x := Int32.ofInt a) ?_ ?_ (off := off) ?_ ht (kk p e s m args below meth cd H locs ls F hS hH hl)
  · rw [i32_toInt ha]; omega
  · rw [i32_toInt ha]; omega
  · rw [i32_toInt ha, hj, show (lo + (j : Int) - lo).toNat = j by omega]
    exact ho
theorem x_switchD {dflt lo hi a : Int} {offs : Array Int} {len : Nat} (ha : -2147483648 ≤ a ∧ a < 2147483648) (hd : decode (wc w) pc = .ok (.tableswitch dflt lo hi offs, len)) (hh : a < lo ∨ hi < a) (tgt : Nat) (ht : (pc : Int) + dflt = (tgt : Int))
    (kk : X G w R E cn sn tgt L st M) : X G w R E cn sn pc L (aI a :: st) M := by
  intro p e s m args below meth cd H locs ls F hS hH hl
  refine lv_tableOut F.1 F.2.1 hd (x := Int32.ofInt a) ?_ ht (kk p e s m args below meth cd H locs ls F hS hH hl)
  rw [i32_toInt ha]; exact hh
/-- the script's ints -/
theorem x_sld {b n : Nat} {i : Int} {xs : Nat → Int32} (j : Nat) (hi : i = (j : Int)) (hj : j < n ∧ j < 2147483648) (hX : gX G b n xs) (hd : decode (wc w) pc = .ok (.iaload, 1))
    (kk : X G w R E cn sn (pc + 1) L (aI (xs j).toInt :: st) M) : X G w R E cn sn pc L (aI i :: aR (some b) :: st) M := by
  intro p e s m args below meth cd H locs ls F hS hH hl
  subst hi
  have hW := F.2.2.2.2.2.2.2.2.2.1
  obtain ⟨h1, h2⟩ := i32_in (a := (j : Int)) (n := n) ⟨by omega, by omega⟩ (by omega)
  obtain ⟨scr, g1, g2, g3, g4, g5⟩ := va_X.kept (H1 := H) (va_X.moved hW.alike hX.1) (hW.fr hS b hX.2)
  have k1 := kk p e s m args below meth cd H locs ls F hS hH hl
  refine W.iald (v := .int (xs j)) F.1 F.2.1 g1 g2 g3 (by rw [g4]; exact h1) (by rw [h2]; exact g5 j hj.1) rfl rfl hd ?_
  have e : toV (aI (xs j).toInt) = .int (xs j) := by show Value.int (Int32.ofInt _) = _; rw [Int32.ofInt_toInt]
  rw [List.map_cons, e] at k1
  exact k1
theorem x_slen {b n : Nat} {xs : Nat → Int32} (hX : gX G b n xs) (hd : decode (wc w) pc = .ok (.arraylength, 1))
    (kk : X G w R E cn sn (pc + 1) L (aI (n : Int) :: st) M) : X G w R E cn sn pc L (aR (some b) :: st) M := by
  intro p e s m args below meth cd H locs ls F hS hH hl
  have hW := F.2.2.2.2.2.2.2.2.2.1
  obtain ⟨scr, g1, g2, g3, g4, g5⟩ := va_X.kept (H1 := H) (va_X.moved hW.alike hX.1) (hW.fr hS b hX.2)
  exact W.alen F.1 F.2.1 g1 g2 (by rw [g4]; exact i32_ofNat n) rfl rfl hd (kk p e s m args below meth cd H locs ls F hS hH hl)
/-- a nest mate's field written -/
theorem x_putN {C : String} {T : u_T} {N ci k i a : Nat} {host : String} {fs : List AV} {v : AV} (hc : pgCl[ci]? = some (C, T, N)) (hin : ∀ q ∈ u_ws C T N, q ∈ lw_all) (ty0 : Nat → FieldType) (hty : ∀ k, k < N → parseFieldDescriptor (T k).2.2.1 = some (ty0 k)) (hnm : ∀ a, a < N → ∀ b, b < N → a ≠ b → (T a).2.1 ≠ (T b).2.1) (hk : k < N)
    (hlink : Cond.fieldLinkNest (wy w).cls i (T k).1 (T k).2.1 (T k).2.2.1 host ∈ lw_tbl) (hfin : (T k).2.2.2 = false)
    (hM : mG M a = some (cO ci fs)) (hlen : k < fs.length) (hok : okF (ty0 k) v) (hd : decode (wc w) pc = .ok (.putfield i, 3))
    (kk : X G w R E cn sn (pc + 3) L st (mS M a (cO ci (fs.set k v)))) : X G w R E cn sn pc L (v :: aR (some a) :: st) M := by
  intro p e s m args below meth cd H locs ls F hS hH hl
  have hts : ∀ q ∈ lw_all, q.before args s = true := F.2.2.2.2.2.2.2.1
  have hG := F.2.2.2.2.2.2.2.2.1
  have hW := F.2.2.2.2.2.2.2.2.2.1
  have hK := hG.K hW
  have hown := F.2.2.2.2.2.1
  have hap := va_apart (own := (wy w).cls) hts hin ty0 hty hnm hK hc
  obtain ⟨r, h1, cell, q1, q2, q3, q4⟩ := hH.P hM 0 _ rfl
  have hr : r = (C, T, N) := Option.some.inj (h1.symm.trans hc)
  subst hr
  obtain ⟨hSl, hfc, kC, hkC, hkind⟩ := hK.1 ci _ hc
  obtain ⟨cf, kf, fi, f, hi, hsl⟩ := hSl k hk
  have hlay := hts _ (hin _ (u_in_lay hk))
  unfold u_lay at hlay
  rw [if_neg (by rw [hfin]; decide)] at hlay
  have hst := (u_facts hfc hkC (u_lays hts hin hk) hi).1
  have h6 := u_store hfc hkC hkind hlay hi (hty k hk) hok.1 hok.2
  refine va_WputK F.1 F.2.1 (f := f) hown ((va_Nw.warmF hW.1 (hG.2.2.1 _ hlink)).use rfl) hi hst (by rw [q2]; exact h6) q1 q3 (by rw [hsl]; exact k2_hasslot (q4 k hk)) rfl rfl hd fun H' e1 e2 e3 => ?_
  rw [hsl] at e1 ⊢
  refine kk p e s m args below meth cd H' _ ls F (hS.put2 e2 e3 (hH.2.2 a _ hM).1) (hH.set hM e2 e3 ⟨_, hc, ?_⟩) hl
  rw [show (toE G (cO ci (fs.set k v))) = .inr (ci, (fs.set k v).map toV) from rfl]
  rw [set_map]
  exact t_OB.to (V := updV (vp_V (fs.map toV)) k (toV v)) ⟨_, e1, q2, q3, t_set q4 hap hk (toV v)⟩ (fun j _ => vp_updV_set (by simpa using hlen) (toV v) j)
end XS2
section XMb
variable {G : GG} {w : MI} {R : Room} {E : XE} {cn sn pc : Nat} {L : List (Option AV)} {st : List AV} {M : Mem}
/-- where the known cells lie -/
def bK (G : GG) (M : Mem) : Prop := gB G ≤ mZ M ∧ ∀ a c, mG M a = some c → gB G ≤ a
theorem x_gB (k : bK G M → X G w R E cn sn pc L st M) : X G w R E cn sn pc L st M := by
  intro p e s m args below meth cd H locs ls F hS hH hl
  exact k ⟨hH.2.1, fun a c h => (hH.2.2 a c h).1⟩ p e s m args below meth cd H locs ls F hS hH hl
theorem gO.lt {C : String} {a : Nat} (h : gO G C a) : a < gB G := by
  obtain ⟨_, _, _, _, h1⟩ := h
  exact Nat.not_le.mp h1
end XMb
section XMa
variable {G : GG} {w : MI} {R : Room} {E : XE} {cn sn pc : Nat} {L : List (Option AV)} {st : List AV} {M : Mem}
/-! Math's members, by the machine's own contracts -/
theorem x_mmax {i : Nat} {a b : Int} (hlink : Cond.methodLink (wy w).cls i Lib.Math.max.name ∈ lw_all) (ha : -2147483648 ≤ a ∧ a < 2147483648) (hb : -2147483648 ≤ b ∧ b < 2147483648) (hst : Nat.ble (st.map aCt).sum 8 = true) (hfr : 1 ≤ R.frames ∧ 64 ≤ R.locals) (hc : cn ≤ R.cells ∧ sn ≤ R.slots) (hd : decode (wc w) pc = .ok (.invokestatic i, 3))
    (kk : X G w R E cn sn (pc + 3) L (aI (max a b) :: st) M) : X G w R E cn sn pc L (aI b :: aI a :: st) M := by
  intro p e s m args below meth cd H locs ls F hS hH hl
  have hts : ∀ q ∈ lw_all, q.before args s = true := F.2.2.2.2.2.2.2.1
  refine va_mmax F.1 F.2.1 (hl.1.trans F.2.2.1.symm).symm F.2.2.2.2.2.1 (hts _ hlink) (hts _ q256) (hts _ q86) (hts _ q257) hfr.1 (by have := tv_cat st hst; omega) hc.1 hc.2 hd ?_
  have k1 := kk p e s m args below meth cd H locs ls F hS hH hl
  have e1 : (if Int32.ofInt a < Int32.ofInt b then Int32.ofInt b else Int32.ofInt a) = Int32.ofInt (max a b) := by
    split
    · rename_i h; rw [i32_lt ha hb] at h; rw [show max a b = b by omega]
    · rename_i h; rw [i32_lt ha hb] at h; rw [show max a b = a by omega]
  rw [e1]
  exact k1
theorem x_mmin {i : Nat} {a b : Int} (hlink : Cond.methodLink (wy w).cls i Lib.Math.min.name ∈ lw_all) (ha : -2147483648 ≤ a ∧ a < 2147483648) (hb : -2147483648 ≤ b ∧ b < 2147483648) (hst : Nat.ble (st.map aCt).sum 8 = true) (hfr : 1 ≤ R.frames ∧ 64 ≤ R.locals) (hc : cn ≤ R.cells ∧ sn ≤ R.slots) (hd : decode (wc w) pc = .ok (.invokestatic i, 3))
    (kk : X G w R E cn sn (pc + 3) L (aI (min a b) :: st) M) : X G w R E cn sn pc L (aI b :: aI a :: st) M := by
  intro p e s m args below meth cd H locs ls F hS hH hl
  have hts : ∀ q ∈ lw_all, q.before args s = true := F.2.2.2.2.2.2.2.1
  refine va_mmin F.1 F.2.1 (hl.1.trans F.2.2.1.symm).symm F.2.2.2.2.2.1 (hts _ hlink) (hts _ q296) (hts _ q86) (hts _ q297) hfr.1 (by have := tv_cat st hst; omega) hc.1 hc.2 hd ?_
  have k1 := kk p e s m args below meth cd H locs ls F hS hH hl
  have e1 : (if Int32.ofInt b < Int32.ofInt a then Int32.ofInt b else Int32.ofInt a) = Int32.ofInt (min a b) := by
    split
    · rename_i h; rw [i32_lt hb ha] at h; rw [show min a b = b by omega]
    · rename_i h; rw [i32_lt hb ha] at h; rw [show min a b = a by omega]
  rw [e1]
  exact k1
theorem x_mabs {i : Nat} {a : Int} (hlink : Cond.methodLink (wy w).cls i Lib.MathLoose.abs_long.x ∈ lw_all) (ha : -9223372036854775808 < a ∧ a < 9223372036854775808) (hst : Nat.ble (st.map aCt).sum 8 = true) (hfr : 1 ≤ R.frames ∧ 64 ≤ R.locals) (hc : cn ≤ R.cells ∧ sn ≤ R.slots) (hd : decode (wc w) pc = .ok (.invokestatic i, 3))
    (kk : X G w R E cn sn (pc + 3) L (aL (a.natAbs : Int) :: st) M) : X G w R E cn sn pc L (aL a :: st) M := by
  intro p e s m args below meth cd H locs ls F hS hH hl
  have hts : ∀ q ∈ lw_all, q.before args s = true := F.2.2.2.2.2.2.2.1
  refine va_mabs_long F.1 F.2.1 (hl.1.trans F.2.2.1.symm).symm F.2.2.2.2.2.1 (hts _ hlink) (hts _ q1333) (hts _ q86) (hts _ q1334) hfr.1 (by have := tv_cat st hst; omega) hc.1 hc.2 hd ?_
  have k1 := kk p e s m args below meth cd H locs ls F hS hH hl
  have e1 : (if 0 < Int64.ofInt a then Int64.ofInt a else -Int64.ofInt a) = Int64.ofInt (a.natAbs : Int) := by
    have h0 : (0 : Int64) < Int64.ofInt a ↔ 0 < a := i64_lt (a := 0) (by omega) (by omega)
    by_cases h : 0 < a
    · rw [if_pos (h0.mpr h), show (a.natAbs : Int) = a by omega]
    · rw [if_neg (fun q => h (h0.mp q)), ← Int64.ofInt_neg, show (a.natAbs : Int) = -a by omega]
  rw [e1]
  exact k1
end XMa
