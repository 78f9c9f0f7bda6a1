/-! THE ABSTRACT MACHINE'S RUNS: X is a run from a place of a method, over a known memory; its rows, one an instruction. All else of the machine is hidden in X. -/
set_option maxRecDepth 100000
/-- the classes whose objects are made -/
abbrev pgCl : List vw_C := [(RX1, TX1, 7), (RX2, TX2, 12), (RX3, TX3, 2), (RX4, TX4, 2), (RX5, TX5, 7), (RX6, TX6, 3), (RJ2, TJ2, 3), (RJ4, TJ4, 9), (RJ14, TJ14, 4), (RJ18, TJ18, 1), (RJ23, TJ23, 6), (RJ24, TJ24, 1), (RJ25, TJ25, 4), (RJ27, TJ27, 4), (RJ29, TJ29, 4), (RJ30, TJ30, 3)]
/-- the arrays' component types, by kind -/
def pgTy : Nat → FieldType := fun k => match k with
  | 0 => .int
  | 1 => .long
  | 2 => .byte
  | 3 => .object "java/lang/Object"
  | 4 => .array .int
  | _ => .object "java/util/BitSet"
/-- the run's surroundings: the launch, the state at the law's start, the classes' numbers and slots, the arrays' classes, the constants' addresses -/
abbrev GG : Type := Launch × State × (Nat → ClassId) × (Nat → Nat → Nat) × (Nat → ClassId) × (Nat → Nat)
def gl (G : GG) : Launch := G.1
def gs (G : GG) : State := G.2.1
def gC (G : GG) : Nat → ClassId := G.2.2.1
def gI (G : GG) : Nat → Nat → Nat := G.2.2.2.1
def gR (G : GG) : Nat → ClassId := G.2.2.2.2.1
/-- constants' addresses -/
def gK (G : GG) : Nat → Nat := G.2.2.2.2.2
def gB (G : GG) : Nat := (gs G).heap.size
/-- what may be written: all that is new since the law's start -/
def gA (G : GG) : Nat → Prop := fun q => gB G ≤ q
abbrev gTys (G : GG) : List (ClassId × FieldType) := (List.range 6).map fun k => (gR G k, pgTy k)
def toE (G : GG) : ACl → va_E
  | .inl (k, n, c) => .inl (gR G k, n, toA c)
  | .inr (ci, fs) => .inr (ci, fs.map toV)
/-- an array of references to arrays: its class, and its component's -/
def gArr (G : GG) (s : State) (k : Nat) (comp : FieldType) (name : String) : Prop := ∃ (kA : Class) (cm : ClassId) (kc : Class), s.vm.classes[gR G k]? = some kA ∧ kA.kind = .array cm comp ∧ s.vm.findClass name = some cm ∧ s.vm.classes[cm]? = some kc
/-- facts of the surroundings -/
def gOK (G : GG) : Prop :=
  (gl G).stackTraces = false ∧
  va_K (gC G, gI G) pgCl (gTys G) (gs G) ∧
  (∀ w ∈ lw_tbl, va_Nw w (gs G)) ∧
  gArr G (gs G) 3 (.object "java/lang/Object") "java/lang/Object" ∧ gArr G (gs G) 4 (.array .int) "[I" ∧ gArr G (gs G) 5 (.object "java/util/BitSet") "java/util/BitSet" ∧
  vx_Zq Bundle.tN "UNASSIGNED_STACK" Bundle.steD (gA G) (gs G) (gs G).heap ∧ vx_Zq Bundle.tN "SUPPRESSED_SENTINEL" Bundle.listD (gA G) (gs G) (gs G).heap
/-- a state of the run: its tables are the start's, warmer; what was there at the start has not changed -/
def gW (G : GG) (s : State) : Prop := (gs G).WarmedH s.vm ∧ gB G ≤ s.heap.size ∧ ∀ q, q < gB G → s.heap[q]? = (gs G).heap[q]?
/-- the heap holds a memory -/
def gH (G : GG) (M : Mem) (H : Heap) : Prop := H.size = mZ M ∧ gB G ≤ mZ M ∧ ∀ (a : Nat) (c : ACl), mG M a = some c → gB G ≤ a ∧ va_at (gC G, gI G) pgCl (a, toE G c) H
/-- a method: its name, code, locals, answer, handlers -/
abbrev MI : Type := MethodName × ByteArray × Nat × Option FieldType × List (Nat × Nat × Nat × Nat)
def wy (w : MI) : MethodName := w.1
def wc (w : MI) : ByteArray := w.2.1
def wn (w : MI) : Nat := w.2.2.1
def wr (w : MI) : Option FieldType := w.2.2.2.1
def wh (w : MI) : List (Nat × Nat × Nat × Nat) := w.2.2.2.2
abbrev XE : Type := List Frame → Array Value → State → State → Prop
def xF (G : GG) (w : MI) (p : Program) (s : State) (m : MethodId) (args : Array Value) (meth : Method) (cd : Code) : Prop :=
  p.tables.exec = Jvm.exec ∧ cd.code = wc w ∧ cd.maxLocals = wn w ∧ meth.sig.returnType = wr w ∧ meth.locks = false ∧ s.vm.findClass (wy w).cls = some m.cls ∧ meth.name = (wy w).name ∧ (∀ q ∈ lw_all, q.before args s = true) ∧ gOK G ∧ gW G s ∧ cd.exceptionTable.toList = tableOf (wh w)
/-- a run: from this place of the method w, with these locals and this stack, over the memory M, with so many cells and slots taken, the machine comes to the end E -/
def X (G : GG) (w : MI) (R : Room) (E : XE) (cn sn pc : Nat) (L : List (Option AV)) (st : List AV) (M : Mem) : Prop :=
  ∀ (p : Program) (e : Env) (s : State) (m : MethodId) (args : Array Value) (below : List Frame) (meth : Method) (cd : Code) (H : Heap) (locs : List Loc) (ls : Array Slot),
    xF G w p s m args meth cd → va_S (gA G) s.heap H locs → gH G M H → aLH ls (wn w) L →
    W p (gl G) e R s m args below meth cd H locs cn sn (E below args s) (F0 m pc ls (st.map toV))
/-- .. with an exception of class C thrown there -/
def XT (G : GG) (w : MI) (R : Room) (E : XE) (cn sn pc : Nat) (L : List (Option AV)) (C : String) (M : Mem) : Prop :=
  ∀ (p : Program) (e : Env) (s : State) (m : MethodId) (args : Array Value) (below : List Frame) (meth : Method) (cd : Code) (H : Heap) (locs : List Loc) (ls : Array Slot) (rest : List Value) (q : Nat) (ce : Cell),
    xF G w p s m args meth cd → va_S (gA G) s.heap H locs → gH G M H → aLH ls (wn w) L → H[q]? = some ce → ce.vm = .none → s.vm.findClass C = some ce.cls →
    vx_W p (gl G) e R s m args below meth cd H locs cn sn (E below args s) (F0 m pc ls rest) q
theorem gW.alike {G : GG} {s : State} (h : gW G s) : (gs G).vm.Alike s.vm := h.1.alike
theorem gOK.K {G : GG} {s : State} (h : gOK G) (hW : gW G s) : va_K (gC G, gI G) pgCl (gTys G) s := va_K.moved hW.alike h.2.1
theorem gTys_at (G : GG) (k : Nat) (hk : k < 6) : (gTys G)[k]? = some (gR G k, pgTy k) := by
  simp [gTys, hk]
theorem gOK.arr {G : GG} {s : State} (h : gOK G) (hW : gW G s) {k : Nat} (hk : k < 6) : ArrOfT s (gR G k) (pgTy k) := ((h.K hW).2 k _ (gTys_at G k hk)).1
/-- a store into a new cell -/
theorem va_S.put2 {A : Nat → Prop} {H0 H H1 : Heap} {locs : List Loc} {a i : Nat} (h : va_S A H0 H locs) (z : H1.size = H.size) (o : ∀ q : Nat, q ≠ a → H1[q]? = H[q]?) (ha : A a) : va_S A H0 H1 (locs ++ [⟨a, i⟩]) := va_S.put h z o ha
theorem va_S.new2 {A : Nat → Prop} {H0 H H1 : Heap} {locs : List Loc} (h : va_S A H0 H locs) (z : H1.size = H.size + 1) (o : ∀ q : Nat, q < H.size → H1[q]? = H[q]?) : va_S A H0 H1 locs :=
  ⟨by rw [z]; exact Nat.le_trans h.1 (Nat.le_succ _), fun q h1 h2 => by rw [o q (Nat.lt_of_lt_of_le h1 h.1)]; exact h.2.1 q h1 h2, h.2.2⟩
theorem gH.new {G : GG} {M : Mem} {H H1 : Heap} (h : gH G M H) {c : ACl} (z : H1.size = H.size + 1) (o : ∀ q : Nat, q < H.size → H1[q]? = H[q]?) (hc : va_at (gC G, gI G) pgCl (mZ M, toE G c) H1) : gH G (mN M c) H1 := by
  refine ⟨by rw [z, h.1, mZ_N], by rw [mZ_N]; exact Nat.le_trans h.2.1 (Nat.le_succ _), fun a x hx => ?_⟩
  rw [mG_N] at hx
  split at hx
  · rename_i q
    cases hx
    subst q
    exact ⟨h.2.1, hc⟩
  · obtain ⟨h1, h2⟩ := h.2.2 a x hx
    exact ⟨h1, h2.kept (o a (by rw [h.1]; exact mG_lt hx))⟩
theorem gH.set {G : GG} {M : Mem} {H H1 : Heap} (h : gH G M H) {b : Nat} {c0 c : ACl} (hb : mG M b = some c0) (z : H1.size = H.size) (o : ∀ q : Nat, q ≠ b → H1[q]? = H[q]?) (hc : va_at (gC G, gI G) pgCl (b, toE G c) H1) : gH G (mS M b c) H1 := by
  refine ⟨by rw [z, h.1, mZ_S], h.2.1, fun a x hx => ?_⟩
  rw [mG_S] at hx
  split at hx
  · rename_i q
    cases hx
    obtain ⟨rfl, -⟩ := q
    exact ⟨(h.2.2 _ _ hb).1, hc⟩
  · rename_i q
    obtain ⟨h1, h2⟩ := h.2.2 a x hx
    have hab : a ≠ b := fun e => q ⟨e, mG_lt hx⟩
    exact ⟨h1, h2.kept (o a hab)⟩
theorem gH.grow {G : GG} {M : Mem} {H H1 : Heap} (h : gH G M H) (z : H.size ≤ H1.size) (o : ∀ q : Nat, q < H.size → H1[q]? = H[q]?) : gH G (mW M H1.size) H1 := by
  refine ⟨by rw [mZ_W]; have := h.1; omega, by rw [mZ_W]; have := h.2.1; omega, fun a x hx => ?_⟩
  rw [mG_W] at hx
  obtain ⟨h1, h2⟩ := h.2.2 a x hx
  exact ⟨h1, h2.kept (o a (by rw [h.1]; exact mG_lt hx))⟩
/-! whole numbers in range -/
theorem i32_toInt {a : Int} (h : -2147483648 ≤ a ∧ a < 2147483648) : (Int32.ofInt a).toInt = a := Int32.toInt_ofInt_of_le (by simpa using h.1) (by simpa using h.2)
theorem i64_toInt {a : Int} (h : -9223372036854775808 ≤ a ∧ a < 9223372036854775808) : (Int64.ofInt a).toInt = a := Int64.toInt_ofInt_of_le (by simpa using h.1) (by simpa using h.2)
theorem i32_lt {a b : Int} (ha : -2147483648 ≤ a ∧ a < 2147483648) (hb : -2147483648 ≤ b ∧ b < 2147483648) : Int32.ofInt a < Int32.ofInt b ↔ a < b := by
  rw [Int32.lt_iff_toInt_lt, i32_toInt ha, i32_toInt hb]
theorem i32_le {a b : Int} (ha : -2147483648 ≤ a ∧ a < 2147483648) (hb : -2147483648 ≤ b ∧ b < 2147483648) : Int32.ofInt a ≤ Int32.ofInt b ↔ a ≤ b := by
  rw [Int32.le_iff_toInt_le, i32_toInt ha, i32_toInt hb]
theorem i32_eq {a b : Int} (ha : -2147483648 ≤ a ∧ a < 2147483648) (hb : -2147483648 ≤ b ∧ b < 2147483648) : Int32.ofInt a = Int32.ofInt b ↔ a = b := by
  rw [← Int32.toInt_inj, i32_toInt ha, i32_toInt hb]
theorem i64_lt {a b : Int} (ha : -9223372036854775808 ≤ a ∧ a < 9223372036854775808) (hb : -9223372036854775808 ≤ b ∧ b < 9223372036854775808) : Int64.ofInt a < Int64.ofInt b ↔ a < b := by
  rw [Int64.lt_iff_toInt_lt, i64_toInt ha, i64_toInt hb]
theorem i64_eq {a b : Int} (ha : -9223372036854775808 ≤ a ∧ a < 9223372036854775808) (hb : -9223372036854775808 ≤ b ∧ b < 9223372036854775808) : Int64.ofInt a = Int64.ofInt b ↔ a = b := by
  rw [← Int64.toInt_inj, i64_toInt ha, i64_toInt hb]
theorem i32_mx : Int32.maxValue.toInt = 2147483647 := by decide
theorem i64_mx : Int64.maxValue.toInt = 9223372036854775807 := by decide
theorem i32_0 : (0 : Int32) = Int32.ofInt 0 := rfl
theorem i32_cl {a : Int} (h : 0 ≤ a ∧ a < 2147483648) : (Int32.ofInt a).toNatClampNeg = a.toNat := by
  rw [Int32.toNatClampNeg, i32_toInt ⟨by omega, h.2⟩]
theorem i32_in {a : Int} {n : Nat} (h : 0 ≤ a ∧ a < (n : Int)) (hr : a < 2147483648) : vp_in (Int32.ofInt a) n ∧ (Int32.ofInt a).toNatClampNeg = a.toNat := by
  refine ⟨fun q => ?_, i32_cl ⟨h.1, hr⟩⟩
  rcases q with q | q
  · rw [i32_0, i32_lt ⟨by omega, hr⟩ ⟨by omega, by omega⟩] at q
    omega
  · rw [i32_cl ⟨h.1, hr⟩] at q
    omega
/-! the rows -/
theorem qObjI : Cond.instanceMethod Lib.objectInit ∈ lw_all := q118
theorem qObjC : Cond.code Lib.objectInit ⟨#[0xb1]⟩ 1 none ∈ lw_all := q119
section XR
variable {G : GG} {w : MI} {R : Room} {E : XE} {cn sn pc : Nat} {L : List (Option AV)} {st : List AV} {M : Mem}

theorem x_iconst {n : Int} (hd : decode (wc w) pc = .ok (.iconst n, 1))
    (k : X G w R E cn sn (pc + 1) L (aI n :: st) M) : X G w R E cn sn pc L st M := by
  intro p e s m args below meth cd H locs ls F hS hH hl
  exact lv_iconst F.1 F.2.1 hd rfl (k p e s m args below meth cd H locs ls F hS hH hl)
theorem x_bipush {n a : Int} (hn : (Int8.ofInt n).toInt32 = Int32.ofInt a) (hd : decode (wc w) pc = .ok (.bipush n, 2))
    (k : X G w R E cn sn (pc + 2) L (aI a :: st) M) : X G w R E cn sn pc L st M := by
  intro p e s m args below meth cd H locs ls F hS hH hl
  exact lv_bipush F.1 F.2.1 hd hn (k p e s m args below meth cd H locs ls F hS hH hl)
theorem x_sipush {n a : Int} (hn : (Int16.ofInt n).toInt32 = Int32.ofInt a) (hd : decode (wc w) pc = .ok (.sipush n, 3))
    (k : X G w R E cn sn (pc + 3) L (aI a :: st) M) : X G w R E cn sn pc L st M := by
  intro p e s m args below meth cd H locs ls F hS hH hl
  exact lv_sipush F.1 F.2.1 hd hn (k p e s m args below meth cd H locs ls F hS hH hl)
theorem x_lconst {n : Fin 2} {a : Int} (hn : Int64.ofNat (n : Nat) = Int64.ofInt a) (hd : decode (wc w) pc = .ok (.lconst n, 1))
    (k : X G w R E cn sn (pc + 1) L (aL a :: st) M) : X G w R E cn sn pc L st M := by
  intro p e s m args below meth cd H locs ls F hS hH hl
  exact lv_lconst F.1 F.2.1 hd hn (k p e s m args below meth cd H locs ls F hS hH hl)
theorem x_null  (hd : decode (wc w) pc = .ok (.aconst_null, 1))
    (k : X G w R E cn sn (pc + 1) L (aR none :: st) M) : X G w R E cn sn pc L st M := by
  intro p e s m args below meth cd H locs ls F hS hH hl
  exact lv_null F.1 F.2.1 hd (k p e s m args below meth cd H locs ls F hS hH hl)
theorem x_iload_n {j : Fin 4} {i : Nat} {a : Int} (hi : (j : Nat) = i) (hL : L[i]? = some (some (aI a))) (hd : decode (wc w) pc = .ok (.iload_n j, 1))
    (k : X G w R E cn sn (pc + 1) L (aI a :: st) M) : X G w R E cn sn pc L st M := by
  intro p e s m args below meth cd H locs ls F hS hH hl
  exact lv_iload_n F.1 F.2.1 hd hi (hl.at hL) (k p e s m args below meth cd H locs ls F hS hH hl)
theorem x_iload {i : Nat} {a : Int} (hL : L[i]? = some (some (aI a))) (hd : decode (wc w) pc = .ok (.iload i, 2))
    (k : X G w R E cn sn (pc + 2) L (aI a :: st) M) : X G w R E cn sn pc L st M := by
  intro p e s m args below meth cd H locs ls F hS hH hl
  exact lv_iload F.1 F.2.1 hd (hl.at hL) (k p e s m args below meth cd H locs ls F hS hH hl)
theorem x_lload_n {j : Fin 4} {i : Nat} {a : Int} (hi : (j : Nat) = i) (hL : L[i]? = some (some (aL a))) (hd : decode (wc w) pc = .ok (.lload_n j, 1))
    (k : X G w R E cn sn (pc + 1) L (aL a :: st) M) : X G w R E cn sn pc L st M := by
  intro p e s m args below meth cd H locs ls F hS hH hl
  exact lv_lload_n F.1 F.2.1 hd hi (hl.at hL) (k p e s m args below meth cd H locs ls F hS hH hl)
theorem x_lload {i : Nat} {a : Int} (hL : L[i]? = some (some (aL a))) (hd : decode (wc w) pc = .ok (.lload i, 2))
    (k : X G w R E cn sn (pc + 2) L (aL a :: st) M) : X G w R E cn sn pc L st M := by
  intro p e s m args below meth cd H locs ls F hS hH hl
  exact lv_lload F.1 F.2.1 hd (hl.at hL) (k p e s m args below meth cd H locs ls F hS hH hl)
theorem x_aload_n {j : Fin 4} {i : Nat} {r : Option Nat} (hi : (j : Nat) = i) (hL : L[i]? = some (some (aR r))) (hd : decode (wc w) pc = .ok (.aload_n j, 1))
    (k : X G w R E cn sn (pc + 1) L (aR r :: st) M) : X G w R E cn sn pc L st M := by
  intro p e s m args below meth cd H locs ls F hS hH hl
  cases r with
  | none => exact lv_aload_nN F.1 F.2.1 hd hi (hl.at hL) (k p e s m args below meth cd H locs ls F hS hH hl)
  | some a => exact lv_aload_n F.1 F.2.1 hd hi (hl.at hL) (k p e s m args below meth cd H locs ls F hS hH hl)
theorem x_aload {i : Nat} {r : Option Nat} (hL : L[i]? = some (some (aR r))) (hd : decode (wc w) pc = .ok (.aload i, 2))
    (k : X G w R E cn sn (pc + 2) L (aR r :: st) M) : X G w R E cn sn pc L st M := by
  intro p e s m args below meth cd H locs ls F hS hH hl
  cases r with
  | none => exact lv_aloadN F.1 F.2.1 hd (hl.at hL) (k p e s m args below meth cd H locs ls F hS hH hl)
  | some a => exact lv_aload F.1 F.2.1 hd (hl.at hL) (k p e s m args below meth cd H locs ls F hS hH hl)
theorem x_istore_n {j : Fin 4} {i : Nat} {a : Int} (hi : (j : Nat) = i) (hn : i < wn w) (hd : decode (wc w) pc = .ok (.istore_n j, 1))
    (k : X G w R E cn sn (pc + 1) (aSt L i (aI a)) st M) : X G w R E cn sn pc L (aI a :: st) M := by
  intro p e s m args below meth cd H locs ls F hS hH hl
  exact lv_istore_n F.1 F.2.1 hd hi hl.lv hn rfl (fun ls1 h => k p e s m args below meth cd H locs ls1 F hS hH (aLH.st1 hl.2.2.1 h))
theorem x_istore {i : Nat} {a : Int} (hn : i < wn w) (hd : decode (wc w) pc = .ok (.istore i, 2))
    (k : X G w R E cn sn (pc + 2) (aSt L i (aI a)) st M) : X G w R E cn sn pc L (aI a :: st) M := by
  intro p e s m args below meth cd H locs ls F hS hH hl
  exact lv_istore F.1 F.2.1 hd hl.lv hn rfl (fun ls1 h => k p e s m args below meth cd H locs ls1 F hS hH (aLH.st1 hl.2.2.1 h))
theorem x_lstore_n {j : Fin 4} {i : Nat} {a : Int} (hi : (j : Nat) = i) (hn : i + 1 < wn w) (hd : decode (wc w) pc = .ok (.lstore_n j, 1))
    (k : X G w R E cn sn (pc + 1) (aSt L i (aL a)) st M) : X G w R E cn sn pc L (aL a :: st) M := by
  intro p e s m args below meth cd H locs ls F hS hH hl
  exact lv_lstore_n F.1 F.2.1 hd hi hl.lv hn rfl (fun ls1 h => k p e s m args below meth cd H locs ls1 F hS hH (aLH.st2 rfl hl.2.2.1 h))
theorem x_lstore {i : Nat} {a : Int} (hn : i + 1 < wn w) (hd : decode (wc w) pc = .ok (.lstore i, 2))
    (k : X G w R E cn sn (pc + 2) (aSt L i (aL a)) st M) : X G w R E cn sn pc L (aL a :: st) M := by
  intro p e s m args below meth cd H locs ls F hS hH hl
  exact lv_lstore F.1 F.2.1 hd hl.lv hn rfl (fun ls1 h => k p e s m args below meth cd H locs ls1 F hS hH (aLH.st2 rfl hl.2.2.1 h))
theorem x_astore_n {j : Fin 4} {i : Nat} {r : Option Nat} (hi : (j : Nat) = i) (hn : i < wn w) (hd : decode (wc w) pc = .ok (.astore_n j, 1))
    (k : X G w R E cn sn (pc + 1) (aSt L i (aR r)) st M) : X G w R E cn sn pc L (aR r :: st) M := by
  intro p e s m args below meth cd H locs ls F hS hH hl
  cases r with
  | none => exact lv_astore_nN F.1 F.2.1 hd hi hl.lv hn rfl (fun ls1 h => k p e s m args below meth cd H locs ls1 F hS hH (aLH.st1 hl.2.2.1 h))
  | some a => exact lv_astore_n F.1 F.2.1 hd hi hl.lv hn rfl (fun ls1 h => k p e s m args below meth cd H locs ls1 F hS hH (aLH.st1 hl.2.2.1 h))
theorem x_astore {i : Nat} {r : Option Nat} (hn : i < wn w) (hd : decode (wc w) pc = .ok (.astore i, 2))
    (k : X G w R E cn sn (pc + 2) (aSt L i (aR r)) st M) : X G w R E cn sn pc L (aR r :: st) M := by
  intro p e s m args below meth cd H locs ls F hS hH hl
  cases r with
  | none => exact lv_astoreN F.1 F.2.1 hd hl.lv hn rfl (fun ls1 h => k p e s m args below meth cd H locs ls1 F hS hH (aLH.st1 hl.2.2.1 h))
  | some a => exact lv_astore F.1 F.2.1 hd hl.lv hn rfl (fun ls1 h => k p e s m args below meth cd H locs ls1 F hS hH (aLH.st1 hl.2.2.1 h))
theorem x_iinc {i : Nat} {n a : Int} (hL : L[i]? = some (some (aI a))) (hn : i < wn w) (hd : decode (wc w) pc = .ok (.iinc i n, 3))
    (k : X G w R E cn sn (pc + 3) (aSt L i (aI (a + n))) st M) : X G w R E cn sn pc L st M := by
  intro p e s m args below meth cd H locs ls F hS hH hl
  obtain ⟨j, hj⟩ := List.getElem?_of_mem (aLW_mem hL)
  exact lv_iinc F.1 F.2.1 hd hl.lv hj (show Int32.ofInt a + Int32.ofInt n = Int32.ofInt (a + n) by rw [Int32.ofInt_add]) hn rfl (fun ls1 h => k p e s m args below meth cd H locs ls1 F hS hH (aLH.st1 hl.2.2.1 h))
theorem x_iadd {a b : Int} (hd : decode (wc w) pc = .ok (.iadd, 1))
    (k : X G w R E cn sn (pc + 1) L (aI (a + b) :: st) M) : X G w R E cn sn pc L (aI b :: aI a :: st) M := by
  intro p e s m args below meth cd H locs ls F hS hH hl
  have k1 := k p e s m args below meth cd H locs ls F hS hH hl
  have e1 : toV (aI (a + b)) = .int (Int32.ofInt a + Int32.ofInt b) := by show Value.int _ = _; rw [Int32.ofInt_add]
  exact lv_iadd F.1 F.2.1 hd (by rw [List.map_cons, e1] at k1; exact k1)
theorem x_isub {a b : Int} (hd : decode (wc w) pc = .ok (.isub, 1))
    (k : X G w R E cn sn (pc + 1) L (aI (a - b) :: st) M) : X G w R E cn sn pc L (aI b :: aI a :: st) M := by
  intro p e s m args below meth cd H locs ls F hS hH hl
  have k1 := k p e s m args below meth cd H locs ls F hS hH hl
  have e1 : toV (aI (a - b)) = .int (Int32.ofInt a - Int32.ofInt b) := by show Value.int _ = _; rw [Int32.ofInt_sub]
  exact lv_isub F.1 F.2.1 hd (by rw [List.map_cons, e1] at k1; exact k1)
theorem x_imul {a b : Int} (hd : decode (wc w) pc = .ok (.imul, 1))
    (k : X G w R E cn sn (pc + 1) L (aI (a * b) :: st) M) : X G w R E cn sn pc L (aI b :: aI a :: st) M := by
  intro p e s m args below meth cd H locs ls F hS hH hl
  have k1 := k p e s m args below meth cd H locs ls F hS hH hl
  have e1 : toV (aI (a * b)) = .int (Int32.ofInt a * Int32.ofInt b) := by show Value.int _ = _; rw [Int32.ofInt_mul]
  exact lv_imul F.1 F.2.1 hd (by rw [List.map_cons, e1] at k1; exact k1)
theorem x_ladd {a b : Int} (hd : decode (wc w) pc = .ok (.ladd, 1))
    (k : X G w R E cn sn (pc + 1) L (aL (a + b) :: st) M) : X G w R E cn sn pc L (aL b :: aL a :: st) M := by
  intro p e s m args below meth cd H locs ls F hS hH hl
  have k1 := k p e s m args below meth cd H locs ls F hS hH hl
  have e1 : toV (aL (a + b)) = .long (Int64.ofInt a + Int64.ofInt b) := by show Value.long _ = _; rw [Int64.ofInt_add]
  exact lv_ladd F.1 F.2.1 hd (by rw [List.map_cons, e1] at k1; exact k1)
theorem x_lsub {a b : Int} (hd : decode (wc w) pc = .ok (.lsub, 1))
    (k : X G w R E cn sn (pc + 1) L (aL (a - b) :: st) M) : X G w R E cn sn pc L (aL b :: aL a :: st) M := by
  intro p e s m args below meth cd H locs ls F hS hH hl
  have k1 := k p e s m args below meth cd H locs ls F hS hH hl
  have e1 : toV (aL (a - b)) = .long (Int64.ofInt a - Int64.ofInt b) := by show Value.long _ = _; rw [Int64.ofInt_sub]
  exact lv_lsub F.1 F.2.1 hd (by rw [List.map_cons, e1] at k1; exact k1)
theorem x_lmul {a b : Int} (hd : decode (wc w) pc = .ok (.lmul, 1))
    (k : X G w R E cn sn (pc + 1) L (aL (a * b) :: st) M) : X G w R E cn sn pc L (aL b :: aL a :: st) M := by
  intro p e s m args below meth cd H locs ls F hS hH hl
  have k1 := k p e s m args below meth cd H locs ls F hS hH hl
  have e1 : toV (aL (a * b)) = .long (Int64.ofInt a * Int64.ofInt b) := by show Value.long _ = _; rw [Int64.ofInt_mul]
  exact lv_lmul F.1 F.2.1 hd (by rw [List.map_cons, e1] at k1; exact k1)
theorem x_ineg {a : Int} (hd : decode (wc w) pc = .ok (.ineg, 1))
    (k : X G w R E cn sn (pc + 1) L (aI (-a) :: st) M) : X G w R E cn sn pc L (aI a :: st) M := by
  intro p e s m args below meth cd H locs ls F hS hH hl
  have k1 := k p e s m args below meth cd H locs ls F hS hH hl
  have e1 : toV (aI (-a)) = .int (-Int32.ofInt a) := by show Value.int _ = _; rw [Int32.ofInt_neg]
  exact lv_ineg F.1 F.2.1 hd (by rw [List.map_cons, e1] at k1; exact k1)
theorem x_lneg {a : Int} (hd : decode (wc w) pc = .ok (.lneg, 1))
    (k : X G w R E cn sn (pc + 1) L (aL (-a) :: st) M) : X G w R E cn sn pc L (aL a :: st) M := by
  intro p e s m args below meth cd H locs ls F hS hH hl
  have k1 := k p e s m args below meth cd H locs ls F hS hH hl
  have e1 : toV (aL (-a)) = .long (-Int64.ofInt a) := by show Value.long _ = _; rw [Int64.ofInt_neg]
  exact lv_lneg F.1 F.2.1 hd (by rw [List.map_cons, e1] at k1; exact k1)
theorem x_iand {a b v : Int} (hv : Int32.ofInt a &&& Int32.ofInt b = Int32.ofInt v) (hd : decode (wc w) pc = .ok (.iand, 1))
    (k : X G w R E cn sn (pc + 1) L (aI v :: st) M) : X G w R E cn sn pc L (aI b :: aI a :: st) M := by
  intro p e s m args below meth cd H locs ls F hS hH hl
  have k1 := k p e s m args below meth cd H locs ls F hS hH hl
  have e1 : toV (aI v) = .int (Int32.ofInt a &&& Int32.ofInt b) := by rw [hv]; rfl
  exact lv_iand F.1 F.2.1 hd (by rw [List.map_cons, e1] at k1; exact k1)
theorem x_ior {a b v : Int} (hv : Int32.ofInt a ||| Int32.ofInt b = Int32.ofInt v) (hd : decode (wc w) pc = .ok (.ior, 1))
    (k : X G w R E cn sn (pc + 1) L (aI v :: st) M) : X G w R E cn sn pc L (aI b :: aI a :: st) M := by
  intro p e s m args below meth cd H locs ls F hS hH hl
  have k1 := k p e s m args below meth cd H locs ls F hS hH hl
  have e1 : toV (aI v) = .int (Int32.ofInt a ||| Int32.ofInt b) := by rw [hv]; rfl
  exact lv_ior F.1 F.2.1 hd (by rw [List.map_cons, e1] at k1; exact k1)
theorem x_ixor {a b v : Int} (hv : Int32.ofInt a ^^^ Int32.ofInt b = Int32.ofInt v) (hd : decode (wc w) pc = .ok (.ixor, 1))
    (k : X G w R E cn sn (pc + 1) L (aI v :: st) M) : X G w R E cn sn pc L (aI b :: aI a :: st) M := by
  intro p e s m args below meth cd H locs ls F hS hH hl
  have k1 := k p e s m args below meth cd H locs ls F hS hH hl
  have e1 : toV (aI v) = .int (Int32.ofInt a ^^^ Int32.ofInt b) := by rw [hv]; rfl
  exact lv_ixor F.1 F.2.1 hd (by rw [List.map_cons, e1] at k1; exact k1)
theorem x_ishl {a b v : Int} (hv : Int32.ofInt a <<< (Int32.ofInt b &&& 31) = Int32.ofInt v) (hd : decode (wc w) pc = .ok (.ishl, 1))
    (k : X G w R E cn sn (pc + 1) L (aI v :: st) M) : X G w R E cn sn pc L (aI b :: aI a :: st) M := by
  intro p e s m args below meth cd H locs ls F hS hH hl
  have k1 := k p e s m args below meth cd H locs ls F hS hH hl
  have e1 : toV (aI v) = .int (Int32.ofInt a <<< (Int32.ofInt b &&& 31)) := by rw [hv]; rfl
  exact lv_ishl F.1 F.2.1 hd (by rw [List.map_cons, e1] at k1; exact k1)
theorem x_ishr {a b v : Int} (hv : Int32.ofInt a >>> (Int32.ofInt b &&& 31) = Int32.ofInt v) (hd : decode (wc w) pc = .ok (.ishr, 1))
    (k : X G w R E cn sn (pc + 1) L (aI v :: st) M) : X G w R E cn sn pc L (aI b :: aI a :: st) M := by
  intro p e s m args below meth cd H locs ls F hS hH hl
  have k1 := k p e s m args below meth cd H locs ls F hS hH hl
  have e1 : toV (aI v) = .int (Int32.ofInt a >>> (Int32.ofInt b &&& 31)) := by rw [hv]; rfl
  exact lv_ishr F.1 F.2.1 hd (by rw [List.map_cons, e1] at k1; exact k1)
theorem x_land {a b v : Int} (hv : Int64.ofInt a &&& Int64.ofInt b = Int64.ofInt v) (hd : decode (wc w) pc = .ok (.land, 1))
    (k : X G w R E cn sn (pc + 1) L (aL v :: st) M) : X G w R E cn sn pc L (aL b :: aL a :: st) M := by
  intro p e s m args below meth cd H locs ls F hS hH hl
  have k1 := k p e s m args below meth cd H locs ls F hS hH hl
  have e1 : toV (aL v) = .long (Int64.ofInt a &&& Int64.ofInt b) := by rw [hv]; rfl
  exact lv_land F.1 F.2.1 hd (by rw [List.map_cons, e1] at k1; exact k1)
theorem x_lor {a b v : Int} (hv : Int64.ofInt a ||| Int64.ofInt b = Int64.ofInt v) (hd : decode (wc w) pc = .ok (.lor, 1))
    (k : X G w R E cn sn (pc + 1) L (aL v :: st) M) : X G w R E cn sn pc L (aL b :: aL a :: st) M := by
  intro p e s m args below meth cd H locs ls F hS hH hl
  have k1 := k p e s m args below meth cd H locs ls F hS hH hl
  have e1 : toV (aL v) = .long (Int64.ofInt a ||| Int64.ofInt b) := by rw [hv]; rfl
  exact lv_lor F.1 F.2.1 hd (by rw [List.map_cons, e1] at k1; exact k1)
theorem x_lxor {a b v : Int} (hv : Int64.ofInt a ^^^ Int64.ofInt b = Int64.ofInt v) (hd : decode (wc w) pc = .ok (.lxor, 1))
    (k : X G w R E cn sn (pc + 1) L (aL v :: st) M) : X G w R E cn sn pc L (aL b :: aL a :: st) M := by
  intro p e s m args below meth cd H locs ls F hS hH hl
  have k1 := k p e s m args below meth cd H locs ls F hS hH hl
  have e1 : toV (aL v) = .long (Int64.ofInt a ^^^ Int64.ofInt b) := by rw [hv]; rfl
  exact lv_lxor F.1 F.2.1 hd (by rw [List.map_cons, e1] at k1; exact k1)
theorem x_iushr {a b v : Int} (hv : ((Int32.ofInt a).toUInt32 >>> ((Int32.ofInt b).toUInt32 &&& Int32.toUInt32 31)).toInt32 = Int32.ofInt v) (hd : decode (wc w) pc = .ok (.iushr, 1))
    (k : X G w R E cn sn (pc + 1) L (aI v :: st) M) : X G w R E cn sn pc L (aI b :: aI a :: st) M := by
  intro p e s m args below meth cd H locs ls F hS hH hl
  have k1 := k p e s m args below meth cd H locs ls F hS hH hl
  exact lv_iushr F.1 F.2.1 hd hv k1
theorem x_lshl {a b v : Int} (hv : Int64.ofInt a <<< ((Int32.ofInt b).toInt64 &&& 63) = Int64.ofInt v) (hd : decode (wc w) pc = .ok (.lshl, 1))
    (k : X G w R E cn sn (pc + 1) L (aL v :: st) M) : X G w R E cn sn pc L (aI b :: aL a :: st) M := by
  intro p e s m args below meth cd H locs ls F hS hH hl
  have k1 := k p e s m args below meth cd H locs ls F hS hH hl
  exact lv_lshl F.1 F.2.1 hd hv k1
theorem x_lushr {a b v : Int} (hv : ((Int64.ofInt a).toUInt64 >>> ((Int32.ofInt b).toInt64.toUInt64 &&& Int64.toUInt64 63)).toInt64 = Int64.ofInt v) (hd : decode (wc w) pc = .ok (.lushr, 1))
    (k : X G w R E cn sn (pc + 1) L (aL v :: st) M) : X G w R E cn sn pc L (aI b :: aL a :: st) M := by
  intro p e s m args below meth cd H locs ls F hS hH hl
  have k1 := k p e s m args below meth cd H locs ls F hS hH hl
  exact lv_lushr F.1 F.2.1 hd hv k1
theorem x_i2l {a : Int} (ha : -2147483648 ≤ a ∧ a < 2147483648) (hd : decode (wc w) pc = .ok (.i2l, 1))
    (k : X G w R E cn sn (pc + 1) L (aL a :: st) M) : X G w R E cn sn pc L (aI a :: st) M := by
  intro p e s m args below meth cd H locs ls F hS hH hl
  have k1 := k p e s m args below meth cd H locs ls F hS hH hl
  exact lv_i2l F.1 F.2.1 hd (by rw [← Int64.toInt_inj, Int32.toInt_toInt64, i32_toInt ha, i64_toInt (by omega)]) k1
theorem x_l2i {a : Int} (hd : decode (wc w) pc = .ok (.l2i, 1))
    (k : X G w R E cn sn (pc + 1) L (aI a :: st) M) : X G w R E cn sn pc L (aL a :: st) M := by
  intro p e s m args below meth cd H locs ls F hS hH hl
  have k1 := k p e s m args below meth cd H locs ls F hS hH hl
  exact lv_l2i F.1 F.2.1 hd Int64.toInt32_ofInt k1
theorem x_i2b {a : Int} (ha : -128 ≤ a ∧ a < 128) (hd : decode (wc w) pc = .ok (.i2b, 1))
    (k : X G w R E cn sn (pc + 1) L (aI a :: st) M) : X G w R E cn sn pc L (aI a :: st) M := by
  intro p e s m args below meth cd H locs ls F hS hH hl
  have k1 := k p e s m args below meth cd H locs ls F hS hH hl
  exact lv_i2b F.1 F.2.1 hd (by rw [← Int32.toInt_inj, Int8.toInt_toInt32, Int32.toInt8_ofInt, Int8.toInt_ofInt_of_le (by simpa using ha.1) (by simpa using ha.2), i32_toInt (by omega)]) k1
theorem x_idiv {a b : Int} (ha : -2147483648 ≤ a ∧ a < 2147483648) (hb : -2147483648 ≤ b ∧ b < 2147483648) (h0 : b ≠ 0) (hd : decode (wc w) pc = .ok (.idiv, 1))
    (k : X G w R E cn sn (pc + 1) L (aI (Int.tdiv a b) :: st) M) : X G w R E cn sn pc L (aI b :: aI a :: st) M := by
  intro p e s m args below meth cd H locs ls F hS hH hl
  have k1 := k p e s m args below meth cd H locs ls F hS hH hl
  have hb0 : ¬ Int32.ofInt b = 0 := by rw [i32_0, i32_eq hb (by omega)]; exact h0
  have e1 : toV (aI (Int.tdiv a b)) = .int (Int32.ofInt a / Int32.ofInt b) := by
    show Value.int _ = _
    rw [Int32.ofInt_tdiv (by simpa using ha.1) (by rw [i32_mx]; omega) (by simpa using hb.1) (by rw [i32_mx]; omega)]
  exact lv_idiv F.1 F.2.1 hd hb0 (by rw [List.map_cons, e1] at k1; exact k1)
theorem x_ldiv {a b : Int} (ha : -9223372036854775808 ≤ a ∧ a < 9223372036854775808) (hb : -9223372036854775808 ≤ b ∧ b < 9223372036854775808) (h0 : b ≠ 0) (hd : decode (wc w) pc = .ok (.ldiv, 1))
    (k : X G w R E cn sn (pc + 1) L (aL (Int.tdiv a b) :: st) M) : X G w R E cn sn pc L (aL b :: aL a :: st) M := by
  intro p e s m args below meth cd H locs ls F hS hH hl
  have k1 := k p e s m args below meth cd H locs ls F hS hH hl
  have hb0 : ¬ Int64.ofInt b = 0 := by rw [show (0 : Int64) = Int64.ofInt 0 from rfl, i64_eq hb (by omega)]; exact h0
  have e1 : toV (aL (Int.tdiv a b)) = .long (Int64.ofInt a / Int64.ofInt b) := by
    show Value.long _ = _
    rw [Int64.ofInt_tdiv (by simpa using ha.1) (by rw [i64_mx]; omega) (by simpa using hb.1) (by rw [i64_mx]; omega)]
  exact lv_ldiv F.1 F.2.1 hd hb0 (by rw [List.map_cons, e1] at k1; exact k1)
theorem x_lrem {a b : Int} (ha : -9223372036854775808 ≤ a ∧ a < 9223372036854775808) (hb : -9223372036854775808 ≤ b ∧ b < 9223372036854775808) (h0 : b ≠ 0) (hd : decode (wc w) pc = .ok (.lrem, 1))
    (k : X G w R E cn sn (pc + 1) L (aL (Int.tmod a b) :: st) M) : X G w R E cn sn pc L (aL b :: aL a :: st) M := by
  intro p e s m args below meth cd H locs ls F hS hH hl
  have k1 := k p e s m args below meth cd H locs ls F hS hH hl
  have hb0 : ¬ Int64.ofInt b = 0 := by rw [show (0 : Int64) = Int64.ofInt 0 from rfl, i64_eq hb (by omega)]; exact h0
  have e1 : toV (aL (Int.tmod a b)) = .long (Int64.ofInt a - Int64.ofInt a / Int64.ofInt b * Int64.ofInt b) := by
    show Value.long _ = _
    rw [← Int64.ofInt_tdiv (by simpa using ha.1) (by rw [i64_mx]; omega) (by simpa using hb.1) (by rw [i64_mx]; omega), ← Int64.ofInt_mul, ← Int64.ofInt_sub]
    congr 2
    have := Int.tmod_add_tdiv_mul a b
    omega
  exact lv_lrem F.1 F.2.1 hd hb0 (by rw [List.map_cons, e1] at k1; exact k1)
theorem x_dup {v : AV} (hv : (toV v).category = 1) (hd : decode (wc w) pc = .ok (.dup, 1))
    (k : X G w R E cn sn (pc + 1) L (v :: v :: st) M) : X G w R E cn sn pc L (v :: st) M := by
  intro p e s m args below meth cd H locs ls F hS hH hl
  exact lv_dup F.1 F.2.1 hd hv (k p e s m args below meth cd H locs ls F hS hH hl)
theorem x_pop {v : AV} (hv : (toV v).category = 1) (hd : decode (wc w) pc = .ok (.pop, 1))
    (k : X G w R E cn sn (pc + 1) L (st) M) : X G w R E cn sn pc L (v :: st) M := by
  intro p e s m args below meth cd H locs ls F hS hH hl
  exact lv_pop F.1 F.2.1 hd hv (k p e s m args below meth cd H locs ls F hS hH hl)
theorem x_dup_x1 {v u : AV} (hv : (toV v).category = 1) (hu : (toV u).category = 1) (hd : decode (wc w) pc = .ok (.dup_x1, 1))
    (k : X G w R E cn sn (pc + 1) L (v :: u :: v :: st) M) : X G w R E cn sn pc L (v :: u :: st) M := by
  intro p e s m args below meth cd H locs ls F hS hH hl
  exact lv_dup_x1 F.1 F.2.1 hd hv hu (k p e s m args below meth cd H locs ls F hS hH hl)
theorem x_dup2 {v u : AV} (hv : (toV v).category = 1) (hu : (toV u).category = 1) (hd : decode (wc w) pc = .ok (.dup2, 1))
    (k : X G w R E cn sn (pc + 1) L (v :: u :: v :: u :: st) M) : X G w R E cn sn pc L (v :: u :: st) M := by
  intro p e s m args below meth cd H locs ls F hS hH hl
  exact lv_dup2_11 F.1 F.2.1 hd hv hu (k p e s m args below meth cd H locs ls F hS hH hl)
theorem x_if_eq {a off : Int} {tgt : Nat} (ha : -2147483648 ≤ a ∧ a < 2147483648) (hd : decode (wc w) pc = .ok (.ifCond .eq off, 3)) (ht : (pc : Int) + off = (tgt : Int))
    (kt : a = 0 → X G w R E cn sn tgt L st M) (kf : a ≠ 0 → X G w R E cn sn (pc + 3) L st M) : X G w R E cn sn pc L (aI a :: st) M := by
  intro p e s m args below meth cd H locs ls F hS hH hl
  have hz : -2147483648 ≤ (0 : Int) ∧ (0 : Int) < 2147483648 := by omega
  have E1 := i32_eq ha hz
  exact lv_if_eq F.1 F.2.1 hd ht (fun q => kt (by rw [i32_0] at q; exact E1.mp q) p e s m args below meth cd H locs ls F hS hH hl) (fun q => kf (fun z => q (by rw [i32_0]; exact E1.mpr z)) p e s m args below meth cd H locs ls F hS hH hl)
theorem x_if_ne {a off : Int} {tgt : Nat} (ha : -2147483648 ≤ a ∧ a < 2147483648) (hd : decode (wc w) pc = .ok (.ifCond .ne off, 3)) (ht : (pc : Int) + off = (tgt : Int))
    (kt : a ≠ 0 → X G w R E cn sn tgt L st M) (kf : a = 0 → X G w R E cn sn (pc + 3) L st M) : X G w R E cn sn pc L (aI a :: st) M := by
  intro p e s m args below meth cd H locs ls F hS hH hl
  have hz : -2147483648 ≤ (0 : Int) ∧ (0 : Int) < 2147483648 := by omega
  have E1 := i32_eq ha hz
  exact lv_if_ne F.1 F.2.1 hd ht (fun q => kt (fun z => q (by rw [i32_0]; exact E1.mpr z)) p e s m args below meth cd H locs ls F hS hH hl) (fun q => kf (by rw [i32_0] at q; exact E1.mp q) p e s m args below meth cd H locs ls F hS hH hl)
theorem x_if_lt {a off : Int} {tgt : Nat} (ha : -2147483648 ≤ a ∧ a < 2147483648) (hd : decode (wc w) pc = .ok (.ifCond .lt off, 3)) (ht : (pc : Int) + off = (tgt : Int))
    (kt : a < 0 → X G w R E cn sn tgt L st M) (kf : 0 ≤ a → X G w R E cn sn (pc + 3) L st M) : X G w R E cn sn pc L (aI a :: st) M := by
  intro p e s m args below meth cd H locs ls F hS hH hl
  have hz : -2147483648 ≤ (0 : Int) ∧ (0 : Int) < 2147483648 := by omega
  have E1 := i32_lt ha hz
  exact lv_if_lt F.1 F.2.1 hd ht (fun q => kt (by rw [i32_0] at q; exact E1.mp q) p e s m args below meth cd H locs ls F hS hH hl) (fun q => kf (Int.not_lt.mp (fun z => q (by rw [i32_0]; exact E1.mpr z))) p e s m args below meth cd H locs ls F hS hH hl)
theorem x_if_ge {a off : Int} {tgt : Nat} (ha : -2147483648 ≤ a ∧ a < 2147483648) (hd : decode (wc w) pc = .ok (.ifCond .ge off, 3)) (ht : (pc : Int) + off = (tgt : Int))
    (kt : 0 ≤ a → X G w R E cn sn tgt L st M) (kf : a < 0 → X G w R E cn sn (pc + 3) L st M) : X G w R E cn sn pc L (aI a :: st) M := by
  intro p e s m args below meth cd H locs ls F hS hH hl
  have hz : -2147483648 ≤ (0 : Int) ∧ (0 : Int) < 2147483648 := by omega
  have E1 := i32_le hz ha
  exact lv_if_ge F.1 F.2.1 hd ht (fun q => kt (by rw [i32_0] at q; exact E1.mp q) p e s m args below meth cd H locs ls F hS hH hl) (fun q => kf (Int.not_le.mp (fun z => q (by rw [i32_0]; exact E1.mpr z))) p e s m args below meth cd H locs ls F hS hH hl)
theorem x_if_gt {a off : Int} {tgt : Nat} (ha : -2147483648 ≤ a ∧ a < 2147483648) (hd : decode (wc w) pc = .ok (.ifCond .gt off, 3)) (ht : (pc : Int) + off = (tgt : Int))
    (kt : 0 < a → X G w R E cn sn tgt L st M) (kf : a ≤ 0 → X G w R E cn sn (pc + 3) L st M) : X G w R E cn sn pc L (aI a :: st) M := by
  intro p e s m args below meth cd H locs ls F hS hH hl
  have hz : -2147483648 ≤ (0 : Int) ∧ (0 : Int) < 2147483648 := by omega
  have E1 := i32_lt hz ha
  exact lv_if_gt F.1 F.2.1 hd ht (fun q => kt (by rw [i32_0] at q; exact E1.mp q) p e s m args below meth cd H locs ls F hS hH hl) (fun q => kf (Int.not_lt.mp (fun z => q (by rw [i32_0]; exact E1.mpr z))) p e s m args below meth cd H locs ls F hS hH hl)
theorem x_if_le {a off : Int} {tgt : Nat} (ha : -2147483648 ≤ a ∧ a < 2147483648) (hd : decode (wc w) pc = .ok (.ifCond .le off, 3)) (ht : (pc : Int) + off = (tgt : Int))
    (kt : a ≤ 0 → X G w R E cn sn tgt L st M) (kf : 0 < a → X G w R E cn sn (pc + 3) L st M) : X G w R E cn sn pc L (aI a :: st) M := by
  intro p e s m args below meth cd H locs ls F hS hH hl
  have hz : -2147483648 ≤ (0 : Int) ∧ (0 : Int) < 2147483648 := by omega
  have E1 := i32_le ha hz
  exact lv_if_le F.1 F.2.1 hd ht (fun q => kt (by rw [i32_0] at q; exact E1.mp q) p e s m args below meth cd H locs ls F hS hH hl) (fun q => kf (Int.not_le.mp (fun z => q (by rw [i32_0]; exact E1.mpr z))) p e s m args below meth cd H locs ls F hS hH hl)
theorem x_icmp_eq {a b off : Int} {tgt : Nat} (ha : -2147483648 ≤ a ∧ a < 2147483648) (hb : -2147483648 ≤ b ∧ b < 2147483648) (hd : decode (wc w) pc = .ok (.if_icmp .eq off, 3)) (ht : (pc : Int) + off = (tgt : Int))
    (kt : a = b → X G w R E cn sn tgt L st M) (kf : a ≠ b → X G w R E cn sn (pc + 3) L st M) : X G w R E cn sn pc L (aI b :: aI a :: st) M := by
  intro p e s m args below meth cd H locs ls F hS hH hl
  have E1 := i32_eq ha hb
  exact lv_icmp_eq F.1 F.2.1 hd ht (fun q => kt (E1.mp q) p e s m args below meth cd H locs ls F hS hH hl) (fun q => kf (fun z => q (E1.mpr z)) p e s m args below meth cd H locs ls F hS hH hl)
theorem x_icmp_ne {a b off : Int} {tgt : Nat} (ha : -2147483648 ≤ a ∧ a < 2147483648) (hb : -2147483648 ≤ b ∧ b < 2147483648) (hd : decode (wc w) pc = .ok (.if_icmp .ne off, 3)) (ht : (pc : Int) + off = (tgt : Int))
    (kt : a ≠ b → X G w R E cn sn tgt L st M) (kf : a = b → X G w R E cn sn (pc + 3) L st M) : X G w R E cn sn pc L (aI b :: aI a :: st) M := by
  intro p e s m args below meth cd H locs ls F hS hH hl
  have E1 := i32_eq ha hb
  exact lv_icmp_ne F.1 F.2.1 hd ht (fun q => kt (fun z => q (E1.mpr z)) p e s m args below meth cd H locs ls F hS hH hl) (fun q => kf (E1.mp q) p e s m args below meth cd H locs ls F hS hH hl)
theorem x_icmp_lt {a b off : Int} {tgt : Nat} (ha : -2147483648 ≤ a ∧ a < 2147483648) (hb : -2147483648 ≤ b ∧ b < 2147483648) (hd : decode (wc w) pc = .ok (.if_icmp .lt off, 3)) (ht : (pc : Int) + off = (tgt : Int))
    (kt : a < b → X G w R E cn sn tgt L st M) (kf : b ≤ a → X G w R E cn sn (pc + 3) L st M) : X G w R E cn sn pc L (aI b :: aI a :: st) M := by
  intro p e s m args below meth cd H locs ls F hS hH hl
  have E1 := i32_lt ha hb
  exact lv_icmp_lt F.1 F.2.1 hd ht (fun q => kt (E1.mp q) p e s m args below meth cd H locs ls F hS hH hl) (fun q => kf (Int.not_lt.mp (fun z => q (E1.mpr z))) p e s m args below meth cd H locs ls F hS hH hl)
theorem x_icmp_ge {a b off : Int} {tgt : Nat} (ha : -2147483648 ≤ a ∧ a < 2147483648) (hb : -2147483648 ≤ b ∧ b < 2147483648) (hd : decode (wc w) pc = .ok (.if_icmp .ge off, 3)) (ht : (pc : Int) + off = (tgt : Int))
    (kt : b ≤ a → X G w R E cn sn tgt L st M) (kf : a < b → X G w R E cn sn (pc + 3) L st M) : X G w R E cn sn pc L (aI b :: aI a :: st) M := by
  intro p e s m args below meth cd H locs ls F hS hH hl
  have E1 := i32_le hb ha
  exact lv_icmp_ge F.1 F.2.1 hd ht (fun q => kt (E1.mp q) p e s m args below meth cd H locs ls F hS hH hl) (fun q => kf (Int.not_le.mp (fun z => q (E1.mpr z))) p e s m args below meth cd H locs ls F hS hH hl)
theorem x_icmp_gt {a b off : Int} {tgt : Nat} (ha : -2147483648 ≤ a ∧ a < 2147483648) (hb : -2147483648 ≤ b ∧ b < 2147483648) (hd : decode (wc w) pc = .ok (.if_icmp .gt off, 3)) (ht : (pc : Int) + off = (tgt : Int))
    (kt : b < a → X G w R E cn sn tgt L st M) (kf : a ≤ b → X G w R E cn sn (pc + 3) L st M) : X G w R E cn sn pc L (aI b :: aI a :: st) M := by
  intro p e s m args below meth cd H locs ls F hS hH hl
  have E1 := i32_lt hb ha
  exact lv_icmp_gt F.1 F.2.1 hd ht (fun q => kt (E1.mp q) p e s m args below meth cd H locs ls F hS hH hl) (fun q => kf (Int.not_lt.mp (fun z => q (E1.mpr z))) p e s m args below meth cd H locs ls F hS hH hl)
theorem x_icmp_le {a b off : Int} {tgt : Nat} (ha : -2147483648 ≤ a ∧ a < 2147483648) (hb : -2147483648 ≤ b ∧ b < 2147483648) (hd : decode (wc w) pc = .ok (.if_icmp .le off, 3)) (ht : (pc : Int) + off = (tgt : Int))
    (kt : a ≤ b → X G w R E cn sn tgt L st M) (kf : b < a → X G w R E cn sn (pc + 3) L st M) : X G w R E cn sn pc L (aI b :: aI a :: st) M := by
  intro p e s m args below meth cd H locs ls F hS hH hl
  have E1 := i32_le ha hb
  exact lv_icmp_le F.1 F.2.1 hd ht (fun q => kt (E1.mp q) p e s m args below meth cd H locs ls F hS hH hl) (fun q => kf (Int.not_le.mp (fun z => q (E1.mpr z))) p e s m args below meth cd H locs ls F hS hH hl)
/-- two ints that are the same number: no range is asked -/
theorem x_icmp_ne_same {a off : Int} (tgt : Nat) (hd : decode (wc w) pc = .ok (.if_icmp .ne off, 3)) (ht : (pc : Int) + off = (tgt : Int))
    (kf : X G w R E cn sn (pc + 3) L st M) : X G w R E cn sn pc L (aI a :: aI a :: st) M := by
  intro p e s m args below meth cd H locs ls F hS hH hl
  exact lv_icmp_ne F.1 F.2.1 hd ht (fun q => absurd rfl q) (fun _ => kf p e s m args below meth cd H locs ls F hS hH hl)
theorem x_icmp_eq_same {a off : Int} {tgt : Nat} (hd : decode (wc w) pc = .ok (.if_icmp .eq off, 3)) (ht : (pc : Int) + off = (tgt : Int))
    (kt : X G w R E cn sn tgt L st M) : X G w R E cn sn pc L (aI a :: aI a :: st) M := by
  intro p e s m args below meth cd H locs ls F hS hH hl
  exact lv_icmp_eq F.1 F.2.1 hd ht (fun _ => kt p e s m args below meth cd H locs ls F hS hH hl) (fun q => absurd rfl q)
theorem x_acmp_eq {rx ry : Option Nat} {off : Int} {tgt : Nat} (hd : decode (wc w) pc = .ok (.if_acmp .eq off, 3)) (ht : (pc : Int) + off = (tgt : Int))
    (kt : rx = ry → X G w R E cn sn tgt L st M) (kf : rx ≠ ry → X G w R E cn sn (pc + 3) L st M) : X G w R E cn sn pc L (aR ry :: aR rx :: st) M := by
  intro p e s m args below meth cd H locs ls F hS hH hl
  exact lv_acmp_eq F.1 F.2.1 hd ht (fun q => kt q p e s m args below meth cd H locs ls F hS hH hl) (fun q => kf q p e s m args below meth cd H locs ls F hS hH hl)
theorem x_acmp_ne {rx ry : Option Nat} {off : Int} {tgt : Nat} (hd : decode (wc w) pc = .ok (.if_acmp .ne off, 3)) (ht : (pc : Int) + off = (tgt : Int))
    (kt : rx ≠ ry → X G w R E cn sn tgt L st M) (kf : rx = ry → X G w R E cn sn (pc + 3) L st M) : X G w R E cn sn pc L (aR ry :: aR rx :: st) M := by
  intro p e s m args below meth cd H locs ls F hS hH hl
  exact lv_acmp_ne F.1 F.2.1 hd ht (fun q => kt q p e s m args below meth cd H locs ls F hS hH hl) (fun q => kf q p e s m args below meth cd H locs ls F hS hH hl)
theorem x_goto {off : Int} {tgt : Nat} (hd : decode (wc w) pc = .ok (.goto off, 3)) (ht : (pc : Int) + off = (tgt : Int))
    (k : X G w R E cn sn tgt L st M) : X G w R E cn sn pc L st M := by
  intro p e s m args below meth cd H locs ls F hS hH hl
  exact lv_goto F.1 F.2.1 hd ht (k p e s m args below meth cd H locs ls F hS hH hl)
theorem x_ifnull {r : Option Nat} {off : Int} {tgt : Nat} (hd : decode (wc w) pc = .ok (.ifnull off, 3)) (ht : (pc : Int) + off = (tgt : Int))
    (kt : r = none → X G w R E cn sn tgt L st M) (kf : ∀ a, r = some a → X G w R E cn sn (pc + 3) L st M) : X G w R E cn sn pc L (aR r :: st) M := by
  intro p e s m args below meth cd H locs ls F hS hH hl
  cases r with
  | none => exact lv_ifnullN F.1 F.2.1 hd ht (kt rfl p e s m args below meth cd H locs ls F hS hH hl)
  | some a => exact lv_ifnull F.1 F.2.1 hd (kf a rfl p e s m args below meth cd H locs ls F hS hH hl)
theorem x_ifnonnull {r : Option Nat} {off : Int} {tgt : Nat} (hd : decode (wc w) pc = .ok (.ifnonnull off, 3)) (ht : (pc : Int) + off = (tgt : Int))
    (kt : ∀ a, r = some a → X G w R E cn sn tgt L st M) (kf : r = none → X G w R E cn sn (pc + 3) L st M) : X G w R E cn sn pc L (aR r :: st) M := by
  intro p e s m args below meth cd H locs ls F hS hH hl
  cases r with
  | none => exact lv_ifnonnullN F.1 F.2.1 hd (kf rfl p e s m args below meth cd H locs ls F hS hH hl)
  | some a => exact lv_ifnonnull F.1 F.2.1 hd ht (kt a rfl p e s m args below meth cd H locs ls F hS hH hl)
theorem x_lcmp {a b : Int} (ha : -9223372036854775808 ≤ a ∧ a < 9223372036854775808) (hb : -9223372036854775808 ≤ b ∧ b < 9223372036854775808) (hd : decode (wc w) pc = .ok (.lcmp, 1))
    (k : ∀ v : Int, (v = 1 ∧ b < a) ∨ (v = 0 ∧ a = b) ∨ (v = -1 ∧ a < b) → X G w R E cn sn (pc + 1) L (aI v :: st) M) : X G w R E cn sn pc L (aL b :: aL a :: st) M := by
  intro p e s m args below meth cd H locs ls F hS hH hl
  refine W.lcmp F.1 F.2.1 hd ?_
  unfold lg_cmp
  by_cases h1 : b < a
  · rw [if_pos ((i64_lt hb ha).mpr h1)]
    exact k 1 (Or.inl ⟨rfl, h1⟩) p e s m args below meth cd H locs ls F hS hH hl
  · rw [if_neg (fun q => h1 ((i64_lt hb ha).mp q))]
    by_cases h2 : a = b
    · rw [if_pos ((i64_eq ha hb).mpr h2)]
      exact k 0 (Or.inr (Or.inl ⟨rfl, h2⟩)) p e s m args below meth cd H locs ls F hS hH hl
    · rw [if_neg (fun q => h2 ((i64_eq ha hb).mp q))]
      exact k (-1) (Or.inr (Or.inr ⟨rfl, by omega⟩)) p e s m args below meth cd H locs ls F hS hH hl
theorem x_lcmp_same {a : Int} (hd : decode (wc w) pc = .ok (.lcmp, 1))
    (k : X G w R E cn sn (pc + 1) L (aI 0 :: st) M) : X G w R E cn sn pc L (aL a :: aL a :: st) M := by
  intro p e s m args below meth cd H locs ls F hS hH hl
  refine W.lcmp F.1 F.2.1 hd ?_
  have h : lg_cmp (Int64.ofInt a) (Int64.ofInt a) = 0 := by
    unfold lg_cmp
    rw [if_neg (by rw [gt_iff_lt, Int64.lt_iff_toInt_lt]; omega), if_pos rfl]
  rw [h]
  exact k p e s m args below meth cd H locs ls F hS hH hl
theorem x_ldcI {i : Nat} {v : Int} {v' : Int32} (hw : Cond.constant (wy w).cls i v' ∈ lw_all) (hv : v' = Int32.ofInt v) (hd : decode (wc w) pc = .ok (.ldc i, 2))
    (k : X G w R E cn sn (pc + 2) L (aI v :: st) M) : X G w R E cn sn pc L st M := by
  intro p e s m args below meth cd H locs ls F hS hH hl
  subst hv
  exact lv_ldc F.1 F.2.1 F.2.2.2.2.2.1 (F.2.2.2.2.2.2.2.1 _ hw) hd (k p e s m args below meth cd H locs ls F hS hH hl)
theorem x_ldcwI {i : Nat} {v : Int} {v' : Int32} (hw : Cond.constant (wy w).cls i v' ∈ lw_all) (hv : v' = Int32.ofInt v) (hd : decode (wc w) pc = .ok (.ldc_w i, 3))
    (k : X G w R E cn sn (pc + 3) L (aI v :: st) M) : X G w R E cn sn pc L st M := by
  intro p e s m args below meth cd H locs ls F hS hH hl
  subst hv
  exact lv_ldcw F.1 F.2.1 F.2.2.2.2.2.1 (F.2.2.2.2.2.2.2.1 _ hw) hd (k p e s m args below meth cd H locs ls F hS hH hl)
theorem x_ldc2 {i : Nat} {v : Int} {v' : Int64} (hw : Cond.constantLong (wy w).cls i v' ∈ lw_all) (hv : v' = Int64.ofInt v) (hd : decode (wc w) pc = .ok (.ldc2_w i, 3))
    (k : X G w R E cn sn (pc + 3) L (aL v :: st) M) : X G w R E cn sn pc L st M := by
  intro p e s m args below meth cd H locs ls F hS hH hl
  subst hv
  exact lv_ldc2 F.1 F.2.1 F.2.2.2.2.2.1 (F.2.2.2.2.2.2.2.1 _ hw) hd (k p e s m args below meth cd H locs ls F hS hH hl)
theorem x_objInit {i a : Nat} (hw : Cond.methodLink (wy w).cls i Lib.objectInit ∈ lw_all) (hf : 1 ≤ R.frames) (hlo : 64 ≤ R.locals) (hst : (st.map fun v => (toV v).category).sum ≤ 8) (hd : decode (wc w) pc = .ok (.invokespecial i, 3))
    (k : X G w R E cn sn (pc + 3) L st M) : X G w R E cn sn pc L (aR (some a) :: st) M := by
  intro p e s m args below meth cd H locs ls F hS hH hl
  refine W.objInit F.1 F.2.1 F.2.2.2.2.2.1 (F.2.2.2.2.2.2.2.1 _ hw) (F.2.2.2.2.2.2.2.1 _ qObjI) (F.2.2.2.2.2.2.2.1 _ qObjC) rfl (by rw [F.2.2.1]; exact hl.1) (a := a) rfl hd hf ?_ ?_
  · have e1 : ((st.map toV).map fun v => v.category) = st.map fun v => (toV v).category := by rw [List.map_map]; rfl
    show 2 * 0 + _ + 12 ≤ _
    rw [e1]
    omega
  · exact k p e s m args below meth cd H locs ls F hS hH hl

end XR
