/-! jdk.internal.misc.Unsafe: long and int out of a new byte array -/
set_option maxRecDepth 100000
/-- bytes, the lowest first, as one number -/
def pk (b : Nat → Nat) : Nat → Nat → Nat
  | _, 0 => 0
  | p, n + 1 => b p + 256 * pk b (p + 1) n
theorem pk_0 (b : Nat → Nat) (p : Nat) : pk b p 0 = 0 := rfl
theorem pk_s (b : Nat → Nat) (p n : Nat) : pk b p (n + 1) = b p + 256 * pk b (p + 1) n := rfl
def pkl : List Nat → Nat
  | [] => 0
  | a :: l => a + 256 * pkl l
theorem pkl_c (a : Nat) (l : List Nat) : pkl (a :: l) = a + 256 * pkl l := rfl
theorem zsum (l : List Nat) (k : Nat) : ((l.zipIdx k).map fun x => x.1 * 2 ^ (8 * x.2)).sum = 2 ^ (8 * k) * pkl l := by
  induction l generalizing k with
  | nil => rfl
  | cons a l ih =>
    rw [List.zipIdx_cons, List.map_cons, List.sum_cons, ih, pkl_c]
    show a * 2 ^ (8 * k) + 2 ^ (8 * (k + 1)) * pkl l = _
    rw [show 8 * (k + 1) = 8 * k + 8 from by omega, Nat.pow_add, Nat.mul_add, Nat.mul_comm a, Nat.mul_assoc, show (2 : Nat) ^ 8 = 256 from rfl]
theorem pk_l (b : Nat → Nat) (p n : Nat) : pk b p n = pkl ((List.range n).map fun j => b (p + j)) := by
  induction n generalizing p with
  | zero => rfl
  | succ n ih =>
    rw [pk_s, ih, List.range_succ_eq_map, List.map_cons, pkl_c, List.map_map]
    have : (fun j => b (p + 1 + j)) = ((fun j => b (p + j)) ∘ Nat.succ) := by
      funext j
      show b (p + 1 + j) = b (p + (j + 1))
      congr 1
      omega
    rw [this]
    rfl
abbrev yGL : MethodName := ⟨"jdk/internal/misc/Unsafe", "getLong", "(Ljava/lang/Object;J)J"⟩
abbrev yGI : MethodName := ⟨"jdk/internal/misc/Unsafe", "getInt", "(Ljava/lang/Object;J)I"⟩
theorem n_u64 (n : Nat) : n.toUInt64.toInt64 = Int64.ofInt (n : Int) := by
  apply Int64.toBitVec_inj.mp
  rw [o64]
  rfl
theorem n_u32 (n : Nat) : n.toUInt32.toInt32 = Int32.ofInt (n : Int) := by
  apply Int32.toBitVec_inj.mp
  rw [o32]
  rfl
set_option maxRecDepth 1000000 in
theorem nt_GL (p : Program) : NativeRow.find? p.tables.natives yGL.cls yGL.name yGL.desc = some (Native.jdk_internal_misc_Unsafe.memory.getRow "Long" "J" .long "" .plain) := by
  have h : NativeRow.find? Jvm.natives "jdk/internal/misc/Unsafe" "getLong" "(Ljava/lang/Object;J)J" = some (Native.jdk_internal_misc_Unsafe.memory.getRow "Long" "J" .long "" .plain) := rfl
  cases p <;> exact h
set_option maxRecDepth 1000000 in
theorem nt_GI (p : Program) : NativeRow.find? p.tables.natives yGI.cls yGI.name yGI.desc = some (Native.jdk_internal_misc_Unsafe.memory.getRow "Int" "I" .int "" .plain) := by
  have h : NativeRow.find? Jvm.natives "jdk/internal/misc/Unsafe" "getInt" "(Ljava/lang/Object;J)I" = some (Native.jdk_internal_misc_Unsafe.memory.getRow "Int" "I" .int "" .plain) := rfl
  cases p <;> exact h
theorem pc_GL : parseMethodDescriptor yGL.desc = some { parameters := [.object "java/lang/Object", .long], returnType := some .long } := by decide +kernel
theorem pc_GI : parseMethodDescriptor yGI.desc = some { parameters := [.object "java/lang/Object", .long], returnType := some .int } := by decide +kernel
section WU
variable {E : CtlPost} {e : Env} {d : Bool} {acts : List Action} {s : State}
theorem wu_loc {want : FieldType} {a : Addr} {A : Cell} {k : Class} {comp : ClassId} {p : Nat} {off : Int64} {Q : UnsafeMem.Target → Pre}
    (hA : s.heap[a]? = some A) (hvm : A.vm = .none) (hk : s.vm.classes[A.cls]? = some k) (hkind : k.kind = .array comp .byte) (hneg : ¬ off < 0) (hoff : off.toNatClampNeg = 16 + p)
    (hw : want = .long ∨ want = .int) : (UnsafeMem.locate (.ref a) off want).wp Q E e d acts s ↔ Q (UnsafeMem.Target.bytes a .byte p) d acts s := by
  rcases hw with rfl | rfl <;> simp [UnsafeMem.locate, hneg, hoff, hA, Cell.info, hvm, hk, hkind, UnsafeMem.arrayBase, UnsafeMem.scaleOf, UnsafeMem.isRefType]
theorem wu_byte {a : Addr} {A : Cell} {i : Nat} {x : Int32} {Q : Nat → Pre} (hA : s.heap[a]? = some A) (hvm : A.vm = .none) (h : A.slots[i]? = some (.int x)) :
    (UnsafeMem.readByte a .byte i .plain).wp Q E e d acts s ↔ Q (x.toUInt32.toNat % 256) d (readActs ⟨a, i⟩ .plain (.int x) acts) s := by
  simp [UnsafeMem.readByte, UnsafeMem.scaleOf, UnsafeMem.bitsOf, hA, hvm, h, Nat.mod_one]
theorem wu_getL {a : Addr} {A : Cell} {k : Class} {comp : ClassId} {p : Nat} {off : Int64} {b : Nat → Nat} {Q : Value → Pre}
    (hA : s.heap[a]? = some A) (hvm : A.vm = .none) (hk : s.vm.classes[A.cls]? = some k) (hkind : k.kind = .array comp .byte) (hneg : ¬ off < 0) (hoff : off.toNatClampNeg = 16 + p)
    (hb : ∀ j, j < 8 → ∃ x : Int32, A.slots[p + j]? = some (.int x) ∧ x.toUInt32.toNat % 256 = b (p + j))
    (hQ : ∀ d' acts', Q (.long (Int64.ofInt ((pk b p 8 : Nat) : Int))) d' acts' s) : (UnsafeMem.get .long (.ref a) off .plain).wp Q E e d acts s := by
  obtain ⟨x0, h0, e0⟩ := hb 0 (by omega)
  obtain ⟨x1, h1, e1⟩ := hb 1 (by omega)
  obtain ⟨x2, h2, e2⟩ := hb 2 (by omega)
  obtain ⟨x3, h3, e3⟩ := hb 3 (by omega)
  obtain ⟨x4, h4, e4⟩ := hb 4 (by omega)
  obtain ⟨x5, h5, e5⟩ := hb 5 (by omega)
  obtain ⟨x6, h6, e6⟩ := hb 6 (by omega)
  obtain ⟨x7, h7, e7⟩ := hb 7 (by omega)
  have hr : List.range (UnsafeMem.scaleOf .long) = [0, 1, 2, 3, 4, 5, 6, 7] := rfl
  simp only [UnsafeMem.get, wp_bind', wu_loc hA hvm hk hkind hneg hoff (Or.inl rfl), hr, List.mapM, List.mapM.loop, wu_byte hA hvm h0, wu_byte hA hvm h1, wu_byte hA hvm h2, wu_byte hA hvm h3, wu_byte hA hvm h4, wu_byte hA hvm h5, wu_byte hA hvm h6, wu_byte hA hvm h7, wp_pure', e0, e1, e2, e3, e4, e5, e6, e7]
  have hv : UnsafeMem.ofBits .long ((([b (p + 7), b (p + 6), b (p + 5), b (p + 4), b (p + 3), b (p + 2), b (p + 1), b (p + 0)].reverse).zipIdx.map fun x => x.1 * 2 ^ (8 * x.2)).sum) = .long (Int64.ofInt ((pk b p 8 : Nat) : Int)) := by
    rw [← n_u64, zsum, pk_l b p 8]
    show Value.long _ = Value.long _
    rw [Nat.mul_zero, Nat.pow_zero, Nat.one_mul]
    rfl
  rw [hv]
  exact hQ _ _
theorem wu_getI {a : Addr} {A : Cell} {k : Class} {comp : ClassId} {p : Nat} {off : Int64} {b : Nat → Nat} {Q : Value → Pre}
    (hA : s.heap[a]? = some A) (hvm : A.vm = .none) (hk : s.vm.classes[A.cls]? = some k) (hkind : k.kind = .array comp .byte) (hneg : ¬ off < 0) (hoff : off.toNatClampNeg = 16 + p)
    (hb : ∀ j, j < 4 → ∃ x : Int32, A.slots[p + j]? = some (.int x) ∧ x.toUInt32.toNat % 256 = b (p + j))
    (hQ : ∀ d' acts', Q (.int (Int32.ofInt ((pk b p 4 : Nat) : Int))) d' acts' s) : (UnsafeMem.get .int (.ref a) off .plain).wp Q E e d acts s := by
  obtain ⟨x0, h0, e0⟩ := hb 0 (by omega)
  obtain ⟨x1, h1, e1⟩ := hb 1 (by omega)
  obtain ⟨x2, h2, e2⟩ := hb 2 (by omega)
  obtain ⟨x3, h3, e3⟩ := hb 3 (by omega)
  have hr : List.range (UnsafeMem.scaleOf .int) = [0, 1, 2, 3] := rfl
  simp only [UnsafeMem.get, wp_bind', wu_loc hA hvm hk hkind hneg hoff (Or.inr rfl), hr, List.mapM, List.mapM.loop, wu_byte hA hvm h0, wu_byte hA hvm h1, wu_byte hA hvm h2, wu_byte hA hvm h3, wp_pure', e0, e1, e2, e3]
  have hv : UnsafeMem.ofBits .int ((([b (p + 3), b (p + 2), b (p + 1), b (p + 0)].reverse).zipIdx.map fun x => x.1 * 2 ^ (8 * x.2)).sum) = .int (Int32.ofInt ((pk b p 4 : Nat) : Int)) := by
    rw [← n_u32, zsum, pk_l b p 4]
    show Value.int _ = Value.int _
    rw [Nat.mul_zero, Nat.pow_zero, Nat.one_mul]
    rfl
  rw [hv]
  exact hQ _ _
end WU
section XU
variable {G : GG} {w : MI} {R : Room} {E : XE} {cn sn pc : Nat} {L : List (Option AV)} {st : List AV} {M : Mem}
/-- what the machine's array holds -/
theorem wu_arr {G : GG} {M : Mem} {s : State} {H : Heap} {a n : Nat} {f : Nat → Int} (hG : gOK G) (hW : gW G s) (hH : gH G M H) (hM : mG M a = some (cY n f)) :
    ∃ (A : Cell) (k : Class) (comp : ClassId), H[a]? = some A ∧ A.vm = .none ∧ s.vm.classes[A.cls]? = some k ∧ k.kind = .array comp .byte ∧ ∀ j, j < n → A.slots[j]? = some (.int (Int32.ofInt (f j))) := by
  have h1 := (hH.2.2 a _ hM).2
  obtain ⟨-, k, h2, comp, h3⟩ := (hG.arr hW (k := 2) (by decide)) n (fun j => .int (Int32.ofInt (f j)))
  exact ⟨_, k, comp, h1, rfl, h2, h3, fun j hj => arrV_read _ _ hj⟩
theorem wu_ub (b : Nat) (h : b < 256) : (Int32.ofInt (b : Int)).toUInt32.toNat % 256 = b := by
  have h1 : (Int32.ofInt (b : Int)).toUInt32.toNat = (Int32.ofInt (b : Int)).toBitVec.toNat := rfl
  rw [h1, o32, BitVec.toNat_ofNat]
  omega
theorem wu_off (p : Nat) (h : p < 1000000) : ¬ Int64.ofInt (16 + (p : Int)) < 0 ∧ (Int64.ofInt (16 + (p : Int))).toNatClampNeg = 16 + p := by
  have h1 : (Int64.ofInt (16 + (p : Int))).toInt = 16 + (p : Int) := i64_toInt ⟨by omega, by omega⟩
  refine ⟨?_, ?_⟩
  · rw [Int64.lt_iff_toInt_lt, h1]
    show ¬ (16 + (p : Int)) < 0
    omega
  · rw [Int64.toNatClampNeg, h1]
    omega
theorem wu_decl {x : MethodName} {args : Array Value} {s : State} (hn : (Cond.native x).before args s = true) (hi : (Cond.instanceMethod x).before args s = true) : (Cond.declares x).before args s = true := by
  obtain ⟨m, meth, h1, h2, -, -, -, h3⟩ := Cond.native_spec hn
  obtain ⟨m', meth', h4, h5, h6, -⟩ := Cond.instanceMethod_spec hi
  cases h1.symm.trans h4
  cases h2.symm.trans h5
  simp [Cond.before, Cond.holds, Cond.value, h1, h2, h3, h6]
theorem x_uGetL {i u a n : Nat} {f : Nat → Int} {off : Int} (p : Nat) (b : Nat → Nat) (hcls : (wy w).cls = "jdk/internal/misc/Unsafe") (hlink : Cond.methodLink (wy w).cls i yGL ∈ lw_all) (hu : gO G "jdk/internal/misc/Unsafe" u) (hM : mG M a = some (cY n f))
    (hb : ∀ j, j < 8 → f (p + j) = (b (p + j) : Int) ∧ b (p + j) < 256) (hp : p + 8 ≤ n) (hn : n < 1000000) (hoff : off = 16 + (p : Int)) (hst : Nat.ble (st.map aCt).sum 8 = true) (hfr : 1 ≤ R.frames ∧ 64 ≤ R.locals) (hd : decode (wc w) pc = .ok (.invokevirtual i, 3))
    (kk : X G w R E cn sn (pc + 3) L (aL (pk b p 8 : Nat) :: st) M) : X G w R E cn sn pc L (aL off :: aR (some a) :: aR (some u) :: st) M := by
  intro pr e s m args below meth cd H locs ls F hS hH hl
  have hts : ∀ q ∈ lw_all, q.before args s = true := F.2.2.2.2.2.2.2.1
  have hG := F.2.2.2.2.2.2.2.2.1
  have hW := F.2.2.2.2.2.2.2.2.2.1
  have hcat := tv_cat st hst
  subst hoff
  obtain ⟨o1, o2⟩ := wu_off p (by omega)
  obtain ⟨cu, hu1, hu2, hu3⟩ := rc_c (M := M) hu s H hG hW hH (hW.fr hS)
  have hnat := hts _ q459
  have hins := hts _ q457
  have hsel := hts _ q458
  have hdc := wu_decl hnat hins
  intro T hT XX
  have hown : s.vm.findClass "jdk/internal/misc/Unsafe" = some m.cls := by
    rw [← hcls]
    exact F.2.2.2.2.2.1
  obtain ⟨vm', X', stp⟩ := XX.virtualQ F.1 (own := "jdk/internal/misc/Unsafe") (C := "jdk/internal/misc/Unsafe") (index := i) (y := yGL) (z := yGL) hown (by rw [← hcls]; exact hts _ hlink) hdc (notFace_of_selects hsel) hsel hins (by decide) (G := Unit) (P := fun _ a0 U => a0 = #[.ref u, .ref a, .long (Int64.ofInt (16 + (p : Int)))] ∧ gH G M U.heap ∧ gW G U) (val := fun _ => some (.long (Int64.ofInt ((pk b p 8 : Nat) : Int))))
    (Back.of_nativeQ (G := Unit) (P := fun _ a0 U => a0 = #[.ref u, .ref a, .long (Int64.ofInt (16 + (p : Int)))] ∧ gH G M U.heap ∧ gW G U) (val := fun _ => some (.long (Int64.ofInt ((pk b p 8 : Nat) : Int)))) (words := 4) (W := 8) (nt_GL pr) (nativeInstance hnat hins pc_GL) hfr.1 (by rw [show nativeFrameWords yGL.cls yGL.name 4 = 6 from by decide +kernel]; omega)
      (fun g U a0 x _ hst hps hP => by
        obtain ⟨rfl, hH0, hW0⟩ := hP
        obtain ⟨A, k, comp, hA, hvm, hk, hkind, hsl⟩ := wu_arr hG hW0 hH0 hM
        refine ⟨rfl, by simp [seenByNative, hst, hps, narrow], fun fs Q hq => ?_⟩
        show (do let v ← UnsafeMem.get .long (.ref a) (Int64.ofInt (16 + (p : Int))) .plain; mark "nat.jdk_internal_misc_Unsafe.get"; Pure.pure (some v) : Sem (Option Value)).wp Q _ e false [] (U.setFrames fs)
        simp only [wp_bind']
        refine wu_getL (s := U.setFrames fs) (A := A) (k := k) (comp := comp) (p := p) (b := b) hA hvm hk hkind o1 o2 (fun j hj => ⟨_, hsl (p + j) (by omega), by rw [(hb j hj).1]; exact wu_ub _ (hb j hj).2⟩) fun d' acts' => ?_
        simp
        exact hq _ _))
    (b := u) hu3 ⟨cu, by rw [hT]; exact hu1, rfl, hu2⟩ (g := F0 m pc ls (.long (Int64.ofInt (16 + (p : Int))) :: .ref a :: .ref u :: st.map toV)) rfl (hl.1.trans F.2.2.1.symm) (argsL := [.ref a, .long (Int64.ofInt (16 + (p : Int)))]) (rest := st.map toV)
    (fun sig h => by rw [pc_GL] at h; cases h; rfl) rfl (by show 2 * 0 + _ ≤ 8; omega) (by rw [F.2.1]; exact hd) () (fun vm1 hvm => ⟨rfl, by show gH G M T.heap; rw [hT]; exact hH, hW.next hS hT hvm⟩)
  obtain ⟨t, a1, b1⟩ := kk pr e s m args below meth cd H locs ls F hS hH hl (T.setVm vm') hT X'
  exact ⟨t, stp t a1, b1⟩
theorem x_uGetI {i u a n : Nat} {f : Nat → Int} {off : Int} (p : Nat) (b : Nat → Nat) (hcls : (wy w).cls = "jdk/internal/misc/Unsafe") (hlink : Cond.methodLink (wy w).cls i yGI ∈ lw_all) (hu : gO G "jdk/internal/misc/Unsafe" u) (hM : mG M a = some (cY n f))
    (hb : ∀ j, j < 4 → f (p + j) = (b (p + j) : Int) ∧ b (p + j) < 256) (hp : p + 4 ≤ n) (hn : n < 1000000) (hoff : off = 16 + (p : Int)) (hst : Nat.ble (st.map aCt).sum 8 = true) (hfr : 1 ≤ R.frames ∧ 64 ≤ R.locals) (hd : decode (wc w) pc = .ok (.invokevirtual i, 3))
    (kk : X G w R E cn sn (pc + 3) L (aI (pk b p 4 : Nat) :: st) M) : X G w R E cn sn pc L (aL off :: aR (some a) :: aR (some u) :: st) M := by
  intro pr e s m args below meth cd H locs ls F hS hH hl
  have hts : ∀ q ∈ lw_all, q.before args s = true := F.2.2.2.2.2.2.2.1
  have hG := F.2.2.2.2.2.2.2.2.1
  have hW := F.2.2.2.2.2.2.2.2.2.1
  have hcat := tv_cat st hst
  subst hoff
  obtain ⟨o1, o2⟩ := wu_off p (by omega)
  obtain ⟨cu, hu1, hu2, hu3⟩ := rc_c (M := M) hu s H hG hW hH (hW.fr hS)
  have hnat := hts _ q464
  have hins := hts _ q462
  have hsel := hts _ q463
  have hdc := wu_decl hnat hins
  intro T hT XX
  have hown : s.vm.findClass "jdk/internal/misc/Unsafe" = some m.cls := by
    rw [← hcls]
    exact F.2.2.2.2.2.1
  obtain ⟨vm', X', stp⟩ := XX.virtualQ F.1 (own := "jdk/internal/misc/Unsafe") (C := "jdk/internal/misc/Unsafe") (index := i) (y := yGI) (z := yGI) hown (by rw [← hcls]; exact hts _ hlink) hdc (notFace_of_selects hsel) hsel hins (by decide) (G := Unit) (P := fun _ a0 U => a0 = #[.ref u, .ref a, .long (Int64.ofInt (16 + (p : Int)))] ∧ gH G M U.heap ∧ gW G U) (val := fun _ => some (.int (Int32.ofInt ((pk b p 4 : Nat) : Int))))
    (Back.of_nativeQ (G := Unit) (P := fun _ a0 U => a0 = #[.ref u, .ref a, .long (Int64.ofInt (16 + (p : Int)))] ∧ gH G M U.heap ∧ gW G U) (val := fun _ => some (.int (Int32.ofInt ((pk b p 4 : Nat) : Int)))) (words := 4) (W := 8) (nt_GI pr) (nativeInstance hnat hins pc_GI) hfr.1 (by rw [show nativeFrameWords yGI.cls yGI.name 4 = 6 from by decide +kernel]; omega)
      (fun g U a0 x _ hst hps hP => by
        obtain ⟨rfl, hH0, hW0⟩ := hP
        obtain ⟨A, k, comp, hA, hvm, hk, hkind, hsl⟩ := wu_arr hG hW0 hH0 hM
        refine ⟨rfl, by simp [seenByNative, hst, hps, narrow], fun fs Q hq => ?_⟩
        show (do let v ← UnsafeMem.get .int (.ref a) (Int64.ofInt (16 + (p : Int))) .plain; mark "nat.jdk_internal_misc_Unsafe.get"; Pure.pure (some v) : Sem (Option Value)).wp Q _ e false [] (U.setFrames fs)
        simp only [wp_bind']
        refine wu_getI (s := U.setFrames fs) (A := A) (k := k) (comp := comp) (p := p) (b := b) hA hvm hk hkind o1 o2 (fun j hj => ⟨_, hsl (p + j) (by omega), by rw [(hb j hj).1]; exact wu_ub _ (hb j hj).2⟩) fun d' acts' => ?_
        simp
        exact hq _ _))
    (b := u) hu3 ⟨cu, by rw [hT]; exact hu1, rfl, hu2⟩ (g := F0 m pc ls (.long (Int64.ofInt (16 + (p : Int))) :: .ref a :: .ref u :: st.map toV)) rfl (hl.1.trans F.2.2.1.symm) (argsL := [.ref a, .long (Int64.ofInt (16 + (p : Int)))]) (rest := st.map toV)
    (fun sig h => by rw [pc_GI] at h; cases h; rfl) rfl (by show 2 * 0 + _ ≤ 8; omega) (by rw [F.2.1]; exact hd) () (fun vm1 hvm => ⟨rfl, by show gH G M T.heap; rw [hT]; exact hH, hW.next hS hT hvm⟩)
  obtain ⟨t, a1, b1⟩ := kk pr e s m args below meth cd H locs ls F hS hH hl (T.setVm vm') hT X'
  exact ⟨t, stp t a1, b1⟩
end XU
/-- a contract of a method that no native stands in for -/
theorem Ct.mkF {G : GG} {w : MI} {args : List AV} {M : Mem} {h mc ms : Nat} {K : Out → Mem → Prop} (hy : plainFor (wy w) = true) (hh : wh w = []) (hn : (aArg args).length ≤ wn w)
    (k : X G w (rmO h mc ms) (mEnd G K mc ms) 0 0 0 (aEn args (wn w)) [] M) : Ct G w args M h mc ms K := by
  intro hG
  have hbody : ∀ p e s m args0 below meth c s₁, BodyLoose p (gl G) (wy w) (headSpec (ws_ (wy w) (wc w) (wn w) (wr w)) (rmO h mc ms)) (wc w) (wn w) (wr w) e s m args0 below meth c s₁ → c.maxLocals = wn w → (∀ x ∈ c.exceptionTable.toList, False) → cPre G args M args0 s →
      W p (gl G) e (headSpec (ws_ (wy w) (wc w) (wn w) (wr w)) (rmO h mc ms)).room s m args0 below meth c s.heap [] 0 0 (vx_MQ below (kQ G K) (kX G K) args0 s mc ms (gA G)) (entryFrame m args0 (wn w)) := by
    intro p e s m args0 below meth c s₁ B hml hex hv
    obtain ⟨rfl, hW, hH⟩ := hv
    have hts := atoms_spec B.pre
    have hts : ∀ q ∈ lw_all, q.before (args.map toV).toArray s = true := fun q h => hts q (List.mem_cons_of_mem _ h)
    rw [lg_entry_eq]
    have ht : c.exceptionTable.toList = tableOf (wh w) := by
      rw [hh]
      cases hc : c.exceptionTable.toList with
      | nil => rfl
      | cons a t => exact (hex a (by rw [hc]; exact List.mem_cons_self)).elim
    exact k p e s m _ below meth c s.heap [] _ ⟨B.exec, B.bytes, hml, B.returns, B.notSynchronized, findClass_of_methodNamed B.named, (name_of_methodNamed B.named B.method).1, hts, hG, hW, ht⟩ va_S.rf hH (aLH.en args hn)
  refine MetFree.of_bodySF (code := wc w) (maxLocals := wn w) (ret := wr w) hy ?_ ?_
  · intro args s m h hn
    obtain ⟨meth, c, h1, h2, h3, h4, h5, h6, -, -⟩ := Cond.code_spec hn (atoms_spec (ws := ws_ (wy w) (wc w) (wn w) (wr w)) h _ List.mem_cons_self)
    exact ⟨meth, c, h1, h2, h3, h4, h5, h6⟩
  · intro p e s m args0 below meth c s₁ B hml hP _
    have hh0 : s₁.heap = s.heap := by rw [B.state]; rfl
    have ht : ∀ x ∈ c.exceptionTable.toList, False := by
      obtain ⟨meth9, c9, h1, h2, -, -, -, -, h7, -⟩ := Cond.code_spec B.named (atoms_spec (ws := ws_ (wy w) (wc w) (wn w) (wr w)) B.pre _ List.mem_cons_self)
      cases Option.some.inj (h1.symm.trans B.method)
      cases Option.some.inj (h2.symm.trans (Stand.of_body B).code)
      intro x hx
      rw [Array.isEmpty_iff.mp h7] at hx
      cases hx
    obtain ⟨t, a1, o, b1, b2, b3⟩ := hbody p e s m args0 below meth c s₁ B hml ht hP s₁ hh0 (Stand.of_body B)
    exact ⟨t, o, a1, b1, b2, b3⟩
set_option maxRecDepth 1000000 in
theorem pf_GL : plainFor yJ20_getLongUnaligned = true := by decide +kernel
set_option maxRecDepth 1000000 in
theorem pf_GI : plainFor yJ20_getIntUnaligned = true := by decide +kernel
