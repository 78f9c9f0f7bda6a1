/-! the rows of calls -/
set_option maxRecDepth 100000
theorem gW.next {G : GG} {s U : State} {H : Heap} {locs : List Loc} (hW : gW G s) (hS : va_S (gA G) s.heap H locs) (hU : U.heap = H) (hv : s.WarmedH U.vm) : gW G U := by
  refine ⟨State.WarmedH.trans hW.1 hv, by rw [hU]; exact Nat.le_trans hW.2.1 hS.1, fun q hq => ?_⟩
  rw [hU]
  exact hW.fr hS q hq
theorem tv_rev (args : List AV) {stk st : List AV} (h : stk = args.reverse ++ st) : stk.map toV = (args.map toV).reverse ++ st.map toV := by
  rw [h, List.map_append, List.map_reverse]
/-- a value's width, seen without looking into a reference -/
def aCt : AV → Nat
  | .inr (.inl _) => 2
  | _ => 1
theorem aCt_ok : ∀ v : AV, (toV v).category = aCt v
  | .inl _ => rfl
  | .inr (.inl _) => rfl
  | .inr (.inr r) => toV_cat1R r
theorem tv_cat (st : List AV) {n : Nat} (h : Nat.ble (st.map aCt).sum n = true) : ((st.map toV).map fun v => v.category).sum ≤ n := by
  rw [List.map_map]
  have e : (Value.category ∘ toV) = aCt := funext aCt_ok
  show (st.map (Value.category ∘ toV)).sum ≤ n
  rw [e]
  exact Nat.le_of_ble_eq_true h
theorem lw_U {own : String} {idx : Nat} {C owner : String} {x y : MethodName} {b : ByteArray} {L : Nat} {r : Option FieldType} (h1 : Cond.methodLink own idx x ∈ lw_all) (h2 : Cond.sameMethod x.cls owner x.name x.desc ∈ lw_all) (h3 : Cond.selects C x y ∈ lw_all) (h4 : Cond.instanceMethod y ∈ lw_all) (h5 : Cond.initialized y.cls ∈ lw_all) (h6 : Cond.code y b L r ∈ lw_all) : GoodIn lw_all (va_wsU own idx C owner x y (ws_ y b L r)) := by
  refine lw_app (fun q hq => ?_) (lw_meth h6)
  simp only [List.mem_cons, List.not_mem_nil, or_false] at hq
  rcases hq with rfl | rfl | rfl | rfl | rfl
  · exact h1
  · exact h2
  · exact h3
  · exact h4
  · exact h5
theorem lw_O {own : String} {idx : Nat} {C owner : String} {x y : MethodName} {b : ByteArray} {L : Nat} {r : Option FieldType} (h1 : Cond.methodLink own idx x ∈ lw_all) (h2 : Cond.sameMethod x.cls owner x.name x.desc ∈ lw_all) (h7 : Cond.instanceMethod ⟨owner, x.name, x.desc⟩ ∈ lw_all) (h3 : Cond.selects C x y ∈ lw_all) (h4 : Cond.instanceMethod y ∈ lw_all) (h5 : Cond.initialized y.cls ∈ lw_all) (h6 : Cond.code y b L r ∈ lw_all) : GoodIn lw_all (va_wsO own idx C owner x y (ws_ y b L r)) := by
  refine lw_app (fun q hq => ?_) (lw_meth h6)
  simp only [List.mem_cons, List.not_mem_nil, or_false] at hq
  rcases hq with rfl | rfl | rfl | rfl | rfl | rfl
  · exact h1
  · exact h2
  · exact h7
  · exact h3
  · exact h4
  · exact h5
theorem lw_SU {own : String} {idx : Nat} {y : MethodName} {b : ByteArray} {L : Nat} {r : Option FieldType} (h1 : Cond.methodLink own idx y ∈ lw_all) (h2 : Cond.sameMethod y.cls y.cls y.name y.desc ∈ lw_all) (h3 : Cond.superclass own y.cls ∈ lw_all) (h4 : Cond.instanceMethod y ∈ lw_all) (h5 : Cond.initialized y.cls ∈ lw_all) (h6 : Cond.code y b L r ∈ lw_all) : GoodIn lw_all (va_wsSU own idx y (ws_ y b L r)) := by
  refine lw_app (fun q hq => ?_) (lw_meth h6)
  simp only [List.mem_cons, List.not_mem_nil, or_false] at hq
  rcases hq with rfl | rfl | rfl | rfl | rfl
  · exact h1
  · exact h2
  · exact h3
  · exact h4
  · exact h5
theorem lw_F {own : String} {idx : Nat} {C : String} {x y : MethodName} {b : ByteArray} {L : Nat} {r : Option FieldType} (h1 : Cond.methodLink own idx x ∈ lw_all) (h3 : Cond.selects C x y ∈ lw_all) (h4 : Cond.instanceMethod y ∈ lw_all) (h5 : Cond.initialized y.cls ∈ lw_all) (h6 : Cond.code y b L r ∈ lw_all) : GoodIn lw_all (va_wsF own idx C x y (ws_ y b L r)) := by
  refine lw_app (fun q hq => ?_) (lw_meth h6)
  simp only [List.mem_cons, List.not_mem_nil, or_false] at hq
  rcases hq with rfl | rfl | rfl | rfl
  · exact h1
  · exact h3
  · exact h4
  · exact h5
section XE1
variable {G : GG} {w : MI} {R : Room} {cn sn pc : Nat} {L : List (Option AV)} {st stk : List AV} {M : Mem} {K2 : Out → Mem → Prop} {mc2 ms2 h2 : Nat}
/-- what is left when the callee has run: the caller goes on, or what was thrown goes on -/
theorem xc_elim {E : XE} {p : Program} {e : Env} {s : State} {m : MethodId} {args : Array Value} {below : List Frame} {meth : Method} {cd : Code} {H : Heap} {locs : List Loc} {ls : Array Slot} {a : Array Value}
    (F : xF G w p s m args meth cd) (hS : va_S (gA G) s.heap H locs) (hH : gH G M H) (hl : aLH ls (wn w) L)
    (hr : vx_Run p (gl G) e R s m args below meth cd H locs cn sn mc2 ms2 (F0 m pc ls (stk.map toV)) (st.map toV) (kQ G K2 a) (kX G K2) (gA G))
    (kx : ∀ C M', K2 (.inr C) M' → XT G w R E (cn + mc2) (sn + ms2) pc L C M') (kk : ∀ r M', K2 (.inl r) M' → X G w R E (cn + mc2) (sn + ms2) (pc + 3) L (r.toList ++ st) M') :
    W p (gl G) e R s m args below meth cd H locs cn sn (E below args s) (F0 m pc ls (stk.map toV)) := by
  intro T hT hX
  rcases hr T hT hX with ⟨v, st₀, t, T', Lc, h0, X', hL, e1, e2, ⟨r, M', hv, hk, hM, hF⟩, hgo⟩ | ⟨q, st₀, t, T', Lc, C, ce, h0, X', hL, e1, e2, ⟨M', hk, hM, hF⟩, hce, hcv, hcl, hgo⟩
  · cases hv
    obtain ⟨-, -, hS'⟩ := vx_keep (A1 := gA G) h0 e1 hS (fun _ _ h => h) (fun _ h => h) hL hF
    rw [← e1] at hM
    obtain ⟨t2, a1, b1⟩ := kk r M' hk p e s m args below meth cd T'.heap (locs ++ Lc) ls F hS' hM hl T' rfl X'
    refine ⟨t2, hgo t2 ?_, b1⟩
    have e3 : (r.toList ++ st).map toV = (r.map toV).toList ++ st.map toV := by
      cases r <;> rfl
    rw [e3] at a1
    exact a1
  · obtain ⟨-, -, hS'⟩ := vx_keep (A1 := gA G) h0 e1 hS (fun _ _ h => h) (fun _ h => h) hL hF
    rw [← e1] at hM hce
    obtain ⟨t2, a1, b1⟩ := kx C M' hk p e s m args below meth cd T'.heap (locs ++ Lc) ls (st.map toV) q ce F hS' hM hl hce hcv hcl T' rfl X'
    exact ⟨t2, hgo.trans a1, b1⟩
theorem xc_elim5 {E : XE} {p : Program} {e : Env} {s : State} {m : MethodId} {args : Array Value} {below : List Frame} {meth : Method} {cd : Code} {H : Heap} {locs : List Loc} {ls : Array Slot} {a : Array Value}
    (F : xF G w p s m args meth cd) (hS : va_S (gA G) s.heap H locs) (hH : gH G M H) (hl : aLH ls (wn w) L)
    (hr : vx_Run5 p (gl G) e R s m args below meth cd H locs cn sn mc2 ms2 (F0 m pc ls (stk.map toV)) (st.map toV) (kQ G K2 a) (kX G K2) (gA G))
    (kx : ∀ C M', K2 (.inr C) M' → XT G w R E (cn + mc2) (sn + ms2) pc L C M') (kk : ∀ r M', K2 (.inl r) M' → X G w R E (cn + mc2) (sn + ms2) (pc + 5) L (r.toList ++ st) M') :
    W p (gl G) e R s m args below meth cd H locs cn sn (E below args s) (F0 m pc ls (stk.map toV)) := by
  intro T hT hX
  rcases hr T hT hX with ⟨v, st₀, t, T', Lc, h0, X', hL, e1, e2, ⟨r, M', hv, hk, hM, hF⟩, hgo⟩ | ⟨q, st₀, t, T', Lc, C, ce, h0, X', hL, e1, e2, ⟨M', hk, hM, hF⟩, hce, hcv, hcl, hgo⟩
  · cases hv
    obtain ⟨-, -, hS'⟩ := vx_keep (A1 := gA G) h0 e1 hS (fun _ _ h => h) (fun _ h => h) hL hF
    rw [← e1] at hM
    obtain ⟨t2, a1, b1⟩ := kk r M' hk p e s m args below meth cd T'.heap (locs ++ Lc) ls F hS' hM hl T' rfl X'
    refine ⟨t2, hgo t2 ?_, b1⟩
    have e3 : (r.toList ++ st).map toV = (r.map toV).toList ++ st.map toV := by
      cases r <;> rfl
    rw [e3] at a1
    exact a1
  · obtain ⟨-, -, hS'⟩ := vx_keep (A1 := gA G) h0 e1 hS (fun _ _ h => h) (fun _ h => h) hL hF
    rw [← e1] at hM hce
    obtain ⟨t2, a1, b1⟩ := kx C M' hk p e s m args below meth cd T'.heap (locs ++ Lc) ls (st.map toV) q ce F hS' hM hl hce hcv hcl T' rfl X'
    exact ⟨t2, hgo.trans a1, b1⟩

theorem x_callS {w2 : MI} {i n : Nat} {args : List AV}  (q1 : Cond.methodLink (wy w).cls i (wy w2) ∈ lw_all) (q2 : Cond.static (wy w2) ∈ lw_all) (q3 : Cond.initialized (wy w2).cls ∈ lw_all) (q4 : Cond.code (wy w2) (wc w2) (wn w2) (wr w2) ∈ lw_all) (hN : (wy w2).cls ≠ "java/lang/invoke/MethodHandle" ∧ (wy w2).cls ≠ "java/lang/invoke/VarHandle" ∧ (parseMethodDescriptor (wy w2).desc).map (fun d => d.parameters.length) = some n)
    (C2 : Ct G w2 args M h2 mc2 ms2 K2) (hlen : args.length = n) (hstk : stk = args.reverse ++ st) (hst : Nat.ble (st.map aCt).sum 8 = true) (hR : h2 + 1 ≤ R.frames ∧ 8 + (wn w2 + 11) + 64 * h2 ≤ R.locals) (hf : cn + mc2 ≤ R.cells ∧ sn + ms2 ≤ R.slots) (hd : decode (wc w) pc = .ok (.invokestatic i, 3)) : XCl G w R cn sn pc (pc + 3) L stk st M mc2 ms2 K2 := by
  intro E kx kk p e s m args0 below meth cd H locs ls F hS hH hl
  have hts : ∀ q ∈ lw_all, q.before args0 s = true := F.2.2.2.2.2.2.2.1
  have hG := F.2.2.2.2.2.2.2.2.1
  have hW := F.2.2.2.2.2.2.2.2.2.1
  exact xc_elim F hS hH hl (vx_runS (As := args.map toV) (rest := st.map toV) ⟨F.1, F.2.1, F.2.2.1, F.2.2.2.2.2.1, hts⟩ (C2 hG) (va_cwS n hts (lw_S q1 q2 q3 q4) rfl rfl rfl hN hR) ⟨(cPre_blind G _ M), fun U hU hv => ⟨rfl, hW.next hS hU hv, by rw [hU]; exact hH⟩⟩ rfl (by simpa using hlen) hl.1 (tv_rev args hstk) (by show 2 * 0 + _ ≤ 8; have := tv_cat st hst; omega) hd hf) kx kk
theorem x_callSH {w2 : MI} {i n : Nat} {args : List AV}  (q1 : Cond.methodLink (wy w).cls i (wy w2) ∈ lw_all) (q2 : Cond.static (wy w2) ∈ lw_all) (q3 : Cond.initialized (wy w2).cls ∈ lw_all) (q4 : Cond.codeWith (wy w2) (wc w2) (wn w2) (wr w2) (wh w2) ∈ lw_all) (hN : (wy w2).cls ≠ "java/lang/invoke/MethodHandle" ∧ (wy w2).cls ≠ "java/lang/invoke/VarHandle" ∧ (parseMethodDescriptor (wy w2).desc).map (fun d => d.parameters.length) = some n)
    (C2 : CtH G w2 args M h2 mc2 ms2 K2) (hlen : args.length = n) (hstk : stk = args.reverse ++ st) (hst : Nat.ble (st.map aCt).sum 8 = true) (hR : h2 + 1 ≤ R.frames ∧ 8 + (wn w2 + 11) + 64 * h2 ≤ R.locals) (hf : cn + mc2 ≤ R.cells ∧ sn + ms2 ≤ R.slots) (hd : decode (wc w) pc = .ok (.invokestatic i, 3)) : XCl G w R cn sn pc (pc + 3) L stk st M mc2 ms2 K2 := by
  intro E kx kk p e s m args0 below meth cd H locs ls F hS hH hl
  have hts : ∀ q ∈ lw_all, q.before args0 s = true := F.2.2.2.2.2.2.2.1
  have hG := F.2.2.2.2.2.2.2.2.1
  have hW := F.2.2.2.2.2.2.2.2.2.1
  exact xc_elim F hS hH hl (vx_runSX (As := args.map toV) (rest := st.map toV) ⟨F.1, F.2.1, F.2.2.1, F.2.2.2.2.2.1, hts⟩ (C2 hG) (vx_cwSW n hts (lw_SW q1 q2 q3 q4) rfl rfl rfl hN hR) ⟨(cPre_blind G _ M), fun U hU hv => ⟨rfl, hW.next hS hU hv, by rw [hU]; exact hH⟩⟩ rfl (by simpa using hlen) hl.1 (tv_rev args hstk) (by show 2 * 0 + _ ≤ 8; have := tv_cat st hst; omega) hd hf) kx kk
theorem x_callV {w2 : MI} {i n : Nat} {args : List AV} {b : Nat} {C : String} (q1 : Cond.methodLink (wy w).cls i (wy w2) ∈ lw_all) (q2 : Cond.instanceMethod (wy w2) ∈ lw_all) (q3 : Cond.selects C (wy w2) (wy w2) ∈ lw_all) (q4 : Cond.initialized C ∈ lw_all) (q5 : Cond.code (wy w2) (wc w2) (wn w2) (wr w2) ∈ lw_all) (hN : (wy w2).cls = C ∧ (wy w2).cls ≠ "java/lang/invoke/MethodHandle" ∧ (wy w2).cls ≠ "java/lang/invoke/VarHandle" ∧ (parseMethodDescriptor (wy w2).desc).map (fun d => d.parameters.length) = some n) (hRc : RC G M b C)
    (C2 : Ct G w2 (aR (some b) :: args) M h2 mc2 ms2 K2) (hlen : args.length = n) (hstk : stk = args.reverse ++ aR (some b) :: st) (hst : Nat.ble (st.map aCt).sum 8 = true) (hR : h2 + 1 ≤ R.frames ∧ 8 + (wn w2 + 11) + 64 * h2 ≤ R.locals) (hf : cn + mc2 ≤ R.cells ∧ sn + ms2 ≤ R.slots) (hd : decode (wc w) pc = .ok (.invokevirtual i, 3)) : XCl G w R cn sn pc (pc + 3) L stk st M mc2 ms2 K2 := by
  intro E kx kk p e s m args0 below meth cd H locs ls F hS hH hl
  have hts : ∀ q ∈ lw_all, q.before args0 s = true := F.2.2.2.2.2.2.2.1
  have hG := F.2.2.2.2.2.2.2.2.1
  have hW := F.2.2.2.2.2.2.2.2.2.1
  exact xc_elim F hS hH hl (vx_runV (As := args.map toV) (rest := st.map toV) (b := b) ⟨F.1, F.2.1, F.2.2.1, F.2.2.2.2.2.1, hts⟩ (C2 hG) (cwV n hts (lw_V q1 q2 q3 q4 q5) rfl rfl rfl hN hR) ⟨(cPre_blind G _ M), hRc s H hG hW hH (hW.fr hS), fun U hU hv => ⟨rfl, hW.next hS hU hv, by rw [hU]; exact hH⟩⟩ rfl (by simpa using hlen) hl.1 (by show stk.map toV = _; rw [tv_rev args hstk]; rfl) (by show 2 * 0 + _ ≤ 8; have := tv_cat st hst; omega) hd hf) kx kk
theorem x_callI {w2 : MI} {i n : Nat} {args : List AV} {b : Nat} (q1 : Cond.methodLink (wy w).cls i (wy w2) ∈ lw_all) (q2 : Cond.instanceMethod (wy w2) ∈ lw_all) (q4 : Cond.initialized (wy w2).cls ∈ lw_all) (q5 : Cond.code (wy w2) (wc w2) (wn w2) none ∈ lw_all) (hr0 : wr w2 = none) (hy1 : (wy w2).name = "<init>") (hN : (wy w2).cls ≠ "java/lang/invoke/MethodHandle" ∧ (wy w2).cls ≠ "java/lang/invoke/VarHandle" ∧ (parseMethodDescriptor (wy w2).desc).map (fun d => d.parameters.length) = some n)
    (C2 : Ct G w2 (aR (some b) :: args) M h2 mc2 ms2 K2) (hlen : args.length = n) (hstk : stk = args.reverse ++ aR (some b) :: st) (hst : Nat.ble (st.map aCt).sum 8 = true) (hR : h2 + 1 ≤ R.frames ∧ 8 + (wn w2 + 11) + 64 * h2 ≤ R.locals) (hf : cn + mc2 ≤ R.cells ∧ sn + ms2 ≤ R.slots) (hd : decode (wc w) pc = .ok (.invokespecial i, 3)) : XCl G w R cn sn pc (pc + 3) L stk st M mc2 ms2 K2 := by
  intro E kx kk p e s m args0 below meth cd H locs ls F hS hH hl
  have hts : ∀ q ∈ lw_all, q.before args0 s = true := F.2.2.2.2.2.2.2.1
  have hG := F.2.2.2.2.2.2.2.2.1
  have hW := F.2.2.2.2.2.2.2.2.2.1
  exact xc_elim F hS hH hl (vx_runI (As := args.map toV) (rest := st.map toV) (b := b) (bytes := wc w2) (maxL := wn w2) ⟨F.1, F.2.1, F.2.2.1, F.2.2.2.2.2.1, hts⟩ (C2 hG) (cwI n hts (lw_meth (by rw [hr0]; exact q5)) (by rw [hr0]) rfl rfl (hts _ q4) (hts _ q1) (hts _ q2) hy1 hN hR) ⟨(cPre_blind G _ M), fun U hU hv => ⟨rfl, hW.next hS hU hv, by rw [hU]; exact hH⟩⟩ rfl (by simpa using hlen) hl.1 (by show stk.map toV = _; rw [tv_rev args hstk]; rfl) (by show 2 * 0 + _ ≤ 8; have := tv_cat st hst; omega) hd hf) kx kk
theorem x_callIN {w2 : MI} {i n : Nat} {args : List AV} {b : Nat} {host : String} (q1 : Cond.methodLinkNest (wy w).cls i (wy w2) host ∈ lw_tbl) (q2 : Cond.instanceMethod (wy w2) ∈ lw_all) (q4 : Cond.initialized (wy w2).cls ∈ lw_all) (q5 : Cond.code (wy w2) (wc w2) (wn w2) none ∈ lw_all) (hr0 : wr w2 = none) (hy1 : (wy w2).name = "<init>") (hN : (wy w2).cls ≠ "java/lang/invoke/MethodHandle" ∧ (wy w2).cls ≠ "java/lang/invoke/VarHandle" ∧ (parseMethodDescriptor (wy w2).desc).map (fun d => d.parameters.length) = some n)
    (C2 : Ct G w2 (aR (some b) :: args) M h2 mc2 ms2 K2) (hlen : args.length = n) (hstk : stk = args.reverse ++ aR (some b) :: st) (hst : Nat.ble (st.map aCt).sum 8 = true) (hR : h2 + 1 ≤ R.frames ∧ 8 + (wn w2 + 11) + 64 * h2 ≤ R.locals) (hf : cn + mc2 ≤ R.cells ∧ sn + ms2 ≤ R.slots) (hd : decode (wc w) pc = .ok (.invokespecial i, 3)) : XCl G w R cn sn pc (pc + 3) L stk st M mc2 ms2 K2 := by
  intro E kx kk p e s m args0 below meth cd H locs ls F hS hH hl
  have hts : ∀ q ∈ lw_all, q.before args0 s = true := F.2.2.2.2.2.2.2.1
  have hG := F.2.2.2.2.2.2.2.2.1
  have hW := F.2.2.2.2.2.2.2.2.2.1
  exact xc_elim F hS hH hl (vx_runIN (As := args.map toV) (rest := st.map toV) (b := b) (bytes := wc w2) (maxL := wn w2) ⟨F.1, F.2.1, F.2.2.1, F.2.2.2.2.2.1, hts⟩ (C2 hG) ⟨va_cnB n hts (lw_meth (by rw [hr0]; exact q5)) (by rw [hr0]) rfl rfl (va_Nw.warmM hW.1 (hG.2.2.1 _ q1)) (hts _ q4) hN hR, hy1, hts _ q2⟩ ⟨(cPre_blind G _ M), fun U hU hv => ⟨rfl, hW.next hS hU hv, by rw [hU]; exact hH⟩⟩ rfl (by simpa using hlen) hl.1 (by show stk.map toV = _; rw [tv_rev args hstk]; rfl) (by show 2 * 0 + _ ≤ 8; have := tv_cat st hst; omega) hd hf) kx kk
theorem x_callSN {w2 : MI} {i n : Nat} {args : List AV} {host : String} (q1 : Cond.methodLinkNest (wy w).cls i (wy w2) host ∈ lw_tbl) (q2 : Cond.static (wy w2) ∈ lw_all) (q3 : Cond.initialized (wy w2).cls ∈ lw_all) (q4 : Cond.code (wy w2) (wc w2) (wn w2) (wr w2) ∈ lw_all) (hN : (wy w2).cls ≠ "java/lang/invoke/MethodHandle" ∧ (wy w2).cls ≠ "java/lang/invoke/VarHandle" ∧ (parseMethodDescriptor (wy w2).desc).map (fun d => d.parameters.length) = some n)
    (C2 : Ct G w2 args M h2 mc2 ms2 K2) (hlen : args.length = n) (hstk : stk = args.reverse ++ st) (hst : Nat.ble (st.map aCt).sum 8 = true) (hR : h2 + 1 ≤ R.frames ∧ 8 + (wn w2 + 11) + 64 * h2 ≤ R.locals) (hf : cn + mc2 ≤ R.cells ∧ sn + ms2 ≤ R.slots) (hd : decode (wc w) pc = .ok (.invokestatic i, 3)) : XCl G w R cn sn pc (pc + 3) L stk st M mc2 ms2 K2 := by
  intro E kx kk p e s m args0 below meth cd H locs ls F hS hH hl
  have hts : ∀ q ∈ lw_all, q.before args0 s = true := F.2.2.2.2.2.2.2.1
  have hG := F.2.2.2.2.2.2.2.2.1
  have hW := F.2.2.2.2.2.2.2.2.2.1
  exact xc_elim F hS hH hl (vx_runSN (As := args.map toV) (rest := st.map toV) ⟨F.1, F.2.1, F.2.2.1, F.2.2.2.2.2.1, hts⟩ (C2 hG) ⟨va_cnB n hts (lw_meth q4) rfl rfl rfl (va_Nw.warmM hW.1 (hG.2.2.1 _ q1)) (hts _ q3) hN hR, hts _ q2, trivial⟩ ⟨(cPre_blind G _ M), fun U hU hv => ⟨rfl, hW.next hS hU hv, by rw [hU]; exact hH⟩⟩ rfl (by simpa using hlen) hl.1 (tv_rev args hstk) (by show 2 * 0 + _ ≤ 8; have := tv_cat st hst; omega) hd hf) kx kk
theorem x_callU {w2 : MI} {i n : Nat} {args : List AV} {b : Nat} {C owner : String} {x : MethodName} (q1 : Cond.methodLink (wy w).cls i x ∈ lw_all) (q2 : Cond.sameMethod x.cls owner x.name x.desc ∈ lw_all) (q3 : Cond.selects C x (wy w2) ∈ lw_all) (q4 : Cond.instanceMethod (wy w2) ∈ lw_all) (q5 : Cond.initialized (wy w2).cls ∈ lw_all) (q6 : Cond.code (wy w2) (wc w2) (wn w2) (wr w2) ∈ lw_all) (hyx : wy w2 = ⟨owner, x.name, x.desc⟩) (hN : owner ≠ "java/lang/invoke/MethodHandle" ∧ owner ≠ "java/lang/invoke/VarHandle" ∧ (parseMethodDescriptor x.desc).map (fun d => d.parameters.length) = some n) (hRc : RC G M b C)
    (C2 : Ct G w2 (aR (some b) :: args) M h2 mc2 ms2 K2) (hlen : args.length = n) (hstk : stk = args.reverse ++ aR (some b) :: st) (hst : Nat.ble (st.map aCt).sum 8 = true) (hR : h2 + 1 ≤ R.frames ∧ 8 + (wn w2 + 11) + 64 * h2 ≤ R.locals) (hf : cn + mc2 ≤ R.cells ∧ sn + ms2 ≤ R.slots) (hd : decode (wc w) pc = .ok (.invokevirtual i, 3)) : XCl G w R cn sn pc (pc + 3) L stk st M mc2 ms2 K2 := by
  intro E kx kk p e s m args0 below meth cd H locs ls F hS hH hl
  have hts : ∀ q ∈ lw_all, q.before args0 s = true := F.2.2.2.2.2.2.2.1
  have hG := F.2.2.2.2.2.2.2.2.1
  have hW := F.2.2.2.2.2.2.2.2.2.1
  exact xc_elim F hS hH hl (vx_runU (As := args.map toV) (rest := st.map toV) (b := b) ⟨F.1, F.2.1, F.2.2.1, F.2.2.2.2.2.1, hts⟩ (C2 hG) (va_cwU n hts (lw_U q1 q2 q3 q4 q5 q6) rfl rfl rfl hyx hN hR) ⟨(cPre_blind G _ M), hRc s H hG hW hH (hW.fr hS), fun U hU hv => ⟨rfl, hW.next hS hU hv, by rw [hU]; exact hH⟩⟩ rfl (by simpa using hlen) hl.1 (by show stk.map toV = _; rw [tv_rev args hstk]; rfl) (by show 2 * 0 + _ ≤ 8; have := tv_cat st hst; omega) hd hf) kx kk
theorem x_callO {w2 : MI} {i n : Nat} {args : List AV} {b : Nat} {C owner : String} {x : MethodName} {b0 : ByteArray} {m0 : Nat} {r0 : Option FieldType} (q1 : Cond.methodLink (wy w).cls i x ∈ lw_all) (q2 : Cond.sameMethod x.cls owner x.name x.desc ∈ lw_all) (q7 : Cond.instanceMethod ⟨owner, x.name, x.desc⟩ ∈ lw_all) (q3 : Cond.selects C x (wy w2) ∈ lw_all) (q4 : Cond.instanceMethod (wy w2) ∈ lw_all) (q5 : Cond.initialized (wy w2).cls ∈ lw_all) (q6 : Cond.code (wy w2) (wc w2) (wn w2) (wr w2) ∈ lw_all) (q8 : Cond.code ⟨owner, x.name, x.desc⟩ b0 m0 r0 ∈ lw_all) (hN : owner ≠ "java/lang/invoke/MethodHandle" ∧ owner ≠ "java/lang/invoke/VarHandle" ∧ (parseMethodDescriptor x.desc).map (fun d => d.parameters.length) = some n) (hRc : RC G M b C)
    (C2 : Ct G w2 (aR (some b) :: args) M h2 mc2 ms2 K2) (hlen : args.length = n) (hstk : stk = args.reverse ++ aR (some b) :: st) (hst : Nat.ble (st.map aCt).sum 8 = true) (hR : h2 + 1 ≤ R.frames ∧ 8 + (wn w2 + 11) + 64 * h2 ≤ R.locals) (hf : cn + mc2 ≤ R.cells ∧ sn + ms2 ≤ R.slots) (hd : decode (wc w) pc = .ok (.invokevirtual i, 3)) : XCl G w R cn sn pc (pc + 3) L stk st M mc2 ms2 K2 := by
  intro E kx kk p e s m args0 below meth cd H locs ls F hS hH hl
  have hts : ∀ q ∈ lw_all, q.before args0 s = true := F.2.2.2.2.2.2.2.1
  have hG := F.2.2.2.2.2.2.2.2.1
  have hW := F.2.2.2.2.2.2.2.2.2.1
  exact xc_elim F hS hH hl (vx_runU (As := args.map toV) (rest := st.map toV) (b := b) ⟨F.1, F.2.1, F.2.2.1, F.2.2.2.2.2.1, hts⟩ (C2 hG) (va_cwO n hts (lw_O q1 q2 q7 q3 q4 q5 q6) rfl rfl rfl q8 hN hR) ⟨(cPre_blind G _ M), hRc s H hG hW hH (hW.fr hS), fun U hU hv => ⟨rfl, hW.next hS hU hv, by rw [hU]; exact hH⟩⟩ rfl (by simpa using hlen) hl.1 (by show stk.map toV = _; rw [tv_rev args hstk]; rfl) (by show 2 * 0 + _ ≤ 8; have := tv_cat st hst; omega) hd hf) kx kk
theorem x_callSU {w2 : MI} {i n : Nat} {args : List AV} {b : Nat} {ci : Nat} {q : vw_C} (q1 : Cond.methodLink (wy w).cls i (wy w2) ∈ lw_all) (q2 : Cond.sameMethod (wy w2).cls (wy w2).cls (wy w2).name (wy w2).desc ∈ lw_all) (q3 : Cond.superclass (wy w).cls (wy w2).cls ∈ lw_all) (q4 : Cond.instanceMethod (wy w2) ∈ lw_all) (q5 : Cond.initialized (wy w2).cls ∈ lw_all) (q6 : Cond.code (wy w2) (wc w2) (wn w2) (wr w2) ∈ lw_all) (hN : (wy w2).name ≠ "<init>" ∧ (parseMethodDescriptor (wy w2).desc).map (fun d => d.parameters.length) = some n) (hci : pgCl[ci]? = some q) (hRc : RC G M b q.1)
    (C2 : Ct G w2 (aR (some b) :: args) M h2 mc2 ms2 K2) (hlen : args.length = n) (hstk : stk = args.reverse ++ aR (some b) :: st) (hst : Nat.ble (st.map aCt).sum 8 = true) (hR : h2 + 1 ≤ R.frames ∧ 8 + (wn w2 + 11) + 64 * h2 ≤ R.locals) (hf : cn + mc2 ≤ R.cells ∧ sn + ms2 ≤ R.slots) (hd : decode (wc w) pc = .ok (.invokespecial i, 3)) : XCl G w R cn sn pc (pc + 3) L stk st M mc2 ms2 K2 := by
  intro E kx kk p e s m args0 below meth cd H locs ls F hS hH hl
  have hts : ∀ q ∈ lw_all, q.before args0 s = true := F.2.2.2.2.2.2.2.1
  have hG := F.2.2.2.2.2.2.2.2.1
  have hW := F.2.2.2.2.2.2.2.2.2.1
  exact xc_elim F hS hH hl (vx_runSU (As := args.map toV) (rest := st.map toV) (b := b) (C := q.1) ((hG.K hW).1 ci q hci).2 ⟨F.1, F.2.1, F.2.2.1, F.2.2.2.2.2.1, hts⟩ (C2 hG) (va_cwSU n hts (lw_SU q1 q2 q3 q4 q5 q6) rfl rfl rfl hN hR) ⟨(cPre_blind G _ M), hRc s H hG hW hH (hW.fr hS), fun U hU hv => ⟨rfl, hW.next hS hU hv, by rw [hU]; exact hH⟩⟩ rfl (by simpa using hlen) hl.1 (by show stk.map toV = _; rw [tv_rev args hstk]; rfl) (by show 2 * 0 + _ ≤ 8; have := tv_cat st hst; omega) hd hf) kx kk
theorem x_callF {w2 : MI} {i n : Nat} {args : List AV} {b cnt : Nat} {ci : Nat} {q : vw_C} {x : MethodName} (q1 : Cond.methodLink (wy w).cls i x ∈ lw_all) (q3 : Cond.selects q.1 x (wy w2) ∈ lw_all) (q4 : Cond.instanceMethod (wy w2) ∈ lw_all) (q5 : Cond.initialized (wy w2).cls ∈ lw_all) (q6 : Cond.code (wy w2) (wc w2) (wn w2) (wr w2) ∈ lw_all) (t1 : Cond.declares x ∈ lw_tbl) (t2 : Cond.interfaceMethod x.cls x.cls x.name x.desc ∈ lw_tbl) (t3 : Cond.publicMethod (wy w2) ∈ lw_tbl) (t4 : Cond.unhidden q.1 x.name x.desc ∈ lw_tbl) (t5 : Cond.castable q.1 x.cls ∈ lw_tbl) (hN : x.cls ≠ "java/lang/invoke/MethodHandle" ∧ x.cls ≠ "java/lang/invoke/VarHandle" ∧ (parseMethodDescriptor x.desc).map (fun d => d.parameters.length) = some n) (hci : pgCl[ci]? = some q) (hRc : RC G M b q.1)
    (C2 : Ct G w2 (aR (some b) :: args) M h2 mc2 ms2 K2) (hlen : args.length = n) (hstk : stk = args.reverse ++ aR (some b) :: st) (hst : Nat.ble (st.map aCt).sum 8 = true) (hR : h2 + 1 ≤ R.frames ∧ 8 + (wn w2 + 11) + 64 * h2 ≤ R.locals) (hf : cn + mc2 ≤ R.cells ∧ sn + ms2 ≤ R.slots) (hd : decode (wc w) pc = .ok (.invokeinterface i cnt, 5)) : XCl G w R cn sn pc (pc + 5) L stk st M mc2 ms2 K2 := by
  intro E kx kk p e s m args0 below meth cd H locs ls F hS hH hl
  have hts : ∀ q ∈ lw_all, q.before args0 s = true := F.2.2.2.2.2.2.2.1
  have hG := F.2.2.2.2.2.2.2.2.1
  have hW := F.2.2.2.2.2.2.2.2.2.1
  exact xc_elim5 F hS hH hl (vx_runF (As := args.map toV) (rest := st.map toV) (b := b) (C := q.1) ((hG.K hW).1 ci q hci).2 ⟨F.1, F.2.1, F.2.2.1, F.2.2.2.2.2.1, hts⟩ (C2 hG) (va_cwF n hts (lw_F q1 q3 q4 q5 q6) rfl rfl rfl (va_Fw.moved ⟨hN.1, hN.2.1⟩ hW.alike (va_Fw.of (A := #[]) (hG.2.2.1 _ t1) (hG.2.2.1 _ t2) (hG.2.2.1 _ t3) (hG.2.2.1 _ t4) (hG.2.2.1 _ t5))) hN hR) ⟨(cPre_blind G _ M), hRc s H hG hW hH (hW.fr hS), fun U hU hv => ⟨rfl, hW.next hS hU hv, by rw [hU]; exact hH⟩⟩ rfl (by simpa using hlen) hl.1 (by show stk.map toV = _; rw [tv_rev args hstk]; rfl) (by show 2 * 0 + _ ≤ 8; have := tv_cat st hst; omega) hd hf) kx kk
end XE1
section XTH
variable {G : GG} {w : MI} {R : Room} {cn sn pc : Nat} {L : List (Option AV)} {st : List AV} {M : Mem} {K : Out → Mem → Prop} {mc ms : Nat}
/-- new X(); throw: the whole of it -/
theorem x_throw {cls : String} {names : List String} {ik ic : Nat} (hcls : Bundle.fit cls = true) (hnames : ∀ n ∈ names, Bundle.fit n = true) (hk : Cond.classLink (wy w).cls ik cls ∈ lw_all) (hini : Cond.initialized cls ∈ lw_all)
    (hat : ∀ q ∈ vx_at0 (wy w).cls ic cls names, q ∈ lw_tbl) (hgood : ∀ q ∈ Cond.classLink (wy w).cls ik cls :: Cond.initialized cls :: vx_at0 (wy w).cls ic cls names, vx_ot q = true) (hgoodW : ∀ q ∈ vx_at0 (wy w).cls ic cls names, goodWord q = true) (hh : wh w = [])
    (d0 : decode (wc w) pc = .ok (.new ik, 3)) (d3 : decode (wc w) (pc + 3) = .ok (.dup, 1)) (d4 : decode (wc w) (pc + 4) = .ok (.invokespecial ic, 3)) (d7 : decode (wc w) (pc + 7) = .ok (.athrow, 1))
    (hRf : names.length + 3 < R.frames) (hRl : 8 + (13 * (names.length + 1) + 42) ≤ R.locals) (hst : Nat.ble (st.map aCt).sum 8 = true) (hR : cn + 1 ≤ R.cells ∧ sn + 6 ≤ R.slots) (hc : cn + 1 ≤ mc ∧ sn + 6 ≤ ms)
    (hK : ∀ n, mZ M ≤ n → K (.inr cls) (mW M n)) : X G w R (mEnd G K mc ms) cn sn pc L st M := by
  intro p e s m args below meth cd H locs ls F hS hH hl
  have hts : ∀ q ∈ lw_all, q.before args s = true := F.2.2.2.2.2.2.2.1
  have hG := F.2.2.2.2.2.2.2.2.1
  have hW := F.2.2.2.2.2.2.2.2.2.1
  have hcv := tv_cat st hst
  have hzq : ∀ {C n d : String}, vx_Zq C n d (gA G) (gs G) (gs G).heap → vx_Zq C n d (gA G) s s.heap := fun h => vx_Zq.kept (vx_Zq.moved hW.alike h) (fun a h1 h2 => hW.2.2 a (Nat.not_le.mp h2))
  refine vx_throw0 F.1 F.2.1 hG.1 F.2.2.2.2.2.1 hcls hnames (hts _ hk) (hts _ hini) (fun q hq => hts q (lw_g (hat q hq) (hgoodW q hq))) hgood (hzq hG.2.2.2.2.2.2.1) (hzq hG.2.2.2.2.2.2.2) hS (hl.1.trans F.2.2.1.symm) d0 d3 d4 d7 ?_ hRf (by omega) hR.1 hR.2 F.2.2.2.2.1 (fun t _ h1 h2 => ?_) hS.2.2 hc.1 hc.2
  · have ht : cd.exceptionTable.toList = [] := by rw [F.2.2.2.2.2.2.2.2.2.2, hh]; rfl
    intro x hx
    rw [ht] at hx
    cases hx
  · refine ⟨mW M t.heap.size, hK _ (by rw [← hH.1]; exact h1), hH.grow h1 h2, ?_⟩
    refine ⟨Nat.le_trans hS.1 h1, fun q a1 a2 => ?_⟩
    rw [h2 q (Nat.lt_of_lt_of_le a1 hS.1)]
    exact hS.2.1 q a1 a2
end XTH


/-- a private method of the superclass is selected by an object of the subclass: some other method of that superclass, selected by a word, shows that it is no interface -/
theorem sel_priv {s : State} {C : String} {n : Nat} {y z : MethodName} (hcls : y.cls = z.cls) (hy : y.cls ≠ "java/lang/invoke/MethodHandle" ∧ y.cls ≠ "java/lang/invoke/VarHandle")
    (h1 : (Cond.instantiable C n).before #[] s = true) (h2 : (Cond.privateMethod y).before #[] s = true) (h3 : (Cond.instanceMethod y).before #[] s = true) (h4 : (Cond.selects C z z).before #[] s = true) : (Cond.selects C y y).before #[] s = true := by
  obtain ⟨c, k, hc, hk, -⟩ := Cond.instantiable_spec h1
  obtain ⟨mk, methM, hnamed, hmethM, -, -⟩ := Cond.instanceMethod_spec h3
  have hfound : s.methodFound? y.cls y.name y.desc = some mk := State.methodFound?_of_named hnamed hy
  obtain ⟨c2, r2, m2, -, -, q3, -, kP, hkP, hkPi⟩ := Cond.selects_spec h4
  have e1 : mk.cls = m2.cls := Option.some.inj ((findClass_of_methodNamed hnamed).symm.trans (by rw [hcls]; exact findClass_of_methodNamed q3))
  have hsel : selectMethod {} s.vm c mk = .method mk := selectMethod_private hmethM (Cond.privateMethod_at h2 mk methM hnamed hmethM)
  simp only [Cond.before, Cond.holds, Cond.value, hc, hfound, hnamed, hsel, e1, hkP]
  simp
  exact hkPi
section XP
variable {G : GG} {w : MI} {R : Room} {cn sn pc : Nat} {L : List (Option AV)} {st stk : List AV} {M : Mem} {K2 : Out → Mem → Prop} {mc2 ms2 h2 : Nat}
theorem x_callUP {w2 : MI} {i n : Nat} {args : List AV} {b : Nat} {C : String} {N : Nat} {z : MethodName} (q1 : Cond.methodLink (wy w).cls i (wy w2) ∈ lw_all) (q2 : Cond.sameMethod (wy w2).cls (wy w2).cls (wy w2).name (wy w2).desc ∈ lw_all) (p1 : Cond.instantiable C N ∈ lw_tbl) (p2 : Cond.privateMethod (wy w2) ∈ lw_tbl) (p3 : Cond.selects C z z ∈ lw_tbl) (hz : (wy w2).cls = z.cls) (q4 : Cond.instanceMethod (wy w2) ∈ lw_all) (q5 : Cond.initialized (wy w2).cls ∈ lw_all) (q6 : Cond.code (wy w2) (wc w2) (wn w2) (wr w2) ∈ lw_all) (hN : (wy w2).cls ≠ "java/lang/invoke/MethodHandle" ∧ (wy w2).cls ≠ "java/lang/invoke/VarHandle" ∧ (parseMethodDescriptor (wy w2).desc).map (fun d => d.parameters.length) = some n) (hRc : RC G M b C)
    (C2 : Ct G w2 (aR (some b) :: args) M h2 mc2 ms2 K2) (hlen : args.length = n) (hstk : stk = args.reverse ++ aR (some b) :: st) (hst : Nat.ble (st.map aCt).sum 8 = true) (hR : h2 + 1 ≤ R.frames ∧ 8 + (wn w2 + 11) + 64 * h2 ≤ R.locals) (hf : cn + mc2 ≤ R.cells ∧ sn + ms2 ≤ R.slots) (hd : decode (wc w) pc = .ok (.invokevirtual i, 3)) : XCl G w R cn sn pc (pc + 3) L stk st M mc2 ms2 K2 := by
  intro E kx kk p e s m args0 below meth cd H locs ls F hS hH hl
  have hts : ∀ q ∈ lw_all, q.before args0 s = true := F.2.2.2.2.2.2.2.1
  have hG := F.2.2.2.2.2.2.2.2.1
  have hW := F.2.2.2.2.2.2.2.2.2.1
  have hsel0 : (Cond.selects C (wy w2) (wy w2)).before #[] (gs G) = true := sel_priv hz ⟨hN.1, hN.2.1⟩ (hG.2.2.1 _ p1) (hG.2.2.1 _ p2) (hG.2.2.1 _ (lw_all_tbl q4)) (hG.2.2.1 _ p3)
  have hsel : (Cond.selects C (wy w2) (wy w2)).before args0 s = true := word_at hW.1 (Or.inl rfl) hsel0
  have hgi := lw_meth q6
  have hcu : va_CU R s args0 (wy w).cls C (wy w2).cls i (wy w2) (wy w2) (wc w2) (wn w2) (wr w2) (ws_ (wy w2) (wc w2) (wn w2) (wr w2)) (rmO h2 mc2 ms2) mc2 ms2 n := by
    refine ⟨⟨rfl, rfl, hR.1, hR.2, fun q hq a' U hU => ?_, List.mem_cons_self⟩, hts _ q6, hts _ q5, ⟨hN.1, hN.2.1⟩, fun sig hsig => ?_, hts _ q1, hts _ q2, ?_, hsel, hts _ q4⟩
    · exact word_at hU (hgi q hq).2 (hts _ (hgi q hq).1)
    · have h9 := hN.2.2
      rw [hsig] at h9
      exact (Option.some.inj h9).symm
    · obtain ⟨mk, methM, hnamed, hmethM, hst9, -⟩ := Cond.instanceMethod_spec (hts _ q4)
      obtain ⟨methM', cM, hmethM', -, -, -, -, -, -, hsigM⟩ := Cond.code_spec hnamed (hts _ q6)
      cases hmethM.symm.trans hmethM'
      exact ⟨mk, methM, hnamed, hmethM, hst9, hsigM⟩
  exact xc_elim F hS hH hl (vx_runU (As := args.map toV) (rest := st.map toV) (b := b) ⟨F.1, F.2.1, F.2.2.1, F.2.2.2.2.2.1, hts⟩ (C2 hG) hcu ⟨(cPre_blind G _ M), hRc s H hG hW hH (hW.fr hS), fun U hU hv => ⟨rfl, hW.next hS hU hv, by rw [hU]; exact hH⟩⟩ rfl (by simpa using hlen) hl.1 (by show stk.map toV = _; rw [tv_rev args hstk]; rfl) (by show 2 * 0 + _ ≤ 8; have := tv_cat st hst; omega) hd hf) kx kk
end XP
