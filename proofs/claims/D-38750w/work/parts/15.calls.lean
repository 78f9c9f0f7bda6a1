/-! contracts, answers, calls, exceptions -/
set_option maxRecDepth 100000
def rmO (h mc ms : Nat) : Room := { frames := h, cells := mc, slots := ms, locals := 64 * h }
/-- what a call ends with: an answer, or the class of what was thrown -/
abbrev Out : Type := Option AV ⊕ String
def cPre (G : GG) (args : List AV) (M : Mem) : Array Value → State → Prop := va_Pc (args.map toV) (fun U => gW G U ∧ gH G M U.heap)
def kQ (G : GG) (K : Out → Mem → Prop) : Array Value → State → Outcome → State → Prop := fun _ st oc t => ∃ (r : Option AV) (M' : Mem), oc = .returned (r.map toV) ∧ K (.inl r) M' ∧ gH G M' t.heap ∧ va_F (gA G) st t
def kX (G : GG) (K : Out → Mem → Prop) : String → State → State → Prop := fun C st t => ∃ M' : Mem, K (.inr C) M' ∧ gH G M' t.heap ∧ va_F (gA G) st t
/-- A CONTRACT: the method w, called with args over M, within h frames, mc cells and ms slots, ends with K -/
def Ct (G : GG) (w : MI) (args : List AV) (M : Mem) (h mc ms : Nat) (K : Out → Mem → Prop) : Prop := gOK G → vx_Met (gl G) (wy w) (ws_ (wy w) (wc w) (wn w) (wr w)) (rmO h mc ms) (cPre G args M) (kQ G K) (kX G K) mc ms (gA G)
/-- .. of a method with handlers -/
def CtH (G : GG) (w : MI) (args : List AV) (M : Mem) (h mc ms : Nat) (K : Out → Mem → Prop) : Prop := gOK G → vx_Met (gl G) (wy w) (wsW_ (wy w) (wc w) (wn w) (wr w) (wh w)) (rmO h mc ms) (cPre G args M) (kQ G K) (kX G K) mc ms (gA G)
/-- a method's end -/
def mEnd (G : GG) (K : Out → Mem → Prop) (mc ms : Nat) : XE := fun below args s => vx_MQ below (kQ G K) (kX G K) args s mc ms (gA G)
theorem cPre_blind (G : GG) (args : List AV) (M : Mem) : FrameBlind (cPre G args M) := fun a U g mk h => ⟨h.1, h.2⟩
theorem Ct.mk {G : GG} {w : MI} {args : List AV} {M : Mem} {h mc ms : Nat} {K : Out → Mem → Prop} (hy : plainName (wy w).cls = true) (hh : wh w = []) (hn : (aArg args).length ≤ wn w)
    (k : X G w (rmO h mc ms) (mEnd G K mc ms) 0 0 0 (aEn args (wn w)) [] M) : Ct G w args M h mc ms K := by
  intro hG
  refine vx_ofW (cc := wc w) (maxL := wn w) (ret := wr w) hy rfl ?_
  intro p e s m args0 below meth c s₁ B hml hex hv
  obtain ⟨rfl, hW, hH⟩ := hv
  have hts := atoms_spec B.pre
  have hts : ∀ q ∈ lw_all, q.before (args.map toV).toArray s = true := fun q h => hts q (List.mem_cons_of_mem _ h)
  rw [lg_entry_eq]
  have ht : c.exceptionTable.toList = tableOf (wh w) := by
    rw [hh]
    cases hc : c.exceptionTable.toList with
    | nil => rfl
    | cons a t => exact (hex a (by rw [hc]; exact List.mem_cons_self)).elim
  exact k p e s m _ below meth c s.heap [] _ ⟨B.exec, B.bytes, hml, B.returns, B.notSynchronized, findClass_of_methodNamed B.named, (name_of_methodNamed B.named B.method).1, hts, hG, hW, ht⟩ va_S.rf hH (aLH.en args hn)
theorem CtH.mk {G : GG} {w : MI} {args : List AV} {M : Mem} {h mc ms : Nat} {K : Out → Mem → Prop} (hy : plainName (wy w).cls = true) (hn : (aArg args).length ≤ wn w)
    (k : X G w (rmO h mc ms) (mEnd G K mc ms) 0 0 0 (aEn args (wn w)) [] M) : CtH G w args M h mc ms K := by
  intro hG
  refine vx_ofWH (cc := wc w) (maxL := wn w) (ret := wr w) (hh := wh w) hy rfl ?_
  intro p e s m args0 below meth c s₁ B hml hv
  obtain ⟨rfl, hW, hH⟩ := hv
  have hts0 := atoms_spec B.pre
  have hts : ∀ q ∈ lw_all, q.before (args.map toV).toArray s = true := fun q h => hts0 q (List.mem_cons_of_mem _ h)
  rw [lg_entry_eq]
  have ht : c.exceptionTable.toList = tableOf (wh w) := vx_table (x := wy w) B (hts0 _ List.mem_cons_self)
  exact k p e s m _ below meth c s.heap [] _ ⟨B.exec, B.bytes, hml, B.returns, B.notSynchronized, findClass_of_methodNamed B.named, (name_of_methodNamed B.named B.method).1, hts, hG, hW, ht⟩ va_S.rf hH (aLH.en args hn)
theorem Ct.weak {G : GG} {w : MI} {args : List AV} {M : Mem} {h mc ms : Nat} {K K' : Out → Mem → Prop} (c : Ct G w args M h mc ms K) (hk : ∀ o M', K o M' → K' o M') : Ct G w args M h mc ms K' := by
  intro hG p e h1 h2 h3 s m args0 below h4 h5 h6 h7
  obtain ⟨n, o, q1, q2, q3, q4⟩ := c hG p e h1 h2 h3 s m args0 below h4 h5 h6 h7
  refine ⟨n, o, q1, q2, q3, ?_⟩
  rcases q4 with ⟨⟨r, M', z1, z2, z3⟩, z4⟩ | ⟨q, z1, C, ce, L, ⟨M', z2, z3⟩, z4⟩
  · exact Or.inl ⟨⟨r, M', z1, hk _ _ z2, z3⟩, z4⟩
  · exact Or.inr ⟨q, z1, C, ce, L, ⟨M', hk _ _ z2, z3⟩, z4⟩
section XK
variable {G : GG} {w : MI} {R : Room} {E : XE} {cn sn pc : Nat} {L : List (Option AV)} {st : List AV} {M : Mem} {K : Out → Mem → Prop} {mc ms : Nat}
/-! answers -/
theorem x_iret {a : Int} (hr : wr w = some .int) (hd : decode (wc w) pc = .ok (.ireturn, 1)) (hc : cn ≤ mc ∧ sn ≤ ms) (hk : K (.inl (some (aI a))) M) : X G w R (mEnd G K mc ms) cn sn pc L [aI a] M := by
  intro p e s m args below meth cd H locs ls F hS hH hl
  refine W.widen hc.1 hc.2 (vx_ret (W.iret (v := Int32.ofInt a) F.1 F.2.1 (by rw [F.2.2.2.1, hr]) (fun t ht _ => ?_) hS.2.2 hd F.2.2.2.2.1))
  exact ⟨some (aI a), M, rfl, hk, by rw [ht]; exact hH, hS.F ht⟩
theorem x_zret {a : Int} (hr : wr w = some .boolean) (ha : a = 0 ∨ a = 1) (hd : decode (wc w) pc = .ok (.ireturn, 1)) (hc : cn ≤ mc ∧ sn ≤ ms) (hk : K (.inl (some (aI a))) M) : X G w R (mEnd G K mc ms) cn sn pc L [aI a] M := by
  intro p e s m args below meth cd H locs ls F hS hH hl
  refine W.widen hc.1 hc.2 (vx_ret (W.zret (v := Int32.ofInt a) F.1 F.2.1 (by rw [F.2.2.2.1, hr]) (okF_Z ha).1 (fun t ht _ => ?_) hS.2.2 hd F.2.2.2.2.1))
  exact ⟨some (aI a), M, rfl, hk, by rw [ht]; exact hH, hS.F ht⟩
theorem x_bret {a : Int} (hr : wr w = some .byte) (ha : -128 ≤ a ∧ a < 128) (hd : decode (wc w) pc = .ok (.ireturn, 1)) (hc : cn ≤ mc ∧ sn ≤ ms) (hk : K (.inl (some (aI a))) M) : X G w R (mEnd G K mc ms) cn sn pc L [aI a] M := by
  intro p e s m args below meth cd H locs ls F hS hH hl
  refine W.widen hc.1 hc.2 (vx_ret (W.zret (v := Int32.ofInt a) F.1 F.2.1 (by rw [F.2.2.2.1, hr]) (okF_B ha).1 (fun t ht _ => ?_) hS.2.2 hd F.2.2.2.2.1))
  exact ⟨some (aI a), M, rfl, hk, by rw [ht]; exact hH, hS.F ht⟩
theorem x_lret {a : Int} (hr : wr w = some .long) (hd : decode (wc w) pc = .ok (.lreturn, 1)) (hc : cn ≤ mc ∧ sn ≤ ms) (hk : K (.inl (some (aL a))) M) : X G w R (mEnd G K mc ms) cn sn pc L [aL a] M := by
  intro p e s m args below meth cd H locs ls F hS hH hl
  refine W.widen hc.1 hc.2 (vx_ret (W.lret (v := Int64.ofInt a) F.1 F.2.1 (by rw [F.2.2.2.1, hr]) (fun t ht _ => ?_) hS.2.2 hd F.2.2.2.2.1))
  exact ⟨some (aL a), M, rfl, hk, by rw [ht]; exact hH, hS.F ht⟩
theorem x_aret {r : Option Nat} {rt : FieldType} (hr : wr w = some rt) (hrt : (∃ n, rt = .object n) ∨ ∃ t, rt = .array t) (hd : decode (wc w) pc = .ok (.areturn, 1)) (hc : cn ≤ mc ∧ sn ≤ ms) (hk : K (.inl (some (aR r))) M) : X G w R (mEnd G K mc ms) cn sn pc L [aR r] M := by
  intro p e s m args below meth cd H locs ls F hS hH hl
  refine W.widen hc.1 hc.2 (vx_ret (W.aret (v := va_rf r) (rt := rt) F.1 F.2.1 (by rw [F.2.2.2.1, hr]) hrt (va_rf_or r) (fun t ht _ => ?_) hS.2.2 hd F.2.2.2.2.1))
  exact ⟨some (aR r), M, rfl, hk, by rw [ht]; exact hH, hS.F ht⟩
theorem x_vret (hr : wr w = none) (hd : decode (wc w) pc = .ok (.return_, 1)) (hc : cn ≤ mc ∧ sn ≤ ms) (hk : K (.inl none) M) : X G w R (mEnd G K mc ms) cn sn pc L [] M := by
  intro p e s m args below meth cd H locs ls F hS hH hl
  refine W.widen hc.1 hc.2 (vx_ret (W.vret F.1 F.2.1 (by rw [F.2.2.2.1, hr]) (fun t ht _ => ?_) hS.2.2 hd F.2.2.2.2.1))
  exact ⟨none, M, rfl, hk, by rw [ht]; exact hH, hS.F ht⟩
/-! exceptions: passed on; caught -/
theorem xt_out {C : String} (hh : wh w = []) (hc : cn ≤ mc ∧ sn ≤ ms) (hk : K (.inr C) M) : XT G w R (mEnd G K mc ms) cn sn pc L C M := by
  intro p e s m args below meth cd H locs ls rest q ce F hS hH hl h1 h2 h3
  have ht : cd.exceptionTable.toList = [] := by rw [F.2.2.2.2.2.2.2.2.2.2, hh]; rfl
  exact vx_out (fun x hx => by rw [ht] at hx; cases hx) F.2.2.2.2.1 h1 h2 h3 (fun t ht _ => ⟨M, hk, by rw [ht]; exact hH, hS.F ht⟩) hS.2.2 hc.1 hc.2
theorem xt_catch {C name : String} (pre : List ExceptionTableEntry) (x : ExceptionTableEntry) (suf : List ExceptionTableEntry) (hsplit : tableOf (wh w) = pre ++ x :: suf)
    (hpass : ∀ z ∈ pre, covers z pc = false ∨ (z.catchType ≠ 0 ∧ ∃ nm : String, Cond.classLink (wy w).cls z.catchType nm ∈ lw_all ∧ ∀ s, gOK G → gW G s → va_Nc C nm s)) (hx : covers x pc = true) (h0 : x.catchType ≠ 0)
    (hlink : Cond.classLink (wy w).cls x.catchType name ∈ lw_all) (hcast : Cond.castable C name ∈ lw_tbl)
    (kk : ∀ q, X G w R E cn sn x.handlerPc L [aR (some q)] M) : XT G w R E cn sn pc L C M := by
  intro p e s m args below meth cd H locs ls rest q ce F hS hH hl h1 h2 h3
  have hts : ∀ q ∈ lw_all, q.before args s = true := F.2.2.2.2.2.2.2.1
  have hG := F.2.2.2.2.2.2.2.2.1
  have hW := F.2.2.2.2.2.2.2.2.2.1
  exact vx_catch F.2.2.2.2.2.1 pre x suf (by rw [F.2.2.2.2.2.2.2.2.2.2]; exact hsplit) (fun z hz => (hpass z hz).imp id (fun ⟨a1, nm, a2, a3⟩ => ⟨a1, nm, hts _ a2, a3 s hG hW⟩)) hx h0 (hts _ hlink) ((va_Nw.warmC hW.1 (hG.2.2.1 _ hcast)).use rfl) h1 h2 h3 (kk q p e s m args below meth cd H locs ls F hS hH hl)
/-! calls: XC is a call whose callee keeps its contract, up to what is done behind it -/
def XCl (G : GG) (w : MI) (R : Room) (cn sn pc pc' : Nat) (L : List (Option AV)) (stk st : List AV) (M : Mem) (mc2 ms2 : Nat) (K2 : Out → Mem → Prop) : Prop :=
  ∀ E : XE, (∀ C M', K2 (.inr C) M' → XT G w R E (cn + mc2) (sn + ms2) pc L C M') → (∀ r M', K2 (.inl r) M' → X G w R E (cn + mc2) (sn + ms2) pc' L (r.toList ++ st) M') → X G w R E cn sn pc L stk M
def kV (post : Mem → Prop) : Out → Mem → Prop := fun o M' => o = .inl none ∧ post M'
def kI (post : Int → Mem → Prop) : Out → Mem → Prop := fun o M' => ∃ a, o = .inl (some (aI a)) ∧ post a M'
def kL (post : Int → Mem → Prop) : Out → Mem → Prop := fun o M' => ∃ a, o = .inl (some (aL a)) ∧ post a M'
def kR (post : Option Nat → Mem → Prop) : Out → Mem → Prop := fun o M' => ∃ r, o = .inl (some (aR r)) ∧ post r M'
/-- .. or throws -/
def kT (K : Out → Mem → Prop) (xp : String → Mem → Prop) : Out → Mem → Prop := fun o M' => K o M' ∨ ∃ C, o = .inr C ∧ xp C M'
variable {pc' mc2 ms2 : Nat} {stk : List AV} {K2 : Out → Mem → Prop}
theorem XCl.V {post : Mem → Prop} (h : XCl G w R cn sn pc pc' L stk st M mc2 ms2 (kV post)) (k : ∀ M', post M' → X G w R E (cn + mc2) (sn + ms2) pc' L st M') : X G w R E cn sn pc L stk M :=
  h E (fun C M' q => by cases q.1) (fun r M' q => by obtain ⟨e, q⟩ := q; cases e; exact k M' q)
theorem XCl.I {post : Int → Mem → Prop} (h : XCl G w R cn sn pc pc' L stk st M mc2 ms2 (kI post)) (k : ∀ a M', post a M' → X G w R E (cn + mc2) (sn + ms2) pc' L (aI a :: st) M') : X G w R E cn sn pc L stk M :=
  h E (fun C M' q => by obtain ⟨a, e, -⟩ := q; cases e) (fun r M' q => by obtain ⟨a, e, q⟩ := q; cases e; exact k a M' q)
theorem XCl.J {post : Int → Mem → Prop} (h : XCl G w R cn sn pc pc' L stk st M mc2 ms2 (kL post)) (k : ∀ a M', post a M' → X G w R E (cn + mc2) (sn + ms2) pc' L (aL a :: st) M') : X G w R E cn sn pc L stk M :=
  h E (fun C M' q => by obtain ⟨a, e, -⟩ := q; cases e) (fun r M' q => by obtain ⟨a, e, q⟩ := q; cases e; exact k a M' q)
theorem XCl.A {post : Option Nat → Mem → Prop} (h : XCl G w R cn sn pc pc' L stk st M mc2 ms2 (kR post)) (k : ∀ a M', post a M' → X G w R E (cn + mc2) (sn + ms2) pc' L (aR a :: st) M') : X G w R E cn sn pc L stk M :=
  h E (fun C M' q => by obtain ⟨a, e, -⟩ := q; cases e) (fun r M' q => by obtain ⟨a, e, q⟩ := q; cases e; exact k a M' q)
theorem XCl.VT {post : Mem → Prop} {xp : String → Mem → Prop} (h : XCl G w R cn sn pc pc' L stk st M mc2 ms2 (kT (kV post) xp)) (kx : ∀ C M', xp C M' → XT G w R E (cn + mc2) (sn + ms2) pc L C M') (k : ∀ M', post M' → X G w R E (cn + mc2) (sn + ms2) pc' L st M') : X G w R E cn sn pc L stk M :=
  h E (fun C M' q => by
    rcases q with ⟨e, -⟩ | ⟨C', e, q⟩
    · cases e
    · cases e; exact kx _ M' q) (fun r M' q => by
    rcases q with ⟨e, q⟩ | ⟨C', e, -⟩
    · cases e; exact k M' q
    · cases e)
theorem XCl.IT {post : Int → Mem → Prop} {xp : String → Mem → Prop} (h : XCl G w R cn sn pc pc' L stk st M mc2 ms2 (kT (kI post) xp)) (kx : ∀ C M', xp C M' → XT G w R E (cn + mc2) (sn + ms2) pc L C M') (k : ∀ a M', post a M' → X G w R E (cn + mc2) (sn + ms2) pc' L (aI a :: st) M') : X G w R E cn sn pc L stk M :=
  h E (fun C M' q => by
    rcases q with ⟨a, e, -⟩ | ⟨C', e, q⟩
    · cases e
    · cases e; exact kx _ M' q) (fun r M' q => by
    rcases q with ⟨a, e, q⟩ | ⟨C', e, -⟩
    · cases e; exact k a M' q
    · cases e)
theorem XCl.AT {post : Option Nat → Mem → Prop} {xp : String → Mem → Prop} (h : XCl G w R cn sn pc pc' L stk st M mc2 ms2 (kT (kR post) xp)) (kx : ∀ C M', xp C M' → XT G w R E (cn + mc2) (sn + ms2) pc L C M') (k : ∀ a M', post a M' → X G w R E (cn + mc2) (sn + ms2) pc' L (aR a :: st) M') : X G w R E cn sn pc L stk M :=
  h E (fun C M' q => by
    rcases q with ⟨a, e, -⟩ | ⟨C', e, q⟩
    · cases e
    · cases e; exact kx _ M' q) (fun r M' q => by
    rcases q with ⟨a, e, q⟩ | ⟨C', e, -⟩
    · cases e; exact k a M' q
    · cases e)
end XK
