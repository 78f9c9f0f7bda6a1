/-! rows on cells: fields, arrays, new ones -/
set_option maxRecDepth 100000
theorem toV_list (fs : List AV) (k : Nat) {v : AV} (h : fs[k]? = some v) : (fs.map toV)[k]? = some (toV v) := by
  rw [List.getElem?_map, h]; rfl
theorem gH.P {G : GG} {M : Mem} {H : Heap} (hH : gH G M H) {a : Nat} {c : ACl} (h : mG M a = some c) : va_P (gC G, gI G) pgCl [(a, toE G c)] H := by
  intro k q hk
  match k, hk with
  | 0, hk => cases hk; exact (hH.2.2 a c h).2
  | k + 1, hk => simp at hk
/-- a receiver whose class is known -/
def RC (G : GG) (M : Mem) (b : Nat) (C : String) : Prop := ∀ (s : State) (H : Heap), gOK G → gW G s → gH G M H → (∀ q, q < gB G → H[q]? = (gs G).heap[q]?) → ∃ cell : Cell, H[b]? = some cell ∧ cell.vm.isStatics = false ∧ s.vm.findClass C = some cell.cls
theorem rc_o {G : GG} {M : Mem} {b ci : Nat} {fs : List AV} {q : vw_C} (hM : mG M b = some (cO ci fs)) (hc : pgCl[ci]? = some q) : RC G M b q.1 :=
  fun s H hG hW hH _ => va_recv (hG.K hW) (hH.P hM) hc (q0 := 0) (fs := fs.map toV) (ci := ci) rfl
theorem gW.fr {G : GG} {s : State} {H : Heap} {locs : List Loc} (hW : gW G s) (hS : va_S (gA G) s.heap H locs) : ∀ q, q < gB G → H[q]? = (gs G).heap[q]? := by
  intro q hq
  rw [← hW.2.2 q hq]
  refine hS.2.1 q (Nat.lt_of_lt_of_le hq hW.2.1) ?_
  intro z
  have z1 : gB G ≤ q := z
  omega
/-- a field's type, and what may be put there -/
def okF (ty : FieldType) (v : AV) : Prop := narrow ty (toV v) = toV v ∧ fits ty (toV v) = true
theorem okF_I (a : Int) : okF .int (aI a) := ⟨rfl, rfl⟩
theorem okF_L (a : Int) : okF .long (aL a) := ⟨rfl, rfl⟩
theorem okF_O (c : String) (r : Option Nat) : okF (.object c) (aR r) := by cases r <;> exact ⟨rfl, rfl⟩
theorem okF_A (t : FieldType) (r : Option Nat) : okF (.array t) (aR r) := by cases r <;> exact ⟨rfl, rfl⟩
theorem okF_Z {a : Int} (h : a = 0 ∨ a = 1) : okF .boolean (aI a) := by
  rcases h with rfl | rfl <;> exact ⟨by decide, by decide⟩
theorem okF_B {a : Int} (h : -128 ≤ a ∧ a < 128) : okF .byte (aI a) := by
  have h1 : (Int32.ofInt a).toInt8.toInt32 = Int32.ofInt a := by
    rw [← Int32.toInt_inj, Int8.toInt_toInt32, Int32.toInt8_ofInt, Int8.toInt_ofInt_of_le (by simpa using h.1) (by simpa using h.2), i32_toInt (by omega)]
  have h2 : narrow .byte (.int (Int32.ofInt a)) = .int (Int32.ofInt a) := by
    show Value.int (Int32.ofInt a).toInt8.toInt32 = _
    rw [h1]
  refine ⟨h2, ?_⟩
  have h3 := pk_fb (Int32.ofInt a)
  rw [h1] at h3
  exact h3
section XM
variable {G : GG} {w : MI} {R : Room} {E : XE} {cn sn pc : Nat} {L : List (Option AV)} {st : List AV} {M : Mem}
theorem x_get {C : String} {T : u_T} {N ci k i a : Nat} {ref : String} {fs : List AV} {v : AV} (hc : pgCl[ci]? = some (C, T, N)) (hin : ∀ q ∈ u_ws C T N, q ∈ lw_all) (hk : k < N)
    (hlink : Cond.fieldLink (wy w).cls i ref (T k).2.1 (T k).2.2.1 ∈ lw_all) (hsame : ref = (T k).1 ∨ Cond.sameField ref (T k).1 (T k).2.1 (T k).2.2.1 ∈ lw_all)
    (hM : mG M a = some (cO ci fs)) (hv : fs[k]? = some v) (hd : decode (wc w) pc = .ok (.getfield i, 3))
    (kk : X G w R E cn sn (pc + 3) L (v :: st) M) : X G w R E cn sn pc L (aR (some a) :: st) M := by
  intro p e s m args below meth cd H locs ls F hS hH hl
  have hts : ∀ q ∈ lw_all, q.before args s = true := F.2.2.2.2.2.2.2.1
  refine va_get (ci := ci) (C := C) (T := T) (N := N) F.1 F.2.1 hts hin F.2.2.2.2.2.1 (F.2.2.2.2.2.2.2.2.1.K F.2.2.2.2.2.2.2.2.2.1) (hH.P hM) 0 rfl hc k hk (hts _ hlink) ?_ (toV_list fs k hv) hd (kk p e s m args below meth cd H locs ls F hS hH hl)
  rcases hsame with h | h
  · intro x hx; rw [h]; exact hx
  · exact fun x hx => u_same (hts _ h) x hx
/-- .. of a nest mate -/
theorem x_getN {C : String} {T : u_T} {N ci k i a : Nat} {host : String} {fs : List AV} {v : AV} (hc : pgCl[ci]? = some (C, T, N)) (hin : ∀ q ∈ u_ws C T N, q ∈ lw_all) (hk : k < N)
    (hlink : Cond.fieldLinkNest (wy w).cls i (T k).1 (T k).2.1 (T k).2.2.1 host ∈ lw_tbl)
    (hM : mG M a = some (cO ci fs)) (hv : fs[k]? = some v) (hd : decode (wc w) pc = .ok (.getfield i, 3))
    (kk : X G w R E cn sn (pc + 3) L (v :: st) M) : X G w R E cn sn pc L (aR (some a) :: st) M := by
  intro p e s m args below meth cd H locs ls F hS hH hl
  have hts : ∀ q ∈ lw_all, q.before args s = true := F.2.2.2.2.2.2.2.1
  have hG := F.2.2.2.2.2.2.2.2.1
  have hW := F.2.2.2.2.2.2.2.2.2.1
  exact va_getN (ci := ci) (C := C) (T := T) (N := N) F.1 F.2.1 hts hin F.2.2.2.2.2.1 (hG.K hW) (hH.P hM) 0 rfl hc k hk ((va_Nw.warmF hW.1 (hG.2.2.1 _ hlink)).use rfl) (fun _ h => h) (toV_list fs k hv) hd (kk p e s m args below meth cd H locs ls F hS hH hl)
theorem set_map (fs : List AV) (k : Nat) (v : AV) : (fs.set k v).map toV = (fs.map toV).set k (toV v) := by rw [List.map_set]
theorem x_put {C : String} {T : u_T} {N ci k i a : Nat} {ref : String} {fs : List AV} {v : AV} (hc : pgCl[ci]? = some (C, T, N)) (hin : ∀ q ∈ u_ws C T N, q ∈ lw_all) (ty0 : Nat → FieldType) (hty : ∀ k, k < N → parseFieldDescriptor (T k).2.2.1 = some (ty0 k)) (hnm : ∀ a, a < N → ∀ b, b < N → a ≠ b → (T a).2.1 ≠ (T b).2.1) (hk : k < N)
    (hlink : Cond.fieldLink (wy w).cls i ref (T k).2.1 (T k).2.2.1 ∈ lw_all) (hsame : ref = (T k).1 ∨ Cond.sameField ref (T k).1 (T k).2.1 (T k).2.2.1 ∈ lw_all) (hfin : (T k).2.2.2 = false)
    (hM : mG M a = some (cO ci fs)) (hlen : k < fs.length) (hok : okF (ty0 k) v) (hd : decode (wc w) pc = .ok (.putfield i, 3))
    (kk : X G w R E cn sn (pc + 3) L st (mS M a (cO ci (fs.set k v)))) : X G w R E cn sn pc L (v :: aR (some a) :: st) M := by
  intro p e s m args below meth cd H locs ls F hS hH hl
  have hts : ∀ q ∈ lw_all, q.before args s = true := F.2.2.2.2.2.2.2.1
  have hG := F.2.2.2.2.2.2.2.2.1
  have hW := F.2.2.2.2.2.2.2.2.2.1
  have hK := hG.K hW
  have hown := F.2.2.2.2.2.1
  have hap := va_apart (own := (wy w).cls) hts hin ty0 hty hnm hK hc
  obtain ⟨r, h1, cell, q1, q2, q3, q4⟩ := hH.P hM 0 _ rfl
  have hr : r = (C, T, N) := Option.some.inj (h1.symm.trans hc)
  subst hr
  obtain ⟨hSl, hfc, kC, hkC, hkind⟩ := hK.1 ci _ hc
  obtain ⟨cf, kf, fi, f, hi, hsl⟩ := hSl k hk
  have hlay := hts _ (hin _ (u_in_lay hk))
  unfold u_lay at hlay
  rw [if_neg (by rw [hfin]; decide)] at hlay
  have hst := (u_facts hfc hkC (u_lays hts hin hk) hi).1
  have h6 := u_store hfc hkC hkind hlay hi (hty k hk) hok.1 hok.2
  have hs2 : s.fieldFound? ref (T k).2.1 (T k).2.2.1 = some (cf, kf, fi, f) := by
    rcases hsame with h | h
    · rw [h]; exact hi
    · exact u_same (hts _ h) _ hi
  refine W.putK F.1 F.2.1 (f := f) ⟨hown, hts _ hlink, ⟨_, _, _, hs2⟩, hst⟩ (by rw [q2]; exact h6) q1 q3 (by rw [hsl]; exact k2_hasslot (q4 k hk)) rfl rfl hd fun H' e1 e2 e3 => ?_
  rw [hsl] at e1 ⊢
  refine kk p e s m args below meth cd H' _ ls F (hS.put2 e2 e3 (hH.2.2 a _ hM).1) (hH.set hM e2 e3 ⟨_, hc, ?_⟩) hl
  rw [show (toE G (cO ci (fs.set k v))) = .inr (ci, (fs.set k v).map toV) from rfl]
  rw [set_map]
  exact t_OB.to (V := updV (vp_V (fs.map toV)) k (toV v)) ⟨_, e1, q2, q3, t_set q4 hap hk (toV v)⟩ (fun j _ => vp_updV_set (by simpa using hlen) (toV v) j)
/-- a final field, in its class's constructor -/
theorem x_putF {C : String} {T : u_T} {N ci k i a : Nat} {fs : List AV} {v : AV} (hc : pgCl[ci]? = some (C, T, N)) (hin : ∀ q ∈ u_ws C T N, q ∈ lw_all) (ty0 : Nat → FieldType) (hty : ∀ k, k < N → parseFieldDescriptor (T k).2.2.1 = some (ty0 k)) (hnm : ∀ a, a < N → ∀ b, b < N → a ≠ b → (T a).2.1 ≠ (T b).2.1) (hk : k < N)
    (hlink : Cond.fieldLink (wy w).cls i (T k).1 (T k).2.1 (T k).2.2.1 ∈ lw_all) (hcf : (wy w).cls = (T k).1) (hfin : (T k).2.2.2 = true) (hini : (wy w).name = "<init>")
    (hM : mG M a = some (cO ci fs)) (hlen : k < fs.length) (hok : okF (ty0 k) v) (hd : decode (wc w) pc = .ok (.putfield i, 3))
    (kk : X G w R E cn sn (pc + 3) L st (mS M a (cO ci (fs.set k v)))) : X G w R E cn sn pc L (v :: aR (some a) :: st) M := by
  intro p e s m args below meth cd H locs ls F hS hH hl
  have hts : ∀ q ∈ lw_all, q.before args s = true := F.2.2.2.2.2.2.2.1
  have hG := F.2.2.2.2.2.2.2.2.1
  have hW := F.2.2.2.2.2.2.2.2.2.1
  have hK := hG.K hW
  have hown := F.2.2.2.2.2.1
  have hap := va_apart (own := (wy w).cls) hts hin ty0 hty hnm hK hc
  obtain ⟨r, h1, cell, q1, q2, q3, q4⟩ := hH.P hM 0 _ rfl
  have hr : r = (C, T, N) := Option.some.inj (h1.symm.trans hc)
  subst hr
  obtain ⟨hSl, hfc, kC, hkC, hkind⟩ := hK.1 ci _ hc
  obtain ⟨cf, kf, fi, f, hi, hsl⟩ := hSl k hk
  have hlay := hts _ (hin _ (u_in_lay hk))
  unfold u_lay at hlay
  rw [if_pos hfin] at hlay
  have hst := (u_facts hfc hkC (u_lays hts hin hk) hi).1
  have h7 := u_fits hfc hkC hkind (u_lays hts hin hk) hi (hty k hk) hok.1 hok.2
  have hown2 : s.vm.findClass (T k).1 = some m.cls := hcf ▸ hown
  have hdec : m.cls = cf := by
    obtain ⟨_, _, c', _, _, _, -, -, hf', -, -, -, hown3, -⟩ := Cond.laysFinal_spec hlay
    have e1 : c' = cf := by have := hi.symm.trans hf'; simp at this; exact this.1.symm
    rw [← e1]; exact Option.some.inj (hown2.symm.trans hown3)
  refine W.putFinK F.1 F.2.1 (f := f) hown (hts _ hlink) hi hst hdec (by rw [F.2.2.2.2.2.2.1]; exact hini) (by rw [q2]; exact h7) q1 q3 (by rw [hsl]; exact k2_hasslot (q4 k hk)) rfl rfl hd fun H' e1 e2 e3 => ?_
  rw [hsl] at e1 ⊢
  refine kk p e s m args below meth cd H' _ ls F (hS.put2 e2 e3 (hH.2.2 a _ hM).1) (hH.set hM e2 e3 ⟨_, hc, ?_⟩) hl
  rw [show (toE G (cO ci (fs.set k v))) = .inr (ci, (fs.set k v).map toV) from rfl]
  rw [set_map]
  exact t_OB.to (V := updV (vp_V (fs.map toV)) k (toV v)) ⟨_, e1, q2, q3, t_set q4 hap hk (toV v)⟩ (fun j _ => vp_updV_set (by simpa using hlen) (toV v) j)
end XM
section XA
variable {G : GG} {w : MI} {R : Room} {E : XE} {cn sn pc : Nat} {L : List (Option AV)} {st : List AV} {M : Mem}
theorem i32_ofNat (n : Nat) : Int32.ofNat n = Int32.ofInt (n : Int) := by
  rw [← Int32.ofInt_eq_ofNat]
theorem x_alen {k n a : Nat} {c : AA} (hM : mG M a = some (.inl (k, n, c))) (hk : k < 6) (hn : n < 2147483648) (hd : decode (wc w) pc = .ok (.arraylength, 1))
    (kk : X G w R E cn sn (pc + 1) L (aI (n : Int) :: st) M) : X G w R E cn sn pc L (aR (some a) :: st) M := by
  intro p e s m args below meth cd H locs ls F hS hH hl
  have hG := F.2.2.2.2.2.2.2.2.1
  have hW := F.2.2.2.2.2.2.2.2.2.1
  refine va_alen (v := Int32.ofInt (n : Int)) F.1 F.2.1 (hG.K hW) (hH.P hM) 0 k rfl (gTys_at G k hk) ?_ hd (kk p e s m args below meth cd H locs ls F hS hH hl)
  exact i32_ofNat n
theorem x_iald {a n : Nat} {i : Int} {f : Nat → Int} (j : Nat) (hM : mG M a = some (cI n f)) (hi : i = (j : Int)) (hj : j < n ∧ j < 2147483648) (hd : decode (wc w) pc = .ok (.iaload, 1))
    (kk : X G w R E cn sn (pc + 1) L (aI (f j) :: st) M) : X G w R E cn sn pc L (aI i :: aR (some a) :: st) M := by
  intro p e s m args below meth cd H locs ls F hS hH hl
  subst hi
  have hG := F.2.2.2.2.2.2.2.2.1
  have hW := F.2.2.2.2.2.2.2.2.2.1
  obtain ⟨h1, h2⟩ := i32_in (a := (j : Int)) (n := n) ⟨by omega, by omega⟩ (by omega)
  have k1 := kk p e s m args below meth cd H locs ls F hS hH hl
  refine va_iald (f := fun j => Int32.ofInt (f j)) F.1 F.2.1 (hG.K hW) (hH.P hM) 0 0 rfl (gTys_at G 0 (by decide)) h1 hd ?_
  rw [h2]
  exact k1
theorem x_bald {a n : Nat} {i : Int} {f : Nat → Int} (j : Nat) (hM : mG M a = some (cY n f)) (hi : i = (j : Int)) (hj : j < n ∧ j < 2147483648) (hd : decode (wc w) pc = .ok (.baload, 1))
    (kk : X G w R E cn sn (pc + 1) L (aI (f j) :: st) M) : X G w R E cn sn pc L (aI i :: aR (some a) :: st) M := by
  intro p e s m args below meth cd H locs ls F hS hH hl
  subst hi
  have hG := F.2.2.2.2.2.2.2.2.1
  have hW := F.2.2.2.2.2.2.2.2.2.1
  obtain ⟨h1, h2⟩ := i32_in (a := (j : Int)) (n := n) ⟨by omega, by omega⟩ (by omega)
  have k1 := kk p e s m args below meth cd H locs ls F hS hH hl
  refine va_bald (f := fun j => Int32.ofInt (f j)) F.1 F.2.1 (hG.K hW) (hH.P hM) 0 2 rfl (gTys_at G 2 (by decide)) h1 hd ?_
  rw [h2]
  exact k1
theorem x_lald {a n : Nat} {i : Int} {f : Nat → Int} (j : Nat) (hM : mG M a = some (cL n f)) (hi : i = (j : Int)) (hj : j < n ∧ j < 2147483648) (hd : decode (wc w) pc = .ok (.laload, 1))
    (kk : X G w R E cn sn (pc + 1) L (aL (f j) :: st) M) : X G w R E cn sn pc L (aI i :: aR (some a) :: st) M := by
  intro p e s m args below meth cd H locs ls F hS hH hl
  subst hi
  have hG := F.2.2.2.2.2.2.2.2.1
  have hW := F.2.2.2.2.2.2.2.2.2.1
  obtain ⟨h1, h2⟩ := i32_in (a := (j : Int)) (n := n) ⟨by omega, by omega⟩ (by omega)
  have k1 := kk p e s m args below meth cd H locs ls F hS hH hl
  refine va_lald (f := fun j => Int64.ofInt (f j)) F.1 F.2.1 (hG.K hW) (hH.P hM) 0 1 rfl (gTys_at G 1 (by decide)) h1 hd ?_
  rw [h2]
  exact k1
theorem pgTy_ref {k : Nat} (hk : 3 ≤ k) : (pgTy k).isReference = true := by
  match k, hk with
  | 3, _ => rfl
  | 4, _ => rfl
  | k + 5, _ => rfl
theorem x_aald {a n k : Nat} {i : Int} {f : Nat → Option Nat} (j : Nat) (hM : mG M a = some (cQ k n f)) (hk : 3 ≤ k ∧ k < 6) (hi : i = (j : Int)) (hj : j < n ∧ j < 2147483648) (hd : decode (wc w) pc = .ok (.aaload, 1))
    (kk : X G w R E cn sn (pc + 1) L (aR (f j) :: st) M) : X G w R E cn sn pc L (aI i :: aR (some a) :: st) M := by
  intro p e s m args below meth cd H locs ls F hS hH hl
  subst hi
  have hG := F.2.2.2.2.2.2.2.2.1
  have hW := F.2.2.2.2.2.2.2.2.2.1
  obtain ⟨h1, h2⟩ := i32_in (a := (j : Int)) (n := n) ⟨by omega, by omega⟩ (by omega)
  have k1 := kk p e s m args below meth cd H locs ls F hS hH hl
  refine W.aald (v := va_rf (f j)) F.1 F.2.1 (hH.P hM 0 _ rfl) (hG.arr hW hk.2 n (fun j => va_rf (f j))) (pgTy_ref hk.1) (fun q => by cases q) ?_ ?_ rfl rfl hd k1
  · show ¬ (_ < 0 ∨ (arrV _ _ _).slots.size ≤ _)
    rw [arrV_size]
    exact h1
  · show (arrV _ _ _).slots[_]? = _
    rw [h2, arrV_read _ _ (show (j : Int).toNat < n by omega)]
    rfl
theorem upd_aup {α : Type} (mk : α → Value) (f : Nat → α) (k : Nat) (x : α) : updV (fun j => mk (f j)) k (mk x) = fun j => mk (aup f k x j) := by
  funext q
  simp only [updV, aup]
  split <;> rfl
theorem x_iast {a n : Nat} {i x : Int} {f : Nat → Int} (j : Nat) (hM : mG M a = some (cI n f)) (hi : i = (j : Int)) (hj : j < n ∧ j < 2147483648) (hd : decode (wc w) pc = .ok (.iastore, 1))
    (kk : X G w R E cn sn (pc + 1) L st (mS M a (cI n (aup f j x)))) : X G w R E cn sn pc L (aI x :: aI i :: aR (some a) :: st) M := by
  intro p e s m args below meth cd H locs ls F hS hH hl
  subst hi
  have hG := F.2.2.2.2.2.2.2.2.1
  have hW := F.2.2.2.2.2.2.2.2.2.1
  obtain ⟨h1, h2⟩ := i32_in (a := (j : Int)) (n := n) ⟨by omega, by omega⟩ (by omega)
  refine W.iast F.1 F.2.1 (hH.P hM 0 _ rfl) (hG.arr hW (k := 0) (by decide) n (fun j => .int (Int32.ofInt (f j)))) (fun q => by cases q) ?_ rfl rfl hd fun H1 e1 e2 e3 => ?_
  · show ¬ (_ < 0 ∨ (arrV _ _ _).slots.size ≤ _)
    rw [arrV_size]
    exact h1
  · refine kk p e s m args below meth cd H1 _ ls F (hS.put2 e2 e3 (hH.2.2 a _ hM).1) (hH.set hM e2 e3 ?_) hl
    show H1[a]? = some (vp_cell (gR G 0) (n, .inl fun q => Int32.ofInt (aup f j x q)))
    rw [e1]
    show some ((arrV (gR G 0) n (fun q => Value.int (Int32.ofInt (f q)))).setSlot _ _) = some (arrV (gR G 0) n (fun q => Value.int (Int32.ofInt (aup f j x q))))
    rw [arrV_store, h2, show (j : Int).toNat = j from rfl, upd_aup (fun x : Int => Value.int (Int32.ofInt x))]
theorem x_bast {a n : Nat} {i x : Int} {f : Nat → Int} (j : Nat) (hM : mG M a = some (cY n f)) (hi : i = (j : Int)) (hj : j < n ∧ j < 2147483648) (hx : -128 ≤ x ∧ x < 128) (hd : decode (wc w) pc = .ok (.bastore, 1))
    (kk : X G w R E cn sn (pc + 1) L st (mS M a (cY n (aup f j x)))) : X G w R E cn sn pc L (aI x :: aI i :: aR (some a) :: st) M := by
  intro p e s m args below meth cd H locs ls F hS hH hl
  subst hi
  have hG := F.2.2.2.2.2.2.2.2.1
  have hW := F.2.2.2.2.2.2.2.2.2.1
  obtain ⟨h1, h2⟩ := i32_in (a := (j : Int)) (n := n) ⟨by omega, by omega⟩ (by omega)
  refine W.bast F.1 F.2.1 (hH.P hM 0 _ rfl) (hG.arr hW (k := 2) (by decide) n (fun j => .int (Int32.ofInt (f j)))) (fun q => by cases q) ?_ rfl rfl hd fun H1 e1 e2 e3 => ?_
  · show ¬ (_ < 0 ∨ (arrV _ _ _).slots.size ≤ _)
    rw [arrV_size]
    exact h1
  · refine kk p e s m args below meth cd H1 _ ls F (hS.put2 e2 e3 (hH.2.2 a _ hM).1) (hH.set hM e2 e3 ?_) hl
    show H1[a]? = some (vp_cell (gR G 2) (n, .inl fun q => Int32.ofInt (aup f j x q)))
    rw [e1, show narrow .byte (.int (Int32.ofInt x)) = .int (Int32.ofInt x) from (okF_B hx).1]
    show some ((arrV (gR G 2) n (fun q => Value.int (Int32.ofInt (f q)))).setSlot _ _) = some (arrV (gR G 2) n (fun q => Value.int (Int32.ofInt (aup f j x q))))
    rw [arrV_store, h2, show (j : Int).toNat = j from rfl, upd_aup (fun x : Int => Value.int (Int32.ofInt x))]
theorem x_last {a n : Nat} {i x : Int} {f : Nat → Int} (j : Nat) (hM : mG M a = some (cL n f)) (hi : i = (j : Int)) (hj : j < n ∧ j < 2147483648) (hd : decode (wc w) pc = .ok (.lastore, 1))
    (kk : X G w R E cn sn (pc + 1) L st (mS M a (cL n (aup f j x)))) : X G w R E cn sn pc L (aL x :: aI i :: aR (some a) :: st) M := by
  intro p e s m args below meth cd H locs ls F hS hH hl
  subst hi
  have hG := F.2.2.2.2.2.2.2.2.1
  have hW := F.2.2.2.2.2.2.2.2.2.1
  obtain ⟨h1, h2⟩ := i32_in (a := (j : Int)) (n := n) ⟨by omega, by omega⟩ (by omega)
  refine W.last F.1 F.2.1 (hH.P hM 0 _ rfl) (hG.arr hW (k := 1) (by decide) n (fun j => .long (Int64.ofInt (f j)))) (fun q => by cases q) ?_ rfl rfl hd fun H1 e1 e2 e3 => ?_
  · show ¬ (_ < 0 ∨ (arrV _ _ _).slots.size ≤ _)
    rw [arrV_size]
    exact h1
  · refine kk p e s m args below meth cd H1 _ ls F (hS.put2 e2 e3 (hH.2.2 a _ hM).1) (hH.set hM e2 e3 ?_) hl
    show H1[a]? = some (vp_cell (gR G 1) (n, .inr (.inl fun q => Int64.ofInt (aup f j x q))))
    rw [e1]
    show some ((arrV (gR G 1) n (fun q => Value.long (Int64.ofInt (f q)))).setSlot _ _) = some (arrV (gR G 1) n (fun q => Value.long (Int64.ofInt (aup f j x q))))
    rw [arrV_store, h2, show (j : Int).toNat = j from rfl, upd_aup (fun x : Int => Value.long (Int64.ofInt x))]
/-- what may be put into an array of references of a kind -/
def okQ (G : GG) (M : Mem) (k : Nat) (b : Nat) : Prop := ∀ (s : State) (H : Heap), gOK G → gW G s → gH G M H → (∀ q, q < gB G → H[q]? = (gs G).heap[q]?) →
  ∃ (cv : Cell) (kv : Class), H[b]? = some cv ∧ (∀ q, cv.vm ≠ .statics q) ∧ s.vm.classes[cv.cls]? = some kv ∧ ∀ (kA : Class) (cm : ClassId) (comp : FieldType), s.vm.classes[gR G k]? = some kA → kA.kind = .array cm comp → s.vm.assignable cv.cls cm = true
theorem gArr.at {G : GG} {s : State} (hG : gOK G) (hW : gW G s) {k : Nat} (hk : 3 ≤ k ∧ k < 6) : ∃ (kA : Class) (cm : ClassId) (kc : Class) (comp : FieldType), s.vm.classes[gR G k]? = some kA ∧ kA.kind = .array cm comp ∧ comp.isReference = true ∧ s.vm.classes[cm]? = some kc := by
  have key : ∀ {comp : FieldType} {nm : String}, comp.isReference = true → gArr G (gs G) k comp nm → ∃ (kA : Class) (cm : ClassId) (kc : Class) (comp : FieldType), s.vm.classes[gR G k]? = some kA ∧ kA.kind = .array cm comp ∧ comp.isReference = true ∧ s.vm.classes[cm]? = some kc := by
    intro comp nm hr h
    obtain ⟨kA, cm, kc, h1, h2, h3, h4⟩ := h
    obtain ⟨k', hk', he⟩ := hW.alike.2.2 _ _ h1
    obtain ⟨c', hc', -⟩ := hW.alike.2.2 _ _ h4
    exact ⟨k', cm, c', comp, hk', by rw [he]; exact h2, hr, hc'⟩
  obtain ⟨-, -, -, h3, h4, h5, -⟩ := hG
  match k, hk with
  | 3, _ => exact key rfl h3
  | 4, _ => exact key rfl h4
  | 5, _ => exact key rfl h5
  | k + 6, hk => exact absurd hk.2 (by omega)
theorem x_aast {a n k b : Nat} {i : Int} {f : Nat → Option Nat} (j : Nat) (hM : mG M a = some (cQ k n f)) (hk : 3 ≤ k ∧ k < 6) (hi : i = (j : Int)) (hj : j < n ∧ j < 2147483648) (hb : okQ G M k b) (hd : decode (wc w) pc = .ok (.aastore, 1))
    (kk : X G w R E cn sn (pc + 1) L st (mS M a (cQ k n (aup f j (some b))))) : X G w R E cn sn pc L (aR (some b) :: aI i :: aR (some a) :: st) M := by
  intro p e s m args below meth cd H locs ls F hS hH hl
  subst hi
  have hG := F.2.2.2.2.2.2.2.2.1
  have hW := F.2.2.2.2.2.2.2.2.2.1
  obtain ⟨h1, h2⟩ := i32_in (a := (j : Int)) (n := n) ⟨by omega, by omega⟩ (by omega)
  obtain ⟨kA, cm, kc, comp, g1, g2, g3, g4⟩ := gArr.at hG hW hk
  obtain ⟨cv, kv, v1, v2, v3, v4⟩ := hb s H hG hW hH (hW.fr hS)
  refine W.aast (t := comp) F.1 F.2.1 (hH.P hM 0 _ rfl) (fun q z => by cases z) (fun q => by cases q) g1 g2 g3 g4 ?_ v1 v2 v3 (v4 _ _ _ g1 g2) rfl rfl hd fun H1 e1 e2 e3 => ?_
  · show ¬ _ < 0 ∧ _ < (arrV _ _ _).slots.size
    rw [arrV_size]
    exact ⟨fun q => h1 (Or.inl q), Nat.not_le.mp fun q => h1 (Or.inr q)⟩
  · refine kk p e s m args below meth cd H1 _ ls F (hS.put2 e2 e3 (hH.2.2 a _ hM).1) (hH.set hM e2 e3 ?_) hl
    show H1[a]? = some (vp_cell (gR G k) (n, .inr (.inr (.inr (.inr (aup f j (some b)))))))
    rw [e1]
    show some ((arrV (gR G k) n (fun q => va_rf (f q))).setSlot _ _) = some (arrV (gR G k) n (fun q => va_rf (aup f j (some b) q)))
    rw [arrV_store, h2, show (j : Int).toNat = j from rfl, show Value.ref b = va_rf (some b) from rfl, upd_aup (fun x : Option Nat => va_rf x)]
end XA
