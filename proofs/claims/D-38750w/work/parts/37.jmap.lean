/-! a TreeMap as a sorted row of keys and values; the search -/
set_option maxRecDepth 100000
section JN
variable {G : GG} {M : Mem}
/-- entries against keys' contents and values -/
def KL (G : GG) (M : Mem) (i : Bool) : List (Nat × Nat × Nat) → List (List Nat × Nat) → Prop
  | [], [] => True
  | (_, k, v) :: L, (x, u) :: es => Ky G M i k x ∧ v = u ∧ KL G M i L es
  | _, _ => False
def Srt (es : List (List Nat × Nat)) : Prop := es.Pairwise fun p q => lx p.1 q.1 = -1
theorem KL.app {i : Bool} {L1 L2 : List (Nat × Nat × Nat)} {es : List (List Nat × Nat)} : KL G M i (L1 ++ L2) es ↔ ∃ e1 e2, es = e1 ++ e2 ∧ KL G M i L1 e1 ∧ KL G M i L2 e2 := by
  induction L1 generalizing es with
  | nil =>
    constructor
    · intro h
      exact ⟨[], es, rfl, trivial, h⟩
    · rintro ⟨e1, e2, rfl, h1, h2⟩
      cases e1 with
      | nil => exact h2
      | cons a e => exact False.elim h1
  | cons q L ih =>
    obtain ⟨a, k, v⟩ := q
    constructor
    · intro h
      cases es with
      | nil => exact False.elim h
      | cons p es =>
        obtain ⟨x, u⟩ := p
        obtain ⟨h1, h2, h3⟩ := h
        obtain ⟨e1, e2, rfl, h4, h5⟩ := ih.mp h3
        exact ⟨(x, u) :: e1, e2, rfl, ⟨h1, h2, h4⟩, h5⟩
    · rintro ⟨e1, e2, rfl, h1, h2⟩
      cases e1 with
      | nil => exact False.elim h1
      | cons p e =>
        obtain ⟨x, u⟩ := p
        exact ⟨h1.1, h1.2.1, ih.mpr ⟨e, e2, rfl, h1.2.2, h2⟩⟩
theorem KL.mono {M M' : Mem} {i : Bool} {L : List (Nat × Nat × Nat)} {es : List (List Nat × Nat)} (h : KL G M i L es) (hk : ∀ k x, Ky G M i k x → Ky G M' i k x) : KL G M' i L es := by
  induction L generalizing es with
  | nil => cases es with
    | nil => trivial
    | cons p es => exact h
  | cons q L ih =>
    obtain ⟨a, k, v⟩ := q
    cases es with
    | nil => exact h
    | cons p es => exact ⟨hk _ _ h.1, h.2.1, ih h.2.2⟩
theorem KL.one {i : Bool} {a k v : Nat} {es : List (List Nat × Nat)} {L : List (Nat × Nat × Nat)} (h : KL G M i ((a, k, v) :: L) es) : ∃ x e2, es = (x, v) :: e2 ∧ Ky G M i k x ∧ KL G M i L e2 := by
  cases es with
  | nil => exact False.elim h
  | cons p es =>
    obtain ⟨x, u⟩ := p
    obtain ⟨h1, rfl, h3⟩ := h
    exact ⟨x, es, rfl, h1, h3⟩
/-- a search for x has come to this place -/
def Sch (G : GG) (M : Mem) (i : Bool) (x : List Nat) (t : Tr) (es : List (List Nat × Nat)) (cx : List Fr) (t1 : Tr) : Prop := t = plug cx t1 ∧ ∃ e1 e2 e3, es = e1 ++ (e2 ++ e3) ∧ KL G M i (cl cx) e1 ∧ KL G M i (tIo t1) e2 ∧ KL G M i (cr cx) e3 ∧ (∀ p, p ∈ e1 → lx p.1 x = -1) ∧ (∀ p, p ∈ e3 → lx x p.1 = -1)
/-- .. has found it -/
def Fnd (G : GG) (M : Mem) (i : Bool) (x : List Nat) (es : List (List Nat × Nat)) (cx : List Fr) (k v : Nat) (l r : Tr) : Prop := ∃ e1 e3, es = e1 ++ (x, v) :: e3 ∧ KL G M i (cl cx ++ tIo l) e1 ∧ Ky G M i k x ∧ KL G M i (tIo r ++ cr cx) e3 ∧ (∀ p, p ∈ e1 → lx p.1 x = -1) ∧ (∀ p, p ∈ e3 → lx x p.1 = -1)
theorem Sch.init {i : Bool} (x : List Nat) {t : Tr} {es : List (List Nat × Nat)} (h : KL G M i (tIo t) es) : Sch G M i x t es [] t := ⟨rfl, [], es, [], by simp, trivial, h, trivial, (fun p hp => (by cases hp)), (fun p hp => (by cases hp))⟩
theorem Sch.nd {i : Bool} {x : List Nat} {t : Tr} {es : List (List Nat × Nat)} {cx : List Fr} {a k v : Nat} {c : Int} {l r : Tr} (hs : Srt es) (h : Sch G M i x t es cx (nd a k v c l r)) :
    ∃ y, Ky G M i k y ∧ (lx x y = -1 → Sch G M i x t es ((true, a, k, v, c, r) :: cx) l) ∧ (lx x y = 1 → Sch G M i x t es ((false, a, k, v, c, l) :: cx) r) ∧ (lx x y = 0 → Fnd G M i x es cx k v l r) := by
  obtain ⟨ht, e1, e2, e3, rfl, h1, h2, h3, h4, h5⟩ := h
  rw [tIo_nd] at h2
  obtain ⟨f1, f0, rfl, g1, g0⟩ := KL.app.mp h2
  obtain ⟨y, f2, rfl, hy, g2⟩ := g0.one
  have hs2 := hs
  unfold Srt at hs2
  rw [List.pairwise_append] at hs2
  obtain ⟨-, hs3, -⟩ := hs2
  rw [List.pairwise_append] at hs3
  obtain ⟨hs4, -, -⟩ := hs3
  rw [List.pairwise_append] at hs4
  obtain ⟨-, hs5, hs6⟩ := hs4
  rw [List.pairwise_cons] at hs5
  refine ⟨y, hy, fun hlt => ?_, fun hgt => ?_, fun heq => ?_⟩
  · refine ⟨ht, e1, f1, (y, v) :: f2 ++ e3, by simp, h1, g1, ?_, h4, fun p hp => ?_⟩
    · exact KL.app.mpr ⟨(y, v) :: f2, e3, rfl, ⟨hy, rfl, g2⟩, h3⟩
    · rcases List.mem_append.mp hp with hp | hp
      · rcases List.mem_cons.mp hp with hp | hp
        · rw [hp]; exact hlt
        · exact lx_tr hlt (hs5.1 p hp)
      · exact h5 p hp
  · have hyx : lx y x = -1 := by rw [lx_neg, hgt]
    refine ⟨ht, e1 ++ (f1 ++ [(y, v)]), f2, e3, by simp, ?_, g2, h3, fun p hp => ?_, h5⟩
    · refine KL.app.mpr ⟨e1, f1 ++ [(y, v)], rfl, h1, KL.app.mpr ⟨f1, [(y, v)], rfl, g1, hy, rfl, trivial⟩⟩
    · rcases List.mem_append.mp hp with hp | hp
      · exact h4 p hp
      · rcases List.mem_append.mp hp with hp | hp
        · exact lx_tr (hs6 p hp (y, v) (List.mem_cons_self ..)) hyx
        · rw [List.mem_singleton.mp hp]
          exact hyx
  · have e := lx_0.mp heq
    subst e
    refine ⟨e1 ++ f1, f2 ++ e3, by simp, KL.app.mpr ⟨e1, f1, rfl, h1, g1⟩, hy, KL.app.mpr ⟨f2, e3, rfl, g2, h3⟩, fun p hp => ?_, fun p hp => ?_⟩
    · rcases List.mem_append.mp hp with hp | hp
      · exact h4 p hp
      · exact hs6 p hp (x, v) (List.mem_cons_self ..)
    · rcases List.mem_append.mp hp with hp | hp
      · exact hs5.1 p hp
      · exact h5 p hp
/-- what a sorted row says of a key -/
def mget : List (List Nat × Nat) → List Nat → Option Nat
  | [], _ => none
  | (y, v) :: es, x => if y = x then some v else mget es x
def mput : List (List Nat × Nat) → List Nat → Nat → List (List Nat × Nat)
  | [], x, v => [(x, v)]
  | (y, w) :: es, x, v => if lx x y = -1 then (x, v) :: (y, w) :: es else if y = x then (x, v) :: es else (y, w) :: mput es x v
def mdel : List (List Nat × Nat) → List Nat → List (List Nat × Nat)
  | [], _ => []
  | (y, w) :: es, x => if y = x then es else (y, w) :: mdel es x
theorem lx_ne {s t : List Nat} (h : lx s t = -1) : s ≠ t := fun q => by rw [lx_0.mpr q] at h; omega
theorem mget_in (e1 e3 : List (List Nat × Nat)) (x : List Nat) (v : Nat) (h : ∀ p, p ∈ e1 → lx p.1 x = -1) : mget (e1 ++ (x, v) :: e3) x = some v := by
  induction e1 with
  | nil => simp [mget]
  | cons p e ih =>
    obtain ⟨y, w⟩ := p
    have := lx_ne (h (y, w) (List.mem_cons_self ..))
    rw [List.cons_append, mget, if_neg this, ih fun p hp => h p (List.mem_cons_of_mem _ hp)]
theorem mget_out (e : List (List Nat × Nat)) (x : List Nat) (h : ∀ p, p ∈ e → p.1 ≠ x) : mget e x = none := by
  induction e with
  | nil => rfl
  | cons p e ih =>
    obtain ⟨y, w⟩ := p
    rw [mget, if_neg (h (y, w) (List.mem_cons_self ..)), ih fun p hp => h p (List.mem_cons_of_mem _ hp)]
theorem mput_out (e1 e3 : List (List Nat × Nat)) (x : List Nat) (v : Nat) (h : ∀ p, p ∈ e1 → lx p.1 x = -1) (h3 : ∀ p, p ∈ e3 → lx x p.1 = -1) : mput (e1 ++ e3) x v = e1 ++ (x, v) :: e3 := by
  induction e1 with
  | nil =>
    cases e3 with
    | nil => rfl
    | cons p e3 =>
      obtain ⟨y, w⟩ := p
      rw [List.nil_append, mput, if_pos (h3 (y, w) (List.mem_cons_self ..))]
      rfl
  | cons p e ih =>
    obtain ⟨y, w⟩ := p
    have h1 := h (y, w) (List.mem_cons_self ..)
    rw [List.cons_append, mput, if_neg (by rw [lx_neg, h1]; omega), if_neg (lx_ne h1), ih fun p hp => h p (List.mem_cons_of_mem _ hp)]
    rfl
theorem mput_in (e1 e3 : List (List Nat × Nat)) (x : List Nat) (w v : Nat) (h : ∀ p, p ∈ e1 → lx p.1 x = -1) : mput (e1 ++ (x, w) :: e3) x v = e1 ++ (x, v) :: e3 := by
  induction e1 with
  | nil => rw [List.nil_append, mput, if_neg (by rw [lx_0.mpr rfl]; omega), if_pos rfl]; rfl
  | cons p e ih =>
    obtain ⟨y, u⟩ := p
    have h1 := h (y, u) (List.mem_cons_self ..)
    rw [List.cons_append, mput, if_neg (by rw [lx_neg, h1]; omega), if_neg (lx_ne h1), ih fun p hp => h p (List.mem_cons_of_mem _ hp)]
    rfl
theorem mdel_in (e1 e3 : List (List Nat × Nat)) (x : List Nat) (w : Nat) (h : ∀ p, p ∈ e1 → lx p.1 x = -1) : mdel (e1 ++ (x, w) :: e3) x = e1 ++ e3 := by
  induction e1 with
  | nil => rw [List.nil_append, mdel, if_pos rfl]; rfl
  | cons p e ih =>
    obtain ⟨y, u⟩ := p
    have h1 := h (y, u) (List.mem_cons_self ..)
    rw [List.cons_append, mdel, if_neg (lx_ne h1), ih fun p hp => h p (List.mem_cons_of_mem _ hp)]
    rfl
theorem mdel_out (e : List (List Nat × Nat)) (x : List Nat) (h : ∀ p, p ∈ e → p.1 ≠ x) : mdel e x = e := by
  induction e with
  | nil => rfl
  | cons p e ih =>
    obtain ⟨y, w⟩ := p
    rw [mdel, if_neg (h (y, w) (List.mem_cons_self ..)), ih fun p hp => h p (List.mem_cons_of_mem _ hp)]
theorem Sch.out {i : Bool} {x : List Nat} {t : Tr} {es : List (List Nat × Nat)} {cx : List Fr} (h : Sch G M i x t es cx lf) : (∀ p, p ∈ es → p.1 ≠ x) ∧ ∃ e1 e3, es = e1 ++ e3 ∧ KL G M i (cl cx) e1 ∧ KL G M i (cr cx) e3 ∧ (∀ p, p ∈ e1 → lx p.1 x = -1) ∧ (∀ p, p ∈ e3 → lx x p.1 = -1) := by
  obtain ⟨ht, e1, e2, e3, rfl, h1, h2, h3, h4, h5⟩ := h
  cases e2 with
  | cons p e => exact False.elim h2
  | nil =>
    refine ⟨fun p hp => ?_, e1, e3, rfl, h1, h3, h4, h5⟩
    rcases List.mem_append.mp hp with hp | hp
    · exact lx_ne (h4 p hp)
    · exact Ne.symm (lx_ne (h5 p hp))
/-! the map -/
/-- a map at m, its entries' addresses A, the keys and values es -/
def Mp (G : GG) (M : Mem) (m : Nat) (i : Bool) (vals : Option Nat) (A : List Nat) (es : List (List Nat × Nat)) : Prop := ∃ sz mod t, TM M m vals sz mod t ∧ KL G M i (tIo t) es ∧ Srt es ∧ A = adT t
theorem m_req (a : Nat) : Ct G wJ15_requireNonNull [aR (some a)] M 1 0 0 (kR fun r M' => r = some a ∧ M = M') := by
  refine Ct.mk rfl rfl (Nat.le_of_ble_eq_true rfl) ?_
  refine x_aload_n (i := 0) rfl rfl dJ15_requireNonNull_0 ?_
  refine x_ifnonnull (tgt := 12) dJ15_requireNonNull_1 (by decide) (fun z e => ?_) (fun z => absurd z (by simp))
  refine x_aload_n (i := 0) rfl rfl dJ15_requireNonNull_12 ?_
  refine x_aret rfl (Or.inl ⟨_, rfl⟩) dJ15_requireNonNull_13 ⟨by omega, by omega⟩ ?_
  exact ⟨_, rfl, rfl, rfl⟩
end JN
