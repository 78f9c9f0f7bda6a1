/-! THE ABSTRACT MACHINE: values, cells, memories. Ints and longs are whole numbers (cut down when they are shown to the machine), references are options of addresses. -/
set_option maxRecDepth 100000
abbrev AV : Type := Int ⊕ (Int ⊕ Option Nat)
abbrev aI (a : Int) : AV := .inl a
abbrev aL (a : Int) : AV := .inr (.inl a)
abbrev aR (r : Option Nat) : AV := .inr (.inr r)
abbrev AA : Type := (Nat → Int) ⊕ ((Nat → Int) ⊕ (Nat → Option Nat))
/-- a cell: an array (kind, length, contents) or an object (class, fields) -/
abbrev ACl : Type := (Nat × Nat × AA) ⊕ (Nat × List AV)
abbrev cO (ci : Nat) (fs : List AV) : ACl := .inr (ci, fs)
abbrev cI (n : Nat) (f : Nat → Int) : ACl := .inl (0, n, .inl f)
abbrev cL (n : Nat) (f : Nat → Int) : ACl := .inl (1, n, .inr (.inl f))
abbrev cY (n : Nat) (f : Nat → Int) : ACl := .inl (2, n, .inl f)
abbrev cQ (k n : Nat) (f : Nat → Option Nat) : ACl := .inl (k, n, .inr (.inr f))
def toV : AV → Value
  | .inl a => .int (Int32.ofInt a)
  | .inr (.inl a) => .long (Int64.ofInt a)
  | .inr (.inr r) => va_rf r
def toA : AA → ((Nat → Int32) ⊕ (Nat → Int64) ⊕ (Nat → UInt32) ⊕ (Nat → UInt64) ⊕ (Nat → Option Nat))
  | .inl f => .inl (fun j => Int32.ofInt (f j))
  | .inr (.inl f) => .inr (.inl (fun j => Int64.ofInt (f j)))
  | .inr (.inr f) => .inr (.inr (.inr (.inr f)))
theorem toV_cat1I (a : Int) : (toV (aI a)).category = 1 := rfl
theorem toV_cat1R (r : Option Nat) : (toV (aR r)).category = 1 := by cases r <;> rfl
def aup {α : Type} (f : Nat → α) (k : Nat) (x : α) : Nat → α := fun j => if j = k then x else f j
theorem aup_s {α : Type} (f : Nat → α) (k : Nat) (x : α) : aup f k x k = x := by simp [aup]
theorem aup_n {α : Type} (f : Nat → α) {k j : Nat} (x : α) (h : j ≠ k) : aup f k x j = f j := by simp [aup, h]
/-- a memory: its size (the next address), and the cells that are known in it -/
abbrev Mem : Type := { m : Nat × (Nat → Option ACl) // ∀ a, m.1 ≤ a → m.2 a = none }
def mZ (M : Mem) : Nat := M.1.1
def mG (M : Mem) (a : Nat) : Option ACl := M.1.2 a
theorem mG_lt {M : Mem} {a : Nat} {c : ACl} (h : mG M a = some c) : a < mZ M := by
  rcases Nat.lt_or_ge a (mZ M) with h1 | h1
  · exact h1
  · have h2 : mG M a = none := M.2 a h1
    rw [h2] at h; cases h
/-- a new cell -/
def mN (M : Mem) (c : ACl) : Mem := ⟨(mZ M + 1, fun a => if a = mZ M then some c else mG M a), fun a h => by
  have h1 : mZ M + 1 ≤ a := h
  have h2 : ¬ a = mZ M := by omega
  have h3 : mG M a = none := M.2 a (show mZ M ≤ a by omega)
  simp [h2, h3]⟩
/-- a cell written over -/
def mS (M : Mem) (b : Nat) (c : ACl) : Mem := ⟨(mZ M, fun a => if a = b ∧ a < mZ M then some c else mG M a), fun a h => by
  have h1 : mZ M ≤ a := h
  have h2 : ¬ a < mZ M := by omega
  have h3 : mG M a = none := M.2 a h1
  simp [h2, h3]⟩
/-- some cells more, of which nothing is known -/
def mW (M : Mem) (n : Nat) : Mem := ⟨(max n (mZ M), fun a => mG M a), fun a h => by
  have h1 : max n (mZ M) ≤ a := h
  exact M.2 a (show mZ M ≤ a by omega)⟩
theorem mZ_N (M : Mem) (c : ACl) : mZ (mN M c) = mZ M + 1 := rfl
theorem mZ_S (M : Mem) (b : Nat) (c : ACl) : mZ (mS M b c) = mZ M := rfl
theorem mZ_W (M : Mem) (n : Nat) : mZ (mW M n) = max n (mZ M) := rfl
theorem mG_N (M : Mem) (c : ACl) (a : Nat) : mG (mN M c) a = if a = mZ M then some c else mG M a := rfl
theorem mG_S (M : Mem) (b : Nat) (c : ACl) (a : Nat) : mG (mS M b c) a = if a = b ∧ a < mZ M then some c else mG M a := rfl
theorem mG_W (M : Mem) (n : Nat) (a : Nat) : mG (mW M n) a = mG M a := rfl
theorem mN_s (M : Mem) (c : ACl) : mG (mN M c) (mZ M) = some c := by rw [mG_N, if_pos rfl]
theorem mN_o {M : Mem} {a : Nat} {c x : ACl} (h : mG M a = some x) : mG (mN M c) a = some x := by
  have := mG_lt h
  rw [mG_N, if_neg (by omega), h]
theorem mS_s {M : Mem} {a : Nat} {c x : ACl} (h : mG M a = some x) : mG (mS M a c) a = some c := by
  rw [mG_S, if_pos ⟨rfl, mG_lt h⟩]
theorem mS_n {M : Mem} {a b : Nat} (c : ACl) (h : a ≠ b) : mG (mS M b c) a = mG M a := by
  rw [mG_S, if_neg (fun q => h q.1)]
theorem mS_o {M : Mem} {a b : Nat} {c x : ACl} (h : mG M a = some x) (hn : a ≠ b) : mG (mS M b c) a = some x := by
  rw [mS_n c hn, h]
/-- nothing that was there before has changed -/
def mE (M M' : Mem) : Prop := mZ M ≤ mZ M' ∧ ∀ a, a < mZ M → mG M' a = mG M a
theorem mE.rf (M : Mem) : mE M M := ⟨Nat.le_refl _, fun _ _ => rfl⟩
theorem mE.tr {A B C : Mem} (h : mE A B) (k : mE B C) : mE A C := ⟨Nat.le_trans h.1 k.1, fun a ha => by rw [k.2 a (Nat.lt_of_lt_of_le ha h.1), h.2 a ha]⟩
theorem mE.g {M M' : Mem} (h : mE M M') {a : Nat} {c : ACl} (k : mG M a = some c) : mG M' a = some c := by rw [h.2 a (mG_lt k), k]
theorem mE.n (M : Mem) (c : ACl) : mE M (mN M c) := ⟨by rw [mZ_N]; omega, fun a ha => by rw [mG_N, if_neg (by omega)]⟩
theorem mE.w (M : Mem) (n : Nat) : mE M (mW M n) := ⟨by rw [mZ_W]; omega, fun a _ => rfl⟩
/-- a write to a cell that is new against M -/
theorem mE.s {M M' : Mem} (h : mE M M') {b : Nat} (c : ACl) (hb : mZ M ≤ b) : mE M (mS M' b c) := ⟨h.1, fun a ha => by rw [mS_n c (by omega), h.2 a ha]⟩
/-- what has changed at most: the addresses of P, and new ones -/
def mF (P : Nat → Prop) (M M' : Mem) : Prop := mZ M ≤ mZ M' ∧ ∀ a, a < mZ M → ¬ P a → mG M' a = mG M a
theorem mF.rf (P : Nat → Prop) (M : Mem) : mF P M M := ⟨Nat.le_refl _, fun _ _ _ => rfl⟩
theorem mF.tr {P : Nat → Prop} {A B C : Mem} (h : mF P A B) (k : mF P B C) : mF P A C := ⟨Nat.le_trans h.1 k.1, fun a ha hp => by rw [k.2 a (Nat.lt_of_lt_of_le ha h.1) hp, h.2 a ha hp]⟩
theorem mF.g {P : Nat → Prop} {M M' : Mem} (h : mF P M M') {a : Nat} {c : ACl} (k : mG M a = some c) (hp : ¬ P a) : mG M' a = some c := by rw [h.2 a (mG_lt k) hp, k]
theorem mE.f {M M' : Mem} (h : mE M M') (P : Nat → Prop) : mF P M M' := ⟨h.1, fun a ha _ => h.2 a ha⟩
theorem mF.s {P : Nat → Prop} {M M' : Mem} (h : mF P M M') {b : Nat} (c : ACl) (hb : P b ∨ mZ M ≤ b) : mF P M (mS M' b c) := ⟨h.1, fun a ha hp => by
  have hab : a ≠ b := by
    rcases hb with hb | hb
    · exact fun q => hp (q ▸ hb)
    · omega
  rw [mS_n c hab, h.2 a ha hp]⟩
theorem mF.mono {P Q : Nat → Prop} {M M' : Mem} (h : mF P M M') (hpq : ∀ a, a < mZ M → P a → Q a) : mF Q M M' := ⟨h.1, fun a ha hq => h.2 a ha (fun hp => hq (hpq a ha hp))⟩
theorem mF.e {P : Nat → Prop} {A B C : Mem} (h : mF P A B) (k : mE B C) : mF P A C := h.tr (k.f P)
/-! locals: a row of places; a long's second place holds nothing -/
def aKl : Option AV → Option AV
  | some (.inr (.inl _)) => none
  | o => o
def aTl : List (Option AV) → List (Option AV)
  | [] => []
  | _ :: t => none :: t
def aSt : List (Option AV) → Nat → AV → List (Option AV)
  | [], _, _ => []
  | _ :: t, 0, v => some v :: (match v with | .inr (.inl _) => aTl t | _ => t)
  | a :: t, 1, v => aKl a :: aSt t 0 v
  | a :: t, i + 2, v => a :: aSt t (i + 1) v
def aArg : List AV → List (Option AV)
  | [] => []
  | v :: t => some v :: (match v with | .inr (.inl _) => none :: aArg t | _ => aArg t)
/-- the machine's locals hold a row -/
def aLH (ls : Array Slot) (nL : Nat) (L : List (Option AV)) : Prop := ls.size = nL ∧ lv_wf ls ∧ L.length = nL ∧ ∀ (i : Nat) (v : AV), L[i]? = some (some v) → ls[i]? = some (.val (toV v))
theorem aLH.at {ls : Array Slot} {nL : Nat} {L : List (Option AV)} (h : aLH ls nL L) {i : Nat} {v : AV} (hi : L[i]? = some (some v)) : ls[i]? = some (.val (toV v)) := h.2.2.2 i v hi
def aLW (L : List (Option AV)) : List (Nat × Value) := (List.range L.length).filterMap fun i => match L[i]? with | some (some v) => some (i, toV v) | _ => none
theorem aLW_mem {L : List (Option AV)} {i : Nat} {v : AV} (h : L[i]? = some (some v)) : (i, toV v) ∈ aLW L := by
  refine List.mem_filterMap.mpr ⟨i, List.mem_range.mpr (List.getElem?_eq_some_iff.mp h).1, ?_⟩
  simp only [h]
theorem aLW_of {L : List (Option AV)} {q : Nat × Value} (h : q ∈ aLW L) : ∃ v : AV, L[q.1]? = some (some v) ∧ q.2 = toV v := by
  obtain ⟨i, -, hi⟩ := List.mem_filterMap.mp h
  split at hi
  · rename_i v hv
    cases hi
    exact ⟨v, hv, rfl⟩
  · cases hi
theorem aLH.lv {ls : Array Slot} {nL : Nat} {L : List (Option AV)} (h : aLH ls nL L) : lv_has ls nL (aLW L) := by
  refine ⟨h.1, h.2.1, fun q hq => ?_⟩
  obtain ⟨v, h1, h2⟩ := aLW_of hq
  rw [h2]
  exact h.at h1
theorem aTl_len (l : List (Option AV)) : (aTl l).length = l.length := by cases l <;> rfl
theorem aSt_len : ∀ (L : List (Option AV)) (i : Nat) (v : AV), (aSt L i v).length = L.length
  | [], _, _ => rfl
  | _ :: t, 0, .inl _ => rfl
  | _ :: t, 0, .inr (.inl _) => by simp [aSt, aTl_len]
  | _ :: t, 0, .inr (.inr _) => rfl
  | _ :: t, 1, v => by simp [aSt, aSt_len t 0 v]
  | _ :: t, i + 2, v => by simp [aSt, aSt_len t (i + 1) v]
/-- what a store leaves: at its place the new value; elsewhere what was there, but for a long's halves -/
theorem aSt_at : ∀ (L : List (Option AV)) (i : Nat) (v w : AV) (j : Nat), (aSt L i v)[j]? = some (some w) → (j = i ∧ w = v) ∨ (j ≠ i ∧ L[j]? = some (some w) ∧ ¬ (j + 1 = i ∧ (toV w).category = 2) ∧ ¬ (j = i + 1 ∧ (toV v).category = 2))
  | [], _, _, _, _, h => by simp [aSt] at h
  | a :: t, 0, v, w, 0, h => by
    simp [aSt] at h
    exact Or.inl ⟨rfl, h.symm⟩
  | a :: t, 0, .inl x, w, j + 1, h => by
    simp only [aSt, List.getElem?_cons_succ] at h
    exact Or.inr ⟨by omega, by simpa using h, by omega, by simp [toV, Value.category]⟩
  | a :: t, 0, .inr (.inr x), w, j + 1, h => by
    simp only [aSt, List.getElem?_cons_succ] at h
    refine Or.inr ⟨by omega, by simpa using h, by omega, ?_⟩
    rw [show toV (.inr (.inr x)) = toV (aR x) from rfl, toV_cat1R]
    omega
  | a :: [], 0, .inr (.inl x), w, j + 1, h => by simp [aSt, aTl] at h
  | a :: b :: t, 0, .inr (.inl x), w, 1, h => by simp [aSt, aTl] at h
  | a :: b :: t, 0, .inr (.inl x), w, j + 2, h => by
    simp [aSt, aTl] at h
    exact Or.inr ⟨by omega, by simpa using h, by omega, by omega⟩
  | a :: t, 1, v, w, 0, h => by
    simp [aSt] at h
    refine Or.inr ⟨by omega, ?_, ?_, by omega⟩
    · cases a with
      | none => simp [aKl] at h
      | some a =>
        rcases a with x | x | x
        · simpa [aKl] using h
        · simp [aKl] at h
        · simpa [aKl] using h
    · rintro ⟨-, h2⟩
      cases a with
      | none => simp [aKl] at h
      | some a =>
        rcases a with x | x | x
        · simp [aKl] at h; subst h; simp [toV, Value.category] at h2
        · simp [aKl] at h
        · simp only [aKl, Option.some.injEq] at h
          subst h
          rw [show toV (.inr (.inr x)) = toV (aR x) from rfl, toV_cat1R] at h2
          omega
  | a :: t, 1, v, w, j + 1, h => by
    simp only [aSt, List.getElem?_cons_succ] at h
    rcases aSt_at t 0 v w j h with ⟨h1, h2⟩ | ⟨h1, h2, h3, h4⟩
    · exact Or.inl ⟨by omega, h2⟩
    · exact Or.inr ⟨by omega, by simpa using h2, fun q => h3 ⟨by omega, q.2⟩, fun q => h4 ⟨by omega, q.2⟩⟩
  | a :: t, i + 2, v, w, 0, h => by
    simp [aSt] at h
    exact Or.inr ⟨by omega, by simpa using h, by omega, by omega⟩
  | a :: t, i + 2, v, w, j + 1, h => by
    simp only [aSt, List.getElem?_cons_succ] at h
    rcases aSt_at t (i + 1) v w j h with ⟨h1, h2⟩ | ⟨h1, h2, h3, h4⟩
    · exact Or.inl ⟨by omega, h2⟩
    · exact Or.inr ⟨by omega, by simpa using h2, fun q => h3 ⟨by omega, q.2⟩, fun q => h4 ⟨by omega, q.2⟩⟩
theorem aLH.st1 {ls' : Array Slot} {nL : Nat} {L : List (Option AV)} {i : Nat} {v : AV} (hlen : L.length = nL) (h : lv_has ls' nL ((i, toV v) :: (aLW L).filter (fun q => !(q.1 == i) && !(q.1 + 1 == i && q.2.category == 2)))) : aLH ls' nL (aSt L i v) := by
  refine ⟨h.1, h.2.1, by rw [aSt_len, hlen], fun j w hw => ?_⟩
  rcases aSt_at L i v w j hw with ⟨rfl, rfl⟩ | ⟨h1, h2, h3, -⟩
  · exact h.2.2 _ List.mem_cons_self
  · refine h.2.2 (j, toV w) (List.mem_cons_of_mem _ (List.mem_filter.mpr ⟨aLW_mem h2, ?_⟩))
    simp only [Bool.and_eq_true, Bool.not_eq_true', beq_eq_false_iff_ne, ne_eq, Bool.and_eq_false_iff]
    refine ⟨h1, ?_⟩
    by_cases q : j + 1 = i
    · exact Or.inr fun z => h3 ⟨q, z⟩
    · exact Or.inl q
theorem aLH.st2 {ls' : Array Slot} {nL : Nat} {L : List (Option AV)} {i : Nat} {v : AV} (hv : (toV v).category = 2) (hlen : L.length = nL) (h : lv_has ls' nL ((i, toV v) :: (aLW L).filter (fun q => !(q.1 == i) && (!(q.1 == i + 1) && !(q.1 + 1 == i && q.2.category == 2))))) : aLH ls' nL (aSt L i v) := by
  refine ⟨h.1, h.2.1, by rw [aSt_len, hlen], fun j w hw => ?_⟩
  rcases aSt_at L i v w j hw with ⟨rfl, rfl⟩ | ⟨h1, h2, h3, h4⟩
  · exact h.2.2 _ List.mem_cons_self
  · refine h.2.2 (j, toV w) (List.mem_cons_of_mem _ (List.mem_filter.mpr ⟨aLW_mem h2, ?_⟩))
    simp only [Bool.and_eq_true, Bool.not_eq_true', beq_eq_false_iff_ne, ne_eq, Bool.and_eq_false_iff]
    refine ⟨h1, fun q => h4 ⟨q, hv⟩, ?_⟩
    by_cases q : j + 1 = i
    · exact Or.inr fun z => h3 ⟨q, z⟩
    · exact Or.inl q
/-- the locals with which a method begins -/
def aEn (args : List AV) (nL : Nat) : List (Option AV) := aArg args ++ List.replicate (nL - (aArg args).length) none
theorem aArg_len : ∀ (args : List AV), (lg_sl (args.map toV)).length = (aArg args).length
  | [] => rfl
  | .inl x :: t => by
    have h := aArg_len t
    simp [aArg, lg_sl, toV, Value.category] at h ⊢
    exact h
  | .inr (.inl x) :: t => by
    have h := aArg_len t
    simp [aArg, lg_sl, toV, Value.category] at h ⊢
    exact h
  | .inr (.inr x) :: t => by
    have h := aArg_len t
    have hc : (toV (.inr (.inr x))).category = 1 := toV_cat1R x
    simp [aArg, lg_sl, hc] at h ⊢
    exact h
theorem lg_sl_cons1 {v : Value} (vs : List Value) (h : v.category = 1) : lg_sl (v :: vs) = .val v :: lg_sl vs := by
  simp [lg_sl, h]
theorem lg_sl_cons2 {v : Value} (vs : List Value) (h : v.category = 2) : lg_sl (v :: vs) = .val v :: .second :: lg_sl vs := by
  simp [lg_sl, h]
theorem aArg_at : ∀ (args : List AV) (i : Nat) (w : AV), (aArg args)[i]? = some (some w) → (lg_sl (args.map toV))[i]? = some (.val (toV w))
  | [], _, _, h => by simp [aArg] at h
  | .inl x :: t, 0, w, h => by
    simp [aArg] at h
    subst h
    rw [List.map_cons, lg_sl_cons1 _ (toV_cat1I x)]
    rfl
  | .inl x :: t, i + 1, w, h => by
    simp only [aArg, List.getElem?_cons_succ] at h
    rw [List.map_cons, lg_sl_cons1 _ (toV_cat1I x), List.getElem?_cons_succ]
    exact aArg_at t i w h
  | .inr (.inr x) :: t, 0, w, h => by
    simp [aArg] at h
    subst h
    rw [List.map_cons, lg_sl_cons1 _ (toV_cat1R x)]
    rfl
  | .inr (.inr x) :: t, i + 1, w, h => by
    simp only [aArg, List.getElem?_cons_succ] at h
    rw [List.map_cons, lg_sl_cons1 _ (toV_cat1R x), List.getElem?_cons_succ]
    exact aArg_at t i w h
  | .inr (.inl x) :: t, 0, w, h => by
    simp [aArg] at h
    subst h
    rw [List.map_cons, lg_sl_cons2 _ rfl]
    rfl
  | .inr (.inl x) :: t, 1, w, h => by simp [aArg] at h
  | .inr (.inl x) :: t, i + 2, w, h => by
    simp only [aArg, List.getElem?_cons_succ] at h
    rw [List.map_cons, lg_sl_cons2 _ rfl, List.getElem?_cons_succ, List.getElem?_cons_succ]
    exact aArg_at t i w h
theorem aLH.en (args : List AV) {nL : Nat} (h : (aArg args).length ≤ nL) : aLH ((lg_sl (args.map toV) ++ List.replicate (nL - (lg_sl (args.map toV)).length) Slot.unset).toArray) nL (aEn args nL) := by
  have h0 := lv_entry (args.map toV) (n := nL) (by rw [aArg_len]; exact h)
  refine ⟨h0.1, h0.2.1, by simp [aEn]; omega, fun i v hv => ?_⟩
  have hi : i < (aArg args).length := by
    rcases Nat.lt_or_ge i (aArg args).length with q | q
    · exact q
    · simp only [aEn] at hv
      rw [List.getElem?_append_right q, List.getElem?_replicate] at hv
      split at hv <;> simp at hv
  rw [aEn, List.getElem?_append_left hi] at hv
  rw [List.getElem?_toArray, List.getElem?_append_left (by rw [aArg_len]; exact hi)]
  exact aArg_at args i v hv
