/-! TREES: what a TreeMap's entries are, by a place in them (a row of frames above a tree) -/
set_option maxRecDepth 100000
abbrev Tr : Type := Std.DTreeMap.Internal.Impl (Nat × Nat × Int) (fun _ => Unit)
abbrev lf : Tr := Std.DTreeMap.Internal.Impl.leaf
/-- an entry: where it lies, key, value, color; the children -/
abbrev nd (a k v : Nat) (c : Int) (l r : Tr) : Tr := Std.DTreeMap.Internal.Impl.inner a (k, v, c) () l r
theorem Tr_ind {P : Tr → Prop} (h0 : P lf) (h1 : ∀ (a k v : Nat) (c : Int) (l r : Tr), P l → P r → P (nd a k v c l r)) (t : Tr) : P t := by
  induction t with
  | leaf => exact h0
  | inner a q u l r il ir => exact h1 a q.1 q.2.1 q.2.2 l r il ir
/-- an entry's cell: key, value, left, right, parent, color -/
abbrev eC (k v : Nat) (l r p : Option Nat) (c : Int) : ACl := cO 10 [aR (some k), aR (some v), aR l, aR r, aR p, aI c]
def tR : Tr → Option Nat
  | .leaf => none
  | .inner a _ _ _ _ => some a
def tP : Tr → Option Nat → List (Nat × ACl)
  | .leaf, _ => []
  | .inner a (k, v, c) _ l r, p => (a, eC k v (tR l) (tR r) p c) :: (tP l (some a) ++ tP r (some a))
/-- from the least key on: entry, key, value -/
def tIo : Tr → List (Nat × Nat × Nat)
  | .leaf => []
  | .inner a (k, v, _) _ l r => tIo l ++ (a, k, v) :: tIo r
/-- whether a is an entry without children -/
def tLf (a : Nat) : Tr → Prop
  | .leaf => False
  | .inner b _ _ l r => (a = b ∧ l = lf ∧ r = lf) ∨ tLf a l ∨ tLf a r
/-- colors are 0 or 1 -/
def tOk : Tr → Prop
  | .leaf => True
  | .inner _ (_, _, c) _ l r => (c = 0 ∨ c = 1) ∧ tOk l ∧ tOk r
theorem tR_nd (a k v : Nat) (c : Int) (l r : Tr) : tR (nd a k v c l r) = some a := rfl
theorem tP_nd (a k v : Nat) (c : Int) (l r : Tr) (p : Option Nat) : tP (nd a k v c l r) p = (a, eC k v (tR l) (tR r) p c) :: (tP l (some a) ++ tP r (some a)) := rfl
theorem tIo_nd (a k v : Nat) (c : Int) (l r : Tr) : tIo (nd a k v c l r) = tIo l ++ (a, k, v) :: tIo r := rfl
theorem tOk_nd (a k v : Nat) (c : Int) (l r : Tr) : tOk (nd a k v c l r) = ((c = 0 ∨ c = 1) ∧ tOk l ∧ tOk r) := rfl
theorem tP_lf (p : Option Nat) : tP lf p = [] := rfl
theorem tR_lf : tR lf = none := rfl
theorem tIo_lf : tIo lf = [] := rfl
/-- a frame: whether the hole is on the left; the entry; the other child -/
abbrev Fr : Type := Bool × Nat × Nat × Nat × Int × Tr
def fil : Fr → Tr → Tr
  | (true, a, k, v, c, s), t => nd a k v c t s
  | (false, a, k, v, c, s), t => nd a k v c s t
def plug : List Fr → Tr → Tr
  | [], t => t
  | f :: cx, t => plug cx (fil f t)
def top : List Fr → Option Nat
  | [] => none
  | f :: _ => some f.2.1
def crt : List Fr → Option Nat → Option Nat
  | [], h => h
  | f :: cx, _ => crt cx (some f.2.1)
/-- a frame's cell, by what is in the hole and what is above -/
def fcl : Fr → Option Nat → Option Nat → ACl
  | (true, _, k, v, c, s), h, p => eC k v h (tR s) p c
  | (false, _, k, v, c, s), h, p => eC k v (tR s) h p c
def cpt : List Fr → Option Nat → List (Nat × ACl)
  | [], _ => []
  | f :: cx, h => (f.2.1, fcl f h (top cx)) :: (tP f.2.2.2.2.2 (some f.2.1) ++ cpt cx (some f.2.1))
def cl : List Fr → List (Nat × Nat × Nat)
  | [] => []
  | (true, _) :: cx => cl cx
  | (false, a, k, v, _, s) :: cx => cl cx ++ (tIo s ++ [(a, k, v)])
def cr : List Fr → List (Nat × Nat × Nat)
  | [] => []
  | (true, a, k, v, _, s) :: cx => ((a, k, v) :: tIo s) ++ cr cx
  | (false, _) :: cx => cr cx
theorem plug_rt (cx : List Fr) (t : Tr) : tR (plug cx t) = crt cx (tR t) := by
  induction cx generalizing t with
  | nil => rfl
  | cons f cx ih =>
    rw [plug, ih, crt]
    obtain ⟨d, a, k, v, c, s⟩ := f
    cases d <;> rfl
theorem plug_io (cx : List Fr) (t : Tr) : tIo (plug cx t) = cl cx ++ (tIo t ++ cr cx) := by
  induction cx generalizing t with
  | nil => simp [plug, cl, cr]
  | cons f cx ih =>
    rw [plug, ih]
    obtain ⟨d, a, k, v, c, s⟩ := f
    cases d <;> simp [fil, tIo_nd, cl, cr]
theorem plug_pt (cx : List Fr) (t : Tr) (q : Nat × ACl) : q ∈ tP (plug cx t) none ↔ q ∈ tP t (top cx) ∨ q ∈ cpt cx (tR t) := by
  induction cx generalizing t with
  | nil => simp [plug, cpt, top]
  | cons f cx ih =>
    rw [plug, ih]
    obtain ⟨d, a, k, v, c, s⟩ := f
    cases d
    · simp only [fil, tP_nd, tR_nd, cpt, fcl, top, List.mem_cons, List.mem_append]
      constructor
      · rintro ((h | h | h) | h)
        · exact Or.inr (Or.inl h)
        · exact Or.inr (Or.inr (Or.inl h))
        · exact Or.inl h
        · exact Or.inr (Or.inr (Or.inr h))
      · rintro (h | h | h | h)
        · exact Or.inl (Or.inr (Or.inr h))
        · exact Or.inl (Or.inl h)
        · exact Or.inl (Or.inr (Or.inl h))
        · exact Or.inr h
    · simp only [fil, tP_nd, tR_nd, cpt, fcl, top, List.mem_cons, List.mem_append]
      constructor
      · rintro ((h | h | h) | h)
        · exact Or.inr (Or.inl h)
        · exact Or.inl h
        · exact Or.inr (Or.inr (Or.inl h))
        · exact Or.inr (Or.inr (Or.inr h))
      · rintro (h | h | h | h)
        · exact Or.inl (Or.inr (Or.inl h))
        · exact Or.inl (Or.inl h)
        · exact Or.inl (Or.inr (Or.inr h))
        · exact Or.inr h
/-- where a tree's entries lie -/
def adT (t : Tr) : List Nat := (tIo t).map (·.1)
def adC (cx : List Fr) : List Nat := (cl cx).map (·.1) ++ (cr cx).map (·.1)
theorem adT_nd (a k v : Nat) (c : Int) (l r : Tr) (x : Nat) : x ∈ adT (nd a k v c l r) ↔ x = a ∨ x ∈ adT l ∨ x ∈ adT r := by
  simp only [adT, tIo_nd, List.map_append, List.map_cons, List.mem_append, List.mem_cons]
  constructor
  · rintro (h | h | h)
    · exact Or.inr (Or.inl h)
    · exact Or.inl h
    · exact Or.inr (Or.inr h)
  · rintro (h | h | h)
    · exact Or.inr (Or.inl h)
    · exact Or.inl h
    · exact Or.inr (Or.inr h)
theorem pt_ad {t : Tr} {p : Option Nat} {q : Nat × ACl} (h : q ∈ tP t p) : q.1 ∈ adT t := by
  induction t using Tr_ind generalizing p with
  | h0 => simp [tP_lf] at h
  | h1 a k v c l r ihl ihr =>
    rw [adT_nd]
    simp only [tP_nd, List.mem_cons, List.mem_append] at h
    rcases h with h | h | h
    · rw [h]
      exact Or.inl rfl
    · exact Or.inr (Or.inl (ihl h))
    · exact Or.inr (Or.inr (ihr h))
theorem ad_pt {t : Tr} (p : Option Nat) {a : Nat} (h : a ∈ adT t) : ∃ c, (a, c) ∈ tP t p := by
  induction t using Tr_ind generalizing p with
  | h0 => simp [adT, tIo_lf] at h
  | h1 b k v c l r ihl ihr =>
    rw [adT_nd] at h
    simp only [tP_nd, List.mem_cons, List.mem_append]
    rcases h with h | h | h
    · exact ⟨_, Or.inl (by rw [h])⟩
    · obtain ⟨c, hc⟩ := ihl (some b) h
      exact ⟨c, Or.inr (Or.inl hc)⟩
    · obtain ⟨c, hc⟩ := ihr (some b) h
      exact ⟨c, Or.inr (Or.inr hc)⟩
theorem adC_cons (d : Bool) (a k v : Nat) (c : Int) (s : Tr) (cx : List Fr) (x : Nat) : x ∈ adC ((d, a, k, v, c, s) :: cx) ↔ x = a ∨ x ∈ adT s ∨ x ∈ adC cx := by
  cases d <;> simp only [adC, adT, cl, cr, List.map_append, List.map_cons, List.map_nil, List.mem_append, List.mem_cons, List.not_mem_nil, or_false]
  · constructor
    · rintro ((h | h | h) | h)
      · exact Or.inr (Or.inr (Or.inl h))
      · exact Or.inr (Or.inl h)
      · exact Or.inl h
      · exact Or.inr (Or.inr (Or.inr h))
    · rintro (h | h | h | h)
      · exact Or.inl (Or.inr (Or.inr h))
      · exact Or.inl (Or.inr (Or.inl h))
      · exact Or.inl (Or.inl h)
      · exact Or.inr h
  · constructor
    · rintro (h | (h | h) | h)
      · exact Or.inr (Or.inr (Or.inl h))
      · exact Or.inl h
      · exact Or.inr (Or.inl h)
      · exact Or.inr (Or.inr (Or.inr h))
    · rintro (h | h | h | h)
      · exact Or.inr (Or.inl (Or.inl h))
      · exact Or.inr (Or.inl (Or.inr h))
      · exact Or.inl h
      · exact Or.inr (Or.inr h)
theorem cpt_ad {cx : List Fr} {h : Option Nat} {q : Nat × ACl} (hq : q ∈ cpt cx h) : q.1 ∈ adC cx := by
  induction cx generalizing h with
  | nil => simp [cpt] at hq
  | cons f cx ih =>
    obtain ⟨d, a, k, v, c, s⟩ := f
    rw [adC_cons]
    simp only [cpt, List.mem_cons, List.mem_append] at hq
    rcases hq with hq | hq | hq
    · rw [hq]
      exact Or.inl rfl
    · exact Or.inr (Or.inl (pt_ad hq))
    · exact Or.inr (Or.inr (ih hq))
theorem adT_plug (cx : List Fr) (t : Tr) (x : Nat) : x ∈ adT (plug cx t) ↔ x ∈ adT t ∨ x ∈ adC cx := by
  simp only [adT, adC, plug_io, List.map_append, List.mem_append]
  constructor
  · rintro (h | h | h)
    · exact Or.inr (Or.inl h)
    · exact Or.inl h
    · exact Or.inr (Or.inr h)
  · rintro (h | h | h)
    · exact Or.inr (Or.inl h)
    · exact Or.inl h
    · exact Or.inr (Or.inr h)
theorem top_ad {cx : List Fr} {a : Nat} (h : top cx = some a) : a ∈ adC cx := by
  cases cx with
  | nil => cases h
  | cons f cx =>
    obtain ⟨d, b, k, v, c, s⟩ := f
    rw [adC_cons]
    exact Or.inl (Option.some.inj h).symm
theorem crt_ad {f : Fr} {cx : List Fr} (h : Option Nat) : ∃ b, crt (f :: cx) h = some b ∧ b ∈ adC (f :: cx) := by
  induction cx generalizing f h with
  | nil =>
    obtain ⟨d, b, k, v, c, s⟩ := f
    exact ⟨b, rfl, by rw [adC_cons]; exact Or.inl rfl⟩
  | cons g cx ih =>
    obtain ⟨b, h1, h2⟩ := ih (f := g) (some f.2.1)
    refine ⟨b, h1, ?_⟩
    obtain ⟨d, a, k, v, c, s⟩ := f
    rw [adC_cons]
    exact Or.inr (Or.inr h2)
/-- what lies apart, when no entry stands twice -/
theorem nd_nd {a k v : Nat} {c : Int} {l r : Tr} (h : (adT (nd a k v c l r)).Nodup) : a ∉ adT l ∧ a ∉ adT r ∧ (∀ x, x ∈ adT l → x ∉ adT r) ∧ (adT l).Nodup ∧ (adT r).Nodup := by
  simp only [adT, tIo_nd, List.map_append, List.map_cons] at h
  rw [List.nodup_append] at h
  obtain ⟨h1, h2, h3⟩ := h
  rw [List.nodup_cons] at h2
  exact ⟨fun q => h3 _ q _ (List.mem_cons_self ..) rfl, h2.1, fun x hx hy => h3 _ hx _ (List.mem_cons_of_mem _ hy) rfl, h1, h2.2⟩
theorem nd_plug {cx : List Fr} {t : Tr} (h : (adT (plug cx t)).Nodup) : (adT t).Nodup ∧ (∀ x, x ∈ adT t → x ∉ adC cx) := by
  simp only [adT, plug_io, List.map_append] at h
  rw [List.nodup_append] at h
  obtain ⟨h1, h2, h3⟩ := h
  rw [List.nodup_append] at h2
  obtain ⟨h4, h5, h6⟩ := h2
  refine ⟨h4, fun x hx hc => ?_⟩
  rw [adC, List.mem_append] at hc
  rcases hc with hc | hc
  · exact h3 _ hc _ (List.mem_append_left _ hx) rfl
  · exact h6 _ hx _ hc rfl
theorem nd_cons {d : Bool} {a k v : Nat} {c : Int} {s : Tr} {cx : List Fr} {t : Tr} (h : (adT (plug ((d, a, k, v, c, s) :: cx) t)).Nodup) : a ∉ adT t ∧ a ∉ adT s ∧ a ∉ adC cx ∧ (∀ x, x ∈ adT t → x ∉ adT s) ∧ (∀ x, x ∈ adT s → x ∉ adC cx) := by
  obtain ⟨h1, h2⟩ := nd_plug (cx := cx) (t := fil (d, a, k, v, c, s) t) h
  cases d
  · obtain ⟨h3, h4, h5, h6, h7⟩ := nd_nd h1
    exact ⟨h4, h3, h2 _ ((adT_nd ..).mpr (Or.inl rfl)), fun x hx hy => h5 x hy hx, fun x hx => h2 _ ((adT_nd ..).mpr (Or.inr (Or.inl hx)))⟩
  · obtain ⟨h3, h4, h5, h6, h7⟩ := nd_nd h1
    exact ⟨h3, h4, h2 _ ((adT_nd ..).mpr (Or.inl rfl)), h5, fun x hx => h2 _ ((adT_nd ..).mpr (Or.inr (Or.inr hx)))⟩
theorem rt_ad {t : Tr} {a : Nat} (h : (tR t) = some a) : a ∈ adT t := by
  induction t using Tr_ind with
  | h0 => cases h
  | h1 b k v c l r _ _ =>
    rw [adT_nd]
    exact Or.inl (Option.some.inj h).symm
theorem tLf_plug {a : Nat} {cx : List Fr} {t : Tr} (h : tLf a t) : tLf a (plug cx t) := by
  induction cx generalizing t with
  | nil => exact h
  | cons f cx ih =>
    obtain ⟨d, b, k, v, c, s⟩ := f
    refine ih ?_
    cases d
    · exact Or.inr (Or.inr h)
    · exact Or.inr (Or.inl h)
theorem tLf_at {a : Nat} {t : Tr} (h : tLf a t) : ∃ cx k v c, t = plug cx (nd a k v c lf lf) := by
  have key : ∀ (t : Tr) (cx : List Fr), tLf a t → ∃ cx' k v c, plug cx t = plug cx' (nd a k v c lf lf) := by
    intro t
    induction t using Tr_ind with
    | h0 => intro cx h; exact False.elim h
    | h1 b k v c l r ihl ihr =>
      intro cx h
      rcases h with ⟨rfl, rfl, rfl⟩ | h | h
      · exact ⟨cx, k, v, c, rfl⟩
      · exact ihl ((true, b, k, v, c, r) :: cx) h
      · exact ihr ((false, b, k, v, c, l) :: cx) h
  exact key t [] h
def okC : List Fr → Prop
  | [] => True
  | f :: cx => (f.2.2.2.2.1 = 0 ∨ f.2.2.2.2.1 = 1) ∧ tOk f.2.2.2.2.2 ∧ okC cx
theorem plug_ok (cx : List Fr) (t : Tr) : tOk (plug cx t) ↔ tOk t ∧ okC cx := by
  induction cx generalizing t with
  | nil => simp [plug, okC]
  | cons f cx ih =>
    rw [plug, ih]
    obtain ⟨d, a, k, v, c, s⟩ := f
    cases d
    · simp only [fil, tOk_nd, okC]
      constructor
      · rintro ⟨⟨h1, h2, h3⟩, h4⟩
        exact ⟨h3, h1, h2, h4⟩
      · rintro ⟨h3, h1, h2, h4⟩
        exact ⟨⟨h1, h2, h3⟩, h4⟩
    · simp only [fil, tOk_nd, okC]
      constructor
      · rintro ⟨⟨h1, h2, h3⟩, h4⟩
        exact ⟨h2, h1, h3, h4⟩
      · rintro ⟨h3, h1, h2, h4⟩
        exact ⟨⟨h1, h3, h2⟩, h4⟩
theorem tR_some {t : Tr} {a : Nat} (h : tR t = some a) : ∃ k v c l r, t = nd a k v c l r := by
  induction t using Tr_ind with
  | h0 => cases h
  | h1 b k v c l r _ _ => exact ⟨k, v, c, l, r, by rw [← Option.some.inj h]⟩
