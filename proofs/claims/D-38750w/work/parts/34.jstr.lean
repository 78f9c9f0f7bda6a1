/-! java.lang.String: what it holds, equals, compareTo; java.lang.Integer's compareTo -/
set_option maxRecDepth 100000
section XC
variable {G : GG} {w : MI} {R : Room} {E : XE} {cn sn pc : Nat} {L : List (Option AV)} {st : List AV} {M : Mem}
theorem c128 : ∀ b : Fin 128, ((Int32.ofInt ((b : Nat) : Int)).toUInt32 % 65536).toInt32 = Int32.ofInt ((b : Nat) : Int) ∧ narrow .char (.int (Int32.ofInt ((b : Nat) : Int))) = .int (Int32.ofInt ((b : Nat) : Int)) := by decide
theorem x_i2c (b : Nat) (hb : b < 128) (hd : decode (wc w) pc = .ok (.i2c, 1)) (k : X G w R E cn sn (pc + 1) L (aI (b : Int) :: st) M) : X G w R E cn sn pc L (aI (b : Int) :: st) M := by
  intro p e s m args below meth cd H locs ls F hS hH hl
  exact lv_i2c F.1 F.2.1 hd (c128 ⟨b, hb⟩).1 (k p e s m args below meth cd H locs ls F hS hH hl)
theorem x_cret {K : Out → Mem → Prop} {mc ms : Nat} (b : Nat) (hb : b < 128) (hr : wr w = some .char) (hd : decode (wc w) pc = .ok (.ireturn, 1)) (hc : cn ≤ mc ∧ sn ≤ ms) (hk : K (.inl (some (aI (b : Int)))) M) : X G w R (mEnd G K mc ms) cn sn pc L [aI (b : Int)] M := by
  intro p e s m args below meth cd H locs ls F hS hH hl
  refine W.widen hc.1 hc.2 (vx_ret (W.zret (v := Int32.ofInt (b : Int)) F.1 F.2.1 (by rw [F.2.2.2.1, hr]) (c128 ⟨b, hb⟩).2 (fun t ht _ => ?_) hS.2.2 hd F.2.2.2.2.1))
  exact ⟨some (aI (b : Int)), M, rfl, hk, by rw [ht]; exact hH, hS.F ht⟩
end XC
section JN
variable {G : GG} {M : Mem}
/-- the n-th byte -/
def bt (l : List Nat) (i : Nat) : Nat := l.getD i 0
/-- a string new in memory, of these bytes -/
def StrN (M : Mem) (a : Nat) (l : List Nat) : Prop := ∃ v h z, mG M a = some (cO 8 [aR (some v), aI 0, h, z]) ∧ Yb M v l.length (bt l)
/-- a constant one -/
def StrC (G : GG) (a : Nat) (l : List Nat) : Prop := gO G "java/lang/String" a ∧ gF G "java/lang/String" "coder" "B" a (aI 0) ∧ (∀ i, i < l.length → bt l i < 128) ∧ l.length < 1000000 ∧ ∃ v, gF G "java/lang/String" "value" "[B" a (aR (some v)) ∧ gT G .byte v l.length (fun j => aI (bt l j : Nat))
def Str (G : GG) (M : Mem) (a : Nat) (l : List Nat) : Prop := StrN M a l ∨ StrC G a l
def gConS (G : GG) : Prop := gZ G "java/lang/String" "COMPACT_STRINGS" "Z" (aI 1)
theorem Yb.e {M M' : Mem} {a n : Nat} {b : Nat → Nat} (h : Yb M a n b) (k : mE M M') : Yb M' a n b := by
  obtain ⟨h1, h2, f, h3, h4⟩ := h
  exact ⟨h1, h2, f, k.g h3, h4⟩
theorem Yb.f {M M' : Mem} {a n : Nat} {b : Nat → Nat} {P : Nat → Prop} (h : Yb M a n b) (k : mF P M M') (hp : ¬ P a) : Yb M' a n b := by
  obtain ⟨h1, h2, f, h3, h4⟩ := h
  exact ⟨h1, h2, f, k.g h3 hp, h4⟩
theorem StrN.e {M M' : Mem} {a : Nat} {l : List Nat} (h : StrN M a l) (k : mE M M') : StrN M' a l := by
  obtain ⟨v, h1, z, h2, h3⟩ := h
  exact ⟨v, h1, z, k.g h2, h3.e k⟩
theorem Str.e {M M' : Mem} {a : Nat} {l : List Nat} (h : Str G M a l) (k : mE M M') : Str G M' a l := h.imp (fun q => q.e k) id
theorem Str.rc {a : Nat} {l : List Nat} (h : Str G M a l) : RC G M a "java/lang/String" := by
  rcases h with ⟨v, h1, z, h2, -⟩ | h
  · exact rc_o h2 rfl
  · exact rc_c h.1
theorem Str.lt {a : Nat} {l : List Nat} (h : Str G M a l) : l.length < 1000000 ∧ ∀ i, i < l.length → bt l i < 128 := by
  rcases h with ⟨v, h1, z, h2, h3⟩ | h
  · exact ⟨h3.1, h3.2.1⟩
  · exact ⟨h.2.2.2.1, h.2.2.1⟩
section XS
variable {w : MI} {R : Room} {E : XE} {cn sn pc : Nat} {L : List (Option AV)} {st : List AV}
/-- a byte array that holds l -/
def rB (G : GG) (M : Mem) (v : Nat) (l : List Nat) : Prop := ∃ f : Nat → Int, rY G M v l.length f ∧ ∀ i, i < l.length → f i = (bt l i : Int)
theorem x_Sval {a : Nat} {l : List Nat} (hw : (wy w).cls = RJ14) (hS : Str G M a l) (hd : decode (wc w) pc = .ok (.getfield 9, 3)) (kk : ∀ v, rB G M v l → X G w R E cn sn (pc + 3) L (aR (some v) :: st) M) : X G w R E cn sn pc L (aR (some a) :: st) M := by
  rcases hS with ⟨v, h, z, hM, -, -, f, hf, hb⟩ | ⟨-, -, -, -, v, hv, ht⟩
  · exact gf_J14_9 hw hM rfl hd (kk v ⟨f, Or.inl hf, hb⟩)
  · exact x_getc hv (by rw [hw]; exact q885) hd (kk v ⟨_, Or.inr ht, fun _ _ => rfl⟩)
theorem x_Scod {a : Nat} {l : List Nat} (hw : (wy w).cls = RJ14) (hS : Str G M a l) (hd : decode (wc w) pc = .ok (.getfield 15, 3)) (kk : X G w R E cn sn (pc + 3) L (aI 0 :: st) M) : X G w R E cn sn pc L (aR (some a) :: st) M := by
  rcases hS with ⟨v, h, z, hM, -, -, f, hf, hb⟩ | ⟨-, hc, -, -, v, hv, ht⟩
  · exact gf_J14_15 hw hM rfl hd kk
  · exact x_getc hc (by rw [hw]; exact q886) hd kk
end XS
theorem m_Scoder (hC : gConS G) (a : Nat) (l : List Nat) (h : Str G M a l) :
    Ct G wJ14_coder [aR (some a)] M 1 0 0 (kI fun r M' => r = 0 ∧ M = M') := by
  refine Ct.mk rfl rfl (Nat.le_of_ble_eq_true rfl) ?_
  refine x_gets (hC) q428 dJ14_coder_0 ?_
  refine x_if_eq (tgt := 13) (by omega) dJ14_coder_3 (by decide) (fun z => absurd z (by omega)) (fun _ => ?_)
  refine x_aload_n (i := 0) rfl rfl dJ14_coder_6 ?_
  refine x_Scod rfl h dJ14_coder_7 ?_
  refine x_goto (tgt := 14) dJ14_coder_10 (by decide) ?_
  refine x_bret rfl (by omega) dJ14_coder_14 ⟨by omega, by omega⟩ ?_
  exact ⟨_, rfl, rfl, rfl⟩
theorem m_Slen (hC : gConS G) (a : Nat) (l : List Nat) (h : Str G M a l) :
    Ct G wJ14_length [aR (some a)] M 2 0 0 (kI fun r M' => r = (l.length : Int) ∧ M = M') := by
  refine Ct.mk rfl rfl (Nat.le_of_ble_eq_true rfl) ?_
  have hlt := h.lt.1
  refine x_aload_n (i := 0) rfl rfl dJ14_length_0 ?_
  refine x_Sval rfl h dJ14_length_1 fun v hv => ?_
  obtain ⟨f, hf, -⟩ := hv
  refine x_alenR hf (by omega) dJ14_length_4 ?_
  refine x_aload_n (i := 0) rfl rfl dJ14_length_5 ?_
  refine XCl.I (iv_J14_335 rfl (m_Scoder hC a l h) (h.rc) rfl rfl rfl (hr_ok (by omega)) (hf_ok (by omega) (by omega)) dJ14_length_6) fun r M9 h9 => ?_
  obtain ⟨rfl, rfl⟩ := h9
  refine x_ishr (v := ((l.length >>> 0 : Nat) : Int)) (n_ishr l.length 0 (by omega) (by omega)) dJ14_length_9 ?_
  refine x_iret rfl dJ14_length_10 ⟨by omega, by omega⟩ ?_
  exact ⟨_, rfl, rfl, rfl⟩
theorem m_Sempty (a : Nat) (l : List Nat) (h : Str G M a l) :
    Ct G wJ14_isEmpty [aR (some a)] M 1 0 0 (kI fun r M' => r = (if l.length = 0 then 1 else 0) ∧ M = M') := by
  refine Ct.mk rfl rfl (Nat.le_of_ble_eq_true rfl) ?_
  have hlt := h.lt.1
  refine x_aload_n (i := 0) rfl rfl dJ14_isEmpty_0 ?_
  refine x_Sval rfl h dJ14_isEmpty_1 fun v hv => ?_
  obtain ⟨f, hf, -⟩ := hv
  refine x_alenR hf (by omega) dJ14_isEmpty_4 ?_
  refine x_if_ne (tgt := 12) (by omega) dJ14_isEmpty_5 (by decide) (fun hz => ?_) (fun hz => ?_)
  · refine x_iconst dJ14_isEmpty_12 ?_
    refine x_zret rfl (by omega) dJ14_isEmpty_13 ⟨by omega, by omega⟩ ?_
    exact ⟨_, rfl, by rw [if_neg (by omega)], rfl⟩
  · refine x_iconst dJ14_isEmpty_8 ?_
    refine x_goto (tgt := 13) dJ14_isEmpty_9 (by decide) ?_
    refine x_zret rfl (by omega) dJ14_isEmpty_13 ⟨by omega, by omega⟩ ?_
    exact ⟨_, rfl, by rw [if_pos (by omega)], rfl⟩
theorem m_SLeq (v1 v2 : Nat) (l1 l2 : List Nat) (h1 : rB G M v1 l1) (h2 : rB G M v2 l2) (hl : l1.length < 1000000 ∧ l2.length < 1000000) (hb : (∀ i, i < l1.length → bt l1 i < 128) ∧ ∀ i, i < l2.length → bt l2 i < 128) :
    Ct G wJ19_equals [aR (some v1), aR (some v2)] M 1 0 0 (kI fun r M' => r = (if l1 = l2 then 1 else 0) ∧ M = M') := by
  refine Ct.mk rfl rfl (Nat.le_of_ble_eq_true rfl) ?_
  obtain ⟨f, hf, hf2⟩ := h1
  obtain ⟨g, hg, hg2⟩ := h2
  refine x_aload_n (i := 0) rfl rfl dJ19_equals_0 ?_
  refine x_alenR hf (by omega) dJ19_equals_1 ?_
  refine x_aload_n (i := 1) rfl rfl dJ19_equals_2 ?_
  refine x_alenR hg (by omega) dJ19_equals_3 ?_
  refine x_icmp_ne (tgt := 34) (by omega) (by omega) dJ19_equals_4 (by decide) (fun hn => ?_) (fun hn => ?_)
  · refine x_iconst dJ19_equals_34 ?_
    refine x_zret rfl (by omega) dJ19_equals_35 ⟨by omega, by omega⟩ ?_
    exact ⟨_, rfl, by rw [if_neg (fun q => hn (by rw [q]))], rfl⟩
  · have hlen : l1.length = l2.length := by omega
    refine x_iconst dJ19_equals_7 ?_
    refine x_istore_n (i := 2) rfl (by decide) dJ19_equals_8 ?_
    have loop : ∀ (rem i : Nat), i + rem = l1.length → (∀ j, j < i → bt l1 j = bt l2 j) →
        X G wJ19_equals (rmO 1 0 0) (mEnd G (kI fun r M' => r = (if l1 = l2 then 1 else 0) ∧ M = M') 0 0) 0 0 9 [some (aR (some v1)), some (aR (some v2)), some (aI (i : Int))] [] M := by
      intro rem
      induction rem with
      | zero =>
        intro i hi he
        refine x_iload_n (i := 2) rfl rfl dJ19_equals_9 ?_
        refine x_aload_n (i := 0) rfl rfl dJ19_equals_10 ?_
        refine x_alenR hf (by omega) dJ19_equals_11 ?_
        refine x_icmp_ge (tgt := 32) (by omega) (by omega) dJ19_equals_12 (by decide) (fun _ => ?_) (fun z => absurd z (by omega))
        refine x_iconst dJ19_equals_32 ?_
        refine x_zret rfl (by omega) dJ19_equals_33 ⟨by omega, by omega⟩ ?_
        refine ⟨_, rfl, ?_, rfl⟩
        rw [if_pos]
        apply List.ext_getElem hlen
        intro j j1 j2
        have := he j (by omega)
        rw [bt, bt, List.getD_eq_getElem?_getD, List.getD_eq_getElem?_getD, List.getElem?_eq_getElem j1, List.getElem?_eq_getElem j2] at this
        exact this
      | succ rem ih =>
        intro i hi he
        have b1 := hb.1 i (by omega)
        have b2 := hb.2 i (by omega)
        refine x_iload_n (i := 2) rfl rfl dJ19_equals_9 ?_
        refine x_aload_n (i := 0) rfl rfl dJ19_equals_10 ?_
        refine x_alenR hf (by omega) dJ19_equals_11 ?_
        refine x_icmp_ge (tgt := 32) (by omega) (by omega) dJ19_equals_12 (by decide) (fun z => absurd z (by omega)) (fun _ => ?_)
        refine x_aload_n (i := 0) rfl rfl dJ19_equals_15 ?_
        refine x_iload_n (i := 2) rfl rfl dJ19_equals_16 ?_
        refine x_baldR i rfl (by omega) hf dJ19_equals_17 ?_
        refine x_aload_n (i := 1) rfl rfl dJ19_equals_18 ?_
        refine x_iload_n (i := 2) rfl rfl dJ19_equals_19 ?_
        refine x_baldR i rfl (by omega) hg dJ19_equals_20 ?_
        rw [hf2 i (by omega), hg2 i (by omega)]
        refine x_icmp_eq (tgt := 26) (by omega) (by omega) dJ19_equals_21 (by decide) (fun hx => ?_) (fun hx => ?_)
        · refine x_iinc (i := 2) rfl (by decide) dJ19_equals_26 ?_
          refine x_goto (tgt := 9) dJ19_equals_29 (by decide) ?_
          refine ih (i + 1) (by omega) fun j hj => ?_
          by_cases hji : j = i
          · rw [hji]; omega
          · exact he j (by omega)
        · refine x_iconst dJ19_equals_24 ?_
          refine x_zret rfl (by omega) dJ19_equals_25 ⟨by omega, by omega⟩ ?_
          exact ⟨_, rfl, by rw [if_neg (fun q => hx (by rw [q]))], rfl⟩
    exact loop l1.length 0 (by omega) fun j hj => by omega
end JN
