set_option linter.unusedVariables false
set_option linter.unusedSimpArgs false
set_option maxRecDepth 100000
/-! ===== a house and the cues in HouseClaps' memory, read ===== -/
section XHR
variable {b : Mem} {x : XS} {h c : Nat} {H : HS}
theorem xh_28 (X : XHouse b h H) : gI (mkX b x) (some h) 28 = some (n2 H.rows) := by rw [dI X.dyn0 X.lt0 X.tag (by decide), X.rows]
theorem xh_29 (X : XHouse b h H) : gI (mkX b x) (some h) 29 = some (n2 H.cols) := by rw [dI X.dyn0 X.lt0 X.tag (by decide), X.cols]
theorem xh_30 (X : XHouse b h H) : gI (mkX b x) (some h) 30 = some (n2 H.carry) := by rw [dI X.dyn0 X.lt0 X.tag (by decide), X.carry]
theorem xh_31 (X : XHouse b h H) : gI (mkX b x) (some h) 31 = some (n2 H.paid) := by rw [dI X.dyn0 X.lt0 X.tag (by decide), X.paid]
theorem xh_33 (X : XHouse b h H) : gI (mkX b x) (some h) 33 = some (b2i H.byRows) := by rw [dI X.dyn0 X.lt0 X.tag (by decide), X.byRows]
theorem xh_34 (X : XHouse b h H) : gA (mkX b x) (some h) 34 = some (some (h + 1)) := by rw [dA X.dyn0 X.lt0 X.tag (by decide), X.r34]
theorem xh_35 (X : XHouse b h H) : gA (mkX b x) (some h) 35 = some (some (h + 2)) := by rw [dA X.dyn0 X.lt0 X.tag (by decide), X.r35]
theorem xh_36 (X : XHouse b h H) : gA (mkX b x) (some h) 36 = some (some (h + 3)) := by rw [dA X.dyn0 X.lt0 X.tag (by decide), X.r36]
theorem xh_37 (X : XHouse b h H) : gA (mkX b x) (some h) 37 = some (some (h + 4)) := by rw [dA X.dyn0 X.lt0 X.tag (by decide), X.r37]
theorem xh_38 (X : XHouse b h H) : gA (mkX b x) (some h) 38 = some (some (h + 5)) := by rw [dA X.dyn0 X.lt0 X.tag (by decide), X.r38]
theorem xh_39 (X : XHouse b h H) : gA (mkX b x) (some h) 39 = some (some (h + 6)) := by rw [dA X.dyn0 X.lt0 X.tag (by decide), X.r39]
theorem xh_40 (X : XHouse b h H) : gA (mkX b x) (some h) 40 = some (some (h + 7)) := by rw [dA X.dyn0 X.lt0 X.tag (by decide), X.r40]
theorem xh_kind (X : XHouse b h H) {v : Nat} (hv : v < H.size) (h64 : H.size ≤ 64) : aI (mkX b x) (some (h + 1)) (n2 v) = some (n2 (kindX (H.kind v))) := by
  rw [dRI (X.dynJ (by decide)) (X.ltJ (by decide)) X.t1 X.l1, ifx_k (by omega) (by omega), n2_nat (by omega), X.kind v hv]
theorem xh_price (X : XHouse b h H) {r : Nat} (hr : r < 8) : aI (mkX b x) (some (h + 2)) (n2 r) = some (n2 (H.price r)) := by
  rw [dRI (X.dynJ (by decide)) (X.ltJ (by decide)) X.t2 X.l2, ifx_k (by omega) (by omega), n2_nat (by omega), X.price r hr]
theorem xh_leaves (X : XHouse b h H) {r : Nat} (hr : r < 8) : aI (mkX b x) (some (h + 3)) (n2 r) = some (i2 ((H.leaves r : Int) - 1)) := by
  rw [dRI (X.dynJ (by decide)) (X.ltJ (by decide)) X.t3 X.l3, ifx_k (by omega) (by omega), n2_nat (by omega), X.leaves r hr]
theorem xh_up (X : XHouse b h H) {k : Nat} (hk : k < 6) : aA (mkX b x) (some (h + 4)) (n2 k) = some (mA b (h + 4) k) := by
  rw [dRA (X.dynJ (by decide)) (X.ltJ (by decide)) X.t4 (by decide) X.l4, ifx_k (by omega) (by omega), n2_nat (by omega)]
theorem xh_down (X : XHouse b h H) {k : Nat} (hk : k < 6) : aA (mkX b x) (some (h + 5)) (n2 k) = some (mA b (h + 5) k) := by
  rw [dRA (X.dynJ (by decide)) (X.ltJ (by decide)) X.t5 (by decide) X.l5, ifx_k (by omega) (by omega), n2_nat (by omega)]
theorem xh_ones (X : XHouse b h H) {k : Nat} (hk : k < 12) : aI (mkX b x) (some (h + 6)) (n2 k) = some (mI b (h + 6) k) := by
  rw [dRI (X.dynJ (by decide)) (X.ltJ (by decide)) X.t6 X.l6, ifx_k (by omega) (by omega), n2_nat (by omega)]
theorem xh_area (X : XHouse b h H) {a : Nat} (ha : a < 6) : aA (mkX b x) (some (h + 7)) (n2 a) = some (some (h + 8 + a)) := by
  rw [dRA (X.dynJ (by decide)) (X.ltJ (by decide)) X.t7 (by decide) X.l7, ifx_k (by omega) (by omega), n2_nat (by omega), X.r7 a ha]
theorem xh_ar (X : XHouse b h H) {a v : Nat} (ha : a < 6) (hv : v < H.size) (h64 : H.size ≤ 64) : aJ (mkX b x) (some (h + 8 + a)) (n2 v) = some (H.ar a v) := by
  rw [dRJ (by rw [Nat.add_assoc]; exact X.dynJ (by omega)) (by rw [Nat.add_assoc]; exact X.ltJ (by omega)) (X.t8 _ ha) (X.l8 _ ha), ifx_k (by omega) (by omega), n2_nat (by omega), X.area _ _ ha hv]
theorem xh_iv {α : Type} {z : Option α} (X : XHouse b h H) : iv (mkX b x) (some h) [2] z = z := div_ X.dyn0 X.lt0 X.tag (by decide)
theorem xh_size (X : XHouse b h H) : fX2_size (some h) (mkX b x) = some (n2 H.size, mkX b x) := by
  unfold fX2_size
  rw [xh_28 X, Option.bind_some, xh_29 X, Option.bind_some, n2_mul]; rfl
theorem xh_row (X : XHouse b h H) (ok : H.Ok) {s : Nat} (hs : s < H.size) : fX2_row (some h) (n2 s) (mkX b x) = some (n2 (s / H.cols), mkX b x) := by
  have := pos_of_size hs
  have h64 := ok.size
  have := ok.cols
  unfold fX2_row
  rw [xh_29 X, Option.bind_some, n2_dv (by omega) (by omega) (by omega), Option.bind_some]
theorem kindX_9 {k : Nat} (h : k ≤ 6) : (n2 (kindX k) = (9 : Int32)) = (k = 0) := by
  unfold kindX
  rw [li_9]
  by_cases e : k = 0
  · simp only [e, if_true]
  · rw [if_neg e, n2_eq (by omega) (by omega)]; exact propext (by omega)
theorem kindX_9' {k : Nat} (h : k ≤ 6) : (n2 (kindX k) = n2 9) = (k = 0) := kindX_9 h
theorem kindX_pos {k : Nat} (h : k ≠ 0) : kindX k = k - 1 := by unfold kindX; rw [if_neg h]
theorem X_isIn (a c d : Int32) (st : Mem) : fX1_isIn a c d st = some (b2i (decide (c ≤ a ∧ a ≤ d)), st) := by
  unfold fX1_isIn bX1_isIn_14
  by_cases h1 : a < c
  · rw [if_pos h1, show decide (c ≤ a ∧ a ≤ d) = false from decide_eq_false (fun h => absurd h1 (Int32.not_lt.mpr h.1))]; rfl
  · rw [if_neg h1]
    by_cases h2 : d < a
    · rw [if_pos h2, show decide (c ≤ a ∧ a ≤ d) = false from decide_eq_false (fun h => absurd h2 (Int32.not_lt.mpr h.2))]; rfl
    · rw [if_neg h2, show decide (c ≤ a ∧ a ≤ d) = true from decide_eq_true ⟨Int32.not_lt.mp h1, Int32.not_lt.mp h2⟩]; rfl
theorem X_has (v : Int64) {s : Nat} (hs : s < 64) (st : Mem) : fX1_has_2 v (n2 s) st = some (b2i (tb v s), st) := by
  unfold fX1_has_2
  simp only [has_tb v hs]
  cases tb v s <;> rfl
/-- a seat, by its number as it comes -/
def seatZ (H : HS) (v : Int) : Bool := decide (0 ≤ v ∧ v < H.size) && decide (H.kind v.toNat ≠ 0)
theorem X_isSeat (X : XHouse b h H) (ok : H.Ok) {v : Int} (h0 : -2147483648 ≤ v) (h1 : v < 2147483648) : fX2_isSeat (some h) (i2 v) (mkX b x) = some (b2i (seatZ H v), mkX b x) := by
  have h64 := ok.size
  have s1 : n2 H.size - (1 : Int32) = i2 ((H.size : Int) - 1) := i2_sub (H.size : Int) 1
  have d1 : decide ((0 : Int32) ≤ i2 v ∧ i2 v ≤ i2 ((H.size : Int) - 1)) = decide (0 ≤ v ∧ v < H.size) := by
    rw [show (0 : Int32) = i2 0 from rfl]
    have e1 : (i2 0 ≤ i2 v) = (0 ≤ v) := i2_le (by omega) (by omega)
    have e2 : (i2 v ≤ i2 ((H.size : Int) - 1)) = (v ≤ (H.size : Int) - 1) := i2_le (by omega) (by omega)
    simp only [e1, e2]
    exact decide_eq_decide.mpr (by omega)
  unfold fX2_isSeat bX2_isSeat_29 seatZ
  simp only [xh_iv X, xh_size X, bd_some, s1, X_isIn, d1, b2i_0]
  by_cases hv : 0 ≤ v ∧ v < H.size
  · obtain ⟨k, rfl⟩ : ∃ k : Nat, v = k := ⟨v.toNat, by omega⟩
    rw [decide_eq_true hv, if_neg (by decide), xh_34 X, Option.bind_some, ← n2_i2, xh_kind X (by omega) h64, Option.bind_some, Int.toNat_natCast]
    simp only [kindX_9 (ok.kind k)]
    by_cases hk : H.kind k = 0
    · simp [hk, b2i]
    · simp [hk, b2i]
  · rw [decide_eq_false hv, if_pos rfl]; rfl
theorem X_isSeatN (X : XHouse b h H) (ok : H.Ok) {v : Nat} (h1 : v < 2147483648) : fX2_isSeat (some h) (n2 v) (mkX b x) = some (b2i (seatZ H v), mkX b x) := by
  rw [n2_i2]; exact X_isSeat X ok (by omega) (by omega)
theorem X_seats_ (X : XHouse b h H) (ok : H.Ok) : ∀ k f v, v + k = H.size → k < f →
    bX2_seats_4 f (some h) (n2 ((List.range v).filter fun u => decide (H.kind u ≠ 0)).length) (n2 v) (mkX b x) = some (n2 H.seats, mkX b x) := by
  have h64 := ok.size
  intro k
  induction k with
  | zero =>
    intro f v hv hf
    obtain ⟨f, rfl⟩ : ∃ g, f = g + 1 := ⟨f - 1, by omega⟩
    have e : v = H.size := by omega
    subst e
    show bX2_seats_4B _ _ _ _ _ = _
    unfold bX2_seats_4B
    simp only [xh_iv X, xh_size X, bd_some]
    rw [if_pos (Int32.le_refl _)]; rfl
  | succ k ih =>
    intro f v hv hf
    obtain ⟨f, rfl⟩ : ∃ g, f = g + 1 := ⟨f - 1, by omega⟩
    refine Eq.trans ?_ (ih f (v + 1) (by omega) (by omega))
    show bX2_seats_4B (bX2_seats_4 f) _ _ _ _ = _
    unfold bX2_seats_4B bX2_seats_26
    simp only [xh_iv X, xh_size X, bd_some]
    rw [if_neg (by rw [n2_le (by omega) (by omega)]; omega), xh_34 X, Option.bind_some, xh_kind X (by omega) h64, Option.bind_some, List.range_succ, List.filter_append, List.length_append]
    simp only [kindX_9 (ok.kind v)]
    have e1 : n2 v + 1 = n2 (v + 1) := n2_add v 1
    by_cases hk : H.kind v = 0
    · rw [if_pos hk, e1]; simp [hk]
    · rw [if_neg hk, e1]; simp only [List.filter_cons, hk, ne_eq, not_false_eq_true, decide_true, if_true, List.filter_nil, List.length_singleton]
      exact congrArg (fun z => bX2_seats_4 f (some h) z (n2 (v + 1)) (mkX b x)) (n2_add _ 1)
theorem X_seats (X : XHouse b h H) (ok : H.Ok) : fX2_seats (some h) (mkX b x) = some (n2 H.seats, mkX b x) :=
  X_seats_ X ok H.size hcFuel 0 (by omega) (by have := ok.size; unfold hcFuel; omega)
end XHR
/-- a cue as an object -/
def CueAt (b : Mem) (e : Nat) (k : Cu) : Prop := (dyn e ∧ e < mNx b) ∧ mTag b e = (if k.w = 3 then 14 else if k.w = 2 then 15 else if k.w = 0 then 16 else 17) ∧ mI b e 150 = n2 k.t ∧ (k.w ≠ 3 → mI b e 151 = n2 k.s)
abbrev XCues (b : Mem) (c : Nat) (C : List Cu) : Prop := (dyn c ∧ c < mNx b) ∧ (mTag b c = 18) ∧ (mI b c 154 = n2 C.length) ∧ (C.length ≤ 30) ∧ (∀ i (h : i < C.length), C[i].t ≤ 600 ∧ C[i].w ≤ 3 ∧ C[i].s < 64) ∧ (∃ d, mA b c 153 = some d ∧ (dyn d ∧ d < mNx b) ∧ mTag b d = 104 ∧ C.length ≤ mLen b d ∧ ∀ i (h : i < C.length), ∃ e, mA b d i = some e ∧ CueAt b e C[i])
theorem XCues.dn {b : Mem} {c : Nat} {C : List Cu} (self : XCues b c C) : dyn c ∧ c < mNx b := self.1
theorem XCues.tag {b : Mem} {c : Nat} {C : List Cu} (self : XCues b c C) : mTag b c = 18 := self.2.1
theorem XCues.size {b : Mem} {c : Nat} {C : List Cu} (self : XCues b c C) : mI b c 154 = n2 C.length := self.2.2.1
theorem XCues.len {b : Mem} {c : Nat} {C : List Cu} (self : XCues b c C) : C.length ≤ 30 := self.2.2.2.1
theorem XCues.ok {b : Mem} {c : Nat} {C : List Cu} (self : XCues b c C) : ∀ i (h : i < C.length), C[i].t ≤ 600 ∧ C[i].w ≤ 3 ∧ C[i].s < 64 := self.2.2.2.2.1
theorem XCues.data {b : Mem} {c : Nat} {C : List Cu} (self : XCues b c C) : ∃ d, mA b c 153 = some d ∧ (dyn d ∧ d < mNx b) ∧ mTag b d = 104 ∧ C.length ≤ mLen b d ∧ ∀ i (h : i < C.length), ∃ e, mA b d i = some e ∧ CueAt b e C[i] := self.2.2.2.2.2
section XC
variable {b : Mem} {x : XS} {c : Nat} {C : List Cu} {q : Bool}
theorem xc_size (X : XCues b c C) : fJ3_size (some c) (mkX b x) = some (n2 C.length, mkX b x) := by
  unfold fJ3_size
  rw [dI X.dn.1 X.dn.2 X.tag (by decide), Option.bind_some, X.size]
theorem xc_iv {α : Type} {z : Option α} (X : XCues b c C) : iv (mkX b x) (some c) [18] z = z := div_ X.dn.1 X.dn.2 X.tag (by decide)
theorem xc_get (X : XCues b c C) {i : Nat} (hi : i < C.length) : ∃ e, fJ3_get (some c) (n2 i) (mkX b x) = some (some e, mkX b x) ∧ CueAt b e C[i] := by
  obtain ⟨d, d1, ⟨d2, d3⟩, d4, d5, d6⟩ := X.data
  obtain ⟨e, e1, e2⟩ := d6 i hi
  have h30 := X.len
  refine ⟨e, ?_, e2⟩
  unfold fJ3_get fJ17_checkIndex fJ8_checkIndex bJ8_checkIndex_9 fJ3_elementData
  rw [dI X.dn.1 X.dn.2 X.tag (by decide), Option.bind_some, X.size, if_neg (by rw [n2_ge (by omega)]; exact id), if_pos (by rw [n2_lt (by omega) (by omega)]; exact hi)]
  simp only [bd_some, xc_iv X]
  rw [dA X.dn.1 X.dn.2 X.tag (by decide), Option.bind_some, d1, dRA d2 d3 d4 (by decide) rfl, ifx_k (by omega) (by omega), n2_nat (by omega), e1]; rfl
theorem cu_ck {e : Nat} {k : Cu} (h : CueAt b e k) : ck (mkX b x) (some e) 1 = some (some e) := by
  obtain ⟨⟨h1, h2⟩, h3, -⟩ := h
  unfold ck
  refine if_pos ⟨h2, ?_⟩
  rw [ov_tag h1, h3]
  split
  · decide
  · split
    · decide
    · split <;> decide
theorem cu_tag {e : Nat} {k : Cu} (h : CueAt b e k) : mTag b e = 14 ∨ mTag b e = 15 ∨ mTag b e = 16 ∨ mTag b e = 17 := by
  rw [h.2.1]
  split
  · exact Or.inl rfl
  · split
    · exact Or.inr (Or.inl rfl)
    · split
      · exact Or.inr (Or.inr (Or.inl rfl))
      · exact Or.inr (Or.inr (Or.inr rfl))
theorem cu_t {e : Nat} {k : Cu} (h : CueAt b e k) : gI (mkX b x) (some e) 150 = some (n2 k.t) := by
  obtain ⟨⟨h1, h2⟩, h3, h4, -⟩ := id h
  rcases cu_tag h with g | g | g | g <;> rw [dI h1 h2 g (by decide), h4]
theorem cu_s {e : Nat} {k : Cu} (h : CueAt b e k) (h3 : k.w ≠ 3) : gI (mkX b x) (some e) 151 = some (n2 k.s) := by
  obtain ⟨⟨h1, h2⟩, g3, h4, h5⟩ := id h
  rw [if_neg h3] at g3
  rw [← h5 h3]
  split at g3
  · rw [dI h1 h2 g3 (by decide)]
  · split at g3 <;> rw [dI h1 h2 g3 (by decide)]
end XC
