set_option linter.unusedVariables false
set_option linter.unusedSimpArgs false
set_option maxRecDepth 100000
/-! ===== nights up to a moment, heights in HouseClaps ===== -/
theorem pc_nonneg (v : Int64) : 0 ≤ pc v := by
  unfold pc
  dsimp only
  generalize Int64.toInt32 _ = z
  rw [Int32.le_iff_toInt_le]
  show 0 ≤ (z &&& 127).toBitVec.toInt
  rw [Int32.toBitVec_and]
  have h : (z.toBitVec &&& (127 : Int32).toBitVec).toNat ≤ 127 := by
    rw [BitVec.toNat_and]; exact Nat.and_le_right
  rw [BitVec.toInt_eq_toNat_of_lt (by omega)]
  omega
theorem hgtS_1 (H : HS) (C : List Cu) (p h : Int64) : hgtS H C p h 1 = pc (nightS H C p h 0).c2 := by
  have := pc_nonneg (nightS H C p h 0).c2
  show (if pc (nightS H C p h 0).c2 ≤ 0 then 0 else pc (nightS H C p h 0).c2) = _
  split
  · next e => exact Int32.le_antisymm this e
  · rfl
theorem hgtS_max (H : HS) (C : List Cu) (p h : Int64) (t : Nat) : mmaxI (hgtS H C p h t) (pc (nightS H C p h t).c2) = hgtS H C p h (t + 1) := by
  show _ = (if pc (nightS H C p h t).c2 ≤ hgtS H C p h t then hgtS H C p h t else pc (nightS H C p h t).c2)
  unfold mmaxI
  by_cases e : hgtS H C p h t < pc (nightS H C p h t).c2
  · rw [if_pos e, if_neg (Int32.not_le.mpr e)]
  · rw [if_neg e, if_pos (Int32.not_lt.mp e)]
section HgtX
variable {b : Mem} {x : XS} {q : Bool} {h c e t s nx own lv l : Nat} {H : HS} {C : List Cu} {k : Cu} {N : NT} {p hi : Int64}
theorem X_many (hb : 131 ≤ mNx b) {N : NT} (I : XNt (x.n q) h c H N t) (hl : l = 1 ∨ l = 2) : fX3_many (some (nid q)) (n2 l) (mkX b x) = some (pc (if l = 1 then N.c1 else N.c2), mkX b x) := by
  unfold fX3_many
  rw [if_pos (by rcases hl with rfl | rfl <;> decide), gN_53 hb, Option.bind_some, aN_wth hb, ifx_k (by omega) (by omega), Option.bind_some, n2_nat (by omega), pcX, bd_some]
  rcases hl with rfl | rfl
  · rw [I.a1]; rfl
  · rw [I.a2]; rfl
theorem X_isUp (hb : 131 ≤ mNx b) (X : XHouse b h H) (I : XNt (x.n q) h c H N t) : fX3_isUp (some (nid q)) (mkX b x) = some (b2i (decide (n2 H.carry ≤ pc N.c2)), mkX b x) := by
  unfold fX3_isUp
  rw [ivN hb, show (2 : Int32) = n2 2 from rfl, X_many hb I (Or.inr rfl), bd_some, gN_41 hb, Option.bind_some, I.h_, xh_30 X, Option.bind_some, if_neg (show ¬ (2 : Nat) = 1 by decide)]
  by_cases hc : pc N.c2 < n2 H.carry
  · rw [if_pos hc, show decide (n2 H.carry ≤ pc N.c2) = false from decide_eq_false (Int32.not_le.mpr hc)]; rfl
  · rw [if_neg hc, show decide (n2 H.carry ≤ pc N.c2) = true from decide_eq_true (Int32.not_lt.mp hc)]; rfl
theorem X_nstep (hb : 131 ≤ mNx b) (X : XHouse b h H) (ok : H.Ok) (XC : XCues b c C) (ht : t + 1 ≤ 600) (I : XNt (x.n q) h c H (nightS H C p hi t) t) :
    ∃ y, fX3_step (some (nid q)) (mkX b x) = some ((), mkX b (x.setN q y)) ∧ XNt y h c H (nightS H C p hi (t + 1)) (t + 1) :=
  X_step hb X ok XC ht (ntAt_next H C p hi (t + 1)) I
theorem X_to (hb : 131 ≤ mNx b) {T : Nat} (X : XHouse b h H) (ok : H.Ok) (XC : XCues b c C) (hT : T ≤ 600) : ∀ (k f t : Nat) (x : XS), t + k = T → k < f → XNt (x.n q) h c H (nightS H C p hi t) t →
    ∃ y, bX3_to_0 f (some (nid q)) (n2 T) (mkX b x) = some (some (nid q), mkX b (x.setN q y)) ∧ XNt y h c H (nightS H C p hi T) T := by
  intro k
  induction k with
  | zero =>
    intro f t x hk hf I
    obtain ⟨f, rfl⟩ : ∃ g, f = g + 1 := ⟨f - 1, by omega⟩
    have e : t = T := by omega
    subst e
    refine ⟨x.n q, ?_, I⟩
    show bX3_to_0B _ _ _ _ = _
    unfold bX3_to_0B
    rw [gN_44 hb, Option.bind_some, I.now, if_pos (Int32.le_refl _), setN_self]
  | succ k ih =>
    intro f t x hk hf I
    obtain ⟨f, rfl⟩ : ∃ g, f = g + 1 := ⟨f - 1, by omega⟩
    obtain ⟨y, e, I2⟩ := X_nstep hb X ok XC (by omega) I
    obtain ⟨y2, e2, I3⟩ := ih f (t + 1) (x.setN q y) (by omega) (by omega) (by rw [setN_n]; exact I2)
    rw [setN_setN] at e2
    refine ⟨y2, ?_, I3⟩
    show bX3_to_0B (bX3_to_0 f) _ _ _ = _
    unfold bX3_to_0B
    rw [gN_44 hb, Option.bind_some, I.now, if_neg (by rw [n2_le (by omega) (by omega)]; omega), ivN hb, e, bd_some, e2]
theorem X_hgt (hb : 131 ≤ mNx b) (X : XHouse b h H) (ok : H.Ok) (XC : XCues b c C) : ∀ (k f t : Nat) (x : XS), t + k = 60 → k < f → XNt (x.n q) h c H (nightS H C p hi t) t →
    ∃ y, bX3_height_6 f (some (nid q)) (hgtS H C p hi (t + 1)) (mkX b x) = some (hgtS H C p hi 61, mkX b (x.setN q y)) ∧ XNt y h c H (nightS H C p hi 60) 60 := by
  intro k
  induction k with
  | zero =>
    intro f t x hk hf I
    obtain ⟨f, rfl⟩ : ∃ g, f = g + 1 := ⟨f - 1, by omega⟩
    have e : t = 60 := by omega
    subst e
    refine ⟨x.n q, ?_, I⟩
    show bX3_height_6B _ _ _ _ = _
    unfold bX3_height_6B
    rw [gN_44 hb, Option.bind_some, I.now, if_pos (by decide), setN_self]
  | succ k ih =>
    intro f t x hk hf I
    obtain ⟨f, rfl⟩ : ∃ g, f = g + 1 := ⟨f - 1, by omega⟩
    obtain ⟨y, e, I2⟩ := X_nstep hb X ok XC (by omega) I
    obtain ⟨y2, e2, I3⟩ := ih f (t + 1) (x.setN q y) (by omega) (by omega) (by rw [setN_n]; exact I2)
    rw [setN_setN] at e2
    refine ⟨y2, ?_, I3⟩
    have mn := X_many hb (x := x.setN q y) (q := q) (l := 2) (N := nightS H C p hi (t + 1)) (t := t + 1) (by rw [setN_n]; exact I2) (Or.inr rfl)
    rw [if_neg (show ¬ (2 : Nat) = 1 by decide)] at mn
    show bX3_height_6B (bX3_height_6 f) _ _ _ = _
    unfold bX3_height_6B
    rw [gN_44 hb, Option.bind_some, I.now, if_neg (by rw [show (60 : Int32) = n2 60 from rfl, n2_le (by omega) (by omega)]; omega), ivN hb, e, bd_some, ivN hb, show (2 : Int32) = n2 2 from rfl, mn, bd_some, hgtS_max, e2]
theorem X_height (hb : 131 ≤ mNx b) (X : XHouse b h H) (ok : H.Ok) (XC : XCues b c C) (hc : x.cues = some c) :
    ∃ y, fX1_heightOf (some 64) (some h) p hi (mkX b x) = some (hgtS H C p hi 61, mkX b (x.setN false y)) := by
  obtain ⟨y, e, I⟩ := X_begin hb (q := false) (x := x) (p := p) (hi := hi) X ok XC
  obtain ⟨y2, e2, -⟩ := X_hgt hb (q := false) (p := p) (hi := hi) X ok XC 60 hcFuel 0 (x.setN false y) (by omega) (by unfold hcFuel; omega) (by rw [setN_n]; exact I)
  rw [setN_setN] at e2
  have mn := X_many hb (x := x.setN false y) (q := false) (l := 2) (N := nightS H C p hi 0) (t := 0) (by rw [setN_n]; exact I) (Or.inr rfl)
  rw [if_neg (show ¬ (2 : Nat) = 1 by decide), ← hgtS_1] at mn
  refine ⟨y2, ?_⟩
  unfold fX1_heightOf fX3_height
  rw [gX_8 hb, Option.bind_some, gX_7 hb, Option.bind_some, hc, ivN hb, e, bd_some, ivN hb, ivN hb, show (2 : Int32) = n2 2 from rfl, mn, bd_some, e2, bd_some]
theorem X_tonight (hb : 131 ≤ mNx b) {T : Nat} (X : XHouse b h H) (ok : H.Ok) (XC : XCues b c C) (hh : x.house = some h) (hc : x.cues = some c) :
    ∃ y, fX1_tonight (some 64) (mkX b x) = some (some (nid false), mkX b (x.setN false y)) ∧ XNt y h c H (nightS H C x.paid x.hiss 0) 0 := by
  obtain ⟨y, e, I⟩ := X_begin hb (q := false) (x := x) (p := x.paid) (hi := x.hiss) X ok XC
  refine ⟨y, ?_, I⟩
  unfold fX1_tonight
  rw [gX_8 hb, Option.bind_some, gX_4 hb, Option.bind_some, gX_7 hb, Option.bind_some, gX_5 hb, Option.bind_some, gX_6 hb, Option.bind_some, hh, hc, ivN hb, e, bd_some]
end HgtX
