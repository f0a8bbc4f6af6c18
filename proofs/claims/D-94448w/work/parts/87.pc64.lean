set_option linter.unusedVariables false
set_option linter.unusedSimpArgs false
set_option maxRecDepth 100000
/-! ===== a count of bits is at most 64 ===== -/
def rep (v : Nat) : Nat → Nat
  | 0 => 0
  | n + 1 => v + 256 * rep v n
theorem rep_s (v n : Nat) : rep v (n + 1) = v + 256 * rep v n := rfl
theorem and15 (w : Nat) : w &&& 15 = w % 16 := Nat.and_two_pow_sub_one_eq_mod w 4
def p9 (n X : Nat) : Nat := X - (X / 2 &&& rep 85 n)
def p23 (n X : Nat) : Nat := (p9 n X &&& rep 51 n) + (p9 n X / 4 &&& rep 51 n)
def p33 (n X : Nat) : Nat := (p23 n X + p23 n X / 16) &&& rep 15 n
def B8 : Nat → Nat → Prop
  | 0, Z => Z = 0
  | n + 1, Z => Z % 256 ≤ 8 ∧ B8 n (Z / 256)
theorem and_split {a c : Nat} (A D : Nat) (ha : a < 256) (hc : c < 256) : (a + 256 * A) &&& (c + 256 * D) = (a &&& c) + 256 * (A &&& D) := by
  have e : ∀ x y : Nat, (x &&& y) % 256 = (x % 256) &&& (y % 256) := fun x y => Nat.and_mod_two_pow (n := 8)
  have d : ∀ x y : Nat, (x &&& y) / 256 = (x / 256) &&& (y / 256) := fun x y => Nat.and_div_two_pow (n := 8)
  have m := e (a + 256 * A) (c + 256 * D)
  have q := d (a + 256 * A) (c + 256 * D)
  rw [show (a + 256 * A) % 256 = a by omega, show (c + 256 * D) % 256 = c by omega] at m
  rw [show (a + 256 * A) / 256 = A by omega, show (c + 256 * D) / 256 = D by omega] at q
  rw [← m, ← q]
  omega
theorem b5 : ∀ b, b < 256 → ∀ e, e < 2 → ((b / 2 + 128 * e) &&& 85) = (b / 2 &&& 85) ∧ (b / 2 &&& 85) ≤ b := by decide +kernel
theorem b3 : ∀ a, a < 256 → ∀ e, e < 4 → ((a / 4 + 64 * e) &&& 51) = (a / 4 &&& 51) := by decide +kernel
def t9 (b : Nat) : Nat := b - (b / 2 &&& 85)
def t23 (b : Nat) : Nat := (t9 b &&& 51) + (t9 b / 4 &&& 51)
theorem t23_le : ∀ b, b < 256 → t23 b % 16 ≤ 4 ∧ t23 b / 16 ≤ 4 := by decide +kernel
theorem p9_le (n X : Nat) : (X / 2 &&& rep 85 n) ≤ X := Nat.le_trans Nat.and_le_left (Nat.div_le_self _ _)
theorem p9_s (n b R : Nat) (hb : b < 256) : p9 (n + 1) (b + 256 * R) = t9 b + 256 * p9 n R := by
  have h := b5 b hb (R % 2) (by omega)
  have l := p9_le n R
  unfold p9 t9
  rw [rep_s, show (b + 256 * R) / 2 = (b / 2 + 128 * (R % 2)) + 256 * (R / 2) by omega, and_split _ _ (by omega) (by decide), h.1]
  omega
theorem t9_lt {b : Nat} (hb : b < 256) : t9 b < 256 := by unfold t9; omega
theorem p23_s (n b R : Nat) (hb : b < 256) : p23 (n + 1) (b + 256 * R) = t23 b + 256 * p23 n R := by
  have l := t9_lt hb
  have h := b3 (t9 b) l (p9 n R % 4) (by omega)
  unfold p23
  rw [p9_s n b R hb]
  unfold t23
  show ((t9 b + 256 * p9 n R) &&& (51 + 256 * rep 51 n)) + ((t9 b + 256 * p9 n R) / 4 &&& (51 + 256 * rep 51 n)) = _
  rw [show (t9 b + 256 * p9 n R) / 4 = (t9 b / 4 + 64 * (p9 n R % 4)) + 256 * (p9 n R / 4) by omega, and_split _ _ l (by decide), and_split _ _ (by omega) (by decide), h]
  omega
theorem low8 (t q : Nat) (h1 : t % 16 ≤ 4) (h2 : t / 16 ≤ 4) : (t + t / 16 + 16 * q) % 16 ≤ 8 := by
  rw [Nat.add_mul_mod_self_left]
  have e : t + t / 16 = (t % 16 + t / 16) + 16 * (t / 16) := by omega
  rw [e, Nat.add_mul_mod_self_left, Nat.mod_eq_of_lt (by omega)]
  omega
theorem p_all : ∀ (n X : Nat), X < 256 ^ n → p23 n X % 16 ≤ 4 ∧ p23 n X + p23 n X / 16 < 256 ^ n ∧ B8 n (p33 n X)
  | 0, X, h => by
    have e : X = 0 := by simpa using h
    subst e
    exact ⟨by decide, by decide, rfl⟩
  | n + 1, X, h => by
    have hX : X = X % 256 + 256 * (X / 256) := by omega
    have hR : X / 256 < 256 ^ n := by rw [Nat.pow_succ] at h; omega
    have hb : X % 256 < 256 := Nat.mod_lt _ (by decide)
    obtain ⟨i1, i2, i3⟩ := p_all n (X / 256) hR
    obtain ⟨k1, k2⟩ := t23_le _ hb
    have e := p23_s n (X % 256) (X / 256) hb
    rw [← hX] at e
    unfold p33 at i3 ⊢
    rw [e]
    generalize p23 n (X / 256) = Q at *
    generalize t23 (X % 256) = t at *
    have e2 : (t + 256 * Q) + (t + 256 * Q) / 16 = (t + t / 16 + 16 * (Q % 16)) + 256 * (Q + Q / 16) := by omega
    rw [e2]
    refine ⟨by omega, by rw [Nat.pow_succ]; omega, ?_⟩
    show B8 (n + 1) ((t + t / 16 + 16 * (Q % 16) + 256 * (Q + Q / 16)) &&& (15 + 256 * rep 15 n))
    rw [and_split _ _ (by omega) (by decide), and15]
    generalize (Q + Q / 16) &&& rep 15 n = W at *
    have w8 := low8 t (Q % 16) k1 k2
    refine ⟨show ((t + t / 16 + 16 * (Q % 16)) % 16 + 256 * W) % 256 ≤ 8 by rw [Nat.add_mul_mod_self_left, Nat.mod_eq_of_lt (by omega)]; exact w8, ?_⟩
    rw [show ((t + t / 16 + 16 * (Q % 16)) % 16 + 256 * W) / 256 = W by omega]
    exact i3
theorem B8_sum (Y : Nat) (h : B8 8 Y) : ∃ c0 c1 c2 c3 c4 c5 c6 c7, c0 ≤ 8 ∧ c1 ≤ 8 ∧ c2 ≤ 8 ∧ c3 ≤ 8 ∧ c4 ≤ 8 ∧ c5 ≤ 8 ∧ c6 ≤ 8 ∧ c7 ≤ 8 ∧ Y = c0 + 256 * c1 + 65536 * c2 + 16777216 * c3 + 4294967296 * c4 + 1099511627776 * c5 + 281474976710656 * c6 + 72057594037927936 * c7 := by
  obtain ⟨h0, h1, h2, h3, h4, h5, h6, h7, h8⟩ := h
  have h8' : Y / 256 / 256 / 256 / 256 / 256 / 256 / 256 / 256 = 0 := h8
  exact ⟨_, _, _, _, _, _, _, _, h0, h1, h2, h3, h4, h5, h6, h7, by omega⟩
theorem pc_le (x : Int64) : pc x ≤ 64 := by
  unfold pc
  dsimp only
  rw [← pcM_core]
  have hX : x.toBitVec.toNat < 256 ^ 8 := x.toBitVec.isLt
  obtain ⟨-, l, B⟩ := p_all 8 _ hX
  have a9 : (x - (ushrL x (1 : Int32) &&& (6148914691236517205 : Int64))).toBitVec.toNat = p9 8 x.toBitVec.toNat := by
    have u : (ushrL x (1 : Int32) &&& (6148914691236517205 : Int64)).toBitVec.toNat = (x.toBitVec.toNat / 2 &&& rep 85 8) := by
      rw [Int64.toBitVec_and, BitVec.toNat_and, show (ushrL x (1 : Int32)).toBitVec.toNat = x.toBitVec.toNat / 2 from ushr_toNat x (k := 1) (by decide)]; rfl
    rw [Int64.toBitVec_sub, BitVec.toNat_sub_of_le (by rw [BitVec.le_def, u]; exact p9_le _ _), u]; rfl
  generalize x - (ushrL x (1 : Int32) &&& (6148914691236517205 : Int64)) = y9 at *
  have l23 : p23 8 x.toBitVec.toNat < 256 ^ 8 := Nat.lt_of_le_of_lt (Nat.le_add_right _ _) l
  have a23 : ((y9 &&& (3689348814741910323 : Int64)) + (ushrL y9 (2 : Int32) &&& (3689348814741910323 : Int64))).toBitVec.toNat = p23 8 x.toBitVec.toNat := by
    have u1 : (y9 &&& (3689348814741910323 : Int64)).toBitVec.toNat = (p9 8 x.toBitVec.toNat &&& rep 51 8) := by
      rw [Int64.toBitVec_and, BitVec.toNat_and, a9]; rfl
    have u2 : (ushrL y9 (2 : Int32) &&& (3689348814741910323 : Int64)).toBitVec.toNat = (p9 8 x.toBitVec.toNat / 4 &&& rep 51 8) := by
      rw [Int64.toBitVec_and, BitVec.toNat_and, show (ushrL y9 (2 : Int32)).toBitVec.toNat = y9.toBitVec.toNat / 4 from ushr_toNat y9 (k := 2) (by decide), a9]; rfl
    rw [add_toNat _ _ (by rw [u1, u2]; exact l23), u1, u2]; rfl
  generalize (y9 &&& (3689348814741910323 : Int64)) + (ushrL y9 (2 : Int32) &&& (3689348814741910323 : Int64)) = y23 at *
  have a33 : ((y23 + ushrL y23 (4 : Int32)) &&& (1085102592571150095 : Int64)).toBitVec.toNat = p33 8 x.toBitVec.toNat := by
    have u2 : (ushrL y23 (4 : Int32)).toBitVec.toNat = p23 8 x.toBitVec.toNat / 16 := by
      rw [← a23]; exact ushr_toNat y23 (k := 4) (by decide)
    rw [Int64.toBitVec_and, BitVec.toNat_and, add_toNat _ _ (by rw [a23, u2]; exact l), a23, u2]; rfl
  generalize (y23 + ushrL y23 (4 : Int32)) &&& (1085102592571150095 : Int64) = y at *
  obtain ⟨c0, c1, c2, c3, c4, c5, c6, c7, q0, q1, q2, q3, q4, q5, q6, q7, hY⟩ := B8_sum _ B
  have M := pcsum c0 c1 c2 c3 c4 c5 c6 c7 (by omega) (by omega) (by omega) (by omega) (by omega) (by omega) (by omega) (by omega) _ hY
  have s56 : (ushrL (y * 72340172838076673) (56 : Int32)).toBitVec.toNat = (p33 8 x.toBitVec.toNat * 72340172838076673) % 18446744073709551616 / 72057594037927936 := by
    refine (ushr_toNat _ (k := 56) (by decide)).trans ?_
    rw [Int64.toBitVec_mul, BitVec.toNat_mul, a33]; rfl
  rw [M] at s56
  generalize ushrL (y * 72340172838076673) (56 : Int32) = w at *
  clear M hY B a33 a23 a9 l l23 hX
  rw [Int32.le_iff_toInt_le]
  show (Int64.toInt32 w).toBitVec.toInt ≤ 64
  have e : (Int64.toInt32 w).toBitVec.toNat = w.toBitVec.toNat % 4294967296 := by
    rw [Int64.toBitVec_toInt32, BitVec.signExtend_eq_setWidth_of_le _ (by decide), BitVec.toNat_setWidth]
  rw [BitVec.toInt_eq_toNat_of_lt (by omega), e, s56]
  omega
theorem hgtS_le (H : HS) (C : List Cu) (p hi : Int64) : ∀ k, hgtS H C p hi k ≤ 64
  | 0 => by show (0 : Int32) ≤ 64; decide
  | k + 1 => by
    show (if pc (nightS H C p hi k).c2 ≤ hgtS H C p hi k then hgtS H C p hi k else pc (nightS H C p hi k).c2) ≤ 64
    split
    · exact hgtS_le H C p hi k
    · exact pc_le _
theorem hgt_nat (H : HS) (C : List Cu) (p hi : Int64) : ∃ k, k ≤ 64 ∧ hgtS H C p hi 61 = n2 k := by
  obtain ⟨k, -, h1, h2⟩ := in_true (l := 0) (u := 64) (by decide) (by decide) (decide_eq_true ⟨hgtS_nonneg H C p hi 61, hgtS_le H C p hi 61⟩)
  exact ⟨k, h1, h2⟩
