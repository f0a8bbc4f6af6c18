set_option linter.unusedVariables false
set_option linter.unusedSimpArgs false
/-! ===== numbers, for the arithmetic by omega ===== -/
theorem li_0 : (0 : Int32) = n2 0 := rfl
theorem li_1 : (1 : Int32) = n2 1 := rfl
theorem li_2 : (2 : Int32) = n2 2 := rfl
theorem li_3 : (3 : Int32) = n2 3 := rfl
theorem li_4 : (4 : Int32) = n2 4 := rfl
theorem li_5 : (5 : Int32) = n2 5 := rfl
theorem li_6 : (6 : Int32) = n2 6 := rfl
theorem li_7 : (7 : Int32) = n2 7 := rfl
theorem li_8 : (8 : Int32) = n2 8 := rfl
theorem li_9 : (9 : Int32) = n2 9 := rfl
theorem li_10 : (10 : Int32) = n2 10 := rfl
theorem li_12 : (12 : Int32) = n2 12 := rfl
theorem li_14 : (14 : Int32) = n2 14 := rfl
theorem li_16 : (16 : Int32) = n2 16 := rfl
theorem li_20 : (20 : Int32) = n2 20 := rfl
theorem li_24 : (24 : Int32) = n2 24 := rfl
theorem li_30 : (30 : Int32) = n2 30 := rfl
theorem li_32 : (32 : Int32) = n2 32 := rfl
theorem li_40 : (40 : Int32) = n2 40 := rfl
theorem li_41 : (41 : Int32) = n2 41 := rfl
theorem li_42 : (42 : Int32) = n2 42 := rfl
theorem li_48 : (48 : Int32) = n2 48 := rfl
theorem li_56 : (56 : Int32) = n2 56 := rfl
theorem li_57 : (57 : Int32) = n2 57 := rfl
theorem li_59 : (59 : Int32) = n2 59 := rfl
theorem li_60 : (60 : Int32) = n2 60 := rfl
theorem li_61 : (61 : Int32) = n2 61 := rfl
theorem li_62 : (62 : Int32) = n2 62 := rfl
theorem li_63 : (63 : Int32) = n2 63 := rfl
theorem li_64 : (64 : Int32) = n2 64 := rfl
theorem li_65 : (65 : Int32) = n2 65 := rfl
theorem li_70 : (70 : Int32) = n2 70 := rfl
theorem li_78 : (78 : Int32) = n2 78 := rfl
theorem li_84 : (84 : Int32) = n2 84 := rfl
theorem li_86 : (86 : Int32) = n2 86 := rfl
theorem li_90 : (90 : Int32) = n2 90 := rfl
theorem li_96 : (96 : Int32) = n2 96 := rfl
theorem li_97 : (97 : Int32) = n2 97 := rfl
theorem li_100 : (100 : Int32) = n2 100 := rfl
theorem li_102 : (102 : Int32) = n2 102 := rfl
theorem li_120 : (120 : Int32) = n2 120 := rfl
theorem li_122 : (122 : Int32) = n2 122 := rfl
theorem li_127 : (127 : Int32) = n2 127 := rfl
theorem li_255 : (255 : Int32) = n2 255 := rfl
theorem li_256 : (256 : Int32) = n2 256 := rfl
theorem li_384 : (384 : Int32) = n2 384 := rfl
theorem li_400 : (400 : Int32) = n2 400 := rfl
theorem li_590 : (590 : Int32) = n2 590 := rfl
theorem li_591 : (591 : Int32) = n2 591 := rfl
theorem li_600 : (600 : Int32) = n2 600 := rfl
theorem li_601 : (601 : Int32) = n2 601 := rfl
theorem li_681 : (681 : Int32) = n2 681 := rfl
theorem li_900 : (900 : Int32) = n2 900 := rfl
theorem li_940 : (940 : Int32) = n2 940 := rfl
theorem li_999 : (999 : Int32) = n2 999 := rfl
theorem li_1362 : (1362 : Int32) = n2 1362 := rfl
theorem li_2404 : (2404 : Int32) = n2 2404 := rfl
theorem li_m1 : (-1 : Int32) = i2 (-1) := rfl
theorem li_m2 : (-2 : Int32) = i2 (-2) := rfl
theorem ni_lt {a : Nat} {z : Int} (ha : a < 2147483648) (hb : -2147483648 ≤ z) (hc : z < 2147483648) : (n2 a < i2 z) = ((a : Int) < z) := by rw [n2_i2, i2_lt (by omega) (by omega)]
theorem in_lt {a : Nat} {z : Int} (ha : a < 2147483648) (hb : -2147483648 ≤ z) (hc : z < 2147483648) : (i2 z < n2 a) = (z < (a : Int)) := by rw [n2_i2, i2_lt (by omega) (by omega)]
theorem ni_le {a : Nat} {z : Int} (ha : a < 2147483648) (hb : -2147483648 ≤ z) (hc : z < 2147483648) : (n2 a ≤ i2 z) = ((a : Int) ≤ z) := by rw [n2_i2, i2_le (by omega) (by omega)]
theorem in_le {a : Nat} {z : Int} (ha : a < 2147483648) (hb : -2147483648 ≤ z) (hc : z < 2147483648) : (i2 z ≤ n2 a) = (z ≤ (a : Int)) := by rw [n2_i2, i2_le (by omega) (by omega)]
theorem ni_eq {a : Nat} {z : Int} (ha : a < 2147483648) (hb : -2147483648 ≤ z) (hc : z < 2147483648) : (n2 a = i2 z) = ((a : Int) = z) := by rw [n2_i2, i2_eq (by omega) (by omega)]
theorem in_eq {a : Nat} {z : Int} (ha : a < 2147483648) (hb : -2147483648 ≤ z) (hc : z < 2147483648) : (i2 z = n2 a) = (z = (a : Int)) := by rw [n2_i2, i2_eq (by omega) (by omega)]
theorem ii_lt {a b : Int} (ha : -2147483648 ≤ a) (ha' : a < 2147483648) (hb : -2147483648 ≤ b) (hb' : b < 2147483648) : (i2 a < i2 b) = (a < b) := i2_lt ⟨ha, ha'⟩ ⟨hb, hb'⟩
theorem ii_le {a b : Int} (ha : -2147483648 ≤ a) (ha' : a < 2147483648) (hb : -2147483648 ≤ b) (hb' : b < 2147483648) : (i2 a ≤ i2 b) = (a ≤ b) := i2_le ⟨ha, ha'⟩ ⟨hb, hb'⟩
theorem ii_eq {a b : Int} (ha : -2147483648 ≤ a) (ha' : a < 2147483648) (hb : -2147483648 ≤ b) (hb' : b < 2147483648) : (i2 a = i2 b) = (a = b) := i2_eq ⟨ha, ha'⟩ ⟨hb, hb'⟩
theorem ni_add (a : Nat) (z : Int) : n2 a + i2 z = i2 ((a : Int) + z) := by rw [n2_i2, i2_add]
theorem in_add (a : Nat) (z : Int) : i2 z + n2 a = i2 (z + (a : Int)) := by rw [n2_i2, i2_add]
theorem ni_sub (a : Nat) (z : Int) : n2 a - i2 z = i2 ((a : Int) - z) := by rw [n2_i2, i2_sub]
theorem in_sub (a : Nat) (z : Int) : i2 z - n2 a = i2 (z - (a : Int)) := by rw [n2_i2, i2_sub]
theorem nn_sub (a b : Nat) : n2 a - n2 b = i2 ((a : Int) - (b : Int)) := by rw [n2_i2, n2_i2, i2_sub]
theorem i2_n2 {z : Int} (h : 0 ≤ z) : i2 z = n2 z.toNat := by rw [n2_i2, Int.toNat_of_nonneg h]
theorem ifx_k {α : Type} {n k : Nat} {x : α} (h : k < n) (hk : k < 2147483648) : ifx n (n2 k) x = some x := by
  unfold ifx
  rw [n2_nat hk]
  exact if_pos ⟨n2_pos hk, h⟩
theorem ifx_z {α : Type} {n : Nat} {z : Int} {x : α} (h0 : 0 ≤ z) (h : z < n) (hk : z < 2147483648) : ifx n (i2 z) x = some x := by
  rw [i2_n2 h0, ifx_k (by omega) (by omega)]
theorem i2_nat {z : Int} (h0 : 0 ≤ z) (hk : z < 2147483648) : (i2 z).toNatClampNeg = z.toNat := by rw [i2_n2 h0, n2_nat (by omega)]
theorem n2_dv {a b : Nat} (ha : a < 2147483648) (hb : b < 2147483648) (h0 : 0 < b) : dvI (n2 a) (n2 b) = some (n2 (a / b)) := by
  unfold dvI
  rw [if_neg (by rw [lzero, n2_eq hb (by decide)]; omega), n2_div ha hb]
theorem n2_rm {a b : Nat} (ha : a < 2147483648) (hb : b < 2147483648) (h0 : 0 < b) : rmI (n2 a) (n2 b) = some (n2 (a % b)) := by
  unfold rmI
  rw [if_neg (by rw [lzero, n2_eq hb (by decide)]; omega), n2_div ha hb, n2_mul, n2_sub (Nat.div_mul_le_self _ _)]
  congr 2
  rw [Nat.mod_def, Nat.mul_comm]
theorem mm_min (a b : Nat) (ha : a < 2147483648) (hb : b < 2147483648) : mminI (n2 a) (n2 b) = n2 (min a b) := by
  unfold mminI
  simp only [n2_lt hb ha]
  by_cases h : b < a
  · rw [if_pos h, Nat.min_eq_right (by omega)]
  · rw [if_neg h, Nat.min_eq_left (by omega)]
theorem mm_max (a b : Nat) (ha : a < 2147483648) (hb : b < 2147483648) : mmaxI (n2 a) (n2 b) = n2 (max a b) := by
  unfold mmaxI
  simp only [n2_lt ha hb]
  by_cases h : a < b
  · rw [if_pos h, Nat.max_eq_right (by omega)]
  · rw [if_neg h, Nat.max_eq_left (by omega)]
theorem fuel1 : ∃ f, hcFuel = f + 1 := ⟨99999, rfl⟩
theorem fuel9 : ∃ f, hcFuel = f + 9 := ⟨99991, rfl⟩
theorem pos_of_size {H : HS} {s : Nat} (h : s < H.size) : 0 < H.cols ∧ 0 < H.rows := by
  unfold HS.size at h
  constructor
  · rcases Nat.eq_zero_or_pos H.cols with e | e
    · rw [e] at h; omega
    · exact e
  · rcases Nat.eq_zero_or_pos H.rows with e | e
    · rw [e] at h; omega
    · exact e
theorem row_lt {H : HS} {s : Nat} (h : s < H.size) : s / H.cols < H.rows := by
  have := (pos_of_size h).1
  exact (Nat.div_lt_iff_lt_mul this).mpr h
