set_option linter.unusedVariables false
set_option linter.unusedSimpArgs false
/-! ===== plain law: numbers ===== -/
def n2 (k : Nat) : Int32 := Int32.ofNat k
def i2 (z : Int) : Int32 := Int32.ofInt z
def upq {α : Type} (f : Nat → α) (k : Nat) (v : α) : Nat → α := fun j => if j = k then v else f j
def ifx {α : Type} (n : Nat) (i : Int32) (x : α) : Option α := if 0 ≤ i ∧ i.toNatClampNeg < n then some x else none
theorem upq_self {α : Type} (f : Nat → α) (k : Nat) (v : α) : upq f k v k = v := if_pos rfl
theorem upq_ne {α : Type} (f : Nat → α) {k j : Nat} (v : α) (h : j ≠ k) : upq f k v j = f j := if_neg h
theorem n2_add (a b : Nat) : n2 a + n2 b = n2 (a + b) := (Int32.ofNat_add a b).symm
theorem n2_mul (a b : Nat) : n2 a * n2 b = n2 (a * b) := (Int32.ofNat_mul a b).symm
theorem n2_sub {a b : Nat} (h : b ≤ a) : n2 a - n2 b = n2 (a - b) := (Int32.ofNat_sub a b h).symm
theorem n2_i2 (k : Nat) : n2 k = i2 (k : Int) := rfl
theorem i2_add (a b : Int) : i2 a + i2 b = i2 (a + b) := (Int32.ofInt_add a b).symm
theorem i2_sub (a b : Int) : i2 a - i2 b = i2 (a - b) := (Int32.ofInt_sub a b).symm
theorem i2_mul (a b : Int) : i2 a * i2 b = i2 (a * b) := (Int32.ofInt_mul a b).symm
theorem i2_int {z : Int} (h : -2147483648 ≤ z) (h2 : z < 2147483648) : (i2 z).toInt = z := Int32.toInt_ofInt_of_le h h2
theorem i2_inv (x : Int32) : i2 x.toInt = x := Int32.ofInt_toInt x
theorem i2_ex (x : Int32) : ∃ z : Int, x = i2 z ∧ -2147483648 ≤ z ∧ z < 2147483648 := ⟨x.toInt, (i2_inv x).symm, Int32.le_toInt x, Int32.toInt_lt x⟩
theorem i2_lt {a b : Int} (ha : -2147483648 ≤ a ∧ a < 2147483648) (hb : -2147483648 ≤ b ∧ b < 2147483648) : (i2 a < i2 b) = (a < b) := by
  rw [Int32.lt_iff_toInt_lt, i2_int ha.1 ha.2, i2_int hb.1 hb.2]
theorem i2_le {a b : Int} (ha : -2147483648 ≤ a ∧ a < 2147483648) (hb : -2147483648 ≤ b ∧ b < 2147483648) : (i2 a ≤ i2 b) = (a ≤ b) := by
  rw [Int32.le_iff_toInt_le, i2_int ha.1 ha.2, i2_int hb.1 hb.2]
theorem i2_eq {a b : Int} (ha : -2147483648 ≤ a ∧ a < 2147483648) (hb : -2147483648 ≤ b ∧ b < 2147483648) : (i2 a = i2 b) = (a = b) := by
  refine propext ⟨fun h => ?_, fun h => h ▸ rfl⟩
  have := congrArg Int32.toInt h
  rwa [i2_int ha.1 ha.2, i2_int hb.1 hb.2] at this
theorem n2_lt {a b : Nat} (ha : a < 2147483648) (hb : b < 2147483648) : (n2 a < n2 b) = (a < b) := by
  rw [n2_i2, n2_i2, i2_lt (by omega) (by omega)]; exact propext Int.ofNat_lt
theorem n2_le {a b : Nat} (ha : a < 2147483648) (hb : b < 2147483648) : (n2 a ≤ n2 b) = (a ≤ b) := by
  rw [n2_i2, n2_i2, i2_le (by omega) (by omega)]; exact propext Int.ofNat_le
theorem n2_eq {a b : Nat} (ha : a < 2147483648) (hb : b < 2147483648) : (n2 a = n2 b) = (a = b) := by
  rw [n2_i2, n2_i2, i2_eq (by omega) (by omega)]; exact propext Int.ofNat_inj
theorem n2_nat {a : Nat} (h : a < 2147483648) : (n2 a).toNatClampNeg = a := Int32.toNatClampNeg_ofNat_of_lt h
theorem n2_pos {a : Nat} (h : a < 2147483648) : 0 ≤ n2 a := Int32.zero_le_ofNat_of_lt h
theorem ifx_n2 {α : Type} {n k : Nat} {x : α} (h : k < n) (hn : n ≤ 100000) : ifx n (n2 k) x = some x := by
  unfold ifx
  rw [n2_nat (by omega)]
  exact if_pos ⟨n2_pos (by omega), h⟩
theorem lnum_ (n : Nat) : (OfNat.ofNat n : Int32) = n2 n := rfl
theorem lzero : (0 : Int32) = n2 0 := rfl
theorem lmone : (-1 : Int32) = i2 (-1) := rfl
theorem n2_ge {k : Nat} (h : k < 2147483648) : (n2 k < 0) = False := by
  rw [lzero, n2_lt h (by decide)]; simp
theorem n2_of {z : Int32} (h : 0 ≤ z) : ∃ k : Nat, z = n2 k ∧ k < 2147483648 := by
  refine ⟨z.toNatClampNeg, ?_, Int32.toNatClampNeg_lt z⟩
  exact (Int32.ofNat_toNatClampNeg z h).symm
theorem n2_div {a b : Nat} (ha : a < 2147483648) (hb : b < 2147483648) : n2 a / n2 b = n2 (a / b) := (Int32.ofNat_div ha hb).symm
