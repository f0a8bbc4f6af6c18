set_option linter.unusedVariables false
set_option linter.unusedSimpArgs false
/-! ===== bits ===== -/
def tb (x : Int64) (k : Nat) : Bool := x.toBitVec.getLsbD k
theorem tb_ext {x y : Int64} (h : ∀ k, k < 64 → tb x k = tb y k) : x = y := by
  refine Int64.toBitVec.inj ?_
  exact BitVec.eq_of_getLsbD_eq h
theorem tb_or (x y : Int64) (k : Nat) : tb (x ||| y) k = (tb x k || tb y k) := by
  unfold tb; rw [Int64.toBitVec_or, BitVec.getLsbD_or]
theorem tb_and (x y : Int64) (k : Nat) : tb (x &&& y) k = (tb x k && tb y k) := by
  unfold tb; rw [Int64.toBitVec_and, BitVec.getLsbD_and]
theorem tb_not (x : Int64) {k : Nat} (h : k < 64) : tb (~~~x) k = !tb x k := by
  unfold tb; rw [Int64.toBitVec_not, BitVec.getLsbD_not]; simp [h]
theorem tb_xm1 (x : Int64) {k : Nat} (h : k < 64) : tb (x ^^^ (-1 : Int64)) k = !tb x k := by
  unfold tb
  rw [Int64.toBitVec_xor, BitVec.getLsbD_xor]
  have : (-1 : Int64).toBitVec = BitVec.allOnes 64 := by decide
  rw [this, BitVec.getLsbD_allOnes]; simp [h]
theorem tb_zero (k : Nat) : tb 0 k = false := by
  unfold tb; rw [Int64.toBitVec_zero, BitVec.getLsbD_zero]
theorem toInt64k : ∀ k : Nat, k < 64 → (BitVec.ofNat 64 k).toInt = (k : Int) := by decide
theorem sh_nat {k : Nat} (h : k < 64) : (n2 k).toInt64.toBitVec = BitVec.ofNat 64 k := by
  refine BitVec.eq_of_toInt_eq ?_
  have e : (n2 k).toInt64.toBitVec.toInt = ((n2 k).toInt64).toInt := rfl
  rw [e, Int32.toInt_toInt64, n2_i2, i2_int (by omega) (by omega), show (BitVec.ofNat 64 k).toInt = (k : Int) from toInt64k k h]
theorem sh_and {k : Nat} (h : k < 64) : ((n2 k).toInt64 &&& (63 : Int64)) = (n2 k).toInt64 := by
  refine Int64.toBitVec.inj ?_
  rw [Int64.toBitVec_and, sh_nat h]
  refine BitVec.eq_of_toNat_eq ?_
  rw [BitVec.toNat_and, BitVec.toNat_ofNat]
  show k % 2 ^ 64 &&& 63 = k % 2 ^ 64
  rw [Nat.mod_eq_of_lt (by omega), show (63 : Nat) = 2 ^ 6 - 1 from rfl, Nat.and_two_pow_sub_one_eq_mod, Nat.mod_eq_of_lt (by omega)]
theorem smod64 : ∀ k : Nat, k < 64 → ((BitVec.ofNat 64 k).smod 64).toNat = k := by decide
theorem shl_bv (x : Int64) {k : Nat} (h : k < 64) : (shlL x (n2 k)).toBitVec = x.toBitVec <<< k := by
  unfold shlL
  rw [sh_and h, Int64.toBitVec_shiftLeft, sh_nat h]
  refine BitVec.eq_of_toNat_eq ?_
  have := smod64 k h
  rw [BitVec.shiftLeft_eq', this]
theorem shr_bv (x : Int64) {k : Nat} (h : k < 64) : (shrL x (n2 k)).toBitVec = x.toBitVec.sshiftRight k := by
  unfold shrL
  rw [sh_and h, Int64.toBitVec_shiftRight, sh_nat h]
  have := smod64 k h
  rw [BitVec.sshiftRight_eq', this]
theorem tb_shl1 {s k : Nat} (hs : s < 64) : tb (shlL 1 (n2 s)) k = decide (k = s) := by
  unfold tb
  rw [shl_bv _ hs, show (1 : Int64).toBitVec = 1#64 from rfl, BitVec.getLsbD_shiftLeft]
  by_cases h : k = s
  · subst h; simp [hs]
  · by_cases h2 : k < s
    · simp [h2, h]
    · have : k - s ≠ 0 := by omega
      simp [h2, h, this]
theorem has_tb (x : Int64) {s : Nat} (hs : s < 64) : ((shrL x (n2 s)) &&& (1 : Int64) = (1 : Int64)) = (tb x s = true) := by
  refine propext ⟨fun h => ?_, fun h => ?_⟩
  · have := congrArg (fun z => tb z 0) h
    simp only [tb_and] at this
    rw [show tb 1 0 = true from by decide, Bool.and_true] at this
    unfold tb at this
    rw [shr_bv _ hs, BitVec.getLsbD_sshiftRight] at this
    simp [hs] at this
    exact this
  · refine tb_ext fun k hk => ?_
    rw [tb_and]
    by_cases h0 : k = 0
    · subst h0
      rw [show tb 1 0 = true from by decide, Bool.and_true]
      unfold tb
      rw [shr_bv _ hs, BitVec.getLsbD_sshiftRight]
      simp [hs]
      exact h
    · have : tb 1 k = false := by
        unfold tb
        rw [show (1 : Int64).toBitVec = 1#64 from rfl, BitVec.getLsbD_one]; simp [h0]
      rw [this, Bool.and_false]
theorem ushr_bv (x : Int64) {k : Nat} (h : k < 64) : (ushrL x (n2 k)).toBitVec = x.toBitVec >>> k := by
  unfold ushrL
  show (x.toUInt64 >>> ((n2 k).toInt64.toUInt64 &&& Int64.toUInt64 63)).toBitVec = _
  rw [UInt64.toBitVec_shiftRight]
  have e : ((n2 k).toInt64.toUInt64 &&& Int64.toUInt64 63).toBitVec = BitVec.ofNat 64 k := by
    show ((n2 k).toInt64 &&& (63 : Int64)).toBitVec = _
    rw [sh_and h, sh_nat h]
  rw [e]
  refine BitVec.eq_of_toNat_eq ?_
  rw [BitVec.ushiftRight_eq', BitVec.toNat_ushiftRight, BitVec.toNat_ushiftRight, BitVec.toNat_umod, BitVec.toNat_ofNat]
  show x.toBitVec.toNat >>> (k % 2 ^ 64 % 64) = _
  rw [Nat.mod_eq_of_lt (show k < 2 ^ 64 by omega), Nat.mod_eq_of_lt h]
def pc (x : Int64) : Int32 :=
  let y9 := x - ((ushrL x (1 : Int32)) &&& (6148914691236517205 : Int64))
  let y23 := (y9 &&& (3689348814741910323 : Int64)) + ((ushrL y9 (2 : Int32)) &&& (3689348814741910323 : Int64))
  let y33 := (y23 + (ushrL y23 (4 : Int32))) &&& (1085102592571150095 : Int64)
  let y40 := y33 + (ushrL y33 (8 : Int32))
  let y47 := y40 + (ushrL y40 (16 : Int32))
  let y54 := y47 + (ushrL y47 (32 : Int32))
  (Int64.toInt32 y54) &&& (127 : Int32)
theorem pcX (x : Int64) (st : Mem) : fJ18_bitCount x st = some (pc x, st) := rfl
theorem byte15 (a i : Nat) (hi : i < 8) : (a &&& 1085102592571150095) / 256 ^ i % 256 ≤ 15 := by
  have e : (a &&& 1085102592571150095) / 256 ^ i % 256 = (a >>> (8 * i)) % 256 &&& (1085102592571150095 >>> (8 * i) % 256) := by
    rw [show (256 : Nat) ^ i = 2 ^ (8 * i) by rw [show (256 : Nat) = 2 ^ 8 from rfl, ← Nat.pow_mul], ← Nat.shiftRight_eq_div_pow, Nat.shiftRight_and_distrib, show (256 : Nat) = 2 ^ 8 from rfl, Nat.and_mod_two_pow]
  rw [e]
  have : 1085102592571150095 >>> (8 * i) % 256 ≤ 15 := by
    have h : ∀ i, i < 8 → 1085102592571150095 >>> (8 * i) % 256 ≤ 15 := by decide
    exact h i hi
  exact Nat.le_trans (Nat.and_le_right) this
theorem ushr_toNat (x : Int64) {k : Nat} (h : k < 64) : (ushrL x (n2 k)).toBitVec.toNat = x.toBitVec.toNat / 2 ^ k := by
  rw [ushr_bv x h, BitVec.toNat_ushiftRight, Nat.shiftRight_eq_div_pow]
theorem add_toNat (x y : Int64) (h : x.toBitVec.toNat + y.toBitVec.toNat < 2 ^ 64) : (x + y).toBitVec.toNat = x.toBitVec.toNat + y.toBitVec.toNat := by
  rw [Int64.toBitVec_add, BitVec.toNat_add, Nat.mod_eq_of_lt h]
theorem divpick (R S Q : Nat) (hR : R < 72057594037927936) (hS : S < 256) : (R + 72057594037927936 * S + 18446744073709551616 * Q) % 18446744073709551616 / 72057594037927936 = S := by
  rw [Nat.add_mul_mod_self_left, Nat.mod_eq_of_lt (by omega), Nat.add_mul_div_left _ _ (by decide), Nat.div_eq_of_lt hR, Nat.zero_add]
theorem pcsum (c0 c1 c2 c3 c4 c5 c6 c7 : Nat) (h0 : c0 ≤ 15) (h1 : c1 ≤ 15) (h2 : c2 ≤ 15) (h3 : c3 ≤ 15) (h4 : c4 ≤ 15) (h5 : c5 ≤ 15) (h6 : c6 ≤ 15) (h7 : c7 ≤ 15) (Y : Nat)
    (hY : Y = c0 + 256 * c1 + 65536 * c2 + 16777216 * c3 + 4294967296 * c4 + 1099511627776 * c5 + 281474976710656 * c6 + 72057594037927936 * c7) :
    (Y * 72340172838076673) % 18446744073709551616 / 72057594037927936 = c0 + c1 + c2 + c3 + c4 + c5 + c6 + c7 := by
  have e : Y * 72340172838076673 = (c0 + 256 * (c0 + c1) + 65536 * (c0 + c1 + c2) + 16777216 * (c0+c1+c2+c3) + 4294967296 * (c0+c1+c2+c3+c4) + 1099511627776 * (c0+c1+c2+c3+c4+c5) + 281474976710656 * (c0+c1+c2+c3+c4+c5+c6)) + 72057594037927936 * (c0+c1+c2+c3+c4+c5+c6+c7) + 18446744073709551616 * ((c1+c2+c3+c4+c5+c6+c7) + 256*(c2+c3+c4+c5+c6+c7) + 65536*(c3+c4+c5+c6+c7) + 16777216*(c4+c5+c6+c7) + 4294967296*(c5+c6+c7) + 1099511627776*(c6+c7) + 281474976710656 * c7) := by omega
  rw [e]
  exact divpick _ _ _ (by omega) (by omega)
theorem pc_y1 (c0 c1 c2 c3 c4 c5 c6 c7 : Nat) (h0 : c0 ≤ 15) : (c0 + 256 * c1 + 65536 * c2 + 16777216 * c3 + 4294967296 * c4 + 1099511627776 * c5 + 281474976710656 * c6 + 72057594037927936 * c7) / 256 = c1 + 256 * c2 + 65536 * c3 + 16777216 * c4 + 4294967296 * c5 + 1099511627776 * c6 + 281474976710656 * c7 := by omega
theorem pc_a2 (c0 c1 c2 c3 c4 c5 c6 c7 : Nat) (h0 : c0 ≤ 15)  (h1 : c1 ≤ 15) (h2 : c2 ≤ 15) : (((c0 + c1) + 256 * (c1 + c2)) + 65536 * ((c2 + c3) + 256 * (c3+c4) + 65536 * (c4+c5) + 16777216 * (c5+c6) + 4294967296 * (c6+c7) + 1099511627776 * c7)) / 65536 = (c2 + c3) + 256 * (c3+c4) + 65536 * (c4+c5) + 16777216 * (c5+c6) + 4294967296 * (c6+c7) + 1099511627776 * c7 := by omega
theorem pc_dv (a b k : Nat) (hk : 0 < k) (h : a < k) : (a + k * b) / k = b := by
  rw [Nat.add_mul_div_left _ _ hk, Nat.div_eq_of_lt h, Nat.zero_add]
theorem pc_b2 (c0 c1 c2 c3 c4 c5 c6 c7 : Nat) (h0 : c0 ≤ 15)  (h1 : c1 ≤ 15) (h2 : c2 ≤ 15) (h3 : c3 ≤ 15) (h4 : c4 ≤ 15) (h5 : c5 ≤ 15) (h6 : c6 ≤ 15): (((c0 + c1+c2+c3) + 256 * (c1 + c2+c3+c4) + 65536 * (c2 + c3+c4+c5) + 16777216 * (c3+c4+c5+c6)) + 4294967296 * ((c4+c5+c6+c7) + 256 * (c5+c6+c7) + 65536 * (c6+c7) + 16777216 * c7)) / 4294967296 = (c4+c5+c6+c7) + 256 * (c5+c6+c7) + 65536 * (c6+c7) + 16777216 * c7 := pc_dv _ _ _ (by decide) (by omega)
theorem pc_a1 (c0 c1 c2 c3 c4 c5 c6 c7 : Nat) : (c0 + 256 * c1 + 65536 * c2 + 16777216 * c3 + 4294967296 * c4 + 1099511627776 * c5 + 281474976710656 * c6 + 72057594037927936 * c7) + (c1 + 256 * c2 + 65536 * c3 + 16777216 * c4 + 4294967296 * c5 + 1099511627776 * c6 + 281474976710656 * c7) = ((c0 + c1) + 256 * (c1 + c2)) + 65536 * ((c2 + c3) + 256 * (c3+c4) + 65536 * (c4+c5) + 16777216 * (c5+c6) + 4294967296 * (c6+c7) + 1099511627776 * c7) := by omega
theorem pc_b1 (c0 c1 c2 c3 c4 c5 c6 c7 : Nat) : (((c0 + c1) + 256 * (c1 + c2)) + 65536 * ((c2 + c3) + 256 * (c3+c4) + 65536 * (c4+c5) + 16777216 * (c5+c6) + 4294967296 * (c6+c7) + 1099511627776 * c7)) + ((c2 + c3) + 256 * (c3+c4) + 65536 * (c4+c5) + 16777216 * (c5+c6) + 4294967296 * (c6+c7) + 1099511627776 * c7) = ((c0 + c1+c2+c3) + 256 * (c1 + c2+c3+c4) + 65536 * (c2 + c3+c4+c5) + 16777216 * (c3+c4+c5+c6)) + 4294967296 * ((c4+c5+c6+c7) + 256 * (c5+c6+c7) + 65536 * (c6+c7) + 16777216 * c7) := by omega
theorem pc_d1 (c0 c1 c2 c3 c4 c5 c6 c7 : Nat) : (((c0 + c1+c2+c3) + 256 * (c1 + c2+c3+c4) + 65536 * (c2 + c3+c4+c5) + 16777216 * (c3+c4+c5+c6)) + 4294967296 * ((c4+c5+c6+c7) + 256 * (c5+c6+c7) + 65536 * (c6+c7) + 16777216 * c7)) + ((c4+c5+c6+c7) + 256 * (c5+c6+c7) + 65536 * (c6+c7) + 16777216 * c7) = (c0 + c1+c2+c3+c4+c5+c6+c7) + 128 * (2 * (c1 + c2+c3+c4 + c5+c6+c7) + 512 * (c2 + c3+c4+c5 + c6+c7) + 131072 * (c3+c4+c5+c6 + c7) + 33554432 * (c4+c5+c6+c7) + 8589934592 * (c5+c6+c7) + 2199023255552 * (c6+c7) + 562949953421312 * c7) := by omega
theorem pc_r (S Q : Nat) (h : S < 128) : (S + 128 * Q) % 128 = S := by rw [Nat.add_mul_mod_self_left, Nat.mod_eq_of_lt h]
theorem pcsumX (c0 c1 c2 c3 c4 c5 c6 c7 : Nat) (h0 : c0 ≤ 15) (h1 : c1 ≤ 15) (h2 : c2 ≤ 15) (h3 : c3 ≤ 15) (h4 : c4 ≤ 15) (h5 : c5 ≤ 15) (h6 : c6 ≤ 15) (h7 : c7 ≤ 15) (Y : Nat)
    (hY : Y = c0 + 256 * c1 + 65536 * c2 + 16777216 * c3 + 4294967296 * c4 + 1099511627776 * c5 + 281474976710656 * c6 + 72057594037927936 * c7) (A B C : Nat) (hA : A = Y + Y / 256) (hB : B = A + A / 65536) (hC : C = B + B / 4294967296) :
    C % 128 = c0 + c1 + c2 + c3 + c4 + c5 + c6 + c7 := by
  rw [hY, pc_y1 c0 c1 c2 c3 c4 c5 c6 c7 h0, pc_a1] at hA
  rw [hA, pc_a2 c0 c1 c2 c3 c4 c5 c6 c7 h0 h1 h2, pc_b1] at hB
  rw [hB, pc_b2 c0 c1 c2 c3 c4 c5 c6 c7 h0 h1 h2 h3 h4 h5 h6, pc_d1] at hC
  rw [hC]
  refine pc_r _ _ ?_
  clear hA hB hC hY
  omega
theorem pc_split (Y : Nat) (h : Y < 18446744073709551616) : Y = Y / 1 % 256 + 256 * (Y / 256 % 256) + 65536 * (Y / 65536 % 256) + 16777216 * (Y / 16777216 % 256) + 4294967296 * (Y / 4294967296 % 256) + 1099511627776 * (Y / 1099511627776 % 256) + 281474976710656 * (Y / 281474976710656 % 256) + 72057594037927936 * (Y / 72057594037927936 % 256) := by omega
theorem pcM_core (z : Int64) : Int64.toInt32 (ushrL ((z &&& (1085102592571150095 : Int64)) * (72340172838076673 : Int64)) (56 : Int32)) =
    (let y33 := z &&& (1085102592571150095 : Int64)
     let y40 := y33 + (ushrL y33 (8 : Int32))
     let y47 := y40 + (ushrL y40 (16 : Int32))
     let y54 := y47 + (ushrL y47 (32 : Int32))
     (Int64.toInt32 y54) &&& (127 : Int32)) := by
  dsimp only
  generalize hy : z &&& (1085102592571150095 : Int64) = y
  have hN : y.toBitVec.toNat = z.toBitVec.toNat &&& 1085102592571150095 := by
    rw [← hy, Int64.toBitVec_and, BitVec.toNat_and]; rfl
  have hlt : y.toBitVec.toNat < 18446744073709551616 := y.toBitVec.isLt
  have q := fun i hi => byte15 z.toBitVec.toNat i hi
  rw [← hN] at q
  generalize hY : y.toBitVec.toNat = Y at *
  have q0 := q 0 (by decide); have q1 := q 1 (by decide); have q2 := q 2 (by decide); have q3 := q 3 (by decide)
  have q4 := q 4 (by decide); have q5 := q 5 (by decide); have q6 := q 6 (by decide); have q7 := q 7 (by decide)
  simp only [Nat.reducePow] at q0 q1 q2 q3 q4 q5 q6 q7
  have hsum := pc_split Y hlt
  have M := pcsum _ _ _ _ _ _ _ _ q0 q1 q2 q3 q4 q5 q6 q7 Y hsum
  have X := pcsumX _ _ _ _ _ _ _ _ q0 q1 q2 q3 q4 q5 q6 q7 Y hsum _ _ _ rfl rfl rfl
  have l60 : Y < 1152921504606846976 := by clear X M hsum; omega
  clear q0 q1 q2 q3 q4 q5 q6 q7 hsum q
  generalize Y / 1 % 256 + Y / 256 % 256 + Y / 65536 % 256 + Y / 16777216 % 256 + Y / 4294967296 % 256 + Y / 1099511627776 % 256 + Y / 281474976710656 % 256 + Y / 72057594037927936 % 256 = S at *
  have s8 : (ushrL y (8 : Int32)).toBitVec.toNat = Y / 256 := by rw [← hY]; exact ushr_toNat y (k := 8) (by decide)
  have d1 : Y / 256 ≤ Y := Nat.div_le_self _ _
  have t40 : (y + ushrL y 8).toBitVec.toNat = Y + Y / 256 := by rw [add_toNat _ _ (by rw [hY, s8]; show _ < 18446744073709551616; omega), hY, s8]
  generalize hA : y + ushrL y 8 = y40 at *
  generalize hAn : Y + Y / 256 = An at *
  have l61 : An < 2305843009213693952 := by omega
  have s16 : (ushrL y40 (16 : Int32)).toBitVec.toNat = An / 65536 := by rw [← t40]; exact ushr_toNat y40 (k := 16) (by decide)
  have d2 : An / 65536 ≤ An := Nat.div_le_self _ _
  have t47 : (y40 + ushrL y40 16).toBitVec.toNat = An + An / 65536 := by rw [add_toNat _ _ (by rw [t40, s16]; show _ < 18446744073709551616; omega), t40, s16]
  generalize hB : y40 + ushrL y40 16 = y47 at *
  generalize hBn : An + An / 65536 = Bn at *
  have l62 : Bn < 4611686018427387904 := by omega
  have s32 : (ushrL y47 (32 : Int32)).toBitVec.toNat = Bn / 4294967296 := by rw [← t47]; exact ushr_toNat y47 (k := 32) (by decide)
  have d3 : Bn / 4294967296 ≤ Bn := Nat.div_le_self _ _
  have t54 : (y47 + ushrL y47 32).toBitVec.toNat = Bn + Bn / 4294967296 := by rw [add_toNat _ _ (by rw [t47, s32]; show _ < 18446744073709551616; omega), t47, s32]
  generalize hC : y47 + ushrL y47 32 = y54 at *
  have s56 : (ushrL (y * 72340172838076673) (56 : Int32)).toBitVec.toNat = (Y * 72340172838076673) % 18446744073709551616 / 72057594037927936 := by
    refine (ushr_toNat _ (k := 56) (by decide)).trans ?_
    rw [Int64.toBitVec_mul, BitVec.toNat_mul, hY]; rfl
  refine Int32.toBitVec.inj (BitVec.eq_of_toNat_eq ?_)
  rw [Int64.toBitVec_toInt32, Int32.toBitVec_and, Int64.toBitVec_toInt32, BitVec.toNat_and, BitVec.signExtend_eq_setWidth_of_le _ (by decide), BitVec.signExtend_eq_setWidth_of_le _ (by decide), BitVec.toNat_setWidth, BitVec.toNat_setWidth, t54]
  rw [s56, M, show (127 : Int32).toBitVec.toNat = 2 ^ 7 - 1 from rfl, Nat.and_two_pow_sub_one_eq_mod]
  generalize Bn + Bn / 4294967296 = Cn at *
  clear M
  show S % 4294967296 = Cn % 4294967296 % 128
  omega
theorem pcM (x : Int64) (st : Mem) : fX4_bits x st = some (pc x, st) := by
  unfold fX4_bits pc
  simp only [Option.bind_some]
  rw [pcM_core]
