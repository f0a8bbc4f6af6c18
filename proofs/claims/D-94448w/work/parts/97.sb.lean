set_option linter.unusedVariables false
set_option linter.unusedSimpArgs false
set_option maxRecDepth 100000
/-! ===== the word under way ===== -/
section Sb
variable {B : Mem} {P R : List Cl} {z j f : Nat}
theorem q_len (hj : j < R.length) : P.length + j < (P ++ R).length := by rw [List.length_append]; omega
theorem q_gI (hj : decide (j < R.length) = true) (h : okI (clD R j).t f = true) : gI (ovs B (P ++ R) z) (some (mNx B + (P.length + j))) f = some ((clD R j).i f) := by
  have := o_gI (B := B) (L := P ++ R) (z := z) (i := P.length + j) (f := f) (decide_eq_true (q_len (of_decide_eq_true hj))) (by rw [clD_apR]; exact h)
  rwa [clD_apR] at this
theorem q_gA (hj : decide (j < R.length) = true) (h : okA (clD R j).t f = true) : gA (ovs B (P ++ R) z) (some (mNx B + (P.length + j))) f = some ((clD R j).a f) := by
  have := o_gA (B := B) (L := P ++ R) (z := z) (i := P.length + j) (f := f) (decide_eq_true (q_len (of_decide_eq_true hj))) (by rw [clD_apR]; exact h)
  rwa [clD_apR] at this
theorem q_pI (hB : 64 ≤ mNx B) (hj : decide (j < R.length) = true) (h : okPI (clD R j).t f = true) {v : Int32} : pI (ovs B (P ++ R) z) (some (mNx B + (P.length + j))) f v = some (ovs B (P ++ clS R j ((clD R j).sI f v)) z) := by
  have := o_pI (B := B) (L := P ++ R) (z := z) (i := P.length + j) (f := f) (v := v) hB (decide_eq_true (q_len (of_decide_eq_true hj))) (by rw [clD_apR]; exact h)
  rwa [clD_apR, clS_apR] at this
theorem q_p0 (hB : 64 ≤ mNx B) (hj : decide (j < R.length) = true) (h : ((fl (clD R j).t).contains f && fty f == 4) = true) : pI (ovs B (P ++ R) z) (some (mNx B + (P.length + j))) f 0 = some (ovs B (P ++ clS R j ((clD R j).sI f 0)) z) := by
  have hi := q_len (P := P) (of_decide_eq_true hj)
  obtain ⟨c1, c2, c3, c4, c5⟩ := ov_ce (B := B) (z := z) hi
  rw [clD_apR] at c1
  simp -implicitDefEqProofs only [Bool.and_eq_true, beq_iff_eq] at h
  have cond : 64 ≤ mNx B + (P.length + j) ∧ mNx B + (P.length + j) < mNx (ovs B (P ++ R) z) ∧ (fl (mTag (ovs B (P ++ R) z) (mNx B + (P.length + j)))).contains f = true ∧ (fty f = 0 ∨ (fty f = 3 ∧ ((0 : Int32) = 0 ∨ (0 : Int32) = 1)) ∨ (fty f = 4 ∧ (0 : Int32) = 0)) := ⟨by omega, by rw [ov_nx]; omega, by rw [c1]; exact h.1, Or.inr (Or.inr ⟨h.2, rfl⟩)⟩
  refine (if_pos cond).trans ?_
  rw [o_SI hi, clD_apR, clS_apR]
theorem q_pA (hB : 64 ≤ mNx B) (hj : decide (j < R.length) = true) (h : okA (clD R j).t f = true) {v : Rf} : pA (ovs B (P ++ R) z) (some (mNx B + (P.length + j))) f v = some (ovs B (P ++ clS R j ((clD R j).sA f v)) z) := by
  have := o_pA (B := B) (L := P ++ R) (z := z) (i := P.length + j) (f := f) (v := v) hB (decide_eq_true (q_len (of_decide_eq_true hj))) (by rw [clD_apR]; exact h)
  rwa [clD_apR, clS_apR] at this
theorem q_aN (hj : decide (j < R.length) = true) (h : decide (100 ≤ (clD R j).t ∧ (clD R j).t < 108) = true) : aN (ovs B (P ++ R) z) (some (mNx B + (P.length + j))) = some (n2 (clD R j).l) := by
  have := o_aN (B := B) (L := P ++ R) (z := z) (i := P.length + j) (q_len (of_decide_eq_true hj)) (by rw [clD_apR]; exact of_decide_eq_true h)
  rwa [clD_apR] at this
theorem q_iv {α : Type} {w : Option α} {ts : List Nat} (hj : decide (j < R.length) = true) (h : ts.contains (clD R j).t = true) : iv (ovs B (P ++ R) z) (some (mNx B + (P.length + j))) ts w = w :=
  o_iv (B := B) (L := P ++ R) (z := z) (i := P.length + j) (q_len (of_decide_eq_true hj)) (by rw [clD_apR]; exact h)
theorem q_uB (hB : 64 ≤ mNx B) (hj : j < R.length) (ht : (clD R j).t = 100) {k : Nat} (hk : k < (clD R j).l) (hk2 : k < 1000) {v : Int32} : uB (ovs B (P ++ R) z) (some (mNx B + (P.length + j))) (n2 k) v = some (ovs B (P ++ clS R j ((clD R j).sI k v.toInt8.toInt32)) z) := by
  have := o_uB (B := B) (L := P ++ R) (z := z) (i := P.length + j) (v := v) hB (q_len hj) (by rw [clD_apR]; exact ht) (k := k) (by rw [clD_apR]; exact hk) hk2
  rwa [clD_apR, clS_apR] at this
theorem q_aB (hj : j < R.length) (ht : (clD R j).t = 100) {k : Nat} (hk : k < (clD R j).l) (hk2 : k < 1000) : aB (ovs B (P ++ R) z) (some (mNx B + (P.length + j))) (n2 k) = some ((clD R j).i k) := by
  have := o_aB (B := B) (L := P ++ R) (z := z) (i := P.length + j) (q_len hj) (by rw [clD_apR]; exact ht) (k := k) (by rw [clD_apR]; exact hk) hk2
  rwa [clD_apR] at this
theorem q_nO {t : Nat} (h : decide (0 < t ∧ t < 22) = true) : nO (ovs B (P ++ R) z) t = some (some (mNx B + (P.length + R.length)), ovs B (P ++ (R ++ [Cl.nw t 0])) (z + nsl t)) := by
  rw [o_nO h, List.length_append, List.append_assoc]
theorem q_nA {t n : Nat} (h : decide (100 ≤ t ∧ t < 107 ∧ n ≤ 100000) = true) : nA (ovs B (P ++ R) z) t (n2 n) = some (some (mNx B + (P.length + R.length)), ovs B (P ++ (R ++ [Cl.nw t n])) (z + n)) := by
  rw [o_nA h, List.length_append, List.append_assoc]
theorem fits_b : ∀ c, c < 128 → fits FieldType.byte (Value.int (n2 c)) = true := by decide +kernel
theorem q_cpB {i n : Nat} (hB : 64 ≤ mNx B) (hi : i < R.length) (hj : j < R.length) (hij : i ≠ j) (ht : (clD R i).t = 100) (ht2 : (clD R j).t = 100) (hn : n ≤ (clD R i).l) (hn2 : n ≤ (clD R j).l) (h1000 : n ≤ 1000) (he : ∀ k, k < n → ∃ c, c < 128 ∧ (clD R i).i k = n2 c) :
    cpy (ovs B (P ++ R) z) (some (mNx B + (P.length + i))) 0 (some (mNx B + (P.length + j))) 0 (n2 n) = some (ovs B (P ++ clS R j ((clD R j).rI (va_cpy (clD R i).i (clD R j).i 0 0 n))) z) := by
  have hi' := q_len (P := P) hi
  have hj' := q_len (P := P) hj
  obtain ⟨c1, c2, c3, c4, c5⟩ := ov_ce (B := B) (z := z) hj'
  obtain ⟨s1, s2, s3, s4, s5⟩ := ov_ce (B := B) (z := z) hi'
  rw [clD_apR] at c1 c2 c3 s1 s2 s3
  have z0 : (0 : Int32).toNatClampNeg = 0 := by decide
  have ok : cpOK (ovs B (P ++ R) z) 100 (mNx B + (P.length + i)) 0 n = true := cp_all (fun k hk => by
    rw [if_pos rfl, s3, Nat.zero_add]
    obtain ⟨c, h1, h2⟩ := he k hk
    rw [h2]; exact fits_b c h1)
  have cond : 64 ≤ mNx B + (P.length + j) ∧ mNx B + (P.length + i) < mNx (ovs B (P ++ R) z) ∧ mNx B + (P.length + j) < mNx (ovs B (P ++ R) z) ∧ mNx B + (P.length + i) ≠ mNx B + (P.length + j) ∧ mTag (ovs B (P ++ R) z) (mNx B + (P.length + i)) = mTag (ovs B (P ++ R) z) (mNx B + (P.length + j)) ∧ 100 ≤ mTag (ovs B (P ++ R) z) (mNx B + (P.length + j)) ∧ mTag (ovs B (P ++ R) z) (mNx B + (P.length + j)) < 106 ∧ (0 : Int32) ≤ 0 ∧ (0 : Int32) ≤ 0 ∧ (0 : Int32) ≤ n2 n ∧ (0 : Int32).toNatClampNeg + (n2 n).toNatClampNeg ≤ mLen (ovs B (P ++ R) z) (mNx B + (P.length + i)) ∧ (0 : Int32).toNatClampNeg + (n2 n).toNatClampNeg ≤ mLen (ovs B (P ++ R) z) (mNx B + (P.length + j)) ∧ cpOK (ovs B (P ++ R) z) (mTag (ovs B (P ++ R) z) (mNx B + (P.length + j))) (mNx B + (P.length + i)) (0 : Int32).toNatClampNeg (n2 n).toNatClampNeg = true := by
    rw [s1, ht, c1, ht2, s2, c2, z0, n2_nat (by omega), ov_nx]
    exact ⟨by omega, by omega, by omega, by omega, rfl, by decide, by decide, by decide, by decide, n2_pos (by omega), by omega, by omega, ok⟩
  refine (if_pos cond).trans ?_
  rw [c1, ht2, z0, n2_nat (by omega)]
  unfold mCopy
  rw [if_neg (by decide), if_neg (by decide), s3, c3, o_RI hj', clD_apR, clS_apR]
end Sb
def sbC (A k : Nat) : Cl := Cl.mk 20 0 (upq (fun _ => 0) 162 (n2 k)) (fun _ => 0) (upq (fun _ => none) 159 (some A))
def byC (g : Nat → Int32) : Cl := Cl.mk 100 16 g (fun _ => 0) (fun _ => none)
def stC (A : Nat) : Cl := Cl.mk 19 0 (fun _ => 0) (fun _ => 0) (upq (fun _ => none) 155 (some A))
def daC (k : Nat) (g : Nat → Int32) : Cl := Cl.mk 100 k (va_cpy g (fun _ => 0) 0 0 k) (fun _ => 0) (fun _ => none)
theorem by_id : ∀ c, c < 128 → (i2bv (n2 c)).toInt8.toInt32 = n2 c := by decide +kernel
theorem i2c_id : ∀ c, c < 256 → i2cv (n2 c) = n2 c := by decide +kernel
theorem z_upd (k : Nat) : upq (fun _ => (0 : Int32)) k 0 = fun _ => 0 := upd_same (fun _ => (0 : Int32)) k
theorem nsl_19 : nsl 19 = 4 := rfl
theorem nsl_20 : nsl 20 = 4 := rfl
section Sb2
variable {B : Mem} {P R : List Cl} {z k ch : Nat} {g : Nat → Int32}
theorem X_sbInit (hB : 64 ≤ mNx B) : (bd (nO (ovs B P z) 20) fun x180 st => bd (nn x180 (fJ11_init x180 st)) fun _ st => some (x180, st)) = some (some (mNx B + (P.length + 0)), ovs B (P ++ [sbC (mNx B + (P.length + 1)) 0, byC (fun _ => 0)]) (z + 20)) := by
  have e0 : ovs B P z = ovs B (P ++ []) z := by rw [List.append_nil]
  rw [e0]
  unfold fJ11_init fJ10_init
  simp -implicitDefEqProofs (disch := first | with_unfolding_all exact id rfl | decide) only [bd_some, Option.bind_some, nn_some, q_nO, li_16, show ((1 : Int32) = 0) = False from eq_false (by decide), if_false, q_nA, q_pA hB, q_p0 hB, List.nil_append, List.cons_append, List.length_cons, List.length_nil, Nat.reduceAdd, clS, clD, Cl.nw, Cl.sI, Cl.sA, mk_Cl_t, mk_Cl_l, mk_Cl_i, mk_Cl_j, mk_Cl_a, nsl_20, z_upd]
  unfold sbC byC
  rw [show n2 0 = (0 : Int32) from rfl, z_upd, Nat.add_assoc]
theorem X_sbApp (hB : 64 ≤ mNx B) (hk : k < 16) (hc : ch < 128) : fJ11_append (some (mNx B + (P.length + 0))) (i2cv (n2 ch)) (ovs B (P ++ [sbC (mNx B + (P.length + 1)) k, byC g]) z) = some (some (mNx B + (P.length + 0)), ovs B (P ++ [sbC (mNx B + (P.length + 1)) (k + 1), byC (upq g k (n2 ch))]) z) := by
  rw [i2c_id ch (by omega)]
  unfold fJ11_append fJ10_append fJ10_ensureCapacityInternal fJ10_isLatin1 fJ5_canEncode_2
  have cap : (n2 (k + 1) - shrI (n2 16) 0 ≤ 0) = True := by
    rw [show shrI (n2 16) 0 = n2 16 from by decide, nn_sub, show (0 : Int32) = i2 0 from rfl, i2_le (by omega) (by omega)]
    exact eq_true (by omega)
  have enc : ((255 : Int32) < n2 ch) = False := by rw [li_255, n2_lt (by omega) (by omega)]; exact eq_false (by omega)
  have u : ∀ s : Cl, uB (ovs B (P ++ [s, byC g]) z) (some (mNx B + (P.length + 1))) (n2 k) (i2bv (n2 ch)) = some (ovs B (P ++ [s, byC (upq g k (n2 ch))]) z) := fun s => by
    have := q_uB (B := B) (P := P) (R := [s, byC g]) (z := z) (j := 1) (k := k) (v := i2bv (n2 ch)) hB (Nat.lt_succ_self 1) rfl (show k < 16 from hk) (by omega)
    rw [by_id ch hc] at this; exact this
  simp -implicitDefEqProofs (disch := first | with_unfolding_all exact id rfl | decide) only [bd_some, Option.bind_some, q_iv, q_gI, q_gA, q_aN, q_pI hB, clS, clD, sbC, byC, Cl.sI, mk_Cl_t, mk_Cl_l, mk_Cl_i, mk_Cl_j, mk_Cl_a, upq_self, upq_ne, cap, enc, if_true, if_false, show ((1 : Int32) = 0) = False from eq_false (by decide), not_true_eq_false, eq_self, upd_upd, show n2 k + (1 : Int32) = n2 (k + 1) from n2_add k 1]
  have u' := u (sbC (mNx B + (P.length + 1)) (k + 1))
  unfold sbC byC at u'
  rw [u', Option.bind_some, bd_some]
theorem X_sbStr (hB : 64 ≤ mNx B) (hk : k ≤ 8) (hg : ∀ i, i < k → ∃ c, c < 128 ∧ g i = n2 c) : fJ11_toString (some (mNx B + (P.length + 0))) (ovs B (P ++ [sbC (mNx B + (P.length + 1)) k, byC g]) z) = some (some (mNx B + (P.length + 2)), ovs B (P ++ [sbC (mNx B + (P.length + 1)) k, byC g, stC (mNx B + (P.length + 3)), daC k g]) (z + 4 + k)) := by
  have ne : (n2 k = n2 16) = False := by rw [n2_eq (by omega) (by omega)]; exact eq_false (by omega)
  have le : ((0 : Int32) ≤ n2 k) = True := eq_true (n2_pos (by omega))
  have sb : n2 k - (0 : Int32) = n2 k := Int32.sub_zero _
  have mn : mminI (n2 16 - (0 : Int32)) (n2 k) = n2 k := by
    rw [Int32.sub_zero]; unfold mminI
    rw [if_pos (by rw [n2_lt (by omega) (by omega)]; omega)]
  have nA' : ∀ {R : List Cl} {z : Nat}, nA (ovs B (P ++ R) z) 100 (n2 k) = some (some (mNx B + (P.length + R.length)), ovs B (P ++ (R ++ [Cl.nw 100 k])) (z + k)) := q_nA (decide_eq_true ⟨by decide, by decide, by omega⟩)
  have cp : ∀ s t : Cl, cpy (ovs B (P ++ [s, byC g, t, Cl.mk 100 k (fun _ => 0) (fun _ => 0) (fun _ => none)]) (z + 4 + k)) (some (mNx B + (P.length + 1))) 0 (some (mNx B + (P.length + 3))) 0 (n2 k) = some (ovs B (P ++ [s, byC g, t, daC k g]) (z + 4 + k)) := fun s t =>
    q_cpB (R := [s, byC g, t, Cl.mk 100 k (fun _ => 0) (fun _ => 0) (fun _ => none)]) (i := 1) (j := 3) hB (show 1 < 4 by decide) (show 3 < 4 by decide) (by decide) rfl rfl (show k ≤ 16 by omega) (Nat.le_refl k) (by omega) hg
  unfold byC at cp
  unfold fJ11_toString fJ4_init fJ4_init_2 fJ10_getValue fJ11_length fJ10_length fJ10_isLatin1 fJ0_copyOfRange bJ0_copyOfRange_10 fJ0_copyOfRangeByte fJ0_checkLength
  simp -implicitDefEqProofs (disch := first | with_unfolding_all exact id rfl | decide) only [bd_some, Option.bind_some, nn_some, q_nO, q_iv, q_gI, q_gA, q_aN, q_p0 hB, q_pA hB, nA', cp, List.cons_append, List.nil_append, List.length_cons, List.length_nil, Nat.reduceAdd, clS, clD, sbC, byC, Cl.nw, Cl.sI, Cl.sA, mk_Cl_t, mk_Cl_l, mk_Cl_i, mk_Cl_j, mk_Cl_a, upq_self, upq_ne, z_upd, ne, le, sb, mn, nsl_19, if_true, if_false, show ((1 : Int32) = 0) = False from eq_false (by decide), not_true_eq_false, not_false_eq_true, eq_self]
  rfl
end Sb2
