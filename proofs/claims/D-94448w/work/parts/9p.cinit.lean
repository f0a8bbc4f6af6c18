set_option linter.unusedVariables false
set_option linter.unusedSimpArgs false
set_option maxRecDepth 100000
/-! ===== a cue reader at its start ===== -/
theorem nsl_13 : nsl 13 = 11 := rfl
theorem nsl_18 : nsl 18 = 3 := rfl
section CInit
variable {B : Mem} {to : Int32} {h : Rf}
theorem X_cInit (hB : 64 ≤ mNx B) : ∃ c T, (bd (nO B 13) fun x st => bd (nn x (fX17_init x (some 65) to h st)) fun _ st => some (x, st)) = some (some (mNx B), ovs B (c :: T) 14) ∧
    c.t = 13 ∧ (c.i 125 = to ∧ c.i 126 = 400 ∧ c.i 127 = 0 ∧ c.i 128 = 0) ∧ c.a 124 = some 65 ∧ c.a 148 = h ∧ c.a 149 = some (mNx B + 1) ∧ T.length = 1 ∧ (clD T 0).t = 18 ∧ (clD T 0).i 154 = 0 ∧ (clD T 0).i 152 = 0 ∧ (clD T 0).a 153 = some 52 := by
  have e0 : (bd (nO B 13) fun x st => bd (nn x (fX17_init x (some 65) to h st)) fun _ st => some (x, st)) = (bd (nO (ovs B [] 0) 13) fun x st => bd (nn x (fX17_init x (some 65) to h st)) fun _ st => some (x, st)) := by rw [ov_nil]
  rw [e0]
  unfold fX17_init fX5_init fJ3_init fJ2_init fJ1_init
  simp -implicitDefEqProofs (disch := first | with_unfolding_all exact id rfl | decide) only [bd_some, Option.bind_some, nn_some, o_nO, o_pI hB, o_pA hB, List.nil_append, List.cons_append, List.length_cons, List.length_nil, Nat.reduceAdd, clS, clD, Cl.nw, Cl.sI, Cl.sA, mk_Cl_t, mk_Cl_l, mk_Cl_i, mk_Cl_j, mk_Cl_a, nsl_13, nsl_18]
  exact ⟨_, _, rfl, rfl, ⟨rfl, rfl, rfl, rfl⟩, rfl, rfl, rfl, rfl, rfl, rfl, rfl, rfl⟩
end CInit
section Put
variable {B : Mem} {c : Cl} {T : List Cl} {z i f : Nat}
/-! cells behind the reader: T's cell i stands at mNx B + (1 + i) -/
theorem tc_at (c : Cl) (T : List Cl) (i : Nat) : clD (c :: T) (1 + i) = clD T i := by rw [show 1 + i = i + 1 by omega]; rfl
theorem tc_set (c : Cl) (T : List Cl) (i : Nat) (d : Cl) : clS (c :: T) (1 + i) d = c :: clS T i d := by rw [show 1 + i = i + 1 by omega]; rfl
theorem tc_len (hi : i < T.length) : 1 + i < (c :: T).length := by rw [List.length_cons]; omega
theorem tc_gI (hi : i < T.length) (h : okI (clD T i).t f = true) : gI (ovs B (c :: T) z) (some (mNx B + (1 + i))) f = some ((clD T i).i f) :=
  (o_gI (decide_eq_true (tc_len hi)) (by rw [tc_at]; exact h)).trans (by rw [tc_at])
theorem tc_gA (hi : i < T.length) (h : okA (clD T i).t f = true) : gA (ovs B (c :: T) z) (some (mNx B + (1 + i))) f = some ((clD T i).a f) :=
  (o_gA (decide_eq_true (tc_len hi)) (by rw [tc_at]; exact h)).trans (by rw [tc_at])
theorem tc_pI (hB : 64 ≤ mNx B) (hi : i < T.length) (h : okPI (clD T i).t f = true) {v : Int32} : pI (ovs B (c :: T) z) (some (mNx B + (1 + i))) f v = some (ovs B (c :: clS T i ((clD T i).sI f v)) z) :=
  (o_pI hB (decide_eq_true (tc_len hi)) (by rw [tc_at]; exact h)).trans (by rw [tc_at, tc_set])
theorem tc_pA (hB : 64 ≤ mNx B) (hi : i < T.length) (h : okA (clD T i).t f = true) {v : Rf} : pA (ovs B (c :: T) z) (some (mNx B + (1 + i))) f v = some (ovs B (c :: clS T i ((clD T i).sA f v)) z) :=
  (o_pA hB (decide_eq_true (tc_len hi)) (by rw [tc_at]; exact h)).trans (by rw [tc_at, tc_set])
theorem tc_iv {α : Type} {w : Option α} {ts : List Nat} (hi : i < T.length) (h : ts.contains (clD T i).t = true) : iv (ovs B (c :: T) z) (some (mNx B + (1 + i))) ts w = w :=
  o_iv (tc_len hi) (by rw [tc_at]; exact h)
theorem tc_aI (hi : i < T.length) (ht : (clD T i).t = 102) {k : Nat} (hk : k < (clD T i).l) (hk2 : k < 1000) : aI (ovs B (c :: T) z) (some (mNx B + (1 + i))) (n2 k) = some ((clD T i).i k) :=
  (o_aI (tc_len hi) (by rw [tc_at]; exact ht) (by rw [tc_at]; exact hk) hk2).trans (by rw [tc_at])
theorem tc_uI (hB : 64 ≤ mNx B) (hi : i < T.length) (ht : (clD T i).t = 102) {k : Nat} (hk : k < (clD T i).l) (hk2 : k < 1000) {v : Int32} : uI (ovs B (c :: T) z) (some (mNx B + (1 + i))) (n2 k) v = some (ovs B (c :: clS T i ((clD T i).sI k v)) z) :=
  (o_uI hB (tc_len hi) (by rw [tc_at]; exact ht) (by rw [tc_at]; exact hk) hk2).trans (by rw [tc_at, tc_set])
theorem tc_aN (hi : i < T.length) (h : 100 ≤ (clD T i).t ∧ (clD T i).t < 108) : aN (ovs B (c :: T) z) (some (mNx B + (1 + i))) = some (n2 (clD T i).l) :=
  (o_aN (tc_len hi) (by rw [tc_at]; exact h)).trans (by rw [tc_at])
theorem tc_nO {t : Nat} (h : decide (0 < t ∧ t < 22) = true) : nO (ovs B (c :: T) z) t = some (some (mNx B + (1 + T.length)), ovs B (c :: (T ++ [Cl.nw t 0])) (z + nsl t)) := by
  rw [o_nO h, List.length_cons, Nat.add_comm T.length 1]; rfl
theorem tc_uA (hB : 64 ≤ mNx B) (hi : i < T.length) {k e : Nat} (hk : k < (clD T i).l) (hk2 : k < 1000) (he : e < T.length) (ha : asg (clD T i).t (clD T e).t = true) : uA (ovs B (c :: T) z) (some (mNx B + (1 + i))) (n2 k) (some (mNx B + (1 + e))) = some (ovs B (c :: clS T i ((clD T i).sA k (some (mNx B + (1 + e))))) z) := by
  obtain ⟨c1, -⟩ := ov_ce (B := B) (z := z) (tc_len (c := c) he)
  rw [tc_at] at c1
  have := o_uA (B := B) (L := c :: T) (z := z) (i := 1 + i) (k := k) (e := mNx B + (1 + e)) hB (tc_len hi) (by rw [tc_at]; exact hk) hk2 (by rw [ov_nx]; have := tc_len (c := c) he; omega) (by rw [tc_at, c1]; exact ha)
  rw [tc_at, tc_set] at this; exact this
end Put
