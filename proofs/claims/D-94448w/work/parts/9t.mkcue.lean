set_option linter.unusedVariables false
set_option linter.unusedSimpArgs false
set_option maxRecDepth 100000
/-! ===== a cue made ===== -/
def cuC (t : Nat) (u v : Int32) : Cl := Cl.mk t 0 (upq (upq (fun _ => 0) 150 u) 151 v) (fun _ => 0) (fun _ => none)
def cu0 (u : Int32) : Cl := Cl.mk 14 0 (upq (fun _ => 0) 150 u) (fun _ => 0) (fun _ => none)
theorem cuC_0 (t : Nat) (u v : Int32) : (cuC t u v).i 150 = u := by
  show upq (upq (fun _ => 0) 150 u) 151 v 150 = u
  rw [upq_ne _ _ (by decide), upq_self]
theorem cuC_1 (t : Nat) (u v : Int32) : (cuC t u v).i 151 = v := upq_self (upq (fun _ => 0) 150 u) 151 v
theorem cu0_0 (u : Int32) : (cu0 u).i 150 = u := upq_self (fun _ => 0) 150 u
theorem nsl_14 : nsl 14 = 1 := rfl
theorem nsl_15 : nsl 15 = 2 := rfl
theorem nsl_16 : nsl 16 = 2 := rfl
theorem nsl_17 : nsl 17 = 2 := rfl
section MkCue
variable {B : Mem} {c : Cl} {T : List Cl} {z : Nat} {u v : Int32}
theorem lastD (T : List Cl) (f : Cl) : clD (T ++ [f]) T.length = f := clD_last T f
theorem lastS (T : List Cl) (f g : Cl) : clS (T ++ [f]) T.length g = T ++ [g] := by
  have := clS_apR T [f] 0 g
  exact this
theorem lastP (hB : 64 ≤ mNx B) (f : Cl) {k : Nat} (h : okPI f.t k = true) : pI (ovs B (c :: (T ++ [f])) z) (some (mNx B + (1 + T.length))) k v = some (ovs B (c :: (T ++ [f.sI k v])) z) := by
  have := tc_pI (B := B) (c := c) (z := z) (T := T ++ [f]) (i := T.length) (f := k) (v := v) hB (by rw [List.length_append]; exact Nat.lt_succ_self _) (by rw [lastD]; exact h)
  rw [lastD, lastS] at this; exact this
theorem X_cue20 (hB : 64 ≤ mNx B) {t : Nat} (ht : t = 15 ∨ t = 16 ∨ t = 17) : fX20_init (some (mNx B + (1 + T.length))) u v (ovs B (c :: (T ++ [Cl.nw t 0])) z) = some ((), ovs B (c :: (T ++ [cuC t u v])) z) := by
  have o1 : okPI t 150 = true := by rcases ht with rfl | rfl | rfl <;> decide
  have o2 : okPI t 151 = true := by rcases ht with rfl | rfl | rfl <;> decide
  unfold fX20_init fX18_init
  simp -implicitDefEqProofs only [Option.bind_some, bd_some, b2i_0, Bool.true_eq_false, Bool.false_eq_true, eq_self, if_true, if_false, not_true_eq_false, not_false_eq_true, nn_some, lastP hB (Cl.nw t 0) (k := 150) o1, lastP hB ((Cl.nw t 0).sI 150 u) (k := 151) o2]
  rfl
theorem X_mk15 (hB : 64 ≤ mNx B) : (bd (nO (ovs B (c :: T) z) 15) fun x st => bd (nn x (fX20_init x u v st)) fun _ st => some ((.inl x : Rf ⊕ Nat), st)) = some (.inl (some (mNx B + (1 + T.length))), ovs B (c :: (T ++ [cuC 15 u v])) (z + 2)) := by
  simp -implicitDefEqProofs only [Option.bind_some, bd_some, b2i_0, Bool.true_eq_false, Bool.false_eq_true, eq_self, if_true, if_false, not_true_eq_false, not_false_eq_true, tc_nO (t := 15) (by decide), nn_some, nsl_15, X_cue20 (t := 15) hB (Or.inl rfl)]
theorem X_mk16 (hB : 64 ≤ mNx B) : (bd (nO (ovs B (c :: T) z) 16) fun x st => bd (nn x (fX21_init x u v st)) fun _ st => some ((.inl x : Rf ⊕ Nat), st)) = some (.inl (some (mNx B + (1 + T.length))), ovs B (c :: (T ++ [cuC 16 u v])) (z + 2)) := by
  unfold fX21_init
  simp -implicitDefEqProofs only [Option.bind_some, bd_some, b2i_0, Bool.true_eq_false, Bool.false_eq_true, eq_self, if_true, if_false, not_true_eq_false, not_false_eq_true, tc_nO (t := 16) (by decide), nn_some, nsl_16, X_cue20 (t := 16) hB (Or.inr (Or.inl rfl))]
theorem X_mk17 (hB : 64 ≤ mNx B) : (bd (nO (ovs B (c :: T) z) 17) fun x st => bd (nn x (fX22_init x u v st)) fun _ st => some ((.inl x : Rf ⊕ Nat), st)) = some (.inl (some (mNx B + (1 + T.length))), ovs B (c :: (T ++ [cuC 17 u v])) (z + 2)) := by
  unfold fX22_init
  simp -implicitDefEqProofs only [Option.bind_some, bd_some, b2i_0, Bool.true_eq_false, Bool.false_eq_true, eq_self, if_true, if_false, not_true_eq_false, not_false_eq_true, tc_nO (t := 17) (by decide), nn_some, nsl_17, X_cue20 (t := 17) hB (Or.inr (Or.inr rfl))]
theorem X_mk14 (hB : 64 ≤ mNx B) : (bd (nO (ovs B (c :: T) z) 14) fun x st => bd (nn x (fX19_init x u st)) fun _ st => some ((.inl x : Rf ⊕ Nat), st)) = some (.inl (some (mNx B + (1 + T.length))), ovs B (c :: (T ++ [cu0 u])) (z + 1)) := by
  unfold fX19_init fX18_init
  simp -implicitDefEqProofs only [Option.bind_some, bd_some, b2i_0, Bool.true_eq_false, Bool.false_eq_true, eq_self, if_true, if_false, not_true_eq_false, not_false_eq_true, tc_nO (t := 14) (by decide), nn_some, nsl_14, lastP hB (Cl.nw 14 0) (k := 150) (show okPI 14 150 = true by decide)]
  rfl
end MkCue
