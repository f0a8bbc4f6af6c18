set_option linter.unusedVariables false
set_option linter.unusedSimpArgs false
set_option maxRecDepth 100000
/-! ===== how deep the model's pile is ===== -/
def opS : List Nat → Nat
  | [] => 0
  | x :: Q => (if x = 3 ∨ x = 6 then 1 else 0) + opS Q
def isO : List Nat → Bool
  | [] => false
  | x :: Q => decide (x = 6) || isO Q
theorem opS_le : ∀ Q : List Nat, opS Q ≤ Q.length
  | [] => Nat.le_refl _
  | x :: Q => by
    have := opS_le Q
    simp -implicitDefEqProofs only [opS, List.length_cons]
    split <;> omega
theorem PlR.sub {f : Nat → Int32} : ∀ {Q : List Nat} (k : Nat), PlR f Q → PlR f (Q.drop k)
  | Q, 0, h => h
  | [], k + 1, h => h
  | _ :: _, k + 1, h => PlR.sub k h.2.2
theorem drop_step {Q : List Nat} {j : Nat} (hj : j < Q.length) : ∃ x R, Q.drop (Q.length - (j + 1)) = x :: R ∧ R = Q.drop (Q.length - j) ∧ R.length = j := by
  have h1 : Q.length - (j + 1) < Q.length := by omega
  refine ⟨Q[Q.length - (j + 1)], Q.drop (Q.length - (j + 1) + 1), List.drop_eq_getElem_cons h1, by rw [show Q.length - (j + 1) + 1 = Q.length - j by omega], ?_⟩
  rw [List.length_drop]; omega
theorem isO_any : ∀ {Q : List Nat} {j : Nat}, isO (Q.drop j) = true → isO Q = true
  | Q, 0, h => h
  | [], _ + 1, h => h
  | x :: Q, j + 1, h => by
    have : isO Q = true := isO_any (j := j) h
    simp -implicitDefEqProofs only [isO, this, Bool.or_true]
section Open
variable {b' : Mem} {n s : Nat} {m : MS}
theorem M_opened {Q : List Nat} (h30 : Q.length ≤ 30) (hm : m.h.pileMany = n2 Q.length) (hP : PlR m.h.pile Q) : fX4_opened (some 106) (mkM b' n s m) = some (n2 (opS Q), mkM b' n s m) := by
  have loop : ∀ (k fu j : Nat), j + k = Q.length → k < fu → bX4_opened_4 fu (some 106) (n2 (opS (Q.drop (Q.length - j)))) (n2 j) (mkM b' n s m) = some (n2 (opS Q), mkM b' n s m) := by
    intro k
    induction k with
    | zero =>
      intro fu j hk hf
      obtain ⟨fu, rfl⟩ : ∃ g, fu = g + 1 := ⟨fu - 1, by omega⟩
      have e : j = Q.length := by omega
      subst e
      show bX4_opened_4B _ _ _ _ _ = _
      unfold bX4_opened_4B
      rw [gM_82, Option.bind_some, hm, if_pos (Int32.le_refl _), Nat.sub_self]; rfl
    | succ k ih =>
      intro fu j hk hf
      obtain ⟨fu, rfl⟩ : ∃ g, fu = g + 1 := ⟨fu - 1, by omega⟩
      have I := ih fu (j + 1) (by omega) (by omega)
      obtain ⟨x, R, d1, d2, d3⟩ := drop_step (Q := Q) (j := j) (by omega)
      have pr := hP.sub (Q.length - (j + 1))
      rw [d1] at pr I
      obtain ⟨p1, p2, -⟩ := pr
      rw [d3] at p1
      rw [← d2]
      have rd : aI (mkM b' n s m) (some 112) (n2 j) = some (n2 x) := by
        rw [aM_112, ifx_k (by omega) (by omega), n2_nat (by omega), p1]
      have le : (n2 Q.length ≤ n2 j) = False := by rw [n2_le (by omega) (by omega)]; exact eq_false (by omega)
      have e3 : (n2 x = (3 : Int32)) = (x = 3) := by rw [li_3]; exact n2_eq (by omega) (by decide)
      have e6 : (n2 x = (6 : Int32)) = (x = 6) := by rw [li_6]; exact n2_eq (by omega) (by decide)
      have a0 : ∀ y : Nat, n2 y + (0 : Int32) = n2 (0 + y) := fun y => by rw [Nat.zero_add]; exact Int32.add_zero _
      have a1 : ∀ y : Nat, n2 y + (1 : Int32) = n2 (1 + y) := fun y => by rw [Nat.add_comm 1 y]; exact n2_add y 1
      rw [show n2 (j + 1) = n2 j + 1 from (n2_add j 1).symm] at I
      show bX4_opened_4B (bX4_opened_4 fu) _ _ _ _ = _
      unfold bX4_opened_4B bX4_opened_34 bX4_opened_39
      simp -implicitDefEqProofs only [opS] at I
      by_cases h3 : x = 3
      · rw [if_pos (Or.inl h3)] at I
        simp -implicitDefEqProofs only [Option.bind_some, bd_some, b2i_0, Bool.true_eq_false, Bool.false_eq_true, eq_self, if_true, if_false, not_true_eq_false, not_false_eq_true, gM_82, hm, le, gM_79, rd, e3, e6, eq_true h3, a1]
        rw [a1] at I; exact I
      · by_cases h6 : x = 6
        · rw [if_pos (Or.inr h6)] at I
          simp -implicitDefEqProofs only [Option.bind_some, bd_some, b2i_0, Bool.true_eq_false, Bool.false_eq_true, eq_self, if_true, if_false, not_true_eq_false, not_false_eq_true, gM_82, hm, le, gM_79, rd, e3, e6, eq_false h3, eq_true h6, a1]
          rw [a1] at I; exact I
        · rw [if_neg (fun hh => hh.elim h3 h6)] at I
          simp -implicitDefEqProofs only [Option.bind_some, bd_some, b2i_0, Bool.true_eq_false, Bool.false_eq_true, eq_self, if_true, if_false, not_true_eq_false, not_false_eq_true, gM_82, hm, le, gM_79, rd, e3, e6, eq_false h3, eq_false h6, a0]
          exact I
  have L := loop Q.length hcFuel 0 (by omega) (by unfold hcFuel; omega)
  rw [Nat.sub_zero, List.drop_length] at L
  exact L
theorem M_isOpen {Q : List Nat} (h30 : Q.length ≤ 30) (hm : m.h.pileMany = n2 Q.length) (hP : PlR m.h.pile Q) : fX4_isOpen (some 106) (mkM b' n s m) = some (b2i (isO Q), mkM b' n s m) := by
  have loop : ∀ (k fu j : Nat), j + k = Q.length → k < fu → isO (Q.drop (Q.length - j)) = false → bX4_isOpen_2 fu (some 106) (n2 j) (mkM b' n s m) = some (b2i (isO Q), mkM b' n s m) := by
    intro k
    induction k with
    | zero =>
      intro fu j hk hf ho
      obtain ⟨fu, rfl⟩ : ∃ g, fu = g + 1 := ⟨fu - 1, by omega⟩
      have e : j = Q.length := by omega
      subst e
      rw [Nat.sub_self] at ho
      have ho' : isO Q = false := ho
      show bX4_isOpen_2B _ _ _ _ = _
      unfold bX4_isOpen_2B
      rw [gM_82, Option.bind_some, hm, if_pos (Int32.le_refl _), ho']; rfl
    | succ k ih =>
      intro fu j hk hf ho
      obtain ⟨fu, rfl⟩ : ∃ g, fu = g + 1 := ⟨fu - 1, by omega⟩
      obtain ⟨x, R, d1, d2, d3⟩ := drop_step (Q := Q) (j := j) (by omega)
      have pr := hP.sub (Q.length - (j + 1))
      rw [d1] at pr
      obtain ⟨p1, p2, -⟩ := pr
      rw [d3] at p1
      rw [← d2] at ho
      have rd : aI (mkM b' n s m) (some 112) (n2 j) = some (n2 x) := by
        rw [aM_112, ifx_k (by omega) (by omega), n2_nat (by omega), p1]
      have le : (n2 Q.length ≤ n2 j) = False := by rw [n2_le (by omega) (by omega)]; exact eq_false (by omega)
      have e6 : (n2 x = (6 : Int32)) = (x = 6) := by rw [li_6]; exact n2_eq (by omega) (by decide)
      show bX4_isOpen_2B (bX4_isOpen_2 fu) _ _ _ = _
      unfold bX4_isOpen_2B
      by_cases h6 : x = 6
      · have it : isO Q = true := isO_any (j := Q.length - (j + 1)) (by rw [d1]; simp -implicitDefEqProofs only [isO, decide_eq_true h6, Bool.true_or])
        simp -implicitDefEqProofs only [Option.bind_some, bd_some, b2i_0, Bool.true_eq_false, Bool.false_eq_true, eq_self, if_true, if_false, not_true_eq_false, not_false_eq_true, gM_82, hm, le, gM_79, rd, e6, eq_true h6, it]; rfl
      · simp -implicitDefEqProofs only [Option.bind_some, bd_some, b2i_0, Bool.true_eq_false, Bool.false_eq_true, eq_self, if_true, if_false, not_true_eq_false, not_false_eq_true, gM_82, hm, le, gM_79, rd, e6, eq_false h6, show n2 j + 1 = n2 (j + 1) from n2_add j 1]
        refine ih fu (j + 1) (by omega) (by omega) ?_
        rw [d1]; simp -implicitDefEqProofs only [isO, decide_eq_false h6, Bool.false_or]; exact ho
  have L := loop Q.length hcFuel 0 (by omega) (by unfold hcFuel; omega)
  rw [Nat.sub_zero, List.drop_length] at L
  exact L rfl
end Open
