set_option linter.unusedVariables false
set_option linter.unusedSimpArgs false
set_option maxRecDepth 100000
/-! ===== a house reader at its start ===== -/
theorem nsl_5 : nsl 5 = 15 := rfl
/-- the cells of a house that is being told (at mNx B + 1 ..) -/
def HB0 (N : Nat) (T : List Cl) : Prop :=
  T.length = 14 ∧ (clD T 0).t = 2 ∧
  ((clD T 0).a 34 = some (N + 2) ∧ (clD T 0).a 35 = some (N + 3) ∧ (clD T 0).a 36 = some (N + 4) ∧ (clD T 0).a 37 = some (N + 5) ∧ (clD T 0).a 38 = some (N + 6) ∧ (clD T 0).a 39 = some (N + 7) ∧ (clD T 0).a 40 = some (N + 8)) ∧
  ((clD T 0).i 28 = 0 ∧ (clD T 0).i 29 = 0 ∧ (clD T 0).i 30 = 1 ∧ (clD T 0).i 31 = 600 ∧ (clD T 0).i 32 = 0 ∧ (clD T 0).i 33 = 0) ∧
  ((clD T 1).t = 102 ∧ (clD T 2).t = 102 ∧ (clD T 3).t = 102 ∧ (clD T 4).t = 105 ∧ (clD T 5).t = 105 ∧ (clD T 6).t = 102 ∧ (clD T 7).t = 107) ∧
  ((clD T 1).l = 64 ∧ (clD T 2).l = 8 ∧ (clD T 3).l = 8 ∧ (clD T 4).l = 6 ∧ (clD T 5).l = 6 ∧ (clD T 6).l = 12 ∧ (clD T 7).l = 6) ∧
  (∀ a, a < 6 → (clD T 7).a a = some (N + (9 + a)) ∧ (clD T (8 + a)).t = 103 ∧ (clD T (8 + a)).l = 64) ∧
  (∀ k, k < 8 → (clD T 2).i k = 10 ∧ (clD T 3).i k = -1) ∧ (∀ k, k < 6 → (clD T 4).a k = none ∧ (clD T 5).a k = none)
section HInit
variable {B : Mem} {to : Int32}
theorem X_hInit (hB : 64 ≤ mNx B) : ∃ c T, (bd (nO B 5) fun x st => bd (nn x (fX6_init x (some 65) to st)) fun _ st => some (x, st)) = some (some (mNx B), ovs B (c :: T) 522) ∧
    c.t = 5 ∧ (c.i 125 = to ∧ c.i 126 = 900 ∧ c.i 127 = 0 ∧ c.i 128 = 0) ∧ (c.i 134 = 0 ∧ c.i 135 = 0 ∧ c.i 136 = 0 ∧ c.i 137 = 0 ∧ c.i 138 = 0) ∧ c.a 124 = some 65 ∧ c.a 133 = some (mNx B + 1) ∧ HB0 (mNx B) T := by
  have f8 : ∀ {L : List Cl} {z i : Nat} {v : Int32}, decide (i < L.length) = true → decide ((clD L i).t = 102 ∧ (clD L i).l = 8) = true → fJ0_fill (some (mNx B + i)) v (ovs B L z) = some ((), ovs B (clS L i ((clD L i).rI (fun k => if k < 8 then v else (clD L i).i k))) z) := fun h1 h2 => o_fill hB (of_decide_eq_true h1) (of_decide_eq_true h2).1 (of_decide_eq_true h2).2 (by decide)
  have e0 : (bd (nO B 5) fun x st => bd (nn x (fX6_init x (some 65) to st)) fun _ st => some (x, st)) = (bd (nO (ovs B [] 0) 5) fun x st => bd (nn x (fX6_init x (some 65) to st)) fun _ st => some (x, st)) := by rw [ov_nil]
  have S : ∀ {L : List Cl} {z i k : Nat} {v : Rf}, decide (i < L.length) = true → mSA (ovs B L z) (mNx B + i) k v = ovs B (clS L i ((clD L i).sA k v)) z := fun h1 => o_SA (of_decide_eq_true h1)
  rw [e0]
  unfold fX6_init fX5_init fX2_init
  simp -implicitDefEqProofs (disch := first | with_unfolding_all exact id rfl | decide) only [bd_some, Option.bind_some, nn_some, li_64, li_8, li_6, li_12, o_nO, o_nA, o_nAA, mkRows, o_new, ov_nx, S, o_pI hB, o_pA hB, o_gA, f8, List.nil_append, List.cons_append, List.length_cons, List.length_nil, Nat.reduceAdd, clS, clD, Cl.nw, Cl.sI, Cl.sA, Cl.rI, Cl.rA, mk_Cl_t, mk_Cl_l, mk_Cl_i, mk_Cl_j, mk_Cl_a, upq_self, upq_ne, nsl_2, nsl_5]
  refine ⟨_, _, rfl, rfl, ⟨rfl, rfl, rfl, rfl⟩, ⟨rfl, rfl, rfl, rfl, rfl⟩, rfl, rfl, ?_⟩
  refine ⟨rfl, rfl, ⟨rfl, rfl, rfl, rfl, rfl, rfl, rfl⟩, ⟨rfl, rfl, rfl, rfl, rfl, rfl⟩, ⟨rfl, rfl, rfl, rfl, rfl, rfl, rfl⟩, ⟨rfl, rfl, rfl, rfl, rfl, rfl, rfl⟩, fun a ha => ?_, fun k hk => ?_, fun k hk => ?_⟩
  · rcases (show a = 0 ∨ a = 1 ∨ a = 2 ∨ a = 3 ∨ a = 4 ∨ a = 5 by omega) with rfl | rfl | rfl | rfl | rfl | rfl <;> exact ⟨rfl, rfl, rfl⟩
  · simp -implicitDefEqProofs only [clD, mk_Cl_i, if_pos hk]; exact ⟨trivial, trivial⟩
  · exact ⟨rfl, rfl⟩
end HInit
