set_option linter.unusedVariables false
set_option linter.unusedSimpArgs false
set_option maxRecDepth 100000
section LAdd0
variable {B : Mem} {c : Cl} {T : List Cl} {z l e : Nat}
/-- the first element: an array of ten is made -/
theorem X_add0 (hB : 131 ≤ mNx B) (t52 : mTag B 52 = 104) (l52 : mLen B 52 = 0) (h1 : l < T.length) (h2 : (clD T l).t = 18) (h3 : (clD T l).i 154 = n2 0) (h4 : (clD T l).a 153 = some 52) (he : e < T.length) (hel : e ≠ l) (ha : asg 104 (clD T e).t = true) :
    ∃ T', fJ3_add (some (mNx B + (1 + l))) (some (mNx B + (1 + e))) (ovs B (c :: T) z) = some (1, ovs B (c :: T') (z + 10)) ∧ T'.length = T.length + 1 ∧ (∀ i, i ≠ l → i < T.length → clD T' i = clD T i) ∧ LsT (mNx B) T' l T.length 1 10 (fun _ => e) := by
  have hB' : 64 ≤ mNx B := by omega
  have g0 := tc_gI (B := B) (c := c) (z := z) (T := T) (i := l) (f := 152) h1 (by rw [h2]; rfl)
  have p0 := tc_pI (B := B) (c := c) (z := z) (T := T) (i := l) (f := 152) (v := (clD T l).i 152 + 1) hB' h1 (by rw [h2]; rfl)
  generalize hT1 : clS T l ((clD T l).sI 152 ((clD T l).i 152 + 1)) = T1 at p0
  have len1 : T1.length = T.length := by rw [← hT1, clS_len]
  have atl : clD T1 l = (clD T l).sI 152 ((clD T l).i 152 + 1) := by rw [← hT1]; exact clS_at T l _ h1
  have ne1 : ∀ i, i ≠ l → clD T1 i = clD T i := fun i hi => by rw [← hT1]; exact clS_ne T l i _ hi
  have t1 : (clD T1 l).t = 18 := by rw [atl]; exact h2
  have a1 : (clD T1 l).a 153 = some 52 := by rw [atl]; exact h4
  have i1 : (clD T1 l).i 154 = n2 0 := by rw [atl, i_ne _ _ (by decide)]; exact h3
  have g1 : gA (ovs B (c :: T1) z) (some (mNx B + (1 + l))) 153 = some (some 52) := (tc_gA (by omega) (by rw [t1]; rfl)).trans (congrArg some a1)
  have g2 : gI (ovs B (c :: T1) z) (some (mNx B + (1 + l))) 154 = some (n2 0) := (tc_gI (by omega) (by rw [t1]; rfl)).trans (congrArg some i1)
  have iv1 : ∀ {α : Type} (w : Option α), iv (ovs B (c :: T1) z) (some (mNx B + (1 + l))) [18] w = w := fun w => tc_iv (by omega) (by rw [t1]; rfl)
  have an : aN (ovs B (c :: T1) z) (some 52) = some (n2 0) := by
    rw [oo_aN (by omega)]
    have cond : 52 < mNx B ∧ 100 ≤ mTag B 52 ∧ mTag B 52 < 108 := ⟨by omega, by rw [t52]; decide, by rw [t52]; decide⟩
    exact (if_pos cond).trans (by rw [l52]; rfl)
  have eq : ∀ (A D : Option (Rf × Mem)), eqR (ovs B (c :: T1) z) (some 52) (some 52) A D = A := fun A D => (if_pos (⟨by rw [ov_nx]; omega, by rw [ov_nx]; omega, Or.inr (Or.inr rfl)⟩ : 52 < mNx (ovs B (c :: T1) z) ∧ 52 < mNx (ovs B (c :: T1) z) ∧ ((64 ≤ 52 ∧ 52 ≠ 53) ∨ (64 ≤ 52 ∧ 52 ≠ 53) ∨ 52 = 52))).trans (if_pos rfl)
  have na : nA (ovs B (c :: T1) z) 104 (n2 10) = some (some (mNx B + (1 + T1.length)), ovs B (c :: (T1 ++ [Cl.nw 104 10])) (z + 10)) := by
    rw [o_nA (by decide), List.length_cons, Nat.add_comm T1.length 1]; rfl
  have lenA : (T1 ++ [Cl.nw 104 10]).length = T.length + 1 := by rw [List.length_append, len1]; rfl
  have atA : clD (T1 ++ [Cl.nw 104 10]) l = clD T1 l := clD_apL _ _ _ (by omega)
  have p1 := tc_pA (B := B) (c := c) (z := z + 10) (T := T1 ++ [Cl.nw 104 10]) (i := l) (f := 153) (v := some (mNx B + (1 + T1.length))) hB' (by omega) (by rw [atA, t1]; rfl)
  generalize hT2 : clS (T1 ++ [Cl.nw 104 10]) l ((clD (T1 ++ [Cl.nw 104 10]) l).sA 153 (some (mNx B + (1 + T1.length)))) = T2 at p1
  have len2 : T2.length = T.length + 1 := by rw [← hT2, clS_len, lenA]
  have atl2 : clD T2 l = (clD T1 l).sA 153 (some (mNx B + (1 + T1.length))) := by rw [← hT2, clS_at _ l _ (by omega), atA]
  have ne2 : ∀ i, i ≠ l → clD T2 i = clD (T1 ++ [Cl.nw 104 10]) i := fun i hi => by rw [← hT2]; exact clS_ne _ l i _ hi
  have atd : clD T2 T.length = Cl.nw 104 10 := by rw [ne2 _ (by omega), ← len1]; exact clD_last _ _
  have L2 : LsT (mNx B) T2 l T.length 0 10 (fun _ => e) := by
    refine ⟨by omega, by rw [atl2]; exact t1, by rw [atl2]; exact i1, ?_, by omega, by omega, by rw [atd]; rfl, by rw [atd]; rfl, by omega, by omega, fun i hi => absurd hi (Nat.not_lt_zero i)⟩
    rw [atl2, len1]; exact upq_self (clD T1 l).a 153 _
  have ee : clD T2 e = clD T e := by rw [ne2 e hel, clD_apL _ _ _ (by omega), ne1 e hel]
  obtain ⟨T', e1, e2, e3, e4⟩ := X_store (c := c) (z := z + 10) (e := e) (j := n2 0) hB' L2 (by decide) (by omega) hel (by omega) (by rw [ee]; exact ha) rfl
  refine ⟨T', ?_, by omega, fun i a b => ?_, ?_⟩
  · rw [← len1] at e1
    have mx : mmaxI (10 : Int32) (n2 0 + 1) = n2 10 := by decide
    unfold fJ3_add fJ3_add_2 fJ3_grow fJ3_grow_2
    simp -implicitDefEqProofs only [Option.bind_some, bd_some, b2i_0, Bool.true_eq_false, Bool.false_eq_true, eq_self, if_true, if_false, not_true_eq_false, not_false_eq_true, g0, p0, g1, g2, iv1, an, show ((0 : Int32) < n2 0) = False from eq_false (by decide), eq, mx, na, p1, e1]
  · rw [e3 i a (by omega), ne2 i a, clD_apL _ _ _ (by omega), ne1 i a]
  · have : upq (fun _ : Nat => e) 0 e = fun _ => e := upd_same (fun _ => e) 0
    rw [this] at e4; exact e4
end LAdd0
