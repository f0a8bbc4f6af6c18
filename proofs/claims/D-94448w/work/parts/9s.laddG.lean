set_option linter.unusedVariables false
set_option linter.unusedSimpArgs false
set_option maxRecDepth 100000
section LAddG
variable {B : Mem} {c : Cl} {T : List Cl} {z l d k cap e i j n : Nat} {cs : Nat → Nat}
theorem tc_cpA (hB : 64 ≤ mNx B) (hi : i < T.length) (hj : j < T.length) (hij : i ≠ j) (ht : (clD T i).t = 104) (ht2 : (clD T j).t = 104) (hn : n ≤ (clD T i).l) (hn2 : n ≤ (clD T j).l) (h1000 : n ≤ 1000) (he : ∀ k, k < n → ∃ e, (clD T i).a k = some (mNx B + (1 + e)) ∧ e < T.length ∧ asg 104 (clD T e).t = true) :
    cpy (ovs B (c :: T) z) (some (mNx B + (1 + i))) 0 (some (mNx B + (1 + j))) 0 (n2 n) = some (ovs B (c :: clS T j ((clD T j).rA (va_cpy (clD T i).a (clD T j).a 0 0 n))) z) := by
  have hi' := tc_len (c := c) hi
  have hj' := tc_len (c := c) hj
  obtain ⟨c1, c2, c3, c4, c5⟩ := ov_ce (B := B) (z := z) hj'
  obtain ⟨s1, s2, s3, s4, s5⟩ := ov_ce (B := B) (z := z) hi'
  rw [tc_at] at c1 c2 c5 s1 s2 s5
  have z0 : (0 : Int32).toNatClampNeg = 0 := by decide
  have ok : cpOK (ovs B (c :: T) z) 104 (mNx B + (1 + i)) 0 n = true := cp_all (fun k hk => by
    rw [if_neg (by decide), if_neg (by decide), if_pos (by decide), s5, Nat.zero_add]
    obtain ⟨e, h1, h2, h3⟩ := he k hk
    rw [h1]
    have t := (ov_ce (B := B) (z := z) (tc_len (c := c) h2)).1
    rw [tc_at] at t
    have lt := tc_len (c := c) h2
    show (decide (mNx B + (1 + e) < mNx (ovs B (c :: T) z)) && asg 104 (mTag (ovs B (c :: T) z) (mNx B + (1 + e)))) = true
    rw [t, h3, decide_eq_true (by rw [ov_nx]; omega)]; rfl)
  have cond : 64 ≤ mNx B + (1 + j) ∧ mNx B + (1 + i) < mNx (ovs B (c :: T) z) ∧ mNx B + (1 + j) < mNx (ovs B (c :: T) z) ∧ mNx B + (1 + i) ≠ mNx B + (1 + j) ∧ mTag (ovs B (c :: T) z) (mNx B + (1 + i)) = mTag (ovs B (c :: T) z) (mNx B + (1 + j)) ∧ 100 ≤ mTag (ovs B (c :: T) z) (mNx B + (1 + j)) ∧ mTag (ovs B (c :: T) z) (mNx B + (1 + j)) < 106 ∧ (0 : Int32) ≤ 0 ∧ (0 : Int32) ≤ 0 ∧ (0 : Int32) ≤ n2 n ∧ (0 : Int32).toNatClampNeg + (n2 n).toNatClampNeg ≤ mLen (ovs B (c :: T) z) (mNx B + (1 + i)) ∧ (0 : Int32).toNatClampNeg + (n2 n).toNatClampNeg ≤ mLen (ovs B (c :: T) z) (mNx B + (1 + j)) ∧ cpOK (ovs B (c :: T) z) (mTag (ovs B (c :: T) z) (mNx B + (1 + j))) (mNx B + (1 + i)) (0 : Int32).toNatClampNeg (n2 n).toNatClampNeg = true := by
    rw [s1, ht, c1, ht2, s2, c2, z0, n2_nat (by omega), ov_nx]
    exact ⟨by omega, by omega, by omega, by omega, rfl, by decide, by decide, by decide, by decide, n2_pos (by omega), by omega, by omega, ok⟩
  refine (if_pos cond).trans ?_
  rw [c1, ht2, z0, n2_nat (by omega)]
  unfold mCopy
  rw [if_neg (by decide), if_pos (by decide), s5, c5, o_RA hj', tc_at, tc_set]
/-- the array is full: one half more is made -/
theorem X_addG (hB : 131 ≤ mNx B) (h : LsT (mNx B) T l d cap cap cs) (hc : cap = 10 ∨ cap = 15 ∨ cap = 22) (hcs : ∀ i, i < cap → cs i < T.length ∧ asg 104 (clD T (cs i)).t = true ∧ cs i ≠ l) (he : e < T.length) (hel : e ≠ l) (ha : asg 104 (clD T e).t = true) :
    ∃ T', fJ3_add (some (mNx B + (1 + l))) (some (mNx B + (1 + e))) (ovs B (c :: T) z) = some (1, ovs B (c :: T') (z + (cap + cap / 2))) ∧ T'.length = T.length + 1 ∧ (∀ i, i ≠ l → i < T.length → clD T' i = clD T i) ∧ LsT (mNx B) T' l T.length (cap + 1) (cap + cap / 2) (upq cs cap e) := by
  have hB' : 64 ≤ mNx B := by omega
  obtain ⟨h1, h2, h3, h4, h5, h6, h7, h8, h9, h10, h11⟩ := id h
  have g0 := tc_gI (B := B) (c := c) (z := z) (T := T) (i := l) (f := 152) h1 (by rw [h2]; rfl)
  have p0 := tc_pI (B := B) (c := c) (z := z) (T := T) (i := l) (f := 152) (v := (clD T l).i 152 + 1) hB' h1 (by rw [h2]; rfl)
  generalize hT1 : clS T l ((clD T l).sI 152 ((clD T l).i 152 + 1)) = T1 at p0
  have len1 : T1.length = T.length := by rw [← hT1, clS_len]
  have atl : clD T1 l = (clD T l).sI 152 ((clD T l).i 152 + 1) := by rw [← hT1]; exact clS_at T l _ h1
  have ne1 : ∀ i, i ≠ l → clD T1 i = clD T i := fun i hi => by rw [← hT1]; exact clS_ne T l i _ hi
  have t1 : (clD T1 l).t = 18 := by rw [atl]; exact h2
  have a1 : (clD T1 l).a 153 = some (mNx B + (1 + d)) := by rw [atl]; exact h4
  have i1 : (clD T1 l).i 154 = n2 cap := by rw [atl, i_ne _ _ (by decide)]; exact h3
  have g1 : gA (ovs B (c :: T1) z) (some (mNx B + (1 + l))) 153 = some (some (mNx B + (1 + d))) := (tc_gA (by omega) (by rw [t1]; rfl)).trans (congrArg some a1)
  have g2 : gI (ovs B (c :: T1) z) (some (mNx B + (1 + l))) 154 = some (n2 cap) := (tc_gI (by omega) (by rw [t1]; rfl)).trans (congrArg some i1)
  have iv1 : ∀ {α : Type} (w : Option α), iv (ovs B (c :: T1) z) (some (mNx B + (1 + l))) [18] w = w := fun w => tc_iv (by omega) (by rw [t1]; rfl)
  have an : aN (ovs B (c :: T1) z) (some (mNx B + (1 + d))) = some (n2 cap) := (tc_aN (by omega) (by rw [ne1 d h6, h7]; decide)).trans (by rw [ne1 d h6, h8])
  have gc : gcl (ovs B (c :: T1) z) (some (mNx B + (1 + d))) = some (some 53) := by
    have t := (ov_ce (B := B) (z := z) (tc_len (c := c) (T := T1) (i := d) (by omega))).1
    rw [tc_at, ne1 d h6, h7] at t
    exact if_pos ⟨by rw [ov_nx]; have := tc_len (c := c) (T := T1) (i := d) (by omega); omega, t⟩
  have eq : ∀ (A D : Option (Rf × Mem)), eqR (ovs B (c :: T1) z) (some 53) (some 53) A D = A := fun A D => (if_pos (⟨by rw [ov_nx]; omega, by rw [ov_nx]; omega, Or.inr (Or.inr rfl)⟩ : 53 < mNx (ovs B (c :: T1) z) ∧ 53 < mNx (ovs B (c :: T1) z) ∧ ((64 ≤ 53 ∧ 53 ≠ 53) ∨ (64 ≤ 53 ∧ 53 ≠ 53) ∨ 53 = 53))).trans (if_pos rfl)
  obtain ⟨nc, hnc⟩ : ∃ nc, nc = cap + cap / 2 := ⟨_, rfl⟩
  have ncb : cap < nc ∧ nc ≤ 33 := by omega
  have nl : n2 cap + mmaxI (n2 cap + 1 - n2 cap) (shrI (n2 cap) (1 : Int32)) = n2 nc := by
    rw [hnc]
    rcases hc with rfl | rfl | rfl <;> decide
  have nl1 : (n2 nc ≤ (0 : Int32)) = False := by rw [li_0, n2_le (by omega) (by decide)]; exact eq_false (by omega)
  have nl2 : ((2147483639 : Int32) < n2 nc) = False := by rw [show (2147483639 : Int32) = n2 2147483639 from rfl, n2_lt (by omega) (by omega)]; exact eq_false (by omega)
  have pos : ((0 : Int32) < n2 cap) = True := by rw [li_0, n2_lt (by decide) (by omega)]; exact eq_true (by omega)
  have mn : mminI (n2 cap) (n2 nc) = n2 cap := by unfold mminI; rw [if_neg (by rw [n2_lt (by omega) (by omega)]; omega)]
  have na : nA (ovs B (c :: T1) z) 104 (n2 nc) = some (some (mNx B + (1 + T1.length)), ovs B (c :: (T1 ++ [Cl.nw 104 nc])) (z + nc)) := by
    rw [o_nA (decide_eq_true ⟨by decide, by decide, by omega⟩), List.length_cons, Nat.add_comm T1.length 1]; rfl
  generalize hTA : T1 ++ [Cl.nw 104 nc] = TA at na
  have lenA : TA.length = T.length + 1 := by rw [← hTA, List.length_append, len1]; rfl
  have oldA : ∀ i, i < T.length → clD TA i = clD T1 i := fun i hi => by rw [← hTA]; exact clD_apL _ _ _ (by omega)
  have newA : clD TA T.length = Cl.nw 104 nc := by rw [← hTA, ← len1]; exact clD_last _ _
  have dA : clD TA d = clD T d := (oldA d h5).trans (ne1 d h6)
  have anA : aN (ovs B (c :: TA) (z + nc)) (some (mNx B + (1 + d))) = some (n2 cap) := (tc_aN (by omega) (by rw [dA, h7]; decide)).trans (by rw [dA, h8])
  have cp := tc_cpA (B := B) (c := c) (z := z + nc) (T := TA) (i := d) (j := T.length) (n := cap) hB' (by omega) (by omega) (by omega) (by rw [dA]; exact h7) (by rw [newA]; rfl) (by rw [dA, h8]; exact Nat.le_refl _) (by rw [newA]; show cap ≤ nc; omega) (by omega) (fun k hk => by
    obtain ⟨q1, q2, q3⟩ := hcs k hk
    refine ⟨cs k, by rw [dA]; exact h11 k hk, by omega, ?_⟩
    rw [oldA _ q1, ne1 _ q3]; exact q2)
  generalize hTB : clS TA T.length ((clD TA T.length).rA (va_cpy (clD TA d).a (clD TA T.length).a 0 0 cap)) = TB at cp
  have lenB : TB.length = T.length + 1 := by rw [← hTB, clS_len, lenA]
  have newB : clD TB T.length = (Cl.nw 104 nc).rA (va_cpy (clD T d).a (fun _ => none) 0 0 cap) := by rw [← hTB, clS_at _ _ _ (by omega), newA, dA]; rfl
  have oldB : ∀ i, i < T.length → clD TB i = clD T1 i := fun i hi => by rw [← hTB, clS_ne _ _ _ _ (by omega)]; exact oldA i hi
  have p1 := tc_pA (B := B) (c := c) (z := z + nc) (T := TB) (i := l) (f := 153) (v := some (mNx B + (1 + T.length))) hB' (by omega) (by rw [oldB l h1, t1]; rfl)
  generalize hT2 : clS TB l ((clD TB l).sA 153 (some (mNx B + (1 + T.length)))) = T2 at p1
  have len2 : T2.length = T.length + 1 := by rw [← hT2, clS_len, lenB]
  have atl2 : clD T2 l = (clD T1 l).sA 153 (some (mNx B + (1 + T.length))) := by rw [← hT2, clS_at _ l _ (by omega), oldB l h1]
  have ne2 : ∀ i, i ≠ l → clD T2 i = clD TB i := fun i hi => by rw [← hT2]; exact clS_ne _ l i _ hi
  have atd : clD T2 T.length = (Cl.nw 104 nc).rA (va_cpy (clD T d).a (fun _ => none) 0 0 cap) := (ne2 _ (by omega)).trans newB
  have L2 : LsT (mNx B) T2 l T.length cap nc cs := by
    refine ⟨by omega, by rw [atl2]; exact t1, by rw [atl2]; exact i1, by rw [atl2]; exact upq_self (clD T1 l).a 153 _, by omega, by omega, by rw [atd]; rfl, by rw [atd]; rfl, by omega, by omega, fun i hi => ?_⟩
    rw [atd]
    show va_cpy (clD T d).a (fun _ => none) 0 0 cap i = _
    rw [cp_at hi]; exact h11 i hi
  have ee : clD T2 e = clD T e := by rw [ne2 e hel, oldB e he, ne1 e hel]
  obtain ⟨T', e1, e2, e3, e4⟩ := X_store (c := c) (z := z + nc) (e := e) (j := n2 cap) hB' L2 (by omega) (by omega) hel (by omega) (by rw [ee]; exact ha) rfl
  refine ⟨T', ?_, by omega, fun i a b => ?_, by rw [← hnc]; exact e4⟩
  · rw [← hnc]
    rw [len1] at na
    unfold fJ3_add fJ3_add_2 fJ3_grow fJ3_grow_2 bJ3_grow_2_20 fJ12_newLength fJ0_copyOf_2 fJ0_copyOf_3
    simp -implicitDefEqProofs only [Option.bind_some, bd_some, b2i_0, Bool.true_eq_false, Bool.false_eq_true, eq_self, if_true, if_false, not_true_eq_false, not_false_eq_true, g0, p0, g1, g2, iv1, an, pos, nl, nl1, nl2, gc, eq, na, anA, mn, cp, p1, e1]
  · rw [e3 i a (by omega), ne2 i a, oldB i b, ne1 i a]
end LAddG
