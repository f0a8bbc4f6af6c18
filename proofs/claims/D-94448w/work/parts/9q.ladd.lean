set_option linter.unusedVariables false
set_option linter.unusedSimpArgs false
set_option maxRecDepth 100000
/-! ===== the list of cues that is being told ===== -/
/-- the list stands in T's cell l; its array, if any, in T's cell d -/
def LsT (N : Nat) (T : List Cl) (l d k cap : Nat) (cs : Nat → Nat) : Prop := l < T.length ∧ (clD T l).t = 18 ∧ (clD T l).i 154 = n2 k ∧ (clD T l).a 153 = some (N + (1 + d)) ∧ d < T.length ∧ d ≠ l ∧ (clD T d).t = 104 ∧ (clD T d).l = cap ∧ k ≤ cap ∧ cap ≤ 100 ∧ ∀ i, i < k → (clD T d).a i = some (N + (1 + cs i))
section LAdd
variable {B : Mem} {c : Cl} {T : List Cl} {z l d k cap e : Nat} {cs : Nat → Nat}
theorem X_store {j : Int32} (hB : 64 ≤ mNx B) (h : LsT (mNx B) T l d k cap cs) (hk : k < cap) (he : e < T.length) (hel : e ≠ l) (hed : e ≠ d) (ha : asg 104 (clD T e).t = true) (hj : j = n2 k) :
    ∃ T', bJ3_add_2_11 (some (mNx B + (1 + l))) (some (mNx B + (1 + e))) (some (mNx B + (1 + d))) j (ovs B (c :: T) z) = some ((), ovs B (c :: T') z) ∧ T'.length = T.length ∧ (∀ i, i ≠ l → i ≠ d → clD T' i = clD T i) ∧ LsT (mNx B) T' l d (k + 1) cap (upq cs k e) := by
  subst hj
  obtain ⟨h1, h2, h3, h4, h5, h6, h7, h8, h9, h10, h11⟩ := h
  have u := tc_uA (B := B) (c := c) (z := z) (T := T) (i := d) (k := k) (e := e) hB h5 (by rw [h8]; exact hk) (by omega) he (by rw [h7]; exact ha)
  generalize hT2 : clS T d ((clD T d).sA k (some (mNx B + (1 + e)))) = T2 at u
  have len2 : T2.length = T.length := by rw [← hT2, clS_len]
  have atd : clD T2 d = (clD T d).sA k (some (mNx B + (1 + e))) := by rw [← hT2]; exact clS_at T d _ h5
  have ne2 : ∀ i, i ≠ d → clD T2 i = clD T i := fun i hi => by rw [← hT2]; exact clS_ne T d i _ hi
  have l2 : clD T2 l = clD T l := ne2 l (fun hh => h6 hh.symm)
  have p := tc_pI (B := B) (c := c) (z := z) (T := T2) (i := l) (f := 154) (v := n2 (k + 1)) hB (by rw [len2]; exact h1) (by rw [l2, h2]; rfl)
  generalize hT3 : clS T2 l ((clD T2 l).sI 154 (n2 (k + 1))) = T3 at p
  have len3 : T3.length = T.length := by rw [← hT3, clS_len, len2]
  have atl : clD T3 l = (clD T l).sI 154 (n2 (k + 1)) := by rw [← hT3, clS_at T2 l _ (by rw [len2]; exact h1), l2]
  have ne3 : ∀ i, i ≠ l → clD T3 i = clD T2 i := fun i hi => by rw [← hT3]; exact clS_ne T2 l i _ hi
  have d3 : clD T3 d = (clD T d).sA k (some (mNx B + (1 + e))) := (ne3 d h6).trans atd
  refine ⟨T3, ?_, len3, fun i a b => (ne3 i a).trans (ne2 i b), by omega, ?_, ?_, ?_, by omega, h6, ?_, ?_, by omega, h10, fun i hi => ?_⟩
  · unfold bJ3_add_2_11
    simp -implicitDefEqProofs only [Option.bind_some, bd_some, b2i_0, Bool.true_eq_false, Bool.false_eq_true, eq_self, if_true, if_false, not_true_eq_false, not_false_eq_true, u, show n2 k + 1 = n2 (k + 1) from n2_add k 1, p]
  · rw [atl]; exact h2
  · rw [atl]; exact i_self _ _ _
  · rw [atl]; exact h4
  · rw [d3]; exact h7
  · rw [d3]; exact h8
  · rw [d3]
    show upq (clD T d).a k (some (mNx B + (1 + e))) i = some (mNx B + (1 + upq cs k e i))
    by_cases ei : i = k
    · rw [ei, upq_self, upq_self]
    · rw [upq_ne _ _ ei, upq_ne _ _ ei]; exact h11 i (by omega)
/-- an element added where the array has room -/
theorem X_addR (hB : 64 ≤ mNx B) (h : LsT (mNx B) T l d k cap cs) (hk : k < cap) (he : e < T.length) (hel : e ≠ l) (hed : e ≠ d) (ha : asg 104 (clD T e).t = true) :
    ∃ T', fJ3_add (some (mNx B + (1 + l))) (some (mNx B + (1 + e))) (ovs B (c :: T) z) = some (1, ovs B (c :: T') z) ∧ T'.length = T.length ∧ (∀ i, i ≠ l → i ≠ d → clD T' i = clD T i) ∧ LsT (mNx B) T' l d (k + 1) cap (upq cs k e) := by
  obtain ⟨h1, h2, h3, h4, h5, h6, h7, h8, h9, h10, h11⟩ := id h
  have g0 := tc_gI (B := B) (c := c) (z := z) (T := T) (i := l) (f := 152) h1 (by rw [h2]; rfl)
  have p0 := tc_pI (B := B) (c := c) (z := z) (T := T) (i := l) (f := 152) (v := (clD T l).i 152 + 1) hB h1 (by rw [h2]; rfl)
  generalize hT1 : clS T l ((clD T l).sI 152 ((clD T l).i 152 + 1)) = T1 at p0
  have len1 : T1.length = T.length := by rw [← hT1, clS_len]
  have atl : clD T1 l = (clD T l).sI 152 ((clD T l).i 152 + 1) := by rw [← hT1]; exact clS_at T l _ h1
  have ne1 : ∀ i, i ≠ l → clD T1 i = clD T i := fun i hi => by rw [← hT1]; exact clS_ne T l i _ hi
  have L1 : LsT (mNx B) T1 l d k cap cs := by
    refine ⟨by omega, by rw [atl]; exact h2, ?_, by rw [atl]; exact h4, by omega, h6, by rw [ne1 d h6]; exact h7, by rw [ne1 d h6]; exact h8, h9, h10, fun i hi => by rw [ne1 d h6]; exact h11 i hi⟩
    rw [atl, i_ne _ _ (by decide)]; exact h3
  obtain ⟨T', e1, e2, e3, e4⟩ := X_store (c := c) (z := z) (e := e) (j := n2 k) hB L1 hk (by omega) hel hed (by rw [ne1 e hel]; exact ha) rfl
  have g1 : gA (ovs B (c :: T1) z) (some (mNx B + (1 + l))) 153 = some (some (mNx B + (1 + d))) := (tc_gA (by omega) (by rw [L1.2.1]; rfl)).trans (congrArg some L1.2.2.2.1)
  have g2 : gI (ovs B (c :: T1) z) (some (mNx B + (1 + l))) 154 = some (n2 k) := (tc_gI (by omega) (by rw [L1.2.1]; rfl)).trans (congrArg some L1.2.2.1)
  have iv1 : ∀ {α : Type} (w : Option α), iv (ovs B (c :: T1) z) (some (mNx B + (1 + l))) [18] w = w := fun w => tc_iv (by omega) (by rw [L1.2.1]; rfl)
  have an : aN (ovs B (c :: T1) z) (some (mNx B + (1 + d))) = some (n2 cap) := (tc_aN (by omega) (by rw [ne1 d h6, h7]; decide)).trans (by rw [ne1 d h6, h8])
  have ne : (n2 k = n2 cap) = False := by rw [n2_eq (by omega) (by omega)]; exact eq_false (by omega)
  refine ⟨T', ?_, by omega, fun i a b => (e3 i a b).trans (ne1 i a), e4⟩
  unfold fJ3_add fJ3_add_2
  simp -implicitDefEqProofs only [Option.bind_some, bd_some, b2i_0, Bool.true_eq_false, Bool.false_eq_true, eq_self, if_true, if_false, not_true_eq_false, not_false_eq_true, g0, p0, g1, g2, iv1, an, ne, e1]
end LAdd
