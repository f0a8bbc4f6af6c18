set_option linter.unusedVariables false
set_option linter.unusedSimpArgs false
set_option maxRecDepth 100000
/-! ===== conditions that are being told ===== -/
/-- a condition among the new cells: T's cell e -/
def CondT (N : Nat) (T : List Cl) : Cd → Nat → Prop
  | .neg c, e => e < T.length ∧ (clD T e).t = 7 ∧ ∃ p, (clD T e).a 141 = some (N + (1 + p)) ∧ CondT N T c p
  | .add c d, e => e < T.length ∧ (clD T e).t = 11 ∧ ∃ p q, (clD T e).a 146 = some (N + (1 + p)) ∧ (clD T e).a 147 = some (N + (1 + q)) ∧ CondT N T c p ∧ CondT N T d q
  | .sub c d, e => e < T.length ∧ (clD T e).t = 12 ∧ ∃ p q, (clD T e).a 146 = some (N + (1 + p)) ∧ (clD T e).a 147 = some (N + (1 + q)) ∧ CondT N T c p ∧ CondT N T d q
  | .var w, e => e < T.length ∧ leafOk w ∧ (clD T e).t = 8 + lk w ∧ (clD T e).i 142 = n2 (60 + ls w) ∧ (clD T e).i 143 = n2 (lnum w) ∧ (lk w = 0 → (clD T e).i 144 = n2 (la w) ∧ (clD T e).i 145 = n2 (ll w))
  | .num _, _ => False
  | .mulL _ _, _ => False
  | .mulR _ _, _ => False
/-- a cell that is no condition -/
def Blk (c : Cl) : Prop := (c.t = 7 → c.a 141 = none) ∧ (c.t = 11 ∨ c.t = 12 → c.a 146 = none) ∧ ¬ (8 ≤ c.t ∧ c.t ≤ 10)
theorem CondT.keep {N : Nat} {T T' : List Cl} (hl : T.length ≤ T'.length) (h : ∀ i, i < T.length → clD T' i = clD T i ∨ Blk (clD T i)) : ∀ {c : Cd} {e : Nat}, CondT N T c e → CondT N T' c e
  | .neg c, e, ⟨h1, h2, p, h3, h4⟩ => by
    have hk : clD T' e = clD T e := by
      rcases h e h1 with k | k
      · exact k
      · have := k.1 h2; rw [h3] at this; exact absurd this (by simp)
    exact ⟨by omega, by rw [hk]; exact h2, p, by rw [hk]; exact h3, CondT.keep hl h h4⟩
  | .add c d, e, ⟨h1, h2, p, q, h3, h4, h5, h6⟩ => by
    have hk : clD T' e = clD T e := by
      rcases h e h1 with k | k
      · exact k
      · have := k.2.1 (Or.inl h2); rw [h3] at this; exact absurd this (by simp)
    exact ⟨by omega, by rw [hk]; exact h2, p, q, by rw [hk]; exact h3, by rw [hk]; exact h4, CondT.keep hl h h5, CondT.keep hl h h6⟩
  | .sub c d, e, ⟨h1, h2, p, q, h3, h4, h5, h6⟩ => by
    have hk : clD T' e = clD T e := by
      rcases h e h1 with k | k
      · exact k
      · have := k.2.1 (Or.inr h2); rw [h3] at this; exact absurd this (by simp)
    exact ⟨by omega, by rw [hk]; exact h2, p, q, by rw [hk]; exact h3, by rw [hk]; exact h4, CondT.keep hl h h5, CondT.keep hl h h6⟩
  | .var w, e, ⟨h1, h2, h3, h4⟩ => by
    have hk : clD T' e = clD T e := by
      rcases h e h1 with k | k
      · exact k
      · have := h2.2.1; exact absurd (show 8 ≤ (clD T e).t ∧ (clD T e).t ≤ 10 by omega) k.2.2
    exact ⟨by omega, h2, by rw [hk]; exact h3, by rw [hk]; exact h4⟩
  | .num _, _, h => h.elim
  | .mulL _ _, _, h => h.elim
  | .mulR _ _, _, h => h.elim
theorem CondT.app {N : Nat} {T R : List Cl} {c : Cd} {e : Nat} (h : CondT N T c e) : CondT N (T ++ R) c e :=
  h.keep (by rw [List.length_append]; omega) (fun i hi => Or.inl (clD_apL T R i hi))
theorem CondT.lt {N : Nat} {T : List Cl} : ∀ {c : Cd} {e : Nat}, CondT N T c e → e < T.length
  | .neg _, _, h => h.1
  | .add _ _, _, h => h.1
  | .sub _ _, _, h => h.1
  | .var _, _, h => h.1
  | .num _, _, h => h.elim
  | .mulL _ _, _, h => h.elim
  | .mulR _ _, _, h => h.elim
theorem CondT.asg {N : Nat} {T : List Cl} : ∀ {c : Cd} {e : Nat}, CondT N T c e → asg 105 (clD T e).t = true
  | .neg _, _, h => by rw [h.2.1]; rfl
  | .add _ _, _, h => by rw [h.2.1]; rfl
  | .sub _ _, _, h => by rw [h.2.1]; rfl
  | .var w, _, ⟨_, h2, h3, _⟩ => by
    rw [h3]
    have := h2.2.1
    rcases (show lk w = 0 ∨ lk w = 1 ∨ lk w = 2 by omega) with e | e | e <;> rw [e] <;> rfl
  | .num _, _, h => h.elim
  | .mulL _ _, _, h => h.elim
  | .mulR _ _, _, h => h.elim
theorem CondT.at {B : Mem} {c0 : Cl} {T : List Cl} {z : Nat} (hB : 131 ≤ mNx B) : ∀ {c : Cd} {e : Nat}, CondT (mNx B) T c e → CondAt (ovs B (c0 :: T) z) c (mNx B + (1 + e))
  | .neg c, e, ⟨h1, h2, p, h3, h4⟩ => by
    obtain ⟨c1, c2, c3, c4, c5⟩ := ov_ce (B := B) (z := z) (tc_len (c := c0) h1)
    rw [tc_at] at c1 c2 c3 c4 c5
    exact ⟨⟨Or.inl (by omega), by rw [ov_nx]; have := tc_len (c := c0) h1; omega⟩, c1.trans h2, _, by rw [c5]; exact h3, CondT.at hB h4⟩
  | .add c d, e, ⟨h1, h2, p, q, h3, h4, h5, h6⟩ => by
    obtain ⟨c1, c2, c3, c4, c5⟩ := ov_ce (B := B) (z := z) (tc_len (c := c0) h1)
    rw [tc_at] at c1 c2 c3 c4 c5
    exact ⟨⟨Or.inl (by omega), by rw [ov_nx]; have := tc_len (c := c0) h1; omega⟩, c1.trans h2, _, _, by rw [c5]; exact h3, by rw [c5]; exact h4, CondT.at hB h5, CondT.at hB h6⟩
  | .sub c d, e, ⟨h1, h2, p, q, h3, h4, h5, h6⟩ => by
    obtain ⟨c1, c2, c3, c4, c5⟩ := ov_ce (B := B) (z := z) (tc_len (c := c0) h1)
    rw [tc_at] at c1 c2 c3 c4 c5
    exact ⟨⟨Or.inl (by omega), by rw [ov_nx]; have := tc_len (c := c0) h1; omega⟩, c1.trans h2, _, _, by rw [c5]; exact h3, by rw [c5]; exact h4, CondT.at hB h5, CondT.at hB h6⟩
  | .var w, e, ⟨h1, h2, h3, h4, h5, h6⟩ => by
    obtain ⟨c1, c2, c3, c4, c5⟩ := ov_ce (B := B) (z := z) (tc_len (c := c0) h1)
    rw [tc_at] at c1 c2 c3 c4 c5
    exact ⟨⟨Or.inl (by omega), by rw [ov_nx]; have := tc_len (c := c0) h1; omega⟩, h2, c1.trans h3, by rw [c3]; exact h4, by rw [c3]; exact h5, fun h => by rw [c3]; exact h6 h⟩
  | .num _, _, h => h.elim
  | .mulL _ _, _, h => h.elim
  | .mulR _ _, _, h => h.elim
/-- leaves and negations -/
def cwt : Cd → Nat
  | .neg a => cwt a + 1
  | .add a b => cwt a + cwt b
  | .sub a b => cwt a + cwt b
  | _ => 1
theorem cwt_pos : ∀ c : Cd, 0 < cwt c
  | .neg a => Nat.succ_pos _
  | .add a b => Nat.add_pos_left (cwt_pos a) _
  | .sub a b => Nat.add_pos_left (cwt_pos a) _
  | .var _ => Nat.one_pos
  | .num _ => Nat.one_pos
  | .mulL _ _ => Nat.one_pos
  | .mulR _ _ => Nat.one_pos
theorem cwt_dep : ∀ c : Cd, cdep c ≤ cwt c
  | .neg a => Nat.succ_le_succ (cwt_dep a)
  | .add a b => by
    have h1 := cwt_dep a
    have h2 := cwt_dep b
    have h3 := cwt_pos a
    have h4 := cwt_pos b
    simp -implicitDefEqProofs only [cdep, cwt]; omega
  | .sub a b => by
    have h1 := cwt_dep a
    have h2 := cwt_dep b
    have h3 := cwt_pos a
    have h4 := cwt_pos b
    simp -implicitDefEqProofs only [cdep, cwt]; omega
  | .var _ => Nat.le_refl _
  | .num _ => Nat.le_refl _
  | .mulL _ _ => Nat.le_refl _
  | .mulR _ _ => Nat.le_refl _
theorem cwt_lvs : ∀ c : Cd, clvs c ≤ cwt c
  | .neg a => Nat.le_succ_of_le (cwt_lvs a)
  | .add a b => Nat.add_le_add (cwt_lvs a) (cwt_lvs b)
  | .sub a b => Nat.add_le_add (cwt_lvs a) (cwt_lvs b)
  | .var _ => Nat.le_refl _
  | .num _ => Nat.le_refl _
  | .mulL _ _ => Nat.le_refl _
  | .mulR _ _ => Nat.le_refl _
theorem Post_len : ∀ {c : Cd} {l : List Int32}, Post c l → l.length + 1 ≤ 2 * cwt c
  | .neg a, _, ⟨k, h, rfl⟩ => by
    have := Post_len h
    rw [List.length_append]; simp -implicitDefEqProofs only [List.length_cons, List.length_nil, cwt]; omega
  | .add a b, _, ⟨k, j, h1, h2, rfl⟩ => by
    have := Post_len h1
    have := Post_len h2
    rw [List.length_append, List.length_append]; simp -implicitDefEqProofs only [List.length_cons, List.length_nil, cwt]; omega
  | .sub a b, _, ⟨k, j, h1, h2, rfl⟩ => by
    have := Post_len h1
    have := Post_len h2
    rw [List.length_append, List.length_append]; simp -implicitDefEqProofs only [List.length_cons, List.length_nil, cwt]; omega
  | .var w, _, ⟨_, rfl⟩ => by simp [cwt]
  | .num _, _, h => h.elim
  | .mulL _ _, _, h => h.elim
  | .mulR _ _, _, h => h.elim
theorem clS_clS : ∀ (M : List Cl) (q : Nat) (d e : Cl), clS (clS M q d) q e = clS M q e
  | [], _, _, _ => rfl
  | _ :: _, 0, _, _ => rfl
  | c :: M, q + 1, d, e => congrArg (c :: ·) (clS_clS M q d e)
theorem a_self (c : Cl) (f : Nat) (v : Rf) : (c.sA f v).a f = v := upq_self c.a f v
theorem a_ne (c : Cl) {f k : Nat} (v : Rf) (h : k ≠ f) : (c.sA f v).a k = c.a k := upq_ne c.a v h
section Nodes
variable {B : Mem} {c : Cl} {T : List Cl} {z e : Nat} {v w : Rf}
theorem X_not9 (hB : 64 ≤ mNx B) (he : e < T.length) (ht : (clD T e).t = 7) : fX9_init (some (mNx B + (1 + e))) v (ovs B (c :: T) z) = some ((), ovs B (c :: clS T e ((clD T e).sA 141 v)) z) := by
  unfold fX9_init fX8_init
  simp -implicitDefEqProofs only [Option.bind_some, bd_some, b2i_0, Bool.true_eq_false, Bool.false_eq_true, eq_self, if_true, if_false, not_true_eq_false, not_false_eq_true, nn_some, tc_pA (f := 141) (v := v) hB he (by rw [ht]; rfl)]
theorem X_two (hB : 64 ≤ mNx B) (he : e < T.length) (ht : (clD T e).t = 11 ∨ (clD T e).t = 12) : fX14_init (some (mNx B + (1 + e))) v w (ovs B (c :: T) z) = some ((), ovs B (c :: clS T e (((clD T e).sA 146 v).sA 147 w)) z) := by
  have o1 : okA (clD T e).t 146 = true := by rcases ht with h | h <;> rw [h] <;> rfl
  have o2 : okA (clD T e).t 147 = true := by rcases ht with h | h <;> rw [h] <;> rfl
  have p1 := tc_pA (B := B) (c := c) (z := z) (f := 146) (v := v) hB he o1
  have p2 := tc_pA (B := B) (c := c) (z := z) (T := clS T e ((clD T e).sA 146 v)) (i := e) (f := 147) (v := w) hB (by rw [clS_len]; exact he) (by rw [clS_at T e _ he]; exact o2)
  rw [clS_at T e _ he, clS_clS] at p2
  unfold fX14_init fX8_init
  simp -implicitDefEqProofs only [Option.bind_some, bd_some, b2i_0, Bool.true_eq_false, Bool.false_eq_true, eq_self, if_true, if_false, not_true_eq_false, not_false_eq_true, nn_some, p1, p2]
theorem X_and15 (hB : 64 ≤ mNx B) (he : e < T.length) (ht : (clD T e).t = 11) : fX15_init (some (mNx B + (1 + e))) v w (ovs B (c :: T) z) = some ((), ovs B (c :: clS T e (((clD T e).sA 146 v).sA 147 w)) z) := by
  unfold fX15_init
  simp -implicitDefEqProofs only [Option.bind_some, bd_some, b2i_0, Bool.true_eq_false, Bool.false_eq_true, eq_self, if_true, if_false, not_true_eq_false, not_false_eq_true, nn_some, X_two (v := v) (w := w) (c := c) (z := z) hB he (Or.inl ht)]
theorem X_or16 (hB : 64 ≤ mNx B) (he : e < T.length) (ht : (clD T e).t = 12) : fX16_init (some (mNx B + (1 + e))) v w (ovs B (c :: T) z) = some ((), ovs B (c :: clS T e (((clD T e).sA 146 v).sA 147 w)) z) := by
  unfold fX16_init
  simp -implicitDefEqProofs only [Option.bind_some, bd_some, b2i_0, Bool.true_eq_false, Bool.false_eq_true, eq_self, if_true, if_false, not_true_eq_false, not_false_eq_true, nn_some, X_two (v := v) (w := w) (c := c) (z := z) hB he (Or.inr ht)]
def cpC (t : Nat) (u v : Int32) : Cl := Cl.mk t 0 (upq (upq (fun _ => 0) 142 u) 143 v) (fun _ => 0) (fun _ => none)
def seC (a l u v : Int32) : Cl := Cl.mk 8 0 (upq (upq (upq (upq (fun _ => 0) 142 u) 143 v) 144 a) 145 l) (fun _ => 0) (fun _ => none)
theorem cpC_2 (t : Nat) (u v : Int32) : (cpC t u v).i 142 = u := by
  show upq (upq (fun _ => 0) 142 u) 143 v 142 = u
  rw [upq_ne _ _ (by decide), upq_self]
theorem cpC_3 (t : Nat) (u v : Int32) : (cpC t u v).i 143 = v := upq_self (upq (fun _ => 0) 142 u) 143 v
theorem seC_2 (a l u v : Int32) : (seC a l u v).i 142 = u := by
  show upq (upq (upq (upq (fun _ => 0) 142 u) 143 v) 144 a) 145 l 142 = u
  rw [upq_ne _ _ (by decide), upq_ne _ _ (by decide), upq_ne _ _ (by decide), upq_self]
theorem seC_3 (a l u v : Int32) : (seC a l u v).i 143 = v := by
  show upq (upq (upq (upq (fun _ => 0) 142 u) 143 v) 144 a) 145 l 143 = v
  rw [upq_ne _ _ (by decide), upq_ne _ _ (by decide), upq_self]
theorem seC_4 (a l u v : Int32) : (seC a l u v).i 144 = a := by
  show upq (upq (upq (upq (fun _ => 0) 142 u) 143 v) 144 a) 145 l 144 = a
  rw [upq_ne _ _ (by decide), upq_self]
theorem seC_5 (a l u v : Int32) : (seC a l u v).i 145 = l := upq_self (upq (upq (upq (fun _ => 0) 142 u) 143 v) 144 a) 145 l
theorem nsl_8 : nsl 8 = 4 := rfl
theorem nsl_9 : nsl 9 = 2 := rfl
theorem nsl_10 : nsl 10 = 2 := rfl
theorem nsl_7 : nsl 7 = 1 := rfl
theorem nsl_11 : nsl 11 = 2 := rfl
theorem nsl_12 : nsl 12 = 2 := rfl
theorem X_cmp10 (hB : 64 ≤ mNx B) {t : Nat} {u x : Int32} (ht : t = 8 ∨ t = 9 ∨ t = 10) : fX10_init (some (mNx B + (1 + T.length))) u x (ovs B (c :: (T ++ [Cl.nw t 0])) z) = some ((), ovs B (c :: (T ++ [cpC t u x])) z) := by
  have o1 : okPI t 142 = true := by rcases ht with rfl | rfl | rfl <;> decide
  have o2 : okPI t 143 = true := by rcases ht with rfl | rfl | rfl <;> decide
  unfold fX10_init fX8_init
  simp -implicitDefEqProofs only [Option.bind_some, bd_some, b2i_0, Bool.true_eq_false, Bool.false_eq_true, eq_self, if_true, if_false, not_true_eq_false, not_false_eq_true, nn_some, lastP hB (Cl.nw t 0) (k := 142) o1, lastP hB ((Cl.nw t 0).sI 142 u) (k := 143) o2]
  rfl
theorem X_mk8 (hB : 64 ≤ mNx B) {a l u x : Int32} : (bd (nO (ovs B (c :: T) z) 8) fun y st => bd (nn y (fX11_init y a l u x st)) fun _ st => some ((.inl y : Rf ⊕ Nat), st)) = some (.inl (some (mNx B + (1 + T.length))), ovs B (c :: (T ++ [seC a l u x])) (z + 4)) := by
  unfold fX11_init
  have o1 : okPI 8 144 = true := by decide
  have o2 : okPI 8 145 = true := by decide
  simp -implicitDefEqProofs only [Option.bind_some, bd_some, b2i_0, Bool.true_eq_false, Bool.false_eq_true, eq_self, if_true, if_false, not_true_eq_false, not_false_eq_true, tc_nO (t := 8) (by decide), nn_some, nsl_8, X_cmp10 (t := 8) hB (Or.inl rfl), lastP hB (cpC 8 u x) (k := 144) o1, lastP hB ((cpC 8 u x).sI 144 a) (k := 145) o2]
  rfl
theorem X_mk9 (hB : 64 ≤ mNx B) {u x : Int32} : (bd (nO (ovs B (c :: T) z) 9) fun y st => bd (nn y (fX12_init y u x st)) fun _ st => some ((.inl y : Rf ⊕ Nat), st)) = some (.inl (some (mNx B + (1 + T.length))), ovs B (c :: (T ++ [cpC 9 u x])) (z + 2)) := by
  unfold fX12_init
  simp -implicitDefEqProofs only [Option.bind_some, bd_some, b2i_0, Bool.true_eq_false, Bool.false_eq_true, eq_self, if_true, if_false, not_true_eq_false, not_false_eq_true, tc_nO (t := 9) (by decide), nn_some, nsl_9, X_cmp10 (t := 9) hB (Or.inr (Or.inl rfl))]
theorem X_mk10 (hB : 64 ≤ mNx B) {u x : Int32} : (bd (nO (ovs B (c :: T) z) 10) fun y st => bd (nn y (fX13_init y u x st)) fun _ st => some ((.inl y : Rf ⊕ Nat), st)) = some (.inl (some (mNx B + (1 + T.length))), ovs B (c :: (T ++ [cpC 10 u x])) (z + 2)) := by
  unfold fX13_init
  simp -implicitDefEqProofs only [Option.bind_some, bd_some, b2i_0, Bool.true_eq_false, Bool.false_eq_true, eq_self, if_true, if_false, not_true_eq_false, not_false_eq_true, tc_nO (t := 10) (by decide), nn_some, nsl_10, X_cmp10 (t := 10) hB (Or.inr (Or.inr rfl))]
end Nodes
