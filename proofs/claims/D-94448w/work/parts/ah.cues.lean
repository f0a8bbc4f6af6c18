set_option linter.unusedVariables false
set_option linter.unusedSimpArgs false
set_option maxRecDepth 100000
/-! ===== the list of cues told so far ===== -/
def capN (k : Nat) : Nat := if k ≤ 10 then 10 else if k ≤ 15 then 15 else if k ≤ 22 then 22 else 33
def gkN (k : Nat) : Nat := if k = 0 then 0 else if k ≤ 10 then 1 else if k ≤ 15 then 2 else if k ≤ 22 then 3 else 4
def gzN (k : Nat) : Nat := if k = 0 then 0 else if k ≤ 10 then 10 else if k ≤ 15 then 25 else if k ≤ 22 then 47 else 80
theorem gkN_le (k : Nat) : gkN k ≤ 4 := by
  unfold gkN
  by_cases h0 : k = 0
  · rw [if_pos h0]; omega
  · rw [if_neg h0]
    by_cases h1 : k ≤ 10
    · rw [if_pos h1]; omega
    · rw [if_neg h1]
      by_cases h2 : k ≤ 15
      · rw [if_pos h2]; omega
      · rw [if_neg h2]
        by_cases h3 : k ≤ 22
        · rw [if_pos h3]; omega
        · rw [if_neg h3]; omega
theorem gzN_le (k : Nat) : gzN k ≤ 80 := by
  unfold gzN
  by_cases h0 : k = 0
  · rw [if_pos h0]; omega
  · rw [if_neg h0]
    by_cases h1 : k ≤ 10
    · rw [if_pos h1]; omega
    · rw [if_neg h1]
      by_cases h2 : k ≤ 15
      · rw [if_pos h2]; omega
      · rw [if_neg h2]
        by_cases h3 : k ≤ 22
        · rw [if_pos h3]; omega
        · rw [if_neg h3]; omega
theorem gN_grow : ∀ k, k < 30 → 0 < k → k = capN k → (k = 10 ∨ k = 15 ∨ k = 22) ∧ k + k / 2 = capN (k + 1) ∧ gkN (k + 1) = gkN k + 1 ∧ gzN (k + 1) = gzN k + (k + k / 2) := by decide
theorem gN_same : ∀ k, k < 30 → 0 < k → ¬ k = capN k → capN k = capN (k + 1) ∧ gkN k = gkN (k + 1) ∧ gzN k = gzN (k + 1) := by decide
def LsC (N : Nat) (T : List Cl) (Cs : List Cu) : Prop :=
  (Cs = [] ∧ 0 < T.length ∧ (clD T 0).t = 18 ∧ (clD T 0).i 154 = n2 0 ∧ (clD T 0).a 153 = some 52) ∨
  (0 < Cs.length ∧ ∃ d cs, LsT N T 0 d Cs.length (capN Cs.length) cs ∧ ∀ i (hi : i < Cs.length), CuT T (cs i) Cs[i])
theorem LsT.app {N : Nat} {T R : List Cl} {l d k cap : Nat} {cs : Nat → Nat} (h : LsT N T l d k cap cs) : LsT N (T ++ R) l d k cap cs := by
  obtain ⟨h1, h2, h3, h4, h5, h6, h7, h8, h9, h10, h11⟩ := h
  have el := clD_apL T R l h1
  have ed := clD_apL T R d h5
  refine ⟨by rw [List.length_append]; omega, by rw [el]; exact h2, by rw [el]; exact h3, by rw [el]; exact h4, by rw [List.length_append]; omega, h6, by rw [ed]; exact h7, by rw [ed]; exact h8, h9, h10, fun i hi => by rw [ed]; exact h11 i hi⟩
theorem LsC.app {N : Nat} {T R : List Cl} {Cs : List Cu} (h : LsC N T Cs) : LsC N (T ++ R) Cs := by
  rcases h with ⟨h1, h2, h3⟩ | ⟨h1, d, cs, h2, h3⟩
  · refine Or.inl ⟨h1, by rw [List.length_append]; omega, ?_⟩
    rw [clD_apL T R 0 h2]; exact h3
  · exact Or.inr ⟨h1, d, cs, h2.app, fun i hi => (h3 i hi).app⟩
theorem LsC.tag {N : Nat} {T : List Cl} {Cs : List Cu} (h : LsC N T Cs) : 0 < T.length ∧ (clD T 0).t = 18 ∧ (clD T 0).i 154 = n2 Cs.length := by
  rcases h with ⟨h1, h2, h3, h4, -⟩ | ⟨h1, d, cs, h2, h3⟩
  · rw [h1]; exact ⟨h2, h3, h4⟩
  · exact ⟨h2.1, h2.2.1, h2.2.2.1⟩
theorem Blk.of {d : Cl} (h : d.t = 18 ∨ d.t = 104) : Blk d ∧ d.t ≠ 19 ∧ d.t ≠ 100 := ⟨⟨fun q => by omega, fun q => by omega, by omega⟩, by omega, by omega⟩
section AddC
variable {B : Mem} {c : Cl} {T : List Cl} {z e : Nat} {Cs : List Cu} {cu : Cu}
theorem D_addC (hB : 131 ≤ mNx B) (t52 : mTag B 52 = 104) (l52 : mLen B 52 = 0) (L : LsC (mNx B) T Cs) (hk : Cs.length < 30) (cT : CuT T e cu) :
    ∃ T' z', fJ3_add (some (mNx B + (1 + 0))) (some (mNx B + (1 + e))) (ovs B (c :: T) z) = some (1, ovs B (c :: T') z') ∧ LsC (mNx B) T' (Cs ++ [cu]) ∧ Chg T T' ∧ T'.length + gkN Cs.length ≤ T.length + gkN (Cs.length + 1) ∧ z' + gzN Cs.length ≤ z + gzN (Cs.length + 1) := by
  have tg := cT.tg
  have ha : asg 104 (clD T e).t = true := by rcases tg with q | q | q | q <;> rw [q] <;> rfl
  have el : e ≠ 0 := fun q => by
    have := L.tag.2.1
    rw [q, this] at tg; omega
  have len' : (Cs ++ [cu]).length = Cs.length + 1 := by rw [List.length_append]; rfl
  have get' : ∀ i (hi : i < (Cs ++ [cu]).length), (i < Cs.length ∧ ∃ h : i < Cs.length, (Cs ++ [cu])[i] = Cs[i]) ∨ (i = Cs.length ∧ (Cs ++ [cu])[i] = cu) := fun i hi => by
    rw [len'] at hi
    by_cases q : i < Cs.length
    · exact Or.inl ⟨q, q, List.getElem_append_left q⟩
    · have : i = Cs.length := by omega
      subst this
      exact Or.inr ⟨rfl, by simp⟩
  rcases L with ⟨h1, h2, h3, h4, h5⟩ | ⟨h1, d, cs, h2, h3⟩
  · obtain ⟨T', e1, e2, e3, e4⟩ := X_add0 (c := c) (z := z) hB t52 l52 h2 h3 h4 h5 cT.1 el ha
    subst h1
    refine ⟨T', z + 10, e1, Or.inr ⟨by rw [len']; omega, T.length, fun _ => e, e4, fun i hi => ?_⟩, ⟨by omega, fun i hi => ?_⟩, ?_, ?_⟩
    · rcases get' i hi with ⟨q, -⟩ | ⟨q1, q2⟩
      · exact absurd q (Nat.not_lt_zero i)
      · rw [q2]
        obtain ⟨c1, c2⟩ := cT
        show CuT T' e cu
        refine ⟨by omega, ?_⟩
        rw [e3 e el c1]; exact c2
    · by_cases q : i = 0
      · subst q; exact Or.inr (Blk.of (Or.inl h3))
      · exact Or.inl (e3 i q hi)
    · show T'.length + gkN 0 ≤ T.length + gkN 1
      rw [show gkN 0 = 0 from rfl, show gkN 1 = 1 from rfl]; omega
    · show z + 10 + gzN 0 ≤ z + gzN 1
      rw [show gzN 0 = 0 from rfl, show gzN 1 = 10 from rfl]; omega
  · have cc : Cs.length ≤ capN Cs.length := h2.2.2.2.2.2.2.2.2.1
    have td : (clD T d).t = 104 := h2.2.2.2.2.2.2.1
    have ed : e ≠ d := fun q => by rw [q, td] at tg; omega
    by_cases full : Cs.length = capN Cs.length
    · -- the array is full
      obtain ⟨hc, cp1, gk1, gz1⟩ := gN_grow Cs.length hk h1 full
      rw [← full] at h2
      obtain ⟨T', e1, e2, e3, e4⟩ := X_addG (c := c) (z := z) (e := e) hB h2 hc (fun i hi => by
        have q := h3 i hi
        have tq := q.tg
        refine ⟨q.1, by rcases tq with w | w | w | w <;> rw [w] <;> rfl, fun w => ?_⟩
        rw [w, h2.2.1] at tq; omega) cT.1 el ha
      have cap' : Cs.length + Cs.length / 2 = capN (Cs ++ [cu]).length := by rw [len']; exact cp1
      rw [cap'] at e4
      refine ⟨T', z + (Cs.length + Cs.length / 2), e1, Or.inr ⟨by rw [len']; omega, T.length, upq cs Cs.length e, by rw [len'] at e4 ⊢; exact e4, fun i hi => ?_⟩, ⟨by omega, fun i hi => ?_⟩, ?_, ?_⟩
      · rcases get' i hi with ⟨q, q', q2⟩ | ⟨q1, q2⟩
        · rw [q2, upq_ne _ _ (by omega)]
          have w := h3 i q
          have tq := w.tg
          obtain ⟨c1, c2⟩ := w
          refine ⟨by omega, ?_⟩
          rw [e3 (cs i) (fun w => by rw [w, h2.2.1] at tq; omega) c1]; exact c2
        · rw [q2, q1, upq_self]
          obtain ⟨c1, c2⟩ := cT
          refine ⟨by omega, ?_⟩
          rw [e3 e el c1]; exact c2
      · by_cases q : i = 0
        · subst q; exact Or.inr (Blk.of (Or.inl h2.2.1))
        · exact Or.inl (e3 i q hi)
      · omega
      · omega
    · obtain ⟨T', e1, e2, e3, e4⟩ := X_addR (c := c) (z := z) (e := e) (by omega) h2 (by omega) cT.1 el ed ha
      obtain ⟨cp1, gk, gz⟩ := gN_same Cs.length hk h1 full
      have cap' : capN Cs.length = capN (Cs ++ [cu]).length := by rw [len']; exact cp1
      rw [cap'] at e4
      refine ⟨T', z, e1, Or.inr ⟨by rw [len']; omega, d, upq cs Cs.length e, by rw [len'] at e4 ⊢; exact e4, fun i hi => ?_⟩, ⟨by omega, fun i hi => ?_⟩, by omega, by omega⟩
      · rcases get' i hi with ⟨q, q', q2⟩ | ⟨q1, q2⟩
        · rw [q2, upq_ne _ _ (by omega)]
          have w := h3 i q
          have tq := w.tg
          obtain ⟨c1, c2⟩ := w
          refine ⟨by omega, ?_⟩
          rw [e3 (cs i) (fun w => by rw [w, h2.2.1] at tq; omega) (fun w => by rw [w, td] at tq; omega)]; exact c2
        · rw [q2, q1, upq_self]
          obtain ⟨c1, c2⟩ := cT
          refine ⟨by omega, ?_⟩
          rw [e3 e el ed]; exact c2
      · by_cases q : i = 0
        · subst q; exact Or.inr (Blk.of (Or.inl h2.2.1))
        · by_cases q' : i = d
          · subst q'; exact Or.inr (Blk.of (Or.inr td))
          · exact Or.inl (e3 i q q')
end AddC
