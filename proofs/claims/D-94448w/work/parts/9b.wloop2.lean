set_option linter.unusedVariables false
set_option linter.unusedSimpArgs false
set_option maxRecDepth 100000
section WLoop2
variable {B b' : Mem} {c : Cl} {T : List Cl} {tp : Nat → Int32} {to most z n s p k : Nat} {m : MS} {r : MR} {vb : Bool} {g : Nat → Int32} {num fl : Int32} {w : Int64}
theorem M_wstep {kk : Rf → Int32 → Int32 → Mem → Option (Unit × Mem)} (h940 : to ≤ 940) (hm : m.tape = tp) (hz : r.size = n2 to) (hq : p + k < to) (hfl : fl = 0 ∨ fl = 1) (h : isLtN (octN (tp (p + k))) = true ∨ isDgN (octN (tp (p + k))) = true) :
    bX4_next_181B kk (some 106) (b2i vb) fl (mkM b' n s (m.sR (r.wq (p + k) k num w))) = kk (some 106) (b2i vb) (flN fl vb (octN (tp (p + k)))) (mkM b' n s (m.sR (r.wq (p + k + 1) (k + 1) (nmN num k (octN (tp (p + k)))) (wdN w k (octN (tp (p + k))))))) := by
  have ol := oct_lt (tp (p + k))
  have PK : ∀ num w, fX4_peek (some 106) (mkM b' n s (m.sR (r.wq (p + k) k num w))) = some (n2 (octN (tp (p + k))), mkM b' n s (m.sR (r.wq (p + k) k num w))) := fun num w => by
    have := M_pk (b' := b') (n := n) (s := s) (m := m) (r := r.wq (p + k) k num w) (p := p + k) h940 hz rfl (by omega)
    rw [hm, if_pos hq] at this; exact this
  generalize octN (tp (p + k)) = ch at *
  have E275 : ∀ (f num : Int32) (w : Int64), bX4_next_275 kk (some 106) (b2i vb) f (mkM b' n s (m.sR (r.wq (p + k) k num w))) = kk (some 106) (b2i vb) f (mkM b' n s (m.sR (r.wq (p + k + 1) (k + 1) num w))) := by
    intro f num w
    unfold bX4_next_275
    simp -implicitDefEqProofs only [Option.bind_some, bd_some, b2i_0, Bool.true_eq_false, Bool.false_eq_true, eq_self, if_true, if_false, not_true_eq_false, not_false_eq_true, gM_66, sR_r, mq_1, show n2 k + 1 = n2 (k + 1) from n2_add k 1, pR_66, mq_s, gM_59, mq_4, show n2 (p + k) + 1 = n2 (p + k + 1) from n2_add _ 1, pR_58, mq_p]
  have E248 : ∀ (f num : Int32) (w : Int64), bX4_next_248 kk (some 106) (b2i vb) f (mkM b' n s (m.sR (r.wq (p + k) k num w))) = kk (some 106) (b2i vb) f (mkM b' n s (m.sR (r.wq (p + k + 1) (k + 1) (nmN num k ch) w))) := by
    intro f num w
    unfold bX4_next_248 nmN
    by_cases h3 : k < 3
    · have le : ((3 : Int32) ≤ n2 k) = False := by rw [li_3, n2_le (by omega) (by omega)]; exact eq_false (by omega)
      simp -implicitDefEqProofs only [Option.bind_some, bd_some, b2i_0, Bool.true_eq_false, Bool.false_eq_true, eq_self, if_true, if_false, not_true_eq_false, not_false_eq_true, gM_66, sR_r, mq_1, le, gM_67, mq_2, ivM, PK, pR_67, mq_n, E275, h3]
    · have le : ((3 : Int32) ≤ n2 k) = True := by rw [li_3, n2_le (by omega) (by omega)]; exact eq_true (by omega)
      simp -implicitDefEqProofs only [Option.bind_some, bd_some, b2i_0, Bool.true_eq_false, Bool.false_eq_true, eq_self, if_true, if_false, not_true_eq_false, not_false_eq_true, gM_66, sR_r, mq_1, le, E275, h3]
  have E221 : ∀ f : Int32, bX4_next_221 kk (some 106) (b2i vb) f (mkM b' n s (m.sR (r.wq (p + k) k num w))) = kk (some 106) (b2i vb) f (mkM b' n s (m.sR (r.wq (p + k + 1) (k + 1) (nmN num k ch) (wdN w k ch)))) := by
    intro f
    unfold bX4_next_221 wdN
    by_cases h8 : k < 8
    · have le : ((8 : Int32) ≤ n2 k) = False := by rw [li_8, n2_le (by omega) (by omega)]; exact eq_false (by omega)
      simp -implicitDefEqProofs only [Option.bind_some, bd_some, b2i_0, Bool.true_eq_false, Bool.false_eq_true, eq_self, if_true, if_false, not_true_eq_false, not_false_eq_true, gM_66, sR_r, mq_1, le, gM_70, mq_3, ivM, PK, pR_70, mq_w, E248, h8]
    · have le : ((8 : Int32) ≤ n2 k) = True := by rw [li_8, n2_le (by omega) (by omega)]; exact eq_true (by omega)
      simp -implicitDefEqProofs only [Option.bind_some, bd_some, b2i_0, Bool.true_eq_false, Bool.false_eq_true, eq_self, if_true, if_false, not_true_eq_false, not_false_eq_true, gM_66, sR_r, mq_1, le, E248, h8]
  have E201 : bX4_next_201 kk (some 106) (b2i vb) fl (mkM b' n s (m.sR (r.wq (p + k) k num w))) = kk (some 106) (b2i vb) (flN fl vb ch) (mkM b' n s (m.sR (r.wq (p + k + 1) (k + 1) (nmN num k ch) (wdN w k ch)))) := by
    unfold bX4_next_201 bX4_next_220 flN
    rcases hfl with rfl | rfl
    · simp -implicitDefEqProofs only [Option.bind_some, bd_some, b2i_0, Bool.true_eq_false, Bool.false_eq_true, eq_self, if_true, if_false, not_true_eq_false, not_false_eq_true, E221]
    · simp -implicitDefEqProofs only [Option.bind_some, bd_some, b2i_0, Bool.true_eq_false, Bool.false_eq_true, eq_self, if_true, if_false, not_true_eq_false, not_false_eq_true, show ((1 : Int32) = 0) = False from eq_false (by decide), ivM, PK, M_isLt ol, b2i_eq, E221]
      by_cases hv : isLtN ch = vb
      · simp -implicitDefEqProofs only [Option.bind_some, bd_some, b2i_0, Bool.true_eq_false, Bool.false_eq_true, eq_self, if_true, if_false, not_true_eq_false, not_false_eq_true, hv]
      · simp -implicitDefEqProofs only [Option.bind_some, bd_some, b2i_0, Bool.true_eq_false, Bool.false_eq_true, eq_self, if_true, if_false, not_true_eq_false, not_false_eq_true, hv]
  unfold bX4_next_181B
  rcases Bool.eq_false_or_eq_true (isLtN ch) with e | e
  · simp -implicitDefEqProofs only [Option.bind_some, bd_some, b2i_0, Bool.true_eq_false, Bool.false_eq_true, eq_self, if_true, if_false, not_true_eq_false, not_false_eq_true, ivM, PK, M_isLt ol, e]
    exact E201
  · have hd : isDgN ch = true := by
      rcases h with h | h
      · rw [e] at h; exact absurd h (by decide)
      · exact h
    simp -implicitDefEqProofs only [Option.bind_some, bd_some, b2i_0, Bool.true_eq_false, Bool.false_eq_true, eq_self, if_true, if_false, not_true_eq_false, not_false_eq_true, ivM, PK, M_isLt ol, e, M_isDg ol, hd]
    exact E201
/-- where the word ends -/
theorem X_wstop {kk : Rf → Int32 → Int32 → Rf → Mem → Option (Unit × Mem)} (R : RdX B c tp to most) (hq : p + k ≤ to) (h : p + k < to → isLtN (octN (tp (p + k))) = false ∧ isDgN (octN (tp (p + k))) = false) :
    bX5_go_189B kk (some (mNx B)) (b2i vb) fl (some (mNx B + (T.length + 1 + 0))) (wSt B c T z num (p + k) k g) = bX5_go_189B (bX5_go_189 0) (some (mNx B)) (b2i vb) fl (some (mNx B + (T.length + 1 + 0))) (wSt B c T z num (p + k) k g) := by
  have h940 := R.to_
  obtain ⟨cb, hcb, l1, l2, B2⟩ : ∃ cb, cb < 256 ∧ isLtN cb = false ∧ isDgN cb = false ∧ fX5_byteAt (some (mNx B)) (n2 (p + k)) (wSt B c T z num (p + k) k g) = some (n2 cb, wSt B c T z num (p + k) k g) := by
    have rb := X_rb (c := c.wq num (p + k)) (T := T ++ [sbC (mNx B + (T.length + 1 + 1)) (min k 8), byC g]) (z := z) (R.wq) (show p + k ≤ 940 by omega)
    by_cases hl : p + k < to
    · rw [if_pos hl] at rb
      exact ⟨octN (tp (p + k)), oct_lt _, (h hl).1, (h hl).2, rb⟩
    · rw [if_neg hl] at rb
      exact ⟨0, by decide, by decide, by decide, rb⟩
  have G : gI (wSt B c T z num (p + k) k g) (some (mNx B)) 127 = some (n2 (p + k)) := (rd_get (c := c.wq num (p + k)) R.t rfl).trans (congrArg some wq_i127)
  have I2 : ∀ {α : Type} (o : Option α), iv (wSt B c T z num (p + k) k g) (some (mNx B)) [5, 13] o = o := fun o => rd_iv (c := c.wq num (p + k)) R.t rfl
  unfold bX5_go_189B
  simp -implicitDefEqProofs only [Option.bind_some, bd_some, b2i_0, Bool.true_eq_false, Bool.false_eq_true, eq_self, if_true, if_false, not_true_eq_false, not_false_eq_true, G, I2, B2, X_isLt hcb, X_isDg hcb, l1, l2]
theorem M_wstop {kk : Rf → Int32 → Int32 → Mem → Option (Unit × Mem)} (h940 : to ≤ 940) (hm : m.tape = tp) (hz : r.size = n2 to) (hq : p + k ≤ to) (h : p + k < to → isLtN (octN (tp (p + k))) = false ∧ isDgN (octN (tp (p + k))) = false) :
    bX4_next_181B kk (some 106) (b2i vb) fl (mkM b' n s (m.sR (r.wq (p + k) k num w))) = bX4_next_181B (bX4_next_181 0) (some 106) (b2i vb) fl (mkM b' n s (m.sR (r.wq (p + k) k num w))) := by
  have PK := M_pk (b' := b') (n := n) (s := s) (m := m) (r := r.wq (p + k) k num w) (p := p + k) h940 hz rfl (by omega)
  rw [hm] at PK
  unfold bX4_next_181B
  by_cases hl : p + k < to
  · rw [if_pos hl] at PK
    obtain ⟨l1, l2⟩ := h hl
    simp -implicitDefEqProofs only [Option.bind_some, bd_some, b2i_0, Bool.true_eq_false, Bool.false_eq_true, eq_self, if_true, if_false, not_true_eq_false, not_false_eq_true, ivM, PK, M_isLt (oct_lt (tp (p + k))), M_isDg (oct_lt (tp (p + k))), l1, l2]
  · rw [if_neg hl] at PK
    simp -implicitDefEqProofs only [Option.bind_some, bd_some, b2i_0, Bool.true_eq_false, Bool.false_eq_true, eq_self, if_true, if_false, not_true_eq_false, not_false_eq_true, ivM, PK, fun st => (M_m1 st).1, fun st => (M_m1 st).2]
theorem L_wd (R : RdX B c tp to most) (h129 : c.i 129 = n2 p) (hm : m.tape = tp) (hz : r.size = n2 to) : ∀ (j F F' k : Nat) (num : Int32) (w : Int64) (g : Nat → Int32) (fl : Int32), p + k + j = to → j < F → j < F' → WI (fun i => octN (tp (p + i))) vb k w g fl → NI (fun i => octN (tp (p + i))) k num →
    ∃ k' num' w' g' fl', k ≤ k' ∧ p + k' ≤ to ∧ (WI (fun i => octN (tp (p + i))) vb k' w' g' fl' ∧ NI (fun i => octN (tp (p + i))) k' num') ∧ (p + k' < to → isLtN (octN (tp (p + k'))) = false ∧ isDgN (octN (tp (p + k'))) = false) ∧
      bX5_go_189 F (some (mNx B)) (b2i vb) fl (some (mNx B + (T.length + 1 + 0))) (wSt B c T z num (p + k) k g) = bX5_go_189 1 (some (mNx B)) (b2i vb) fl' (some (mNx B + (T.length + 1 + 0))) (wSt B c T z num' (p + k') k' g') ∧
      bX4_next_181 F' (some 106) (b2i vb) fl (mkM b' n s (m.sR (r.wq (p + k) k num w))) = bX4_next_181 1 (some 106) (b2i vb) fl' (mkM b' n s (m.sR (r.wq (p + k') k' num' w'))) := by
  have h940 := R.to_
  intro j
  induction j with
  | zero =>
    intro F F' k num w g fl hk hF hF' W N0
    obtain ⟨F, rfl⟩ : ∃ g, F = g + 1 := ⟨F - 1, by omega⟩
    obtain ⟨F', rfl⟩ : ∃ g, F' = g + 1 := ⟨F' - 1, by omega⟩
    exact ⟨k, num, w, g, fl, Nat.le_refl _, by omega, ⟨W, N0⟩, fun h => by omega, X_wstop R (by omega) (fun h => by omega), M_wstop h940 hm hz (by omega) (fun h => by omega)⟩
  | succ j ih =>
    intro F F' k num w g fl hk hF hF' W N0
    obtain ⟨F, rfl⟩ : ∃ g, F = g + 1 := ⟨F - 1, by omega⟩
    obtain ⟨F', rfl⟩ : ∃ g, F' = g + 1 := ⟨F' - 1, by omega⟩
    by_cases h : isLtN (octN (tp (p + k))) = true ∨ isDgN (octN (tp (p + k))) = true
    · have hfl : fl = 0 ∨ fl = 1 := by
        rcases W.hfl with e | ⟨e, -⟩
        · exact Or.inl e
        · exact Or.inr e
      obtain ⟨k', num', w', g', fl', i1, i2, i3, i4, i5, i6⟩ := ih F F' (k + 1) (nmN num k (octN (tp (p + k)))) (wdN w k (octN (tp (p + k)))) (gN g k (octN (tp (p + k)))) (flN fl vb (octN (tp (p + k)))) (by omega) (by omega) (by omega) (W.step h) N0.step
      refine ⟨k', num', w', g', fl', by omega, i2, i3, i4, ?_, ?_⟩
      · rw [← i5]
        exact X_wstep R h129 (by omega) hfl h
      · rw [← i6]
        exact M_wstep h940 hm hz (by omega) hfl h
    · have h' : isLtN (octN (tp (p + k))) = false ∧ isDgN (octN (tp (p + k))) = false := by
        constructor
        · rcases Bool.eq_false_or_eq_true (isLtN (octN (tp (p + k)))) with e | e
          · exact absurd (Or.inl e) h
          · exact e
        · rcases Bool.eq_false_or_eq_true (isDgN (octN (tp (p + k)))) with e | e
          · exact absurd (Or.inr e) h
          · exact e
      exact ⟨k, num, w, g, fl, Nat.le_refl _, by omega, ⟨W, N0⟩, fun _ => h', X_wstop R (by omega) (fun _ => h'), M_wstop h940 hm hz (by omega) (fun _ => h')⟩
end WLoop2
