set_option linter.unusedVariables false
set_option linter.unusedSimpArgs false
set_option maxRecDepth 100000
/-! ===== a number held; an element put into a new array ===== -/
section Hold
variable {B b' : Mem} {c : Cl} {T : List Cl} {tp : Nat → Int32} {to most z n s p A Z : Nat} {m : MS}
/-- hold in HouseClaps, beside what the model asks of the token -/
theorem D_hold (S : RsR B c T m tp to most p) (lo hi : Int32) :
    (m.r.token = 2 ∧ c.i 128 = 3 ∧ c.i 130 = m.r.number ∧ (lo ≤ m.r.number ∧ m.r.number ≤ hi) ∧ fX5_hold (some (mNx B)) lo hi (ovs B (c :: T) z) = some (.inl m.r.number, ovs B (c :: T) z)) ∨
    (m.r.token ≠ 2 ∧ fX5_hold (some (mNx B)) lo hi (ovs B (c :: T) z) = some (.inr (mNx B + (1 + T.length)), ovs B (c :: (T ++ [fcC (if c.i 128 = 1 ∨ c.i 128 = 5 then 1 else 1) (c.i 129)])) (z + 8))) ∨
    (m.r.token = 2 ∧ c.i 128 = 3 ∧ c.i 130 = m.r.number ∧ ¬ (lo ≤ m.r.number ∧ m.r.number ≤ hi) ∧ fX5_hold (some (mNx B)) lo hi (ovs B (c :: T) z) = some (.inr (mNx B + (1 + T.length)), ovs B (c :: (T ++ [fcC (if c.i 128 = 1 ∨ c.i 128 = 5 then 1 else 2) (c.i 129)])) (z + 8))) := by
  have R := S.R
  have G128 : gI (ovs B (c :: T) z) (some (mNx B)) 128 = some (c.i 128) := rd_get R.t rfl
  have G130 : gI (ovs B (c :: T) z) (some (mNx B)) 130 = some (c.i 130) := rd_get R.t rfl
  have IV : ∀ {α : Type} (o : Option α), iv (ovs B (c :: T) z) (some (mNx B)) [13, 5] o = o := fun o => rd_iv R.t rfl
  have no : ∀ x t : Int32, c.i 128 = x → m.r.token = t → (x = 3) = False → (t = 2) = False → (m.r.token ≠ 2 ∧ fX5_hold (some (mNx B)) lo hi (ovs B (c :: T) z) = some (.inr (mNx B + (1 + T.length)), ovs B (c :: (T ++ [fcC (if c.i 128 = 1 ∨ c.i 128 = 5 then 1 else 1) (c.i 129)])) (z + 8))) := by
    intro x t h1 h2 h3 h4
    refine ⟨by rw [h2]; exact fun h => by rw [h4] at h; exact h, ?_⟩
    have nd := X_need0' (T := T) (z := z) R 1
    unfold fX5_hold bX5_hold_14
    simp -implicitDefEqProofs only [Option.bind_some, bd_some, b2i_0, Bool.true_eq_false, Bool.false_eq_true, eq_self, if_true, if_false, not_true_eq_false, not_false_eq_true, IV, G128, h1, h3] at nd ⊢
    rw [nd]; rfl
  rcases S.K.kd with ⟨h1, h2⟩ | ⟨h1 | h1, h2⟩ | ⟨h1, h2, -⟩ | ⟨h1, h2, h3⟩ | ⟨h1, h2, -⟩
  · exact Or.inr (Or.inl (no 0 0 h1 h2 (eq_false (by decide)) (eq_false (by decide))))
  · exact Or.inr (Or.inl (no 1 4 h1 h2 (eq_false (by decide)) (eq_false (by decide))))
  · exact Or.inr (Or.inl (no 5 4 h1 h2 (eq_false (by decide)) (eq_false (by decide))))
  · exact Or.inr (Or.inl (no 2 1 h1 h2 (eq_false (by decide)) (eq_false (by decide))))
  · rcases Bool.eq_false_or_eq_true (decide (lo ≤ m.r.number ∧ m.r.number ≤ hi)) with e | e
    · refine Or.inl ⟨h2, h1, h3, of_decide_eq_true e, ?_⟩
      unfold fX5_hold bX5_hold_14
      simp -implicitDefEqProofs only [Option.bind_some, bd_some, b2i_0, Bool.true_eq_false, Bool.false_eq_true, eq_self, if_true, if_false, not_true_eq_false, not_false_eq_true, IV, G128, h1, G130, h3, X_need1', bt_inl, X_isIn, e, show b2i true = (1 : Int32) from rfl]
    · refine Or.inr (Or.inr ⟨h2, h1, h3, of_decide_eq_false e, ?_⟩)
      have nv : ¬ (c.i 128 = 1 ∨ c.i 128 = 5) := by rw [h1]; decide
      have nd := X_need0' (T := T) (z := z) R 2
      unfold fX5_hold bX5_hold_14
      rw [if_neg nv] at nd ⊢
      simp -implicitDefEqProofs only [Option.bind_some, bd_some, b2i_0, Bool.true_eq_false, Bool.false_eq_true, eq_self, if_true, if_false, not_true_eq_false, not_false_eq_true, IV, G128, h1, G130, h3, X_need1', bt_inl, X_isIn, e, show b2i false = (0 : Int32) from rfl, nd, bt_inr]
  · exact Or.inr (Or.inl (no 4 3 h1 h2 (eq_false (by decide)) (eq_false (by decide))))
end Hold
section PutA
variable {B : Mem} {L : List Cl} {z i : Nat}
theorem o_uA (hB : 64 ≤ mNx B) (hi : i < L.length) {k e : Nat} (hk : k < (clD L i).l) (hk2 : k < 1000) (he : e < mNx (ovs B L z)) (ha : asg (clD L i).t (mTag (ovs B L z) e) = true) : uA (ovs B L z) (some (mNx B + i)) (n2 k) (some e) = some (ovs B (clS L i ((clD L i).sA k (some e))) z) := by
  obtain ⟨c1, c2, c3, c4, c5⟩ := ov_ce (B := B) (z := z) hi
  have cond : 64 ≤ mNx B + i ∧ mNx B + i < mNx (ovs B L z) ∧ (0 : Int32) ≤ n2 k ∧ (n2 k).toNatClampNeg < mLen (ovs B L z) (mNx B + i) ∧ e < mNx (ovs B L z) ∧ asg (mTag (ovs B L z) (mNx B + i)) (mTag (ovs B L z) e) = true := ⟨by omega, by rw [ov_nx]; omega, n2_pos (by omega), by rw [c2, n2_nat (by omega)]; exact hk, he, by rw [c1]; exact ha⟩
  refine (if_pos cond).trans ?_
  rw [n2_nat (by omega), o_SA hi]
end PutA
