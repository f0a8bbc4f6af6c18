set_option linter.unusedVariables false
set_option linter.unusedSimpArgs false
set_option maxRecDepth 100000
/-! ===== a house being told, one of its cells written (printed) ===== -/
section HTset2
variable {N : Nat} {T : List Cl} {f f2 : Nat → Int32} {H H2 : HS} {ln ln2 q v : Nat}
theorem HT.sCarry (X : HT N T f H ln) (h1 : 1 ≤ v) (h2 : v ≤ 64) : HT N (clS T 0 ((clD T 0).sI (30) (n2 v))) (upq f 3 (n2 v)) (H.sCarry v) (ln) := by
  have l := X.sh.len
  have C := X.sh.chg (i := 0) (by decide) ((clD T 0).sI (30) (n2 v))
  have e0 : clD (clS T 0 ((clD T 0).sI (30) (n2 v))) 0 = ((clD T 0).sI (30) (n2 v)) := clS_at T 0 _ (by omega)
  have ne : ∀ i, i ≠ 0 → clD (clS T 0 ((clD T 0).sI (30) (n2 v))) i = clD T i := fun i hi => clS_ne T 0 i _ hi
  exact ⟨X.sh.setI (by decide), by rw [e0, i_ne _ _ (by decide)]; exact X.rows, by rw [e0, i_ne _ _ (by decide)]; exact X.cols, by rw [e0, i_self]; rfl, by rw [e0, i_ne _ _ (by decide)]; exact X.paid, by rw [e0, i_ne _ _ (by decide)]; exact X.lines, by rw [e0, i_ne _ _ (by decide)]; exact X.byRows, fun j hj => by rw [ne _ (by decide)]; exact X.kind j hj, fun j hj => by rw [ne _ (by decide)]; exact X.price j hj, fun j hj => by rw [ne _ (by decide)]; exact X.leaves j hj, fun k hk hl => by rw [ne _ (by decide)]; exact X.up0 k hk hl, fun k c o hk hl => by
    obtain ⟨q1, a, q2, q3⟩ := X.up k c o hk hl
    exact ⟨by rw [ne _ (by decide)]; exact q1, a, by rw [ne _ (by decide)]; exact q2, q3.ch C⟩, fun k hk hl => by rw [ne _ (by decide)]; exact X.down0 k hk hl, fun k c o hk hl => by
    obtain ⟨q1, a, q2, q3⟩ := X.down k c o hk hl
    exact ⟨by rw [ne _ (by decide)]; exact q1, a, by rw [ne _ (by decide)]; exact q2, q3.ch C⟩, X.mh.sCarry, ⟨X.ok.rows, X.ok.cols, X.ok.empty, ⟨h1, h2⟩, X.ok.paid, X.ok.kind, X.ok.price, X.ok.leaves, X.ok.dep⟩⟩
theorem HT.sPaid (X : HT N T f H ln) (h1 : v ≤ 600) : HT N (clS T 0 ((clD T 0).sI (31) (n2 v))) (upq f 4 (n2 v)) (H.sPaid v) (ln) := by
  have l := X.sh.len
  have C := X.sh.chg (i := 0) (by decide) ((clD T 0).sI (31) (n2 v))
  have e0 : clD (clS T 0 ((clD T 0).sI (31) (n2 v))) 0 = ((clD T 0).sI (31) (n2 v)) := clS_at T 0 _ (by omega)
  have ne : ∀ i, i ≠ 0 → clD (clS T 0 ((clD T 0).sI (31) (n2 v))) i = clD T i := fun i hi => clS_ne T 0 i _ hi
  exact ⟨X.sh.setI (by decide), by rw [e0, i_ne _ _ (by decide)]; exact X.rows, by rw [e0, i_ne _ _ (by decide)]; exact X.cols, by rw [e0, i_ne _ _ (by decide)]; exact X.carry, by rw [e0, i_self]; rfl, by rw [e0, i_ne _ _ (by decide)]; exact X.lines, by rw [e0, i_ne _ _ (by decide)]; exact X.byRows, fun j hj => by rw [ne _ (by decide)]; exact X.kind j hj, fun j hj => by rw [ne _ (by decide)]; exact X.price j hj, fun j hj => by rw [ne _ (by decide)]; exact X.leaves j hj, fun k hk hl => by rw [ne _ (by decide)]; exact X.up0 k hk hl, fun k c o hk hl => by
    obtain ⟨q1, a, q2, q3⟩ := X.up k c o hk hl
    exact ⟨by rw [ne _ (by decide)]; exact q1, a, by rw [ne _ (by decide)]; exact q2, q3.ch C⟩, fun k hk hl => by rw [ne _ (by decide)]; exact X.down0 k hk hl, fun k c o hk hl => by
    obtain ⟨q1, a, q2, q3⟩ := X.down k c o hk hl
    exact ⟨by rw [ne _ (by decide)]; exact q1, a, by rw [ne _ (by decide)]; exact q2, q3.ch C⟩, X.mh.sPaid, ⟨X.ok.rows, X.ok.cols, X.ok.empty, X.ok.carry, h1, X.ok.kind, X.ok.price, X.ok.leaves, X.ok.dep⟩⟩
theorem HT.sBy (X : HT N T f H ln) : HT N (clS T 0 ((clD T 0).sI (33) (1))) (upq f 5 1) (H.sBy true) (ln) := by
  have l := X.sh.len
  have C := X.sh.chg (i := 0) (by decide) ((clD T 0).sI (33) (1))
  have e0 : clD (clS T 0 ((clD T 0).sI (33) (1))) 0 = ((clD T 0).sI (33) (1)) := clS_at T 0 _ (by omega)
  have ne : ∀ i, i ≠ 0 → clD (clS T 0 ((clD T 0).sI (33) (1))) i = clD T i := fun i hi => clS_ne T 0 i _ hi
  exact ⟨X.sh.setI (by decide), by rw [e0, i_ne _ _ (by decide)]; exact X.rows, by rw [e0, i_ne _ _ (by decide)]; exact X.cols, by rw [e0, i_ne _ _ (by decide)]; exact X.carry, by rw [e0, i_ne _ _ (by decide)]; exact X.paid, by rw [e0, i_ne _ _ (by decide)]; exact X.lines, by rw [e0, i_self]; rfl, fun j hj => by rw [ne _ (by decide)]; exact X.kind j hj, fun j hj => by rw [ne _ (by decide)]; exact X.price j hj, fun j hj => by rw [ne _ (by decide)]; exact X.leaves j hj, fun k hk hl => by rw [ne _ (by decide)]; exact X.up0 k hk hl, fun k c o hk hl => by
    obtain ⟨q1, a, q2, q3⟩ := X.up k c o hk hl
    exact ⟨by rw [ne _ (by decide)]; exact q1, a, by rw [ne _ (by decide)]; exact q2, q3.ch C⟩, fun k hk hl => by rw [ne _ (by decide)]; exact X.down0 k hk hl, fun k c o hk hl => by
    obtain ⟨q1, a, q2, q3⟩ := X.down k c o hk hl
    exact ⟨by rw [ne _ (by decide)]; exact q1, a, by rw [ne _ (by decide)]; exact q2, q3.ch C⟩, X.mh.sBy, ⟨X.ok.rows, X.ok.cols, X.ok.empty, X.ok.carry, X.ok.paid, X.ok.kind, X.ok.price, X.ok.leaves, X.ok.dep⟩⟩
theorem HT.sLn (X : HT N T f H ln) : HT N (clS T 0 ((clD T 0).sI (32) (n2 (ln + 1)))) (f) (H) (ln + 1) := by
  have l := X.sh.len
  have C := X.sh.chg (i := 0) (by decide) ((clD T 0).sI (32) (n2 (ln + 1)))
  have e0 : clD (clS T 0 ((clD T 0).sI (32) (n2 (ln + 1)))) 0 = ((clD T 0).sI (32) (n2 (ln + 1))) := clS_at T 0 _ (by omega)
  have ne : ∀ i, i ≠ 0 → clD (clS T 0 ((clD T 0).sI (32) (n2 (ln + 1)))) i = clD T i := fun i hi => clS_ne T 0 i _ hi
  exact ⟨X.sh.setI (by decide), by rw [e0, i_ne _ _ (by decide)]; exact X.rows, by rw [e0, i_ne _ _ (by decide)]; exact X.cols, by rw [e0, i_ne _ _ (by decide)]; exact X.carry, by rw [e0, i_ne _ _ (by decide)]; exact X.paid, by rw [e0, i_self], by rw [e0, i_ne _ _ (by decide)]; exact X.byRows, fun j hj => by rw [ne _ (by decide)]; exact X.kind j hj, fun j hj => by rw [ne _ (by decide)]; exact X.price j hj, fun j hj => by rw [ne _ (by decide)]; exact X.leaves j hj, fun k hk hl => by rw [ne _ (by decide)]; exact X.up0 k hk hl, fun k c o hk hl => by
    obtain ⟨q1, a, q2, q3⟩ := X.up k c o hk hl
    exact ⟨by rw [ne _ (by decide)]; exact q1, a, by rw [ne _ (by decide)]; exact q2, q3.ch C⟩, fun k hk hl => by rw [ne _ (by decide)]; exact X.down0 k hk hl, fun k c o hk hl => by
    obtain ⟨q1, a, q2, q3⟩ := X.down k c o hk hl
    exact ⟨by rw [ne _ (by decide)]; exact q1, a, by rw [ne _ (by decide)]; exact q2, q3.ch C⟩, X.mh, X.ok⟩
theorem HT.sPrice (X : HT N T f H ln) (hq : q < 8) (h1 : v ≤ 999) : HT N (clS T 2 ((clD T 2).sI (q) (n2 v))) (upq f (70 + q) (n2 v)) (H.sPrice q v) (ln) := by
  have l := X.sh.len
  have C := X.sh.chg (i := 2) (by decide) ((clD T 2).sI (q) (n2 v))
  have e0 : clD (clS T 2 ((clD T 2).sI (q) (n2 v))) 2 = ((clD T 2).sI (q) (n2 v)) := clS_at T 2 _ (by omega)
  have ne : ∀ i, i ≠ 2 → clD (clS T 2 ((clD T 2).sI (q) (n2 v))) i = clD T i := fun i hi => clS_ne T 2 i _ hi
  exact ⟨X.sh.setI (by decide), by rw [ne _ (by decide)]; exact X.rows, by rw [ne _ (by decide)]; exact X.cols, by rw [ne _ (by decide)]; exact X.carry, by rw [ne _ (by decide)]; exact X.paid, by rw [ne _ (by decide)]; exact X.lines, by rw [ne _ (by decide)]; exact X.byRows, fun j hj => by rw [ne _ (by decide)]; exact X.kind j hj, fun j hj => by
    rw [e0]
    show upq (clD T 2).i q (n2 v) j = n2 (upq H.price q v j)
    by_cases ej : j = q
    · rw [ej, upq_self, upq_self]
    · rw [upq_ne _ _ ej, upq_ne _ _ ej]; exact X.price j hj, fun j hj => by rw [ne _ (by decide)]; exact X.leaves j hj, fun k hk hl => by rw [ne _ (by decide)]; exact X.up0 k hk hl, fun k c o hk hl => by
    obtain ⟨q1, a, q2, q3⟩ := X.up k c o hk hl
    exact ⟨by rw [ne _ (by decide)]; exact q1, a, by rw [ne _ (by decide)]; exact q2, q3.ch C⟩, fun k hk hl => by rw [ne _ (by decide)]; exact X.down0 k hk hl, fun k c o hk hl => by
    obtain ⟨q1, a, q2, q3⟩ := X.down k c o hk hl
    exact ⟨by rw [ne _ (by decide)]; exact q1, a, by rw [ne _ (by decide)]; exact q2, q3.ch C⟩, X.mh.sPrice hq, ⟨X.ok.rows, X.ok.cols, X.ok.empty, X.ok.carry, X.ok.paid, X.ok.kind, fun j => by
    show upq H.price q v j ≤ 999
    by_cases ej : j = q
    · rw [ej, upq_self]; exact h1
    · rw [upq_ne _ _ ej]; exact X.ok.price j, X.ok.leaves, X.ok.dep⟩⟩
theorem HT.sLeaves (X : HT N T f H ln) (hq : q < 8) (h1 : v ≤ 600) : HT N (clS T 3 ((clD T 3).sI (q) (n2 v))) (upq f (78 + q) (n2 (v + 1))) (H.sLeaves q (v + 1)) (ln) := by
  have l := X.sh.len
  have C := X.sh.chg (i := 3) (by decide) ((clD T 3).sI (q) (n2 v))
  have e0 : clD (clS T 3 ((clD T 3).sI (q) (n2 v))) 3 = ((clD T 3).sI (q) (n2 v)) := clS_at T 3 _ (by omega)
  have ne : ∀ i, i ≠ 3 → clD (clS T 3 ((clD T 3).sI (q) (n2 v))) i = clD T i := fun i hi => clS_ne T 3 i _ hi
  exact ⟨X.sh.setI (by decide), by rw [ne _ (by decide)]; exact X.rows, by rw [ne _ (by decide)]; exact X.cols, by rw [ne _ (by decide)]; exact X.carry, by rw [ne _ (by decide)]; exact X.paid, by rw [ne _ (by decide)]; exact X.lines, by rw [ne _ (by decide)]; exact X.byRows, fun j hj => by rw [ne _ (by decide)]; exact X.kind j hj, fun j hj => by rw [ne _ (by decide)]; exact X.price j hj, fun j hj => by
    rw [e0]
    show upq (clD T 3).i q (n2 v) j = i2 ((upq H.leaves q (v + 1) j : Nat) - 1 : Int)
    by_cases ej : j = q
    · rw [ej, upq_self, upq_self, n2_i2]; congr 1; omega
    · rw [upq_ne _ _ ej, upq_ne _ _ ej]; exact X.leaves j hj, fun k hk hl => by rw [ne _ (by decide)]; exact X.up0 k hk hl, fun k c o hk hl => by
    obtain ⟨q1, a, q2, q3⟩ := X.up k c o hk hl
    exact ⟨by rw [ne _ (by decide)]; exact q1, a, by rw [ne _ (by decide)]; exact q2, q3.ch C⟩, fun k hk hl => by rw [ne _ (by decide)]; exact X.down0 k hk hl, fun k c o hk hl => by
    obtain ⟨q1, a, q2, q3⟩ := X.down k c o hk hl
    exact ⟨by rw [ne _ (by decide)]; exact q1, a, by rw [ne _ (by decide)]; exact q2, q3.ch C⟩, X.mh.sLeaves hq, ⟨X.ok.rows, X.ok.cols, X.ok.empty, X.ok.carry, X.ok.paid, X.ok.kind, X.ok.price, fun j => by
    show upq H.leaves q (v + 1) j ≤ 601
    by_cases ej : j = q
    · rw [ej, upq_self]; omega
    · rw [upq_ne _ _ ej]; exact X.ok.leaves j, X.ok.dep⟩⟩
end HTset2
