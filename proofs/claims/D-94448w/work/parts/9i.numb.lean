set_option linter.unusedVariables false
set_option linter.unusedSimpArgs false
set_option maxRecDepth 100000
/-! ===== numbers and ends of lines, in both ===== -/
/-- what is still to be read: falls with every token -/
def nu (c : Cl) (to p : Nat) : Nat := 2 * (to - p) + (if c.i 128 = 0 ∨ c.i 128 = 5 then 0 else 1)
theorem nu_lt {c d : Cl} {to p q : Nat} (h : d.i 128 = 0 ∨ d.i 128 = 5 ∨ p < q) (hq : p ≤ q) (hto : q ≤ to) (hv : ¬ (c.i 128 = 0 ∨ c.i 128 = 5)) : nu d to q < nu c to p := by
  unfold nu
  rw [if_neg hv]
  by_cases e : d.i 128 = 0 ∨ d.i 128 = 5
  · rw [if_pos e]; omega
  · rw [if_neg e]
    have : p < q := by
      rcases h with h | h | h
      · exact absurd (Or.inl h) e
      · exact absurd (Or.inr h) e
      · exact h
    omega
/-- room: two cells and eight slots are free for every token that is yet to come -/
def Bg (A Z : Nat) (T : List Cl) (z v p : Nat) : Prop := T.length + 2 * v ≤ A + 4 * p ∧ z + 8 * v ≤ Z + 32 * p
/-- a fault in both -/
def Bad {α : Type} (B : Mem) (m : MS) (A Z to : Nat) (b' : Mem) (n s : Nat) (rx : Option ((α ⊕ Nat) × Mem)) (rm : Option (Int32 × Mem)) : Prop :=
  ∃ e c' T' z' r' h', rx = some (.inr (mNx B + (1 + e)), ovs B (c' :: T') z') ∧ rm = some (0, mkM b' n s ((m.sR r').sH2 h')) ∧ e < T'.length ∧ (clD T' e).t = 6 ∧ (clD T' e).i 139 = r'.fault ∧ (clD T' e).i 140 = r'.faultAt ∧ T'.length ≤ A + 4 * to + 1 ∧ z' ≤ Z + 32 * to + 8
section Numb
variable {B b' : Mem} {c : Cl} {T : List Cl} {tp : Nat → Int32} {to most z n s p A Z : Nat} {m : MS} {α : Type}
theorem sH2_self (m : MS) : m.sH2 m.h = m := by unfold MS.sH2; rw [MS_eta m]
theorem sH2_h (m : MS) (r : MR) : (m.sR r).sH2 m.h = m.sR r := by
  have : (m.sR r).h = m.h := rfl
  rw [← this, sH2_self]
theorem Bad.sR {r : MR} {rx : Option ((α ⊕ Nat) × Mem)} {rm : Option (Int32 × Mem)} (h : Bad B (m.sR r) A Z to b' n s rx rm) : Bad B m A Z to b' n s rx rm := by
  obtain ⟨e, c', T', z', r', h', h1, h2, h3⟩ := h
  rw [sR_sR] at h2
  exact ⟨e, c', T', z', r', h', h1, h2, h3⟩
theorem bt_inr {β γ : Type} (e : Nat) (st : Mem) (f : β → Mem → Option ((γ ⊕ Nat) × Mem)) : bt (some (.inr e, st)) f = some (.inr e, st) := rfl
theorem bt_inl {β γ : Type} (v : β) (st : Mem) (f : β → Mem → Option ((γ ⊕ Nat) × Mem)) : bt (some (.inl v, st)) f = f v st := rfl
theorem D_bad (S : RsR B c T m tp to most p) (g : Bg A Z T z (nu c to p) p) {a1 a2 : Int32} (h1 : c.i 128 = 1 ∨ c.i 128 = 5 → a1 = 1) (h2 : ¬ (c.i 128 = 1 ∨ c.i 128 = 5) → a1 = a2) :
    Bad (α := α) B m A Z to b' n s (some (.inr (mNx B + (1 + T.length)), ovs B (c :: (T ++ [fcC (if c.i 128 = 1 ∨ c.i 128 = 5 then 1 else a2) (c.i 129)])) (z + 8))) (some (0, mkM b' n s (m.sR (m.r.sF a1 m.r.place)))) := by
  have hle := S.le
  obtain ⟨g1, g2⟩ := g
  have e1 : (if c.i 128 = 1 ∨ c.i 128 = 5 then 1 else a2) = a1 := by
    by_cases h : c.i 128 = 1 ∨ c.i 128 = 5
    · rw [if_pos h, h1 h]
    · rw [if_neg h, h2 h]
  have at_ : clD (T ++ [fcC a1 (c.i 129)]) T.length = fcC a1 (c.i 129) := clD_last _ _
  rw [e1]
  refine ⟨T.length, c, _, _, m.r.sF a1 m.r.place, m.h, rfl, by rw [sH2_h], ?_, ?_, ?_, ?_, ?_, ?_⟩
  · rw [List.length_append]; simp -implicitDefEqProofs only [List.length_cons, List.length_nil]; omega
  · rw [at_]; rfl
  · rw [at_]; rfl
  · rw [at_]; exact S.K.pl
  · rw [List.length_append]; simp -implicitDefEqProofs only [List.length_cons, List.length_nil]; omega
  · omega
theorem Bg.go {T' : List Cl} {z' q v v' : Nat} (g : Bg A Z T z v p) (h1 : T'.length + 4 * p ≤ T.length + 4 * q) (h2 : z' + 32 * p ≤ z + 32 * q) (hv : v' ≤ v) : Bg A Z T' z' v' q := by
  obtain ⟨g1, g2⟩ := g
  exact ⟨by omega, by omega⟩
/-- what a step that goes well comes to -/
def Good {α : Type} (B : Mem) (c : Cl) (T : List Cl) (m : MS) (tp : Nat → Int32) (to most p A Z : Nat) (b' : Mem) (n s : Nat) (P : α → MR → Prop) (rx : Option ((α ⊕ Nat) × Mem)) (rm : Option (Int32 × Mem)) : Prop :=
  ∃ v c' T' z' r' q R, rx = some (.inl v, ovs B (c' :: T') z') ∧ rm = some (1, mkM b' n s (m.sR r')) ∧ RsR B c' T' (m.sR r') tp to most q ∧ Kp c c' ∧ T' = T ++ R ∧ p ≤ q ∧ nu c' to q < nu c to p ∧ Bg A Z T' z' (nu c' to q + 1) q ∧ P v r'
theorem D_number {lo hi : Int32} (S : RsR B c T m tp to most p) (g : Bg A Z T z (nu c to p) p) :
    Good B c T m tp to most p A Z b' n s (fun v r' => r'.got = v ∧ lo ≤ v ∧ v ≤ hi) (fX5_number (some (mNx B)) lo hi (ovs B (c :: T) z)) (fX4_takes (some 106) lo hi (mkM b' n s m)) ∨
    Bad B m A Z to b' n s (fX5_number (some (mNx B)) lo hi (ovs B (c :: T) z)) (fX4_takes (some 106) lo hi (mkM b' n s m)) := by
  have R := S.R
  have G128 : gI (ovs B (c :: T) z) (some (mNx B)) 128 = some (c.i 128) := rd_get R.t rfl
  have G130 : gI (ovs B (c :: T) z) (some (mNx B)) 130 = some (c.i 130) := rd_get R.t rfl
  have IV : ∀ {α : Type} (o : Option α), iv (ovs B (c :: T) z) (some (mNx B)) [13, 5] o = o := fun o => rd_iv R.t rfl
  have nz0 : nz (0 : Int32) = 0 := by decide
  have no : ∀ x t : Int32, c.i 128 = x → m.r.token = t → (x = 3) = False → (t = 2) = False → Bad B m A Z to b' n s (fX5_number (some (mNx B)) lo hi (ovs B (c :: T) z)) (fX4_takes (some 106) lo hi (mkM b' n s m)) := by
    intro x t h1 h2 h3 h4
    have D := D_bad (α := Int32) (b' := b') (n := n) (s := s) (a1 := 1) (a2 := 1) S g (fun _ => rfl) (fun _ => rfl)
    have ex : fX5_number (some (mNx B)) lo hi (ovs B (c :: T) z) = some (.inr (mNx B + (1 + T.length)), ovs B (c :: (T ++ [fcC (if c.i 128 = 1 ∨ c.i 128 = 5 then 1 else 1) (c.i 129)])) (z + 8)) := by
      unfold fX5_number fX5_hold bX5_hold_14
      have nd := X_need0' (T := T) (z := z) R 1
      simp -implicitDefEqProofs only [Option.bind_some, bd_some, b2i_0, Bool.true_eq_false, Bool.false_eq_true, eq_self, if_true, if_false, not_true_eq_false, not_false_eq_true, IV, G128, h1, h3, bt_inr, bt_inl] at nd ⊢
      rw [nd]; rfl
    have em : fX4_takes (some 106) lo hi (mkM b' n s m) = some (0, mkM b' n s (m.sR (m.r.sF 1 m.r.place))) := by
      unfold fX4_takes
      simp -implicitDefEqProofs only [Option.bind_some, bd_some, b2i_0, Bool.true_eq_false, Bool.false_eq_true, eq_self, if_true, if_false, not_true_eq_false, not_false_eq_true, gM_64, h2, h4, ivM, M_bad, nz0]
    rw [ex, em]; exact D
  rcases S.K.kd with ⟨h1, h2⟩ | ⟨h1 | h1, h2⟩ | ⟨h1, h2, -⟩ | ⟨h1, h2, h3⟩ | ⟨h1, h2, -⟩
  · exact Or.inr (no 0 0 h1 h2 (eq_false (by decide)) (eq_false (by decide)))
  · exact Or.inr (no 1 4 h1 h2 (eq_false (by decide)) (eq_false (by decide)))
  · exact Or.inr (no 5 4 h1 h2 (eq_false (by decide)) (eq_false (by decide)))
  · exact Or.inr (no 2 1 h1 h2 (eq_false (by decide)) (eq_false (by decide)))
  · rcases Bool.eq_false_or_eq_true (decide (lo ≤ m.r.number ∧ m.r.number ≤ hi)) with e | e
    · -- a number within
      refine Or.inl ?_
      have hr := of_decide_eq_true e
      have S' : RsR B c T (m.sR (m.r.sG m.r.number)) tp to most p := ⟨S.R, S.K, S.tape, S.size, S.limit, S.le, S.xp, S.mp, S.nf⟩
      obtain ⟨c', T', z', r', q, Rl, i1, i2, i3, i4, i5, i6, i7, i8, i9, i10, i11⟩ := S'.go (b' := b') (n := n) (s := s) (z := z)
      rw [sR_sR] at i2 i3
      have pq := nu_lt (c := c) i8 i7 i3.le (by rw [h1]; decide)
      refine ⟨m.r.number, c', T', z', r', q, Rl, ?_, ?_, i3, i4, i6, i7, pq, g.go i9 i10 (by omega), ?_⟩
      · unfold fX5_number fX5_hold bX5_hold_14
        simp -implicitDefEqProofs only [Option.bind_some, bd_some, b2i_0, Bool.true_eq_false, Bool.false_eq_true, eq_self, if_true, if_false, not_true_eq_false, not_false_eq_true, IV, G128, h1, G130, h3, X_need1', bt_inl, X_isIn, e, i1, show b2i true = (1 : Int32) from rfl]
      · unfold fX4_takes
        have pg : pI (mkM b' n s m) (some 106) 73 m.r.number = some (mkM b' n s (m.sR (m.r.sG m.r.number))) := by
          have := pR_73 (b' := b') (n := n) (s := s) (m := m) (r := m.r) (v := m.r.number)
          rw [sR_self] at this; exact this
        simp -implicitDefEqProofs only [Option.bind_some, bd_some, b2i_0, Bool.true_eq_false, Bool.false_eq_true, eq_self, if_true, if_false, not_true_eq_false, not_false_eq_true, gM_64, h2, gM_67, M_isIn, e, pg, ivM, i2]
      · exact ⟨i5.2.2.2.2, hr.1, hr.2⟩
    · refine Or.inr ?_
      have nv : ¬ (c.i 128 = 1 ∨ c.i 128 = 5) := by rw [h1]; decide
      have D := D_bad (α := Int32) (b' := b') (n := n) (s := s) (a1 := 2) (a2 := 2) S g (fun h => absurd h nv) (fun _ => rfl)
      have nd := X_need0' (T := T) (z := z) R 2
      have ex : fX5_number (some (mNx B)) lo hi (ovs B (c :: T) z) = some (.inr (mNx B + (1 + T.length)), ovs B (c :: (T ++ [fcC (if c.i 128 = 1 ∨ c.i 128 = 5 then 1 else 2) (c.i 129)])) (z + 8)) := by
        unfold fX5_number fX5_hold bX5_hold_14
        rw [if_neg nv] at nd ⊢
        simp -implicitDefEqProofs only [Option.bind_some, bd_some, b2i_0, Bool.true_eq_false, Bool.false_eq_true, eq_self, if_true, if_false, not_true_eq_false, not_false_eq_true, IV, G128, h1, G130, h3, X_need1', bt_inl, X_isIn, e, show b2i false = (0 : Int32) from rfl, nd, bt_inr]
      have em : fX4_takes (some 106) lo hi (mkM b' n s m) = some (0, mkM b' n s (m.sR (m.r.sF 2 m.r.place))) := by
        unfold fX4_takes
        simp -implicitDefEqProofs only [Option.bind_some, bd_some, b2i_0, Bool.true_eq_false, Bool.false_eq_true, eq_self, if_true, if_false, not_true_eq_false, not_false_eq_true, gM_64, h2, gM_67, M_isIn, e, ivM, M_bad, nz0]
      rw [ex, em]; exact D
  · exact Or.inr (no 4 3 h1 h2 (eq_false (by decide)) (eq_false (by decide)))
theorem D_end (S : RsR B c T m tp to most p) (g : Bg A Z T z (nu c to p) p) :
    Good B c T m tp to most p A Z b' n s (fun _ r' => Kr m.r r') (fX5_end (some (mNx B)) (ovs B (c :: T) z)) (fX4_sign (some 106) 59 (mkM b' n s m)) ∨
    Bad B m A Z to b' n s (fX5_end (some (mNx B)) (ovs B (c :: T) z)) (fX4_sign (some 106) 59 (mkM b' n s m)) := by
  have R := S.R
  have nz0 : nz (0 : Int32) = 0 := by decide
  obtain ⟨v, IV, e1, e2, hv⟩ := D_isSign (b' := b') (n := n) (s := s) (z := z) R S.K 59
  cases v
  · refine Or.inr ?_
    have D := D_bad (α := Unit) (b' := b') (n := n) (s := s) (a1 := 1) (a2 := 1) S g (fun _ => rfl) (fun _ => rfl)
    have nd := X_need0' (T := T) (z := z) R 1
    have ex : fX5_end (some (mNx B)) (ovs B (c :: T) z) = some (.inr (mNx B + (1 + T.length)), ovs B (c :: (T ++ [fcC (if c.i 128 = 1 ∨ c.i 128 = 5 then 1 else 1) (c.i 129)])) (z + 8)) := by
      unfold fX5_end
      rw [IV, e1, bd_some, IV, show b2i false = (0 : Int32) from rfl, nd, bt_inr]
    have em : fX4_sign (some 106) 59 (mkM b' n s m) = some (0, mkM b' n s (m.sR (m.r.sF 1 m.r.place))) := by
      unfold fX4_sign
      simp -implicitDefEqProofs only [Option.bind_some, bd_some, b2i_0, Bool.true_eq_false, Bool.false_eq_true, eq_self, if_true, if_false, not_true_eq_false, not_false_eq_true, ivM, e2, M_bad, nz0]
    rw [ex, em]; exact D
  · refine Or.inl ?_
    obtain ⟨h1, h2⟩ := hv rfl
    obtain ⟨c', T', z', r', q, Rl, i1, i2, i3, i4, i5, i6, i7, i8, i9, i10, i11⟩ := S.go (b' := b') (n := n) (s := s) (z := z)
    have pq := nu_lt (c := c) i8 i7 i3.le (by rw [h1]; decide)
    refine ⟨(), c', T', z', r', q, Rl, ?_, ?_, i3, i4, i6, i7, pq, g.go i9 i10 (by omega), i5⟩
    · unfold fX5_end
      rw [IV, e1, bd_some, IV, show b2i true = (1 : Int32) from rfl, X_need1', bt_inl, IV, i1, bd_some]
    · unfold fX4_sign
      simp -implicitDefEqProofs only [Option.bind_some, bd_some, b2i_0, Bool.true_eq_false, Bool.false_eq_true, eq_self, if_true, if_false, not_true_eq_false, not_false_eq_true, ivM, e2, i2]
end Numb
