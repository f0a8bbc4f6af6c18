set_option linter.unusedVariables false
set_option linter.unusedSimpArgs false
set_option maxRecDepth 100000
/-! ===== tokens ===== -/
def isLtN (c : Nat) : Bool := decide (97 ≤ c ∧ c ≤ 122)
def isDgN (c : Nat) : Bool := decide (48 ≤ c ∧ c ≤ 57)
def isSgN (c : Nat) : Bool := decide (c = 59 ∨ c = 60 ∨ c = 61 ∨ c = 62 ∨ c = 40 ∨ c = 41)
theorem in_rng {c l u : Nat} (hc : c < 256) (hl : l < 256) (hu : u < 256) {α : Type} (A D : α) : (if n2 c < n2 l then D else if n2 u < n2 c then D else A) = if l ≤ c ∧ c ≤ u then A else D := by
  have e1 : (n2 c < n2 l) = (c < l) := n2_lt (by omega) (by omega)
  have e2 : (n2 u < n2 c) = (u < c) := n2_lt (by omega) (by omega)
  by_cases h1 : c < l
  · rw [if_pos (by rw [e1]; exact h1), if_neg (by omega)]
  · by_cases h2 : u < c
    · rw [if_neg (by rw [e1]; exact h1), if_pos (by rw [e2]; exact h2), if_neg (by omega)]
    · rw [if_neg (by rw [e1]; exact h1), if_neg (by rw [e2]; exact h2), if_pos (by omega)]
theorem X_isLt {c : Nat} (hc : c < 256) (st : Mem) : fX5_isLetter (n2 c) st = some (b2i (isLtN c), st) := by
  refine (in_rng (l := 97) (u := 122) hc (by decide) (by decide) _ _).trans ?_
  unfold isLtN
  by_cases h : 97 ≤ c ∧ c ≤ 122
  · rw [if_pos h, decide_eq_true h]; rfl
  · rw [if_neg h, decide_eq_false h]; rfl
theorem X_isDg {c : Nat} (hc : c < 256) (st : Mem) : fX5_isDigit (n2 c) st = some (b2i (isDgN c), st) := by
  refine (in_rng (l := 48) (u := 57) hc (by decide) (by decide) _ _).trans ?_
  unfold isDgN
  by_cases h : 48 ≤ c ∧ c ≤ 57
  · rw [if_pos h, decide_eq_true h]; rfl
  · rw [if_neg h, decide_eq_false h]; rfl
theorem M_isLt {c : Nat} (hc : c < 256) (st : Mem) : fX4_isSmall (n2 c) st = some (b2i (isLtN c), st) := by
  refine (in_rng (l := 97) (u := 122) hc (by decide) (by decide) _ _).trans ?_
  unfold isLtN
  by_cases h : 97 ≤ c ∧ c ≤ 122
  · rw [if_pos h, decide_eq_true h]; rfl
  · rw [if_neg h, decide_eq_false h]; rfl
theorem M_isDg {c : Nat} (hc : c < 256) (st : Mem) : fX4_isDigit (n2 c) st = some (b2i (isDgN c), st) := by
  refine (in_rng (l := 48) (u := 57) hc (by decide) (by decide) _ _).trans ?_
  unfold isDgN
  by_cases h : 48 ≤ c ∧ c ≤ 57
  · rw [if_pos h, decide_eq_true h]; rfl
  · rw [if_neg h, decide_eq_false h]; rfl
theorem M_m1 (st : Mem) : fX4_isSmall (-1) st = some (0, st) ∧ fX4_isDigit (-1) st = some (0, st) := ⟨rfl, rfl⟩
abbrev RdX (B : Mem) (c : Cl) (tp : Nat → Int32) (to most : Nat) : Prop := (131 ≤ mNx B) ∧ (rdT c.t = true) ∧ (c.i 125 = n2 to) ∧ (c.i 126 = n2 most) ∧ (c.a 124 = some 65) ∧ (∀ k, k < 940 → aB B (some 65) (n2 k) = some (tp k)) ∧ (to ≤ 940) ∧ (most ≤ 940) ∧ (∀ i (h : i < strB.length), StrAt B (2 * i) strB[i])
theorem RdX.hB {B : Mem} {c : Cl} {tp : Nat → Int32} {to most : Nat} (self : RdX B c tp to most) : 131 ≤ mNx B := self.1
theorem RdX.t {B : Mem} {c : Cl} {tp : Nat → Int32} {to most : Nat} (self : RdX B c tp to most) : rdT c.t = true := self.2.1
theorem RdX.i125 {B : Mem} {c : Cl} {tp : Nat → Int32} {to most : Nat} (self : RdX B c tp to most) : c.i 125 = n2 to := self.2.2.1
theorem RdX.i126 {B : Mem} {c : Cl} {tp : Nat → Int32} {to most : Nat} (self : RdX B c tp to most) : c.i 126 = n2 most := self.2.2.2.1
theorem RdX.a124 {B : Mem} {c : Cl} {tp : Nat → Int32} {to most : Nat} (self : RdX B c tp to most) : c.a 124 = some 65 := self.2.2.2.2.1
theorem RdX.tape {B : Mem} {c : Cl} {tp : Nat → Int32} {to most : Nat} (self : RdX B c tp to most) : ∀ k, k < 940 → aB B (some 65) (n2 k) = some (tp k) := self.2.2.2.2.2.1
theorem RdX.to_ {B : Mem} {c : Cl} {tp : Nat → Int32} {to most : Nat} (self : RdX B c tp to most) : to ≤ 940 := self.2.2.2.2.2.2.1
theorem RdX.ms {B : Mem} {c : Cl} {tp : Nat → Int32} {to most : Nat} (self : RdX B c tp to most) : most ≤ 940 := self.2.2.2.2.2.2.2.1
theorem RdX.str {B : Mem} {c : Cl} {tp : Nat → Int32} {to most : Nat} (self : RdX B c tp to most) : ∀ i (h : i < strB.length), StrAt B (2 * i) strB[i] := self.2.2.2.2.2.2.2.2
section Tok
variable {B b' : Mem} {c : Cl} {T : List Cl} {tp : Nat → Int32} {to most z n s p k : Nat} {m : MS} {r : MR}
theorem RdX.sI {f : Nat} {v : Int32} (R : RdX B c tp to most) (h1 : 125 ≠ f) (h2 : 126 ≠ f) : RdX B (c.sI f v) tp to most := ⟨R.hB, R.t, (show upq c.i f v 125 = c.i 125 from upq_ne _ _ h1).trans R.i125, (show upq c.i f v 126 = c.i 126 from upq_ne _ _ h2).trans R.i126, R.a124, R.tape, R.to_, R.ms, R.str⟩
theorem RdX.sA {v : Rf} (R : RdX B c tp to most) : RdX B (c.sA 132 v) tp to most := ⟨R.hB, R.t, R.i125, R.i126, (show upq c.a 132 v 124 = c.a 124 from upq_ne _ _ (by decide)).trans R.a124, R.tape, R.to_, R.ms, R.str⟩
theorem X_rb (R : RdX B c tp to most) (hk : k ≤ 940) : fX5_byteAt (some (mNx B)) (n2 k) (ovs B (c :: T) z) = some (n2 (if k < to then octN (tp k) else 0), ovs B (c :: T) z) := by
  have h940 := R.to_
  have h65 : 65 < mNx B := by have := R.hB; omega
  unfold fX5_byteAt
  rw [rd_get R.t rfl, Option.bind_some, R.i125]
  by_cases h : k < to
  · rw [if_neg (by rw [n2_le (by omega) (by omega)]; omega), if_pos h, rd_124 R.t, Option.bind_some, R.a124, oo_aB h65, R.tape k (by omega), Option.bind_some, oct_eq]
  · rw [if_pos (by rw [n2_le (by omega) (by omega)]; omega), if_neg h]; rfl
theorem M_pk (h940 : to ≤ 940) (hz : r.size = n2 to) (hp : r.p = n2 p) (hp9 : p ≤ 940) : fX4_peek (some 106) (mkM b' n s (m.sR r)) = some (if p < to then n2 (octN (m.tape p)) else -1, mkM b' n s (m.sR r)) := by
  unfold fX4_peek
  rw [gM_59, Option.bind_some, gM_58, Option.bind_some, sR_r, hz, hp]
  by_cases h : p < to
  · rw [if_neg (by rw [n2_le (by omega) (by omega)]; omega), if_pos h, gM_56, Option.bind_some, Option.bind_some, aM_107, ifx_k (show p < 940 by omega) (by omega), Option.bind_some, n2_nat (by omega), oct_eq]; rfl
  · rw [if_pos (by rw [n2_le (by omega) (by omega)]; omega), if_neg h]
theorem sP_size {v : Int32} : (r.sP v).size = r.size := rfl
theorem sP_p {v : Int32} : (r.sP v).p = v := rfl
theorem sP_sP {v w : Int32} : (r.sP v).sP w = r.sP w := by simp -implicitDefEqProofs only [MR.sP, mk_MR_size, mk_MR_p, mk_MR_limit, mk_MR_token, mk_MR_place, mk_MR_span, mk_MR_number, mk_MR_fault, mk_MR_faultAt, mk_MR_word, mk_MR_got]
/-- blanks -/
theorem L_sp (R : RdX B c tp to most) (hm : m.tape = tp) (hz : r.size = n2 to) : ∀ (k F F' p : Nat), p + k = to → k < F → k < F' →
    ∃ q, p ≤ q ∧ q ≤ to ∧ (q < to → octN (tp q) ≠ 32 ∧ octN (tp q) ≠ 10) ∧ bX5_go_0 F (some (mNx B)) (ovs B (c.sI 127 (n2 p) :: T) z) = bX5_go_50 (some (mNx B)) (ovs B (c.sI 127 (n2 q) :: T) z) ∧ bX4_next_0 F' (some 106) (mkM b' n s (m.sR (r.sP (n2 p)))) = bX4_next_0 1 (some 106) (mkM b' n s (m.sR (r.sP (n2 q)))) := by
  have h940 := R.to_
  have hB : 64 ≤ mNx B := by have := R.hB; omega
  have g127 : ∀ q, (c.sI 127 (n2 q)).i 127 = n2 q := fun q => upq_self c.i 127 (n2 q)
  have G127 : ∀ q, gI (ovs B (c.sI 127 (n2 q) :: T) z) (some (mNx B)) 127 = some (n2 q) := fun q => (rd_get (c := c.sI 127 (n2 q)) R.t rfl).trans (congrArg some (g127 q))
  have G125 : ∀ q, gI (ovs B (c.sI 127 (n2 q) :: T) z) (some (mNx B)) 125 = some (n2 to) := fun q => (rd_get (c := c.sI 127 (n2 q)) R.t rfl).trans (congrArg some ((show upq c.i 127 (n2 q) 125 = c.i 125 from upq_ne _ _ (by decide)).trans R.i125))
  have IV : ∀ {α : Type} (q : Nat) (w : Option α), iv (ovs B (c.sI 127 (n2 q) :: T) z) (some (mNx B)) [5, 13] w = w := fun q w => rd_iv (c := c.sI 127 (n2 q)) R.t rfl
  have Rq : ∀ q, RdX B (c.sI 127 (n2 q)) tp to most := fun q => R.sI (by decide) (by decide)
  -- where it stops
  have stop : ∀ (F F' q : Nat), q ≤ to → (q < to → octN (tp q) ≠ 32 ∧ octN (tp q) ≠ 10) → bX5_go_0 (F + 1) (some (mNx B)) (ovs B (c.sI 127 (n2 q) :: T) z) = bX5_go_50 (some (mNx B)) (ovs B (c.sI 127 (n2 q) :: T) z) ∧ bX4_next_0 (F' + 1) (some 106) (mkM b' n s (m.sR (r.sP (n2 q)))) = bX4_next_0 1 (some 106) (mkM b' n s (m.sR (r.sP (n2 q)))) := by
    intro F F' q hq hn
    have pk := M_pk (b' := b') (n := n) (s := s) (m := m) (r := r.sP (n2 q)) (p := q) h940 hz rfl (by omega)
    rw [hm] at pk
    constructor
    · show bX5_go_0B _ _ _ = _
      unfold bX5_go_0B
      by_cases h : q < to
      · obtain ⟨n1, n2'⟩ := hn h
        have ol := oct_lt (tp q)
        have le : (n2 to ≤ n2 q) = False := by rw [n2_le (by omega) (by omega)]; exact eq_false (by omega)
        have e32 : (n2 (octN (tp q)) = (32 : Int32)) = False := by rw [li_32, n2_eq (by omega) (by omega)]; exact eq_false n1
        have e10 : (n2 (octN (tp q)) = (10 : Int32)) = False := by rw [li_10, n2_eq (by omega) (by omega)]; exact eq_false n2'
        simp -implicitDefEqProofs only [Option.bind_some, bd_some, b2i_0, Bool.true_eq_false, Bool.false_eq_true, eq_self, if_true, if_false, not_true_eq_false, not_false_eq_true, G127, G125, le, IV, X_rb (Rq q) (show q ≤ 940 by omega), h, e32, e10]
      · have le : (n2 to ≤ n2 q) = True := by rw [n2_le (by omega) (by omega)]; exact eq_true (by omega)
        simp -implicitDefEqProofs only [Option.bind_some, bd_some, b2i_0, Bool.true_eq_false, Bool.false_eq_true, eq_self, if_true, if_false, not_true_eq_false, not_false_eq_true, G127, G125, le]
    · have e : ∀ kk, bX4_next_0B kk (some 106) (mkM b' n s (m.sR (r.sP (n2 q)))) = bX4_next_0B (bX4_next_0 0) (some 106) (mkM b' n s (m.sR (r.sP (n2 q)))) := by
        intro kk
        unfold bX4_next_0B
        rw [ivM, pk, bd_some, bd_some]
        by_cases h : q < to
        · obtain ⟨n1, n2'⟩ := hn h
          have ol := oct_lt (tp q)
          rw [if_pos h, if_neg (by rw [li_32, n2_eq (by omega) (by omega)]; exact n1), if_neg (by rw [li_32, n2_eq (by omega) (by omega)]; exact n1), ivM, pk, bd_some, bd_some, if_pos h, if_pos (by rw [li_10, n2_eq (by omega) (by omega)]; exact n2'), if_pos (by rw [li_10, n2_eq (by omega) (by omega)]; exact n2')]
        · rw [if_neg h, if_neg (by decide), if_neg (by decide), ivM, pk, bd_some, bd_some, if_neg h, if_pos (by decide), if_pos (by decide)]
      exact e _
  intro k
  induction k with
  | zero =>
    intro F F' p hk hF hF'
    obtain ⟨F, rfl⟩ : ∃ g, F = g + 1 := ⟨F - 1, by omega⟩
    obtain ⟨F', rfl⟩ : ∃ g, F' = g + 1 := ⟨F' - 1, by omega⟩
    obtain ⟨e1, e2⟩ := stop F F' p (by omega) (fun h => by omega)
    exact ⟨p, Nat.le_refl _, by omega, fun h => by omega, e1, e2⟩
  | succ k ih =>
    intro F F' p hk hF hF'
    obtain ⟨F, rfl⟩ : ∃ g, F = g + 1 := ⟨F - 1, by omega⟩
    obtain ⟨F', rfl⟩ : ∃ g, F' = g + 1 := ⟨F' - 1, by omega⟩
    have h : p < to := by omega
    have ol := oct_lt (tp p)
    by_cases hs : octN (tp p) ≠ 32 ∧ octN (tp p) ≠ 10
    · obtain ⟨e1, e2⟩ := stop F F' p (by omega) (fun _ => hs)
      exact ⟨p, Nat.le_refl _, by omega, fun _ => hs, e1, e2⟩
    · obtain ⟨q, q1, q2, q3, q4, q5⟩ := ih F F' (p + 1) (by omega) (by omega) (by omega)
      have pk := M_pk (b' := b') (n := n) (s := s) (m := m) (r := r.sP (n2 p)) (p := p) h940 hz rfl (by omega)
      rw [hm, if_pos h] at pk
      refine ⟨q, by omega, q2, q3, ?_, ?_⟩
      · rw [← q4]
        have step : bX5_go_37 (bX5_go_0 F) (some (mNx B)) (ovs B (c.sI 127 (n2 p) :: T) z) = bX5_go_0 F (some (mNx B)) (ovs B (c.sI 127 (n2 (p + 1)) :: T) z) := by
          unfold bX5_go_37
          rw [G127, Option.bind_some, rd_put hB (Rq p).t rfl, Option.bind_some, sI_sI, show n2 p + (1 : Int32) = n2 (p + 1) from n2_add p 1]
        show bX5_go_0B (bX5_go_0 F) _ _ = _
        unfold bX5_go_0B
        have le : (n2 to ≤ n2 p) = False := by rw [n2_le (by omega) (by omega)]; exact eq_false (by omega)
        by_cases h32 : octN (tp p) = 32
        · simp -implicitDefEqProofs only [Option.bind_some, bd_some, b2i_0, Bool.true_eq_false, Bool.false_eq_true, eq_self, if_true, if_false, not_true_eq_false, not_false_eq_true, G127, G125, le, IV, X_rb (Rq p) (show p ≤ 940 by omega), h, h32, show (n2 32 = (32 : Int32)) = True from eq_true rfl]
          exact step
        · have h10 : octN (tp p) = 10 := by
            by_cases h10 : octN (tp p) = 10
            · exact h10
            · exact absurd ⟨h32, h10⟩ hs
          simp -implicitDefEqProofs only [Option.bind_some, bd_some, b2i_0, Bool.true_eq_false, Bool.false_eq_true, eq_self, if_true, if_false, not_true_eq_false, not_false_eq_true, G127, G125, le, IV, X_rb (Rq p) (show p ≤ 940 by omega), h, h10, show (n2 10 = (32 : Int32)) = False from eq_false (by decide), show (n2 10 = (10 : Int32)) = True from eq_true rfl]
          exact step
      · rw [← q5]
        have step : bX4_next_18 (bX4_next_0 F') (some 106) (mkM b' n s (m.sR (r.sP (n2 p)))) = bX4_next_0 F' (some 106) (mkM b' n s (m.sR (r.sP (n2 (p + 1))))) := by
          unfold bX4_next_18
          rw [gM_59, Option.bind_some, sR_r, sP_p, pR_58, Option.bind_some, sP_sP, show n2 p + (1 : Int32) = n2 (p + 1) from n2_add p 1]
        show bX4_next_0B (bX4_next_0 F') _ _ = _
        unfold bX4_next_0B
        rw [ivM, pk, bd_some]
        by_cases h32 : octN (tp p) = 32
        · rw [if_pos (by rw [h32]; rfl)]; exact step
        · have h10 : octN (tp p) = 10 := by
            by_cases h10 : octN (tp p) = 10
            · exact h10
            · exact absurd ⟨h32, h10⟩ hs
          rw [if_neg (by rw [li_32, n2_eq (by omega) (by omega)]; exact h32), ivM, pk, bd_some, if_neg (fun hh => hh (by rw [h10]; rfl))]
          exact step
end Tok
