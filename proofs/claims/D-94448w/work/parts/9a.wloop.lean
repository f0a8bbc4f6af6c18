set_option linter.unusedVariables false
set_option linter.unusedSimpArgs false
set_option maxRecDepth 100000
/-! ===== the word loop, both at once ===== -/
abbrev WI (ch : Nat → Nat) (vb : Bool) (k : Nat) (w : Int64) (g : Nat → Int32) (fl : Int32) : Prop := (∀ i, i < k → isLtN (ch i) = true ∨ isDgN (ch i) = true) ∧ (∀ i, i < k → i < 8 → g i = n2 (ch i)) ∧ (w = pkW ch (min k 8)) ∧ (fl = 0 ∨ (fl = 1 ∧ ∀ i, i < k → isLtN (ch i) = vb))
theorem WI.hch {ch : Nat → Nat} {vb : Bool} {k : Nat} {w : Int64} {g : Nat → Int32} {fl : Int32} (self : WI ch vb k w g fl) : ∀ i, i < k → isLtN (ch i) = true ∨ isDgN (ch i) = true := self.1
theorem WI.hg {ch : Nat → Nat} {vb : Bool} {k : Nat} {w : Int64} {g : Nat → Int32} {fl : Int32} (self : WI ch vb k w g fl) : ∀ i, i < k → i < 8 → g i = n2 (ch i) := self.2.1
theorem WI.hw {ch : Nat → Nat} {vb : Bool} {k : Nat} {w : Int64} {g : Nat → Int32} {fl : Int32} (self : WI ch vb k w g fl) : w = pkW ch (min k 8) := self.2.2.1
theorem WI.hfl {ch : Nat → Nat} {vb : Bool} {k : Nat} {w : Int64} {g : Nat → Int32} {fl : Int32} (self : WI ch vb k w g fl) : fl = 0 ∨ (fl = 1 ∧ ∀ i, i < k → isLtN (ch i) = vb) := self.2.2.2
theorem ld_lt {c : Nat} (h : isLtN c = true ∨ isDgN c = true) : c < 128 := by
  unfold isLtN isDgN at h
  simp -implicitDefEqProofs only [decide_eq_true_eq] at h
  omega
/-- the state of the loop in HouseClaps -/
def wSt (B : Mem) (c : Cl) (T : List Cl) (z : Nat) (num : Int32) (q k : Nat) (g : Nat → Int32) : Mem := ovs B (c.wq num q :: (T ++ [sbC (mNx B + (T.length + 1 + 1)) (min k 8), byC g])) z
def flN (fl : Int32) (vb : Bool) (c : Nat) : Int32 := if fl = 0 then 0 else if isLtN c = vb then 1 else 0
def gN (g : Nat → Int32) (k c : Nat) : Nat → Int32 := if k < 8 then upq g k (n2 c) else g
def nmN (num : Int32) (k c : Nat) : Int32 := if k < 3 then (10 : Int32) * num + n2 c - 48 else num
def wdN (w : Int64) (k c : Nat) : Int64 := if k < 8 then shlL w (8 : Int32) ||| (n2 c).toInt64 else w
theorem WI.step {ch : Nat → Nat} {vb : Bool} {k : Nat} {w : Int64} {g : Nat → Int32} {fl : Int32} (W : WI ch vb k w g fl) (h : isLtN (ch k) = true ∨ isDgN (ch k) = true) : WI ch vb (k + 1) (wdN w k (ch k)) (gN g k (ch k)) (flN fl vb (ch k)) := by
  refine ⟨fun i hi => ?_, fun i hi h8 => ?_, ?_, ?_⟩
  · by_cases e : i = k
    · rw [e]; exact h
    · exact W.hch i (by omega)
  · unfold gN
    by_cases e : i = k
    · rw [if_pos (by omega), e, upq_self]
    · by_cases hk : k < 8
      · rw [if_pos hk, upq_ne _ _ e]; exact W.hg i (by omega) h8
      · rw [if_neg hk]; exact W.hg i (by omega) h8
  · unfold wdN
    by_cases hk : k < 8
    · rw [if_pos hk, show min (k + 1) 8 = k + 1 by omega, W.hw, show min k 8 = k by omega]; rfl
    · rw [if_neg hk, show min (k + 1) 8 = 8 by omega, W.hw, show min k 8 = 8 by omega]
  · unfold flN
    rcases W.hfl with e | ⟨e, hl⟩
    · rw [if_pos e]; exact Or.inl rfl
    · rw [if_neg (by rw [e]; decide)]
      by_cases hv : isLtN (ch k) = vb
      · rw [if_pos hv]
        refine Or.inr ⟨rfl, fun i hi => ?_⟩
        by_cases ei : i = k
        · rw [ei]; exact hv
        · exact hl i (by omega)
      · rw [if_neg hv]; exact Or.inl rfl
/-- the number so far, if all are digits -/
def NI (ch : Nat → Nat) (k : Nat) (num : Int32) : Prop := (∀ i, i < k → isDgN (ch i) = true) → ∃ v, v < 10 ^ min k 3 ∧ num = n2 v
theorem NI.step {ch : Nat → Nat} {k : Nat} {num : Int32} (h : NI ch k num) : NI ch (k + 1) (nmN num k (ch k)) := by
  intro hd
  obtain ⟨v, h1, h2⟩ := h (fun i hi => hd i (by omega))
  have hk := hd k (by omega)
  unfold isDgN at hk
  have hk' := of_decide_eq_true hk
  unfold nmN
  by_cases h3 : k < 3
  · refine ⟨10 * v + (ch k - 48), ?_, ?_⟩
    · rcases (show k = 0 ∨ k = 1 ∨ k = 2 by omega) with rfl | rfl | rfl
      · have : v < 1 := h1
        show _ < 10
        omega
      · have : v < 10 := h1
        show _ < 100
        omega
      · have : v < 100 := h1
        show _ < 1000
        omega
    · have hv : v < 1000 := by
        rcases (show k = 0 ∨ k = 1 ∨ k = 2 by omega) with rfl | rfl | rfl
        · have : v < 1 := h1
          omega
        · have : v < 10 := h1
          omega
        · have : v < 100 := h1
          omega
      rw [if_pos h3, h2, li_10, n2_mul, n2_add, li_48, n2_sub (by omega), show 10 * v + ch k - 48 = 10 * v + (ch k - 48) by omega]
  · rw [if_neg h3]
    exact ⟨v, by rw [show min (k + 1) 3 = min k 3 by omega]; exact h1, h2⟩
theorem b2i_eq (a b : Bool) : (b2i a = b2i b) = (a = b) := by cases a <;> cases b <;> decide
section WLoop
variable {B b' : Mem} {c : Cl} {T : List Cl} {tp : Nat → Int32} {to most z n s p k : Nat} {m : MS} {r : MR} {vb : Bool} {g : Nat → Int32} {num fl : Int32} {w : Int64}
theorem X_wstep {kk : Rf → Int32 → Int32 → Rf → Mem → Option (Unit × Mem)} (R : RdX B c tp to most) (h129 : c.i 129 = n2 p) (hq : p + k < to) (hfl : fl = 0 ∨ fl = 1) (h : isLtN (octN (tp (p + k))) = true ∨ isDgN (octN (tp (p + k))) = true) :
    bX5_go_189B kk (some (mNx B)) (b2i vb) fl (some (mNx B + (T.length + 1 + 0))) (wSt B c T z num (p + k) k g) = kk (some (mNx B)) (b2i vb) (flN fl vb (octN (tp (p + k)))) (some (mNx B + (T.length + 1 + 0))) (wSt B c T z (nmN num k (octN (tp (p + k)))) (p + k + 1) (k + 1) (gN g k (octN (tp (p + k))))) := by
  have h940 := R.to_
  have hB : 64 ≤ mNx B := by have := R.hB; omega
  have ol := oct_lt (tp (p + k))
  have c128 := ld_lt h
  have e8 : n2 (p + k) - n2 p = n2 k := by rw [n2_sub (by omega), Nat.add_sub_cancel_left]
  have G127 : ∀ (T' : List Cl) (z : Nat) (num : Int32), gI (ovs B (c.wq num (p + k) :: T') z) (some (mNx B)) 127 = some (n2 (p + k)) := fun T' z num => (rd_get (c := c.wq num (p + k)) R.t rfl).trans (congrArg some wq_i127)
  have G129 : ∀ (T' : List Cl) (z : Nat) (num : Int32), gI (ovs B (c.wq num (p + k) :: T') z) (some (mNx B)) 129 = some (n2 p) := fun T' z num => (rd_get (c := c.wq num (p + k)) R.t rfl).trans (congrArg some (wq_i129.trans h129))
  have G130 : ∀ (T' : List Cl) (z : Nat) (num : Int32), gI (ovs B (c.wq num (p + k) :: T') z) (some (mNx B)) 130 = some num := fun T' z num => (rd_get (c := c.wq num (p + k)) R.t rfl).trans (congrArg some wq_i130)
  have P130 : ∀ (T' : List Cl) (z : Nat) (num v : Int32), pI (ovs B (c.wq num (p + k) :: T') z) (some (mNx B)) 130 v = some (ovs B (c.wq v (p + k) :: T') z) := fun T' z num v => (rd_put (c := c.wq num (p + k)) hB R.t rfl).trans (by rw [wq_130])
  have P127 : ∀ (T' : List Cl) (z : Nat) (num : Int32) (q : Nat), pI (ovs B (c.wq num (p + k) :: T') z) (some (mNx B)) 127 (n2 q) = some (ovs B (c.wq num q :: T') z) := fun T' z num q => (rd_put (c := c.wq num (p + k)) hB R.t rfl).trans (by rw [wq_127])
  have IV : ∀ {α : Type} (T' : List Cl) (z : Nat) (num : Int32) (o : Option α), iv (ovs B (c.wq num (p + k) :: T') z) (some (mNx B)) [5, 13] o = o := fun T' z num o => rd_iv (c := c.wq num (p + k)) R.t rfl
  have RB : ∀ (T' : List Cl) (z : Nat) (num : Int32), fX5_byteAt (some (mNx B)) (n2 (p + k)) (ovs B (c.wq num (p + k) :: T') z) = some (n2 (octN (tp (p + k))), ovs B (c.wq num (p + k) :: T') z) := fun T' z num => (X_rb (c := c.wq num (p + k)) R.wq (show p + k ≤ 940 by omega)).trans (by rw [if_pos hq])
  have AP : k < 8 → ∀ z, fJ11_append (some (mNx B + (T.length + 1 + 0))) (i2cv (n2 (octN (tp (p + k))))) (ovs B (c.wq num (p + k) :: (T ++ [sbC (mNx B + (T.length + 1 + 1)) k, byC g])) z) = some (some (mNx B + (T.length + 1 + 0)), ovs B (c.wq num (p + k) :: (T ++ [sbC (mNx B + (T.length + 1 + 1)) (k + 1), byC (upq g k (n2 (octN (tp (p + k)))))])) z) := fun hk z => X_sbApp (B := B) (P := c.wq num (p + k) :: T) (k := k) (g := g) (z := z) hB (by omega) c128
  have IS : ∀ {α : Type} (z : Nat) (o : Option α), iv (ovs B (c.wq num (p + k) :: (T ++ [sbC (mNx B + (T.length + 1 + 1)) k, byC g])) z) (some (mNx B + (T.length + 1 + 0))) [20] o = o := fun z o => q_iv (B := B) (P := c.wq num (p + k) :: T) (R := [sbC (mNx B + (T.length + 1 + 1)) k, byC g]) (j := 0) rfl rfl
  generalize octN (tp (p + k)) = ch at *
  have E307 : ∀ (f num : Int32) (R' : List Cl), bX5_go_307 kk (some (mNx B)) (b2i vb) f (some (mNx B + (T.length + 1 + 0))) (ovs B (c.wq num (p + k) :: R') z) = kk (some (mNx B)) (b2i vb) f (some (mNx B + (T.length + 1 + 0))) (ovs B (c.wq num (p + k + 1) :: R') z) := by
    intro f num R'
    unfold bX5_go_307
    simp -implicitDefEqProofs only [Option.bind_some, bd_some, b2i_0, Bool.true_eq_false, Bool.false_eq_true, eq_self, if_true, if_false, not_true_eq_false, not_false_eq_true, G127, show n2 (p + k) + 1 = n2 (p + k + 1) from n2_add _ 1, P127]
  have E271 : ∀ (f num : Int32) (R' : List Cl), bX5_go_271 kk (some (mNx B)) (b2i vb) f (some (mNx B + (T.length + 1 + 0))) (ovs B (c.wq num (p + k) :: R') z) = kk (some (mNx B)) (b2i vb) f (some (mNx B + (T.length + 1 + 0))) (ovs B (c.wq (nmN num k ch) (p + k + 1) :: R') z) := by
    intro f num R'
    unfold bX5_go_271 nmN
    by_cases h3 : k < 3
    · have le : ((3 : Int32) ≤ n2 k) = False := by rw [li_3, n2_le (by omega) (by omega)]; exact eq_false (by omega)
      simp -implicitDefEqProofs only [Option.bind_some, bd_some, b2i_0, Bool.true_eq_false, Bool.false_eq_true, eq_self, if_true, if_false, not_true_eq_false, not_false_eq_true, G127, G129, e8, le, G130, IV, RB, P130, E307, h3]
    · have le : ((3 : Int32) ≤ n2 k) = True := by rw [li_3, n2_le (by omega) (by omega)]; exact eq_true (by omega)
      simp -implicitDefEqProofs only [Option.bind_some, bd_some, b2i_0, Bool.true_eq_false, Bool.false_eq_true, eq_self, if_true, if_false, not_true_eq_false, not_false_eq_true, G127, G129, e8, le, E307, h3]
  have E241 : ∀ f : Int32, bX5_go_241 kk (some (mNx B)) (b2i vb) (some (mNx B + (T.length + 1 + 0))) f (wSt B c T z num (p + k) k g) = kk (some (mNx B)) (b2i vb) f (some (mNx B + (T.length + 1 + 0))) (wSt B c T z (nmN num k ch) (p + k + 1) (k + 1) (gN g k ch)) := by
    intro f
    unfold bX5_go_241 wSt gN
    by_cases h8 : k < 8
    · have le : ((8 : Int32) ≤ n2 k) = False := by rw [li_8, n2_le (by omega) (by omega)]; exact eq_false (by omega)
      rw [show min k 8 = k by omega, show min (k + 1) 8 = k + 1 by omega]
      simp -implicitDefEqProofs only [Option.bind_some, bd_some, b2i_0, Bool.true_eq_false, Bool.false_eq_true, eq_self, if_true, if_false, not_true_eq_false, not_false_eq_true, G127, G129, e8, le, IV, RB, IS, AP h8, E271, h8]
    · have le : ((8 : Int32) ≤ n2 k) = True := by rw [li_8, n2_le (by omega) (by omega)]; exact eq_true (by omega)
      rw [show min k 8 = 8 by omega, show min (k + 1) 8 = 8 by omega]
      simp -implicitDefEqProofs only [Option.bind_some, bd_some, b2i_0, Bool.true_eq_false, Bool.false_eq_true, eq_self, if_true, if_false, not_true_eq_false, not_false_eq_true, G127, G129, e8, le, E271, h8]
  have E217 : bX5_go_217 kk (some (mNx B)) (b2i vb) fl (some (mNx B + (T.length + 1 + 0))) (wSt B c T z num (p + k) k g) = kk (some (mNx B)) (b2i vb) (flN fl vb ch) (some (mNx B + (T.length + 1 + 0))) (wSt B c T z (nmN num k ch) (p + k + 1) (k + 1) (gN g k ch)) := by
    unfold bX5_go_217 bX5_go_240 flN
    rcases hfl with rfl | rfl
    · simp -implicitDefEqProofs only [Option.bind_some, bd_some, b2i_0, Bool.true_eq_false, Bool.false_eq_true, eq_self, if_true, if_false, not_true_eq_false, not_false_eq_true, E241]
    · have G := G127 (T ++ [sbC (mNx B + (T.length + 1 + 1)) (min k 8), byC g]) z num
      have I2 : ∀ {α : Type} (o : Option α), iv (wSt B c T z num (p + k) k g) (some (mNx B)) [5, 13] o = o := fun o => IV (T ++ [sbC (mNx B + (T.length + 1 + 1)) (min k 8), byC g]) z num o
      have B2 := RB (T ++ [sbC (mNx B + (T.length + 1 + 1)) (min k 8), byC g]) z num
      change gI (wSt B c T z num (p + k) k g) _ _ = _ at G
      change fX5_byteAt _ _ (wSt B c T z num (p + k) k g) = some (_, wSt B c T z num (p + k) k g) at B2
      simp -implicitDefEqProofs only [Option.bind_some, bd_some, b2i_0, Bool.true_eq_false, Bool.false_eq_true, eq_self, if_true, if_false, not_true_eq_false, not_false_eq_true, show ((1 : Int32) = 0) = False from eq_false (by decide), G, I2, B2, X_isLt ol, b2i_eq, E241]
      by_cases hv : isLtN ch = vb
      · simp -implicitDefEqProofs only [Option.bind_some, bd_some, b2i_0, Bool.true_eq_false, Bool.false_eq_true, eq_self, if_true, if_false, not_true_eq_false, not_false_eq_true, hv]
      · simp -implicitDefEqProofs only [Option.bind_some, bd_some, b2i_0, Bool.true_eq_false, Bool.false_eq_true, eq_self, if_true, if_false, not_true_eq_false, not_false_eq_true, hv]
  have G := G127 (T ++ [sbC (mNx B + (T.length + 1 + 1)) (min k 8), byC g]) z num
  have I2 : ∀ {α : Type} (o : Option α), iv (wSt B c T z num (p + k) k g) (some (mNx B)) [5, 13] o = o := fun o => IV (T ++ [sbC (mNx B + (T.length + 1 + 1)) (min k 8), byC g]) z num o
  have B2 := RB (T ++ [sbC (mNx B + (T.length + 1 + 1)) (min k 8), byC g]) z num
  change gI (wSt B c T z num (p + k) k g) _ _ = _ at G
  change fX5_byteAt _ _ (wSt B c T z num (p + k) k g) = some (_, wSt B c T z num (p + k) k g) at B2
  unfold bX5_go_189B
  rcases Bool.eq_false_or_eq_true (isLtN ch) with e | e
  · simp -implicitDefEqProofs only [Option.bind_some, bd_some, b2i_0, Bool.true_eq_false, Bool.false_eq_true, eq_self, if_true, if_false, not_true_eq_false, not_false_eq_true, G, I2, B2, X_isLt ol, e]
    exact E217
  · have hd : isDgN ch = true := by
      rcases h with h | h
      · rw [e] at h; exact absurd h (by decide)
      · exact h
    simp -implicitDefEqProofs only [Option.bind_some, bd_some, b2i_0, Bool.true_eq_false, Bool.false_eq_true, eq_self, if_true, if_false, not_true_eq_false, not_false_eq_true, G, I2, B2, X_isLt ol, e, X_isDg ol, hd]
    exact E217
end WLoop
