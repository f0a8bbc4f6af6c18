set_option linter.unusedVariables false
set_option linter.unusedSimpArgs false
set_option maxRecDepth 100000
/-! ===== words, packed ===== -/
def pkN (g : Nat → Nat) : Nat → Nat
  | 0 => 0
  | k + 1 => 256 * pkN g k + g k
theorem pkN_lt (g : Nat → Nat) (h : ∀ i, g i < 256) : ∀ k, pkN g k < 256 ^ k
  | 0 => by show 0 < 1; decide
  | k + 1 => by
    have := pkN_lt g h k
    have := h k
    simp -implicitDefEqProofs only [pkN]; rw [Nat.pow_succ]; omega
theorem n2_64 {c : Nat} (h : c < 256) : (n2 c).toInt64.toBitVec.toNat = c := by
  have k : ∀ c, c < 256 → (n2 c).toInt64.toBitVec.toNat = c := by decide +kernel
  exact k c h
theorem pkW_nat (g : Nat → Nat) (h : ∀ i, g i < 256) : ∀ k, k ≤ 8 → (pkW g k).toBitVec.toNat = pkN g k
  | 0, _ => rfl
  | k + 1, hk => by
    have ih := pkW_nat g h k (by omega)
    have l1 := pkN_lt g h k
    have l2 : 256 ^ k ≤ 256 ^ 7 := Nat.pow_le_pow_right (by decide) (by omega)
    have l3 : (256 : Nat) ^ 7 = 72057594037927936 := by decide
    have hc := h k
    show (shlL (pkW g k) (8 : Int32) ||| (n2 (g k)).toInt64).toBitVec.toNat = 256 * pkN g k + g k
    rw [Int64.toBitVec_or, BitVec.toNat_or, show shlL (pkW g k) (8 : Int32) = shlL (pkW g k) (n2 8) from rfl, shl_bv _ (show 8 < 64 by decide), BitVec.toNat_shiftLeft, ih, n2_64 hc, Nat.mod_eq_of_lt (by rw [Nat.shiftLeft_eq]; omega), ← Nat.shiftLeft_add_eq_or_of_lt (show g k < 2 ^ 8 from hc), Nat.shiftLeft_eq]
    omega
theorem pkN_inj {f g : Nat → Nat} (hf : ∀ i, f i < 256) (hg : ∀ i, g i < 256) : ∀ k l, (∀ i, i < k → 0 < f i) → (∀ i, i < l → 0 < g i) → pkN f k = pkN g l → k = l ∧ ∀ i, i < k → f i = g i
  | 0, 0, _, _, _ => ⟨rfl, fun i hi => absurd hi (Nat.not_lt_zero i)⟩
  | 0, l + 1, _, h2, h => by
    have := h2 l (by omega)
    simp -implicitDefEqProofs only [pkN] at h; omega
  | k + 1, 0, h1, _, h => by
    have := h1 k (by omega)
    simp -implicitDefEqProofs only [pkN] at h; omega
  | k + 1, l + 1, h1, h2, h => by
    have a := hf k
    have b := hg l
    simp -implicitDefEqProofs only [pkN] at h
    have e1 : pkN f k = pkN g l := by omega
    have e2 : f k = g l := by omega
    obtain ⟨r1, r2⟩ := pkN_inj hf hg k l (fun i hi => h1 i (by omega)) (fun i hi => h2 i (by omega)) e1
    subst r1
    refine ⟨rfl, fun i hi => ?_⟩
    by_cases e : i = k
    · rw [e]; exact e2
    · exact r2 i (by omega)
theorem pkW_inj {f g : Nat → Nat} (hf : ∀ i, f i < 256) (hg : ∀ i, g i < 256) {k l : Nat} (hk : k ≤ 8) (hl : l ≤ 8) (h1 : ∀ i, i < k → 0 < f i) (h2 : ∀ i, i < l → 0 < g i) : pkW f k = pkW g l ↔ k = l ∧ ∀ i, i < k → f i = g i := by
  constructor
  · intro h
    have e := congrArg (fun x => x.toBitVec.toNat) h
    have e' : (pkW f k).toBitVec.toNat = (pkW g l).toBitVec.toNat := e
    rw [pkW_nat f hf k hk, pkW_nat g hg l hl] at e'
    exact pkN_inj hf hg k l h1 h2 e'
  · rintro ⟨rfl, h⟩
    have c : ∀ j, j ≤ k → pkW f j = pkW g j := by
      intro j
      induction j with
      | zero => intro _; rfl
      | succ j ih =>
        intro hj
        show shlL (pkW f j) (8 : Int32) ||| (n2 (f j)).toInt64 = shlL (pkW g j) (8 : Int32) ||| (n2 (g j)).toInt64
        rw [ih (by omega), h j (by omega)]
    exact c k (Nat.le_refl _)
/-- the String constants as functions -/
def stF (i j : Nat) : Nat := (strB.getD i []).getD j 0
def stL (i : Nat) : Nat := (strB.getD i []).length
theorem stF_lt : ∀ i, i < 26 → ∀ j, j < 8 → stF i j < 128 := by decide
theorem stF_lt' (i : Nat) (hi : i < 26) (j : Nat) : stF i j < 256 := by
  by_cases h : j < 8
  · have := stF_lt i hi j h; omega
  · have k : ∀ i, i < 26 → (strB.getD i []).length ≤ 8 := by decide
    have := k i hi
    unfold stF
    rw [List.getD_eq_getElem?_getD, List.getElem?_eq_none (by omega)]; decide
theorem stF_pos : ∀ i, i < 24 → ∀ j, j < stL i → 0 < stF i j := by decide
theorem stL_8 : ∀ i, i < 26 → stL i ≤ 8 := by decide
theorem stF_get (i : Nat) (hi : i < strB.length) (j : Nat) (hj : j < strB[i].length) : strB[i][j] = stF i j := by
  unfold stF
  rw [List.getD_eq_getElem?_getD, List.getD_eq_getElem?_getD, List.getElem?_eq_getElem hi]
  show _ = (strB[i][j]?).getD 0
  rw [List.getElem?_eq_getElem hj]; rfl
theorem stL_get (i : Nat) (hi : i < strB.length) : strB[i].length = stL i := by
  unfold stL
  rw [List.getD_eq_getElem?_getD, List.getElem?_eq_getElem hi]; rfl
