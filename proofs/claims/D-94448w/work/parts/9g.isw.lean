set_option linter.unusedVariables false
set_option linter.unusedSimpArgs false
set_option maxRecDepth 100000
/-! ===== is this word at hand, in both ===== -/
section IsW
variable {B b' : Mem} {c : Cl} {T : List Cl} {tp : Nat → Int32} {to most z n s k e i : Nat} {m : MS} {ch : Nat → Nat}
theorem X_eqB {d1 d2 : Nat} {st : Mem} {l : Nat} {g : Nat → Nat} (hk : k ≤ 8) (hl : l ≤ 8) (hc : ∀ i, i < k → ch i < 128) (hg : ∀ i, i < l → g i < 128) (n1 : aN st (some d1) = some (n2 k)) (n2' : aN st (some d2) = some (n2 l)) (a1 : ∀ i, i < k → aB st (some d1) (n2 i) = some (n2 (ch i))) (a2 : ∀ i, i < l → aB st (some d2) (n2 i) = some (n2 (g i))) :
    ∃ v : Bool, fJ5_equals (some d1) (some d2) st = some (b2i v, st) ∧ (v = true ↔ k = l ∧ ∀ i, i < k → ch i = g i) := by
  unfold fJ5_equals
  rw [n1, Option.bind_some, n2', Option.bind_some]
  by_cases e : k = l
  · subst e
    rw [if_neg (fun h => h rfl)]
    have loop : ∀ (q fu j : Nat), j + q = k → q < fu → (∀ i, i < j → ch i = g i) → ∃ v : Bool, bJ5_equals_9 fu (some d1) (some d2) (n2 j) st = some (b2i v, st) ∧ (v = true ↔ k = k ∧ ∀ i, i < k → ch i = g i) := by
      intro q
      induction q with
      | zero =>
        intro fu j hj hf hs
        obtain ⟨fu, rfl⟩ : ∃ g, fu = g + 1 := ⟨fu - 1, by omega⟩
        have ej : j = k := by omega
        subst ej
        refine ⟨true, ?_, fun _ => ⟨rfl, hs⟩, fun _ => rfl⟩
        show bJ5_equals_9B _ _ _ _ _ = _
        unfold bJ5_equals_9B
        rw [n1, Option.bind_some, if_pos (Int32.le_refl _)]; rfl
      | succ q ih =>
        intro fu j hj hf hs
        obtain ⟨fu, rfl⟩ : ∃ g, fu = g + 1 := ⟨fu - 1, by omega⟩
        have jk : j < k := by omega
        have c1 := hc j jk
        have c2 := hg j jk
        show ∃ v : Bool, bJ5_equals_9B (bJ5_equals_9 fu) _ _ _ _ = _ ∧ _
        unfold bJ5_equals_9B
        rw [n1, Option.bind_some, if_neg (by rw [n2_le (by omega) (by omega)]; omega), a1 j jk, Option.bind_some, a2 j jk, Option.bind_some]
        by_cases ec : ch j = g j
        · rw [if_pos (by rw [ec]), show n2 j + 1 = n2 (j + 1) from n2_add j 1]
          exact ih fu (j + 1) (by omega) (by omega) (fun i hi => by
            by_cases ei : i = j
            · rw [ei]; exact ec
            · exact hs i (by omega))
        · rw [if_neg (by rw [n2_eq (by omega) (by omega)]; exact ec)]
          exact ⟨false, rfl, fun h => absurd h (by decide), fun h => absurd (h.2 j jk) ec⟩
    exact loop k hcFuel 0 (by omega) (by unfold hcFuel; omega) (fun i hi => absurd hi (Nat.not_lt_zero i))
  · rw [if_pos (by rw [n2_eq (by omega) (by omega)]; exact e)]
    exact ⟨false, rfl, fun h => absurd h (by decide), fun h => absurd h.1 e⟩
theorem X_equals (R : RdX B c tp to most) (S : StrT (mNx B) T e k ch) (hk : k ≤ 8) (hc : ∀ i, i < k → ch i < 128) (hi : i < 26) :
    ∃ v : Bool, fJ4_equals (some (mNx B + (1 + e))) (some (2 * i)) (ovs B (c :: T) z) = some (b2i v, ovs B (c :: T) z) ∧ (v = true ↔ k = stL i ∧ ∀ j, j < k → ch j = stF i j) := by
  have hB := R.hB
  obtain ⟨d, h1, h2, h3, h4, h5, h6, h7, h8⟩ := S
  have hi' : i < strB.length := hi
  obtain ⟨⟨g1, g2⟩, g3, g4, d', d1, ⟨d2, d3⟩, d4, d5, d6⟩ := R.str i hi'
  have q1 : 1 + e < (c :: T).length := by rw [List.length_cons]; omega
  have q2 : 1 + d < (c :: T).length := by rw [List.length_cons]; omega
  have ce : clD (c :: T) (1 + e) = clD T e := by rw [show 1 + e = e + 1 by omega]; rfl
  have cd : clD (c :: T) (1 + d) = clD T d := by rw [show 1 + d = d + 1 by omega]; rfl
  have r1 : gI (ovs B (c :: T) z) (some (mNx B + (1 + e))) 156 = some 0 := (o_gI (decide_eq_true q1) (by rw [ce, h3]; rfl)).trans (by rw [ce, h4])
  have r2 : gA (ovs B (c :: T) z) (some (mNx B + (1 + e))) 155 = some (some (mNx B + (1 + d))) := (o_gA (decide_eq_true q1) (by rw [ce, h3]; rfl)).trans (by rw [ce, h5])
  have r3 : gI (ovs B (c :: T) z) (some (2 * i)) 156 = some 0 := (oo_gI g2).trans ((gI_of (t := 19) g2 g3 (by decide)).trans (congrArg some g4))
  have r4 : gA (ovs B (c :: T) z) (some (2 * i)) 155 = some (some d') := (oo_gA g2).trans ((gA_of (t := 19) g2 g3 (by decide)).trans (congrArg some d1))
  have n1 : aN (ovs B (c :: T) z) (some (mNx B + (1 + d))) = some (n2 k) := (o_aN q2 (by rw [cd, h6]; decide)).trans (by rw [cd, h7])
  have n2' : aN (ovs B (c :: T) z) (some d') = some (n2 (stL i)) := by
    rw [oo_aN d3]
    have cond : d' < mNx B ∧ 100 ≤ mTag B d' ∧ mTag B d' < 108 := ⟨d3, by rw [d4]; decide, by rw [d4]; decide⟩
    exact (if_pos cond).trans (by rw [d5, stL_get i hi']; rfl)
  have a1 : ∀ j, j < k → aB (ovs B (c :: T) z) (some (mNx B + (1 + d))) (n2 j) = some (n2 (ch j)) := fun j hj => (o_aB q2 (by rw [cd]; exact h6) (by rw [cd, h7]; exact hj) (by omega)).trans (by rw [cd, h8 j hj])
  have l8 := stL_8 i hi
  have a2 : ∀ j, j < stL i → aB (ovs B (c :: T) z) (some d') (n2 j) = some (n2 (stF i j)) := fun j hj => by
    have hj' : j < strB[i].length := by rw [stL_get i hi']; exact hj
    rw [oo_aB d3, aB_of d3 (Or.inl d4) (d5.trans (stL_get i hi')), ifx_k hj (by omega), n2_nat (by omega), d6 j hj', stF_get i hi' j hj']
  obtain ⟨v, e1, e2⟩ := X_eqB (st := ovs B (c :: T) z) (ch := ch) (g := stF i) hk l8 hc (fun j hj => stF_lt i hi j (by omega)) n1 n2' a1 a2
  refine ⟨v, ?_, e2⟩
  have ne : mNx B + (1 + e) ≠ 2 * i := by omega
  have ei : io (ovs B (c :: T) z) (some (2 * i)) 3 = some 1 := if_pos ⟨by rw [ov_nx]; omega, by decide, by rw [(ov_lt (L := c :: T) (z := z) g2).1, g3]; rfl⟩
  have ek : ck (ovs B (c :: T) z) (some (2 * i)) 3 = some (some (2 * i)) := if_pos ⟨by rw [ov_nx]; omega, by rw [(ov_lt (L := c :: T) (z := z) g2).1, g3]; rfl⟩
  have er : ∀ (A D : Option (Int32 × Mem)), eqR (ovs B (c :: T) z) (some (mNx B + (1 + e))) (some (2 * i)) A D = D := fun A D => by
    refine (if_pos (⟨by rw [ov_nx]; omega, by rw [ov_nx]; omega, Or.inl ⟨by omega, by omega⟩⟩ : mNx B + (1 + e) < mNx (ovs B (c :: T) z) ∧ 2 * i < mNx (ovs B (c :: T) z) ∧ ((64 ≤ mNx B + (1 + e) ∧ 2 * i ≠ 53) ∨ (64 ≤ 2 * i ∧ mNx B + (1 + e) ≠ 53) ∨ mNx B + (1 + e) = 2 * i))).trans (if_neg ne)
  unfold fJ4_equals bJ4_equals_36 bJ4_equals_54
  rw [er]
  simp -implicitDefEqProofs only [Option.bind_some, bd_some, b2i_0, Bool.true_eq_false, Bool.false_eq_true, eq_self, if_true, if_false, not_true_eq_false, not_false_eq_true, ei, ek, show ((1 : Int32) = 0) = False from eq_false (by decide), r1, r3, r2, r4, e1]
  cases v
  · simp -implicitDefEqProofs only [Option.bind_some, bd_some, b2i_0, Bool.true_eq_false, Bool.false_eq_true, eq_self, if_true, if_false, not_true_eq_false, not_false_eq_true]; rfl
  · simp -implicitDefEqProofs only [Option.bind_some, bd_some, b2i_0, Bool.true_eq_false, Bool.false_eq_true, eq_self, if_true, if_false, not_true_eq_false, not_false_eq_true]; rfl
/-- is and isWord -/
theorem D_is (R : RdX B c tp to most) (K : Tk (mNx B) c T m.r tp to) (hi : i < 24) {code : Int64} (hcode : code = pkW (stF i) (stL i)) :
    ∃ v : Bool, fX5_is (some (mNx B)) (some (2 * i)) (ovs B (c :: T) z) = some (b2i v, ovs B (c :: T) z) ∧ fX4_isWord (some 106) code (mkM b' n s m) = some (b2i v, mkM b' n s m) ∧ (v = true → c.i 128 = 2 ∧ m.r.token = 1) := by
  have G : gI (ovs B (c :: T) z) (some (mNx B)) 128 = some (c.i 128) := rd_get R.t rfl
  have no : ∀ x t : Int32, c.i 128 = x → m.r.token = t → (x = 2) = False → (t = 1) = False → ∃ v : Bool, fX5_is (some (mNx B)) (some (2 * i)) (ovs B (c :: T) z) = some (b2i v, ovs B (c :: T) z) ∧ fX4_isWord (some 106) code (mkM b' n s m) = some (b2i v, mkM b' n s m) ∧ (v = true → c.i 128 = 2 ∧ m.r.token = 1) := by
    intro x t h1 h2 h3 h4
    refine ⟨false, ?_, ?_, fun h => absurd h (by decide)⟩
    · unfold fX5_is bX5_is_23; simp -implicitDefEqProofs only [Option.bind_some, bd_some, b2i_0, Bool.true_eq_false, Bool.false_eq_true, eq_self, if_true, if_false, not_true_eq_false, not_false_eq_true, G, h1, h3]; rfl
    · unfold fX4_isWord bX4_isWord_21; simp -implicitDefEqProofs only [Option.bind_some, bd_some, b2i_0, Bool.true_eq_false, Bool.false_eq_true, eq_self, if_true, if_false, not_true_eq_false, not_false_eq_true, gM_64, h2, h4]; rfl
  rcases K.kd with ⟨h1, h2⟩ | ⟨h1 | h1, h2⟩ | ⟨h1, h2, P, k, e, w1, w2, w3, w4, w5, w6, w7, w8, w9⟩ | ⟨h1, h2, -⟩ | ⟨h1, h2, -⟩
  · exact no 0 0 h1 h2 (eq_false (by decide)) (eq_false (by decide))
  · exact no 1 4 h1 h2 (eq_false (by decide)) (eq_false (by decide))
  · exact no 5 4 h1 h2 (eq_false (by decide)) (eq_false (by decide))
  · obtain ⟨v, e1, e2⟩ := X_equals (z := z) (i := i) R w9 w2 (fun j hj => ld_lt (Or.inl (w6 j hj))) (by omega)
    have inj := pkW_inj (f := fun j => octN (tp (P + j))) (g := stF i) (k := k) (l := stL i) (fun j => oct_lt _) (fun j => stF_lt' i (by omega) j) w2 (stL_8 i (by omega)) (fun j hj => by have := w6 j hj; unfold isLtN at this; have := of_decide_eq_true this; show 0 < octN (tp (P + j)); omega) (stF_pos i hi)
    have I19 : ∀ {α : Type} (o : Option α), iv (ovs B (c :: T) z) (some (mNx B + (1 + e))) [19] o = o := fun o => by
      obtain ⟨d, g1, g2, g3, -⟩ := w9
      refine o_iv (by rw [List.length_cons]; omega) ?_
      rw [show clD (c :: T) (1 + e) = clD T e by rw [show 1 + e = e + 1 by omega]; rfl, g3]; rfl
    have G2 : gA (ovs B (c :: T) z) (some (mNx B)) 132 = some (some (mNx B + (1 + e))) := (rd_132 R.t).trans (congrArg some w8)
    refine ⟨v, ?_, ?_, fun _ => ⟨h1, h2⟩⟩
    · unfold fX5_is bX5_is_23
      simp -implicitDefEqProofs only [Option.bind_some, bd_some, b2i_0, Bool.true_eq_false, Bool.false_eq_true, eq_self, if_true, if_false, not_true_eq_false, not_false_eq_true, G, h1, G2, I19, e1]
      cases v
      · simp -implicitDefEqProofs only [Option.bind_some, bd_some, b2i_0, Bool.true_eq_false, Bool.false_eq_true, eq_self, if_true, if_false, not_true_eq_false, not_false_eq_true]; rfl
      · simp -implicitDefEqProofs only [Option.bind_some, bd_some, b2i_0, Bool.true_eq_false, Bool.false_eq_true, eq_self, if_true, if_false, not_true_eq_false, not_false_eq_true]; rfl
    · unfold fX4_isWord bX4_isWord_21
      simp -implicitDefEqProofs only [Option.bind_some, bd_some, b2i_0, Bool.true_eq_false, Bool.false_eq_true, eq_self, if_true, if_false, not_true_eq_false, not_false_eq_true, gM_64, h2, gM_70, w7, hcode]
      cases v
      · have hn : ¬ pkW (fun j => octN (tp (P + j))) k = pkW (stF i) (stL i) := fun h => absurd (e2.mpr (inj.mp h)) (by decide)
        simp -implicitDefEqProofs only [Option.bind_some, bd_some, b2i_0, Bool.true_eq_false, Bool.false_eq_true, eq_self, if_true, if_false, not_true_eq_false, not_false_eq_true, hn]; rfl
      · have hy : pkW (fun j => octN (tp (P + j))) k = pkW (stF i) (stL i) := inj.mpr (e2.mp rfl)
        simp -implicitDefEqProofs only [Option.bind_some, bd_some, b2i_0, Bool.true_eq_false, Bool.false_eq_true, eq_self, if_true, if_false, not_true_eq_false, not_false_eq_true, hy]; rfl
  · exact no 3 2 h1 h2 (eq_false (by decide)) (eq_false (by decide))
  · exact no 4 3 h1 h2 (eq_false (by decide)) (eq_false (by decide))
/-- isSign in both -/
theorem D_isSign (R : RdX B c tp to most) (K : Tk (mNx B) c T m.r tp to) (a : Int32) :
    ∃ v : Bool, (∀ {α : Type} (o : Option α), iv (ovs B (c :: T) z) (some (mNx B)) [13, 5] o = o) ∧ fX5_isSign (some (mNx B)) a (ovs B (c :: T) z) = some (b2i v, ovs B (c :: T) z) ∧ fX4_isSign (some 106) a (mkM b' n s m) = some (b2i v, mkM b' n s m) ∧ (v = true → c.i 128 = 4 ∧ m.r.token = 3) := by
  have G : gI (ovs B (c :: T) z) (some (mNx B)) 128 = some (c.i 128) := rd_get R.t rfl
  have G2 : gI (ovs B (c :: T) z) (some (mNx B)) 131 = some (c.i 131) := rd_get R.t rfl
  have IV : ∀ {α : Type} (o : Option α), iv (ovs B (c :: T) z) (some (mNx B)) [13, 5] o = o := fun o => rd_iv R.t rfl
  have no : ∀ x t : Int32, c.i 128 = x → m.r.token = t → (x = 4) = False → (t = 3) = False → ∃ v : Bool, (∀ {α : Type} (o : Option α), iv (ovs B (c :: T) z) (some (mNx B)) [13, 5] o = o) ∧ fX5_isSign (some (mNx B)) a (ovs B (c :: T) z) = some (b2i v, ovs B (c :: T) z) ∧ fX4_isSign (some 106) a (mkM b' n s m) = some (b2i v, mkM b' n s m) ∧ (v = true → c.i 128 = 4 ∧ m.r.token = 3) := by
    intro x t h1 h2 h3 h4
    refine ⟨false, IV, ?_, ?_, fun h => absurd h (by decide)⟩
    · unfold fX5_isSign bX5_isSign_20; simp -implicitDefEqProofs only [Option.bind_some, bd_some, b2i_0, Bool.true_eq_false, Bool.false_eq_true, eq_self, if_true, if_false, not_true_eq_false, not_false_eq_true, G, h1, h3]; rfl
    · unfold fX4_isSign bX4_isSign_20; simp -implicitDefEqProofs only [Option.bind_some, bd_some, b2i_0, Bool.true_eq_false, Bool.false_eq_true, eq_self, if_true, if_false, not_true_eq_false, not_false_eq_true, gM_64, h2, h4]; rfl
  rcases K.kd with ⟨h1, h2⟩ | ⟨h1 | h1, h2⟩ | ⟨h1, h2, -⟩ | ⟨h1, h2, -⟩ | ⟨h1, h2, h3⟩
  · exact no 0 0 h1 h2 (eq_false (by decide)) (eq_false (by decide))
  · exact no 1 4 h1 h2 (eq_false (by decide)) (eq_false (by decide))
  · exact no 5 4 h1 h2 (eq_false (by decide)) (eq_false (by decide))
  · exact no 2 1 h1 h2 (eq_false (by decide)) (eq_false (by decide))
  · exact no 3 2 h1 h2 (eq_false (by decide)) (eq_false (by decide))
  · by_cases e : m.r.number = a
    · refine ⟨true, IV, ?_, ?_, fun _ => ⟨h1, h2⟩⟩
      · unfold fX5_isSign bX5_isSign_20; simp -implicitDefEqProofs only [Option.bind_some, bd_some, b2i_0, Bool.true_eq_false, Bool.false_eq_true, eq_self, if_true, if_false, not_true_eq_false, not_false_eq_true, G, G2, h1, h3, e]; rfl
      · unfold fX4_isSign bX4_isSign_20; simp -implicitDefEqProofs only [Option.bind_some, bd_some, b2i_0, Bool.true_eq_false, Bool.false_eq_true, eq_self, if_true, if_false, not_true_eq_false, not_false_eq_true, gM_64, gM_67, h2, e]; rfl
    · refine ⟨false, IV, ?_, ?_, fun h => absurd h (by decide)⟩
      · unfold fX5_isSign bX5_isSign_20; simp -implicitDefEqProofs only [Option.bind_some, bd_some, b2i_0, Bool.true_eq_false, Bool.false_eq_true, eq_self, if_true, if_false, not_true_eq_false, not_false_eq_true, G, G2, h1, h3, e]; rfl
      · unfold fX4_isSign bX4_isSign_20; simp -implicitDefEqProofs only [Option.bind_some, bd_some, b2i_0, Bool.true_eq_false, Bool.false_eq_true, eq_self, if_true, if_false, not_true_eq_false, not_false_eq_true, gM_64, gM_67, h2, e]; rfl
end IsW
