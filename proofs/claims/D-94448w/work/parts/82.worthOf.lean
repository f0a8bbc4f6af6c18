set_option linter.unusedVariables false
set_option linter.unusedSimpArgs false
set_option maxRecDepth 100000
/-! ===== commands: worthOf ===== -/
theorem rm_ok {A B : Int64} (hA : 0 ≤ A.toInt) (hB : 0 < B.toInt) : ∃ R : Int64, rmL A B = some R ∧ R.toInt = A.toInt % B.toInt := by
  have nz : ¬ B = 0 := fun e => by rw [e] at hB; exact absurd hB (by decide)
  refine ⟨A - A / B * B, if_neg nz, ?_⟩
  have hA2 := Int64.toInt_lt A
  have hB2 := Int64.toInt_lt B
  have dv : (A / B).toInt = A.toInt / B.toInt := by
    rw [Int64.toInt_div_of_ne_right _ _ (by intro e; rw [e] at hB; exact absurd hB (by decide)), Int.tdiv_eq_ediv_of_nonneg hA]
  have dn : 0 ≤ A.toInt / B.toInt := Int.ediv_nonneg hA (by omega)
  have em := Int.mul_ediv_add_emod A.toInt B.toInt
  have m0 := Int.emod_nonneg A.toInt (show B.toInt ≠ 0 by omega)
  have cm : A.toInt / B.toInt * B.toInt = B.toInt * (A.toInt / B.toInt) := Int.mul_comm _ _
  have pn : 0 ≤ A.toInt / B.toInt * B.toInt := Int.mul_nonneg dn (by omega)
  have mu : (A / B * B).toInt = A.toInt / B.toInt * B.toInt := by
    rw [Int64.toInt_mul, dv]
    exact Int.bmod_eq_of_le (by omega) (by omega)
  rw [Int64.toInt_sub, mu]
  rw [Int.bmod_eq_of_le (by omega) (by omega)]
  omega
section WorthOf
variable {b b' : Mem} {n s : Nat} {x : XS} {m : MS} {H : HS} {C : List Cu} {h c : Nat} {K : Nat → Option (HS × List Cu)} {i d : Int32}
theorem L_gcd : ∀ (k f f' : Nat) (A B : Int64), 0 < A.toInt → 0 ≤ B.toInt → B.toInt ≤ k → k < f → k < f' →
    ∃ G : Int64, 0 < G.toInt ∧ bX1_worthOf_47 f (some 64) i d A B (mkX b x) = bX1_worthOf_47 1 (some 64) i d G 0 (mkX b x) ∧ bX4_worthOf_71 f' (some 106) i d B A (mkM b' n s m) = bX4_worthOf_71 1 (some 106) i d 0 G (mkM b' n s m) := by
  intro k
  induction k with
  | zero =>
    intro f f' A B hA h0 hB hf hf'
    obtain ⟨f, rfl⟩ : ∃ g, f = g + 1 := ⟨f - 1, by omega⟩
    obtain ⟨f', rfl⟩ : ∃ g, f' = g + 1 := ⟨f' - 1, by omega⟩
    have e : B = 0 := Int64.toInt.inj (by show B.toInt = 0; omega)
    subst e
    refine ⟨A, hA, ?_, ?_⟩
    · show bX1_worthOf_47B _ _ _ _ _ _ _ = bX1_worthOf_47B _ _ _ _ _ _ _
      unfold bX1_worthOf_47B
      rw [if_pos (Int64.le_refl _), if_pos (Int64.le_refl _)]
    · show bX4_worthOf_71B _ _ _ _ _ _ _ = bX4_worthOf_71B _ _ _ _ _ _ _
      unfold bX4_worthOf_71B
      rw [if_pos rfl, if_pos rfl]
  | succ k ih =>
    intro f f' A B hA h0 hB hf hf'
    by_cases hz : B.toInt = 0
    · exact (ih f f' A B hA h0 (by omega) (by omega) (by omega))
    obtain ⟨f, rfl⟩ : ∃ g, f = g + 1 := ⟨f - 1, by omega⟩
    obtain ⟨f', rfl⟩ : ∃ g, f' = g + 1 := ⟨f' - 1, by omega⟩
    obtain ⟨R, r1, r2⟩ := rm_ok (A := A) (B := B) (by omega) (by omega)
    have m0 := Int.emod_nonneg A.toInt (show B.toInt ≠ 0 by omega)
    have m1 := Int.emod_lt_of_pos A.toInt (show 0 < B.toInt by omega)
    obtain ⟨G, g1, g2, g3⟩ := ih f f' B R (by omega) (by omega) (by omega) (by omega) (by omega)
    have nle : ¬ B ≤ 0 := by rw [Int64.le_iff_toInt_le]; show ¬ B.toInt ≤ 0; omega
    have nz : ¬ B = 0 := fun e => hz (by rw [e]; rfl)
    refine ⟨G, g1, Eq.trans ?_ g2, Eq.trans ?_ g3⟩
    · show bX1_worthOf_47B (bX1_worthOf_47 f) _ _ _ _ _ _ = _
      unfold bX1_worthOf_47B
      rw [if_neg nle, r1, Option.bind_some]
    · show bX4_worthOf_71B (bX4_worthOf_71 f') _ _ _ _ _ _ = _
      unfold bX4_worthOf_71B
      rw [if_neg nz, r1, Option.bind_some]
theorem C_worthOf (R : Duo b x m H C h c K) (a d : Int32) : Thr b x m H C h c K (fX0_worthOf (some 64) a d (some 130) (mkX b x)) (fX4_worthOf (some 106) a d (mkM b' n s m)) b' n s := by
  obtain ⟨b2, n1, n2', n3, n4, n5⟩ := X_need0 R
  obtain ⟨k, k8, k1, k2, k3, k4⟩ := R.worth
  have R2 := R.ext n4
  have thrown : ∀ (rx rm : Option (Int32 × Mem)), rx = some (1, mkX b2 x) → rm = some (0, mkM b' n s (m.th 1)) → Thr b x m H C h c K rx rm b' n s := fun rx rm e1 e2 => ⟨1, 0, b2, x, m.th 1, e1, e2, rfl, fun hc => absurd hc (by decide), R2.th, n5⟩
  have hgo : ∀ {α : Type} (z : Option α), hg (mkX b2 x) (mNx b) 21 z = z := fun z => if_pos ⟨n2', n3⟩
  have btr : bt (some (Sum.inr (mNx b), mkX b2 x) : Option ((Unit ⊕ Nat) × Mem)) = fun (f : Unit → Mem → Option ((Int32 ⊕ Nat) × Mem)) => some (Sum.inr (mNx b), mkX b2 x) := rfl
  have bcr : ∀ (g : Nat → Mem → Option (Int32 × Mem)) (f : Int32 → Mem → Option (Int32 × Mem)), bc (some (Sum.inr (mNx b), mkX b2 x)) g f = g (mNx b) (mkX b2 x) := fun _ _ => rfl
  have bcl : ∀ (v : Int32) (st : Mem) (g : Nat → Mem → Option (Int32 × Mem)) (f : Int32 → Mem → Option (Int32 × Mem)), bc (some (Sum.inl v, st)) g f = f v st := fun _ _ _ _ => rfl
  have btl : ∀ (st : Mem) (f : Unit → Mem → Option ((Int32 ⊕ Nat) × Mem)), bt (some (Sum.inl (), st)) f = f () st := fun _ _ => rfl
  have hF : 50000 < hcFuel := by unfold hcFuel; omega
  unfold fX0_worthOf fX1_worthOf fX4_worthOf bX1_worthOf_27 bX4_worthOf_24 bX1_worthOf_28 bX4_worthOf_29 bX0_worthOf_13 bX4_worthOf_64
  generalize hcFuel = fu at hF ⊢
  simp -implicitDefEqProofs only [Option.bind_some, bd_some, b2i_0, Bool.true_eq_false, Bool.false_eq_true, eq_self, if_true, if_false, not_true_eq_false, not_false_eq_true, ivX R.hb, gX_16 R.hb, k1, ivM, gM_107, k2, X_isIn, M_isIn, n1, btr, bcr, hgo, X_need1, btl, show fX4_throwsIf (some 106) 1 (mkM b' n s m) = some (1, mkM b' n s (m.th 1)) from M_throws true, show fX4_throwsIf (some 106) 0 (mkM b' n s m) = some (0, mkM b' n s (m.th 0)) from M_throws false, show ((1 : Int32) = 0) = False from eq_false (by decide)]
  cases es : decide ((0 : Int32) ≤ a ∧ a ≤ n2 k - 1)
  · simp -implicitDefEqProofs only [Option.bind_some, bd_some, b2i_0, Bool.true_eq_false, Bool.false_eq_true, eq_self, if_true, if_false, not_true_eq_false, not_false_eq_true, bcr, hgo]; exact thrown _ _ rfl rfl
  have es2 := of_decide_eq_true es
  obtain ⟨i, rfl, hi⟩ := n2_of es2.1
  have il : i < k := by
    have := es2.2
    rw [li_1, nn_sub, ni_le hi (by omega) (by omega)] at this; omega
  cases ed : decide ((0 : Int32) ≤ d ∧ d ≤ 1)
  · simp -implicitDefEqProofs only [Option.bind_some, bd_some, b2i_0, Bool.true_eq_false, Bool.false_eq_true, eq_self, if_true, if_false, not_true_eq_false, not_false_eq_true, bcr, hgo]; exact thrown _ _ rfl rfl
  have i8 : i < 8 := by omega
  obtain ⟨w1, w2, w3⟩ := k3 i il
  obtain ⟨o1, o2, o3⟩ := k4 (by omega)
  have wm : (m.th 0).c.worths i = x.worth i := w1.symm
  have om : (m.th 0).c.allOrders = x.orders := o1.symm
  -- the number without its sign, in both
  have ng : (-(x.worth i)).toInt = -(x.worth i).toInt := by
    rw [Int64.toInt_neg]; exact Int.bmod_eq_of_le (by omega) (by omega)
  have ab : ∃ B : Int64, 0 ≤ B.toInt ∧ mabsL (x.worth i) = B ∧ (if (0 : Int64) ≤ x.worth i then x.worth i else -(x.worth i)) = B := by
    unfold mabsL
    by_cases h0 : 0 < x.worth i
    · refine ⟨x.worth i, ?_, if_pos h0, if_pos (Int64.le_of_lt h0)⟩
      rw [Int64.lt_iff_toInt_lt] at h0; exact Int.le_of_lt h0
    · by_cases h1 : (0 : Int64) ≤ x.worth i
      · have e0 : x.worth i = 0 := Int64.le_antisymm (Int64.not_lt.mp h0) h1
        refine ⟨0, by decide, ?_, ?_⟩
        · rw [if_neg h0, e0]; rfl
        · rw [if_pos h1, e0]
      · refine ⟨-(x.worth i), ?_, if_neg h0, if_neg h1⟩
        rw [ng]
        have : ¬ (0 : Int) ≤ (x.worth i).toInt := fun hc => h1 (by rw [Int64.le_iff_toInt_le]; exact hc)
        omega
  obtain ⟨B, b0, b1, b3⟩ := ab
  -- one step, then the numbers are small
  have gcd : ∃ G : Int64, 0 < G.toInt ∧ bX1_worthOf_47 fu (some 64) (n2 i) d x.orders B (mkX b x) = bX1_worthOf_47 1 (some 64) (n2 i) d G 0 (mkX b x) ∧ bX4_worthOf_71 fu (some 106) (n2 i) d B x.orders (mkM b' n s (m.th 0)) = bX4_worthOf_71 1 (some 106) (n2 i) d 0 G (mkM b' n s (m.th 0)) := by
    by_cases hz : B.toInt = 0
    · exact L_gcd 0 fu fu x.orders B (by omega) b0 (by omega) (by omega) (by omega)
    · obtain ⟨fu, rfl⟩ : ∃ g, fu = g + 1 := ⟨fu - 1, by omega⟩
      obtain ⟨Q, r1, r2⟩ := rm_ok (A := x.orders) (B := B) (by omega) (by omega)
      have m0 := Int.emod_nonneg x.orders.toInt (show B.toInt ≠ 0 by omega)
      have em := Int.mul_ediv_add_emod x.orders.toInt B.toInt
      have dn := Int.ediv_nonneg (show 0 ≤ x.orders.toInt by omega) (show 0 ≤ B.toInt by omega)
      have pn := Int.mul_nonneg (show 0 ≤ B.toInt by omega) dn
      have m1 : x.orders.toInt % B.toInt ≤ x.orders.toInt := by omega
      obtain ⟨G, g1, g2, g3⟩ := L_gcd (b := b) (b' := b') (n := n) (s := s) (x := x) (m := m.th 0) (i := n2 i) (d := d) 40320 fu fu B Q (by omega) (by omega) (by omega) (by omega) (by omega)
      have nle : ¬ B ≤ 0 := by rw [Int64.le_iff_toInt_le]; show ¬ B.toInt ≤ 0; omega
      have nz : ¬ B = 0 := fun e => hz (by rw [e]; rfl)
      refine ⟨G, g1, Eq.trans ?_ g2, Eq.trans ?_ g3⟩
      · show bX1_worthOf_47B (bX1_worthOf_47 fu) _ _ _ _ _ _ = _
        unfold bX1_worthOf_47B
        rw [if_neg nle, r1, Option.bind_some]
      · show bX4_worthOf_71B (bX4_worthOf_71 fu) _ _ _ _ _ _ = _
        unfold bX4_worthOf_71B
        rw [if_neg nz, r1, Option.bind_some]
  obtain ⟨G, g1, g2, g3⟩ := gcd
  have gz : ¬ G = 0 := fun e => by rw [e] at g1; exact absurd g1 (by decide)
  have dv : ∀ z : Int64, dvL z G = some (z / G) := fun z => if_neg gz
  have f1 : bX1_worthOf_47 1 (some 64) (n2 i) d G 0 (mkX b x) = some (.inl (Int64.toInt32 ((if d = 0 then x.worth i else x.orders) / G)), mkX b x) := by
    show bX1_worthOf_47B _ _ _ _ _ _ _ = _
    unfold bX1_worthOf_47B bX1_worthOf_87
    rw [if_pos (Int64.le_refl _)]
    simp -implicitDefEqProofs only [Option.bind_some, bd_some, b2i_0, Bool.true_eq_false, Bool.false_eq_true, eq_self, if_true, if_false, not_true_eq_false, not_false_eq_true, gX_17 R.hb, gX_15 R.hb, aX_99 R.hb, ifx_k i8 (show i < 2147483648 by omega), n2_nat (show i < 2147483648 by omega), dv]
    by_cases d0 : d = 0
    · simp -implicitDefEqProofs only [Option.bind_some, bd_some, b2i_0, Bool.true_eq_false, Bool.false_eq_true, eq_self, if_true, if_false, not_true_eq_false, not_false_eq_true, d0]
    · simp -implicitDefEqProofs only [Option.bind_some, bd_some, b2i_0, Bool.true_eq_false, Bool.false_eq_true, eq_self, if_true, if_false, not_true_eq_false, not_false_eq_true, d0]
  have f2 : bX4_worthOf_71 1 (some 106) (n2 i) d 0 G (mkM b' n s (m.th 0)) = some (Int64.toInt32 ((if d = 0 then x.worth i else x.orders) / G), mkM b' n s (m.th 0)) := by
    show bX4_worthOf_71B _ _ _ _ _ _ _ = _
    unfold bX4_worthOf_71B bX4_worthOf_109
    rw [if_pos rfl]
    simp -implicitDefEqProofs only [Option.bind_some, bd_some, b2i_0, Bool.true_eq_false, Bool.false_eq_true, eq_self, if_true, if_false, not_true_eq_false, not_false_eq_true, gM_108, gM_106, aM_122, ifx_k i8 (show i < 2147483648 by omega), n2_nat (show i < 2147483648 by omega), dv, wm, om]
    by_cases d0 : d = 0
    · simp -implicitDefEqProofs only [Option.bind_some, bd_some, b2i_0, Bool.true_eq_false, Bool.false_eq_true, eq_self, if_true, if_false, not_true_eq_false, not_false_eq_true, d0]
    · simp -implicitDefEqProofs only [Option.bind_some, bd_some, b2i_0, Bool.true_eq_false, Bool.false_eq_true, eq_self, if_true, if_false, not_true_eq_false, not_false_eq_true, d0]
  simp -implicitDefEqProofs only [Option.bind_some, bd_some, b2i_0, Bool.true_eq_false, Bool.false_eq_true, eq_self, if_true, if_false, not_true_eq_false, not_false_eq_true, gX_17 R.hb, gX_15 R.hb, aX_99 R.hb, ifx_k i8 (show i < 2147483648 by omega), n2_nat (show i < 2147483648 by omega), b1, g2, f1, bcl, uX_130' R.hb, gM_106, aM_122, gM_108, om, wm]
  have fin : (if (0 : Int64) ≤ x.worth i then bX4_worthOf_71 fu (some 106) (n2 i) d (x.worth i) x.orders (mkM b' n s (m.th 0)) else bX4_worthOf_71 fu (some 106) (n2 i) d (-(x.worth i)) x.orders (mkM b' n s (m.th 0))) = some (Int64.toInt32 ((if d = 0 then x.worth i else x.orders) / G), mkM b' n s (m.th 0)) := by
    rw [← f2, ← g3, ← b3]
    split <;> rfl
  exact thr_no R R.hb rfl fin
end WorthOf
