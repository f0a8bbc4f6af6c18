set_option linter.unusedVariables false
set_option linter.unusedSimpArgs false
set_option maxRecDepth 100000
/-! ===== commands: what is told ===== -/
section CmdA
variable {b b' : Mem} {n s : Nat} {x : XS} {m : MS} {H : HS} {C : List Cu} {h c : Nat} {K : Nat → Option (HS × List Cu)}
theorem C_fault (R : Duo b x m H C h c K) : ∃ r, fX1_fault (some 64) (mkX b x) = some (r, mkX b x) ∧ fX4_fault (some 106) (mkM b' n s m) = some (r, mkM b' n s (m.th 0)) := by
  refine ⟨x.fault, ?_, ?_⟩
  · unfold fX1_fault; rw [gX_3 R.hb, Option.bind_some]
  · unfold fX4_fault; rw [pM_55', Option.bind_some, gM_68, Option.bind_some, R.fault]; rfl
theorem C_bought (R : Duo b x m H C h c K) : ∃ r, fX1_bought (some 64) (mkX b x) = some (r, mkX b x) ∧ fX4_bought (some 106) (mkM b' n s m) = some (r, mkM b' n s (m.th 0)) := by
  refine ⟨x.bought, ?_, ?_⟩
  · unfold fX1_bought; rw [gX_12 R.hb, Option.bind_some]
  · unfold fX4_bought; rw [pM_55', Option.bind_some, gM_103, Option.bind_some, R.bought]; rfl
theorem C_arranged (R : Duo b x m H C h c K) : ∃ r, fX1_arranged (some 64) (mkX b x) = some (r, mkX b x) ∧ fX4_arranged (some 106) (mkM b' n s m) = some (r, mkM b' n s (m.th 0)) := by
  refine ⟨x.arranged, ?_, ?_⟩
  · unfold fX1_arranged; rw [gX_23 R.hb, Option.bind_some]
  · unfold fX4_arranged; rw [pM_55', Option.bind_some, gM_118, Option.bind_some, R.arranged]; rfl
theorem C_beganAt (R : Duo b x m H C h c K) (a : Int32) : ∃ r, fX1_beganAt (some 64) a (mkX b x) = some (r, mkX b x) ∧ fX4_beganAt (some 106) a (mkM b' n s m) = some (r, mkM b' n s (m.th 0)) := by
  unfold fX1_beganAt fX4_beganAt
  rw [pM_55', Option.bind_some]
  by_cases h0 : a = 0
  · rw [if_neg (fun c => c h0), if_neg (fun c => c h0), gX_20 R.hb, Option.bind_some, gM_114, Option.bind_some]
    exact ⟨_, rfl, by rw [R.b1]; rfl⟩
  · rw [if_pos h0, if_pos h0]
    by_cases h1 : a = 1
    · rw [if_neg (fun c => c h1), if_neg (fun c => c h1), gX_21 R.hb, Option.bind_some, gM_115, Option.bind_some]
      exact ⟨_, rfl, by rw [R.b2]; rfl⟩
    · rw [if_pos h1, if_pos h1]
      exact ⟨_, rfl, rfl⟩
theorem C_side (R : Duo b x m H C h c K) (a : Int32) : ∃ r, fX1_side (some 64) a (mkX b x) = some (r, mkX b x) ∧ fX4_side (some 106) a (mkM b' n s m) = some (r, mkM b' n s (m.th 0)) := by
  have e1 : (m.th 0).c.hasSides = m.c.hasSides := rfl
  have e2 : (m.th 0).c.side = m.c.side := rfl
  unfold fX1_side fX4_side bX4_side_30
  simp -implicitDefEqProofs only [Option.bind_some, bd_some, b2i_0, Bool.true_eq_false, Bool.false_eq_true, eq_self, if_true, if_false, not_true_eq_false, not_false_eq_true, pM_55', gM_110, X_isIn, M_isIn, gX_19 R.hb, gM_109, aX_101 R.hb, aM_123, e1, e2]
  cases e : decide ((0 : Int32) ≤ a ∧ a ≤ 2)
  · simp -implicitDefEqProofs only [Option.bind_some, bd_some, b2i_0, Bool.true_eq_false, Bool.false_eq_true, eq_self, if_true, if_false, not_true_eq_false, not_false_eq_true]
    refine ⟨-1, rfl, ?_⟩
    split <;> rfl
  · obtain ⟨k, -, hk, rfl⟩ := in_true (l := 0) (u := 2) (by decide) (by decide) e
    have k3 : k < 3 := by omega
    simp -implicitDefEqProofs only [Option.bind_some, bd_some, b2i_0, Bool.true_eq_false, Bool.false_eq_true, eq_self, if_true, if_false, not_true_eq_false, not_false_eq_true, ifx_k k3 (show k < 2147483648 by omega), n2_nat (show k < 2147483648 by omega)]
    rcases R.sided with ⟨s1, s2⟩ | ⟨s1, s2⟩
    · rw [s1, if_pos rfl, s2 k (by omega)]; exact ⟨-1, rfl, rfl⟩
    · rw [s1, if_neg (by decide), s2 k (by omega)]; exact ⟨_, rfl, rfl⟩
theorem C_end (R : Duo b x m H C h c K) (a : Int32) : ∃ r x' m', fX1_end (some 64) a (mkX b x) = some (r, mkX b x') ∧ fX4_end (some 106) a (mkM b' n s m) = some (r, mkM b' n s m') ∧ Duo b x' m' H C h c K := by
  obtain ⟨k, hk, k1, k2⟩ := R.len
  unfold fX1_end fX4_end
  rw [pM_55', Option.bind_some, gX_2 R.hb, Option.bind_some, gM_57, Option.bind_some, pX_2 R.hb, Option.bind_some, pM_57, Option.bind_some]
  show ∃ r x' m', _ ∧ (if a < 0 then _ else if a ≤ m.length then _ else _) = _ ∧ _
  rw [k1, k2]
  by_cases h0 : a < 0
  · rw [if_pos h0, if_pos h0]; exact ⟨_, _, _, rfl, rfl, R.th⟩
  · rw [if_neg h0, if_neg h0]
    by_cases h1 : a ≤ n2 k
    · rw [if_pos h1, if_pos h1]
      obtain ⟨j, rfl, j1⟩ := n2_of (Int32.not_lt.mp h0)
      rw [n2_le j1 (by omega)] at h1
      exact ⟨_, _, _, rfl, rfl, ⟨R.hb, R.fz, R.ok, R.ar, R.XH, R.xh, R.XC, R.xc, R.MH, R.MC, R.lays, R.l01, R.tape, ⟨j, by omega, rfl, rfl⟩, R.fault, R.paid, R.hiss, R.bought, R.worth, R.sided, R.b1, R.b2, R.arranged, R.kept, R.keptC⟩⟩
    · rw [if_neg h1, if_neg h1]; exact ⟨_, _, _, rfl, rfl, R.th⟩
theorem C_pay (R : Duo b x m H C h c K) (a d : Int32) : ∃ r x' m', fX1_pay (some 64) a d (mkX b x) = some (r, mkX b x') ∧ fX4_pay (some 106) a d (mkM b' n s m) = some (r, mkM b' n s m') ∧ Duo b x' m' H C h c K := by
  have T := R.th (v := 0)
  have e1 : x.paid = (m.th 0).seatsPaid := R.paid
  unfold fX1_pay fX4_pay bX4_pay_53 fX1_with
  simp -implicitDefEqProofs only [Option.bind_some, bd_some, b2i_0, Bool.true_eq_false, Bool.false_eq_true, eq_self, if_true, if_false, not_true_eq_false, not_false_eq_true, pM_55', gX_4 R.hb, R.xh, xh_iv R.XH, X_isSeatI R.XH R.ok, ivM, M_isSeatI T.MH R.ok, X_isIn, M_isIn, gX_5 R.hb, gM_71, pX_5 R.hb, pM_71]
  cases seatI H a
  · simp -implicitDefEqProofs only [Option.bind_some, bd_some, b2i_0, Bool.true_eq_false, Bool.false_eq_true, eq_self, if_true, if_false, not_true_eq_false, not_false_eq_true]; exact ⟨_, _, _, rfl, rfl, T⟩
  · cases decide ((0 : Int32) ≤ d ∧ d ≤ 1)
    · simp -implicitDefEqProofs only [Option.bind_some, bd_some, b2i_0, Bool.true_eq_false, Bool.false_eq_true, eq_self, if_true, if_false, not_true_eq_false, not_false_eq_true]; exact ⟨_, _, _, rfl, rfl, T⟩
    · by_cases h1 : d = 1
      · simp -implicitDefEqProofs only [Option.bind_some, bd_some, b2i_0, Bool.true_eq_false, Bool.false_eq_true, eq_self, if_true, if_false, not_true_eq_false, not_false_eq_true, h1, pX_5 R.hb, pM_71]
        exact ⟨_, _, _, rfl, rfl, ⟨T.hb, T.fz, T.ok, T.ar, T.XH, T.xh, T.XC, T.xc, T.MH, T.MC, T.lays, T.l01, T.tape, T.len, T.fault, by rw [← e1]; rfl, T.hiss, T.bought, T.worth, T.sided, T.b1, T.b2, T.arranged, T.kept, T.keptC⟩⟩
      · simp -implicitDefEqProofs only [Option.bind_some, bd_some, b2i_0, Bool.true_eq_false, Bool.false_eq_true, eq_self, if_true, if_false, not_true_eq_false, not_false_eq_true, h1, pX_5 R.hb, pM_71]
        exact ⟨_, _, _, rfl, rfl, ⟨T.hb, T.fz, T.ok, T.ar, T.XH, T.xh, T.XC, T.xc, T.MH, T.MC, T.lays, T.l01, T.tape, T.len, T.fault, by rw [← e1]; rfl, T.hiss, T.bought, T.worth, T.sided, T.b1, T.b2, T.arranged, T.kept, T.keptC⟩⟩
theorem C_hiss (R : Duo b x m H C h c K) (a d : Int32) : ∃ r x' m', fX1_hiss (some 64) a d (mkX b x) = some (r, mkX b x') ∧ fX4_hiss (some 106) a d (mkM b' n s m) = some (r, mkM b' n s m') ∧ Duo b x' m' H C h c K := by
  have T := R.th (v := 0)
  have e1 : x.hiss = (m.th 0).seatsHiss := R.hiss
  unfold fX1_hiss fX4_hiss bX4_hiss_53 fX1_with
  simp -implicitDefEqProofs only [Option.bind_some, bd_some, b2i_0, Bool.true_eq_false, Bool.false_eq_true, eq_self, if_true, if_false, not_true_eq_false, not_false_eq_true, pM_55', gX_4 R.hb, R.xh, xh_iv R.XH, X_isSeatI R.XH R.ok, ivM, M_isSeatI T.MH R.ok, X_isIn, M_isIn, gX_6 R.hb, gM_72, pX_6 R.hb, pM_72]
  cases seatI H a
  · simp -implicitDefEqProofs only [Option.bind_some, bd_some, b2i_0, Bool.true_eq_false, Bool.false_eq_true, eq_self, if_true, if_false, not_true_eq_false, not_false_eq_true]; exact ⟨_, _, _, rfl, rfl, T⟩
  · cases decide ((0 : Int32) ≤ d ∧ d ≤ 1)
    · simp -implicitDefEqProofs only [Option.bind_some, bd_some, b2i_0, Bool.true_eq_false, Bool.false_eq_true, eq_self, if_true, if_false, not_true_eq_false, not_false_eq_true]; exact ⟨_, _, _, rfl, rfl, T⟩
    · by_cases h1 : d = 1
      · simp -implicitDefEqProofs only [Option.bind_some, bd_some, b2i_0, Bool.true_eq_false, Bool.false_eq_true, eq_self, if_true, if_false, not_true_eq_false, not_false_eq_true, h1, pX_6 R.hb, pM_72]
        exact ⟨_, _, _, rfl, rfl, ⟨T.hb, T.fz, T.ok, T.ar, T.XH, T.xh, T.XC, T.xc, T.MH, T.MC, T.lays, T.l01, T.tape, T.len, T.fault, T.paid, by rw [← e1]; rfl, T.bought, T.worth, T.sided, T.b1, T.b2, T.arranged, T.kept, T.keptC⟩⟩
      · simp -implicitDefEqProofs only [Option.bind_some, bd_some, b2i_0, Bool.true_eq_false, Bool.false_eq_true, eq_self, if_true, if_false, not_true_eq_false, not_false_eq_true, h1, pX_6 R.hb, pM_72]
        exact ⟨_, _, _, rfl, rfl, ⟨T.hb, T.fz, T.ok, T.ar, T.XH, T.xh, T.XC, T.xc, T.MH, T.MC, T.lays, T.l01, T.tape, T.len, T.fault, T.paid, by rw [← e1]; rfl, T.bought, T.worth, T.sided, T.b1, T.b2, T.arranged, T.kept, T.keptC⟩⟩
theorem C_count (R : Duo b x m H C h c K) (a : Int32) : ∃ r, fX1_count (some 64) a (mkX b x) = some (r, mkX b x) ∧ fX4_count (some 106) a (mkM b' n s m) = some (r, mkM b' n s (m.th 0)) := by
  have hs : ∀ k, k < 681 → aI (mkM b' n s (m.th 0)) (some 108) (n2 k) = some (m.s k) := fun k hk => by rw [aM_108]; exact rd_s (m := m) hk
  have ins : ∀ k, k ≤ 5 → decide ((0 : Int32) ≤ n2 k ∧ n2 k ≤ 5) = true := fun k hk => decide_eq_true ⟨n2_pos (by omega), by rw [li_5, n2_le (by omega) (by omega)]; exact hk⟩
  have inr : ∀ k, 5 < k → k < 10 → decide ((0 : Int32) ≤ n2 k ∧ n2 k ≤ 5) = false := fun k hk h10 => decide_eq_false (fun hc => by rw [li_5, n2_le (by omega) (by omega)] at hc; omega)
  have m1 : ∀ k, k ≤ 5 → fX4_count (some 106) (n2 k) (mkM b' n s m) = some (m.s k, mkM b' n s (m.th 0)) := fun k hk => by
    unfold fX4_count
    simp -implicitDefEqProofs only [Option.bind_some, bd_some, b2i_0, Bool.true_eq_false, Bool.false_eq_true, eq_self, if_true, if_false, not_true_eq_false, not_false_eq_true, pM_55', M_isIn, ins k hk, gM_61, hs k (show k < 681 by omega)]
  unfold fX1_count
  by_cases h0 : a = 0
  · rw [if_pos h0, h0, li_0, m1 0 (by omega), gX_4 R.hb, Option.bind_some, R.xh, xh_28 R.XH, Option.bind_some]
    exact ⟨_, rfl, by rw [R.MH.rows]; rfl⟩
  rw [if_neg h0]
  by_cases h1 : a = 1
  · rw [if_pos h1, h1, li_1, m1 1 (by omega), gX_4 R.hb, Option.bind_some, R.xh, xh_29 R.XH, Option.bind_some]
    exact ⟨_, rfl, by rw [R.MH.cols]⟩
  rw [if_neg h1]
  by_cases h2 : a = 2
  · rw [if_pos h2, h2, li_2, m1 2 (by omega), gX_4 R.hb, Option.bind_some, R.xh, xh_iv R.XH, X_seats R.XH R.ok, bd_some]
    exact ⟨_, rfl, by rw [R.MH.seats]⟩
  rw [if_neg h2]
  by_cases h3 : a = 3
  · rw [if_pos h3, h3, li_3, m1 3 (by omega), gX_4 R.hb, Option.bind_some, R.xh, xh_30 R.XH, Option.bind_some]
    exact ⟨_, rfl, by rw [R.MH.carry]⟩
  rw [if_neg h3]
  by_cases h4 : a = 4
  · rw [if_pos h4, h4, li_4, m1 4 (by omega), gX_4 R.hb, Option.bind_some, R.xh, xh_31 R.XH, Option.bind_some]
    exact ⟨_, rfl, by rw [R.MH.paid]⟩
  rw [if_neg h4]
  by_cases h5 : a = 5
  · rw [if_pos h5, h5, li_5, m1 5 (by omega), gX_4 R.hb, Option.bind_some, R.xh, xh_33 R.XH, Option.bind_some, R.MH.byRows]
    cases H.byRows
    · exact ⟨_, rfl, rfl⟩
    · exact ⟨_, rfl, rfl⟩
  rw [if_neg h5]
  have out : decide ((0 : Int32) ≤ a ∧ a ≤ 5) = false := by
    cases e : decide ((0 : Int32) ≤ a ∧ a ≤ 5)
    · rfl
    · obtain ⟨k, -, hk, rfl⟩ := in_true (l := 0) (u := 5) (by decide) (by decide) e
      rw [li_0, n2_eq (by omega) (by decide)] at h0
      rw [li_1, n2_eq (by omega) (by decide)] at h1
      rw [li_2, n2_eq (by omega) (by decide)] at h2
      rw [li_3, n2_eq (by omega) (by decide)] at h3
      rw [li_4, n2_eq (by omega) (by decide)] at h4
      rw [li_5, n2_eq (by omega) (by decide)] at h5
      omega
  unfold fX4_count
  simp -implicitDefEqProofs only [Option.bind_some, bd_some, b2i_0, Bool.true_eq_false, Bool.false_eq_true, eq_self, if_true, if_false, not_true_eq_false, not_false_eq_true, pM_55', M_isIn, out, gX_5 R.hb, gX_6 R.hb, gM_71, gM_72, gM_57, gX_2 R.hb, gX_7 R.hb, R.xc, xc_iv R.XC, xc_size R.XC, pcX, pcM, gM_61, li_590, hs 590 (show 590 < 681 by decide), R.MC.many]
  by_cases h6 : a = 6
  · simp -implicitDefEqProofs only [Option.bind_some, bd_some, b2i_0, Bool.true_eq_false, Bool.false_eq_true, eq_self, if_true, if_false, not_true_eq_false, not_false_eq_true, h6]; exact ⟨_, rfl, by rw [R.paid]; rfl⟩
  by_cases h7 : a = 7
  · simp -implicitDefEqProofs only [Option.bind_some, bd_some, b2i_0, Bool.true_eq_false, Bool.false_eq_true, eq_self, if_true, if_false, not_true_eq_false, not_false_eq_true, h6, h7]
    exact ⟨_, rfl, by rw [R.hiss]; rfl⟩
  by_cases h8 : a = 8
  · obtain ⟨k, hk, k1, k2⟩ := R.len
    simp -implicitDefEqProofs only [Option.bind_some, bd_some, b2i_0, Bool.true_eq_false, Bool.false_eq_true, eq_self, if_true, if_false, not_true_eq_false, not_false_eq_true, h6, h7, h8]
    exact ⟨_, rfl, by rw [k1, ← k2]; rfl⟩
  by_cases h9 : a = 9
  · simp -implicitDefEqProofs only [Option.bind_some, bd_some, b2i_0, Bool.true_eq_false, Bool.false_eq_true, eq_self, if_true, if_false, not_true_eq_false, not_false_eq_true, h6, h7, h8, h9]
    exact ⟨_, rfl, rfl⟩
  simp -implicitDefEqProofs only [Option.bind_some, bd_some, b2i_0, Bool.true_eq_false, Bool.false_eq_true, eq_self, if_true, if_false, not_true_eq_false, not_false_eq_true, h6, h7, h8, h9]
  exact ⟨_, rfl, rfl⟩
end CmdA
