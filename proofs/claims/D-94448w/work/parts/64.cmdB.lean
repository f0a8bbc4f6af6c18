set_option linter.unusedVariables false
set_option linter.unusedSimpArgs false
set_option maxRecDepth 100000
/-! ===== commands: laws, the tape ===== -/
section CmdB
variable {b b' : Mem} {n s : Nat} {x : XS} {m : MS} {H : HS} {C : List Cu} {h c : Nat} {K : Nat → Option (HS × List Cu)}
theorem rd_s' {k : Nat} (hk : k < 681) : aI (mkM b n s m) (some 108) (n2 k) = some (m.s k) := by rw [aM_108]; exact rd_s hk
theorem C_law (R : Duo b x m H C h c K) (a d : Int32) : ∃ r, fX1_law (some 64) a d (mkX b x) = some (r, mkX b x) ∧ fX4_law (some 106) a d (mkM b' n s m) = some (r, mkM b' n s (m.th 0)) := by
  have T := R.th (v := 0)
  unfold fX1_law fX4_law bX1_law_45
  simp -implicitDefEqProofs only [Option.bind_some, bd_some, b2i_0, Bool.true_eq_false, Bool.false_eq_true, eq_self, if_true, if_false, not_true_eq_false, not_false_eq_true, pM_55', X_isIn, M_isIn, gX_4 R.hb, R.xh, xh_37 R.XH, xh_38 R.XH, xh_39 R.XH, gM_61]
  cases e : decide ((0 : Int32) ≤ a ∧ a ≤ 5)
  · simp -implicitDefEqProofs only [Option.bind_some, bd_some, b2i_0, Bool.true_eq_false, Bool.false_eq_true, eq_self, if_true, if_false, not_true_eq_false, not_false_eq_true]; exact ⟨_, rfl, rfl⟩
  obtain ⟨k, -, hk, rfl⟩ := in_true (l := 0) (u := 5) (by decide) (by decide) e
  cases e2 : decide ((0 : Int32) ≤ d ∧ d ≤ 1)
  · simp -implicitDefEqProofs only [Option.bind_some, bd_some, b2i_0, Bool.true_eq_false, Bool.false_eq_true, eq_self, if_true, if_false, not_true_eq_false, not_false_eq_true]; exact ⟨_, rfl, rfl⟩
  obtain ⟨w, -, hw, rfl⟩ := in_true (l := 0) (u := 1) (by decide) (by decide) e2
  have k6 : k < 6 := by omega
  have ix : (86 : Int32) + (42 : Int32) * ((2 : Int32) * n2 k + n2 w) = n2 (86 + 42 * (2 * k + w)) := by
    rw [li_86, li_42, li_2, n2_mul, n2_add, n2_mul, n2_add]
  have ix2 : (6 : Int32) * n2 w + n2 k = n2 (6 * w + k) := by rw [li_6, n2_mul, n2_add]
  have l1 : 86 + 42 * (2 * k + w) < 681 := by omega
  have l2 : 6 * w + k < 12 := by omega
  have w0 : (n2 w = 0) = (w = 0) := by rw [li_0, n2_eq (by omega) (by decide)]
  simp -implicitDefEqProofs only [Option.bind_some, bd_some, b2i_0, Bool.true_eq_false, Bool.false_eq_true, eq_self, if_true, if_false, not_true_eq_false, not_false_eq_true, ix, ix2, rd_s' l1, xh_up R.XH k6, xh_down R.XH k6, xh_ones R.XH l2, w0]
  have ok := R.ok.dep
  rcases (by omega : w = 0 ∨ w = 1) with rfl | rfl
  · cases hl : H.law k 0 with
    | none =>
      have z : (m.th 0).s (86 + 42 * (2 * k + 0)) = 0 := R.MH.law0 k 0 k6 (by decide) hl
      simp -implicitDefEqProofs only [Option.bind_some, bd_some, b2i_0, Bool.true_eq_false, Bool.false_eq_true, eq_self, if_true, if_false, not_true_eq_false, not_false_eq_true, R.XH.up0 k k6 hl, z]
      exact ⟨_, rfl, rfl⟩
    | some co =>
      obtain ⟨cd, o⟩ := co
      obtain ⟨x1, a', x2, -⟩ := R.XH.up k cd o k6 hl
      obtain ⟨l, L⟩ := R.MH.law k 0 cd o k6 (by decide) hl
      have z : (m.th 0).s (86 + 42 * (2 * k + 0)) = n2 o := L.ones_
      have o2 := (ok k 0 cd o hl).2.2
      have oz : (n2 o = 0) = False := by rw [li_0, n2_eq (by omega) (by decide)]; exact eq_false (by omega)
      simp -implicitDefEqProofs only [Nat.mul_zero, Nat.zero_add, x1]
      simp -implicitDefEqProofs only [Option.bind_some, bd_some, b2i_0, Bool.true_eq_false, Bool.false_eq_true, eq_self, if_true, if_false, not_true_eq_false, not_false_eq_true, x2, z, oz, show (some a' = (none : Rf)) = False from eq_false (by simp)]
      exact ⟨_, rfl, rfl⟩
  · cases hl : H.law k 1 with
    | none =>
      have z : (m.th 0).s (86 + 42 * (2 * k + 1)) = 0 := R.MH.law0 k 1 k6 (by decide) hl
      simp -implicitDefEqProofs only [Option.bind_some, bd_some, b2i_0, Bool.true_eq_false, Bool.false_eq_true, eq_self, if_true, if_false, not_true_eq_false, not_false_eq_true, R.XH.down0 k k6 hl, z, show (1 : Nat) = 0 ↔ False by decide]
      exact ⟨_, rfl, rfl⟩
    | some co =>
      obtain ⟨cd, o⟩ := co
      obtain ⟨x1, a', x2, -⟩ := R.XH.down k cd o k6 hl
      obtain ⟨l, L⟩ := R.MH.law k 1 cd o k6 (by decide) hl
      have z : (m.th 0).s (86 + 42 * (2 * k + 1)) = n2 o := L.ones_
      have o2 := (ok k 1 cd o hl).2.2
      have oz : (n2 o = 0) = False := by rw [li_0, n2_eq (by omega) (by decide)]; exact eq_false (by omega)
      simp -implicitDefEqProofs only [Nat.mul_one, x1]
      simp -implicitDefEqProofs only [Option.bind_some, bd_some, b2i_0, Bool.true_eq_false, Bool.false_eq_true, eq_self, if_true, if_false, not_true_eq_false, not_false_eq_true, x2, z, oz, show (some a' = (none : Rf)) = False from eq_false (by simp), show (1 : Nat) = 0 ↔ False by decide]
      exact ⟨_, rfl, rfl⟩
/-- four bytes onto the tape -/
def tp4 (f : Nat → Int32) (k : Nat) (v : Int32) : Nat → Int32 := upq (upq (upq (upq f k (i2bv (shrI v 24)).toInt8.toInt32) (k + 1) (i2bv (shrI v 16)).toInt8.toInt32) (k + 2) (i2bv (shrI v 8)).toInt8.toInt32) (k + 3) (i2bv (shrI v 0)).toInt8.toInt32
def XS.tp (x : XS) (f : Nat → Int32) (k : Nat) : XS := (XS.mk (n2 k) (x.fault) (x.bought) (x.worthMany) (x.beganFirst) (x.beganSecond) (x.seed) (x.arranged) (x.paid) (x.hiss) (x.orders) (x.house) (x.cues) (f) (x.states) (x.asked) (x.carriesSet) (x.heights) (x.worth) (x.mouths) (x.sided) (x.keptHouse) (x.keptPaid) (x.keptHiss) (x.kMod) (x.kData) (x.kSize) (x.out) (x.n0) (x.n1))
def MS.tp (m : MS) (f : Nat → Int32) (k : Nat) : MS := (MS.mk (m.thrown) (n2 k) (m.seatsPaid) (m.seatsHiss) (m.lays) (m.arranged) (f) (m.s) (m.area) (m.kept) (m.keptPaid) (m.keptHiss) (m.isKept) (m.r) (m.h) (m.n) (m.c))
theorem tp_tpX (x : XS) (f g : Nat → Int32) (k j : Nat) : (x.tp f k).tp g j = x.tp g j := rfl
theorem tp_tpM (m : MS) (f g : Nat → Int32) (k j : Nat) : (m.tp f k).tp g j = m.tp g j := rfl
theorem X_come (hb : 131 ≤ mNx b) {k : Nat} {v : Int32} (hk : k + 4 ≤ 940) (hl : x.taped = n2 k) : fX1_come (some 64) v (mkX b x) = some ((), mkX b (x.tp (tp4 x.tape k v) (k + 4))) := by
  obtain ⟨f, hf⟩ : ∃ f, hcFuel = f + 5 := ⟨99995, rfl⟩
  have one : ∀ (z : XS) (g j : Nat) (w : Int32), z.taped = n2 j → j < 940 → ¬ w < 0 → bX1_come_3 (g + 1) (some 64) v w (mkX b z) = bX1_come_3 g (some 64) v (w + (-8)) (mkX b (z.tp (upq z.tape j (i2bv (shrI v w)).toInt8.toInt32) (j + 1))) := by
    intro z g j w hz hj hw
    show bX1_come_3B (bX1_come_3 g) _ _ _ _ = _
    unfold bX1_come_3B
    rw [if_neg hw, gX_1 hb, Option.bind_some, gX_2 hb, Option.bind_some, hz, uX_65 hb, ifx_k hj (by omega), Option.bind_some, gX_2 hb, Option.bind_some, pX_2 hb, Option.bind_some, n2_nat (by omega)]
    simp -implicitDefEqProofs only [gX_2 hb, gX_3 hb, gX_12 hb, gX_16 hb, gX_20 hb, gX_21 hb, gX_22 hb, gX_23 hb, gX_5 hb, gX_6 hb, gX_17 hb, gX_4 hb, gX_7 hb, gK_152 hb, gK_153 hb, gK_154 hb, gN_44 hb, gN_45 hb, gN_46 hb, gN_42 hb, gN_43 hb, gN_54 hb, gN_41 hb, gN_47 hb, gX_8 hb, gX_9 hb, gX_27 hb, gX_1 hb, gX_10 hb, gX_11 hb, gX_13 hb, gX_14 hb, gX_15 hb, gX_18 hb, gX_19 hb, gX_24 hb, gX_25 hb, gX_26 hb, gN_48 hb, gN_49 hb, gN_50 hb, gN_51 hb, gN_52 hb, gN_53 hb, aX_65 hb, nX_65 hb, aX_95 hb, nX_95 hb, aX_96 hb, nX_96 hb, aX_97 hb, nX_97 hb, aX_98 hb, nX_98 hb, aX_99 hb, nX_99 hb, aX_100 hb, nX_100 hb, aX_101 hb, nX_101 hb, aX_102 hb, nX_102 hb, aX_103 hb, nX_103 hb, aX_104 hb, nX_104 hb, aX_130 hb, nX_130 hb, aN_was hb, aN_level hb, aN_wasHeld hb, aN_held hb, aN_wasWith hb, aN_wth hb, ivX hb, ivN hb, ivK hb, pX_2 hb, pX_3 hb, pX_12 hb, pX_16 hb, pX_20 hb, pX_21 hb, pX_22 hb, pX_23 hb, pX_5 hb, pX_6 hb, pX_17 hb, pX_4 hb, pX_7 hb, pK_152 hb, pK_153 hb, pK_154 hb, pN_44 hb, pN_45 hb, pN_46 hb, pN_42 hb, pN_43 hb, pN_54 hb, pN_41 hb, pN_47 hb, uX_65 hb, uX_95 hb, uX_96 hb, uX_97 hb, uX_98 hb, uX_99 hb, uX_100 hb, uX_101 hb, uX_103 hb, uX_104 hb, uX_130 hb, uN_was hb, uN_level hb, uN_wasHeld hb, uN_held hb, uN_wasWith hb, uN_wth hb, Option.bind_some, bd_some, setN_n, setN_setN, setN_taped, setN_fault, setN_bought, setN_worthMany, setN_beganFirst, setN_beganSecond, setN_seed, setN_arranged, setN_paid, setN_hiss, setN_orders, setN_house, setN_cues, setN_tape, setN_states, setN_asked, setN_carriesSet, setN_heights, setN_worth, setN_mouths, setN_sided, setN_keptHouse, setN_keptPaid, setN_keptHiss, setN_kMod, setN_kData, setN_kSize, setN_out, NX.s_now, NX.s_next, NX.s_isStill, NX.s_paid, NX.s_hiss, NX.s_ahead, NX.s_h, NX.s_cues, NX.s_sw, NX.s_was, NX.s_level, NX.s_wasHeld, NX.s_held, NX.s_wasWith, NX.s_wth, mk_XS_taped, mk_XS_fault, mk_XS_bought, mk_XS_worthMany, mk_XS_beganFirst, mk_XS_beganSecond, mk_XS_seed, mk_XS_arranged, mk_XS_paid, mk_XS_hiss, mk_XS_orders, mk_XS_house, mk_XS_cues, mk_XS_tape, mk_XS_states, mk_XS_asked, mk_XS_carriesSet, mk_XS_heights, mk_XS_worth, mk_XS_mouths, mk_XS_sided, mk_XS_keptHouse, mk_XS_keptPaid, mk_XS_keptHiss, mk_XS_kMod, mk_XS_kData, mk_XS_kSize, mk_XS_out, mk_XS_n0, mk_XS_n1, mk_NX_now, mk_NX_next, mk_NX_isStill, mk_NX_paid, mk_NX_hiss, mk_NX_ahead, mk_NX_h, mk_NX_cues, mk_NX_sw, mk_NX_was, mk_NX_level, mk_NX_wasHeld, mk_NX_held, mk_NX_wasWith, mk_NX_wth, mk_NT_paid, mk_NT_hiss, mk_NT_c1, mk_NT_c2, mk_NT_lo, mk_NT_hi, mk_NT_next, mk_Ac_a1, mk_Ac_a2, mk_Ac_l, mk_Ac_h, hz, show n2 j + (1 : Int32) = n2 (j + 1) from n2_add j 1]
    rfl
  unfold fX1_come
  rw [hf, one x _ k _ hl (by omega) (by decide), one _ _ (k + 1) _ rfl (by omega) (by decide), one _ _ (k + 2) _ rfl (by omega) (by decide), one _ _ (k + 3) _ rfl (by omega) (by decide)]
  show bX1_come_3B _ _ _ _ _ = _
  unfold bX1_come_3B
  rw [if_pos (by decide)]
  rfl
theorem M_four {k : Nat} {v : Int32} (hk : k + 4 ≤ 940) (hl : m.length = n2 k) : fX4_four (some 106) v (mkM b n s m) = some ((), mkM b n s (m.tp (tp4 m.tape k v) (k + 4))) := by
  obtain ⟨f, hf⟩ : ∃ f, hcFuel = f + 5 := ⟨99995, rfl⟩
  have one : ∀ (z : MS) (g j : Nat) (w : Int32), z.length = n2 j → j < 940 → ¬ w < 0 → bX4_four_3 (g + 1) (some 106) v w (mkM b n s z) = bX4_four_3 g (some 106) v (w + (-8)) (mkM b n s (z.tp (upq z.tape j (i2bv (shrI v w)).toInt8.toInt32) (j + 1))) := by
    intro z g j w hz hj hw
    show bX4_four_3B (bX4_four_3 g) _ _ _ _ = _
    unfold bX4_four_3B
    rw [if_neg hw, gM_56, Option.bind_some, gM_57, Option.bind_some, hz, uM_107, ifx_k hj (by omega), Option.bind_some, gM_57, Option.bind_some, pM_57, Option.bind_some, n2_nat (by omega)]
    simp -implicitDefEqProofs only [gM_55, gM_57, gM_58, gM_59, gM_60, gM_64, gM_65, gM_66, gM_67, gM_68, gM_69, gM_70, gM_71, gM_72, gM_73, gM_74, gM_75, gM_76, gM_77, gM_81, gM_82, gM_83, gM_85, gM_86, gM_91, gM_92, gM_93, gM_94, gM_95, gM_96, gM_97, gM_98, gM_99, gM_100, gM_102, gM_103, gM_107, gM_108, gM_110, gM_111, gM_112, gM_113, gM_114, gM_115, gM_118, gM_119, gM_56, aM_107, nM_107, gM_61, aM_108, nM_108, gM_62, aM_109, nM_109, gM_63, aM_110, nM_110, gM_78, aM_111, nM_111, gM_79, aM_112, nM_112, gM_80, aM_113, nM_113, gM_84, aM_114, nM_114, gM_87, aM_115, nM_115, gM_88, aM_116, nM_116, gM_89, aM_117, nM_117, gM_90, aM_118, nM_118, gM_101, aM_119, nM_119, gM_104, aM_120, nM_120, gM_105, aM_121, nM_121, gM_106, aM_122, nM_122, gM_109, aM_123, nM_123, gM_116, aM_124, nM_124, gM_117, aM_125, nM_125, gM_120, aM_126, nM_126, gM_121, aM_127, nM_127, gM_122, aM_128, nM_128, gM_123, aM_129, nM_129, pM_55, pM_57, pM_58, pM_59, pM_60, pM_64, pM_65, pM_66, pM_67, pM_68, pM_69, pM_70, pM_71, pM_72, pM_73, pM_74, pM_75, pM_76, pM_77, pM_81, pM_82, pM_83, pM_85, pM_86, pM_91, pM_92, pM_93, pM_94, pM_95, pM_96, pM_97, pM_98, pM_99, pM_100, pM_102, pM_103, pM_107, pM_108, pM_110, pM_111, pM_112, pM_113, pM_114, pM_115, pM_118, pM_119, uM_107, uM_108, uM_109, uM_110, uM_111, uM_112, uM_113, uM_114, uM_115, uM_116, uM_117, uM_118, uM_119, uM_120, uM_121, uM_122, uM_123, uM_124, uM_125, uM_126, uM_127, uM_128, uM_129, ivM, Option.bind_some, bd_some, mk_MS_thrown, mk_MS_length, mk_MS_seatsPaid, mk_MS_seatsHiss, mk_MS_lays, mk_MS_arranged, mk_MS_tape, mk_MS_s, mk_MS_area, mk_MS_kept, mk_MS_keptPaid, mk_MS_keptHiss, mk_MS_isKept, mk_MS_r, mk_MS_h, mk_MS_n, mk_MS_c, mk_MR_size, mk_MR_p, mk_MR_limit, mk_MR_token, mk_MR_place, mk_MR_span, mk_MR_number, mk_MR_fault, mk_MR_faultAt, mk_MR_word, mk_MR_got, mk_MH_lines, mk_MH_prices, mk_MH_leavings, mk_MH_onces, mk_MH_codeMany, mk_MH_pileMany, mk_MH_ones, mk_MH_coming, mk_MH_hh, mk_MH_newCues, mk_MH_code, mk_MH_pile, mk_MN_paidNow, mk_MN_hissNow, mk_MN_clapping, mk_MN_standing, mk_MN_low, mk_MN_high, mk_MN_gone, mk_MN_cueNext, mk_MN_nightHeight, mk_MN_nightCarries, mk_MN_held, mk_MN_claps, mk_MN_stand, mk_MN_heldLow, mk_MN_heldHigh, mk_MC_askedMany, mk_MC_bought, mk_MC_worthMany, mk_MC_allOrders, mk_MC_hasSides, mk_MC_seenClaps, mk_MC_seenStand, mk_MC_seenAll, mk_MC_beganA, mk_MC_beganB, mk_MC_seed, mk_MC_asked, mk_MC_carried, mk_MC_heights, mk_MC_worths, mk_MC_side, mk_MC_otherClaps, mk_MC_otherStand, mk_NT_paid, mk_NT_hiss, mk_NT_c1, mk_NT_c2, mk_NT_lo, mk_NT_hi, mk_NT_next, mk_Ac_a1, mk_Ac_a2, mk_Ac_l, mk_Ac_h, hz, show n2 j + (1 : Int32) = n2 (j + 1) from n2_add j 1]
    rfl
  unfold fX4_four
  rw [hf, one m _ k _ hl (by omega) (by decide), one _ _ (k + 1) _ rfl (by omega) (by decide), one _ _ (k + 2) _ rfl (by omega) (by decide), one _ _ (k + 3) _ rfl (by omega) (by decide)]
  show bX4_four_3B _ _ _ _ _ = _
  unfold bX4_four_3B
  rw [if_pos (by decide)]
  rfl
theorem C_feed (R : Duo b x m H C h c K) (a1 a2 a3 a4 a5 : Int32) : ∃ r x' m', fX1_feed (some 64) a1 a2 a3 a4 a5 (mkX b x) = some (r, mkX b x') ∧ fX4_feed (some 106) a1 a2 a3 a4 a5 (mkM b' n s m) = some (r, mkM b' n s m') ∧ Duo b x' m' H C h c K := by
  obtain ⟨k, hk, k1, k2⟩ := R.len
  have T := R.th (v := 0)
  have k3 : (m.th 0).length = n2 k := k2
  have c1 : (n2 k + (20 : Int32) ≤ (940 : Int32)) = (k + 20 ≤ 940) := by rw [li_20, n2_add, li_940, n2_le (by omega) (by omega)]
  unfold fX1_feed fX4_feed
  rw [gX_2 R.hb, Option.bind_some, k1, pM_55', Option.bind_some, gM_57, Option.bind_some, k3]
  simp -implicitDefEqProofs only [c1]
  by_cases hc : k + 20 ≤ 940
  · rw [if_pos hc, if_pos hc, ivX R.hb, X_come R.hb (k := k) (by omega) k1, bd_some, ivX R.hb, X_come R.hb (k := k + 4) (by omega) rfl, bd_some, ivX R.hb, X_come R.hb (k := k + 4 + 4) (by omega) rfl, bd_some, ivX R.hb, X_come R.hb (k := k + 4 + 4 + 4) (by omega) rfl, bd_some, ivX R.hb, X_come R.hb (k := k + 4 + 4 + 4 + 4) (by omega) rfl, bd_some, gX_2 R.hb, Option.bind_some]
    rw [ivM, M_four (k := k) (by omega) k3, bd_some, ivM, M_four (k := k + 4) (by omega) rfl, bd_some, ivM, M_four (k := k + 4 + 4) (by omega) rfl, bd_some, ivM, M_four (k := k + 4 + 4 + 4) (by omega) rfl, bd_some, ivM, M_four (k := k + 4 + 4 + 4 + 4) (by omega) rfl, bd_some, gM_57, Option.bind_some]
    simp -implicitDefEqProofs only [tp_tpX, tp_tpM]
    refine ⟨n2 (k + 4 + 4 + 4 + 4 + 4), _, _, rfl, rfl, ⟨T.hb, T.fz, T.ok, T.ar, T.XH, T.xh, T.XC, T.xc, T.MH, T.MC, T.lays, T.l01, ?_, ⟨k + 4 + 4 + 4 + 4 + 4, by omega, rfl, rfl⟩, T.fault, T.paid, T.hiss, T.bought, T.worth, T.sided, T.b1, T.b2, T.arranged, T.kept, T.keptC⟩⟩
    show tp4 (tp4 (tp4 (tp4 (tp4 x.tape _ _) _ _) _ _) _ _) _ _ = tp4 (tp4 (tp4 (tp4 (tp4 (m.th 0).tape _ _) _ _) _ _) _ _) _ _
    rw [T.tape]
  · rw [if_neg hc, if_neg hc]; exact ⟨_, _, _, rfl, rfl, T⟩
end CmdB
