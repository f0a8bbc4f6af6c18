set_option linter.unusedVariables false
set_option linter.unusedSimpArgs false
set_option maxRecDepth 100000
/-! ===== commands: image ===== -/
def XS.im (x : XS) (k : Nat) (h : Rf) (p q : Int64) : XS := (XS.mk (x.taped) (x.fault) (x.bought) (x.worthMany) (x.beganFirst) (x.beganSecond) (x.seed) (x.arranged) (x.paid) (x.hiss) (x.orders) (x.house) (x.cues) (x.tape) (x.states) (x.asked) (x.carriesSet) (x.heights) (x.worth) (x.mouths) (x.sided) (upq x.keptHouse k h) (upq x.keptPaid k p) (upq x.keptHiss k q) (x.kMod) (x.kData) (x.kSize) (x.out) (x.n0) (x.n1))
def XS.kl (x : XS) (u : Int32) (d : Rf) (z : Int32) : XS := (XS.mk (x.taped) (x.fault) (x.bought) (x.worthMany) (x.beganFirst) (x.beganSecond) (x.seed) (x.arranged) (x.paid) (x.hiss) (x.orders) (x.house) (x.cues) (x.tape) (x.states) (x.asked) (x.carriesSet) (x.heights) (x.worth) (x.mouths) (x.sided) (x.keptHouse) (x.keptPaid) (x.keptHiss) (u) (d) (z) (x.out) (x.n0) (x.n1))
def MS.kp (m : MS) (f : Nat → Int32) : MS := (MS.mk (m.thrown) (m.length) (m.seatsPaid) (m.seatsHiss) (m.lays) (m.arranged) (m.tape) (m.s) (m.area) (f) (m.keptPaid) (m.keptHiss) (m.isKept) (m.r) (m.h) (m.n) (m.c))
def MS.im (m : MS) (f : Nat → Int32) (p q : Nat → Int64) (i : Nat → Int32) : MS := (MS.mk (m.thrown) (m.length) (m.seatsPaid) (m.seatsHiss) (m.lays) (m.arranged) (m.tape) (m.s) (m.area) (f) (p) (q) (i) (m.r) (m.h) (m.n) (m.c))
section Image
variable {b b' : Mem} {n s : Nat} {x : XS} {m : MS} {H : HS} {C : List Cu} {h c d : Nat} {K : Nat → Option (HS × List Cu)}
theorem kp_s {f : Nat → Int32} : (m.kp f).s = m.s := rfl
theorem kp_kept {f : Nat → Int32} : (m.kp f).kept = f := rfl
theorem kp_im {f g : Nat → Int32} {p q : Nat → Int64} {i : Nat → Int32} : (m.kp f).im g p q i = m.im g p q i := by simp -implicitDefEqProofs only [gM_55, gM_57, gM_58, gM_59, gM_60, gM_64, gM_65, gM_66, gM_67, gM_68, gM_69, gM_70, gM_71, gM_72, gM_73, gM_74, gM_75, gM_76, gM_77, gM_81, gM_82, gM_83, gM_85, gM_86, gM_91, gM_92, gM_93, gM_94, gM_95, gM_96, gM_97, gM_98, gM_99, gM_100, gM_102, gM_103, gM_107, gM_108, gM_110, gM_111, gM_112, gM_113, gM_114, gM_115, gM_118, gM_119, gM_56, aM_107, nM_107, gM_61, aM_108, nM_108, gM_62, aM_109, nM_109, gM_63, aM_110, nM_110, gM_78, aM_111, nM_111, gM_79, aM_112, nM_112, gM_80, aM_113, nM_113, gM_84, aM_114, nM_114, gM_87, aM_115, nM_115, gM_88, aM_116, nM_116, gM_89, aM_117, nM_117, gM_90, aM_118, nM_118, gM_101, aM_119, nM_119, gM_104, aM_120, nM_120, gM_105, aM_121, nM_121, gM_106, aM_122, nM_122, gM_109, aM_123, nM_123, gM_116, aM_124, nM_124, gM_117, aM_125, nM_125, gM_120, aM_126, nM_126, gM_121, aM_127, nM_127, gM_122, aM_128, nM_128, gM_123, aM_129, nM_129, pM_55, pM_57, pM_58, pM_59, pM_60, pM_64, pM_65, pM_66, pM_67, pM_68, pM_69, pM_70, pM_71, pM_72, pM_73, pM_74, pM_75, pM_76, pM_77, pM_81, pM_82, pM_83, pM_85, pM_86, pM_91, pM_92, pM_93, pM_94, pM_95, pM_96, pM_97, pM_98, pM_99, pM_100, pM_102, pM_103, pM_107, pM_108, pM_110, pM_111, pM_112, pM_113, pM_114, pM_115, pM_118, pM_119, uM_107, uM_108, uM_109, uM_110, uM_111, uM_112, uM_113, uM_114, uM_115, uM_116, uM_117, uM_118, uM_119, uM_120, uM_121, uM_122, uM_123, uM_124, uM_125, uM_126, uM_127, uM_128, uM_129, ivM, Option.bind_some, bd_some, mk_MS_thrown, mk_MS_length, mk_MS_seatsPaid, mk_MS_seatsHiss, mk_MS_lays, mk_MS_arranged, mk_MS_tape, mk_MS_s, mk_MS_area, mk_MS_kept, mk_MS_keptPaid, mk_MS_keptHiss, mk_MS_isKept, mk_MS_r, mk_MS_h, mk_MS_n, mk_MS_c, mk_MR_size, mk_MR_p, mk_MR_limit, mk_MR_token, mk_MR_place, mk_MR_span, mk_MR_number, mk_MR_fault, mk_MR_faultAt, mk_MR_word, mk_MR_got, mk_MH_lines, mk_MH_prices, mk_MH_leavings, mk_MH_onces, mk_MH_codeMany, mk_MH_pileMany, mk_MH_ones, mk_MH_coming, mk_MH_hh, mk_MH_newCues, mk_MH_code, mk_MH_pile, mk_MN_paidNow, mk_MN_hissNow, mk_MN_clapping, mk_MN_standing, mk_MN_low, mk_MN_high, mk_MN_gone, mk_MN_cueNext, mk_MN_nightHeight, mk_MN_nightCarries, mk_MN_held, mk_MN_claps, mk_MN_stand, mk_MN_heldLow, mk_MN_heldHigh, mk_MC_askedMany, mk_MC_bought, mk_MC_worthMany, mk_MC_allOrders, mk_MC_hasSides, mk_MC_seenClaps, mk_MC_seenStand, mk_MC_seenAll, mk_MC_beganA, mk_MC_beganB, mk_MC_seed, mk_MC_asked, mk_MC_carried, mk_MC_heights, mk_MC_worths, mk_MC_side, mk_MC_otherClaps, mk_MC_otherStand, mk_NT_paid, mk_NT_hiss, mk_NT_c1, mk_NT_c2, mk_NT_lo, mk_NT_hi, mk_NT_next, mk_Ac_a1, mk_Ac_a2, mk_Ac_l, mk_Ac_h, MS.kp, MS.im]
theorem kp_kp {f : Nat → Int32} : (m.kp f).keptPaid = m.keptPaid := rfl
theorem kp_kh {f : Nat → Int32} : (m.kp f).keptHiss = m.keptHiss := rfl
theorem kp_ik {f : Nat → Int32} : (m.kp f).isKept = m.isKept := rfl
theorem kp_sp {f : Nat → Int32} : (m.kp f).seatsPaid = m.seatsPaid := rfl
theorem kp_sh {f : Nat → Int32} : (m.kp f).seatsHiss = m.seatsHiss := rfl
theorem M_im {q : Nat} (hq : q < 2) : ∀ (k f i : Nat) (m : MS), i + k = 681 → k < f → (∀ j, j < i → m.kept (681 * q + j) = m.s j) →
    ∃ S, bX4_image_18 f (some 106) (n2 q) (n2 i) (mkM b' n s m) = some (1, mkM b' n s (m.im S (upq m.keptPaid q m.seatsPaid) (upq m.keptHiss q m.seatsHiss) (upq m.isKept q 1))) ∧ (∀ j, j < 681 → S (681 * q + j) = m.s j) ∧ ∀ j, (j < 681 * q ∨ 681 * q + 681 ≤ j) → S j = m.kept j := by
  intro k
  induction k with
  | zero =>
    intro f i m hk hf hj
    obtain ⟨f, rfl⟩ : ∃ g, f = g + 1 := ⟨f - 1, by omega⟩
    have e : i = 681 := by omega
    subst e
    refine ⟨m.kept, ?_, hj, fun j _ => rfl⟩
    show bX4_image_18B _ _ _ _ _ = _
    unfold bX4_image_18B
    rw [if_pos (by decide)]
    simp -implicitDefEqProofs only [gM_55, gM_57, gM_58, gM_59, gM_60, gM_64, gM_65, gM_66, gM_67, gM_68, gM_69, gM_70, gM_71, gM_72, gM_73, gM_74, gM_75, gM_76, gM_77, gM_81, gM_82, gM_83, gM_85, gM_86, gM_91, gM_92, gM_93, gM_94, gM_95, gM_96, gM_97, gM_98, gM_99, gM_100, gM_102, gM_103, gM_107, gM_108, gM_110, gM_111, gM_112, gM_113, gM_114, gM_115, gM_118, gM_119, gM_56, aM_107, nM_107, gM_61, aM_108, nM_108, gM_62, aM_109, nM_109, gM_63, aM_110, nM_110, gM_78, aM_111, nM_111, gM_79, aM_112, nM_112, gM_80, aM_113, nM_113, gM_84, aM_114, nM_114, gM_87, aM_115, nM_115, gM_88, aM_116, nM_116, gM_89, aM_117, nM_117, gM_90, aM_118, nM_118, gM_101, aM_119, nM_119, gM_104, aM_120, nM_120, gM_105, aM_121, nM_121, gM_106, aM_122, nM_122, gM_109, aM_123, nM_123, gM_116, aM_124, nM_124, gM_117, aM_125, nM_125, gM_120, aM_126, nM_126, gM_121, aM_127, nM_127, gM_122, aM_128, nM_128, gM_123, aM_129, nM_129, pM_55, pM_57, pM_58, pM_59, pM_60, pM_64, pM_65, pM_66, pM_67, pM_68, pM_69, pM_70, pM_71, pM_72, pM_73, pM_74, pM_75, pM_76, pM_77, pM_81, pM_82, pM_83, pM_85, pM_86, pM_91, pM_92, pM_93, pM_94, pM_95, pM_96, pM_97, pM_98, pM_99, pM_100, pM_102, pM_103, pM_107, pM_108, pM_110, pM_111, pM_112, pM_113, pM_114, pM_115, pM_118, pM_119, uM_107, uM_108, uM_109, uM_110, uM_111, uM_112, uM_113, uM_114, uM_115, uM_116, uM_117, uM_118, uM_119, uM_120, uM_121, uM_122, uM_123, uM_124, uM_125, uM_126, uM_127, uM_128, uM_129, ivM, Option.bind_some, bd_some, mk_MS_thrown, mk_MS_length, mk_MS_seatsPaid, mk_MS_seatsHiss, mk_MS_lays, mk_MS_arranged, mk_MS_tape, mk_MS_s, mk_MS_area, mk_MS_kept, mk_MS_keptPaid, mk_MS_keptHiss, mk_MS_isKept, mk_MS_r, mk_MS_h, mk_MS_n, mk_MS_c, mk_MR_size, mk_MR_p, mk_MR_limit, mk_MR_token, mk_MR_place, mk_MR_span, mk_MR_number, mk_MR_fault, mk_MR_faultAt, mk_MR_word, mk_MR_got, mk_MH_lines, mk_MH_prices, mk_MH_leavings, mk_MH_onces, mk_MH_codeMany, mk_MH_pileMany, mk_MH_ones, mk_MH_coming, mk_MH_hh, mk_MH_newCues, mk_MH_code, mk_MH_pile, mk_MN_paidNow, mk_MN_hissNow, mk_MN_clapping, mk_MN_standing, mk_MN_low, mk_MN_high, mk_MN_gone, mk_MN_cueNext, mk_MN_nightHeight, mk_MN_nightCarries, mk_MN_held, mk_MN_claps, mk_MN_stand, mk_MN_heldLow, mk_MN_heldHigh, mk_MC_askedMany, mk_MC_bought, mk_MC_worthMany, mk_MC_allOrders, mk_MC_hasSides, mk_MC_seenClaps, mk_MC_seenStand, mk_MC_seenAll, mk_MC_beganA, mk_MC_beganB, mk_MC_seed, mk_MC_asked, mk_MC_carried, mk_MC_heights, mk_MC_worths, mk_MC_side, mk_MC_otherClaps, mk_MC_otherStand, mk_NT_paid, mk_NT_hiss, mk_NT_c1, mk_NT_c2, mk_NT_lo, mk_NT_hi, mk_NT_next, mk_Ac_a1, mk_Ac_a2, mk_Ac_l, mk_Ac_h, ifx_k hq (show q < 2147483648 by omega), n2_nat (show q < 2147483648 by omega), MS.im, show nz (1 : Int32) = 1 from by decide]
  | succ k ih =>
    intro f i m hk hf hj
    obtain ⟨f, rfl⟩ : ∃ g, f = g + 1 := ⟨f - 1, by omega⟩
    have i681 : i < 681 := by omega
    have le : ((681 : Int32) ≤ n2 i) = False := by rw [li_681, n2_le (by omega) (by omega)]; exact eq_false (by omega)
    have ix : (681 : Int32) * n2 q + n2 i = n2 (681 * q + i) := by rw [li_681, n2_mul, n2_add]
    have lx : 681 * q + i < 1362 := by omega
    have us : uI (mkM b' n s m) (some 126) (n2 (681 * q + i)) (m.s i) = some (mkM b' n s (m.kp (upq m.kept (681 * q + i) (m.s i)))) := by
      rw [uM_126, ifx_k lx (by omega), n2_nat (by omega)]; unfold MS.kp; rfl
    obtain ⟨S, e1, J, J2⟩ := ih f (i + 1) (m.kp (upq m.kept (681 * q + i) (m.s i))) (by omega) (by omega) (fun j h2 => by
      rw [kp_s, kp_kept]
      by_cases e : j = i
      · rw [e, upq_self]
      · rw [upq_ne _ _ (by omega)]; exact hj j (by omega))
    rw [kp_im, kp_kp, kp_kh, kp_ik, kp_sp, kp_sh] at e1
    refine ⟨S, Eq.trans ?_ e1, J, fun j h2 => by rw [J2 j h2, kp_kept, upq_ne _ _ (by omega)]⟩
    show bX4_image_18B (bX4_image_18 f) _ _ _ _ = _
    unfold bX4_image_18B
    simp -implicitDefEqProofs only [Option.bind_some, bd_some, b2i_0, Bool.true_eq_false, Bool.false_eq_true, eq_self, if_true, if_false, not_true_eq_false, not_false_eq_true, le, gM_61, gM_120, ix, rd_s' i681, us, show n2 i + 1 = n2 (i + 1) from n2_add i 1]
/-- an element written into an array of lists -/
theorem uA_dyn (hb : 131 ≤ mNx b) (hd : dyn d) (h64 : 64 ≤ d) (hl : d < mNx b) (ht : mTag b d = 104) {i : Nat} (hi : i < mLen b d) (hi2 : i < 1000) (hc : dyn c) (hcl : c < mNx b) (hct : mTag b c = 18) :
    ∃ st, uA (mkX b x) (some d) (n2 i) (some c) = some (mkX st x) ∧ mNx st = mNx b ∧ mNs st = mNs b ∧ (∀ a, a ≠ d → dyn a → Sm b st a) ∧ mTag st d = 104 ∧ mLen st d = mLen b d ∧ mA st d i = some c ∧ ∀ j, j ≠ i → mA st d j = mA b d j := by
  have sm : ∀ a, a ≠ d → Sm (mkX b x) (mSA (mkX b x) d i (some c)) a := fun a ha => ⟨rfl, rfl, rfl, rfl, by
    funext j; show up2 _ _ _ _ _ _ = _; unfold up2; rw [if_neg ha]; rfl⟩
  have e1 : mkX (mSA (mkX b x) d i (some c)) x = mSA (mkX b x) d i (some c) := mkX_same (b := b) (fun a ha => sm a (fun e => ha (by rw [e]; exact hd)))
  refine ⟨mSA (mkX b x) d i (some c), ?_, rfl, rfl, fun a ha hda => ?_, (ov_tag (x := x) hd).trans ht, ov_len (x := x) hd, ?_, fun j hj => ?_⟩
  · rw [e1]
    have cond : 64 ≤ d ∧ d < mNx (mkX b x) ∧ (0 : Int32) ≤ n2 i ∧ (n2 i).toNatClampNeg < mLen (mkX b x) d ∧ c < mNx (mkX b x) ∧ asg (mTag (mkX b x) d) (mTag (mkX b x) c) = true := ⟨h64, hl, n2_pos (by omega), by rw [n2_nat (by omega), ov_len hd]; exact hi, hcl, by rw [ov_tag hd, ov_tag hc, ht, hct]; decide⟩
    refine (if_pos cond).trans ?_
    rw [n2_nat (by omega)]
  · obtain ⟨s1, s2, s3, s4, s5⟩ := sm a ha
    exact ⟨s1.trans (ov_tag hda), s2.trans (ov_len hda), s3.trans (ov_I hda), s4.trans (ov_J hda), s5.trans (ov_A hda)⟩
  · show up2 _ _ _ _ _ _ = _; unfold up2; rw [if_pos rfl, if_pos rfl]
  · show up2 _ _ _ _ _ _ = _; unfold up2; rw [if_pos rfl, if_neg hj]
    show mA (mkX b x) d j = _; rw [ov_A hd]
theorem XCues.setK {st : Mem} {i : Nat} (X : XCues b c C) (hx : mNx st = mNx b) (hs : ∀ a, a ≠ d → dyn a → Sm b st a) (ht : mTag b d = 104) (h1 : mTag st d = 104) (h2 : mLen st d = mLen b d) (h3 : ∀ j, j ≠ i → mA st d j = mA b d j) (h4 : ∃ e, mA b d i = some e ∧ mTag b e = 18) : XCues st c C := by
  have nd : c ≠ d := fun e => by have := X.tag; rw [e, ht] at this; exact absurd this (by decide)
  have E : ExtT b st := ⟨by rw [hx]; exact Nat.le_refl _, fun a ha hd hne => hs a (fun e => hne (by rw [e]; exact ht)) hd⟩
  have s := hs c nd X.dn.1
  refine ⟨⟨X.dn.1, by rw [hx]; exact X.dn.2⟩, s.1.trans X.tag, by rw [s.2.2.1]; exact X.size, X.len, X.ok, ?_⟩
  obtain ⟨d', d1, ⟨d2, d3⟩, d4, d5, d6⟩ := X.data
  refine ⟨d', by rw [s.2.2.2.2]; exact d1, ⟨d2, by rw [hx]; exact d3⟩, ?_, ?_, fun j hj => ?_⟩
  · by_cases e : d' = d
    · rw [e]; exact h1
    · exact (hs d' e d2).1.trans d4
  · by_cases e : d' = d
    · rw [e, h2, ← e]; exact d5
    · rw [(hs d' e d2).2.1]; exact d5
  · obtain ⟨e0, q1, q2⟩ := d6 j hj
    refine ⟨e0, ?_, q2.extT E⟩
    by_cases e : d' = d
    · by_cases ej : j = i
      · exfalso
        obtain ⟨e2, r1, r2⟩ := h4
        rw [ej, e, r1] at q1
        have := Option.some.inj q1
        have tg := cu_tag q2
        rw [← this, r2] at tg
        omega
      · rw [e, h3 j ej, ← e]; exact q1
    · rw [(hs d' e d2).2.2.2.2]; exact q1
theorem im_eq (hb : 131 ≤ mNx b) {q : Nat} (hq : q < 2) (hl : h < mNx b) (ht : mTag (mkX b x) h = 2) (g : Mem → Option (Int32 × Mem)) : ((uA (mkX b x) (some 102) (n2 q) (some h)).bind fun st => (gA st (some 64) 25).bind fun x22 => (gJ st (some 64) 5).bind fun x27 => (uJ st x22 (n2 q) x27).bind fun st => (gA st (some 64) 26).bind fun x32 => (gJ st (some 64) 6).bind fun x37 => (uJ st x32 (n2 q) x37).bind g) = g (mkX b (x.im q (some h) x.paid x.hiss)) := by
  have q31 : q < 2147483648 := by omega
  rw [uX_102 hb hl ht, ifx_k hq q31, Option.bind_some, n2_nat q31]
  simp -implicitDefEqProofs only [gX_2 hb, gX_3 hb, gX_12 hb, gX_16 hb, gX_20 hb, gX_21 hb, gX_22 hb, gX_23 hb, gX_5 hb, gX_6 hb, gX_17 hb, gX_4 hb, gX_7 hb, gK_152 hb, gK_153 hb, gK_154 hb, gN_44 hb, gN_45 hb, gN_46 hb, gN_42 hb, gN_43 hb, gN_54 hb, gN_41 hb, gN_47 hb, gX_8 hb, gX_9 hb, gX_27 hb, gX_1 hb, gX_10 hb, gX_11 hb, gX_13 hb, gX_14 hb, gX_15 hb, gX_18 hb, gX_19 hb, gX_24 hb, gX_25 hb, gX_26 hb, gN_48 hb, gN_49 hb, gN_50 hb, gN_51 hb, gN_52 hb, gN_53 hb, aX_65 hb, nX_65 hb, aX_95 hb, nX_95 hb, aX_96 hb, nX_96 hb, aX_97 hb, nX_97 hb, aX_98 hb, nX_98 hb, aX_99 hb, nX_99 hb, aX_100 hb, nX_100 hb, aX_101 hb, nX_101 hb, aX_102 hb, nX_102 hb, aX_103 hb, nX_103 hb, aX_104 hb, nX_104 hb, aX_130 hb, nX_130 hb, aN_was hb, aN_level hb, aN_wasHeld hb, aN_held hb, aN_wasWith hb, aN_wth hb, ivX hb, ivN hb, ivK hb, pX_2 hb, pX_3 hb, pX_12 hb, pX_16 hb, pX_20 hb, pX_21 hb, pX_22 hb, pX_23 hb, pX_5 hb, pX_6 hb, pX_17 hb, pX_4 hb, pX_7 hb, pK_152 hb, pK_153 hb, pK_154 hb, pN_44 hb, pN_45 hb, pN_46 hb, pN_42 hb, pN_43 hb, pN_54 hb, pN_41 hb, pN_47 hb, uX_65 hb, uX_95 hb, uX_96 hb, uX_97 hb, uX_98 hb, uX_99 hb, uX_100 hb, uX_101 hb, uX_103 hb, uX_104 hb, uX_130 hb, uN_was hb, uN_level hb, uN_wasHeld hb, uN_held hb, uN_wasWith hb, uN_wth hb, Option.bind_some, bd_some, setN_n, setN_setN, setN_taped, setN_fault, setN_bought, setN_worthMany, setN_beganFirst, setN_beganSecond, setN_seed, setN_arranged, setN_paid, setN_hiss, setN_orders, setN_house, setN_cues, setN_tape, setN_states, setN_asked, setN_carriesSet, setN_heights, setN_worth, setN_mouths, setN_sided, setN_keptHouse, setN_keptPaid, setN_keptHiss, setN_kMod, setN_kData, setN_kSize, setN_out, NX.s_now, NX.s_next, NX.s_isStill, NX.s_paid, NX.s_hiss, NX.s_ahead, NX.s_h, NX.s_cues, NX.s_sw, NX.s_was, NX.s_level, NX.s_wasHeld, NX.s_held, NX.s_wasWith, NX.s_wth, mk_XS_taped, mk_XS_fault, mk_XS_bought, mk_XS_worthMany, mk_XS_beganFirst, mk_XS_beganSecond, mk_XS_seed, mk_XS_arranged, mk_XS_paid, mk_XS_hiss, mk_XS_orders, mk_XS_house, mk_XS_cues, mk_XS_tape, mk_XS_states, mk_XS_asked, mk_XS_carriesSet, mk_XS_heights, mk_XS_worth, mk_XS_mouths, mk_XS_sided, mk_XS_keptHouse, mk_XS_keptPaid, mk_XS_keptHiss, mk_XS_kMod, mk_XS_kData, mk_XS_kSize, mk_XS_out, mk_XS_n0, mk_XS_n1, mk_NX_now, mk_NX_next, mk_NX_isStill, mk_NX_paid, mk_NX_hiss, mk_NX_ahead, mk_NX_h, mk_NX_cues, mk_NX_sw, mk_NX_was, mk_NX_level, mk_NX_wasHeld, mk_NX_held, mk_NX_wasWith, mk_NX_wth, mk_NT_paid, mk_NT_hiss, mk_NT_c1, mk_NT_c2, mk_NT_lo, mk_NT_hi, mk_NT_next, mk_Ac_a1, mk_Ac_a2, mk_Ac_l, mk_Ac_h, ifx_k hq q31, n2_nat q31, XS.im]
theorem im_kSize {q : Nat} {r : Rf} {p p' : Int64} : (x.im q r p p').kSize = x.kSize := rfl
theorem im_kData {q : Nat} {r : Rf} {p p' : Int64} : (x.im q r p p').kData = x.kData := rfl
theorem im_cues {q : Nat} {r : Rf} {p p' : Int64} : (x.im q r p p').cues = x.cues := rfl
/-- what an image keeps -/
theorem Duo.im {b2 : Mem} {x2 : XS} {q : Nat} {S : Nat → Int32} {u : Int32} {e : Rf} {z : Int32} (R : Duo b x m H C h c K) (hq : q < 2) (hx2 : x2 = (x.im q (some h) x.paid x.hiss).kl u e z) (E : ExtT b b2) (fz : Frz b2) (XC : XCues b2 c C)
    (hS : ∀ j, j < 681 → S (681 * q + j) = m.s j) (hS2 : ∀ j, (j < 681 * q ∨ 681 * q + 681 ≤ j) → S j = m.kept j)
    (kC : (x2.kSize = 0 ∧ x2.kData = some 52 ∧ ∀ k, k < 2 → upq K q (some (H, C)) k = none) ∨ (x2.kSize = 2 ∧ ∃ d, x2.kData = some d ∧ (dyn d ∧ d < mNx b2 ∧ 64 ≤ d) ∧ mTag b2 d = 104 ∧ 2 ≤ mLen b2 d ∧ ∀ k, k < 2 → ∃ e, mA b2 d k = some e ∧ (dyn e ∧ e < mNx b2 ∧ mTag b2 e = 18) ∧ ∀ H' C', upq K q (some (H, C)) k = some (H', C') → XCues b2 e C')) :
    Duo b2 x2 (m.im S (upq m.keptPaid q m.seatsPaid) (upq m.keptHiss q m.seatsHiss) (upq m.isKept q 1)) H C h c (upq K q (some (H, C))) := by
  subst hx2
  refine ⟨Nat.le_trans R.hb E.1, fz, R.ok, R.ar, R.XH.extT E, R.xh, XC, R.xc, R.MH, R.MC, R.lays, R.l01, R.tape, R.len, R.fault, R.paid, R.hiss, R.bought, R.worth, R.sided, R.b1, R.b2, R.arranged, ?_, kC⟩
  intro k hk
  show KRel b2 (upq x.keptHouse q (some h) k) (upq m.isKept q 1 k) (fun i => S (681 * k + i)) (upq x.keptPaid q x.paid k) (upq m.keptPaid q m.seatsPaid k) (upq x.keptHiss q x.hiss k) (upq m.keptHiss q m.seatsHiss k) (upq K q (some (H, C)) k)
  by_cases e : k = q
  · subst e
    rw [upq_self, upq_self, upq_self, upq_self, upq_self, upq_self, upq_self]
    exact ⟨h, rfl, R.XH.extT E, R.ok, R.ar, rfl, R.MH.congr (fun i hi => (hS i hi).symm), R.MC.congr (fun i hi => (hS i hi).symm), R.paid, R.hiss⟩
  · rw [upq_ne _ _ e, upq_ne _ _ e, upq_ne _ _ e, upq_ne _ _ e, upq_ne _ _ e, upq_ne _ _ e, upq_ne _ _ e]
    have kk := R.kept k hk
    have es : ∀ i, i < 681 → m.kept (681 * k + i) = S (681 * k + i) := fun i hi => (hS2 _ (by omega)).symm
    cases hK : K k with
    | none => rw [hK] at kk; exact kk
    | some HC =>
      obtain ⟨H', C'⟩ := HC
      rw [hK] at kk
      obtain ⟨h', k1, k2, k3, k4, k5, k6, k7, k8, k9⟩ := kk
      exact ⟨h', k1, k2.extT E, k3, k4, k5, k6.congr es, k7.congr es, k8, k9⟩
end Image
