set_option linter.unusedVariables false
set_option linter.unusedSimpArgs false
set_option maxRecDepth 100000
/-! ===== lines of a house: prices, leavings ===== -/
def hasZ (a k : Int32) : Bool := decide ((shrI a k &&& (1 : Int32)) = (1 : Int32))
theorem X_hasI (a k : Int32) (st : Mem) : fX1_has a k st = some (b2i (hasZ a k), st) := by
  unfold fX1_has hasZ
  by_cases e : (shrI a k &&& (1 : Int32)) = (1 : Int32)
  · rw [if_neg (fun q => q e), decide_eq_true e]; rfl
  · rw [if_pos e, decide_eq_false e]; rfl
theorem M_hasI (a k : Int32) (st : Mem) : fX4_has a k st = some (b2i (hasZ a k), st) := by
  unfold fX4_has hasZ
  by_cases e : (shrI a k &&& (1 : Int32)) = (1 : Int32)
  · rw [if_neg (fun q => q e), decide_eq_true e]; rfl
  · rw [if_pos e, decide_eq_false e]; rfl
def MH.sPr (h : MH) (v : Int32) : MH := MH.mk h.lines v h.leavings h.onces h.codeMany h.pileMany h.ones h.coming h.hh h.newCues h.code h.pile
def MH.sLe (h : MH) (v : Int32) : MH := MH.mk h.lines h.prices v h.onces h.codeMany h.pileMany h.ones h.coming h.hh h.newCues h.code h.pile
def MH.sOn (h : MH) (v : Int32) : MH := MH.mk h.lines h.prices h.leavings v h.codeMany h.pileMany h.ones h.coming h.hh h.newCues h.code h.pile
def MH.sLn (h : MH) (v : Int32) : MH := MH.mk v h.prices h.leavings h.onces h.codeMany h.pileMany h.ones h.coming h.hh h.newCues h.code h.pile
section MLn
variable {b' : Mem} {n s : Nat} {m : MS} {r : MR} {h : MH}
theorem p_pr {w : Int32} : pI (mkM b' n s (m.sRH r h)) (some 106) 75 w = some (mkM b' n s (m.sRH r (h.sPr w))) := by
  rw [pM_75]; simp -implicitDefEqProofs only [gM_55, gM_57, gM_58, gM_59, gM_60, gM_64, gM_65, gM_66, gM_67, gM_68, gM_69, gM_70, gM_71, gM_72, gM_73, gM_74, gM_75, gM_76, gM_77, gM_81, gM_82, gM_83, gM_85, gM_86, gM_91, gM_92, gM_93, gM_94, gM_95, gM_96, gM_97, gM_98, gM_99, gM_100, gM_102, gM_103, gM_107, gM_108, gM_110, gM_111, gM_112, gM_113, gM_114, gM_115, gM_118, gM_119, gM_56, aM_107, nM_107, gM_61, aM_108, nM_108, gM_62, aM_109, nM_109, gM_63, aM_110, nM_110, gM_78, aM_111, nM_111, gM_79, aM_112, nM_112, gM_80, aM_113, nM_113, gM_84, aM_114, nM_114, gM_87, aM_115, nM_115, gM_88, aM_116, nM_116, gM_89, aM_117, nM_117, gM_90, aM_118, nM_118, gM_101, aM_119, nM_119, gM_104, aM_120, nM_120, gM_105, aM_121, nM_121, gM_106, aM_122, nM_122, gM_109, aM_123, nM_123, gM_116, aM_124, nM_124, gM_117, aM_125, nM_125, gM_120, aM_126, nM_126, gM_121, aM_127, nM_127, gM_122, aM_128, nM_128, gM_123, aM_129, nM_129, pM_55, pM_57, pM_58, pM_59, pM_60, pM_64, pM_65, pM_66, pM_67, pM_68, pM_69, pM_70, pM_71, pM_72, pM_73, pM_74, pM_75, pM_76, pM_77, pM_81, pM_82, pM_83, pM_85, pM_86, pM_91, pM_92, pM_93, pM_94, pM_95, pM_96, pM_97, pM_98, pM_99, pM_100, pM_102, pM_103, pM_107, pM_108, pM_110, pM_111, pM_112, pM_113, pM_114, pM_115, pM_118, pM_119, uM_107, uM_108, uM_109, uM_110, uM_111, uM_112, uM_113, uM_114, uM_115, uM_116, uM_117, uM_118, uM_119, uM_120, uM_121, uM_122, uM_123, uM_124, uM_125, uM_126, uM_127, uM_128, uM_129, ivM, Option.bind_some, bd_some, mk_MS_thrown, mk_MS_length, mk_MS_seatsPaid, mk_MS_seatsHiss, mk_MS_lays, mk_MS_arranged, mk_MS_tape, mk_MS_s, mk_MS_area, mk_MS_kept, mk_MS_keptPaid, mk_MS_keptHiss, mk_MS_isKept, mk_MS_r, mk_MS_h, mk_MS_n, mk_MS_c, mk_MR_size, mk_MR_p, mk_MR_limit, mk_MR_token, mk_MR_place, mk_MR_span, mk_MR_number, mk_MR_fault, mk_MR_faultAt, mk_MR_word, mk_MR_got, mk_MH_lines, mk_MH_prices, mk_MH_leavings, mk_MH_onces, mk_MH_codeMany, mk_MH_pileMany, mk_MH_ones, mk_MH_coming, mk_MH_hh, mk_MH_newCues, mk_MH_code, mk_MH_pile, mk_MN_paidNow, mk_MN_hissNow, mk_MN_clapping, mk_MN_standing, mk_MN_low, mk_MN_high, mk_MN_gone, mk_MN_cueNext, mk_MN_nightHeight, mk_MN_nightCarries, mk_MN_held, mk_MN_claps, mk_MN_stand, mk_MN_heldLow, mk_MN_heldHigh, mk_MC_askedMany, mk_MC_bought, mk_MC_worthMany, mk_MC_allOrders, mk_MC_hasSides, mk_MC_seenClaps, mk_MC_seenStand, mk_MC_seenAll, mk_MC_beganA, mk_MC_beganB, mk_MC_seed, mk_MC_asked, mk_MC_carried, mk_MC_heights, mk_MC_worths, mk_MC_side, mk_MC_otherClaps, mk_MC_otherStand, mk_NT_paid, mk_NT_hiss, mk_NT_c1, mk_NT_c2, mk_NT_lo, mk_NT_hi, mk_NT_next, mk_Ac_a1, mk_Ac_a2, mk_Ac_l, mk_Ac_h, MS.sRH, MS.sR, MS.sH2, MH.sPr]
theorem p_le {w : Int32} : pI (mkM b' n s (m.sRH r h)) (some 106) 76 w = some (mkM b' n s (m.sRH r (h.sLe w))) := by
  rw [pM_76]; simp -implicitDefEqProofs only [gM_55, gM_57, gM_58, gM_59, gM_60, gM_64, gM_65, gM_66, gM_67, gM_68, gM_69, gM_70, gM_71, gM_72, gM_73, gM_74, gM_75, gM_76, gM_77, gM_81, gM_82, gM_83, gM_85, gM_86, gM_91, gM_92, gM_93, gM_94, gM_95, gM_96, gM_97, gM_98, gM_99, gM_100, gM_102, gM_103, gM_107, gM_108, gM_110, gM_111, gM_112, gM_113, gM_114, gM_115, gM_118, gM_119, gM_56, aM_107, nM_107, gM_61, aM_108, nM_108, gM_62, aM_109, nM_109, gM_63, aM_110, nM_110, gM_78, aM_111, nM_111, gM_79, aM_112, nM_112, gM_80, aM_113, nM_113, gM_84, aM_114, nM_114, gM_87, aM_115, nM_115, gM_88, aM_116, nM_116, gM_89, aM_117, nM_117, gM_90, aM_118, nM_118, gM_101, aM_119, nM_119, gM_104, aM_120, nM_120, gM_105, aM_121, nM_121, gM_106, aM_122, nM_122, gM_109, aM_123, nM_123, gM_116, aM_124, nM_124, gM_117, aM_125, nM_125, gM_120, aM_126, nM_126, gM_121, aM_127, nM_127, gM_122, aM_128, nM_128, gM_123, aM_129, nM_129, pM_55, pM_57, pM_58, pM_59, pM_60, pM_64, pM_65, pM_66, pM_67, pM_68, pM_69, pM_70, pM_71, pM_72, pM_73, pM_74, pM_75, pM_76, pM_77, pM_81, pM_82, pM_83, pM_85, pM_86, pM_91, pM_92, pM_93, pM_94, pM_95, pM_96, pM_97, pM_98, pM_99, pM_100, pM_102, pM_103, pM_107, pM_108, pM_110, pM_111, pM_112, pM_113, pM_114, pM_115, pM_118, pM_119, uM_107, uM_108, uM_109, uM_110, uM_111, uM_112, uM_113, uM_114, uM_115, uM_116, uM_117, uM_118, uM_119, uM_120, uM_121, uM_122, uM_123, uM_124, uM_125, uM_126, uM_127, uM_128, uM_129, ivM, Option.bind_some, bd_some, mk_MS_thrown, mk_MS_length, mk_MS_seatsPaid, mk_MS_seatsHiss, mk_MS_lays, mk_MS_arranged, mk_MS_tape, mk_MS_s, mk_MS_area, mk_MS_kept, mk_MS_keptPaid, mk_MS_keptHiss, mk_MS_isKept, mk_MS_r, mk_MS_h, mk_MS_n, mk_MS_c, mk_MR_size, mk_MR_p, mk_MR_limit, mk_MR_token, mk_MR_place, mk_MR_span, mk_MR_number, mk_MR_fault, mk_MR_faultAt, mk_MR_word, mk_MR_got, mk_MH_lines, mk_MH_prices, mk_MH_leavings, mk_MH_onces, mk_MH_codeMany, mk_MH_pileMany, mk_MH_ones, mk_MH_coming, mk_MH_hh, mk_MH_newCues, mk_MH_code, mk_MH_pile, mk_MN_paidNow, mk_MN_hissNow, mk_MN_clapping, mk_MN_standing, mk_MN_low, mk_MN_high, mk_MN_gone, mk_MN_cueNext, mk_MN_nightHeight, mk_MN_nightCarries, mk_MN_held, mk_MN_claps, mk_MN_stand, mk_MN_heldLow, mk_MN_heldHigh, mk_MC_askedMany, mk_MC_bought, mk_MC_worthMany, mk_MC_allOrders, mk_MC_hasSides, mk_MC_seenClaps, mk_MC_seenStand, mk_MC_seenAll, mk_MC_beganA, mk_MC_beganB, mk_MC_seed, mk_MC_asked, mk_MC_carried, mk_MC_heights, mk_MC_worths, mk_MC_side, mk_MC_otherClaps, mk_MC_otherStand, mk_NT_paid, mk_NT_hiss, mk_NT_c1, mk_NT_c2, mk_NT_lo, mk_NT_hi, mk_NT_next, mk_Ac_a1, mk_Ac_a2, mk_Ac_l, mk_Ac_h, MS.sRH, MS.sR, MS.sH2, MH.sLe]
theorem p_onc {w : Int32} : pI (mkM b' n s (m.sRH r h)) (some 106) 77 w = some (mkM b' n s (m.sRH r (h.sOn w))) := by
  rw [pM_77]; simp -implicitDefEqProofs only [gM_55, gM_57, gM_58, gM_59, gM_60, gM_64, gM_65, gM_66, gM_67, gM_68, gM_69, gM_70, gM_71, gM_72, gM_73, gM_74, gM_75, gM_76, gM_77, gM_81, gM_82, gM_83, gM_85, gM_86, gM_91, gM_92, gM_93, gM_94, gM_95, gM_96, gM_97, gM_98, gM_99, gM_100, gM_102, gM_103, gM_107, gM_108, gM_110, gM_111, gM_112, gM_113, gM_114, gM_115, gM_118, gM_119, gM_56, aM_107, nM_107, gM_61, aM_108, nM_108, gM_62, aM_109, nM_109, gM_63, aM_110, nM_110, gM_78, aM_111, nM_111, gM_79, aM_112, nM_112, gM_80, aM_113, nM_113, gM_84, aM_114, nM_114, gM_87, aM_115, nM_115, gM_88, aM_116, nM_116, gM_89, aM_117, nM_117, gM_90, aM_118, nM_118, gM_101, aM_119, nM_119, gM_104, aM_120, nM_120, gM_105, aM_121, nM_121, gM_106, aM_122, nM_122, gM_109, aM_123, nM_123, gM_116, aM_124, nM_124, gM_117, aM_125, nM_125, gM_120, aM_126, nM_126, gM_121, aM_127, nM_127, gM_122, aM_128, nM_128, gM_123, aM_129, nM_129, pM_55, pM_57, pM_58, pM_59, pM_60, pM_64, pM_65, pM_66, pM_67, pM_68, pM_69, pM_70, pM_71, pM_72, pM_73, pM_74, pM_75, pM_76, pM_77, pM_81, pM_82, pM_83, pM_85, pM_86, pM_91, pM_92, pM_93, pM_94, pM_95, pM_96, pM_97, pM_98, pM_99, pM_100, pM_102, pM_103, pM_107, pM_108, pM_110, pM_111, pM_112, pM_113, pM_114, pM_115, pM_118, pM_119, uM_107, uM_108, uM_109, uM_110, uM_111, uM_112, uM_113, uM_114, uM_115, uM_116, uM_117, uM_118, uM_119, uM_120, uM_121, uM_122, uM_123, uM_124, uM_125, uM_126, uM_127, uM_128, uM_129, ivM, Option.bind_some, bd_some, mk_MS_thrown, mk_MS_length, mk_MS_seatsPaid, mk_MS_seatsHiss, mk_MS_lays, mk_MS_arranged, mk_MS_tape, mk_MS_s, mk_MS_area, mk_MS_kept, mk_MS_keptPaid, mk_MS_keptHiss, mk_MS_isKept, mk_MS_r, mk_MS_h, mk_MS_n, mk_MS_c, mk_MR_size, mk_MR_p, mk_MR_limit, mk_MR_token, mk_MR_place, mk_MR_span, mk_MR_number, mk_MR_fault, mk_MR_faultAt, mk_MR_word, mk_MR_got, mk_MH_lines, mk_MH_prices, mk_MH_leavings, mk_MH_onces, mk_MH_codeMany, mk_MH_pileMany, mk_MH_ones, mk_MH_coming, mk_MH_hh, mk_MH_newCues, mk_MH_code, mk_MH_pile, mk_MN_paidNow, mk_MN_hissNow, mk_MN_clapping, mk_MN_standing, mk_MN_low, mk_MN_high, mk_MN_gone, mk_MN_cueNext, mk_MN_nightHeight, mk_MN_nightCarries, mk_MN_held, mk_MN_claps, mk_MN_stand, mk_MN_heldLow, mk_MN_heldHigh, mk_MC_askedMany, mk_MC_bought, mk_MC_worthMany, mk_MC_allOrders, mk_MC_hasSides, mk_MC_seenClaps, mk_MC_seenStand, mk_MC_seenAll, mk_MC_beganA, mk_MC_beganB, mk_MC_seed, mk_MC_asked, mk_MC_carried, mk_MC_heights, mk_MC_worths, mk_MC_side, mk_MC_otherClaps, mk_MC_otherStand, mk_NT_paid, mk_NT_hiss, mk_NT_c1, mk_NT_c2, mk_NT_lo, mk_NT_hi, mk_NT_next, mk_Ac_a1, mk_Ac_a2, mk_Ac_l, mk_Ac_h, MS.sRH, MS.sR, MS.sH2, MH.sOn]
theorem p_lin {w : Int32} : pI (mkM b' n s (m.sRH r h)) (some 106) 74 w = some (mkM b' n s (m.sRH r (h.sLn w))) := by
  rw [pM_74]; simp -implicitDefEqProofs only [gM_55, gM_57, gM_58, gM_59, gM_60, gM_64, gM_65, gM_66, gM_67, gM_68, gM_69, gM_70, gM_71, gM_72, gM_73, gM_74, gM_75, gM_76, gM_77, gM_81, gM_82, gM_83, gM_85, gM_86, gM_91, gM_92, gM_93, gM_94, gM_95, gM_96, gM_97, gM_98, gM_99, gM_100, gM_102, gM_103, gM_107, gM_108, gM_110, gM_111, gM_112, gM_113, gM_114, gM_115, gM_118, gM_119, gM_56, aM_107, nM_107, gM_61, aM_108, nM_108, gM_62, aM_109, nM_109, gM_63, aM_110, nM_110, gM_78, aM_111, nM_111, gM_79, aM_112, nM_112, gM_80, aM_113, nM_113, gM_84, aM_114, nM_114, gM_87, aM_115, nM_115, gM_88, aM_116, nM_116, gM_89, aM_117, nM_117, gM_90, aM_118, nM_118, gM_101, aM_119, nM_119, gM_104, aM_120, nM_120, gM_105, aM_121, nM_121, gM_106, aM_122, nM_122, gM_109, aM_123, nM_123, gM_116, aM_124, nM_124, gM_117, aM_125, nM_125, gM_120, aM_126, nM_126, gM_121, aM_127, nM_127, gM_122, aM_128, nM_128, gM_123, aM_129, nM_129, pM_55, pM_57, pM_58, pM_59, pM_60, pM_64, pM_65, pM_66, pM_67, pM_68, pM_69, pM_70, pM_71, pM_72, pM_73, pM_74, pM_75, pM_76, pM_77, pM_81, pM_82, pM_83, pM_85, pM_86, pM_91, pM_92, pM_93, pM_94, pM_95, pM_96, pM_97, pM_98, pM_99, pM_100, pM_102, pM_103, pM_107, pM_108, pM_110, pM_111, pM_112, pM_113, pM_114, pM_115, pM_118, pM_119, uM_107, uM_108, uM_109, uM_110, uM_111, uM_112, uM_113, uM_114, uM_115, uM_116, uM_117, uM_118, uM_119, uM_120, uM_121, uM_122, uM_123, uM_124, uM_125, uM_126, uM_127, uM_128, uM_129, ivM, Option.bind_some, bd_some, mk_MS_thrown, mk_MS_length, mk_MS_seatsPaid, mk_MS_seatsHiss, mk_MS_lays, mk_MS_arranged, mk_MS_tape, mk_MS_s, mk_MS_area, mk_MS_kept, mk_MS_keptPaid, mk_MS_keptHiss, mk_MS_isKept, mk_MS_r, mk_MS_h, mk_MS_n, mk_MS_c, mk_MR_size, mk_MR_p, mk_MR_limit, mk_MR_token, mk_MR_place, mk_MR_span, mk_MR_number, mk_MR_fault, mk_MR_faultAt, mk_MR_word, mk_MR_got, mk_MH_lines, mk_MH_prices, mk_MH_leavings, mk_MH_onces, mk_MH_codeMany, mk_MH_pileMany, mk_MH_ones, mk_MH_coming, mk_MH_hh, mk_MH_newCues, mk_MH_code, mk_MH_pile, mk_MN_paidNow, mk_MN_hissNow, mk_MN_clapping, mk_MN_standing, mk_MN_low, mk_MN_high, mk_MN_gone, mk_MN_cueNext, mk_MN_nightHeight, mk_MN_nightCarries, mk_MN_held, mk_MN_claps, mk_MN_stand, mk_MN_heldLow, mk_MN_heldHigh, mk_MC_askedMany, mk_MC_bought, mk_MC_worthMany, mk_MC_allOrders, mk_MC_hasSides, mk_MC_seenClaps, mk_MC_seenStand, mk_MC_seenAll, mk_MC_beganA, mk_MC_beganB, mk_MC_seed, mk_MC_asked, mk_MC_carried, mk_MC_heights, mk_MC_worths, mk_MC_side, mk_MC_otherClaps, mk_MC_otherStand, mk_NT_paid, mk_NT_hiss, mk_NT_c1, mk_NT_c2, mk_NT_lo, mk_NT_hi, mk_NT_next, mk_Ac_a1, mk_Ac_a2, mk_Ac_l, mk_Ac_h, MS.sRH, MS.sR, MS.sH2, MH.sLn]
theorem g_pr : gI (mkM b' n s (m.sRH r h)) (some 106) 75 = some h.prices := gM_75
theorem g_le : gI (mkM b' n s (m.sRH r h)) (some 106) 76 = some h.leavings := gM_76
theorem g_onc : gI (mkM b' n s (m.sRH r h)) (some 106) 77 = some h.onces := gM_77
theorem g_lin : gI (mkM b' n s (m.sRH r h)) (some 106) 74 = some h.lines := gM_74
theorem g_got : gI (mkM b' n s (m.sRH r h)) (some 106) 73 = some r.got := gM_73
theorem g_num : gI (mkM b' n s (m.sRH r h)) (some 106) 67 = some r.number := gM_67
theorem g_tok : gI (mkM b' n s (m.sRH r h)) (some 106) 64 = some r.token := gM_64
theorem p_got {w : Int32} : pI (mkM b' n s (m.sRH r h)) (some 106) 73 w = some (mkM b' n s (m.sRH (r.sG w) h)) := by
  rw [pM_73]; simp -implicitDefEqProofs only [gM_55, gM_57, gM_58, gM_59, gM_60, gM_64, gM_65, gM_66, gM_67, gM_68, gM_69, gM_70, gM_71, gM_72, gM_73, gM_74, gM_75, gM_76, gM_77, gM_81, gM_82, gM_83, gM_85, gM_86, gM_91, gM_92, gM_93, gM_94, gM_95, gM_96, gM_97, gM_98, gM_99, gM_100, gM_102, gM_103, gM_107, gM_108, gM_110, gM_111, gM_112, gM_113, gM_114, gM_115, gM_118, gM_119, gM_56, aM_107, nM_107, gM_61, aM_108, nM_108, gM_62, aM_109, nM_109, gM_63, aM_110, nM_110, gM_78, aM_111, nM_111, gM_79, aM_112, nM_112, gM_80, aM_113, nM_113, gM_84, aM_114, nM_114, gM_87, aM_115, nM_115, gM_88, aM_116, nM_116, gM_89, aM_117, nM_117, gM_90, aM_118, nM_118, gM_101, aM_119, nM_119, gM_104, aM_120, nM_120, gM_105, aM_121, nM_121, gM_106, aM_122, nM_122, gM_109, aM_123, nM_123, gM_116, aM_124, nM_124, gM_117, aM_125, nM_125, gM_120, aM_126, nM_126, gM_121, aM_127, nM_127, gM_122, aM_128, nM_128, gM_123, aM_129, nM_129, pM_55, pM_57, pM_58, pM_59, pM_60, pM_64, pM_65, pM_66, pM_67, pM_68, pM_69, pM_70, pM_71, pM_72, pM_73, pM_74, pM_75, pM_76, pM_77, pM_81, pM_82, pM_83, pM_85, pM_86, pM_91, pM_92, pM_93, pM_94, pM_95, pM_96, pM_97, pM_98, pM_99, pM_100, pM_102, pM_103, pM_107, pM_108, pM_110, pM_111, pM_112, pM_113, pM_114, pM_115, pM_118, pM_119, uM_107, uM_108, uM_109, uM_110, uM_111, uM_112, uM_113, uM_114, uM_115, uM_116, uM_117, uM_118, uM_119, uM_120, uM_121, uM_122, uM_123, uM_124, uM_125, uM_126, uM_127, uM_128, uM_129, ivM, Option.bind_some, bd_some, mk_MS_thrown, mk_MS_length, mk_MS_seatsPaid, mk_MS_seatsHiss, mk_MS_lays, mk_MS_arranged, mk_MS_tape, mk_MS_s, mk_MS_area, mk_MS_kept, mk_MS_keptPaid, mk_MS_keptHiss, mk_MS_isKept, mk_MS_r, mk_MS_h, mk_MS_n, mk_MS_c, mk_MR_size, mk_MR_p, mk_MR_limit, mk_MR_token, mk_MR_place, mk_MR_span, mk_MR_number, mk_MR_fault, mk_MR_faultAt, mk_MR_word, mk_MR_got, mk_MH_lines, mk_MH_prices, mk_MH_leavings, mk_MH_onces, mk_MH_codeMany, mk_MH_pileMany, mk_MH_ones, mk_MH_coming, mk_MH_hh, mk_MH_newCues, mk_MH_code, mk_MH_pile, mk_MN_paidNow, mk_MN_hissNow, mk_MN_clapping, mk_MN_standing, mk_MN_low, mk_MN_high, mk_MN_gone, mk_MN_cueNext, mk_MN_nightHeight, mk_MN_nightCarries, mk_MN_held, mk_MN_claps, mk_MN_stand, mk_MN_heldLow, mk_MN_heldHigh, mk_MC_askedMany, mk_MC_bought, mk_MC_worthMany, mk_MC_allOrders, mk_MC_hasSides, mk_MC_seenClaps, mk_MC_seenStand, mk_MC_seenAll, mk_MC_beganA, mk_MC_beganB, mk_MC_seed, mk_MC_asked, mk_MC_carried, mk_MC_heights, mk_MC_worths, mk_MC_side, mk_MC_otherClaps, mk_MC_otherStand, mk_NT_paid, mk_NT_hiss, mk_NT_c1, mk_NT_c2, mk_NT_lo, mk_NT_hi, mk_NT_next, mk_Ac_a1, mk_Ac_a2, mk_Ac_l, mk_Ac_h, MS.sRH, MS.sR, MS.sH2, MR.sG]
theorem u_hhq {k : Nat} {v : Int32} (hk : k < 590) : uI (mkM b' n s (m.sRH r h)) (some 109) (n2 k) v = some (mkM b' n s (m.sRH r (h.sHh (upq h.hh k v)))) := by
  rw [uM_109, ifx_k hk (by omega), n2_nat (by omega)]; simp -implicitDefEqProofs only [gM_55, gM_57, gM_58, gM_59, gM_60, gM_64, gM_65, gM_66, gM_67, gM_68, gM_69, gM_70, gM_71, gM_72, gM_73, gM_74, gM_75, gM_76, gM_77, gM_81, gM_82, gM_83, gM_85, gM_86, gM_91, gM_92, gM_93, gM_94, gM_95, gM_96, gM_97, gM_98, gM_99, gM_100, gM_102, gM_103, gM_107, gM_108, gM_110, gM_111, gM_112, gM_113, gM_114, gM_115, gM_118, gM_119, gM_56, aM_107, nM_107, gM_61, aM_108, nM_108, gM_62, aM_109, nM_109, gM_63, aM_110, nM_110, gM_78, aM_111, nM_111, gM_79, aM_112, nM_112, gM_80, aM_113, nM_113, gM_84, aM_114, nM_114, gM_87, aM_115, nM_115, gM_88, aM_116, nM_116, gM_89, aM_117, nM_117, gM_90, aM_118, nM_118, gM_101, aM_119, nM_119, gM_104, aM_120, nM_120, gM_105, aM_121, nM_121, gM_106, aM_122, nM_122, gM_109, aM_123, nM_123, gM_116, aM_124, nM_124, gM_117, aM_125, nM_125, gM_120, aM_126, nM_126, gM_121, aM_127, nM_127, gM_122, aM_128, nM_128, gM_123, aM_129, nM_129, pM_55, pM_57, pM_58, pM_59, pM_60, pM_64, pM_65, pM_66, pM_67, pM_68, pM_69, pM_70, pM_71, pM_72, pM_73, pM_74, pM_75, pM_76, pM_77, pM_81, pM_82, pM_83, pM_85, pM_86, pM_91, pM_92, pM_93, pM_94, pM_95, pM_96, pM_97, pM_98, pM_99, pM_100, pM_102, pM_103, pM_107, pM_108, pM_110, pM_111, pM_112, pM_113, pM_114, pM_115, pM_118, pM_119, uM_107, uM_108, uM_109, uM_110, uM_111, uM_112, uM_113, uM_114, uM_115, uM_116, uM_117, uM_118, uM_119, uM_120, uM_121, uM_122, uM_123, uM_124, uM_125, uM_126, uM_127, uM_128, uM_129, ivM, Option.bind_some, bd_some, mk_MS_thrown, mk_MS_length, mk_MS_seatsPaid, mk_MS_seatsHiss, mk_MS_lays, mk_MS_arranged, mk_MS_tape, mk_MS_s, mk_MS_area, mk_MS_kept, mk_MS_keptPaid, mk_MS_keptHiss, mk_MS_isKept, mk_MS_r, mk_MS_h, mk_MS_n, mk_MS_c, mk_MR_size, mk_MR_p, mk_MR_limit, mk_MR_token, mk_MR_place, mk_MR_span, mk_MR_number, mk_MR_fault, mk_MR_faultAt, mk_MR_word, mk_MR_got, mk_MH_lines, mk_MH_prices, mk_MH_leavings, mk_MH_onces, mk_MH_codeMany, mk_MH_pileMany, mk_MH_ones, mk_MH_coming, mk_MH_hh, mk_MH_newCues, mk_MH_code, mk_MH_pile, mk_MN_paidNow, mk_MN_hissNow, mk_MN_clapping, mk_MN_standing, mk_MN_low, mk_MN_high, mk_MN_gone, mk_MN_cueNext, mk_MN_nightHeight, mk_MN_nightCarries, mk_MN_held, mk_MN_claps, mk_MN_stand, mk_MN_heldLow, mk_MN_heldHigh, mk_MC_askedMany, mk_MC_bought, mk_MC_worthMany, mk_MC_allOrders, mk_MC_hasSides, mk_MC_seenClaps, mk_MC_seenStand, mk_MC_seenAll, mk_MC_beganA, mk_MC_beganB, mk_MC_seed, mk_MC_asked, mk_MC_carried, mk_MC_heights, mk_MC_worths, mk_MC_side, mk_MC_otherClaps, mk_MC_otherStand, mk_NT_paid, mk_NT_hiss, mk_NT_c1, mk_NT_c2, mk_NT_lo, mk_NT_hi, mk_NT_next, mk_Ac_a1, mk_Ac_a2, mk_Ac_l, mk_Ac_h, MS.sRH, MS.sR, MS.sH2, MH.sHh]
theorem a_hhq {k : Nat} (hk : k < 590) : aI (mkM b' n s (m.sRH r h)) (some 109) (n2 k) = some (h.hh k) := by
  rw [aM_109, ifx_k hk (by omega), n2_nat (by omega)]; simp -implicitDefEqProofs only [gM_55, gM_57, gM_58, gM_59, gM_60, gM_64, gM_65, gM_66, gM_67, gM_68, gM_69, gM_70, gM_71, gM_72, gM_73, gM_74, gM_75, gM_76, gM_77, gM_81, gM_82, gM_83, gM_85, gM_86, gM_91, gM_92, gM_93, gM_94, gM_95, gM_96, gM_97, gM_98, gM_99, gM_100, gM_102, gM_103, gM_107, gM_108, gM_110, gM_111, gM_112, gM_113, gM_114, gM_115, gM_118, gM_119, gM_56, aM_107, nM_107, gM_61, aM_108, nM_108, gM_62, aM_109, nM_109, gM_63, aM_110, nM_110, gM_78, aM_111, nM_111, gM_79, aM_112, nM_112, gM_80, aM_113, nM_113, gM_84, aM_114, nM_114, gM_87, aM_115, nM_115, gM_88, aM_116, nM_116, gM_89, aM_117, nM_117, gM_90, aM_118, nM_118, gM_101, aM_119, nM_119, gM_104, aM_120, nM_120, gM_105, aM_121, nM_121, gM_106, aM_122, nM_122, gM_109, aM_123, nM_123, gM_116, aM_124, nM_124, gM_117, aM_125, nM_125, gM_120, aM_126, nM_126, gM_121, aM_127, nM_127, gM_122, aM_128, nM_128, gM_123, aM_129, nM_129, pM_55, pM_57, pM_58, pM_59, pM_60, pM_64, pM_65, pM_66, pM_67, pM_68, pM_69, pM_70, pM_71, pM_72, pM_73, pM_74, pM_75, pM_76, pM_77, pM_81, pM_82, pM_83, pM_85, pM_86, pM_91, pM_92, pM_93, pM_94, pM_95, pM_96, pM_97, pM_98, pM_99, pM_100, pM_102, pM_103, pM_107, pM_108, pM_110, pM_111, pM_112, pM_113, pM_114, pM_115, pM_118, pM_119, uM_107, uM_108, uM_109, uM_110, uM_111, uM_112, uM_113, uM_114, uM_115, uM_116, uM_117, uM_118, uM_119, uM_120, uM_121, uM_122, uM_123, uM_124, uM_125, uM_126, uM_127, uM_128, uM_129, ivM, Option.bind_some, bd_some, mk_MS_thrown, mk_MS_length, mk_MS_seatsPaid, mk_MS_seatsHiss, mk_MS_lays, mk_MS_arranged, mk_MS_tape, mk_MS_s, mk_MS_area, mk_MS_kept, mk_MS_keptPaid, mk_MS_keptHiss, mk_MS_isKept, mk_MS_r, mk_MS_h, mk_MS_n, mk_MS_c, mk_MR_size, mk_MR_p, mk_MR_limit, mk_MR_token, mk_MR_place, mk_MR_span, mk_MR_number, mk_MR_fault, mk_MR_faultAt, mk_MR_word, mk_MR_got, mk_MH_lines, mk_MH_prices, mk_MH_leavings, mk_MH_onces, mk_MH_codeMany, mk_MH_pileMany, mk_MH_ones, mk_MH_coming, mk_MH_hh, mk_MH_newCues, mk_MH_code, mk_MH_pile, mk_MN_paidNow, mk_MN_hissNow, mk_MN_clapping, mk_MN_standing, mk_MN_low, mk_MN_high, mk_MN_gone, mk_MN_cueNext, mk_MN_nightHeight, mk_MN_nightCarries, mk_MN_held, mk_MN_claps, mk_MN_stand, mk_MN_heldLow, mk_MN_heldHigh, mk_MC_askedMany, mk_MC_bought, mk_MC_worthMany, mk_MC_allOrders, mk_MC_hasSides, mk_MC_seenClaps, mk_MC_seenStand, mk_MC_seenAll, mk_MC_beganA, mk_MC_beganB, mk_MC_seed, mk_MC_asked, mk_MC_carried, mk_MC_heights, mk_MC_worths, mk_MC_side, mk_MC_otherClaps, mk_MC_otherStand, mk_NT_paid, mk_NT_hiss, mk_NT_c1, mk_NT_c2, mk_NT_lo, mk_NT_hi, mk_NT_next, mk_Ac_a1, mk_Ac_a2, mk_Ac_l, mk_Ac_h, MS.sRH, MS.sR, MS.sH2]
theorem sRH_with {m : MS} {r r' : MR} {h : MH} : (m.sRH r h).sR r' = m.sRH r' h := sRH_sR
end MLn
def lnX (v0 : Rf) (a : Rf) (pr : Int32) (hi : Int32) (st : Mem) : Option ((Unit ⊕ Nat) × Mem) :=
  bt (iv st v0 [5] (fX6_rowTold v0 pr st)) fun x st =>
  bt (iv st v0 [5] (fX5_number v0 (0 : Int32) hi st)) fun y st =>
  (uI st a x y).bind fun st =>
  some (.inl (), st)
theorem lnX_then {β : Type} (v0 a : Rf) (pr hi : Int32) (G : Mem → Option ((β ⊕ Nat) × Mem)) (st : Mem) : (bt (iv st v0 [5] (fX6_rowTold v0 pr st)) fun x st => bt (iv st v0 [5] (fX5_number v0 (0 : Int32) hi st)) fun y st => (uI st a x y).bind fun st => G st) = bt (lnX v0 a pr hi st) fun _ st => G st := by
  unfold lnX
  cases iv st v0 [5] (fX6_rowTold v0 pr st) with
  | none => rfl
  | some q =>
    obtain ⟨x | x, st1⟩ := q
    · show (bt (iv st1 v0 [5] (fX5_number v0 (0 : Int32) hi st1)) fun y st => (uI st a x y).bind fun st => G st) = bt (bt (iv st1 v0 [5] (fX5_number v0 (0 : Int32) hi st1)) fun y st => (uI st a x y).bind fun st => some (.inl (), st)) fun _ st => G st
      cases iv st1 v0 [5] (fX5_number v0 (0 : Int32) hi st1) with
      | none => rfl
      | some q =>
        obtain ⟨y | y, st2⟩ := q
        · show (uI st2 a x y).bind (fun st => G st) = bt ((uI st2 a x y).bind fun st => some (.inl (), st)) fun _ st => G st
          cases uI st2 a x y with
          | none => rfl
          | some st3 => rfl
        · rfl
    · rfl
theorem sG_pl {r : MR} {v : Int32} : (r.sG v).place = r.place := rfl
theorem sG_tk {r : MR} {v : Int32} : (r.sG v).token = r.token := rfl
theorem sG_nm {r : MR} {v : Int32} : (r.sG v).number = r.number := rfl
theorem sG_sp {r : MR} {v : Int32} : (r.sG v).span = r.span := rfl
theorem sG_wd {r : MR} {v : Int32} : (r.sG v).word = r.word := rfl
theorem sG_sz {r : MR} {v : Int32} : (r.sG v).size = r.size := rfl
theorem sG_li {r : MR} {v : Int32} : (r.sG v).limit = r.limit := rfl
theorem sG_p {r : MR} {v : Int32} : (r.sG v).p = r.p := rfl
theorem sG_fa {r : MR} {v : Int32} : (r.sG v).fault = r.fault := rfl
theorem WdR.sG {N : Nat} {c : Cl} {T : List Cl} {r : MR} {tp : Nat → Int32} {to : Nat} {v : Int32} (h : WdR N c T r tp to) : WdR N c T (r.sG v) tp to := by
  obtain ⟨P, k, e, w1, w2, w3, w4, w5, w6, w7, w8, w9⟩ := h
  exact ⟨P, k, e, w1, w2, w3, sG_pl.trans w4, sG_sp.trans w5, w6, sG_wd.trans w7, w8, w9⟩
theorem Tk.sG {N : Nat} {c : Cl} {T : List Cl} {r : MR} {tp : Nat → Int32} {to : Nat} {v : Int32} (K : Tk N c T r tp to) : Tk N c T (r.sG v) tp to := by
  refine ⟨K.pl.trans sG_pl.symm, ?_, fun q => ?_⟩
  · rw [sG_tk, sG_nm]
    rcases K.kd with q | q | ⟨q1, q2, q3⟩ | q | q
    · exact Or.inl q
    · exact Or.inr (Or.inl q)
    · exact Or.inr (Or.inr (Or.inl ⟨q1, q2, q3.sG⟩))
    · exact Or.inr (Or.inr (Or.inr (Or.inl q)))
    · exact Or.inr (Or.inr (Or.inr (Or.inr q)))
  · rw [sG_tk] at q; rw [sG_nm]; exact K.nb q
theorem RsR.sG {B : Mem} {m : MS} {tp : Nat → Int32} {to most : Nat} {c : Cl} {T : List Cl} {p : Nat} {r : MR} {h : MH} {v : Int32} (S : RsR B c T (m.sRH r h) tp to most p) : RsR B c T (m.sRH (r.sG v) h) tp to most p := by
  have K : Tk (mNx B) c T r tp to := S.K
  have s1 : r.size = n2 to := S.size
  have s2 : r.limit = n2 most := S.limit
  have s3 : r.p = n2 p := S.mp
  have s4 : r.fault = 0 := S.nf
  have s5 : m.tape = tp := S.tape
  refine ⟨S.R, ?_, ?_, ?_, ?_, S.le, S.xp, ?_, ?_⟩
  · rw [sRH_r]; exact K.sG
  · rw [sRH_tape]; exact s5
  · rw [sRH_r, sG_sz]; exact s1
  · rw [sRH_r, sG_li]; exact s2
  · rw [sRH_r, sG_p]; exact s3
  · rw [sRH_r, sG_fa]; exact s4
section Lines
variable {B b' : Mem} {m : MS} {tp : Nat → Int32} {to most A Z n s : Nat} {c : Cl} {T : List Cl} {z p ln : Nat} {r : MR} {h : MH} {H : HS}
/-- a row that was told, once -/
theorem D_rowTold (X : HR B m tp to most A Z c T z r h p H ln) (hv : ¬ (c.i 128 = 0 ∨ c.i 128 = 5)) (pr : Bool) {had : Int32} (hh : had = if pr = true then h.prices else h.leavings) :
    (∃ v c' T' z' r' q R, fX6_rowTold (some (mNx B)) (b2i pr) (ovs B (c :: T) z) = some (.inl (n2 v), ovs B (c' :: T') z') ∧ fX4_takesRow (some 106) had (mkM b' n s (m.sRH r h)) = some (1, mkM b' n s (m.sRH r' h)) ∧ v < H.rows ∧ r'.got = n2 v ∧ RsR B c' T' (m.sRH r' h) tp to most q ∧ Bg A Z T' z' (nu c' to q) q ∧ T' = T ++ R ∧ p ≤ q ∧ nu c' to q < nu c to p ∧ c'.t = 5 ∧ c'.a 133 = c.a 133 ∧ c'.i 134 = c.i 134 ∧ c'.i 135 = (if pr = true then c.i 135 ||| shlI 1 (n2 v) else c.i 135) ∧ c'.i 136 = (if pr = true then c.i 136 else c.i 136 ||| shlI 1 (n2 v))) ∨
    Bad B m A Z to b' n s (fX6_rowTold (some (mNx B)) (b2i pr) (ovs B (c :: T) z)) (fX4_takesRow (some 106) had (mkM b' n s (m.sRH r h))) := by
  have R := X.S.R
  have hB : 64 ≤ mNx B := by have := R.hB; omega
  have nz0 : nz (0 : Int32) = 0 := by decide
  have r8 := X.ho.ok.rows
  obtain ⟨c1, T1, z1, r1, p1, R1, x1, m1, S1, Kp1, Kr1, T1e, le1, nu1, g1⟩ := goG (b' := b') (n := n) (s := s) X.S X.g hv
  have X1 : HR B m tp to most A Z c1 T1 z1 r1 h p1 H ln := X.go S1 (g1.add (by omega) (by omega)) Kp1.c (Kh.refl h) T1e
  have a133 := X1.gA
  have i28 : gI (ovs B (c1 :: T1) z1) (some (mNx B + (1 + 0))) 28 = some (n2 H.rows) := (X1.ho.gI (by decide)).trans (congrArg some X1.ho.rows)
  have rd0 : aI (mkM b' n s (m.sRH r1 h)) (some 109) (0 : Int32) = some (n2 H.rows) := (a_hhq (k := 0) (by decide)).trans (congrArg some X1.ho.mh.rows)
  have hm1 : n2 H.rows - (1 : Int32) = i2 ((H.rows : Int) - 1) := i2_sub (H.rows : Int) 1
  have G5 : gI (ovs B (c1 :: T1) z1) (some (mNx B)) 135 = some (c1.i 135) := rd5_get X1.t5 (by decide)
  have G6 : gI (ovs B (c1 :: T1) z1) (some (mNx B)) 136 = some (c1.i 136) := rd5_get X1.t5 (by decide)
  have k5 : c1.i 135 = c.i 135 := Kp1.2.2.2.1 135 (by omega)
  have k6 : c1.i 136 = c.i 136 := Kp1.2.2.2.1 136 (by omega)
  rcases D_hold (z := z1) S1 (0 : Int32) (n2 H.rows - 1) with ⟨t2, k3, k130, hr, hX⟩ | ⟨t2, hX⟩ | ⟨t2, k3, k130, hr, hX⟩
  · obtain ⟨v, hv1, hv2⟩ := S1.K.nb t2
    have hv2' : r1.number = n2 v := hv2
    have t2' : r1.token = 2 := t2
    have vr : v < H.rows := by
      have := hr.2
      rw [hv2, hm1, ni_le (by omega) (by omega) (by omega)] at this; omega
    have hX' : fX5_hold (some (mNx B)) 0 (n2 H.rows - 1) (ovs B (c1 :: T1) z1) = some (.inl (n2 v), ovs B (c1 :: T1) z1) := by rw [hX]; exact congrArg (fun y => some (Sum.inl y, ovs B (c1 :: T1) z1)) hv2
    have nv : ¬ (c1.i 128 = 1 ∨ c1.i 128 = 5) := by rw [k3]; decide
    have lt : (n2 v < n2 H.rows) = True := by rw [n2_lt (by omega) (by omega)]; exact eq_true vr
    have had1 : hasZ had (n2 v) = hasZ (if pr = true then c1.i 135 else c1.i 136) (n2 v) := by
      rw [hh, k5, k6, X.i135, X.i136]
    rcases Bool.eq_false_or_eq_true (hasZ had (n2 v)) with hb | hb
    · -- told before
      refine Or.inr ((D_badH (α := Int32) (b' := b') (n := n) (s := s) S1 X1.g 3 (Or.inr nv)).eq ?_ ?_)
      · unfold fX6_rowTold bX6_rowTold_35 bX6_rowTold_47
        rw [had1] at hb
        cases pr
        · simp -implicitDefEqProofs only [Option.bind_some, bd_some, b2i_0, Bool.true_eq_false, Bool.false_eq_true, eq_self, if_true, if_false, not_true_eq_false, not_false_eq_true] at hb
          simp -implicitDefEqProofs only [Option.bind_some, bd_some, b2i_0, Bool.true_eq_false, Bool.false_eq_true, eq_self, if_true, if_false, not_true_eq_false, not_false_eq_true, rd_iv5 X.t5, x1, a133, i28, rd_iv5 X1.t5, hX', bt_inl, G6, X_hasI, hb, X_need0' S1.R 3, bt_inr]
        · simp -implicitDefEqProofs only [Option.bind_some, bd_some, b2i_0, Bool.true_eq_false, Bool.false_eq_true, eq_self, if_true, if_false, not_true_eq_false, not_false_eq_true] at hb
          simp -implicitDefEqProofs only [Option.bind_some, bd_some, b2i_0, Bool.true_eq_false, Bool.false_eq_true, eq_self, if_true, if_false, not_true_eq_false, not_false_eq_true, rd_iv5 X.t5, x1, a133, i28, rd_iv5 X1.t5, hX', bt_inl, G5, X_hasI, hb, X_need0' S1.R 3, bt_inr]
      · unfold fX4_takesRow
        simp -implicitDefEqProofs only [Option.bind_some, bd_some, b2i_0, Bool.true_eq_false, Bool.false_eq_true, eq_self, if_true, if_false, not_true_eq_false, not_false_eq_true, ivM, m1, g_tok, t2', g_num, hv2', gM_62, rd0, lt, M_hasI, hb, M_badH, nz0]
    · -- not yet
      have S1' : RsR B c1 T1 (m.sRH (r1.sG (n2 v)) h) tp to most p1 := S1.sG
      have fin : ∀ f : Nat, (f = 135 ∨ f = 136) → ∀ w : Int32, ∃ c' T' z' r' q R, fX5_go (some (mNx B)) (ovs B (c1.sI f w :: T1) z1) = some ((), ovs B (c' :: T') z') ∧ fX4_next (some 106) (mkM b' n s (m.sRH (r1.sG (n2 v)) h)) = some ((), mkM b' n s (m.sRH r' h)) ∧ RsR B c' T' (m.sRH r' h) tp to most q ∧ Kp (c1.sI f w) c' ∧ Kr (r1.sG (n2 v)) r' ∧ T' = T1 ++ R ∧ p1 ≤ q ∧ nu c' to q < nu (c1.sI f w) to p1 ∧ Bg A Z T' z' (nu c' to q + 1) q := by
        intro f hf w
        refine goG (b' := b') (n := n) (s := s) (S1'.sI (f := f) (by omega) w) (by rw [nu_sI (by omega)]; exact X1.g) ?_
        rw [i_ne _ _ (by omega), k3]; decide
      have M2 : ∀ r', fX4_next (some 106) (mkM b' n s (m.sRH (r1.sG (n2 v)) h)) = some ((), mkM b' n s (m.sRH r' h)) → fX4_takesRow (some 106) had (mkM b' n s (m.sRH r h)) = some (1, mkM b' n s (m.sRH r' h)) := by
        intro r' e
        unfold fX4_takesRow
        simp -implicitDefEqProofs only [Option.bind_some, bd_some, b2i_0, Bool.true_eq_false, Bool.false_eq_true, eq_self, if_true, if_false, not_true_eq_false, not_false_eq_true, ivM, m1, g_tok, t2', g_num, hv2', gM_62, rd0, lt, M_hasI, hb, p_got, e]
      rw [had1] at hb
      cases pr
      · simp -implicitDefEqProofs only [Option.bind_some, bd_some, b2i_0, Bool.true_eq_false, Bool.false_eq_true, eq_self, if_true, if_false, not_true_eq_false, not_false_eq_true] at hb
        obtain ⟨c2, T2, z2, r2, p2, R2, x2, m2, S2, Kp2, Kr2, T2e, le2, nu2, g2⟩ := fin 136 (Or.inr rfl) (c1.i 136 ||| shlI 1 (n2 v))
        rw [nu_sI (by decide)] at nu2
        have P6 : pI (ovs B (c1 :: T1) z1) (some (mNx B)) 136 (c1.i 136 ||| shlI 1 (n2 v)) = some (ovs B (c1.sI 136 (c1.i 136 ||| shlI 1 (n2 v)) :: T1) z1) := rd5_put hB X1.t5 (by decide)
        have t5' : (c1.sI 136 (c1.i 136 ||| shlI 1 (n2 v))).t = 5 := X1.t5
        refine Or.inl ⟨v, c2, T2, z2, r2, p2, R1 ++ R2, ?_, M2 r2 m2, vr, Kr2.2.2.2.2, S2, g2.add (by omega) (by omega), by rw [T2e, T1e]; simp, by omega, by omega, Kp2.1.trans t5', ?_, ?_, ?_, ?_⟩
        · unfold fX6_rowTold bX6_rowTold_35 bX6_rowTold_47 bX6_rowTold_82
          simp -implicitDefEqProofs only [Option.bind_some, bd_some, b2i_0, Bool.true_eq_false, Bool.false_eq_true, eq_self, if_true, if_false, not_true_eq_false, not_false_eq_true, rd_iv5 X.t5, x1, a133, i28, rd_iv5 X1.t5, hX', bt_inl, G6, X_hasI, hb, X_need1', P6, rd_iv5 t5', x2]
        · exact (Kp2.2.2.2.2 133 (by decide)).trans (Kp1.2.2.2.2 133 (by decide))
        · rw [Kp2.2.2.2.1 134 (by omega), i_ne _ _ (by decide)]; exact Kp1.2.2.2.1 134 (by omega)
        · rw [Kp2.2.2.2.1 135 (by omega), i_ne _ _ (by decide)]; exact k5
        · rw [Kp2.2.2.2.1 136 (by omega), i_self, k6]; rfl
      · simp -implicitDefEqProofs only [Option.bind_some, bd_some, b2i_0, Bool.true_eq_false, Bool.false_eq_true, eq_self, if_true, if_false, not_true_eq_false, not_false_eq_true] at hb
        obtain ⟨c2, T2, z2, r2, p2, R2, x2, m2, S2, Kp2, Kr2, T2e, le2, nu2, g2⟩ := fin 135 (Or.inl rfl) (c1.i 135 ||| shlI 1 (n2 v))
        rw [nu_sI (by decide)] at nu2
        have P5 : pI (ovs B (c1 :: T1) z1) (some (mNx B)) 135 (c1.i 135 ||| shlI 1 (n2 v)) = some (ovs B (c1.sI 135 (c1.i 135 ||| shlI 1 (n2 v)) :: T1) z1) := rd5_put hB X1.t5 (by decide)
        have t5' : (c1.sI 135 (c1.i 135 ||| shlI 1 (n2 v))).t = 5 := X1.t5
        refine Or.inl ⟨v, c2, T2, z2, r2, p2, R1 ++ R2, ?_, M2 r2 m2, vr, Kr2.2.2.2.2, S2, g2.add (by omega) (by omega), by rw [T2e, T1e]; simp, by omega, by omega, Kp2.1.trans t5', ?_, ?_, ?_, ?_⟩
        · unfold fX6_rowTold bX6_rowTold_35 bX6_rowTold_47 bX6_rowTold_82
          simp -implicitDefEqProofs only [Option.bind_some, bd_some, b2i_0, Bool.true_eq_false, Bool.false_eq_true, eq_self, if_true, if_false, not_true_eq_false, not_false_eq_true, rd_iv5 X.t5, x1, a133, i28, rd_iv5 X1.t5, hX', bt_inl, G5, X_hasI, hb, X_need1', P5, rd_iv5 t5', x2]
        · exact (Kp2.2.2.2.2 133 (by decide)).trans (Kp1.2.2.2.2 133 (by decide))
        · rw [Kp2.2.2.2.1 134 (by omega), i_ne _ _ (by decide)]; exact Kp1.2.2.2.1 134 (by omega)
        · rw [Kp2.2.2.2.1 135 (by omega), i_self, k5]; rfl
        · rw [Kp2.2.2.2.1 136 (by omega), i_ne _ _ (by decide)]; exact k6
  · refine Or.inr ((D_badH (α := Int32) (b' := b') (n := n) (s := s) S1 X1.g 1 (Or.inl rfl)).eq ?_ ?_)
    · unfold fX6_rowTold
      simp -implicitDefEqProofs only [Option.bind_some, bd_some, b2i_0, Bool.true_eq_false, Bool.false_eq_true, eq_self, if_true, if_false, not_true_eq_false, not_false_eq_true, rd_iv5 X.t5, x1, a133, i28, rd_iv5 X1.t5, hX, bt_inr]
    · have t2' : (r1.token = 2) = False := eq_false t2
      unfold fX4_takesRow
      simp -implicitDefEqProofs only [Option.bind_some, bd_some, b2i_0, Bool.true_eq_false, Bool.false_eq_true, eq_self, if_true, if_false, not_true_eq_false, not_false_eq_true, ivM, m1, g_tok, t2', M_badH, nz0]
  · obtain ⟨v, hv1, hv2⟩ := S1.K.nb t2
    have hv2' : r1.number = n2 v := hv2
    have t2' : r1.token = 2 := t2
    have nv : ¬ (c1.i 128 = 1 ∨ c1.i 128 = 5) := by rw [k3]; decide
    have vr : ¬ v < H.rows := fun q => hr ⟨by rw [hv2]; exact n2_pos (by omega), by rw [hv2, hm1, ni_le (by omega) (by omega) (by omega)]; omega⟩
    have lt : (n2 v < n2 H.rows) = False := by rw [n2_lt (by omega) (by omega)]; exact eq_false vr
    refine Or.inr ((D_badH (α := Int32) (b' := b') (n := n) (s := s) S1 X1.g 2 (Or.inr nv)).eq ?_ ?_)
    · unfold fX6_rowTold
      simp -implicitDefEqProofs only [Option.bind_some, bd_some, b2i_0, Bool.true_eq_false, Bool.false_eq_true, eq_self, if_true, if_false, not_true_eq_false, not_false_eq_true, rd_iv5 X.t5, x1, a133, i28, rd_iv5 X1.t5, hX, bt_inr]
    · unfold fX4_takesRow
      simp -implicitDefEqProofs only [Option.bind_some, bd_some, b2i_0, Bool.true_eq_false, Bool.false_eq_true, eq_self, if_true, if_false, not_true_eq_false, not_false_eq_true, ivM, m1, g_tok, t2', g_num, hv2', gM_62, rd0, lt, M_badH, nz0]
end Lines
