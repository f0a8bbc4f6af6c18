set_option linter.unusedVariables false
set_option linter.unusedSimpArgs false
set_option maxRecDepth 100000
/-! ===== the model's plain house ===== -/
def MH.sHh (h : MH) (f : Nat → Int32) : MH := MH.mk h.lines h.prices h.leavings h.onces h.codeMany h.pileMany h.ones h.coming f h.newCues h.code h.pile
def plF (k : Nat) : Int32 := if 70 ≤ k ∧ k < 78 then 10 else if k = 3 then 1 else if k = 4 then 600 else 0
section Plain
variable {b' : Mem} {n s : Nat} {m : MS} {h : MH} {f : Nat → Int32}
theorem u_hh {k : Nat} {v : Int32} (hk : k < 590) : uI (mkM b' n s (m.sH2 (h.sHh f))) (some 109) (n2 k) v = some (mkM b' n s (m.sH2 (h.sHh (upq f k v)))) := by
  rw [uM_109, ifx_k hk (by omega), n2_nat (by omega)]; simp -implicitDefEqProofs only [gM_55, gM_57, gM_58, gM_59, gM_60, gM_64, gM_65, gM_66, gM_67, gM_68, gM_69, gM_70, gM_71, gM_72, gM_73, gM_74, gM_75, gM_76, gM_77, gM_81, gM_82, gM_83, gM_85, gM_86, gM_91, gM_92, gM_93, gM_94, gM_95, gM_96, gM_97, gM_98, gM_99, gM_100, gM_102, gM_103, gM_107, gM_108, gM_110, gM_111, gM_112, gM_113, gM_114, gM_115, gM_118, gM_119, gM_56, aM_107, nM_107, gM_61, aM_108, nM_108, gM_62, aM_109, nM_109, gM_63, aM_110, nM_110, gM_78, aM_111, nM_111, gM_79, aM_112, nM_112, gM_80, aM_113, nM_113, gM_84, aM_114, nM_114, gM_87, aM_115, nM_115, gM_88, aM_116, nM_116, gM_89, aM_117, nM_117, gM_90, aM_118, nM_118, gM_101, aM_119, nM_119, gM_104, aM_120, nM_120, gM_105, aM_121, nM_121, gM_106, aM_122, nM_122, gM_109, aM_123, nM_123, gM_116, aM_124, nM_124, gM_117, aM_125, nM_125, gM_120, aM_126, nM_126, gM_121, aM_127, nM_127, gM_122, aM_128, nM_128, gM_123, aM_129, nM_129, pM_55, pM_57, pM_58, pM_59, pM_60, pM_64, pM_65, pM_66, pM_67, pM_68, pM_69, pM_70, pM_71, pM_72, pM_73, pM_74, pM_75, pM_76, pM_77, pM_81, pM_82, pM_83, pM_85, pM_86, pM_91, pM_92, pM_93, pM_94, pM_95, pM_96, pM_97, pM_98, pM_99, pM_100, pM_102, pM_103, pM_107, pM_108, pM_110, pM_111, pM_112, pM_113, pM_114, pM_115, pM_118, pM_119, uM_107, uM_108, uM_109, uM_110, uM_111, uM_112, uM_113, uM_114, uM_115, uM_116, uM_117, uM_118, uM_119, uM_120, uM_121, uM_122, uM_123, uM_124, uM_125, uM_126, uM_127, uM_128, uM_129, ivM, Option.bind_some, bd_some, mk_MS_thrown, mk_MS_length, mk_MS_seatsPaid, mk_MS_seatsHiss, mk_MS_lays, mk_MS_arranged, mk_MS_tape, mk_MS_s, mk_MS_area, mk_MS_kept, mk_MS_keptPaid, mk_MS_keptHiss, mk_MS_isKept, mk_MS_r, mk_MS_h, mk_MS_n, mk_MS_c, mk_MR_size, mk_MR_p, mk_MR_limit, mk_MR_token, mk_MR_place, mk_MR_span, mk_MR_number, mk_MR_fault, mk_MR_faultAt, mk_MR_word, mk_MR_got, mk_MH_lines, mk_MH_prices, mk_MH_leavings, mk_MH_onces, mk_MH_codeMany, mk_MH_pileMany, mk_MH_ones, mk_MH_coming, mk_MH_hh, mk_MH_newCues, mk_MH_code, mk_MH_pile, mk_MN_paidNow, mk_MN_hissNow, mk_MN_clapping, mk_MN_standing, mk_MN_low, mk_MN_high, mk_MN_gone, mk_MN_cueNext, mk_MN_nightHeight, mk_MN_nightCarries, mk_MN_held, mk_MN_claps, mk_MN_stand, mk_MN_heldLow, mk_MN_heldHigh, mk_MC_askedMany, mk_MC_bought, mk_MC_worthMany, mk_MC_allOrders, mk_MC_hasSides, mk_MC_seenClaps, mk_MC_seenStand, mk_MC_seenAll, mk_MC_beganA, mk_MC_beganB, mk_MC_seed, mk_MC_asked, mk_MC_carried, mk_MC_heights, mk_MC_worths, mk_MC_side, mk_MC_otherClaps, mk_MC_otherStand, mk_NT_paid, mk_NT_hiss, mk_NT_c1, mk_NT_c2, mk_NT_lo, mk_NT_hi, mk_NT_next, mk_Ac_a1, mk_Ac_a2, mk_Ac_l, mk_Ac_h, MS.sH2, MH.sHh]
theorem a_hh {k : Nat} (hk : k < 590) : aI (mkM b' n s (m.sH2 (h.sHh f))) (some 109) (n2 k) = some (f k) := by
  rw [aM_109, ifx_k hk (by omega), n2_nat (by omega)]; simp -implicitDefEqProofs only [gM_55, gM_57, gM_58, gM_59, gM_60, gM_64, gM_65, gM_66, gM_67, gM_68, gM_69, gM_70, gM_71, gM_72, gM_73, gM_74, gM_75, gM_76, gM_77, gM_81, gM_82, gM_83, gM_85, gM_86, gM_91, gM_92, gM_93, gM_94, gM_95, gM_96, gM_97, gM_98, gM_99, gM_100, gM_102, gM_103, gM_107, gM_108, gM_110, gM_111, gM_112, gM_113, gM_114, gM_115, gM_118, gM_119, gM_56, aM_107, nM_107, gM_61, aM_108, nM_108, gM_62, aM_109, nM_109, gM_63, aM_110, nM_110, gM_78, aM_111, nM_111, gM_79, aM_112, nM_112, gM_80, aM_113, nM_113, gM_84, aM_114, nM_114, gM_87, aM_115, nM_115, gM_88, aM_116, nM_116, gM_89, aM_117, nM_117, gM_90, aM_118, nM_118, gM_101, aM_119, nM_119, gM_104, aM_120, nM_120, gM_105, aM_121, nM_121, gM_106, aM_122, nM_122, gM_109, aM_123, nM_123, gM_116, aM_124, nM_124, gM_117, aM_125, nM_125, gM_120, aM_126, nM_126, gM_121, aM_127, nM_127, gM_122, aM_128, nM_128, gM_123, aM_129, nM_129, pM_55, pM_57, pM_58, pM_59, pM_60, pM_64, pM_65, pM_66, pM_67, pM_68, pM_69, pM_70, pM_71, pM_72, pM_73, pM_74, pM_75, pM_76, pM_77, pM_81, pM_82, pM_83, pM_85, pM_86, pM_91, pM_92, pM_93, pM_94, pM_95, pM_96, pM_97, pM_98, pM_99, pM_100, pM_102, pM_103, pM_107, pM_108, pM_110, pM_111, pM_112, pM_113, pM_114, pM_115, pM_118, pM_119, uM_107, uM_108, uM_109, uM_110, uM_111, uM_112, uM_113, uM_114, uM_115, uM_116, uM_117, uM_118, uM_119, uM_120, uM_121, uM_122, uM_123, uM_124, uM_125, uM_126, uM_127, uM_128, uM_129, ivM, Option.bind_some, bd_some, mk_MS_thrown, mk_MS_length, mk_MS_seatsPaid, mk_MS_seatsHiss, mk_MS_lays, mk_MS_arranged, mk_MS_tape, mk_MS_s, mk_MS_area, mk_MS_kept, mk_MS_keptPaid, mk_MS_keptHiss, mk_MS_isKept, mk_MS_r, mk_MS_h, mk_MS_n, mk_MS_c, mk_MR_size, mk_MR_p, mk_MR_limit, mk_MR_token, mk_MR_place, mk_MR_span, mk_MR_number, mk_MR_fault, mk_MR_faultAt, mk_MR_word, mk_MR_got, mk_MH_lines, mk_MH_prices, mk_MH_leavings, mk_MH_onces, mk_MH_codeMany, mk_MH_pileMany, mk_MH_ones, mk_MH_coming, mk_MH_hh, mk_MH_newCues, mk_MH_code, mk_MH_pile, mk_MN_paidNow, mk_MN_hissNow, mk_MN_clapping, mk_MN_standing, mk_MN_low, mk_MN_high, mk_MN_gone, mk_MN_cueNext, mk_MN_nightHeight, mk_MN_nightCarries, mk_MN_held, mk_MN_claps, mk_MN_stand, mk_MN_heldLow, mk_MN_heldHigh, mk_MC_askedMany, mk_MC_bought, mk_MC_worthMany, mk_MC_allOrders, mk_MC_hasSides, mk_MC_seenClaps, mk_MC_seenStand, mk_MC_seenAll, mk_MC_beganA, mk_MC_beganB, mk_MC_seed, mk_MC_asked, mk_MC_carried, mk_MC_heights, mk_MC_worths, mk_MC_side, mk_MC_otherClaps, mk_MC_otherStand, mk_NT_paid, mk_NT_hiss, mk_NT_c1, mk_NT_c2, mk_NT_lo, mk_NT_hi, mk_NT_next, mk_Ac_a1, mk_Ac_a2, mk_Ac_l, mk_Ac_h, MS.sH2, MH.sHh]
theorem sHh_self (h : MH) : h.sHh h.hh = h := rfl
theorem M_pl24 : ∀ (k fu j : Nat) (f : Nat → Int32), j + k = 8 → k < fu → (∀ i, i < 590 → f i = if 70 ≤ i ∧ i < 70 + j then 10 else 0) →
    ∃ F, bX4_plainHouse_24 fu (some 106) (n2 j) (mkM b' n s (m.sH2 (h.sHh f))) = some ((), mkM b' n s (m.sH2 (h.sHh F))) ∧ ∀ i, i < 590 → F i = plF i := by
  intro k
  induction k with
  | zero =>
    intro fu j f hk hf hi
    obtain ⟨fu, rfl⟩ : ∃ g, fu = g + 1 := ⟨fu - 1, by omega⟩
    have e : j = 8 := by omega
    subst e
    refine ⟨upq (upq f 3 1) 4 600, ?_, fun i h5 => ?_⟩
    · show bX4_plainHouse_24B _ _ _ _ = _
      unfold bX4_plainHouse_24B
      have u1 : uI (mkM b' n s (m.sH2 (h.sHh f))) (some 109) (3 : Int32) 1 = some (mkM b' n s (m.sH2 (h.sHh (upq f 3 1)))) := u_hh (k := 3) (by decide)
      have u2 : uI (mkM b' n s (m.sH2 (h.sHh (upq f 3 1)))) (some 109) (4 : Int32) 600 = some (mkM b' n s (m.sH2 (h.sHh (upq (upq f 3 1) 4 600)))) := u_hh (k := 4) (by decide)
      simp -implicitDefEqProofs only [Option.bind_some, bd_some, b2i_0, Bool.true_eq_false, Bool.false_eq_true, eq_self, if_true, if_false, not_true_eq_false, not_false_eq_true, show ((8 : Int32) ≤ n2 8) = True from eq_true (by decide), gM_62, u1, u2]
    · unfold plF
      by_cases e4 : i = 4
      · subst e4; rw [upq_self]; rfl
      · rw [upq_ne _ _ e4]
        by_cases e3 : i = 3
        · subst e3; rw [upq_self]; rfl
        · rw [upq_ne _ _ e3, hi i h5]
          by_cases c : 70 ≤ i ∧ i < 78
          · rw [if_pos c, if_pos c]
          · rw [if_neg c, if_neg c, if_neg e3, if_neg e4]
  | succ k ih =>
    intro fu j f hk hf hi
    obtain ⟨fu, rfl⟩ : ∃ g, fu = g + 1 := ⟨fu - 1, by omega⟩
    have le : ((8 : Int32) ≤ n2 j) = False := by rw [li_8, n2_le (by omega) (by omega)]; exact eq_false (by omega)
    have ix : (70 : Int32) + n2 j = n2 (70 + j) := by rw [li_70, n2_add]
    obtain ⟨F, e1, e2⟩ := ih fu (j + 1) (upq f (70 + j) 10) (by omega) (by omega) (fun i h5 => by
      by_cases e : i = 70 + j
      · rw [e, upq_self, if_pos (by omega)]
      · rw [upq_ne _ _ e, hi i h5]
        by_cases c : 70 ≤ i ∧ i < 70 + j
        · rw [if_pos c, if_pos (by omega)]
        · rw [if_neg c, if_neg (by omega)])
    refine ⟨F, ?_, e2⟩
    rw [← e1]
    show bX4_plainHouse_24B (bX4_plainHouse_24 fu) _ _ _ = _
    unfold bX4_plainHouse_24B
    simp -implicitDefEqProofs only [Option.bind_some, bd_some, b2i_0, Bool.true_eq_false, Bool.false_eq_true, eq_self, if_true, if_false, not_true_eq_false, not_false_eq_true, le, gM_62, ix, u_hh (show 70 + j < 590 by omega), show n2 j + 1 = n2 (j + 1) from n2_add j 1]
theorem M_pl2 : ∀ (k fu j : Nat) (f : Nat → Int32), j + k = 590 → k < fu → (∀ i, i < j → f i = 0) →
    ∃ F, bX4_plainHouse_2 fu (some 106) (n2 j) (mkM b' n s (m.sH2 (h.sHh f))) = some ((), mkM b' n s (m.sH2 (h.sHh F))) ∧ ∀ i, i < 590 → F i = plF i := by
  intro k
  induction k with
  | zero =>
    intro fu j f hk hf hi
    obtain ⟨fu, rfl⟩ : ∃ g, fu = g + 1 := ⟨fu - 1, by omega⟩
    have e : j = 590 := by omega
    subst e
    obtain ⟨F, e1, e2⟩ := M_pl24 (b' := b') (n := n) (s := s) (m := m) (h := h) 8 hcFuel 0 f (by omega) (by unfold hcFuel; omega) (fun i h5 => by rw [if_neg (by omega)]; exact hi i h5)
    refine ⟨F, ?_, e2⟩
    rw [← e1]
    show bX4_plainHouse_2B _ _ _ _ = _
    unfold bX4_plainHouse_2B
    rw [if_pos (by decide)]; rfl
  | succ k ih =>
    intro fu j f hk hf hi
    obtain ⟨fu, rfl⟩ : ∃ g, fu = g + 1 := ⟨fu - 1, by omega⟩
    have le : ((590 : Int32) ≤ n2 j) = False := by rw [li_590, n2_le (by omega) (by omega)]; exact eq_false (by omega)
    obtain ⟨F, e1, e2⟩ := ih fu (j + 1) (upq f j 0) (by omega) (by omega) (fun i h5 => by
      by_cases e : i = j
      · rw [e, upq_self]
      · rw [upq_ne _ _ e]; exact hi i (by omega))
    refine ⟨F, ?_, e2⟩
    rw [← e1]
    show bX4_plainHouse_2B (bX4_plainHouse_2 fu) _ _ _ = _
    unfold bX4_plainHouse_2B
    simp -implicitDefEqProofs only [Option.bind_some, bd_some, b2i_0, Bool.true_eq_false, Bool.false_eq_true, eq_self, if_true, if_false, not_true_eq_false, not_false_eq_true, le, gM_62, u_hh (show j < 590 by omega), show n2 j + 1 = n2 (j + 1) from n2_add j 1]
theorem M_plain : ∃ F, fX4_plainHouse (some 106) (mkM b' n s m) = some ((), mkM b' n s (m.sH2 (m.h.sHh F))) ∧ ∀ i, i < 590 → F i = plF i := by
  obtain ⟨F, e1, e2⟩ := M_pl2 (b' := b') (n := n) (s := s) (m := m) (h := m.h) 590 hcFuel 0 m.h.hh (by omega) (by unfold hcFuel; omega) (fun i hi => absurd hi (Nat.not_lt_zero i))
  rw [sHh_self, sH2_self] at e1
  exact ⟨F, e1, e2⟩
/-- the house's copy at the end, and the cues emptied -/
theorem M_take : ∀ (k fu j : Nat) (m : MS), j + k = 681 → k < fu → (∀ i, i < j → m.s i = if i < 590 then m.h.hh i else 0) →
    ∃ S, bX4_house_90 fu (some 106) (n2 j) (mkM b' n s m) = some (m.h.lines, mkM b' n s (m.rst S 0 0)) ∧ ∀ i, i < 681 → S i = if i < 590 then m.h.hh i else 0 := by
  intro k
  induction k with
  | zero =>
    intro fu j m hk hf hi
    obtain ⟨fu, rfl⟩ : ∃ g, fu = g + 1 := ⟨fu - 1, by omega⟩
    have e : j = 681 := by omega
    subst e
    refine ⟨m.s, ?_, hi⟩
    show bX4_house_90B _ _ _ _ = _
    unfold bX4_house_90B
    rw [if_pos (by decide), pM_71, Option.bind_some, pM_72, Option.bind_some, pM_85 (Or.inr rfl), Option.bind_some]
    simp -implicitDefEqProofs only [gM_55, gM_57, gM_58, gM_59, gM_60, gM_64, gM_65, gM_66, gM_67, gM_68, gM_69, gM_70, gM_71, gM_72, gM_73, gM_74, gM_75, gM_76, gM_77, gM_81, gM_82, gM_83, gM_85, gM_86, gM_91, gM_92, gM_93, gM_94, gM_95, gM_96, gM_97, gM_98, gM_99, gM_100, gM_102, gM_103, gM_107, gM_108, gM_110, gM_111, gM_112, gM_113, gM_114, gM_115, gM_118, gM_119, gM_56, aM_107, nM_107, gM_61, aM_108, nM_108, gM_62, aM_109, nM_109, gM_63, aM_110, nM_110, gM_78, aM_111, nM_111, gM_79, aM_112, nM_112, gM_80, aM_113, nM_113, gM_84, aM_114, nM_114, gM_87, aM_115, nM_115, gM_88, aM_116, nM_116, gM_89, aM_117, nM_117, gM_90, aM_118, nM_118, gM_101, aM_119, nM_119, gM_104, aM_120, nM_120, gM_105, aM_121, nM_121, gM_106, aM_122, nM_122, gM_109, aM_123, nM_123, gM_116, aM_124, nM_124, gM_117, aM_125, nM_125, gM_120, aM_126, nM_126, gM_121, aM_127, nM_127, gM_122, aM_128, nM_128, gM_123, aM_129, nM_129, pM_55, pM_57, pM_58, pM_59, pM_60, pM_64, pM_65, pM_66, pM_67, pM_68, pM_69, pM_70, pM_71, pM_72, pM_73, pM_74, pM_75, pM_76, pM_77, pM_81, pM_82, pM_83, pM_85, pM_86, pM_91, pM_92, pM_93, pM_94, pM_95, pM_96, pM_97, pM_98, pM_99, pM_100, pM_102, pM_103, pM_107, pM_108, pM_110, pM_111, pM_112, pM_113, pM_114, pM_115, pM_118, pM_119, uM_107, uM_108, uM_109, uM_110, uM_111, uM_112, uM_113, uM_114, uM_115, uM_116, uM_117, uM_118, uM_119, uM_120, uM_121, uM_122, uM_123, uM_124, uM_125, uM_126, uM_127, uM_128, uM_129, ivM, Option.bind_some, bd_some, mk_MS_thrown, mk_MS_length, mk_MS_seatsPaid, mk_MS_seatsHiss, mk_MS_lays, mk_MS_arranged, mk_MS_tape, mk_MS_s, mk_MS_area, mk_MS_kept, mk_MS_keptPaid, mk_MS_keptHiss, mk_MS_isKept, mk_MS_r, mk_MS_h, mk_MS_n, mk_MS_c, mk_MR_size, mk_MR_p, mk_MR_limit, mk_MR_token, mk_MR_place, mk_MR_span, mk_MR_number, mk_MR_fault, mk_MR_faultAt, mk_MR_word, mk_MR_got, mk_MH_lines, mk_MH_prices, mk_MH_leavings, mk_MH_onces, mk_MH_codeMany, mk_MH_pileMany, mk_MH_ones, mk_MH_coming, mk_MH_hh, mk_MH_newCues, mk_MH_code, mk_MH_pile, mk_MN_paidNow, mk_MN_hissNow, mk_MN_clapping, mk_MN_standing, mk_MN_low, mk_MN_high, mk_MN_gone, mk_MN_cueNext, mk_MN_nightHeight, mk_MN_nightCarries, mk_MN_held, mk_MN_claps, mk_MN_stand, mk_MN_heldLow, mk_MN_heldHigh, mk_MC_askedMany, mk_MC_bought, mk_MC_worthMany, mk_MC_allOrders, mk_MC_hasSides, mk_MC_seenClaps, mk_MC_seenStand, mk_MC_seenAll, mk_MC_beganA, mk_MC_beganB, mk_MC_seed, mk_MC_asked, mk_MC_carried, mk_MC_heights, mk_MC_worths, mk_MC_side, mk_MC_otherClaps, mk_MC_otherStand, mk_NT_paid, mk_NT_hiss, mk_NT_c1, mk_NT_c2, mk_NT_lo, mk_NT_hi, mk_NT_next, mk_Ac_a1, mk_Ac_a2, mk_Ac_l, mk_Ac_h, MS.rst]
  | succ k ih =>
    intro fu j m hk hf hi
    obtain ⟨fu, rfl⟩ : ∃ g, fu = g + 1 := ⟨fu - 1, by omega⟩
    have le : ((681 : Int32) ≤ n2 j) = False := by rw [li_681, n2_le (by omega) (by omega)]; exact eq_false (by omega)
    have us : ∀ v, uI (mkM b' n s m) (some 108) (n2 j) v = some (mkM b' n s (m.ss (upq m.s j v))) := fun v => by
      rw [uM_108, ifx_k (show j < 681 by omega) (by omega), n2_nat (by omega)]; rfl
    have ssh : ∀ g : Nat → Int32, (m.ss g).h = m.h := fun g => rfl
    obtain ⟨S, e1, e2⟩ := ih fu (j + 1) (m.ss (upq m.s j (if j < 590 then m.h.hh j else 0))) (by omega) (by omega) (fun i h5 => by
      rw [ss_s, ssh]
      by_cases e : i = j
      · rw [e, upq_self]
      · rw [upq_ne _ _ e]; exact hi i (by omega))
    rw [ssh, ss_rst] at e1
    rw [ssh] at e2
    refine ⟨S, ?_, e2⟩
    rw [← e1]
    show bX4_house_90B (bX4_house_90 fu) _ _ _ = _
    unfold bX4_house_90B bX4_house_119
    by_cases c : j < 590
    · have l2 : ((590 : Int32) ≤ n2 j) = False := by rw [li_590, n2_le (by omega) (by omega)]; exact eq_false (by omega)
      have rd : aI (mkM b' n s m) (some 109) (n2 j) = some (m.h.hh j) := by
        rw [aM_109, ifx_k c (by omega), n2_nat (by omega)]
      simp -implicitDefEqProofs only [Option.bind_some, bd_some, b2i_0, Bool.true_eq_false, Bool.false_eq_true, eq_self, if_true, if_false, not_true_eq_false, not_false_eq_true, le, gM_61, l2, gM_62, rd, us, c, show n2 j + 1 = n2 (j + 1) from n2_add j 1]
    · have l2 : ((590 : Int32) ≤ n2 j) = True := by rw [li_590, n2_le (by omega) (by omega)]; exact eq_true (by omega)
      simp -implicitDefEqProofs only [Option.bind_some, bd_some, b2i_0, Bool.true_eq_false, Bool.false_eq_true, eq_self, if_true, if_false, not_true_eq_false, not_false_eq_true, le, gM_61, l2, us, c, show n2 j + 1 = n2 (j + 1) from n2_add j 1]
end Plain
