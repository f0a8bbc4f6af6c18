set_option linter.unusedVariables false
set_option linter.unusedSimpArgs false
set_option maxRecDepth 100000
/-! ===== the model's pile of operators ===== -/
def MH.wd (h : MH) (pm cm : Int32) (cd : Nat → Int32) : MH := MH.mk h.lines h.prices h.leavings h.onces cm pm h.ones h.coming h.hh h.newCues cd h.pile
def bnd (x : Nat) : Nat := if x = 3 then 3 else if x = 4 then 2 else 1
/-- what writeDown takes off the pile (top first), and what stays -/
def wdP (v : Nat) : List Nat → List Nat
  | [] => []
  | x :: Q => if x = 6 ∨ bnd x < v then [] else x :: wdP v Q
def wdR (v : Nat) : List Nat → List Nat
  | [] => []
  | x :: Q => if x = 6 ∨ bnd x < v then x :: Q else wdR v Q
theorem wd_len (v : Nat) : ∀ Q : List Nat, (wdP v Q).length + (wdR v Q).length = Q.length
  | [] => rfl
  | x :: Q => by
    have ih := wd_len v Q
    simp -implicitDefEqProofs only [wdP, wdR]
    split
    · simp
    · simp -implicitDefEqProofs only [List.length_cons]; omega
/-- the pile, top first -/
def PlR (f : Nat → Int32) : List Nat → Prop
  | [] => True
  | x :: Q => f Q.length = n2 x ∧ x < 8 ∧ PlR f Q
theorem PlR.wd {f : Nat → Int32} {v : Nat} : ∀ {Q : List Nat}, PlR f Q → PlR f (wdR v Q)
  | [], h => h
  | x :: Q, h => by
    simp -implicitDefEqProofs only [wdR]
    split
    · exact h
    · exact PlR.wd h.2.2
def CdR (f : Nat → Int32) (l : List Int32) : Prop := ∀ i (h : i < l.length), f i = l[i]
theorem CdR.app {f : Nat → Int32} {l : List Int32} (h : CdR f l) (v : Int32) : CdR (upq f l.length v) (l ++ [v]) := by
  intro i hi
  rw [List.length_append] at hi
  simp -implicitDefEqProofs only [List.length_cons, List.length_nil] at hi
  by_cases e : i = l.length
  · subst e; rw [upq_self]; simp
  · rw [upq_ne _ _ e, List.getElem_append_left (by omega)]; exact h i (by omega)
section Pile
variable {b' : Mem} {n s : Nat} {m : MS} {h : MH}
theorem H_r {h : MH} : (m.sH2 h).h = h := rfl
theorem M_binds (x : Nat) (hx : x < 8) (st : Mem) : fX4_binds (n2 x) st = some (n2 (bnd x), st) := by
  unfold fX4_binds bnd
  have e3 : (n2 x = (3 : Int32)) = (x = 3) := by rw [li_3]; exact n2_eq (by omega) (by decide)
  have e4 : (n2 x = (4 : Int32)) = (x = 4) := by rw [li_4]; exact n2_eq (by omega) (by decide)
  by_cases h3 : x = 3
  · simp -implicitDefEqProofs only [Option.bind_some, bd_some, b2i_0, Bool.true_eq_false, Bool.false_eq_true, eq_self, if_true, if_false, not_true_eq_false, not_false_eq_true, e3, h3]; rfl
  · by_cases h4 : x = 4
    · simp -implicitDefEqProofs only [Option.bind_some, bd_some, b2i_0, Bool.true_eq_false, Bool.false_eq_true, eq_self, if_true, if_false, not_true_eq_false, not_false_eq_true, e3, e4, h3, h4, show ((4 : Nat) = 3) = False from eq_false (by decide)]; rfl
    · simp -implicitDefEqProofs only [Option.bind_some, bd_some, b2i_0, Bool.true_eq_false, Bool.false_eq_true, eq_self, if_true, if_false, not_true_eq_false, not_false_eq_true, e3, e4, h3, h4]; rfl
theorem M_write {pm v : Int32} {cd : Nat → Int32} {k : Nat} (hk : k < 64) : fX4_write (some 106) v (mkM b' n s (m.sH2 (h.wd pm (n2 k) cd))) = some ((), mkM b' n s (m.sH2 (h.wd pm (n2 (k + 1)) (upq cd k v)))) := by
  have u : uI (mkM b' n s (m.sH2 (h.wd pm (n2 k) cd))) (some 111) (n2 k) v = some (mkM b' n s (m.sH2 (h.wd pm (n2 k) (upq cd k v)))) := by
    rw [uM_111, ifx_k hk (by omega), n2_nat (by omega)]; simp -implicitDefEqProofs only [gM_55, gM_57, gM_58, gM_59, gM_60, gM_64, gM_65, gM_66, gM_67, gM_68, gM_69, gM_70, gM_71, gM_72, gM_73, gM_74, gM_75, gM_76, gM_77, gM_81, gM_82, gM_83, gM_85, gM_86, gM_91, gM_92, gM_93, gM_94, gM_95, gM_96, gM_97, gM_98, gM_99, gM_100, gM_102, gM_103, gM_107, gM_108, gM_110, gM_111, gM_112, gM_113, gM_114, gM_115, gM_118, gM_119, gM_56, aM_107, nM_107, gM_61, aM_108, nM_108, gM_62, aM_109, nM_109, gM_63, aM_110, nM_110, gM_78, aM_111, nM_111, gM_79, aM_112, nM_112, gM_80, aM_113, nM_113, gM_84, aM_114, nM_114, gM_87, aM_115, nM_115, gM_88, aM_116, nM_116, gM_89, aM_117, nM_117, gM_90, aM_118, nM_118, gM_101, aM_119, nM_119, gM_104, aM_120, nM_120, gM_105, aM_121, nM_121, gM_106, aM_122, nM_122, gM_109, aM_123, nM_123, gM_116, aM_124, nM_124, gM_117, aM_125, nM_125, gM_120, aM_126, nM_126, gM_121, aM_127, nM_127, gM_122, aM_128, nM_128, gM_123, aM_129, nM_129, pM_55, pM_57, pM_58, pM_59, pM_60, pM_64, pM_65, pM_66, pM_67, pM_68, pM_69, pM_70, pM_71, pM_72, pM_73, pM_74, pM_75, pM_76, pM_77, pM_81, pM_82, pM_83, pM_85, pM_86, pM_91, pM_92, pM_93, pM_94, pM_95, pM_96, pM_97, pM_98, pM_99, pM_100, pM_102, pM_103, pM_107, pM_108, pM_110, pM_111, pM_112, pM_113, pM_114, pM_115, pM_118, pM_119, uM_107, uM_108, uM_109, uM_110, uM_111, uM_112, uM_113, uM_114, uM_115, uM_116, uM_117, uM_118, uM_119, uM_120, uM_121, uM_122, uM_123, uM_124, uM_125, uM_126, uM_127, uM_128, uM_129, ivM, Option.bind_some, bd_some, mk_MS_thrown, mk_MS_length, mk_MS_seatsPaid, mk_MS_seatsHiss, mk_MS_lays, mk_MS_arranged, mk_MS_tape, mk_MS_s, mk_MS_area, mk_MS_kept, mk_MS_keptPaid, mk_MS_keptHiss, mk_MS_isKept, mk_MS_r, mk_MS_h, mk_MS_n, mk_MS_c, mk_MR_size, mk_MR_p, mk_MR_limit, mk_MR_token, mk_MR_place, mk_MR_span, mk_MR_number, mk_MR_fault, mk_MR_faultAt, mk_MR_word, mk_MR_got, mk_MH_lines, mk_MH_prices, mk_MH_leavings, mk_MH_onces, mk_MH_codeMany, mk_MH_pileMany, mk_MH_ones, mk_MH_coming, mk_MH_hh, mk_MH_newCues, mk_MH_code, mk_MH_pile, mk_MN_paidNow, mk_MN_hissNow, mk_MN_clapping, mk_MN_standing, mk_MN_low, mk_MN_high, mk_MN_gone, mk_MN_cueNext, mk_MN_nightHeight, mk_MN_nightCarries, mk_MN_held, mk_MN_claps, mk_MN_stand, mk_MN_heldLow, mk_MN_heldHigh, mk_MC_askedMany, mk_MC_bought, mk_MC_worthMany, mk_MC_allOrders, mk_MC_hasSides, mk_MC_seenClaps, mk_MC_seenStand, mk_MC_seenAll, mk_MC_beganA, mk_MC_beganB, mk_MC_seed, mk_MC_asked, mk_MC_carried, mk_MC_heights, mk_MC_worths, mk_MC_side, mk_MC_otherClaps, mk_MC_otherStand, mk_NT_paid, mk_NT_hiss, mk_NT_c1, mk_NT_c2, mk_NT_lo, mk_NT_hi, mk_NT_next, mk_Ac_a1, mk_Ac_a2, mk_Ac_l, mk_Ac_h, MS.sH2, MH.wd]
  have pw : pI (mkM b' n s (m.sH2 (h.wd pm (n2 k) (upq cd k v)))) (some 106) 81 (n2 (k + 1)) = some (mkM b' n s (m.sH2 (h.wd pm (n2 (k + 1)) (upq cd k v)))) := by
    rw [pM_81]; simp -implicitDefEqProofs only [gM_55, gM_57, gM_58, gM_59, gM_60, gM_64, gM_65, gM_66, gM_67, gM_68, gM_69, gM_70, gM_71, gM_72, gM_73, gM_74, gM_75, gM_76, gM_77, gM_81, gM_82, gM_83, gM_85, gM_86, gM_91, gM_92, gM_93, gM_94, gM_95, gM_96, gM_97, gM_98, gM_99, gM_100, gM_102, gM_103, gM_107, gM_108, gM_110, gM_111, gM_112, gM_113, gM_114, gM_115, gM_118, gM_119, gM_56, aM_107, nM_107, gM_61, aM_108, nM_108, gM_62, aM_109, nM_109, gM_63, aM_110, nM_110, gM_78, aM_111, nM_111, gM_79, aM_112, nM_112, gM_80, aM_113, nM_113, gM_84, aM_114, nM_114, gM_87, aM_115, nM_115, gM_88, aM_116, nM_116, gM_89, aM_117, nM_117, gM_90, aM_118, nM_118, gM_101, aM_119, nM_119, gM_104, aM_120, nM_120, gM_105, aM_121, nM_121, gM_106, aM_122, nM_122, gM_109, aM_123, nM_123, gM_116, aM_124, nM_124, gM_117, aM_125, nM_125, gM_120, aM_126, nM_126, gM_121, aM_127, nM_127, gM_122, aM_128, nM_128, gM_123, aM_129, nM_129, pM_55, pM_57, pM_58, pM_59, pM_60, pM_64, pM_65, pM_66, pM_67, pM_68, pM_69, pM_70, pM_71, pM_72, pM_73, pM_74, pM_75, pM_76, pM_77, pM_81, pM_82, pM_83, pM_85, pM_86, pM_91, pM_92, pM_93, pM_94, pM_95, pM_96, pM_97, pM_98, pM_99, pM_100, pM_102, pM_103, pM_107, pM_108, pM_110, pM_111, pM_112, pM_113, pM_114, pM_115, pM_118, pM_119, uM_107, uM_108, uM_109, uM_110, uM_111, uM_112, uM_113, uM_114, uM_115, uM_116, uM_117, uM_118, uM_119, uM_120, uM_121, uM_122, uM_123, uM_124, uM_125, uM_126, uM_127, uM_128, uM_129, ivM, Option.bind_some, bd_some, mk_MS_thrown, mk_MS_length, mk_MS_seatsPaid, mk_MS_seatsHiss, mk_MS_lays, mk_MS_arranged, mk_MS_tape, mk_MS_s, mk_MS_area, mk_MS_kept, mk_MS_keptPaid, mk_MS_keptHiss, mk_MS_isKept, mk_MS_r, mk_MS_h, mk_MS_n, mk_MS_c, mk_MR_size, mk_MR_p, mk_MR_limit, mk_MR_token, mk_MR_place, mk_MR_span, mk_MR_number, mk_MR_fault, mk_MR_faultAt, mk_MR_word, mk_MR_got, mk_MH_lines, mk_MH_prices, mk_MH_leavings, mk_MH_onces, mk_MH_codeMany, mk_MH_pileMany, mk_MH_ones, mk_MH_coming, mk_MH_hh, mk_MH_newCues, mk_MH_code, mk_MH_pile, mk_MN_paidNow, mk_MN_hissNow, mk_MN_clapping, mk_MN_standing, mk_MN_low, mk_MN_high, mk_MN_gone, mk_MN_cueNext, mk_MN_nightHeight, mk_MN_nightCarries, mk_MN_held, mk_MN_claps, mk_MN_stand, mk_MN_heldLow, mk_MN_heldHigh, mk_MC_askedMany, mk_MC_bought, mk_MC_worthMany, mk_MC_allOrders, mk_MC_hasSides, mk_MC_seenClaps, mk_MC_seenStand, mk_MC_seenAll, mk_MC_beganA, mk_MC_beganB, mk_MC_seed, mk_MC_asked, mk_MC_carried, mk_MC_heights, mk_MC_worths, mk_MC_side, mk_MC_otherClaps, mk_MC_otherStand, mk_NT_paid, mk_NT_hiss, mk_NT_c1, mk_NT_c2, mk_NT_lo, mk_NT_hi, mk_NT_next, mk_Ac_a1, mk_Ac_a2, mk_Ac_l, mk_Ac_h, MS.sH2, MH.wd]
  have g1 : ∀ cd : Nat → Int32, gI (mkM b' n s (m.sH2 (h.wd pm (n2 k) cd))) (some 106) 81 = some (n2 k) := fun cd => gM_81
  unfold fX4_write
  simp -implicitDefEqProofs only [Option.bind_some, bd_some, b2i_0, Bool.true_eq_false, Bool.false_eq_true, eq_self, if_true, if_false, not_true_eq_false, not_false_eq_true, gM_78, g1, u, show n2 k + 1 = n2 (k + 1) from n2_add k 1, pw]
theorem M_down {v : Nat} (hv : v < 8) : ∀ (Q : List Nat) (fu : Nat) (l : List Int32) (cd : Nat → Int32), Q.length < fu → Q.length ≤ 30 → l.length + Q.length ≤ 64 → PlR h.pile Q → CdR cd l →
    ∃ cd', bX4_writeDown_0 fu (some 106) (n2 v) (mkM b' n s (m.sH2 (h.wd (n2 Q.length) (n2 l.length) cd))) = some ((), mkM b' n s (m.sH2 (h.wd (n2 (wdR v Q).length) (n2 (l ++ (wdP v Q).map n2).length) cd'))) ∧ CdR cd' (l ++ (wdP v Q).map n2)
  | [], fu, l, cd, hf, h30, h64, hP, hC => by
    obtain ⟨fu, rfl⟩ : ∃ g, fu = g + 1 := ⟨fu - 1, by omega⟩
    refine ⟨cd, ?_, by simpa [wdP] using hC⟩
    have g1 : gI (mkM b' n s (m.sH2 (h.wd (n2 0) (n2 l.length) cd))) (some 106) 82 = some (n2 0) := gM_82
    show bX4_writeDown_0B _ _ _ _ = _
    unfold bX4_writeDown_0B
    simp -implicitDefEqProofs only [List.length_nil, wdR, wdP, List.map_nil, List.append_nil]
    simp -implicitDefEqProofs only [Option.bind_some, bd_some, b2i_0, Bool.true_eq_false, Bool.false_eq_true, eq_self, if_true, if_false, not_true_eq_false, not_false_eq_true, g1, show (n2 0 ≤ (0 : Int32)) = True from eq_true (by decide)]
  | x :: Q, fu, l, cd, hf, h30, h64, hP, hC => by
    obtain ⟨fu, rfl⟩ : ∃ g, fu = g + 1 := ⟨fu - 1, by omega⟩
    obtain ⟨p1, p2, p3⟩ := hP
    simp -implicitDefEqProofs only [List.length_cons] at hf h30 h64
    have g1 : gI (mkM b' n s (m.sH2 (h.wd (n2 (Q.length + 1)) (n2 l.length) cd))) (some 106) 82 = some (n2 (Q.length + 1)) := gM_82
    have g2 : ∀ pm, aI (mkM b' n s (m.sH2 (h.wd pm (n2 l.length) cd))) (some 112) (n2 Q.length) = some (n2 x) := fun pm => by
      have e : aI (mkM b' n s (m.sH2 (h.wd pm (n2 l.length) cd))) (some 112) (n2 Q.length) = ifx 30 (n2 Q.length) (h.pile (n2 Q.length).toNatClampNeg) := aM_112
      rw [e, ifx_k (by omega) (by omega), n2_nat (by omega), p1]
    have le : (n2 (Q.length + 1) ≤ (0 : Int32)) = False := by rw [li_0, n2_le (by omega) (by decide)]; exact eq_false (by omega)
    have sb : n2 (Q.length + 1) - (1 : Int32) = n2 Q.length := by rw [li_1, n2_sub (by omega), Nat.add_sub_cancel]
    have e6 : (n2 x = (6 : Int32)) = (x = 6) := by rw [li_6]; exact n2_eq (by omega) (by decide)
    have bl : bnd x ≤ 3 := by unfold bnd; split; omega; split <;> omega
    have lt : (n2 (bnd x) < n2 v) = (bnd x < v) := n2_lt (by omega) (by omega)
    show ∃ cd', bX4_writeDown_0B (bX4_writeDown_0 fu) _ _ _ = _ ∧ _
    unfold bX4_writeDown_0B
    simp -implicitDefEqProofs only [List.length_cons, wdR, wdP]
    by_cases c6 : x = 6
    · refine ⟨cd, ?_, ?_⟩
      · rw [if_pos (Or.inl c6), if_pos (Or.inl c6)]
        simp -implicitDefEqProofs only [List.length_cons, List.map_nil, List.append_nil]
        simp -implicitDefEqProofs only [Option.bind_some, bd_some, b2i_0, Bool.true_eq_false, Bool.false_eq_true, eq_self, if_true, if_false, not_true_eq_false, not_false_eq_true, g1, le, gM_79, sb, g2, show (n2 x = (6 : Int32)) = True from by rw [e6]; exact eq_true c6]
      · rw [if_pos (Or.inl c6)]; simpa using hC
    · by_cases cb : bnd x < v
      · refine ⟨cd, ?_, ?_⟩
        · rw [if_pos (Or.inr cb), if_pos (Or.inr cb)]
          simp -implicitDefEqProofs only [List.length_cons, List.map_nil, List.append_nil]
          simp -implicitDefEqProofs only [Option.bind_some, bd_some, b2i_0, Bool.true_eq_false, Bool.false_eq_true, eq_self, if_true, if_false, not_true_eq_false, not_false_eq_true, g1, le, gM_79, sb, g2, e6, c6, M_binds x p2, lt, cb]
        · rw [if_pos (Or.inr cb)]; simpa using hC
      · have pd : pI (mkM b' n s (m.sH2 (h.wd (n2 (Q.length + 1)) (n2 l.length) cd))) (some 106) 82 (n2 Q.length) = some (mkM b' n s (m.sH2 (h.wd (n2 Q.length) (n2 l.length) cd))) := by
          rw [pM_82]; simp -implicitDefEqProofs only [gM_55, gM_57, gM_58, gM_59, gM_60, gM_64, gM_65, gM_66, gM_67, gM_68, gM_69, gM_70, gM_71, gM_72, gM_73, gM_74, gM_75, gM_76, gM_77, gM_81, gM_82, gM_83, gM_85, gM_86, gM_91, gM_92, gM_93, gM_94, gM_95, gM_96, gM_97, gM_98, gM_99, gM_100, gM_102, gM_103, gM_107, gM_108, gM_110, gM_111, gM_112, gM_113, gM_114, gM_115, gM_118, gM_119, gM_56, aM_107, nM_107, gM_61, aM_108, nM_108, gM_62, aM_109, nM_109, gM_63, aM_110, nM_110, gM_78, aM_111, nM_111, gM_79, aM_112, nM_112, gM_80, aM_113, nM_113, gM_84, aM_114, nM_114, gM_87, aM_115, nM_115, gM_88, aM_116, nM_116, gM_89, aM_117, nM_117, gM_90, aM_118, nM_118, gM_101, aM_119, nM_119, gM_104, aM_120, nM_120, gM_105, aM_121, nM_121, gM_106, aM_122, nM_122, gM_109, aM_123, nM_123, gM_116, aM_124, nM_124, gM_117, aM_125, nM_125, gM_120, aM_126, nM_126, gM_121, aM_127, nM_127, gM_122, aM_128, nM_128, gM_123, aM_129, nM_129, pM_55, pM_57, pM_58, pM_59, pM_60, pM_64, pM_65, pM_66, pM_67, pM_68, pM_69, pM_70, pM_71, pM_72, pM_73, pM_74, pM_75, pM_76, pM_77, pM_81, pM_82, pM_83, pM_85, pM_86, pM_91, pM_92, pM_93, pM_94, pM_95, pM_96, pM_97, pM_98, pM_99, pM_100, pM_102, pM_103, pM_107, pM_108, pM_110, pM_111, pM_112, pM_113, pM_114, pM_115, pM_118, pM_119, uM_107, uM_108, uM_109, uM_110, uM_111, uM_112, uM_113, uM_114, uM_115, uM_116, uM_117, uM_118, uM_119, uM_120, uM_121, uM_122, uM_123, uM_124, uM_125, uM_126, uM_127, uM_128, uM_129, ivM, Option.bind_some, bd_some, mk_MS_thrown, mk_MS_length, mk_MS_seatsPaid, mk_MS_seatsHiss, mk_MS_lays, mk_MS_arranged, mk_MS_tape, mk_MS_s, mk_MS_area, mk_MS_kept, mk_MS_keptPaid, mk_MS_keptHiss, mk_MS_isKept, mk_MS_r, mk_MS_h, mk_MS_n, mk_MS_c, mk_MR_size, mk_MR_p, mk_MR_limit, mk_MR_token, mk_MR_place, mk_MR_span, mk_MR_number, mk_MR_fault, mk_MR_faultAt, mk_MR_word, mk_MR_got, mk_MH_lines, mk_MH_prices, mk_MH_leavings, mk_MH_onces, mk_MH_codeMany, mk_MH_pileMany, mk_MH_ones, mk_MH_coming, mk_MH_hh, mk_MH_newCues, mk_MH_code, mk_MH_pile, mk_MN_paidNow, mk_MN_hissNow, mk_MN_clapping, mk_MN_standing, mk_MN_low, mk_MN_high, mk_MN_gone, mk_MN_cueNext, mk_MN_nightHeight, mk_MN_nightCarries, mk_MN_held, mk_MN_claps, mk_MN_stand, mk_MN_heldLow, mk_MN_heldHigh, mk_MC_askedMany, mk_MC_bought, mk_MC_worthMany, mk_MC_allOrders, mk_MC_hasSides, mk_MC_seenClaps, mk_MC_seenStand, mk_MC_seenAll, mk_MC_beganA, mk_MC_beganB, mk_MC_seed, mk_MC_asked, mk_MC_carried, mk_MC_heights, mk_MC_worths, mk_MC_side, mk_MC_otherClaps, mk_MC_otherStand, mk_NT_paid, mk_NT_hiss, mk_NT_c1, mk_NT_c2, mk_NT_lo, mk_NT_hi, mk_NT_next, mk_Ac_a1, mk_Ac_a2, mk_Ac_l, mk_Ac_h, MS.sH2, MH.wd]
        have g3 : gI (mkM b' n s (m.sH2 (h.wd (n2 Q.length) (n2 l.length) cd))) (some 106) 82 = some (n2 Q.length) := gM_82
        have ih := M_down (v := v) hv Q fu (l ++ [n2 x]) (upq cd l.length (n2 x)) (by omega) (by omega) (by rw [List.length_append]; simp -implicitDefEqProofs only [List.length_cons, List.length_nil]; omega) p3 (hC.app (n2 x))
        rw [List.length_append] at ih
        simp -implicitDefEqProofs only [List.length_cons, List.length_nil] at ih
        obtain ⟨cd', e1, e2⟩ := ih
        refine ⟨cd', ?_, ?_⟩
        · rw [if_neg (fun hh => hh.elim c6 cb), if_neg (fun hh => hh.elim c6 cb), List.map_cons, show l ++ n2 x :: (wdP v Q).map n2 = l ++ [n2 x] ++ (wdP v Q).map n2 by simp, ← e1]
          simp -implicitDefEqProofs only [Option.bind_some, bd_some, b2i_0, Bool.true_eq_false, Bool.false_eq_true, eq_self, if_true, if_false, not_true_eq_false, not_false_eq_true, g1, le, gM_79, sb, g2, e6, c6, M_binds x p2, lt, cb, pd, g3, ivM, M_write (show l.length < 64 by omega)]
        · rw [if_neg (fun hh => hh.elim c6 cb), List.map_cons, show l ++ n2 x :: (wdP v Q).map n2 = l ++ [n2 x] ++ (wdP v Q).map n2 by simp]
          exact e2
end Pile
