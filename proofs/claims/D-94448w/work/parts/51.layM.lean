set_option linter.unusedVariables false
set_option linter.unusedSimpArgs false
set_option maxRecDepth 100000
/-! ===== the areas laid out in HouseClapsModel ===== -/
theorem arS_0 (H : HS) (v : Nat) : arS H 0 v = nearAcc H (v / H.cols) (v % H.cols) 9 := by unfold arS; rw [if_pos rfl]
theorem arS_1 (H : HS) (v : Nat) : arS H 1 v = bitAtS H (((v / H.cols : Nat) : Int) - 1) ((v % H.cols : Nat) : Int) := by unfold arS; rw [if_neg (by decide), if_pos rfl]
theorem arS_2 (H : HS) (v : Nat) : arS H 2 v = (bitAtS H ((v / H.cols : Nat) : Int) (((v % H.cols : Nat) : Int) - 1) ||| bitAtS H ((v / H.cols : Nat) : Int) (((v % H.cols : Nat) : Int) + 1)) := by unfold arS; rw [if_neg (by decide), if_neg (by decide), if_pos rfl]
theorem arS_3 (H : HS) (v : Nat) : arS H 3 v = bitAtS H (((v / H.cols : Nat) : Int) + 1) ((v % H.cols : Nat) : Int) := by unfold arS; rw [if_neg (by decide), if_neg (by decide), if_neg (by decide), if_pos rfl]
theorem arS_4 (H : HS) (v : Nat) : arS H 4 v = if hidS H (v / H.cols) v = true then 0 else seenAcc H (v / H.cols) (v % H.cols) 3 := by unfold arS; rw [if_neg (by decide), if_neg (by decide), if_neg (by decide), if_neg (by decide), if_pos rfl]
theorem arS_5 (H : HS) (v : Nat) : arS H 5 v = wholeAcc H v H.size := by unfold arS; rw [if_neg (by decide), if_neg (by decide), if_neg (by decide), if_neg (by decide), if_neg (by decide)]
section Lay2
variable {b : Mem} {n s : Nat} {m : MS} {H : HS} {kk64 : Rf → Int64 → Int32 → Mem → Option (Unit × Mem)} {all : Int64} {v r c : Nat}
theorem M_near (hH : MHouse m.s H) (ok : H.Ok) (hv : v < H.size) (hr : r = v / H.cols) (hc : c = v % H.cols) : ∀ k f j, j + k = 9 → k < f →
    bX4_layOut_107 kk64 f (some 106) all (n2 v) (n2 r) (n2 c) (nearAcc H r c j) (n2 j) (mkM b n s m) = bX4_layOut_190 kk64 hcFuel (some 106) all (n2 v) (n2 r) (n2 c) (nearAcc H r c 9) 0 (b2i (hidS H r v)) (1 : Int32) (mkM b n s m) := by
  have hr8 := ok.rows
  have hc8 := ok.cols
  have h64 := ok.size
  have hcp : 0 < H.cols := by
    rcases Nat.eq_zero_or_pos H.cols with h | h
    · unfold HS.size at hv; rw [h] at hv; omega
    · exact h
  have hr64 : r < 64 := by rw [hr]; exact Nat.lt_of_le_of_lt (Nat.div_le_self _ _) (by omega)
  have hc64 : c < 8 := by rw [hc]; exact Nat.lt_of_lt_of_le (Nat.mod_lt _ hcp) hc8
  intro k
  induction k with
  | zero =>
    intro f j hj hf
    obtain ⟨f, rfl⟩ : ∃ g, f = g + 1 := ⟨f - 1, by omega⟩
    have hj9 : j = 9 := by omega
    subst hj9
    have r1 : ifx 681 (1 : Int32) (m.s (1 : Int32).toNatClampNeg) = some (n2 H.cols) := (rd_s (k := 1) (by decide)).trans (congrArg some hH.cols)
    show bX4_layOut_107B kk64 _ _ _ _ _ _ _ _ _ = _
    unfold bX4_layOut_107B bX4_layOut_184 bX4_layOut_185 hidS
    simp -implicitDefEqProofs only [gM_55, gM_57, gM_58, gM_59, gM_60, gM_64, gM_65, gM_66, gM_67, gM_68, gM_69, gM_70, gM_71, gM_72, gM_73, gM_74, gM_75, gM_76, gM_77, gM_81, gM_82, gM_83, gM_85, gM_86, gM_91, gM_92, gM_93, gM_94, gM_95, gM_96, gM_97, gM_98, gM_99, gM_100, gM_102, gM_103, gM_107, gM_108, gM_110, gM_111, gM_112, gM_113, gM_114, gM_115, gM_118, gM_119, gM_56, aM_107, nM_107, gM_61, aM_108, nM_108, gM_62, aM_109, nM_109, gM_63, aM_110, nM_110, gM_78, aM_111, nM_111, gM_79, aM_112, nM_112, gM_80, aM_113, nM_113, gM_84, aM_114, nM_114, gM_87, aM_115, nM_115, gM_88, aM_116, nM_116, gM_89, aM_117, nM_117, gM_90, aM_118, nM_118, gM_101, aM_119, nM_119, gM_104, aM_120, nM_120, gM_105, aM_121, nM_121, gM_106, aM_122, nM_122, gM_109, aM_123, nM_123, gM_116, aM_124, nM_124, gM_117, aM_125, nM_125, gM_120, aM_126, nM_126, gM_121, aM_127, nM_127, gM_122, aM_128, nM_128, gM_123, aM_129, nM_129, pM_55, pM_57, pM_58, pM_59, pM_60, pM_64, pM_65, pM_66, pM_67, pM_68, pM_69, pM_70, pM_71, pM_72, pM_73, pM_74, pM_75, pM_76, pM_77, pM_81, pM_82, pM_83, pM_85, pM_86, pM_91, pM_92, pM_93, pM_94, pM_95, pM_96, pM_97, pM_98, pM_99, pM_100, pM_102, pM_103, pM_107, pM_108, pM_110, pM_111, pM_112, pM_113, pM_114, pM_115, pM_118, pM_119, uM_107, uM_108, uM_109, uM_110, uM_111, uM_112, uM_113, uM_114, uM_115, uM_116, uM_117, uM_118, uM_119, uM_120, uM_121, uM_122, uM_123, uM_124, uM_125, uM_126, uM_127, uM_128, uM_129, ivM, Option.bind_some, bd_some, mk_MS_thrown, mk_MS_length, mk_MS_seatsPaid, mk_MS_seatsHiss, mk_MS_lays, mk_MS_arranged, mk_MS_tape, mk_MS_s, mk_MS_area, mk_MS_kept, mk_MS_keptPaid, mk_MS_keptHiss, mk_MS_isKept, mk_MS_r, mk_MS_h, mk_MS_n, mk_MS_c, mk_MR_size, mk_MR_p, mk_MR_limit, mk_MR_token, mk_MR_place, mk_MR_span, mk_MR_number, mk_MR_fault, mk_MR_faultAt, mk_MR_word, mk_MR_got, mk_MH_lines, mk_MH_prices, mk_MH_leavings, mk_MH_onces, mk_MH_codeMany, mk_MH_pileMany, mk_MH_ones, mk_MH_coming, mk_MH_hh, mk_MH_newCues, mk_MH_code, mk_MH_pile, mk_MN_paidNow, mk_MN_hissNow, mk_MN_clapping, mk_MN_standing, mk_MN_low, mk_MN_high, mk_MN_gone, mk_MN_cueNext, mk_MN_nightHeight, mk_MN_nightCarries, mk_MN_held, mk_MN_claps, mk_MN_stand, mk_MN_heldLow, mk_MN_heldHigh, mk_MC_askedMany, mk_MC_bought, mk_MC_worthMany, mk_MC_allOrders, mk_MC_hasSides, mk_MC_seenClaps, mk_MC_seenStand, mk_MC_seenAll, mk_MC_beganA, mk_MC_beganB, mk_MC_seed, mk_MC_asked, mk_MC_carried, mk_MC_heights, mk_MC_worths, mk_MC_side, mk_MC_otherClaps, mk_MC_otherStand, mk_NT_paid, mk_NT_hiss, mk_NT_c1, mk_NT_c2, mk_NT_lo, mk_NT_hi, mk_NT_next, mk_Ac_a1, mk_Ac_a2, mk_Ac_l, mk_Ac_h, r1, show ((9 : Int32) ≤ n2 9) = True from eq_true (by decide), if_true, le0 (show r < 2147483648 by omega)]
    by_cases h0 : r = 0
    · rw [if_pos h0, h0]; rfl
    · have hvc : H.cols ≤ v := by
        rcases Nat.lt_or_ge v H.cols with h | h
        · rw [Nat.div_eq_of_lt h] at hr; exact absurd hr h0
        · exact h
      have e : (6 : Int32) + n2 v - n2 H.cols = n2 (6 + (v - H.cols)) := by
        rw [show (6 : Int32) = n2 6 from rfl, n2_add, n2_sub (by omega)]; congr 1; omega
      have k6 := ok.kind (v - H.cols)
      rw [if_neg h0, e, rd_s (by omega), Option.bind_some, hH.kind _ (by omega), if_pos (show v - H.cols < H.size by omega)]
      by_cases hk : H.kind (v - H.cols) = 0
      · rw [hk, if_neg (by decide)]; simp [b2i, Nat.pos_of_ne_zero h0]
      · rw [if_pos (show ¬ n2 (H.kind (v - H.cols)) = 0 by rw [eql (k := 0) (by decide) (by omega)]; exact hk)]; simp [b2i, hk]
  | succ k ih =>
    intro f j hj hf
    obtain ⟨f, rfl⟩ : ∃ g, f = g + 1 := ⟨f - 1, by omega⟩
    refine Eq.trans ?_ (ih f (j + 1) (by omega) (by omega))
    show bX4_layOut_107B kk64 (bX4_layOut_107 kk64 f) _ _ _ _ _ _ _ _ = _
    unfold bX4_layOut_107B bX4_layOut_147
    have ej : n2 j + 1 = n2 (j + 1) := n2_add j 1
    rw [if_neg (show ¬ (9 : Int32) ≤ n2 j by rw [lle (k := 9) (by decide) (by omega)]; omega), ej]
    simp only [nearAcc]
    by_cases h4 : j = 4
    · subst h4; rw [if_pos (by decide), if_pos rfl]
    · rw [if_neg (show ¬ n2 j = 4 by rw [eql (k := 4) (by decide) (by omega)]; exact h4), if_neg h4]
      have d1 : dvI (n2 j) (3 : Int32) = some (n2 (j / 3)) := by
        unfold dvI; rw [if_neg (by decide), show (3 : Int32) = n2 3 from rfl, n2_div (by omega) (by decide)]
      have d2 : rmI (n2 j) (3 : Int32) = some (n2 (j % 3)) := by
        unfold rmI; rw [if_neg (by decide), show (3 : Int32) = n2 3 from rfl, n2_div (by omega) (by decide), n2_mul, n2_sub (Nat.div_mul_le_self _ _)]
        congr 2; omega
      have q1 : n2 r + n2 (j / 3) - (1 : Int32) = i2 ((r : Int) + (j / 3 : Nat) - 1) := by rw [n2_add, show (1 : Int32) = i2 1 from rfl, n2_i2, i2_sub]; congr 1
      have q2 : n2 c + n2 (j % 3) - (1 : Int32) = i2 ((c : Int) + (j % 3 : Nat) - 1) := by rw [n2_add, show (1 : Int32) = i2 1 from rfl, n2_i2, i2_sub]; congr 1
      simp -implicitDefEqProofs only [gM_55, gM_57, gM_58, gM_59, gM_60, gM_64, gM_65, gM_66, gM_67, gM_68, gM_69, gM_70, gM_71, gM_72, gM_73, gM_74, gM_75, gM_76, gM_77, gM_81, gM_82, gM_83, gM_85, gM_86, gM_91, gM_92, gM_93, gM_94, gM_95, gM_96, gM_97, gM_98, gM_99, gM_100, gM_102, gM_103, gM_107, gM_108, gM_110, gM_111, gM_112, gM_113, gM_114, gM_115, gM_118, gM_119, gM_56, aM_107, nM_107, gM_61, aM_108, nM_108, gM_62, aM_109, nM_109, gM_63, aM_110, nM_110, gM_78, aM_111, nM_111, gM_79, aM_112, nM_112, gM_80, aM_113, nM_113, gM_84, aM_114, nM_114, gM_87, aM_115, nM_115, gM_88, aM_116, nM_116, gM_89, aM_117, nM_117, gM_90, aM_118, nM_118, gM_101, aM_119, nM_119, gM_104, aM_120, nM_120, gM_105, aM_121, nM_121, gM_106, aM_122, nM_122, gM_109, aM_123, nM_123, gM_116, aM_124, nM_124, gM_117, aM_125, nM_125, gM_120, aM_126, nM_126, gM_121, aM_127, nM_127, gM_122, aM_128, nM_128, gM_123, aM_129, nM_129, pM_55, pM_57, pM_58, pM_59, pM_60, pM_64, pM_65, pM_66, pM_67, pM_68, pM_69, pM_70, pM_71, pM_72, pM_73, pM_74, pM_75, pM_76, pM_77, pM_81, pM_82, pM_83, pM_85, pM_86, pM_91, pM_92, pM_93, pM_94, pM_95, pM_96, pM_97, pM_98, pM_99, pM_100, pM_102, pM_103, pM_107, pM_108, pM_110, pM_111, pM_112, pM_113, pM_114, pM_115, pM_118, pM_119, uM_107, uM_108, uM_109, uM_110, uM_111, uM_112, uM_113, uM_114, uM_115, uM_116, uM_117, uM_118, uM_119, uM_120, uM_121, uM_122, uM_123, uM_124, uM_125, uM_126, uM_127, uM_128, uM_129, ivM, Option.bind_some, bd_some, mk_MS_thrown, mk_MS_length, mk_MS_seatsPaid, mk_MS_seatsHiss, mk_MS_lays, mk_MS_arranged, mk_MS_tape, mk_MS_s, mk_MS_area, mk_MS_kept, mk_MS_keptPaid, mk_MS_keptHiss, mk_MS_isKept, mk_MS_r, mk_MS_h, mk_MS_n, mk_MS_c, mk_MR_size, mk_MR_p, mk_MR_limit, mk_MR_token, mk_MR_place, mk_MR_span, mk_MR_number, mk_MR_fault, mk_MR_faultAt, mk_MR_word, mk_MR_got, mk_MH_lines, mk_MH_prices, mk_MH_leavings, mk_MH_onces, mk_MH_codeMany, mk_MH_pileMany, mk_MH_ones, mk_MH_coming, mk_MH_hh, mk_MH_newCues, mk_MH_code, mk_MH_pile, mk_MN_paidNow, mk_MN_hissNow, mk_MN_clapping, mk_MN_standing, mk_MN_low, mk_MN_high, mk_MN_gone, mk_MN_cueNext, mk_MN_nightHeight, mk_MN_nightCarries, mk_MN_held, mk_MN_claps, mk_MN_stand, mk_MN_heldLow, mk_MN_heldHigh, mk_MC_askedMany, mk_MC_bought, mk_MC_worthMany, mk_MC_allOrders, mk_MC_hasSides, mk_MC_seenClaps, mk_MC_seenStand, mk_MC_seenAll, mk_MC_beganA, mk_MC_beganB, mk_MC_seed, mk_MC_asked, mk_MC_carried, mk_MC_heights, mk_MC_worths, mk_MC_side, mk_MC_otherClaps, mk_MC_otherStand, mk_NT_paid, mk_NT_hiss, mk_NT_c1, mk_NT_c2, mk_NT_lo, mk_NT_hi, mk_NT_next, mk_Ac_a1, mk_Ac_a2, mk_Ac_l, mk_Ac_h, d1, d2, q1, q2, M_bitAt hH ok (r := (r : Int) + (j / 3 : Nat) - 1) (c := (c : Int) + (j % 3 : Nat) - 1) (by omega) (by omega)]
theorem M_seenIn {kk190 : Rf → Int64 → Int32 → Int32 → Int32 → Int64 → Int64 → Int32 → Int32 → Mem → Option (Unit × Mem)} (hH : MHouse m.s H) (ok : H.Ok) {near acc : Int64} {p : Int32} {kk : Nat} (hk3 : kk ≤ 3) (hr : r < 64) (hc : c < 64) : ∀ k f j, j + k = 2 * kk + 1 → k < f →
    bX4_layOut_206 kk64 kk190 f (some 106) all (n2 v) (n2 r) (n2 c) near (seenIn H r c kk acc j) p (n2 kk) (i2 (-(kk : Int) + j)) (mkM b n s m) = kk190 (some 106) all (n2 v) (n2 r) (n2 c) near (seenIn H r c kk acc (2 * kk + 1)) p (n2 (kk + 1)) (mkM b n s m) := by
  intro k
  induction k with
  | zero =>
    intro f j hj hf
    obtain ⟨f, rfl⟩ : ∃ g, f = g + 1 := ⟨f - 1, by omega⟩
    have hj2 : j = 2 * kk + 1 := by omega
    subst hj2
    show bX4_layOut_206B kk64 kk190 _ _ _ _ _ _ _ _ _ _ _ _ = _
    unfold bX4_layOut_206B
    rw [if_pos (show n2 kk < i2 (-(kk : Int) + (2 * kk + 1 : Nat)) by rw [n2_i2, i2_lt (by omega) (by omega)]; omega), show n2 kk + 1 = n2 (kk + 1) from n2_add kk 1]
  | succ k ih =>
    intro f j hj hf
    obtain ⟨f, rfl⟩ : ∃ g, f = g + 1 := ⟨f - 1, by omega⟩
    refine Eq.trans ?_ (ih f (j + 1) (by omega) (by omega))
    show bX4_layOut_206B kk64 kk190 (bX4_layOut_206 kk64 kk190 f) _ _ _ _ _ _ _ _ _ _ _ = _
    unfold bX4_layOut_206B
    rw [if_neg (show ¬ n2 kk < i2 (-(kk : Int) + j) by rw [n2_i2, i2_lt (by omega) (by omega)]; omega)]
    have q1 : n2 r - n2 kk = i2 ((r : Int) - kk) := i2_sub (r : Int) (kk : Int)
    have q2 : n2 c + i2 (-(kk : Int) + j) = i2 ((c : Int) + (-(kk : Int) + j)) := i2_add (c : Int) _
    have q3 : i2 (-(kk : Int) + j) + 1 = i2 (-(kk : Int) + (j + 1 : Nat)) := by rw [show (1 : Int32) = i2 1 from rfl, i2_add]; congr 1; omega
    simp -implicitDefEqProofs only [gM_55, gM_57, gM_58, gM_59, gM_60, gM_64, gM_65, gM_66, gM_67, gM_68, gM_69, gM_70, gM_71, gM_72, gM_73, gM_74, gM_75, gM_76, gM_77, gM_81, gM_82, gM_83, gM_85, gM_86, gM_91, gM_92, gM_93, gM_94, gM_95, gM_96, gM_97, gM_98, gM_99, gM_100, gM_102, gM_103, gM_107, gM_108, gM_110, gM_111, gM_112, gM_113, gM_114, gM_115, gM_118, gM_119, gM_56, aM_107, nM_107, gM_61, aM_108, nM_108, gM_62, aM_109, nM_109, gM_63, aM_110, nM_110, gM_78, aM_111, nM_111, gM_79, aM_112, nM_112, gM_80, aM_113, nM_113, gM_84, aM_114, nM_114, gM_87, aM_115, nM_115, gM_88, aM_116, nM_116, gM_89, aM_117, nM_117, gM_90, aM_118, nM_118, gM_101, aM_119, nM_119, gM_104, aM_120, nM_120, gM_105, aM_121, nM_121, gM_106, aM_122, nM_122, gM_109, aM_123, nM_123, gM_116, aM_124, nM_124, gM_117, aM_125, nM_125, gM_120, aM_126, nM_126, gM_121, aM_127, nM_127, gM_122, aM_128, nM_128, gM_123, aM_129, nM_129, pM_55, pM_57, pM_58, pM_59, pM_60, pM_64, pM_65, pM_66, pM_67, pM_68, pM_69, pM_70, pM_71, pM_72, pM_73, pM_74, pM_75, pM_76, pM_77, pM_81, pM_82, pM_83, pM_85, pM_86, pM_91, pM_92, pM_93, pM_94, pM_95, pM_96, pM_97, pM_98, pM_99, pM_100, pM_102, pM_103, pM_107, pM_108, pM_110, pM_111, pM_112, pM_113, pM_114, pM_115, pM_118, pM_119, uM_107, uM_108, uM_109, uM_110, uM_111, uM_112, uM_113, uM_114, uM_115, uM_116, uM_117, uM_118, uM_119, uM_120, uM_121, uM_122, uM_123, uM_124, uM_125, uM_126, uM_127, uM_128, uM_129, ivM, Option.bind_some, bd_some, mk_MS_thrown, mk_MS_length, mk_MS_seatsPaid, mk_MS_seatsHiss, mk_MS_lays, mk_MS_arranged, mk_MS_tape, mk_MS_s, mk_MS_area, mk_MS_kept, mk_MS_keptPaid, mk_MS_keptHiss, mk_MS_isKept, mk_MS_r, mk_MS_h, mk_MS_n, mk_MS_c, mk_MR_size, mk_MR_p, mk_MR_limit, mk_MR_token, mk_MR_place, mk_MR_span, mk_MR_number, mk_MR_fault, mk_MR_faultAt, mk_MR_word, mk_MR_got, mk_MH_lines, mk_MH_prices, mk_MH_leavings, mk_MH_onces, mk_MH_codeMany, mk_MH_pileMany, mk_MH_ones, mk_MH_coming, mk_MH_hh, mk_MH_newCues, mk_MH_code, mk_MH_pile, mk_MN_paidNow, mk_MN_hissNow, mk_MN_clapping, mk_MN_standing, mk_MN_low, mk_MN_high, mk_MN_gone, mk_MN_cueNext, mk_MN_nightHeight, mk_MN_nightCarries, mk_MN_held, mk_MN_claps, mk_MN_stand, mk_MN_heldLow, mk_MN_heldHigh, mk_MC_askedMany, mk_MC_bought, mk_MC_worthMany, mk_MC_allOrders, mk_MC_hasSides, mk_MC_seenClaps, mk_MC_seenStand, mk_MC_seenAll, mk_MC_beganA, mk_MC_beganB, mk_MC_seed, mk_MC_asked, mk_MC_carried, mk_MC_heights, mk_MC_worths, mk_MC_side, mk_MC_otherClaps, mk_MC_otherStand, mk_NT_paid, mk_NT_hiss, mk_NT_c1, mk_NT_c2, mk_NT_lo, mk_NT_hi, mk_NT_next, mk_Ac_a1, mk_Ac_a2, mk_Ac_l, mk_Ac_h, q1, q2, q3, M_bitAt hH ok (r := (r : Int) - kk) (c := (c : Int) + (-(kk : Int) + j)) (by omega) (by omega)]
    rfl
theorem M_seen (hH : MHouse m.s H) (ok : H.Ok) {near : Int64} (hr : r < 64) (hc : c < 64) : ∀ k f j, j + k = 3 → k < f →
    bX4_layOut_190 kk64 f (some 106) all (n2 v) (n2 r) (n2 c) near (seenAcc H r c j) 0 (n2 (j + 1)) (mkM b n s m) = bX4_layOut_244 kk64 (some 106) all (n2 v) (n2 r) (n2 c) near (seenAcc H r c 3) (mkM b n s m) := by
  intro k
  induction k with
  | zero =>
    intro f j hj hf
    obtain ⟨f, rfl⟩ : ∃ g, f = g + 1 := ⟨f - 1, by omega⟩
    have hj2 : j = 3 := by omega
    subst hj2
    show bX4_layOut_190B kk64 _ _ _ _ _ _ _ _ _ _ _ = _
    unfold bX4_layOut_190B
    rw [if_pos (by decide)]
  | succ k ih =>
    intro f j hj hf
    obtain ⟨f, rfl⟩ : ∃ g, f = g + 1 := ⟨f - 1, by omega⟩
    refine Eq.trans ?_ (ih f (j + 1) (by omega) (by omega))
    show bX4_layOut_190B kk64 (bX4_layOut_190 kk64 f) _ _ _ _ _ _ _ _ _ _ = _
    unfold bX4_layOut_190B
    rw [if_neg (show ¬ (4 : Int32) ≤ n2 (j + 1) by rw [lle (k := 4) (by decide) (by omega)]; omega), if_neg (fun h => h rfl)]
    have q : -(n2 (j + 1)) = i2 (-((j + 1 : Nat) : Int) + (0 : Nat)) := by
      show -(Int32.ofInt ((j + 1 : Nat) : Int)) = Int32.ofInt _
      rw [← Int32.ofInt_neg]; congr 1
    rw [q]
    exact M_seenIn (acc := seenAcc H r c j) hH ok (show j + 1 ≤ 3 by omega) hr hc (2 * (j + 1) + 1) hcFuel 0 (by omega) (by unfold hcFuel; omega)
theorem M_lay_pre (hH : MHouse m.s H) (ok : H.Ok) (hv : v < H.size) :
    bX4_layOut_64B kk64 (some 106) all (n2 v) (mkM b n s m) = bX4_layOut_244 kk64 (some 106) all (n2 v) (n2 (v / H.cols)) (n2 (v % H.cols)) (arS H 0 v) (arS H 4 v) (mkM b n s m) := by
  have hr8 := ok.rows
  have hc8 := ok.cols
  have h64 := ok.size
  have hcp : 0 < H.cols := by
    rcases Nat.eq_zero_or_pos H.cols with h | h
    · unfold HS.size at hv; rw [h] at hv; omega
    · exact h
  have r0 : ifx 681 (0 : Int32) (m.s (0 : Int32).toNatClampNeg) = some (n2 H.rows) := (rd_s (k := 0) (by decide)).trans (congrArg some hH.rows)
  have r1 : ifx 681 (1 : Int32) (m.s (1 : Int32).toNatClampNeg) = some (n2 H.cols) := (rd_s (k := 1) (by decide)).trans (congrArg some hH.cols)
  have hz : ¬ n2 H.cols = 0 := by rw [eql (k := 0) (by decide) (by omega)]; omega
  have d1 : dvI (n2 v) (n2 H.cols) = some (n2 (v / H.cols)) := by
    unfold dvI; rw [if_neg hz, n2_div (by omega) (by omega)]
  have d2 : rmI (n2 v) (n2 H.cols) = some (n2 (v % H.cols)) := by
    unfold rmI; rw [if_neg hz, n2_div (by omega) (by omega), n2_mul, n2_sub (Nat.div_mul_le_self _ _)]
    congr 2; have := Nat.div_add_mod v H.cols; rw [Nat.mul_comm] at this; omega
  have hr64 : v / H.cols < 64 := Nat.lt_of_le_of_lt (Nat.div_le_self _ _) (by omega)
  have hc64 : v % H.cols < 64 := Nat.lt_of_lt_of_le (Nat.mod_lt _ hcp) (by omega)
  have near := M_near (b := b) (n := n) (s := s) (kk64 := kk64) (all := all) hH ok hv rfl rfl 9 hcFuel 0 (by omega) (by unfold hcFuel; omega)
  have seen := M_seen (b := b) (n := n) (s := s) (m := m) (kk64 := kk64) (all := all) (v := v) (near := nearAcc H (v / H.cols) (v % H.cols) 9) hH ok hr64 hc64 3 hcFuel 0 (by omega) (by unfold hcFuel; omega)
  rw [show nearAcc H (v / H.cols) (v % H.cols) 0 = 0 from rfl, show n2 0 = (0 : Int32) from rfl] at near
  rw [show seenAcc H (v / H.cols) (v % H.cols) 0 = 0 from rfl, show n2 (0 + 1) = (1 : Int32) from rfl] at seen
  have hF : ∃ f, hcFuel = f + 1 := ⟨99999, rfl⟩
  rw [arS_0, arS_4]
  unfold bX4_layOut_64B
  generalize hcFuel = fu at near seen hF ⊢
  generalize nearAcc H (v / H.cols) (v % H.cols) 9 = A0 at near seen ⊢
  generalize seenAcc H (v / H.cols) (v % H.cols) 3 = A4 at near seen ⊢
  simp -implicitDefEqProofs only [gM_55, gM_57, gM_58, gM_59, gM_60, gM_64, gM_65, gM_66, gM_67, gM_68, gM_69, gM_70, gM_71, gM_72, gM_73, gM_74, gM_75, gM_76, gM_77, gM_81, gM_82, gM_83, gM_85, gM_86, gM_91, gM_92, gM_93, gM_94, gM_95, gM_96, gM_97, gM_98, gM_99, gM_100, gM_102, gM_103, gM_107, gM_108, gM_110, gM_111, gM_112, gM_113, gM_114, gM_115, gM_118, gM_119, gM_56, aM_107, nM_107, gM_61, aM_108, nM_108, gM_62, aM_109, nM_109, gM_63, aM_110, nM_110, gM_78, aM_111, nM_111, gM_79, aM_112, nM_112, gM_80, aM_113, nM_113, gM_84, aM_114, nM_114, gM_87, aM_115, nM_115, gM_88, aM_116, nM_116, gM_89, aM_117, nM_117, gM_90, aM_118, nM_118, gM_101, aM_119, nM_119, gM_104, aM_120, nM_120, gM_105, aM_121, nM_121, gM_106, aM_122, nM_122, gM_109, aM_123, nM_123, gM_116, aM_124, nM_124, gM_117, aM_125, nM_125, gM_120, aM_126, nM_126, gM_121, aM_127, nM_127, gM_122, aM_128, nM_128, gM_123, aM_129, nM_129, pM_55, pM_57, pM_58, pM_59, pM_60, pM_64, pM_65, pM_66, pM_67, pM_68, pM_69, pM_70, pM_71, pM_72, pM_73, pM_74, pM_75, pM_76, pM_77, pM_81, pM_82, pM_83, pM_85, pM_86, pM_91, pM_92, pM_93, pM_94, pM_95, pM_96, pM_97, pM_98, pM_99, pM_100, pM_102, pM_103, pM_107, pM_108, pM_110, pM_111, pM_112, pM_113, pM_114, pM_115, pM_118, pM_119, uM_107, uM_108, uM_109, uM_110, uM_111, uM_112, uM_113, uM_114, uM_115, uM_116, uM_117, uM_118, uM_119, uM_120, uM_121, uM_122, uM_123, uM_124, uM_125, uM_126, uM_127, uM_128, uM_129, ivM, Option.bind_some, bd_some, mk_MS_thrown, mk_MS_length, mk_MS_seatsPaid, mk_MS_seatsHiss, mk_MS_lays, mk_MS_arranged, mk_MS_tape, mk_MS_s, mk_MS_area, mk_MS_kept, mk_MS_keptPaid, mk_MS_keptHiss, mk_MS_isKept, mk_MS_r, mk_MS_h, mk_MS_n, mk_MS_c, mk_MR_size, mk_MR_p, mk_MR_limit, mk_MR_token, mk_MR_place, mk_MR_span, mk_MR_number, mk_MR_fault, mk_MR_faultAt, mk_MR_word, mk_MR_got, mk_MH_lines, mk_MH_prices, mk_MH_leavings, mk_MH_onces, mk_MH_codeMany, mk_MH_pileMany, mk_MH_ones, mk_MH_coming, mk_MH_hh, mk_MH_newCues, mk_MH_code, mk_MH_pile, mk_MN_paidNow, mk_MN_hissNow, mk_MN_clapping, mk_MN_standing, mk_MN_low, mk_MN_high, mk_MN_gone, mk_MN_cueNext, mk_MN_nightHeight, mk_MN_nightCarries, mk_MN_held, mk_MN_claps, mk_MN_stand, mk_MN_heldLow, mk_MN_heldHigh, mk_MC_askedMany, mk_MC_bought, mk_MC_worthMany, mk_MC_allOrders, mk_MC_hasSides, mk_MC_seenClaps, mk_MC_seenStand, mk_MC_seenAll, mk_MC_beganA, mk_MC_beganB, mk_MC_seed, mk_MC_asked, mk_MC_carried, mk_MC_heights, mk_MC_worths, mk_MC_side, mk_MC_otherClaps, mk_MC_otherStand, mk_NT_paid, mk_NT_hiss, mk_NT_c1, mk_NT_c2, mk_NT_lo, mk_NT_hi, mk_NT_next, mk_Ac_a1, mk_Ac_a2, mk_Ac_l, mk_Ac_h, r0, r1, n2_mul, n2_le (a := H.rows * H.cols) (b := v) (by unfold HS.size at h64; omega) (by omega), show ¬ H.rows * H.cols ≤ v from by unfold HS.size at hv; omega, if_false, d1, d2]
  rw [near]
  cases hh : hidS H (v / H.cols) v
  · rw [if_neg (by decide), show b2i false = (0 : Int32) from rfl, seen]
  · rw [if_pos rfl, show b2i true = (1 : Int32) from rfl]
    obtain ⟨f, rfl⟩ := hF
    rw [show bX4_layOut_190 kk64 (f + 1) = bX4_layOut_190B kk64 (bX4_layOut_190 kk64 f) from rfl]
    unfold bX4_layOut_190B
    rw [if_neg (by decide), if_pos (by decide)]
theorem M_lay_put (hH : MHouse m.s H) (ok : H.Ok) (hv : v < H.size) (hall : all = allAcc H H.size) :
    ∃ g, bX4_layOut_244 kk64 (some 106) all (n2 v) (n2 (v / H.cols)) (n2 (v % H.cols)) (arS H 0 v) (arS H 4 v) (mkM b n s m) = kk64 (some 106) all (n2 (v + 1)) (mkM b n s (MS.mk (m.thrown) (m.length) (m.seatsPaid) (m.seatsHiss) (m.lays) (m.arranged) (m.tape) (m.s) (g) (m.kept) (m.keptPaid) (m.keptHiss) (m.isKept) (m.r) (m.h) (m.n) (m.c))) ∧ (∀ a, a < 6 → g (6 * v + a) = arS H a v) ∧ ∀ i, i < 6 * v → g i = m.area i := by
  have h64 := ok.size
  have hc8 := ok.cols
  have hcp : 0 < H.cols := by
    rcases Nat.eq_zero_or_pos H.cols with h | h
    · unfold HS.size at hv; rw [h] at hv; omega
    · exact h
  have hr64 : v / H.cols < 64 := Nat.lt_of_le_of_lt (Nat.div_le_self _ _) (by omega)
  have hc64 : v % H.cols < 64 := Nat.lt_of_lt_of_le (Nat.mod_lt _ hcp) (by omega)
  have nr : (0 : Int) ≤ ((v / H.cols : Nat) : Int) := Int.natCast_nonneg _
  have nr2 : ((v / H.cols : Nat) : Int) < (64 : Nat) := Int.ofNat_lt.mpr hr64
  have nc : (0 : Int) ≤ ((v % H.cols : Nat) : Int) := Int.natCast_nonneg _
  have nc2 : ((v % H.cols : Nat) : Int) < (64 : Nat) := Int.ofNat_lt.mpr hc64
  have q6 : (6 : Int32) * n2 v = n2 (6 * v) := n2_mul 6 v
  have q61 : n2 (6 * v) + (1 : Int32) = n2 (6 * v + 1) := n2_add _ 1
  have q62 : n2 (6 * v) + (2 : Int32) = n2 (6 * v + 2) := n2_add _ 2
  have q63 : n2 (6 * v) + (3 : Int32) = n2 (6 * v + 3) := n2_add _ 3
  have q64 : n2 (6 * v) + (4 : Int32) = n2 (6 * v + 4) := n2_add _ 4
  have q65 : n2 (6 * v) + (5 : Int32) = n2 (6 * v + 5) := n2_add _ 5
  have l0 : 6 * v < 384 := by omega
  have l1 : 6 * v + 1 < 384 := by omega
  have l2 : 6 * v + 2 < 384 := by omega
  have l3 : 6 * v + 3 < 384 := by omega
  have l4 : 6 * v + 4 < 384 := by omega
  have l5 : 6 * v + 5 < 384 := by omega
  have f : (384 : Nat) ≤ 100000 := by decide
  have p1 : n2 (v / H.cols) - (1 : Int32) = i2 (((v / H.cols : Nat) : Int) - 1) := i2_sub ((v / H.cols : Nat) : Int) 1
  have p2 : n2 (v % H.cols) - (1 : Int32) = i2 (((v % H.cols : Nat) : Int) - 1) := i2_sub ((v % H.cols : Nat) : Int) 1
  have p3 : n2 (v % H.cols) + (1 : Int32) = i2 (((v % H.cols : Nat) : Int) + 1) := i2_add ((v % H.cols : Nat) : Int) 1
  have p4 : n2 (v / H.cols) + (1 : Int32) = i2 (((v / H.cols : Nat) : Int) + 1) := i2_add ((v / H.cols : Nat) : Int) 1
  have B : ∀ (m' : MS) (rr cc : Int), m'.s = m.s → -100 ≤ rr ∧ rr ≤ 100 → -100 ≤ cc ∧ cc ≤ 100 → fX4_bitAt (some 106) (i2 rr) (i2 cc) (mkM b n s m') = some (bitAtS H rr cc, mkM b n s m') := fun m' rr cc hs h1 h2 => M_bitAt (m := m') (hs ▸ hH) ok h1 h2
  have a1 : ∀ m' : MS, m'.s = m.s → fX4_bitAt (some 106) (i2 (((v / H.cols : Nat) : Int) - 1)) (n2 (v % H.cols)) (mkM b n s m') = some (arS H 1 v, mkM b n s m') := fun m' hs => by rw [arS_1, n2_i2 (v % H.cols)]; exact B m' (((v / H.cols : Nat) : Int) - 1) ((v % H.cols : Nat) : Int) hs (by omega) (by omega)
  have a2 : ∀ m' : MS, m'.s = m.s → fX4_bitAt (some 106) (n2 (v / H.cols)) (i2 (((v % H.cols : Nat) : Int) - 1)) (mkM b n s m') = some (bitAtS H ((v / H.cols : Nat) : Int) (((v % H.cols : Nat) : Int) - 1), mkM b n s m') := fun m' hs => by rw [n2_i2 (v / H.cols)]; exact B m' ((v / H.cols : Nat) : Int) (((v % H.cols : Nat) : Int) - 1) hs (by omega) (by omega)
  have a2' : ∀ m' : MS, m'.s = m.s → fX4_bitAt (some 106) (n2 (v / H.cols)) (i2 (((v % H.cols : Nat) : Int) + 1)) (mkM b n s m') = some (bitAtS H ((v / H.cols : Nat) : Int) (((v % H.cols : Nat) : Int) + 1), mkM b n s m') := fun m' hs => by rw [n2_i2 (v / H.cols)]; exact B m' ((v / H.cols : Nat) : Int) (((v % H.cols : Nat) : Int) + 1) hs (by omega) (by omega)
  have a3 : ∀ m' : MS, m'.s = m.s → fX4_bitAt (some 106) (i2 (((v / H.cols : Nat) : Int) + 1)) (n2 (v % H.cols)) (mkM b n s m') = some (arS H 3 v, mkM b n s m') := fun m' hs => by rw [arS_3, n2_i2 (v % H.cols)]; exact B m' (((v / H.cols : Nat) : Int) + 1) ((v % H.cols : Nat) : Int) hs (by omega) (by omega)
  have a2s := (arS_2 H v).symm
  have a5s : all &&& (shlL (1 : Int64) (n2 v) ^^^ (-1 : Int64)) = arS H 5 v := by
    rw [arS_5, whole_eq H (by omega) _ h64, if_pos hv, hall]; rfl
  have ev : n2 v + 1 = n2 (v + 1) := n2_add v 1
  have t0 := n2_nat (show 6 * v < 2147483648 by omega)
  have t1 := n2_nat (show 6 * v + 1 < 2147483648 by omega)
  have t2 := n2_nat (show 6 * v + 2 < 2147483648 by omega)
  have t3 := n2_nat (show 6 * v + 3 < 2147483648 by omega)
  have t4 := n2_nat (show 6 * v + 4 < 2147483648 by omega)
  have t5 := n2_nat (show 6 * v + 5 < 2147483648 by omega)
  generalize hA0 : arS H 0 v = A0 at *
  generalize hA1 : arS H 1 v = A1 at *
  generalize hA2 : arS H 2 v = A2 at *
  generalize hA3 : arS H 3 v = A3 at *
  generalize hA4 : arS H 4 v = A4 at *
  generalize hA5 : arS H 5 v = A5 at *
  have za1 : ∀ g : Nat → Int64, fX4_bitAt (some 106) (i2 (((v / H.cols : Nat) : Int) - 1)) (n2 (v % H.cols)) (mkM b n s (MS.mk (m.thrown) (m.length) (m.seatsPaid) (m.seatsHiss) (m.lays) (m.arranged) (m.tape) (m.s) (g) (m.kept) (m.keptPaid) (m.keptHiss) (m.isKept) (m.r) (m.h) (m.n) (m.c))) = some (A1, mkM b n s (MS.mk (m.thrown) (m.length) (m.seatsPaid) (m.seatsHiss) (m.lays) (m.arranged) (m.tape) (m.s) (g) (m.kept) (m.keptPaid) (m.keptHiss) (m.isKept) (m.r) (m.h) (m.n) (m.c))) := fun g => a1 _ rfl
  have za2 : ∀ g : Nat → Int64, fX4_bitAt (some 106) (n2 (v / H.cols)) (i2 (((v % H.cols : Nat) : Int) - 1)) (mkM b n s (MS.mk (m.thrown) (m.length) (m.seatsPaid) (m.seatsHiss) (m.lays) (m.arranged) (m.tape) (m.s) (g) (m.kept) (m.keptPaid) (m.keptHiss) (m.isKept) (m.r) (m.h) (m.n) (m.c))) = some (bitAtS H ((v / H.cols : Nat) : Int) (((v % H.cols : Nat) : Int) - 1), mkM b n s (MS.mk (m.thrown) (m.length) (m.seatsPaid) (m.seatsHiss) (m.lays) (m.arranged) (m.tape) (m.s) (g) (m.kept) (m.keptPaid) (m.keptHiss) (m.isKept) (m.r) (m.h) (m.n) (m.c))) := fun g => a2 _ rfl
  have za2' : ∀ g : Nat → Int64, fX4_bitAt (some 106) (n2 (v / H.cols)) (i2 (((v % H.cols : Nat) : Int) + 1)) (mkM b n s (MS.mk (m.thrown) (m.length) (m.seatsPaid) (m.seatsHiss) (m.lays) (m.arranged) (m.tape) (m.s) (g) (m.kept) (m.keptPaid) (m.keptHiss) (m.isKept) (m.r) (m.h) (m.n) (m.c))) = some (bitAtS H ((v / H.cols : Nat) : Int) (((v % H.cols : Nat) : Int) + 1), mkM b n s (MS.mk (m.thrown) (m.length) (m.seatsPaid) (m.seatsHiss) (m.lays) (m.arranged) (m.tape) (m.s) (g) (m.kept) (m.keptPaid) (m.keptHiss) (m.isKept) (m.r) (m.h) (m.n) (m.c))) := fun g => a2' _ rfl
  have za3 : ∀ g : Nat → Int64, fX4_bitAt (some 106) (i2 (((v / H.cols : Nat) : Int) + 1)) (n2 (v % H.cols)) (mkM b n s (MS.mk (m.thrown) (m.length) (m.seatsPaid) (m.seatsHiss) (m.lays) (m.arranged) (m.tape) (m.s) (g) (m.kept) (m.keptPaid) (m.keptHiss) (m.isKept) (m.r) (m.h) (m.n) (m.c))) = some (A3, mkM b n s (MS.mk (m.thrown) (m.length) (m.seatsPaid) (m.seatsHiss) (m.lays) (m.arranged) (m.tape) (m.s) (g) (m.kept) (m.keptPaid) (m.keptHiss) (m.isKept) (m.r) (m.h) (m.n) (m.c))) := fun g => a3 _ rfl
  unfold bX4_layOut_244
  simp -implicitDefEqProofs only [gM_55, gM_57, gM_58, gM_59, gM_60, gM_64, gM_65, gM_66, gM_67, gM_68, gM_69, gM_70, gM_71, gM_72, gM_73, gM_74, gM_75, gM_76, gM_77, gM_81, gM_82, gM_83, gM_85, gM_86, gM_91, gM_92, gM_93, gM_94, gM_95, gM_96, gM_97, gM_98, gM_99, gM_100, gM_102, gM_103, gM_107, gM_108, gM_110, gM_111, gM_112, gM_113, gM_114, gM_115, gM_118, gM_119, gM_56, aM_107, nM_107, gM_61, aM_108, nM_108, gM_62, aM_109, nM_109, gM_63, aM_110, nM_110, gM_78, aM_111, nM_111, gM_79, aM_112, nM_112, gM_80, aM_113, nM_113, gM_84, aM_114, nM_114, gM_87, aM_115, nM_115, gM_88, aM_116, nM_116, gM_89, aM_117, nM_117, gM_90, aM_118, nM_118, gM_101, aM_119, nM_119, gM_104, aM_120, nM_120, gM_105, aM_121, nM_121, gM_106, aM_122, nM_122, gM_109, aM_123, nM_123, gM_116, aM_124, nM_124, gM_117, aM_125, nM_125, gM_120, aM_126, nM_126, gM_121, aM_127, nM_127, gM_122, aM_128, nM_128, gM_123, aM_129, nM_129, pM_55, pM_57, pM_58, pM_59, pM_60, pM_64, pM_65, pM_66, pM_67, pM_68, pM_69, pM_70, pM_71, pM_72, pM_73, pM_74, pM_75, pM_76, pM_77, pM_81, pM_82, pM_83, pM_85, pM_86, pM_91, pM_92, pM_93, pM_94, pM_95, pM_96, pM_97, pM_98, pM_99, pM_100, pM_102, pM_103, pM_107, pM_108, pM_110, pM_111, pM_112, pM_113, pM_114, pM_115, pM_118, pM_119, uM_107, uM_108, uM_109, uM_110, uM_111, uM_112, uM_113, uM_114, uM_115, uM_116, uM_117, uM_118, uM_119, uM_120, uM_121, uM_122, uM_123, uM_124, uM_125, uM_126, uM_127, uM_128, uM_129, ivM, Option.bind_some, bd_some, mk_MS_thrown, mk_MS_length, mk_MS_seatsPaid, mk_MS_seatsHiss, mk_MS_lays, mk_MS_arranged, mk_MS_tape, mk_MS_s, mk_MS_area, mk_MS_kept, mk_MS_keptPaid, mk_MS_keptHiss, mk_MS_isKept, mk_MS_r, mk_MS_h, mk_MS_n, mk_MS_c, mk_MR_size, mk_MR_p, mk_MR_limit, mk_MR_token, mk_MR_place, mk_MR_span, mk_MR_number, mk_MR_fault, mk_MR_faultAt, mk_MR_word, mk_MR_got, mk_MH_lines, mk_MH_prices, mk_MH_leavings, mk_MH_onces, mk_MH_codeMany, mk_MH_pileMany, mk_MH_ones, mk_MH_coming, mk_MH_hh, mk_MH_newCues, mk_MH_code, mk_MH_pile, mk_MN_paidNow, mk_MN_hissNow, mk_MN_clapping, mk_MN_standing, mk_MN_low, mk_MN_high, mk_MN_gone, mk_MN_cueNext, mk_MN_nightHeight, mk_MN_nightCarries, mk_MN_held, mk_MN_claps, mk_MN_stand, mk_MN_heldLow, mk_MN_heldHigh, mk_MC_askedMany, mk_MC_bought, mk_MC_worthMany, mk_MC_allOrders, mk_MC_hasSides, mk_MC_seenClaps, mk_MC_seenStand, mk_MC_seenAll, mk_MC_beganA, mk_MC_beganB, mk_MC_seed, mk_MC_asked, mk_MC_carried, mk_MC_heights, mk_MC_worths, mk_MC_side, mk_MC_otherClaps, mk_MC_otherStand, mk_NT_paid, mk_NT_hiss, mk_NT_c1, mk_NT_c2, mk_NT_lo, mk_NT_hi, mk_NT_next, mk_Ac_a1, mk_Ac_a2, mk_Ac_l, mk_Ac_h, q6, q61, q62, q63, q64, q65, p1, p2, p3, p4, ifx_n2 l0 f, ifx_n2 l1 f, ifx_n2 l2 f, ifx_n2 l3 f, ifx_n2 l4 f, ifx_n2 l5 f, t0, t1, t2, t3, t4, t5, za1, za2, za2', za3, a2s, a5s, ev]
  refine ⟨_, rfl, fun a ha => ?_, fun i hi => ?_⟩
  · match a, ha with
    | 0, _ => rw [hA0]; simp [upq]
    | 1, _ => rw [hA1]; simp [upq]
    | 2, _ => rw [hA2]; simp [upq]
    | 3, _ => rw [hA3]; simp [upq]
    | 4, _ => rw [hA4]; simp [upq]
    | 5, _ => rw [hA5]; simp [upq]
  · simp only [upq]
    rw [if_neg (by omega), if_neg (by omega), if_neg (by omega), if_neg (by omega), if_neg (by omega), if_neg (by omega)]
/-- one seat's areas -/
theorem M_laySeat (hH : MHouse m.s H) (ok : H.Ok) (hv : v < H.size) (hall : all = allAcc H H.size) :
    ∃ g, bX4_layOut_64B kk64 (some 106) all (n2 v) (mkM b n s m) = kk64 (some 106) all (n2 (v + 1)) (mkM b n s (MS.mk (m.thrown) (m.length) (m.seatsPaid) (m.seatsHiss) (m.lays) (m.arranged) (m.tape) (m.s) (g) (m.kept) (m.keptPaid) (m.keptHiss) (m.isKept) (m.r) (m.h) (m.n) (m.c))) ∧ (∀ a, a < 6 → g (6 * v + a) = arS H a v) ∧ ∀ i, i < 6 * v → g i = m.area i := by
  rw [M_lay_pre hH ok hv]; exact M_lay_put hH ok hv hall
theorem M_lay64 (ok : H.Ok) (hall : all = allAcc H H.size) : ∀ k f v (m : MS), v + k = H.size → k < f → MHouse m.s H → (∀ a u, a < 6 → u < v → m.area (6 * u + a) = arS H a u) →
    ∃ g, bX4_layOut_64 f (some 106) all (n2 v) (mkM b n s m) = some ((), mkM b n s (MS.mk (m.thrown) (m.length) (m.seatsPaid) (m.seatsHiss) (m.lays) (m.arranged) (m.tape) (m.s) (g) (m.kept) (m.keptPaid) (m.keptHiss) (m.isKept) (m.r) (m.h) (m.n) (m.c))) ∧ ∀ a u, a < 6 → u < H.size → g (6 * u + a) = arS H a u := by
  have h64 := ok.size
  intro k
  induction k with
  | zero =>
    intro f v m hv hf hH hA
    obtain ⟨f, rfl⟩ : ∃ g, f = g + 1 := ⟨f - 1, by omega⟩
    have r0 : ifx 681 (0 : Int32) (m.s (0 : Int32).toNatClampNeg) = some (n2 H.rows) := (rd_s (k := 0) (by decide)).trans (congrArg some hH.rows)
    have r1 : ifx 681 (1 : Int32) (m.s (1 : Int32).toNatClampNeg) = some (n2 H.cols) := (rd_s (k := 1) (by decide)).trans (congrArg some hH.cols)
    refine ⟨m.area, ?_, fun a u ha hu => hA a u ha (by omega)⟩
    show bX4_layOut_64B _ _ _ _ _ = _
    unfold bX4_layOut_64B
    simp -implicitDefEqProofs only [gM_55, gM_57, gM_58, gM_59, gM_60, gM_64, gM_65, gM_66, gM_67, gM_68, gM_69, gM_70, gM_71, gM_72, gM_73, gM_74, gM_75, gM_76, gM_77, gM_81, gM_82, gM_83, gM_85, gM_86, gM_91, gM_92, gM_93, gM_94, gM_95, gM_96, gM_97, gM_98, gM_99, gM_100, gM_102, gM_103, gM_107, gM_108, gM_110, gM_111, gM_112, gM_113, gM_114, gM_115, gM_118, gM_119, gM_56, aM_107, nM_107, gM_61, aM_108, nM_108, gM_62, aM_109, nM_109, gM_63, aM_110, nM_110, gM_78, aM_111, nM_111, gM_79, aM_112, nM_112, gM_80, aM_113, nM_113, gM_84, aM_114, nM_114, gM_87, aM_115, nM_115, gM_88, aM_116, nM_116, gM_89, aM_117, nM_117, gM_90, aM_118, nM_118, gM_101, aM_119, nM_119, gM_104, aM_120, nM_120, gM_105, aM_121, nM_121, gM_106, aM_122, nM_122, gM_109, aM_123, nM_123, gM_116, aM_124, nM_124, gM_117, aM_125, nM_125, gM_120, aM_126, nM_126, gM_121, aM_127, nM_127, gM_122, aM_128, nM_128, gM_123, aM_129, nM_129, pM_55, pM_57, pM_58, pM_59, pM_60, pM_64, pM_65, pM_66, pM_67, pM_68, pM_69, pM_70, pM_71, pM_72, pM_73, pM_74, pM_75, pM_76, pM_77, pM_81, pM_82, pM_83, pM_85, pM_86, pM_91, pM_92, pM_93, pM_94, pM_95, pM_96, pM_97, pM_98, pM_99, pM_100, pM_102, pM_103, pM_107, pM_108, pM_110, pM_111, pM_112, pM_113, pM_114, pM_115, pM_118, pM_119, uM_107, uM_108, uM_109, uM_110, uM_111, uM_112, uM_113, uM_114, uM_115, uM_116, uM_117, uM_118, uM_119, uM_120, uM_121, uM_122, uM_123, uM_124, uM_125, uM_126, uM_127, uM_128, uM_129, ivM, Option.bind_some, bd_some, mk_MS_thrown, mk_MS_length, mk_MS_seatsPaid, mk_MS_seatsHiss, mk_MS_lays, mk_MS_arranged, mk_MS_tape, mk_MS_s, mk_MS_area, mk_MS_kept, mk_MS_keptPaid, mk_MS_keptHiss, mk_MS_isKept, mk_MS_r, mk_MS_h, mk_MS_n, mk_MS_c, mk_MR_size, mk_MR_p, mk_MR_limit, mk_MR_token, mk_MR_place, mk_MR_span, mk_MR_number, mk_MR_fault, mk_MR_faultAt, mk_MR_word, mk_MR_got, mk_MH_lines, mk_MH_prices, mk_MH_leavings, mk_MH_onces, mk_MH_codeMany, mk_MH_pileMany, mk_MH_ones, mk_MH_coming, mk_MH_hh, mk_MH_newCues, mk_MH_code, mk_MH_pile, mk_MN_paidNow, mk_MN_hissNow, mk_MN_clapping, mk_MN_standing, mk_MN_low, mk_MN_high, mk_MN_gone, mk_MN_cueNext, mk_MN_nightHeight, mk_MN_nightCarries, mk_MN_held, mk_MN_claps, mk_MN_stand, mk_MN_heldLow, mk_MN_heldHigh, mk_MC_askedMany, mk_MC_bought, mk_MC_worthMany, mk_MC_allOrders, mk_MC_hasSides, mk_MC_seenClaps, mk_MC_seenStand, mk_MC_seenAll, mk_MC_beganA, mk_MC_beganB, mk_MC_seed, mk_MC_asked, mk_MC_carried, mk_MC_heights, mk_MC_worths, mk_MC_side, mk_MC_otherClaps, mk_MC_otherStand, mk_NT_paid, mk_NT_hiss, mk_NT_c1, mk_NT_c2, mk_NT_lo, mk_NT_hi, mk_NT_next, mk_Ac_a1, mk_Ac_a2, mk_Ac_l, mk_Ac_h, r0, r1, n2_mul, n2_le (a := H.rows * H.cols) (b := v) (by unfold HS.size at h64; omega) (by omega), show H.rows * H.cols ≤ v from by unfold HS.size at hv; omega, if_true]
    rfl
  | succ k ih =>
    intro f v m hv hf hH hA
    obtain ⟨f, rfl⟩ : ∃ g, f = g + 1 := ⟨f - 1, by omega⟩
    obtain ⟨g, e, g1, g2⟩ := M_laySeat (b := b) (n := n) (s := s) (kk64 := bX4_layOut_64 f) (v := v) hH ok (by omega) hall
    obtain ⟨g', e', g3⟩ := ih f (v + 1) (MS.mk (m.thrown) (m.length) (m.seatsPaid) (m.seatsHiss) (m.lays) (m.arranged) (m.tape) (m.s) (g) (m.kept) (m.keptPaid) (m.keptHiss) (m.isKept) (m.r) (m.h) (m.n) (m.c)) (by omega) (by omega) hH (fun a u ha hu => by
      show g _ = _
      by_cases hc : u = v
      · subst hc; exact g1 a ha
      · rw [g2 _ (by omega)]; exact hA a u ha (by omega))
    exact ⟨g', e.trans e', g3⟩
theorem M_lay17 (ok : H.Ok) (hH : MHouse m.s H) : ∀ k f v, v + k = H.size → k < f →
    bX4_layOut_17 f (some 106) (allAcc H v) (n2 v) (mkM b n s m) = bX4_layOut_64 hcFuel (some 106) (allAcc H H.size) (0 : Int32) (mkM b n s m) := by
  have h64 := ok.size
  have r0 : ifx 681 (0 : Int32) (m.s (0 : Int32).toNatClampNeg) = some (n2 H.rows) := (rd_s (k := 0) (by decide)).trans (congrArg some hH.rows)
  have r1 : ifx 681 (1 : Int32) (m.s (1 : Int32).toNatClampNeg) = some (n2 H.cols) := (rd_s (k := 1) (by decide)).trans (congrArg some hH.cols)
  intro k
  induction k with
  | zero =>
    intro f v hv hf
    obtain ⟨f, rfl⟩ : ∃ g, f = g + 1 := ⟨f - 1, by omega⟩
    have hv2 : v = H.size := by omega
    show bX4_layOut_17B _ _ _ _ _ = _
    unfold bX4_layOut_17B
    simp -implicitDefEqProofs only [gM_55, gM_57, gM_58, gM_59, gM_60, gM_64, gM_65, gM_66, gM_67, gM_68, gM_69, gM_70, gM_71, gM_72, gM_73, gM_74, gM_75, gM_76, gM_77, gM_81, gM_82, gM_83, gM_85, gM_86, gM_91, gM_92, gM_93, gM_94, gM_95, gM_96, gM_97, gM_98, gM_99, gM_100, gM_102, gM_103, gM_107, gM_108, gM_110, gM_111, gM_112, gM_113, gM_114, gM_115, gM_118, gM_119, gM_56, aM_107, nM_107, gM_61, aM_108, nM_108, gM_62, aM_109, nM_109, gM_63, aM_110, nM_110, gM_78, aM_111, nM_111, gM_79, aM_112, nM_112, gM_80, aM_113, nM_113, gM_84, aM_114, nM_114, gM_87, aM_115, nM_115, gM_88, aM_116, nM_116, gM_89, aM_117, nM_117, gM_90, aM_118, nM_118, gM_101, aM_119, nM_119, gM_104, aM_120, nM_120, gM_105, aM_121, nM_121, gM_106, aM_122, nM_122, gM_109, aM_123, nM_123, gM_116, aM_124, nM_124, gM_117, aM_125, nM_125, gM_120, aM_126, nM_126, gM_121, aM_127, nM_127, gM_122, aM_128, nM_128, gM_123, aM_129, nM_129, pM_55, pM_57, pM_58, pM_59, pM_60, pM_64, pM_65, pM_66, pM_67, pM_68, pM_69, pM_70, pM_71, pM_72, pM_73, pM_74, pM_75, pM_76, pM_77, pM_81, pM_82, pM_83, pM_85, pM_86, pM_91, pM_92, pM_93, pM_94, pM_95, pM_96, pM_97, pM_98, pM_99, pM_100, pM_102, pM_103, pM_107, pM_108, pM_110, pM_111, pM_112, pM_113, pM_114, pM_115, pM_118, pM_119, uM_107, uM_108, uM_109, uM_110, uM_111, uM_112, uM_113, uM_114, uM_115, uM_116, uM_117, uM_118, uM_119, uM_120, uM_121, uM_122, uM_123, uM_124, uM_125, uM_126, uM_127, uM_128, uM_129, ivM, Option.bind_some, bd_some, mk_MS_thrown, mk_MS_length, mk_MS_seatsPaid, mk_MS_seatsHiss, mk_MS_lays, mk_MS_arranged, mk_MS_tape, mk_MS_s, mk_MS_area, mk_MS_kept, mk_MS_keptPaid, mk_MS_keptHiss, mk_MS_isKept, mk_MS_r, mk_MS_h, mk_MS_n, mk_MS_c, mk_MR_size, mk_MR_p, mk_MR_limit, mk_MR_token, mk_MR_place, mk_MR_span, mk_MR_number, mk_MR_fault, mk_MR_faultAt, mk_MR_word, mk_MR_got, mk_MH_lines, mk_MH_prices, mk_MH_leavings, mk_MH_onces, mk_MH_codeMany, mk_MH_pileMany, mk_MH_ones, mk_MH_coming, mk_MH_hh, mk_MH_newCues, mk_MH_code, mk_MH_pile, mk_MN_paidNow, mk_MN_hissNow, mk_MN_clapping, mk_MN_standing, mk_MN_low, mk_MN_high, mk_MN_gone, mk_MN_cueNext, mk_MN_nightHeight, mk_MN_nightCarries, mk_MN_held, mk_MN_claps, mk_MN_stand, mk_MN_heldLow, mk_MN_heldHigh, mk_MC_askedMany, mk_MC_bought, mk_MC_worthMany, mk_MC_allOrders, mk_MC_hasSides, mk_MC_seenClaps, mk_MC_seenStand, mk_MC_seenAll, mk_MC_beganA, mk_MC_beganB, mk_MC_seed, mk_MC_asked, mk_MC_carried, mk_MC_heights, mk_MC_worths, mk_MC_side, mk_MC_otherClaps, mk_MC_otherStand, mk_NT_paid, mk_NT_hiss, mk_NT_c1, mk_NT_c2, mk_NT_lo, mk_NT_hi, mk_NT_next, mk_Ac_a1, mk_Ac_a2, mk_Ac_l, mk_Ac_h, r0, r1, n2_mul, n2_le (a := H.rows * H.cols) (b := v) (by unfold HS.size at h64; omega) (by omega), show H.rows * H.cols ≤ v from by unfold HS.size at hv; omega, if_true]
    rw [hv2]
  | succ k ih =>
    intro f v hv hf
    obtain ⟨f, rfl⟩ : ∃ g, f = g + 1 := ⟨f - 1, by omega⟩
    refine Eq.trans ?_ (ih f (v + 1) (by omega) (by omega))
    have k6 := ok.kind v
    have e : (6 : Int32) + n2 v = n2 (6 + v) := n2_add 6 v
    have ev : n2 v + 1 = n2 (v + 1) := n2_add v 1
    show bX4_layOut_17B (bX4_layOut_17 f) _ _ _ _ = _
    unfold bX4_layOut_17B bX4_layOut_54
    simp -implicitDefEqProofs only [gM_55, gM_57, gM_58, gM_59, gM_60, gM_64, gM_65, gM_66, gM_67, gM_68, gM_69, gM_70, gM_71, gM_72, gM_73, gM_74, gM_75, gM_76, gM_77, gM_81, gM_82, gM_83, gM_85, gM_86, gM_91, gM_92, gM_93, gM_94, gM_95, gM_96, gM_97, gM_98, gM_99, gM_100, gM_102, gM_103, gM_107, gM_108, gM_110, gM_111, gM_112, gM_113, gM_114, gM_115, gM_118, gM_119, gM_56, aM_107, nM_107, gM_61, aM_108, nM_108, gM_62, aM_109, nM_109, gM_63, aM_110, nM_110, gM_78, aM_111, nM_111, gM_79, aM_112, nM_112, gM_80, aM_113, nM_113, gM_84, aM_114, nM_114, gM_87, aM_115, nM_115, gM_88, aM_116, nM_116, gM_89, aM_117, nM_117, gM_90, aM_118, nM_118, gM_101, aM_119, nM_119, gM_104, aM_120, nM_120, gM_105, aM_121, nM_121, gM_106, aM_122, nM_122, gM_109, aM_123, nM_123, gM_116, aM_124, nM_124, gM_117, aM_125, nM_125, gM_120, aM_126, nM_126, gM_121, aM_127, nM_127, gM_122, aM_128, nM_128, gM_123, aM_129, nM_129, pM_55, pM_57, pM_58, pM_59, pM_60, pM_64, pM_65, pM_66, pM_67, pM_68, pM_69, pM_70, pM_71, pM_72, pM_73, pM_74, pM_75, pM_76, pM_77, pM_81, pM_82, pM_83, pM_85, pM_86, pM_91, pM_92, pM_93, pM_94, pM_95, pM_96, pM_97, pM_98, pM_99, pM_100, pM_102, pM_103, pM_107, pM_108, pM_110, pM_111, pM_112, pM_113, pM_114, pM_115, pM_118, pM_119, uM_107, uM_108, uM_109, uM_110, uM_111, uM_112, uM_113, uM_114, uM_115, uM_116, uM_117, uM_118, uM_119, uM_120, uM_121, uM_122, uM_123, uM_124, uM_125, uM_126, uM_127, uM_128, uM_129, ivM, Option.bind_some, bd_some, mk_MS_thrown, mk_MS_length, mk_MS_seatsPaid, mk_MS_seatsHiss, mk_MS_lays, mk_MS_arranged, mk_MS_tape, mk_MS_s, mk_MS_area, mk_MS_kept, mk_MS_keptPaid, mk_MS_keptHiss, mk_MS_isKept, mk_MS_r, mk_MS_h, mk_MS_n, mk_MS_c, mk_MR_size, mk_MR_p, mk_MR_limit, mk_MR_token, mk_MR_place, mk_MR_span, mk_MR_number, mk_MR_fault, mk_MR_faultAt, mk_MR_word, mk_MR_got, mk_MH_lines, mk_MH_prices, mk_MH_leavings, mk_MH_onces, mk_MH_codeMany, mk_MH_pileMany, mk_MH_ones, mk_MH_coming, mk_MH_hh, mk_MH_newCues, mk_MH_code, mk_MH_pile, mk_MN_paidNow, mk_MN_hissNow, mk_MN_clapping, mk_MN_standing, mk_MN_low, mk_MN_high, mk_MN_gone, mk_MN_cueNext, mk_MN_nightHeight, mk_MN_nightCarries, mk_MN_held, mk_MN_claps, mk_MN_stand, mk_MN_heldLow, mk_MN_heldHigh, mk_MC_askedMany, mk_MC_bought, mk_MC_worthMany, mk_MC_allOrders, mk_MC_hasSides, mk_MC_seenClaps, mk_MC_seenStand, mk_MC_seenAll, mk_MC_beganA, mk_MC_beganB, mk_MC_seed, mk_MC_asked, mk_MC_carried, mk_MC_heights, mk_MC_worths, mk_MC_side, mk_MC_otherClaps, mk_MC_otherStand, mk_NT_paid, mk_NT_hiss, mk_NT_c1, mk_NT_c2, mk_NT_lo, mk_NT_hi, mk_NT_next, mk_Ac_a1, mk_Ac_a2, mk_Ac_l, mk_Ac_h, r0, r1, n2_mul, n2_le (a := H.rows * H.cols) (b := v) (by unfold HS.size at h64; omega) (by omega), show ¬ H.rows * H.cols ≤ v from by unfold HS.size at hv; omega, if_false, e, rd_s (m := m) (show 6 + v < 681 by omega), hH.kind v (by omega), if_pos (show v < H.size by omega), le0 (show H.kind v < 2147483648 by omega), ev]
    simp only [allAcc]
    by_cases hk : H.kind v = 0
    · rw [if_pos hk, if_pos hk]
    · rw [if_neg hk, if_neg hk]; rfl
theorem M_layOut (ok : H.Ok) (har : H.ArOk) (hH : MHouse m.s H) (hl : m.lays = 0 → MArea m H) (h01 : m.lays = 0 ∨ m.lays = 1) :
    ∃ g, fX4_layOut (some 106) (mkM b n s m) = some ((), mkM b n s (MS.mk (m.thrown) (m.length) (m.seatsPaid) (m.seatsHiss) (0) (m.arranged) (m.tape) (m.s) (g) (m.kept) (m.keptPaid) (m.keptHiss) (m.isKept) (m.r) (m.h) (m.n) (m.c))) ∧ MArea (MS.mk (m.thrown) (m.length) (m.seatsPaid) (m.seatsHiss) (0) (m.arranged) (m.tape) (m.s) (g) (m.kept) (m.keptPaid) (m.keptHiss) (m.isKept) (m.r) (m.h) (m.n) (m.c)) H := by
  unfold fX4_layOut
  simp -implicitDefEqProofs only [gM_55, gM_57, gM_58, gM_59, gM_60, gM_64, gM_65, gM_66, gM_67, gM_68, gM_69, gM_70, gM_71, gM_72, gM_73, gM_74, gM_75, gM_76, gM_77, gM_81, gM_82, gM_83, gM_85, gM_86, gM_91, gM_92, gM_93, gM_94, gM_95, gM_96, gM_97, gM_98, gM_99, gM_100, gM_102, gM_103, gM_107, gM_108, gM_110, gM_111, gM_112, gM_113, gM_114, gM_115, gM_118, gM_119, gM_56, aM_107, nM_107, gM_61, aM_108, nM_108, gM_62, aM_109, nM_109, gM_63, aM_110, nM_110, gM_78, aM_111, nM_111, gM_79, aM_112, nM_112, gM_80, aM_113, nM_113, gM_84, aM_114, nM_114, gM_87, aM_115, nM_115, gM_88, aM_116, nM_116, gM_89, aM_117, nM_117, gM_90, aM_118, nM_118, gM_101, aM_119, nM_119, gM_104, aM_120, nM_120, gM_105, aM_121, nM_121, gM_106, aM_122, nM_122, gM_109, aM_123, nM_123, gM_116, aM_124, nM_124, gM_117, aM_125, nM_125, gM_120, aM_126, nM_126, gM_121, aM_127, nM_127, gM_122, aM_128, nM_128, gM_123, aM_129, nM_129, pM_55, pM_57, pM_58, pM_59, pM_60, pM_64, pM_65, pM_66, pM_67, pM_68, pM_69, pM_70, pM_71, pM_72, pM_73, pM_74, pM_75, pM_76, pM_77, pM_81, pM_82, pM_83, pM_85, pM_86, pM_91, pM_92, pM_93, pM_94, pM_95, pM_96, pM_97, pM_98, pM_99, pM_100, pM_102, pM_103, pM_107, pM_108, pM_110, pM_111, pM_112, pM_113, pM_114, pM_115, pM_118, pM_119, uM_107, uM_108, uM_109, uM_110, uM_111, uM_112, uM_113, uM_114, uM_115, uM_116, uM_117, uM_118, uM_119, uM_120, uM_121, uM_122, uM_123, uM_124, uM_125, uM_126, uM_127, uM_128, uM_129, ivM, Option.bind_some, bd_some, mk_MS_thrown, mk_MS_length, mk_MS_seatsPaid, mk_MS_seatsHiss, mk_MS_lays, mk_MS_arranged, mk_MS_tape, mk_MS_s, mk_MS_area, mk_MS_kept, mk_MS_keptPaid, mk_MS_keptHiss, mk_MS_isKept, mk_MS_r, mk_MS_h, mk_MS_n, mk_MS_c, mk_MR_size, mk_MR_p, mk_MR_limit, mk_MR_token, mk_MR_place, mk_MR_span, mk_MR_number, mk_MR_fault, mk_MR_faultAt, mk_MR_word, mk_MR_got, mk_MH_lines, mk_MH_prices, mk_MH_leavings, mk_MH_onces, mk_MH_codeMany, mk_MH_pileMany, mk_MH_ones, mk_MH_coming, mk_MH_hh, mk_MH_newCues, mk_MH_code, mk_MH_pile, mk_MN_paidNow, mk_MN_hissNow, mk_MN_clapping, mk_MN_standing, mk_MN_low, mk_MN_high, mk_MN_gone, mk_MN_cueNext, mk_MN_nightHeight, mk_MN_nightCarries, mk_MN_held, mk_MN_claps, mk_MN_stand, mk_MN_heldLow, mk_MN_heldHigh, mk_MC_askedMany, mk_MC_bought, mk_MC_worthMany, mk_MC_allOrders, mk_MC_hasSides, mk_MC_seenClaps, mk_MC_seenStand, mk_MC_seenAll, mk_MC_beganA, mk_MC_beganB, mk_MC_seed, mk_MC_asked, mk_MC_carried, mk_MC_heights, mk_MC_worths, mk_MC_side, mk_MC_otherClaps, mk_MC_otherStand, mk_NT_paid, mk_NT_hiss, mk_NT_c1, mk_NT_c2, mk_NT_lo, mk_NT_hi, mk_NT_next, mk_Ac_a1, mk_Ac_a2, mk_Ac_l, mk_Ac_h, pM_85 (Or.inl rfl)]
  by_cases h : m.lays = 0
  · refine ⟨m.area, ?_, hl h⟩
    rw [if_neg (fun c => c h), ← h]; rfl
  · rw [if_pos h]
    have e := M_lay17 (b := b) (n := n) (s := s) (m := (MS.mk (m.thrown) (m.length) (m.seatsPaid) (m.seatsHiss) (0) (m.arranged) (m.tape) (m.s) (m.area) (m.kept) (m.keptPaid) (m.keptHiss) (m.isKept) (m.r) (m.h) (m.n) (m.c))) ok hH H.size hcFuel 0 (by omega) (by have := ok.size; unfold hcFuel; omega)
    obtain ⟨g, e2, g1⟩ := M_lay64 (b := b) (n := n) (s := s) (all := allAcc H H.size) ok rfl H.size hcFuel 0 (MS.mk (m.thrown) (m.length) (m.seatsPaid) (m.seatsHiss) (0) (m.arranged) (m.tape) (m.s) (m.area) (m.kept) (m.keptPaid) (m.keptHiss) (m.isKept) (m.r) (m.h) (m.n) (m.c)) (by omega) (by have := ok.size; unfold hcFuel; omega) hH (fun a u _ hu => by omega)
    refine ⟨g, e.trans e2, fun a v ha hv => ?_⟩
    rw [har a v ha hv]; exact g1 a v ha hv
end Lay2
