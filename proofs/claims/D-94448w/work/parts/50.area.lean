set_option linter.unusedVariables false
set_option linter.unusedSimpArgs false
/-! ===== which seats a seat perceives ===== -/
def seatAt (H : HS) (r c : Int) : Bool := decide (0 ≤ r ∧ r < H.rows) && (decide (0 ≤ c ∧ c < H.cols) && decide (H.kind (H.cols * r.toNat + c.toNat) ≠ 0))
def bitAtS (H : HS) (r c : Int) : Int64 := if seatAt H r c = true then bitS (H.cols * r.toNat + c.toNat) else 0
def nearAcc (H : HS) (r c : Nat) : Nat → Int64
  | 0 => 0
  | j + 1 => if j = 4 then nearAcc H r c j else nearAcc H r c j ||| bitAtS H ((r : Int) + (j / 3 : Nat) - 1) ((c : Int) + (j % 3 : Nat) - 1)
def seenIn (H : HS) (r c k : Nat) (acc : Int64) : Nat → Int64
  | 0 => acc
  | j + 1 => seenIn H r c k acc j ||| bitAtS H ((r : Int) - k) ((c : Int) + (-(k : Int) + j))
def seenAcc (H : HS) (r c : Nat) : Nat → Int64
  | 0 => 0
  | k + 1 => seenIn H r c (k + 1) (seenAcc H r c k) (2 * (k + 1) + 1)
def allAcc (H : HS) : Nat → Int64
  | 0 => 0
  | v + 1 => allAcc H v ||| (if H.kind v = 0 then 0 else bitS v)
def wholeAcc (H : HS) (v : Nat) : Nat → Int64
  | 0 => 0
  | o + 1 => if o = v then wholeAcc H v o else wholeAcc H v o ||| (if H.kind o = 0 then 0 else bitS o)
def hidS (H : HS) (r v : Nat) : Bool := decide (0 < r) && decide (H.kind (v - H.cols) = 0)
def arS (H : HS) (a v : Nat) : Int64 :=
  if a = 0 then nearAcc H (v / H.cols) (v % H.cols) 9
  else if a = 1 then bitAtS H ((v / H.cols : Nat) - 1) (v % H.cols : Nat)
  else if a = 2 then bitAtS H (v / H.cols : Nat) ((v % H.cols : Nat) - 1) ||| bitAtS H (v / H.cols : Nat) ((v % H.cols : Nat) + 1)
  else if a = 3 then bitAtS H ((v / H.cols : Nat) + 1) (v % H.cols : Nat)
  else if a = 4 then (if hidS H (v / H.cols) v = true then 0 else seenAcc H (v / H.cols) (v % H.cols) 3)
  else wholeAcc H v H.size
def HS.ArOk (H : HS) : Prop := ∀ a v, a < 6 → v < H.size → H.ar a v = arS H a v
theorem whole_eq (H : HS) {v : Nat} (hv : v < 64) : ∀ n, n ≤ 64 → wholeAcc H v n = (if v < n then allAcc H n &&& notL (bitS v) else allAcc H n)
  | 0, _ => by simp [wholeAcc, allAcc]
  | n + 1, hn => by
    have ih := whole_eq H hv n (by omega)
    simp only [wholeAcc, allAcc]
    by_cases e : n = v
    · subst e
      rw [if_pos rfl, ih, if_neg (by omega), if_pos (by omega)]
      refine tb_ext fun k hk => ?_
      have hz : tb (allAcc H n) n = false := by
        have : ∀ m, m ≤ 64 → ∀ j, m ≤ j → tb (allAcc H m) j = false := by
          intro m
          induction m with
          | zero => intro _ j _; exact tb_zero j
          | succ m ih2 =>
            intro hm j hj
            simp only [allAcc]
            rw [tb_or, ih2 (by omega) j (by omega)]
            split
            · rw [tb_zero]; rfl
            · rw [tb_bitS (by omega)]; simp; omega
        exact this n (by omega) n (Nat.le_refl _)
      rw [tb_and, tb_or, tb_notL _ hk, tb_bitS hv]
      by_cases ek : k = n
      · subst ek; rw [hz]; simp
      · have : tb (if H.kind n = 0 then 0 else bitS n) k = false := by
          split
          · exact tb_zero k
          · rw [tb_bitS hv]; simp [ek]
        rw [this]; simp [ek]
    · rw [if_neg e, ih]
      by_cases h : v < n
      · rw [if_pos h, if_pos (show v < n + 1 by omega)]
        refine tb_ext fun k hk => ?_
        rw [tb_or, tb_and, tb_and, tb_or, tb_notL _ hk, tb_bitS hv]
        by_cases ek : k = v
        · have : tb (if H.kind n = 0 then 0 else bitS n) k = false := by
            split
            · exact tb_zero k
            · rw [tb_bitS (by omega)]; simp; omega
          rw [this]; simp [ek]
        · simp [ek]
      · rw [if_neg h, if_neg (show ¬ v < n + 1 by omega)]
theorem zor (x : Int64) : (0 : Int64) ||| x = x := tb_ext fun k _ => by rw [tb_or, tb_zero, Bool.false_or]
section LayM
variable {b : Mem} {n s : Nat} {m : MS} {H : HS}
theorem M_isIn (a c d : Int32) (st : Mem) : fX4_isIn a c d st = some (b2i (decide (c ≤ a ∧ a ≤ d)), st) := by
  unfold fX4_isIn bX4_isIn_14
  by_cases h1 : a < c
  · rw [if_pos h1, show decide (c ≤ a ∧ a ≤ d) = false from decide_eq_false (fun h => absurd h1 (Int32.not_lt.mpr h.1))]; rfl
  · rw [if_neg h1]
    by_cases h2 : d < a
    · rw [if_pos h2, show decide (c ≤ a ∧ a ≤ d) = false from decide_eq_false (fun h => absurd h2 (Int32.not_lt.mpr h.2))]; rfl
    · rw [if_neg h2, show decide (c ≤ a ∧ a ≤ d) = true from decide_eq_true ⟨Int32.not_lt.mp h1, Int32.not_lt.mp h2⟩]; rfl
theorem rd_s {k : Nat} (hk : k < 681) : ifx 681 (n2 k) (m.s (n2 k).toNatClampNeg) = some (m.s k) := by rw [ifx_n2 hk (by decide), n2_nat (by omega)]
theorem M_isSeatAt (hH : MHouse m.s H) (ok : H.Ok) {r c : Int} (hr : -100 ≤ r ∧ r ≤ 100) (hc : -100 ≤ c ∧ c ≤ 100) : fX4_isSeatAt (some 106) (i2 r) (i2 c) (mkM b n s m) = some (b2i (seatAt H r c), mkM b n s m) := by
  have hr8 := ok.rows
  have hc8 := ok.cols
  have h64 := ok.size
  have r0 : ifx 681 (0 : Int32) (m.s (0 : Int32).toNatClampNeg) = some (n2 H.rows) := (rd_s (k := 0) (by decide)).trans (congrArg some hH.rows)
  have r1 : ifx 681 (1 : Int32) (m.s (1 : Int32).toNatClampNeg) = some (n2 H.cols) := (rd_s (k := 1) (by decide)).trans (congrArg some hH.cols)
  have s0 : n2 H.rows - (1 : Int32) = i2 ((H.rows : Int) - 1) := i2_sub (H.rows : Int) 1
  have s1 : n2 H.cols - (1 : Int32) = i2 ((H.cols : Int) - 1) := i2_sub (H.cols : Int) 1
  have d0 : decide ((0 : Int32) ≤ i2 r ∧ i2 r ≤ i2 ((H.rows : Int) - 1)) = decide (0 ≤ r ∧ r < H.rows) := by
    rw [show (0 : Int32) = i2 0 from rfl]
    have e1 : (i2 0 ≤ i2 r) = (0 ≤ r) := i2_le (by omega) (by omega)
    have e2 : (i2 r ≤ i2 ((H.rows : Int) - 1)) = (r ≤ (H.rows : Int) - 1) := i2_le (by omega) (by omega)
    simp only [e1, e2]
    exact decide_eq_decide.mpr (by omega)
  have d1 : decide ((0 : Int32) ≤ i2 c ∧ i2 c ≤ i2 ((H.cols : Int) - 1)) = decide (0 ≤ c ∧ c < H.cols) := by
    rw [show (0 : Int32) = i2 0 from rfl]
    have e1 : (i2 0 ≤ i2 c) = (0 ≤ c) := i2_le (by omega) (by omega)
    have e2 : (i2 c ≤ i2 ((H.cols : Int) - 1)) = (c ≤ (H.cols : Int) - 1) := i2_le (by omega) (by omega)
    simp only [e1, e2]
    exact decide_eq_decide.mpr (by omega)
  unfold fX4_isSeatAt bX4_isSeatAt_57 seatAt
  simp -implicitDefEqProofs only [gM_55, gM_57, gM_58, gM_59, gM_60, gM_64, gM_65, gM_66, gM_67, gM_68, gM_69, gM_70, gM_71, gM_72, gM_73, gM_74, gM_75, gM_76, gM_77, gM_81, gM_82, gM_83, gM_85, gM_86, gM_91, gM_92, gM_93, gM_94, gM_95, gM_96, gM_97, gM_98, gM_99, gM_100, gM_102, gM_103, gM_107, gM_108, gM_110, gM_111, gM_112, gM_113, gM_114, gM_115, gM_118, gM_119, gM_56, aM_107, nM_107, gM_61, aM_108, nM_108, gM_62, aM_109, nM_109, gM_63, aM_110, nM_110, gM_78, aM_111, nM_111, gM_79, aM_112, nM_112, gM_80, aM_113, nM_113, gM_84, aM_114, nM_114, gM_87, aM_115, nM_115, gM_88, aM_116, nM_116, gM_89, aM_117, nM_117, gM_90, aM_118, nM_118, gM_101, aM_119, nM_119, gM_104, aM_120, nM_120, gM_105, aM_121, nM_121, gM_106, aM_122, nM_122, gM_109, aM_123, nM_123, gM_116, aM_124, nM_124, gM_117, aM_125, nM_125, gM_120, aM_126, nM_126, gM_121, aM_127, nM_127, gM_122, aM_128, nM_128, gM_123, aM_129, nM_129, pM_55, pM_57, pM_58, pM_59, pM_60, pM_64, pM_65, pM_66, pM_67, pM_68, pM_69, pM_70, pM_71, pM_72, pM_73, pM_74, pM_75, pM_76, pM_77, pM_81, pM_82, pM_83, pM_85, pM_86, pM_91, pM_92, pM_93, pM_94, pM_95, pM_96, pM_97, pM_98, pM_99, pM_100, pM_102, pM_103, pM_107, pM_108, pM_110, pM_111, pM_112, pM_113, pM_114, pM_115, pM_118, pM_119, uM_107, uM_108, uM_109, uM_110, uM_111, uM_112, uM_113, uM_114, uM_115, uM_116, uM_117, uM_118, uM_119, uM_120, uM_121, uM_122, uM_123, uM_124, uM_125, uM_126, uM_127, uM_128, uM_129, ivM, Option.bind_some, bd_some, mk_MS_thrown, mk_MS_length, mk_MS_seatsPaid, mk_MS_seatsHiss, mk_MS_lays, mk_MS_arranged, mk_MS_tape, mk_MS_s, mk_MS_area, mk_MS_kept, mk_MS_keptPaid, mk_MS_keptHiss, mk_MS_isKept, mk_MS_r, mk_MS_h, mk_MS_n, mk_MS_c, mk_MR_size, mk_MR_p, mk_MR_limit, mk_MR_token, mk_MR_place, mk_MR_span, mk_MR_number, mk_MR_fault, mk_MR_faultAt, mk_MR_word, mk_MR_got, mk_MH_lines, mk_MH_prices, mk_MH_leavings, mk_MH_onces, mk_MH_codeMany, mk_MH_pileMany, mk_MH_ones, mk_MH_coming, mk_MH_hh, mk_MH_newCues, mk_MH_code, mk_MH_pile, mk_MN_paidNow, mk_MN_hissNow, mk_MN_clapping, mk_MN_standing, mk_MN_low, mk_MN_high, mk_MN_gone, mk_MN_cueNext, mk_MN_nightHeight, mk_MN_nightCarries, mk_MN_held, mk_MN_claps, mk_MN_stand, mk_MN_heldLow, mk_MN_heldHigh, mk_MC_askedMany, mk_MC_bought, mk_MC_worthMany, mk_MC_allOrders, mk_MC_hasSides, mk_MC_seenClaps, mk_MC_seenStand, mk_MC_seenAll, mk_MC_beganA, mk_MC_beganB, mk_MC_seed, mk_MC_asked, mk_MC_carried, mk_MC_heights, mk_MC_worths, mk_MC_side, mk_MC_otherClaps, mk_MC_otherStand, mk_NT_paid, mk_NT_hiss, mk_NT_c1, mk_NT_c2, mk_NT_lo, mk_NT_hi, mk_NT_next, mk_Ac_a1, mk_Ac_a2, mk_Ac_l, mk_Ac_h, r0, r1, s0, s1, M_isIn, d0, d1, b2i_0]
  by_cases hr2 : 0 ≤ r ∧ r < H.rows
  · by_cases hc2 : 0 ≤ c ∧ c < H.cols
    · obtain ⟨r', rfl⟩ : ∃ k : Nat, r = k := ⟨r.toNat, by omega⟩
      obtain ⟨c', rfl⟩ : ∃ k : Nat, c = k := ⟨c.toNat, by omega⟩
      have hlt : H.cols * r' + c' < H.size := by
        have : H.cols * r' + H.cols ≤ H.cols * H.rows := by rw [← Nat.mul_succ]; exact Nat.mul_le_mul_left _ (by omega)
        unfold HS.size; rw [Nat.mul_comm H.rows]; omega
      have e : (6 : Int32) + n2 H.cols * i2 (r' : Int) + i2 (c' : Int) = n2 (6 + (H.cols * r' + c')) := by
        rw [← n2_i2, ← n2_i2, n2_mul, show (6 : Int32) = n2 6 from rfl, n2_add, n2_add, Nat.add_assoc]
      have k6 := ok.kind (H.cols * r' + c')
      simp only [decide_eq_true hr2, decide_eq_true hc2, Bool.true_eq_false, if_false, e, rd_s (m := m) (show 6 + (H.cols * r' + c') < 681 by omega), Option.bind_some, hH.kind _ (show H.cols * r' + c' < 64 by omega), if_pos hlt, le0 (show H.kind (H.cols * r' + c') < 2147483648 by omega), Int.toNat_natCast, Bool.true_and]
      by_cases hk : H.kind (H.cols * r' + c') = 0
      · simp [hk, b2i]
      · simp [hk, b2i]
    · simp [hr2, hc2, b2i]
  · simp [hr2, b2i]
theorem M_bitAt (hH : MHouse m.s H) (ok : H.Ok) {r c : Int} (hr : -100 ≤ r ∧ r ≤ 100) (hc : -100 ≤ c ∧ c ≤ 100) : fX4_bitAt (some 106) (i2 r) (i2 c) (mkM b n s m) = some (bitAtS H r c, mkM b n s m) := by
  have r1 : ifx 681 (1 : Int32) (m.s (1 : Int32).toNatClampNeg) = some (n2 H.cols) := (rd_s (k := 1) (by decide)).trans (congrArg some hH.cols)
  unfold fX4_bitAt bitAtS
  simp -implicitDefEqProofs only [gM_55, gM_57, gM_58, gM_59, gM_60, gM_64, gM_65, gM_66, gM_67, gM_68, gM_69, gM_70, gM_71, gM_72, gM_73, gM_74, gM_75, gM_76, gM_77, gM_81, gM_82, gM_83, gM_85, gM_86, gM_91, gM_92, gM_93, gM_94, gM_95, gM_96, gM_97, gM_98, gM_99, gM_100, gM_102, gM_103, gM_107, gM_108, gM_110, gM_111, gM_112, gM_113, gM_114, gM_115, gM_118, gM_119, gM_56, aM_107, nM_107, gM_61, aM_108, nM_108, gM_62, aM_109, nM_109, gM_63, aM_110, nM_110, gM_78, aM_111, nM_111, gM_79, aM_112, nM_112, gM_80, aM_113, nM_113, gM_84, aM_114, nM_114, gM_87, aM_115, nM_115, gM_88, aM_116, nM_116, gM_89, aM_117, nM_117, gM_90, aM_118, nM_118, gM_101, aM_119, nM_119, gM_104, aM_120, nM_120, gM_105, aM_121, nM_121, gM_106, aM_122, nM_122, gM_109, aM_123, nM_123, gM_116, aM_124, nM_124, gM_117, aM_125, nM_125, gM_120, aM_126, nM_126, gM_121, aM_127, nM_127, gM_122, aM_128, nM_128, gM_123, aM_129, nM_129, pM_55, pM_57, pM_58, pM_59, pM_60, pM_64, pM_65, pM_66, pM_67, pM_68, pM_69, pM_70, pM_71, pM_72, pM_73, pM_74, pM_75, pM_76, pM_77, pM_81, pM_82, pM_83, pM_85, pM_86, pM_91, pM_92, pM_93, pM_94, pM_95, pM_96, pM_97, pM_98, pM_99, pM_100, pM_102, pM_103, pM_107, pM_108, pM_110, pM_111, pM_112, pM_113, pM_114, pM_115, pM_118, pM_119, uM_107, uM_108, uM_109, uM_110, uM_111, uM_112, uM_113, uM_114, uM_115, uM_116, uM_117, uM_118, uM_119, uM_120, uM_121, uM_122, uM_123, uM_124, uM_125, uM_126, uM_127, uM_128, uM_129, ivM, Option.bind_some, bd_some, mk_MS_thrown, mk_MS_length, mk_MS_seatsPaid, mk_MS_seatsHiss, mk_MS_lays, mk_MS_arranged, mk_MS_tape, mk_MS_s, mk_MS_area, mk_MS_kept, mk_MS_keptPaid, mk_MS_keptHiss, mk_MS_isKept, mk_MS_r, mk_MS_h, mk_MS_n, mk_MS_c, mk_MR_size, mk_MR_p, mk_MR_limit, mk_MR_token, mk_MR_place, mk_MR_span, mk_MR_number, mk_MR_fault, mk_MR_faultAt, mk_MR_word, mk_MR_got, mk_MH_lines, mk_MH_prices, mk_MH_leavings, mk_MH_onces, mk_MH_codeMany, mk_MH_pileMany, mk_MH_ones, mk_MH_coming, mk_MH_hh, mk_MH_newCues, mk_MH_code, mk_MH_pile, mk_MN_paidNow, mk_MN_hissNow, mk_MN_clapping, mk_MN_standing, mk_MN_low, mk_MN_high, mk_MN_gone, mk_MN_cueNext, mk_MN_nightHeight, mk_MN_nightCarries, mk_MN_held, mk_MN_claps, mk_MN_stand, mk_MN_heldLow, mk_MN_heldHigh, mk_MC_askedMany, mk_MC_bought, mk_MC_worthMany, mk_MC_allOrders, mk_MC_hasSides, mk_MC_seenClaps, mk_MC_seenStand, mk_MC_seenAll, mk_MC_beganA, mk_MC_beganB, mk_MC_seed, mk_MC_asked, mk_MC_carried, mk_MC_heights, mk_MC_worths, mk_MC_side, mk_MC_otherClaps, mk_MC_otherStand, mk_NT_paid, mk_NT_hiss, mk_NT_c1, mk_NT_c2, mk_NT_lo, mk_NT_hi, mk_NT_next, mk_Ac_a1, mk_Ac_a2, mk_Ac_l, mk_Ac_h, M_isSeatAt hH ok hr hc, b2i_0, r1]
  cases h : seatAt H r c
  · rfl
  · simp only [Bool.true_eq_false, if_false, if_true]
    unfold seatAt at h
    simp only [Bool.and_eq_true, decide_eq_true_eq] at h
    obtain ⟨r', rfl⟩ : ∃ k : Nat, r = k := ⟨r.toNat, by omega⟩
    obtain ⟨c', rfl⟩ : ∃ k : Nat, c = k := ⟨c.toNat, by omega⟩
    rw [← n2_i2, ← n2_i2, n2_mul, n2_add]; rfl
end LayM
