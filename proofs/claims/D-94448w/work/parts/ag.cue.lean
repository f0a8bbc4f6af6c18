set_option linter.unusedVariables false
set_option linter.unusedSimpArgs false
set_option maxRecDepth 100000
/-! ===== cues that are being told, in both ===== -/
def CuT (T : List Cl) (e : Nat) (k : Cu) : Prop := e < T.length ∧ (clD T e).t = (if k.w = 3 then 14 else if k.w = 2 then 15 else if k.w = 0 then 16 else 17) ∧ (clD T e).i 150 = n2 k.t ∧ (k.w ≠ 3 → (clD T e).i 151 = n2 k.s)
theorem CuT.app {T R : List Cl} {e : Nat} {k : Cu} (h : CuT T e k) : CuT (T ++ R) e k := by
  obtain ⟨h1, h2⟩ := h
  refine ⟨by rw [List.length_append]; omega, ?_⟩
  rw [clD_apL T R e h1]; exact h2
theorem CuT.tg {T : List Cl} {e : Nat} {k : Cu} (h : CuT T e k) : (clD T e).t = 14 ∨ (clD T e).t = 15 ∨ (clD T e).t = 16 ∨ (clD T e).t = 17 := by
  rw [h.2.1]
  split
  · exact Or.inl rfl
  · split
    · exact Or.inr (Or.inl rfl)
    · split
      · exact Or.inr (Or.inr (Or.inl rfl))
      · exact Or.inr (Or.inr (Or.inr rfl))
/-- the house that the cues are for, seen from any memory with new cells -/
abbrev HsO (B : Mem) (hs : Nat) (H : HS) : Prop := (∀ L z, gI (ovs B L z) (some hs) 28 = some (n2 H.rows)) ∧ (∀ L z, gI (ovs B L z) (some hs) 29 = some (n2 H.cols)) ∧ (∀ L z (o : Option (Int32 × Mem)), iv (ovs B L z) (some hs) [2] o = o) ∧ (∀ L z v, v < 100000 → fX2_isSeat (some hs) (n2 v) (ovs B L z) = some (b2i (seatZ H v), ovs B L z))
theorem HsO.i28 {B : Mem} {hs : Nat} {H : HS} (self : HsO B hs H) : ∀ L z, gI (ovs B L z) (some hs) 28 = some (n2 H.rows) := self.1
theorem HsO.i29 {B : Mem} {hs : Nat} {H : HS} (self : HsO B hs H) : ∀ L z, gI (ovs B L z) (some hs) 29 = some (n2 H.cols) := self.2.1
theorem HsO.iv_ {B : Mem} {hs : Nat} {H : HS} (self : HsO B hs H) : ∀ L z (o : Option (Int32 × Mem)), iv (ovs B L z) (some hs) [2] o = o := self.2.2.1
theorem HsO.seat {B : Mem} {hs : Nat} {H : HS} (self : HsO B hs H) : ∀ L z v, v < 100000 → fX2_isSeat (some hs) (n2 v) (ovs B L z) = some (b2i (seatZ H v), ovs B L z) := self.2.2.2
def MH.sNc (h : MH) (f : Nat → Int32) : MH := MH.mk h.lines h.prices h.leavings h.onces h.codeMany h.pileMany h.ones h.coming h.hh f h.code h.pile
def MH.sCo (h : MH) (v : Int32) : MH := MH.mk h.lines h.prices h.leavings h.onces h.codeMany h.pileMany h.ones v h.hh h.newCues h.code h.pile
/-- the model from the cue's word on -/
def rcW (v0 : Rf) (v1 : Int32) (st : Mem) : Option (Int32 × Mem) :=
  bd (iv st v0 [4] (fX4_isWord v0 (7364985 : Int64) st)) fun x87 st =>
  if x87 = 0 then
    bd (iv st v0 [4] (fX4_isWord v0 (1751741299 : Int64) st)) fun x101 st =>
    if x101 = 0 then
      bd (iv st v0 [4] (fX4_isWord v0 (1718773093 : Int64) st)) fun x115 st =>
      if x115 = 0 then
        bd (iv st v0 [4] (fX4_isWord v0 (495874305132 : Int64) st)) fun x129 st =>
        if x129 = 0 then
          bX4_readCue_140 v0 v1 (-1 : Int32) st
        else
          bX4_readCue_140 v0 v1 (3 : Int32) st
      else
        bX4_readCue_140 v0 v1 (2 : Int32) st
    else
      bX4_readCue_140 v0 v1 (1 : Int32) st
  else
    bX4_readCue_140 v0 v1 (0 : Int32) st
section CueM
variable {b' : Mem} {n s : Nat} {m : MS} {r : MR} {h : MH} {H : HS}
theorem u_nc {k : Nat} {v : Int32} (hk : k < 90) : uI (mkM b' n s (m.sRH r h)) (some 110) (n2 k) v = some (mkM b' n s (m.sRH r (h.sNc (upq h.newCues k v)))) := by
  rw [uM_110, ifx_k hk (by omega), n2_nat (by omega)]; simp -implicitDefEqProofs only [gM_55, gM_57, gM_58, gM_59, gM_60, gM_64, gM_65, gM_66, gM_67, gM_68, gM_69, gM_70, gM_71, gM_72, gM_73, gM_74, gM_75, gM_76, gM_77, gM_81, gM_82, gM_83, gM_85, gM_86, gM_91, gM_92, gM_93, gM_94, gM_95, gM_96, gM_97, gM_98, gM_99, gM_100, gM_102, gM_103, gM_107, gM_108, gM_110, gM_111, gM_112, gM_113, gM_114, gM_115, gM_118, gM_119, gM_56, aM_107, nM_107, gM_61, aM_108, nM_108, gM_62, aM_109, nM_109, gM_63, aM_110, nM_110, gM_78, aM_111, nM_111, gM_79, aM_112, nM_112, gM_80, aM_113, nM_113, gM_84, aM_114, nM_114, gM_87, aM_115, nM_115, gM_88, aM_116, nM_116, gM_89, aM_117, nM_117, gM_90, aM_118, nM_118, gM_101, aM_119, nM_119, gM_104, aM_120, nM_120, gM_105, aM_121, nM_121, gM_106, aM_122, nM_122, gM_109, aM_123, nM_123, gM_116, aM_124, nM_124, gM_117, aM_125, nM_125, gM_120, aM_126, nM_126, gM_121, aM_127, nM_127, gM_122, aM_128, nM_128, gM_123, aM_129, nM_129, pM_55, pM_57, pM_58, pM_59, pM_60, pM_64, pM_65, pM_66, pM_67, pM_68, pM_69, pM_70, pM_71, pM_72, pM_73, pM_74, pM_75, pM_76, pM_77, pM_81, pM_82, pM_83, pM_85, pM_86, pM_91, pM_92, pM_93, pM_94, pM_95, pM_96, pM_97, pM_98, pM_99, pM_100, pM_102, pM_103, pM_107, pM_108, pM_110, pM_111, pM_112, pM_113, pM_114, pM_115, pM_118, pM_119, uM_107, uM_108, uM_109, uM_110, uM_111, uM_112, uM_113, uM_114, uM_115, uM_116, uM_117, uM_118, uM_119, uM_120, uM_121, uM_122, uM_123, uM_124, uM_125, uM_126, uM_127, uM_128, uM_129, ivM, Option.bind_some, bd_some, mk_MS_thrown, mk_MS_length, mk_MS_seatsPaid, mk_MS_seatsHiss, mk_MS_lays, mk_MS_arranged, mk_MS_tape, mk_MS_s, mk_MS_area, mk_MS_kept, mk_MS_keptPaid, mk_MS_keptHiss, mk_MS_isKept, mk_MS_r, mk_MS_h, mk_MS_n, mk_MS_c, mk_MR_size, mk_MR_p, mk_MR_limit, mk_MR_token, mk_MR_place, mk_MR_span, mk_MR_number, mk_MR_fault, mk_MR_faultAt, mk_MR_word, mk_MR_got, mk_MH_lines, mk_MH_prices, mk_MH_leavings, mk_MH_onces, mk_MH_codeMany, mk_MH_pileMany, mk_MH_ones, mk_MH_coming, mk_MH_hh, mk_MH_newCues, mk_MH_code, mk_MH_pile, mk_MN_paidNow, mk_MN_hissNow, mk_MN_clapping, mk_MN_standing, mk_MN_low, mk_MN_high, mk_MN_gone, mk_MN_cueNext, mk_MN_nightHeight, mk_MN_nightCarries, mk_MN_held, mk_MN_claps, mk_MN_stand, mk_MN_heldLow, mk_MN_heldHigh, mk_MC_askedMany, mk_MC_bought, mk_MC_worthMany, mk_MC_allOrders, mk_MC_hasSides, mk_MC_seenClaps, mk_MC_seenStand, mk_MC_seenAll, mk_MC_beganA, mk_MC_beganB, mk_MC_seed, mk_MC_asked, mk_MC_carried, mk_MC_heights, mk_MC_worths, mk_MC_side, mk_MC_otherClaps, mk_MC_otherStand, mk_NT_paid, mk_NT_hiss, mk_NT_c1, mk_NT_c2, mk_NT_lo, mk_NT_hi, mk_NT_next, mk_Ac_a1, mk_Ac_a2, mk_Ac_l, mk_Ac_h, MS.sRH, MS.sR, MS.sH2, MH.sNc]
theorem a_nc {k : Nat} (hk : k < 90) : aI (mkM b' n s (m.sRH r h)) (some 110) (n2 k) = some (h.newCues k) := by
  rw [aM_110, ifx_k hk (by omega), n2_nat (by omega)]; simp -implicitDefEqProofs only [gM_55, gM_57, gM_58, gM_59, gM_60, gM_64, gM_65, gM_66, gM_67, gM_68, gM_69, gM_70, gM_71, gM_72, gM_73, gM_74, gM_75, gM_76, gM_77, gM_81, gM_82, gM_83, gM_85, gM_86, gM_91, gM_92, gM_93, gM_94, gM_95, gM_96, gM_97, gM_98, gM_99, gM_100, gM_102, gM_103, gM_107, gM_108, gM_110, gM_111, gM_112, gM_113, gM_114, gM_115, gM_118, gM_119, gM_56, aM_107, nM_107, gM_61, aM_108, nM_108, gM_62, aM_109, nM_109, gM_63, aM_110, nM_110, gM_78, aM_111, nM_111, gM_79, aM_112, nM_112, gM_80, aM_113, nM_113, gM_84, aM_114, nM_114, gM_87, aM_115, nM_115, gM_88, aM_116, nM_116, gM_89, aM_117, nM_117, gM_90, aM_118, nM_118, gM_101, aM_119, nM_119, gM_104, aM_120, nM_120, gM_105, aM_121, nM_121, gM_106, aM_122, nM_122, gM_109, aM_123, nM_123, gM_116, aM_124, nM_124, gM_117, aM_125, nM_125, gM_120, aM_126, nM_126, gM_121, aM_127, nM_127, gM_122, aM_128, nM_128, gM_123, aM_129, nM_129, pM_55, pM_57, pM_58, pM_59, pM_60, pM_64, pM_65, pM_66, pM_67, pM_68, pM_69, pM_70, pM_71, pM_72, pM_73, pM_74, pM_75, pM_76, pM_77, pM_81, pM_82, pM_83, pM_85, pM_86, pM_91, pM_92, pM_93, pM_94, pM_95, pM_96, pM_97, pM_98, pM_99, pM_100, pM_102, pM_103, pM_107, pM_108, pM_110, pM_111, pM_112, pM_113, pM_114, pM_115, pM_118, pM_119, uM_107, uM_108, uM_109, uM_110, uM_111, uM_112, uM_113, uM_114, uM_115, uM_116, uM_117, uM_118, uM_119, uM_120, uM_121, uM_122, uM_123, uM_124, uM_125, uM_126, uM_127, uM_128, uM_129, ivM, Option.bind_some, bd_some, mk_MS_thrown, mk_MS_length, mk_MS_seatsPaid, mk_MS_seatsHiss, mk_MS_lays, mk_MS_arranged, mk_MS_tape, mk_MS_s, mk_MS_area, mk_MS_kept, mk_MS_keptPaid, mk_MS_keptHiss, mk_MS_isKept, mk_MS_r, mk_MS_h, mk_MS_n, mk_MS_c, mk_MR_size, mk_MR_p, mk_MR_limit, mk_MR_token, mk_MR_place, mk_MR_span, mk_MR_number, mk_MR_fault, mk_MR_faultAt, mk_MR_word, mk_MR_got, mk_MH_lines, mk_MH_prices, mk_MH_leavings, mk_MH_onces, mk_MH_codeMany, mk_MH_pileMany, mk_MH_ones, mk_MH_coming, mk_MH_hh, mk_MH_newCues, mk_MH_code, mk_MH_pile, mk_MN_paidNow, mk_MN_hissNow, mk_MN_clapping, mk_MN_standing, mk_MN_low, mk_MN_high, mk_MN_gone, mk_MN_cueNext, mk_MN_nightHeight, mk_MN_nightCarries, mk_MN_held, mk_MN_claps, mk_MN_stand, mk_MN_heldLow, mk_MN_heldHigh, mk_MC_askedMany, mk_MC_bought, mk_MC_worthMany, mk_MC_allOrders, mk_MC_hasSides, mk_MC_seenClaps, mk_MC_seenStand, mk_MC_seenAll, mk_MC_beganA, mk_MC_beganB, mk_MC_seed, mk_MC_asked, mk_MC_carried, mk_MC_heights, mk_MC_worths, mk_MC_side, mk_MC_otherClaps, mk_MC_otherStand, mk_NT_paid, mk_NT_hiss, mk_NT_c1, mk_NT_c2, mk_NT_lo, mk_NT_hi, mk_NT_next, mk_Ac_a1, mk_Ac_a2, mk_Ac_l, mk_Ac_h, MS.sRH, MS.sR, MS.sH2]
theorem g_co : gI (mkM b' n s (m.sRH r h)) (some 106) 86 = some h.coming := gM_86
theorem p_co {w : Int32} : pI (mkM b' n s (m.sRH r h)) (some 106) 86 w = some (mkM b' n s (m.sRH r (h.sCo w))) := by
  rw [pM_86]; simp -implicitDefEqProofs only [gM_55, gM_57, gM_58, gM_59, gM_60, gM_64, gM_65, gM_66, gM_67, gM_68, gM_69, gM_70, gM_71, gM_72, gM_73, gM_74, gM_75, gM_76, gM_77, gM_81, gM_82, gM_83, gM_85, gM_86, gM_91, gM_92, gM_93, gM_94, gM_95, gM_96, gM_97, gM_98, gM_99, gM_100, gM_102, gM_103, gM_107, gM_108, gM_110, gM_111, gM_112, gM_113, gM_114, gM_115, gM_118, gM_119, gM_56, aM_107, nM_107, gM_61, aM_108, nM_108, gM_62, aM_109, nM_109, gM_63, aM_110, nM_110, gM_78, aM_111, nM_111, gM_79, aM_112, nM_112, gM_80, aM_113, nM_113, gM_84, aM_114, nM_114, gM_87, aM_115, nM_115, gM_88, aM_116, nM_116, gM_89, aM_117, nM_117, gM_90, aM_118, nM_118, gM_101, aM_119, nM_119, gM_104, aM_120, nM_120, gM_105, aM_121, nM_121, gM_106, aM_122, nM_122, gM_109, aM_123, nM_123, gM_116, aM_124, nM_124, gM_117, aM_125, nM_125, gM_120, aM_126, nM_126, gM_121, aM_127, nM_127, gM_122, aM_128, nM_128, gM_123, aM_129, nM_129, pM_55, pM_57, pM_58, pM_59, pM_60, pM_64, pM_65, pM_66, pM_67, pM_68, pM_69, pM_70, pM_71, pM_72, pM_73, pM_74, pM_75, pM_76, pM_77, pM_81, pM_82, pM_83, pM_85, pM_86, pM_91, pM_92, pM_93, pM_94, pM_95, pM_96, pM_97, pM_98, pM_99, pM_100, pM_102, pM_103, pM_107, pM_108, pM_110, pM_111, pM_112, pM_113, pM_114, pM_115, pM_118, pM_119, uM_107, uM_108, uM_109, uM_110, uM_111, uM_112, uM_113, uM_114, uM_115, uM_116, uM_117, uM_118, uM_119, uM_120, uM_121, uM_122, uM_123, uM_124, uM_125, uM_126, uM_127, uM_128, uM_129, ivM, Option.bind_some, bd_some, mk_MS_thrown, mk_MS_length, mk_MS_seatsPaid, mk_MS_seatsHiss, mk_MS_lays, mk_MS_arranged, mk_MS_tape, mk_MS_s, mk_MS_area, mk_MS_kept, mk_MS_keptPaid, mk_MS_keptHiss, mk_MS_isKept, mk_MS_r, mk_MS_h, mk_MS_n, mk_MS_c, mk_MR_size, mk_MR_p, mk_MR_limit, mk_MR_token, mk_MR_place, mk_MR_span, mk_MR_number, mk_MR_fault, mk_MR_faultAt, mk_MR_word, mk_MR_got, mk_MH_lines, mk_MH_prices, mk_MH_leavings, mk_MH_onces, mk_MH_codeMany, mk_MH_pileMany, mk_MH_ones, mk_MH_coming, mk_MH_hh, mk_MH_newCues, mk_MH_code, mk_MH_pile, mk_MN_paidNow, mk_MN_hissNow, mk_MN_clapping, mk_MN_standing, mk_MN_low, mk_MN_high, mk_MN_gone, mk_MN_cueNext, mk_MN_nightHeight, mk_MN_nightCarries, mk_MN_held, mk_MN_claps, mk_MN_stand, mk_MN_heldLow, mk_MN_heldHigh, mk_MC_askedMany, mk_MC_bought, mk_MC_worthMany, mk_MC_allOrders, mk_MC_hasSides, mk_MC_seenClaps, mk_MC_seenStand, mk_MC_seenAll, mk_MC_beganA, mk_MC_beganB, mk_MC_seed, mk_MC_asked, mk_MC_carried, mk_MC_heights, mk_MC_worths, mk_MC_side, mk_MC_otherClaps, mk_MC_otherStand, mk_NT_paid, mk_NT_hiss, mk_NT_c1, mk_NT_c2, mk_NT_lo, mk_NT_hi, mk_NT_next, mk_Ac_a1, mk_Ac_a2, mk_Ac_l, mk_Ac_h, MS.sRH, MS.sR, MS.sH2, MH.sCo]
theorem M_noSeat (hH : MHouse m.s H) (ok : H.Ok) {i j : Nat} (hi : i < H.rows) (hj : H.cols ≤ j) (hj2 : j < 1000) : fX4_isSeatAt (some 106) (n2 i) (n2 j) (mkM b' n s m) = some (0, mkM b' n s m) := by
  have r8 := ok.rows
  have c8 := ok.cols
  have r0 : aI (mkM b' n s m) (some 108) (0 : Int32) = some (n2 H.rows) := (rd_s' (k := 0) (by decide)).trans (congrArg some hH.rows)
  have r1 : aI (mkM b' n s m) (some 108) (1 : Int32) = some (n2 H.cols) := (rd_s' (k := 1) (by decide)).trans (congrArg some hH.cols)
  have d1 : decide ((0 : Int32) ≤ n2 i ∧ n2 i ≤ n2 H.rows - 1) = true := decide_eq_true (by
    rw [li_0, li_1, nn_sub, n2_le (by decide) (by omega), ni_le (by omega) (by omega) (by omega)]
    omega)
  have d2 : decide ((0 : Int32) ≤ n2 j ∧ n2 j ≤ n2 H.cols - 1) = false := decide_eq_false (by
    rw [li_0, li_1, nn_sub, n2_le (by decide) (by omega), ni_le (by omega) (by omega) (by omega)]
    omega)
  unfold fX4_isSeatAt bX4_isSeatAt_57
  simp -implicitDefEqProofs only [Option.bind_some, bd_some, b2i_0, Bool.true_eq_false, Bool.false_eq_true, eq_self, if_true, if_false, not_true_eq_false, not_false_eq_true, gM_61, r0, M_isIn, d1, r1, d2]
end CueM
section CueD
variable {B b' : Mem} {m : MS} {tp : Nat → Int32} {to most A Z n s : Nat} {c : Cl} {T : List Cl} {z p k t hs : Nat} {r : MR} {h : MH} {H : HS}
theorem rd13_gA {f : Nat} (h13 : c.t = 13) (hf : okA 13 f = true) : gA (ovs B (c :: T) z) (some (mNx B)) f = some (c.a f) :=
  o_gA (B := B) (L := c :: T) (i := 0) (decide_eq_true (Nat.succ_pos _)) (by show okA c.t f = true; rw [h13]; exact hf)
/-- what a cue comes to -/
def CueR (B : Mem) (c : Cl) (T : List Cl) (m : MS) (h : MH) (tp : Nat → Int32) (to most p A Z : Nat) (b' : Mem) (n s k t : Nat) (rx : Option ((Rf ⊕ Nat) × Mem)) (rm : Option (Int32 × Mem)) : Prop :=
  (∃ e c' T' z' r' f q R cu, rx = some (.inl (some (mNx B + (1 + e))), ovs B (c' :: T') z') ∧ rm = some (1, mkM b' n s (m.sRH r' (h.sNc f))) ∧ RsR B c' T' (m.sRH r' (h.sNc f)) tp to most q ∧ Kp c c' ∧ T' = T ++ R ∧ p ≤ q ∧ nu c' to q < nu c to p ∧ Bg A Z T' z' (nu c' to q) q ∧ CuT T' e cu ∧ cu.t = t ∧ cu.w ≤ 3 ∧ cu.s < 64 ∧ f (3 * k + 1) = n2 cu.w ∧ f (3 * k + 2) = i2 (cseat cu) ∧ ∀ v, v ≠ 3 * k + 1 → v ≠ 3 * k + 2 → f v = h.newCues v) ∨ Bad B m A Z to b' n s rx rm
/-- the model: a cue's seat -/
def rcS (v1 : Int32) (hi : Int32) (st : Mem) : Option (Int32 × Mem) :=
  bd (iv st (some 106) [4] (fX4_takes (some 106) (0 : Int32) hi st)) fun x190 st =>
  if ¬ x190 = 0 then
    (gI st (some 106) 73).bind fun x199 =>
    (gI st (some 106) 64).bind fun x204 =>
    if x204 = (2 : Int32) then
      (gI st (some 106) 67).bind fun x220 =>
      bd (iv st (some 106) [4] (fX4_isSeatAt (some 106) x199 x220 st)) fun x223 st =>
      if ¬ x223 = 0 then
        (gA st (some 106) 63).bind fun x236 =>
        (gA st (some 106) 61).bind fun x243 =>
        (aI st x243 (1 : Int32)).bind fun x247 =>
        (gI st (some 106) 67).bind fun x251 =>
        (uI st x236 (v1 + (2 : Int32)) ((x247 * x199) + x251)).bind fun st =>
        bd (iv st (some 106) [4] (fX4_next (some 106) st)) fun _ st =>
        some ((1 : Int32), st)
      else
        bd (iv st (some 106) [4] (fX4_bad (some 106) (2 : Int32) st)) fun x231 st =>
        some ((nz x231), st)
    else
      bd (iv st (some 106) [4] (fX4_bad (some 106) (1 : Int32) st)) fun x213 st =>
      some ((nz x213), st)
  else
    some ((0 : Int32), st)
/-- a cue for a seat: w = 0 pay, 1 hiss, 2 free -/
theorem D_cue80 (S : RsR B c T (m.sRH r h) tp to most p) (g : Bg A Z T z (nu c to p) p) (h13 : c.t = 13) (a148 : c.a 148 = some hs) (O : HsO B hs H) (ok : H.Ok) (hH : MHouse m.s H) (hk : k < 30) {w : Nat} (hw : w < 3) (f1 : h.newCues (3 * k + 1) = n2 w) :
    CueR B c T m h tp to most p A Z b' n s k t (bX17_cue_80 (some (mNx B)) (n2 t) (b2i (decide (w = 0))) (b2i (decide (w = 1))) (ovs B (c :: T) z)) (rcS (n2 (3 * k)) (n2 H.rows - 1) (mkM b' n s (m.sRH r h))) := by
  have hB : 64 ≤ mNx B := by have := S.R.hB; omega
  have nz0 : nz (0 : Int32) = 0 := by decide
  have r8 := ok.rows
  have c8 := ok.cols
  have h64 := ok.size
  have IV13 : ∀ {α : Type} {c : Cl} {T : List Cl} {z : Nat} (o : Option α), c.t = 13 → iv (ovs B (c :: T) z) (some (mNx B)) [13, 5] o = o := fun o ht => rd_iv (by rw [ht]; rfl) rfl
  have G8 : ∀ {c : Cl} {T : List Cl} {z : Nat}, c.t = 13 → c.a 148 = some hs → gA (ovs B (c :: T) z) (some (mNx B)) 148 = some (some hs) := fun h1 h2 => (rd13_gA h1 (by decide)).trans (congrArg some h2)
  rcases D_number (b' := b') (n := n) (s := s) (lo := 0) (hi := n2 H.rows - 1) S g with ⟨v, c1, T1, z1, r1, p1, R1, x1, m1, S1, Kp1, T1e, le1, nu1, g1, hgot, hlo, hhi⟩ | hb
  · rw [sRH_sR] at m1 S1
    obtain ⟨i, rfl, hi31⟩ := n2_of hlo
    have hm1 : n2 H.rows - (1 : Int32) = i2 ((H.rows : Int) - 1) := i2_sub (H.rows : Int) 1
    have ir : i < H.rows := by
      rw [hm1, ni_le hi31 (by omega) (by omega)] at hhi; omega
    have t131 : c1.t = 13 := Kp1.1.trans h13
    have a1481 : c1.a 148 = some hs := (Kp1.2.2.2.2 148 (by decide)).trans a148
    have g1' : Bg A Z T1 z1 (nu c1 to p1) p1 := g1.add (by omega) (by omega)
    have hc1 : n2 H.cols - (1 : Int32) = i2 ((H.cols : Int) - 1) := i2_sub (H.cols : Int) 1
    -- HouseClaps up to the second number
    have X0 : bX17_cue_80 (some (mNx B)) (n2 t) (b2i (decide (w = 0))) (b2i (decide (w = 1))) (ovs B (c :: T) z) = bt (fX5_hold (some (mNx B)) (0 : Int32) (n2 H.cols - 1) (ovs B (c1 :: T1) z1)) fun x107 st => (gA st (some (mNx B)) 148).bind fun x114 => (gA st (some (mNx B)) 148).bind fun x118 => (gI st x118 29).bind fun x121 => bd (iv st x114 [2] (fX2_isSeat x114 ((x121 * n2 i) + x107) st)) fun x130 st => bt (iv st (some (mNx B)) [13] (fX5_need (some (mNx B)) x130 (2 : Int32) st)) fun _ st => bd (iv st (some (mNx B)) [13] (fX5_go (some (mNx B)) st)) fun _ st => (gA st (some (mNx B)) 148).bind fun x142 => (gI st x142 29).bind fun x145 => (some ((x145 * n2 i) + x107)).bind fun y154 => if b2i (decide (w = 0)) = 0 then if b2i (decide (w = 1)) = 0 then bd (nO st 15) fun x190 st => bd (nn x190 (fX20_init x190 (n2 t) y154 st)) fun _ st => some (.inl x190, st) else bd (nO st 17) fun x177 st => bd (nn x177 (fX22_init x177 (n2 t) y154 st)) fun _ st => some (.inl x177, st) else bd (nO st 16) fun x160 st => bd (nn x160 (fX21_init x160 (n2 t) y154 st)) fun _ st => some (.inl x160, st) := by
      unfold bX17_cue_80
      rw [G8 h13 a148, Option.bind_some, O.i28, Option.bind_some, rd_iv13 h13, x1, bt_inl, G8 t131 a1481, Option.bind_some, O.i29, Option.bind_some, rd_iv13 t131]
    have M0 : rcS (n2 (3 * k)) (n2 H.rows - 1) (mkM b' n s (m.sRH r h)) = (if r1.token = (2 : Int32) then bd (fX4_isSeatAt (some 106) (n2 i) r1.number (mkM b' n s (m.sRH r1 h))) fun x223 st => if ¬ x223 = 0 then (gA st (some 106) 63).bind fun x236 => (gA st (some 106) 61).bind fun x243 => (aI st x243 (1 : Int32)).bind fun x247 => (gI st (some 106) 67).bind fun x251 => (uI st x236 (n2 (3 * k) + (2 : Int32)) ((x247 * n2 i) + x251)).bind fun st => bd (iv st (some 106) [4] (fX4_next (some 106) st)) fun _ st => some ((1 : Int32), st) else bd (iv st (some 106) [4] (fX4_bad (some 106) (2 : Int32) st)) fun x231 st => some ((nz x231), st) else some (0, mkM b' n s (m.sRH (r1.sF 1 r1.place) h))) := by
      unfold rcS
      rw [ivM, m1, bd_some, if_pos (by decide), g_got, Option.bind_some, hgot, g_tok, Option.bind_some]
      by_cases t2 : r1.token = 2
      · rw [if_pos t2, if_pos t2, g_num, Option.bind_some, ivM]
      · rw [if_neg t2, if_neg t2, ivM, M_badH, bd_some, nz0]
    rw [X0, M0]
    rcases D_hold (z := z1) S1 (0 : Int32) (n2 H.cols - 1) with ⟨t2, k3, k130, hr, hX⟩ | ⟨t2, hX⟩ | ⟨t2, k3, k130, hr, hX⟩
    · obtain ⟨j, hj1, hj2⟩ := S1.K.nb t2
      have t2' : r1.token = 2 := t2
      have hj2' : r1.number = n2 j := hj2
      have jc : j < H.cols := by
        have := hr.2
        rw [hj2, hc1, ni_le (by omega) (by omega) (by omega)] at this; omega
      have hX' : fX5_hold (some (mNx B)) 0 (n2 H.cols - 1) (ovs B (c1 :: T1) z1) = some (.inl (n2 j), ovs B (c1 :: T1) z1) := by rw [hX]; exact congrArg (fun y => some (Sum.inl y, ovs B (c1 :: T1) z1)) hj2
      have nv : ¬ (c1.i 128 = 1 ∨ c1.i 128 = 5) := by rw [k3]; decide
      have ij : H.cols * i + j < H.size := by
        show H.cols * i + j < H.rows * H.cols
        have : H.cols * (i + 1) ≤ H.cols * H.rows := Nat.mul_le_mul_left _ (by omega)
        rw [Nat.mul_add, Nat.mul_one, Nat.mul_comm H.cols H.rows] at this; omega
      have ix : n2 H.cols * n2 i + n2 j = n2 (H.cols * i + j) := by rw [n2_mul, n2_add]
      have sz : seatZ H ((H.cols * i + j : Nat) : Int) = decide (H.kind (H.cols * i + j) ≠ 0) := by
        unfold seatZ
        rw [decide_eq_true (show (0 : Int) ≤ ((H.cols * i + j : Nat) : Int) ∧ ((H.cols * i + j : Nat) : Int) < (H.size : Int) by omega), Int.toNat_natCast, Bool.true_and]
      have sa : seatAt H (i : Int) (j : Int) = decide (H.kind (H.cols * i + j) ≠ 0) := by
        unfold seatAt
        rw [decide_eq_true (show (0 : Int) ≤ (i : Int) ∧ (i : Int) < (H.rows : Int) by omega), decide_eq_true (show (0 : Int) ≤ (j : Int) ∧ (j : Int) < (H.cols : Int) by omega), Int.toNat_natCast, Int.toNat_natCast, Bool.true_and, Bool.true_and]
      have MS1 : fX4_isSeatAt (some 106) (n2 i) (n2 j) (mkM b' n s (m.sRH r1 h)) = some (b2i (seatAt H (i : Int) (j : Int)), mkM b' n s (m.sRH r1 h)) := M_isSeatAt (m := m.sRH r1 h) (r := (i : Int)) (c := (j : Int)) hH ok (by omega) (by omega)
      have OS := O.seat (c1 :: T1) z1 (H.cols * i + j) (by omega)
      rw [sz] at OS
      rw [sa] at MS1
      rw [hX', bt_inl, G8 t131 a1481, Option.bind_some, Option.bind_some, O.i29, Option.bind_some, O.iv_, ix, OS, bd_some, rd_iv13 t131, t2', if_pos rfl, hj2', MS1, bd_some]
      by_cases hkd : H.kind (H.cols * i + j) = 0
      · rw [decide_eq_false (fun q => q hkd), show b2i false = (0 : Int32) from rfl, X_need0' S1.R 2, bt_inr, if_neg (show ¬ ¬ (0 : Int32) = 0 from fun q => q rfl), ivM, M_badH, bd_some, nz0]
        exact Or.inr (D_badH S1 g1' 2 (Or.inr nv))
      · rw [decide_eq_true hkd, show b2i true = (1 : Int32) from rfl, X_need1', bt_inl, rd_iv13 t131, if_pos (by decide), gM_63, Option.bind_some, gM_61, Option.bind_some]
        have r1c : aI (mkM b' n s (m.sRH r1 h)) (some 108) (1 : Int32) = some (n2 H.cols) := (rd_s' (k := 1) (by decide)).trans (congrArg some hH.cols)
        have iy : n2 (3 * k) + (2 : Int32) = n2 (3 * k + 2) := n2_add _ 2
        rw [r1c, Option.bind_some, g_num, Option.bind_some, hj2', ix, iy, u_nc (by omega), Option.bind_some, ivM]
        obtain ⟨c2, T2, z2, r2, p2, R2, x2, m2, S2, Kp2, Kr2, T2e, le2, nu2, g2⟩ := goG (b' := b') (n := n) (s := s) (S1.hh (h.sNc (upq h.newCues (3 * k + 2) (n2 (H.cols * i + j))))) g1' (by rw [k3]; decide)
        have t132 : c2.t = 13 := Kp2.1.trans t131
        have a1482 : c2.a 148 = some hs := (Kp2.2.2.2.2 148 (by decide)).trans a1481
        rw [x2, bd_some, m2, bd_some, G8 t132 a1482, Option.bind_some, O.i29, Option.bind_some, ix, Option.bind_some, X_mk15 hB, X_mk16 hB, X_mk17 hB]
        have fin : ∀ tg, tg = (if w = 3 then 14 else if w = 2 then 15 else if w = 0 then 16 else 17) → CueR B c T m h tp to most p A Z b' n s k t (some (.inl (some (mNx B + (1 + T2.length))), ovs B (c2 :: (T2 ++ [cuC tg (n2 t) (n2 (H.cols * i + j))])) (z2 + 2))) (some (1, mkM b' n s (m.sRH r2 (h.sNc (upq h.newCues (3 * k + 2) (n2 (H.cols * i + j))))))) := by
          intro tg htg
          have at_ : clD (T2 ++ [cuC tg (n2 t) (n2 (H.cols * i + j))]) T2.length = cuC tg (n2 t) (n2 (H.cols * i + j)) := clD_last _ _
          have len : (T2 ++ [cuC tg (n2 t) (n2 (H.cols * i + j))]).length = T2.length + 1 := by rw [List.length_append]; rfl
          refine Or.inl ⟨T2.length, c2, _, _, r2, _, p2, R1 ++ R2 ++ [cuC tg (n2 t) (n2 (H.cols * i + j))], Cu.mk t w (H.cols * i + j), rfl, rfl, S2.ch (Chg.app _ _), Kp1.trans Kp2, by rw [T2e, T1e]; simp, by omega, by omega, g2.add (by omega) (by omega), ⟨by omega, ?_, ?_, fun _ => ?_⟩, rfl, by show w ≤ 3; omega, by show H.cols * i + j < 64; omega, ?_, ?_, fun v h1 h2 => ?_⟩
          · rw [at_]; exact htg
          · rw [at_]
            exact cuC_0 _ _ _
          · rw [at_]
            exact cuC_1 _ _ _
          · rw [upq_ne _ _ (by omega)]; exact f1
          · rw [upq_self]
            show n2 (H.cols * i + j) = i2 (cseat (Cu.mk t w (H.cols * i + j)))
            unfold cseat
            rw [if_neg (show ¬ (Cu.mk t w (H.cols * i + j)).w = 3 by show ¬ w = 3; omega)]; rfl
          · exact upq_ne _ _ h2
        rcases (show w = 0 ∨ w = 1 ∨ w = 2 by omega) with rfl | rfl | rfl
        · rw [if_neg (by decide)]; exact fin 16 rfl
        · rw [if_pos (by decide), if_neg (by decide)]; exact fin 17 rfl
        · rw [if_pos (by decide), if_pos (by decide)]; exact fin 15 rfl
    · have t2' : ¬ r1.token = 2 := t2
      rw [hX, bt_inr, if_neg t2']
      exact Or.inr (D_badH S1 g1' 1 (Or.inl rfl))
    · obtain ⟨j, hj1, hj2⟩ := S1.K.nb t2
      have t2' : r1.token = 2 := t2
      have hj2' : r1.number = n2 j := hj2
      have nv : ¬ (c1.i 128 = 1 ∨ c1.i 128 = 5) := by rw [k3]; decide
      have jc : ¬ j < H.cols := fun q => hr ⟨by rw [hj2]; exact n2_pos (by omega), by rw [hj2, hc1, ni_le (by omega) (by omega) (by omega)]; omega⟩
      have NS : fX4_isSeatAt (some 106) (n2 i) (n2 j) (mkM b' n s (m.sRH r1 h)) = some (0, mkM b' n s (m.sRH r1 h)) := M_noSeat (m := m.sRH r1 h) hH ok ir (by omega) hj1
      rw [hX, bt_inr, t2', if_pos rfl, hj2', NS, bd_some, if_neg (show ¬ ¬ (0 : Int32) = 0 from fun q => q rfl), ivM, M_badH, bd_some, nz0]
      exact Or.inr (D_badH S1 g1' 2 (Or.inr nv))
  · refine Or.inr ?_
    obtain ⟨e, c', T', z', r', h', y1, y2, y3⟩ := hb.sRH
    refine ⟨e, c', T', z', r', h', ?_, ?_, y3⟩
    · unfold bX17_cue_80
      rw [G8 h13 a148, Option.bind_some, O.i28, Option.bind_some, rd_iv13 h13, y1, bt_inr]
    · unfold rcS
      rw [ivM, y2, bd_some, if_neg (fun q => q rfl)]
theorem D_cue (S : RsR B c T (m.sRH r h) tp to most p) (g : Bg A Z T z (nu c to p) p) (h13 : c.t = 13) (a148 : c.a 148 = some hs) (O : HsO B hs H) (ok : H.Ok) (hH : MHouse m.s H) (hk : k < 30) :
    CueR B c T m h tp to most p A Z b' n s k t (fX17_cue (some (mNx B)) (n2 t) (ovs B (c :: T) z)) (rcW (some 106) (n2 (3 * k)) (mkM b' n s (m.sRH r h))) := by
  have hB : 64 ≤ mNx B := by have := S.R.hB; omega
  have nz0 : nz (0 : Int32) = 0 := by decide
  have w1 := X_w1 (z := z) S
  have w2 := X_w2 (z := z) S
  have w3 := X_w3 (z := z) S
  have w4 := X_w4 (z := z) S
  rw [sRH_r] at w1 w2 w3 w4
  have i1 : n2 (3 * k) + (1 : Int32) = n2 (3 * k + 1) := n2_add _ 1
  have i2' : n2 (3 * k) + (2 : Int32) = n2 (3 * k + 2) := n2_add _ 2
  have r0 : ∀ q : MS, MHouse q.s H → aI (mkM b' n s q) (some 108) (0 : Int32) = some (n2 H.rows) := fun q hq => (rd_s' (k := 0) (by decide)).trans (congrArg some hq.rows)
  -- with a word: pay, hiss, free, still
  have mid : ∀ (w : Nat) (W : Int64), w < 4 → wd r W = true → fX17_cue (some (mNx B)) (n2 t) (ovs B (c :: T) z) = bX17_cue_50 (some (mNx B)) (n2 t) (b2i (decide (w = 0))) (b2i (decide (w = 1))) (b2i (decide (w = 2))) (some (mNx B)) 1 (ovs B (c :: T) z) → rcW (some 106) (n2 (3 * k)) (mkM b' n s (m.sRH r h)) = bX4_readCue_140 (some 106) (n2 (3 * k)) (n2 w) (mkM b' n s (m.sRH r h)) → CueR B c T m h tp to most p A Z b' n s k t (fX17_cue (some (mNx B)) (n2 t) (ovs B (c :: T) z)) (rcW (some 106) (n2 (3 * k)) (mkM b' n s (m.sRH r h))) := by
    intro w W hw hW eX eM
    have kd : c.i 128 = 2 := wd_kind (w := W) S hW
    obtain ⟨f, hf⟩ : ∃ f, f = upq (upq h.newCues (3 * k + 1) (n2 w)) (3 * k + 2) (-1) := ⟨_, rfl⟩
    obtain ⟨c1, T1, z1, r1, p1, R1, x1, m1, S1, Kp1, Kr1, T1e, le1, nu1, g1⟩ := goG (b' := b') (n := n) (s := s) (S.hh (h.sNc f)) g (by rw [kd]; decide)
    have t131 : c1.t = 13 := Kp1.1.trans h13
    have a1481 : c1.a 148 = some hs := (Kp1.2.2.2.2 148 (by decide)).trans a148
    have ge : ((0 : Int32) ≤ n2 w) = True := eq_true (n2_pos (by omega))
    have u1 := u_nc (b' := b') (n := n) (s := s) (m := m) (r := r) (h := h) (k := 3 * k + 1) (v := n2 w) (by omega)
    have u2 : uI (mkM b' n s (m.sRH r (h.sNc (upq h.newCues (3 * k + 1) (n2 w))))) (some 110) (n2 (3 * k + 2)) (-1 : Int32) = some (mkM b' n s (m.sRH r (h.sNc f))) := by rw [u_nc (by omega), hf]; rfl
    have q3 : (n2 w = (3 : Int32)) = (w = 3) := by rw [li_3, n2_eq (by omega) (by omega)]
    rw [eX, eM]
    by_cases h3 : w = 3
    · -- still
      have X5 : bX17_cue_50 (some (mNx B)) (n2 t) (b2i (decide (w = 0))) (b2i (decide (w = 1))) (b2i (decide (w = 2))) (some (mNx B)) 1 (ovs B (c :: T) z) = some (.inl (some (mNx B + (1 + T1.length))), ovs B (c1 :: (T1 ++ [cu0 (n2 t)])) (z1 + 1)) := by
        unfold bX17_cue_50
        subst h3
        simp -implicitDefEqProofs only [Option.bind_some, bd_some, b2i_0, Bool.true_eq_false, Bool.false_eq_true, eq_self, if_true, if_false, not_true_eq_false, not_false_eq_true, rd_iv13 h13, X_need1', bt_inl, x1, show decide ((3 : Nat) = 0) = false from rfl, show decide ((3 : Nat) = 1) = false from rfl, show decide ((3 : Nat) = 2) = false from rfl]
        exact X_mk14 hB
      have M5 : bX4_readCue_140 (some 106) (n2 (3 * k)) (n2 w) (mkM b' n s (m.sRH r h)) = some (1, mkM b' n s (m.sRH r1 (h.sNc f))) := by
        unfold bX4_readCue_140
        simp -implicitDefEqProofs only [Option.bind_some, bd_some, b2i_0, Bool.true_eq_false, Bool.false_eq_true, eq_self, if_true, if_false, not_true_eq_false, not_false_eq_true, ge, gM_63, i1, u1, i2', u2, ivM, m1, q3, eq_true h3]
      rw [X5, M5]
      have at_ : clD (T1 ++ [cu0 (n2 t)]) T1.length = cu0 (n2 t) := clD_last _ _
      have len : (T1 ++ [cu0 (n2 t)]).length = T1.length + 1 := by rw [List.length_append]; rfl
      refine Or.inl ⟨T1.length, c1, _, _, r1, _, p1, R1 ++ [cu0 (n2 t)], Cu.mk t 3 0, rfl, rfl, S1.ch (Chg.app _ _), Kp1, by rw [T1e]; simp, by omega, by omega, g1.add (by omega) (by omega), ⟨by omega, ?_, ?_, fun q => absurd rfl q⟩, rfl, Nat.le_refl 3, by show (0 : Nat) < 64; decide, ?_, ?_, fun v h1 h2 => ?_⟩
      · rw [at_]; rfl
      · rw [at_]
        exact cu0_0 _
      · rw [hf, upq_ne _ _ (by omega), upq_self, h3]; rfl
      · rw [hf, upq_self]; rfl
      · rw [hf, upq_ne _ _ h2, upq_ne _ _ h1]
    · have X5 : bX17_cue_50 (some (mNx B)) (n2 t) (b2i (decide (w = 0))) (b2i (decide (w = 1))) (b2i (decide (w = 2))) (some (mNx B)) 1 (ovs B (c :: T) z) = bX17_cue_80 (some (mNx B)) (n2 t) (b2i (decide (w = 0))) (b2i (decide (w = 1))) (ovs B (c1 :: T1) z1) := by
        unfold bX17_cue_50
        rcases (show w = 0 ∨ w = 1 ∨ w = 2 by omega) with rfl | rfl | rfl
        · simp -implicitDefEqProofs only [Option.bind_some, bd_some, b2i_0, Bool.true_eq_false, Bool.false_eq_true, eq_self, if_true, if_false, not_true_eq_false, not_false_eq_true, rd_iv13 h13, X_need1', bt_inl, x1, decide_true]
        · simp -implicitDefEqProofs only [Option.bind_some, bd_some, b2i_0, Bool.true_eq_false, Bool.false_eq_true, eq_self, if_true, if_false, not_true_eq_false, not_false_eq_true, rd_iv13 h13, X_need1', bt_inl, x1, decide_true, show decide ((1 : Nat) = 0) = false from rfl]
        · simp -implicitDefEqProofs only [Option.bind_some, bd_some, b2i_0, Bool.true_eq_false, Bool.false_eq_true, eq_self, if_true, if_false, not_true_eq_false, not_false_eq_true, rd_iv13 h13, X_need1', bt_inl, x1, decide_true, show decide ((2 : Nat) = 0) = false from rfl, show decide ((2 : Nat) = 1) = false from rfl]
      have hs1 : (m.sRH r1 (h.sNc f)).s = m.s := rfl
      have M5 : bX4_readCue_140 (some 106) (n2 (3 * k)) (n2 w) (mkM b' n s (m.sRH r h)) = rcS (n2 (3 * k)) (n2 H.rows - 1) (mkM b' n s (m.sRH r1 (h.sNc f))) := by
        unfold bX4_readCue_140 rcS
        simp -implicitDefEqProofs only [Option.bind_some, bd_some, b2i_0, Bool.true_eq_false, Bool.false_eq_true, eq_self, if_true, if_false, not_true_eq_false, not_false_eq_true, ge, gM_63, i1, u1, i2', u2, ivM, m1, q3, h3, gM_61, r0 (m.sRH r1 (h.sNc f)) hH]
      rw [X5, M5]
      rcases D_cue80 (b' := b') (n := n) (s := s) (z := z1) (t := t) S1 (g1.add (by omega) (by omega)) t131 a1481 O ok hH hk (show w < 3 by omega) (show f (3 * k + 1) = n2 w by rw [hf, upq_ne _ _ (by omega), upq_self]) with ⟨e, c2, T2, z2, r2, f2, p2, R2, cu, y1, y2, y3, y4, y5, y6, y7, y8, y9, y10, y11, y12, y13, y14, y15⟩ | hb
      · refine Or.inl ⟨e, c2, T2, z2, r2, f2, p2, R1 ++ R2, cu, y1, y2, y3, Kp1.trans y4, by rw [y5, T1e]; simp, by omega, by omega, y8, y9, y10, y11, y12, y13, y14, fun v h1 h2 => ?_⟩
        have q := y15 v h1 h2
        rw [q]
        show f v = _
        rw [hf, upq_ne _ _ h2, upq_ne _ _ h1]
      · exact Or.inr hb
  rcases Bool.eq_false_or_eq_true (wd r 7364985) with o1 | o1
  · have o2 : wd r 1751741299 = false := by rw [wd_eq o1]; decide
    have o3 : wd r 1718773093 = false := by rw [wd_eq o1]; decide
    refine mid 0 7364985 (by decide) o1 ?_ ?_
    · unfold fX17_cue bX17_cue_45
      simp -implicitDefEqProofs only [Option.bind_some, bd_some, b2i_0, Bool.true_eq_false, Bool.false_eq_true, eq_self, if_true, if_false, not_true_eq_false, not_false_eq_true, rd_iv13 h13, w1, o1, w2, o2, w3, o3]; rfl
    · unfold rcW
      simp -implicitDefEqProofs only [Option.bind_some, bd_some, b2i_0, Bool.true_eq_false, Bool.false_eq_true, eq_self, if_true, if_false, not_true_eq_false, not_false_eq_true, ivM, M_wdq, o1]; rfl
  · rcases Bool.eq_false_or_eq_true (wd r 1751741299) with o2 | o2
    · have o3 : wd r 1718773093 = false := by rw [wd_eq o2]; decide
      refine mid 1 1751741299 (by decide) o2 ?_ ?_
      · unfold fX17_cue bX17_cue_45
        simp -implicitDefEqProofs only [Option.bind_some, bd_some, b2i_0, Bool.true_eq_false, Bool.false_eq_true, eq_self, if_true, if_false, not_true_eq_false, not_false_eq_true, rd_iv13 h13, w1, o1, w2, o2, w3, o3]; rfl
      · unfold rcW
        simp -implicitDefEqProofs only [Option.bind_some, bd_some, b2i_0, Bool.true_eq_false, Bool.false_eq_true, eq_self, if_true, if_false, not_true_eq_false, not_false_eq_true, ivM, M_wdq, o1, o2]; rfl
    · rcases Bool.eq_false_or_eq_true (wd r 1718773093) with o3 | o3
      · refine mid 2 1718773093 (by decide) o3 ?_ ?_
        · unfold fX17_cue bX17_cue_45
          simp -implicitDefEqProofs only [Option.bind_some, bd_some, b2i_0, Bool.true_eq_false, Bool.false_eq_true, eq_self, if_true, if_false, not_true_eq_false, not_false_eq_true, rd_iv13 h13, w1, o1, w2, o2, w3, o3]; rfl
        · unfold rcW
          simp -implicitDefEqProofs only [Option.bind_some, bd_some, b2i_0, Bool.true_eq_false, Bool.false_eq_true, eq_self, if_true, if_false, not_true_eq_false, not_false_eq_true, ivM, M_wdq, o1, o2, o3]; rfl
      · rcases Bool.eq_false_or_eq_true (wd r 495874305132) with o4 | o4
        · refine mid 3 495874305132 (by decide) o4 ?_ ?_
          · unfold fX17_cue bX17_cue_45
            simp -implicitDefEqProofs only [Option.bind_some, bd_some, b2i_0, Bool.true_eq_false, Bool.false_eq_true, eq_self, if_true, if_false, not_true_eq_false, not_false_eq_true, rd_iv13 h13, w1, o1, w2, o2, w3, o3, w4, o4]; rfl
          · unfold rcW
            simp -implicitDefEqProofs only [Option.bind_some, bd_some, b2i_0, Bool.true_eq_false, Bool.false_eq_true, eq_self, if_true, if_false, not_true_eq_false, not_false_eq_true, ivM, M_wdq, o1, o2, o3, o4]; rfl
        · refine Or.inr ((D_badH (α := Rf) (b' := b') (n := n) (s := s) S g 1 (Or.inl rfl)).eq ?_ ?_)
          · unfold fX17_cue bX17_cue_50
            simp -implicitDefEqProofs only [Option.bind_some, bd_some, b2i_0, Bool.true_eq_false, Bool.false_eq_true, eq_self, if_true, if_false, not_true_eq_false, not_false_eq_true, rd_iv13 h13, w1, o1, w2, o2, w3, o3, w4, o4, X_need0' S.R 1, bt_inr]
          · unfold rcW bX4_readCue_140
            simp -implicitDefEqProofs only [Option.bind_some, bd_some, b2i_0, Bool.true_eq_false, Bool.false_eq_true, eq_self, if_true, if_false, not_true_eq_false, not_false_eq_true, ivM, M_wdq, o1, o2, o3, o4, show ((0 : Int32) ≤ (-1 : Int32)) = False from eq_false (by decide), M_badH, nz0]
end CueD
