set_option linter.unusedVariables false
set_option linter.unusedSimpArgs false
set_option maxRecDepth 100000
/-! ===== commands: drawn ===== -/
theorem ush8 (z : Int32) : ∃ w, w < 16777216 ∧ ushrI z 8 = n2 w := by
  refine ⟨z.toUInt32.toNat / 256, ?_, ?_⟩
  · have := z.toUInt32.toNat_lt; omega
  · unfold ushrI
    refine Int32.toBitVec.inj (BitVec.eq_of_toNat_eq ?_)
    show (z.toUInt32 >>> ((8 : Int32).toUInt32 &&& Int32.toUInt32 31)).toBitVec.toNat = (BitVec.ofNat 32 (z.toUInt32.toNat / 256)).toNat
    have e8 : (8 : Int32).toUInt32 &&& Int32.toUInt32 31 = 8 := by decide
    rw [e8, UInt32.toBitVec_shiftRight, BitVec.toNat_ofNat]
    have := z.toUInt32.toNat_lt
    rw [Nat.mod_eq_of_lt (show z.toUInt32.toNat / 256 < 2 ^ 32 by omega)]
    show (z.toUInt32.toBitVec >>> ((8 : UInt32).toBitVec % 32)).toNat = _
    rw [show ((8 : UInt32).toBitVec % 32 : BitVec 32) = 8#32 from by decide, BitVec.ushiftRight_eq', BitVec.toNat_ushiftRight, Nat.shiftRight_eq_div_pow]
    rfl
def freeB (H : HS) (had : Int64) (v : Nat) : Bool := isS H v && !tb had v
def frS (H : HS) (had : Int64) : Nat → Nat → Nat
  | 0, _ => 0
  | k + 1, v => (if freeB H had v = true then 1 else 0) + frS H had k (v + 1)
theorem frS_set {H : HS} {had : Int64} {u : Nat} (hu : freeB H had u = true) (h64 : H.size ≤ 64) : ∀ k v, frS H had k v = frS H (had ||| bitS u) k v + (if v ≤ u ∧ u < v + k then 1 else 0)
  | 0, v => by simp -implicitDefEqProofs only [frS]; rw [if_neg (by omega)]
  | k + 1, v => by
    have ih := frS_set hu h64 k (v + 1)
    have u64 : u < 64 := by
      unfold freeB at hu; simp -implicitDefEqProofs only [Bool.and_eq_true] at hu
      have := (isS_lt hu.1).1; omega
    simp -implicitDefEqProofs only [frS]
    have fb : freeB H (had ||| bitS u) v = (freeB H had v && !decide (v = u)) := by
      unfold freeB; rw [tb_or, tb_bitS u64]
      cases isS H v <;> cases tb had v <;> cases decide (v = u) <;> rfl
    rw [fb, ih]
    by_cases e : v = u
    · subst e
      rw [hu]
      simp -implicitDefEqProofs only [decide_true, Bool.not_true, Bool.and_false, Bool.false_eq_true, if_false, if_true]
      rw [if_neg (by omega), if_pos (by omega)]; omega
    · simp -implicitDefEqProofs only [e, decide_false, Bool.not_false, Bool.and_true]
      by_cases h1 : v + 1 ≤ u ∧ u < v + 1 + k
      · rw [if_pos h1, if_pos (show v ≤ u ∧ u < v + (k + 1) by omega)]; omega
      · rw [if_neg h1, if_neg (show ¬ (v ≤ u ∧ u < v + (k + 1)) by omega)]; omega
theorem frS_0 (H : HS) : frS H 0 H.size 0 = H.seats := by
  have key : ∀ k v, v + k = H.size → frS H 0 k v + ((List.range v).filter fun u => decide (H.kind u ≠ 0)).length = H.seats := by
    intro k
    induction k with
    | zero =>
      intro v hv
      have e : v = H.size := by omega
      subst e
      simp -implicitDefEqProofs only [frS, Nat.zero_add]; rfl
    | succ k ih =>
      intro v hv
      have := ih (v + 1) (by omega)
      rw [List.range_succ, List.filter_append, List.length_append] at this
      simp -implicitDefEqProofs only [frS]
      have fb : freeB H 0 v = decide (H.kind v ≠ 0) := by
        unfold freeB isS; rw [tb_zero, decide_eq_true (show v < H.size by omega)]; simp
      rw [fb]
      by_cases hk : H.kind v = 0
      · simp [hk] at this ⊢; omega
      · simp [hk] at this ⊢; omega
  have := key H.size 0 (by omega)
  simpa using this
def XS.pd (x : XS) (q : Int64) (v : Int32) : XS := (XS.mk (x.taped) (x.fault) (x.bought) (x.worthMany) (x.beganFirst) (x.beganSecond) (v) (x.arranged) (q) (x.hiss) (x.orders) (x.house) (x.cues) (x.tape) (x.states) (x.asked) (x.carriesSet) (x.heights) (x.worth) (x.mouths) (x.sided) (x.keptHouse) (x.keptPaid) (x.keptHiss) (x.kMod) (x.kData) (x.kSize) (x.out) (x.n0) (x.n1))
def MS.sd (m : MS) (v : Int32) : MS := (MS.mk (m.thrown) (m.length) (m.seatsPaid) (m.seatsHiss) (m.lays) (m.arranged) (m.tape) (m.s) (m.area) (m.kept) (m.keptPaid) (m.keptHiss) (m.isKept) (m.r) (m.h) (m.n) ((MC.mk (m.c.askedMany) (m.c.bought) (m.c.worthMany) (m.c.allOrders) (m.c.hasSides) (m.c.seenClaps) (m.c.seenStand) (m.c.seenAll) (m.c.beganA) (m.c.beganB) (v) (m.c.asked) (m.c.carried) (m.c.heights) (m.c.worths) (m.c.side) (m.c.otherClaps) (m.c.otherStand))))
def MS.sp (m : MS) (q : Int64) : MS := (MS.mk (m.thrown) (m.length) (q) (m.seatsHiss) (m.lays) (m.arranged) (m.tape) (m.s) (m.area) (m.kept) (m.keptPaid) (m.keptHiss) (m.isKept) (m.r) (m.h) (m.n) (m.c))
section Drawn
variable {b b' : Mem} {n s : Nat} {x : XS} {m : MS} {H : HS} {C : List Cu} {h c : Nat} {K : Nat → Option (HS × List Cu)} {had : Int64} {sd : Int32}
theorem pd_house : (x.pd had sd).house = x.house := rfl
theorem pd_paid : (x.pd had sd).paid = had := rfl
theorem pd_seed : (x.pd had sd).seed = sd := rfl
theorem pd_pX5 (hb : 131 ≤ mNx b) {v : Int64} : pJ (mkX b (x.pd had sd)) (some 64) 5 v = some (mkX b (x.pd v sd)) := by
  rw [pX_5 hb]; simp -implicitDefEqProofs only [XS.pd, mk_XS_taped, mk_XS_fault, mk_XS_bought, mk_XS_worthMany, mk_XS_beganFirst, mk_XS_beganSecond, mk_XS_seed, mk_XS_arranged, mk_XS_paid, mk_XS_hiss, mk_XS_orders, mk_XS_house, mk_XS_cues, mk_XS_tape, mk_XS_states, mk_XS_asked, mk_XS_carriesSet, mk_XS_heights, mk_XS_worth, mk_XS_mouths, mk_XS_sided, mk_XS_keptHouse, mk_XS_keptPaid, mk_XS_keptHiss, mk_XS_kMod, mk_XS_kData, mk_XS_kSize, mk_XS_out, mk_XS_n0, mk_XS_n1]
theorem pd_pX22 (hb : 131 ≤ mNx b) {v : Int32} : pI (mkX b (x.pd had sd)) (some 64) 22 v = some (mkX b (x.pd had v)) := by
  rw [pX_22 hb]; simp -implicitDefEqProofs only [XS.pd, mk_XS_taped, mk_XS_fault, mk_XS_bought, mk_XS_worthMany, mk_XS_beganFirst, mk_XS_beganSecond, mk_XS_seed, mk_XS_arranged, mk_XS_paid, mk_XS_hiss, mk_XS_orders, mk_XS_house, mk_XS_cues, mk_XS_tape, mk_XS_states, mk_XS_asked, mk_XS_carriesSet, mk_XS_heights, mk_XS_worth, mk_XS_mouths, mk_XS_sided, mk_XS_keptHouse, mk_XS_keptPaid, mk_XS_keptHiss, mk_XS_kMod, mk_XS_kData, mk_XS_kSize, mk_XS_out, mk_XS_n0, mk_XS_n1]
theorem sd_pM {v : Int32} : pI (mkM b' n s (m.sd sd)) (some 106) 119 v = some (mkM b' n s (m.sd v)) := by
  rw [pM_119]; simp -implicitDefEqProofs only [gM_55, gM_57, gM_58, gM_59, gM_60, gM_64, gM_65, gM_66, gM_67, gM_68, gM_69, gM_70, gM_71, gM_72, gM_73, gM_74, gM_75, gM_76, gM_77, gM_81, gM_82, gM_83, gM_85, gM_86, gM_91, gM_92, gM_93, gM_94, gM_95, gM_96, gM_97, gM_98, gM_99, gM_100, gM_102, gM_103, gM_107, gM_108, gM_110, gM_111, gM_112, gM_113, gM_114, gM_115, gM_118, gM_119, gM_56, aM_107, nM_107, gM_61, aM_108, nM_108, gM_62, aM_109, nM_109, gM_63, aM_110, nM_110, gM_78, aM_111, nM_111, gM_79, aM_112, nM_112, gM_80, aM_113, nM_113, gM_84, aM_114, nM_114, gM_87, aM_115, nM_115, gM_88, aM_116, nM_116, gM_89, aM_117, nM_117, gM_90, aM_118, nM_118, gM_101, aM_119, nM_119, gM_104, aM_120, nM_120, gM_105, aM_121, nM_121, gM_106, aM_122, nM_122, gM_109, aM_123, nM_123, gM_116, aM_124, nM_124, gM_117, aM_125, nM_125, gM_120, aM_126, nM_126, gM_121, aM_127, nM_127, gM_122, aM_128, nM_128, gM_123, aM_129, nM_129, pM_55, pM_57, pM_58, pM_59, pM_60, pM_64, pM_65, pM_66, pM_67, pM_68, pM_69, pM_70, pM_71, pM_72, pM_73, pM_74, pM_75, pM_76, pM_77, pM_81, pM_82, pM_83, pM_85, pM_86, pM_91, pM_92, pM_93, pM_94, pM_95, pM_96, pM_97, pM_98, pM_99, pM_100, pM_102, pM_103, pM_107, pM_108, pM_110, pM_111, pM_112, pM_113, pM_114, pM_115, pM_118, pM_119, uM_107, uM_108, uM_109, uM_110, uM_111, uM_112, uM_113, uM_114, uM_115, uM_116, uM_117, uM_118, uM_119, uM_120, uM_121, uM_122, uM_123, uM_124, uM_125, uM_126, uM_127, uM_128, uM_129, ivM, Option.bind_some, bd_some, mk_MS_thrown, mk_MS_length, mk_MS_seatsPaid, mk_MS_seatsHiss, mk_MS_lays, mk_MS_arranged, mk_MS_tape, mk_MS_s, mk_MS_area, mk_MS_kept, mk_MS_keptPaid, mk_MS_keptHiss, mk_MS_isKept, mk_MS_r, mk_MS_h, mk_MS_n, mk_MS_c, mk_MR_size, mk_MR_p, mk_MR_limit, mk_MR_token, mk_MR_place, mk_MR_span, mk_MR_number, mk_MR_fault, mk_MR_faultAt, mk_MR_word, mk_MR_got, mk_MH_lines, mk_MH_prices, mk_MH_leavings, mk_MH_onces, mk_MH_codeMany, mk_MH_pileMany, mk_MH_ones, mk_MH_coming, mk_MH_hh, mk_MH_newCues, mk_MH_code, mk_MH_pile, mk_MN_paidNow, mk_MN_hissNow, mk_MN_clapping, mk_MN_standing, mk_MN_low, mk_MN_high, mk_MN_gone, mk_MN_cueNext, mk_MN_nightHeight, mk_MN_nightCarries, mk_MN_held, mk_MN_claps, mk_MN_stand, mk_MN_heldLow, mk_MN_heldHigh, mk_MC_askedMany, mk_MC_bought, mk_MC_worthMany, mk_MC_allOrders, mk_MC_hasSides, mk_MC_seenClaps, mk_MC_seenStand, mk_MC_seenAll, mk_MC_beganA, mk_MC_beganB, mk_MC_seed, mk_MC_asked, mk_MC_carried, mk_MC_heights, mk_MC_worths, mk_MC_side, mk_MC_otherClaps, mk_MC_otherStand, mk_NT_paid, mk_NT_hiss, mk_NT_c1, mk_NT_c2, mk_NT_lo, mk_NT_hi, mk_NT_next, mk_Ac_a1, mk_Ac_a2, mk_Ac_l, mk_Ac_h, MS.sd]
theorem sd_seed : (m.sd sd).c.seed = sd := rfl
theorem sd_s : (m.sd sd).s = m.s := rfl
theorem L_dr48 {kk : Rf → Int32 → Int32 → Int32 → Mem → Option (Int32 × Mem)} {kk' : Rf → Int32 → Int64 → Int32 → Mem → Option (Int32 × Mem)} {q lf i i' : Int32} (hb : 131 ≤ mNx b) (X : XHouse b h H) (ok : H.Ok) (xh : x.house = some h) (hH : MHouse m.s H) :
    ∀ (k f f' v d : Nat), v + k = H.size → k < f → k < f' → d < frS H had k v →
    ∃ u, u < H.size ∧ freeB H had u = true ∧ bX1_drawn_48 kk f (some 64) q lf i (n2 d) (n2 v) (mkX b (x.pd had sd)) = kk (some 64) q (lf + (-1)) (i + 1) (mkX b (x.pd (had ||| bitS u) sd)) ∧ bX4_drawn_55 kk' f' (some 106) q had i' (n2 d) (n2 v) (mkM b' n s (m.sd sd)) = kk' (some 106) q (had ||| bitS u) (i' + 1) (mkM b' n s (m.sd sd)) := by
  have h64 := ok.size
  have hH' : MHouse (m.sd sd).s H := hH
  intro k
  induction k with
  | zero => intro f f' v d hv hf hf' hd; simp -implicitDefEqProofs only [frS] at hd; omega
  | succ k ih =>
    intro f f' v d hv hf hf' hd
    obtain ⟨f, rfl⟩ : ∃ g, f = g + 1 := ⟨f - 1, by omega⟩
    obtain ⟨f', rfl⟩ : ∃ g, f' = g + 1 := ⟨f' - 1, by omega⟩
    have hfl := (show frS H had (k + 1) v ≤ k + 1 from by
      have : ∀ k v, frS H had k v ≤ k := by
        intro k
        induction k with
        | zero => intro v; exact Nat.le_refl _
        | succ k ih => intro v; simp -implicitDefEqProofs only [frS]; have := ih (v + 1); split <;> omega
      exact this (k + 1) v)
    have v64 : v < 64 := by omega
    have hx : (x.pd had sd).house = some h := xh
    have ev : n2 v + 1 = n2 (v + 1) := n2_add v 1
    have d0 : (n2 d ≤ (0 : Int32)) = (d = 0) := le0 (by omega)
    simp -implicitDefEqProofs only [frS] at hd
    have sI := X_isSeatI (x := x.pd had sd) X ok (n2 v)
    have sM := M_isSeatI (b := b') (n := n) (s := s) hH' ok (n2 v)
    rw [isS_seatI (by omega)] at sI sM
    show ∃ u, _ ∧ _ ∧ bX1_drawn_48B kk (bX1_drawn_48 kk f) _ _ _ _ _ _ _ = _ ∧ bX4_drawn_55B kk' (bX4_drawn_55 kk' f') _ _ _ _ _ _ _ = _
    unfold bX1_drawn_48B bX4_drawn_55B bX1_drawn_77 bX4_drawn_78 bX1_drawn_104 bX4_drawn_102 bX4_drawn_103 
    simp -implicitDefEqProofs only [Option.bind_some, bd_some, b2i_0, Bool.true_eq_false, Bool.false_eq_true, eq_self, if_true, if_false, not_true_eq_false, not_false_eq_true, gX_4 hb, hx, xh_iv X, sI, ivM, sM, gX_5 hb, pd_paid, X_has had v64, M_holds had v64, d0, ev, pd_pX5 hb, Int32.sub_zero]
    by_cases hf0 : freeB H had v = true
    · have hfx := hf0
      unfold freeB at hfx
      simp -implicitDefEqProofs only [Bool.and_eq_true, Bool.not_eq_true'] at hfx
      rw [if_pos hf0] at hd
      by_cases hd0 : d = 0
      · refine ⟨v, by omega, hf0, ?_, ?_⟩
        · simp -implicitDefEqProofs only [Option.bind_some, bd_some, b2i_0, Bool.true_eq_false, Bool.false_eq_true, eq_self, if_true, if_false, not_true_eq_false, not_false_eq_true, hfx.1, hfx.2, hd0]; rfl
        · simp -implicitDefEqProofs only [Option.bind_some, bd_some, b2i_0, Bool.true_eq_false, Bool.false_eq_true, eq_self, if_true, if_false, not_true_eq_false, not_false_eq_true, hfx.1, hfx.2, hd0]; rfl
      · obtain ⟨u, u1, u2, u3, u4⟩ := ih f f' (v + 1) (d - 1) (by omega) (by omega) (by omega) (by omega)
        have em : n2 d + (-1 : Int32) = n2 (d - 1) := by rw [li_m1, ni_add, i2_n2 (by omega)]; congr 1; omega
        have em2 : n2 d - (1 : Int32) = n2 (d - 1) := by rw [li_1, n2_sub (by omega)]
        refine ⟨u, u1, u2, Eq.trans ?_ u3, Eq.trans ?_ u4⟩
        · simp -implicitDefEqProofs only [Option.bind_some, bd_some, b2i_0, Bool.true_eq_false, Bool.false_eq_true, eq_self, if_true, if_false, not_true_eq_false, not_false_eq_true, hfx.1, hfx.2, hd0, em]
        · simp -implicitDefEqProofs only [Option.bind_some, bd_some, b2i_0, Bool.true_eq_false, Bool.false_eq_true, eq_self, if_true, if_false, not_true_eq_false, not_false_eq_true, hfx.1, hfx.2, hd0, em2]
    · rw [if_neg hf0] at hd
      obtain ⟨u, u1, u2, u3, u4⟩ := ih f f' (v + 1) d (by omega) (by omega) (by omega) (by omega)
      refine ⟨u, u1, u2, Eq.trans ?_ u3, Eq.trans ?_ u4⟩
      · rcases Bool.eq_false_or_eq_true (isS H v) with e1 | e1
        · rcases Bool.eq_false_or_eq_true (tb had v) with e2 | e2
          · simp -implicitDefEqProofs only [Option.bind_some, bd_some, b2i_0, Bool.true_eq_false, Bool.false_eq_true, eq_self, if_true, if_false, not_true_eq_false, not_false_eq_true, e1, e2]
          · exact absurd (show freeB H had v = true by unfold freeB; rw [e1, e2]; rfl) hf0
        · simp -implicitDefEqProofs only [Option.bind_some, bd_some, b2i_0, Bool.true_eq_false, Bool.false_eq_true, eq_self, if_true, if_false, not_true_eq_false, not_false_eq_true, e1]
      · rcases Bool.eq_false_or_eq_true (isS H v) with e1 | e1
        · rcases Bool.eq_false_or_eq_true (tb had v) with e2 | e2
          · simp -implicitDefEqProofs only [Option.bind_some, bd_some, b2i_0, Bool.true_eq_false, Bool.false_eq_true, eq_self, if_true, if_false, not_true_eq_false, not_false_eq_true, e1, e2]
          · exact absurd (show freeB H had v = true by unfold freeB; rw [e1, e2]; rfl) hf0
        · simp -implicitDefEqProofs only [Option.bind_some, bd_some, b2i_0, Bool.true_eq_false, Bool.false_eq_true, eq_self, if_true, if_false, not_true_eq_false, not_false_eq_true, e1]
theorem L_dr32 {q : Nat} (hb : 131 ≤ mNx b) (X : XHouse b h H) (ok : H.Ok) (xh : x.house = some h) (hH : MHouse m.s H) (hq : q ≤ H.seats) : ∀ (k f f' i : Nat) (had : Int64) (sd : Int32), i + k = q → k < f → k < f' → frS H had H.size 0 = H.seats - i →
    ∃ had' sd', bX1_drawn_32 f (some 64) (n2 q) (n2 (H.seats - i)) (n2 i) (mkX b (x.pd had sd)) = some (1, mkX b (x.pd had' sd')) ∧ bX4_drawn_31 f' (some 106) (n2 q) had (n2 i) (mkM b' n s (m.sd sd)) = some (1, mkM b' n s ((m.sd sd').sp had')) := by
  have h64 := ok.size
  have hsl := seats_le H
  intro k
  induction k with
  | zero =>
    intro f f' i had sd hi hf hf' hfr
    obtain ⟨f, rfl⟩ : ∃ g, f = g + 1 := ⟨f - 1, by omega⟩
    obtain ⟨f', rfl⟩ : ∃ g, f' = g + 1 := ⟨f' - 1, by omega⟩
    have e : i = q := by omega
    subst e
    refine ⟨had, sd, ?_, ?_⟩
    · show bX1_drawn_32B _ _ _ _ _ _ = _
      unfold bX1_drawn_32B
      rw [if_pos (Int32.le_refl _)]
    · show bX4_drawn_31B _ _ _ _ _ _ = _
      unfold bX4_drawn_31B
      rw [if_pos (Int32.le_refl _), pM_71, Option.bind_some]; unfold MS.sp; rfl
  | succ k ih =>
    intro f f' i had sd hi hf hf' hfr
    obtain ⟨f, rfl⟩ : ∃ g, f = g + 1 := ⟨f - 1, by omega⟩
    obtain ⟨f', rfl⟩ : ∃ g, f' = g + 1 := ⟨f' - 1, by omega⟩
    have hF : 300 < hcFuel := by unfold hcFuel; omega
    have le : (n2 q ≤ n2 i) = False := by rw [n2_le (by omega) (by omega)]; exact eq_false (by omega)
    obtain ⟨w, w1, w2⟩ := ush8 (sd * 1103515245 + 12345)
    have rm : rmI (n2 w) (n2 (H.seats - i)) = some (n2 (w % (H.seats - i))) := n2_rm (by omega) (by omega) (by omega)
    have ml := Nat.mod_lt w (show 0 < H.seats - i by omega)
    have r2 : aI (mkM b' n s (m.sd sd)) (some 108) (2 : Int32) = some (n2 H.seats) := (rd_s' (k := 2) (by decide)).trans (congrArg some hH.seats)
    have es : n2 H.seats - n2 i = n2 (H.seats - i) := n2_sub (by omega)
    have em : n2 (H.seats - i) + (-1 : Int32) = n2 (H.seats - (i + 1)) := by rw [li_m1, ni_add, i2_n2 (by omega)]; congr 1; omega
    have dX : fX1_draw (some 64) (n2 (H.seats - i)) (mkX b (x.pd had sd)) = some (n2 (w % (H.seats - i)), mkX b (x.pd had (sd * 1103515245 + 12345))) := by
      unfold fX1_draw
      simp -implicitDefEqProofs only [Option.bind_some, bd_some, b2i_0, Bool.true_eq_false, Bool.false_eq_true, eq_self, if_true, if_false, not_true_eq_false, not_false_eq_true, gX_22 hb, pd_seed, pd_pX22 hb, w2, rm]
    have dM : fX4_draw (some 106) (n2 (H.seats - i)) (mkM b' n s (m.sd sd)) = some (n2 (w % (H.seats - i)), mkM b' n s (m.sd (sd * 1103515245 + 12345))) := by
      unfold fX4_draw
      simp -implicitDefEqProofs only [Option.bind_some, bd_some, b2i_0, Bool.true_eq_false, Bool.false_eq_true, eq_self, if_true, if_false, not_true_eq_false, not_false_eq_true, gM_119, sd_seed, sd_pM, w2, rm]
    show ∃ had' sd', bX1_drawn_32B (bX1_drawn_32 f) _ _ _ _ _ = _ ∧ bX4_drawn_31B (bX4_drawn_31 f') _ _ _ _ _ = _
    unfold bX1_drawn_32B bX4_drawn_31B
    generalize hcFuel = fu at hF ⊢
    obtain ⟨u, u1, u2, u3, u4⟩ := L_dr48 (b' := b') (n := n) (s := s) (kk := bX1_drawn_32 f) (kk' := bX4_drawn_31 f') (q := n2 q) (lf := n2 (H.seats - i)) (i := n2 i) (i' := n2 i) (had := had) (sd := sd * 1103515245 + 12345) hb X ok xh hH H.size fu fu 0 (w % (H.seats - i)) (by omega) (by omega) (by omega) (by omega)
    have st := frS_set u2 h64 H.size 0
    rw [if_pos (by omega)] at st
    obtain ⟨h2, s2, e1, e2⟩ := ih f f' (i + 1) (had ||| bitS u) (sd * 1103515245 + 12345) (by omega) (by omega) (by omega) (by omega)
    rw [em, show n2 i + 1 = n2 (i + 1) from n2_add i 1] at u3
    rw [show n2 i + 1 = n2 (i + 1) from n2_add i 1] at u4
    refine ⟨h2, s2, ?_, ?_⟩
    · simp -implicitDefEqProofs only [Option.bind_some, bd_some, b2i_0, Bool.true_eq_false, Bool.false_eq_true, eq_self, if_true, if_false, not_true_eq_false, not_false_eq_true, le, ivX hb, dX]
      exact u3.trans e1
    · simp -implicitDefEqProofs only [Option.bind_some, bd_some, b2i_0, Bool.true_eq_false, Bool.false_eq_true, eq_self, if_true, if_false, not_true_eq_false, not_false_eq_true, le, gM_61, r2, es, ivM, dM]
      exact u4.trans e2
theorem Duo.dr {q : Int64} {v : Int32} (R : Duo b x m H C h c K) : Duo b (x.pd q v) ((m.sd v).sp q) H C h c K := ⟨R.hb, R.fz, R.ok, R.ar, R.XH, R.xh, R.XC, R.xc, R.MH, R.MC, R.lays, R.l01, R.tape, R.len, R.fault, rfl, R.hiss, R.bought, R.worth, R.sided, R.b1, R.b2, R.arranged, R.kept, R.keptC⟩
theorem C_drawn (R : Duo b x m H C h c K) (a d : Int32) : ∃ r x' m', fX1_drawn (some 64) a d (mkX b x) = some (r, mkX b x') ∧ fX4_drawn (some 106) a d (mkM b' n s m) = some (r, mkM b' n s m') ∧ Duo b x' m' H C h c K := by
  have T := R.th (v := 0)
  have h64 := R.ok.size
  have hsl := seats_le H
  have hF : 300 < hcFuel := by unfold hcFuel; omega
  have r2 : aI (mkM b' n s (m.th 0)) (some 108) (2 : Int32) = some (n2 H.seats) := (rd_s' (k := 2) (by decide)).trans (congrArg some T.MH.seats)
  have p2 : ∀ g : Mem → Option (Int32 × Mem), ((pI (mkX b x) (some 64) 22 d).bind fun st => (pJ st (some 64) 5 (0 : Int64)).bind g) = g (mkX b (x.pd 0 d)) := fun g => by
    rw [pX_22 R.hb, Option.bind_some, pX_5 R.hb, Option.bind_some]; simp -implicitDefEqProofs only [XS.pd, mk_XS_taped, mk_XS_fault, mk_XS_bought, mk_XS_worthMany, mk_XS_beganFirst, mk_XS_beganSecond, mk_XS_seed, mk_XS_arranged, mk_XS_paid, mk_XS_hiss, mk_XS_orders, mk_XS_house, mk_XS_cues, mk_XS_tape, mk_XS_states, mk_XS_asked, mk_XS_carriesSet, mk_XS_heights, mk_XS_worth, mk_XS_mouths, mk_XS_sided, mk_XS_keptHouse, mk_XS_keptPaid, mk_XS_keptHiss, mk_XS_kMod, mk_XS_kData, mk_XS_kSize, mk_XS_out, mk_XS_n0, mk_XS_n1]
  have p3 : pI (mkM b' n s (m.th 0)) (some 106) 119 d = some (mkM b' n s ((m.th 0).sd d)) := by rw [pM_119]; unfold MS.sd; rfl
  unfold fX1_drawn fX4_drawn
  generalize hcFuel = fu at hF ⊢
  simp -implicitDefEqProofs only [Option.bind_some, bd_some, b2i_0, Bool.true_eq_false, Bool.false_eq_true, eq_self, if_true, if_false, not_true_eq_false, not_false_eq_true, pM_55', gX_4 R.hb, R.xh, xh_iv R.XH, X_seats R.XH R.ok, X_isIn, M_isIn, gM_61, r2, p2, p3]
  rcases (Bool.eq_false_or_eq_true (decide ((1 : Int32) ≤ a ∧ a ≤ n2 H.seats))).symm with e | e
  · simp -implicitDefEqProofs only [Option.bind_some, bd_some, b2i_0, Bool.true_eq_false, Bool.false_eq_true, eq_self, if_true, if_false, not_true_eq_false, not_false_eq_true, e]; exact ⟨_, _, _, rfl, rfl, T⟩
  · obtain ⟨q, q1, q2, rfl⟩ := in_true (l := 1) (u := H.seats) (by omega) (by decide) e
    obtain ⟨h2, s2, e1, e2⟩ := L_dr32 (b' := b') (n := n) (s := s) (x := x) (m := m.th 0) R.hb R.XH R.ok R.xh T.MH q2 q fu fu 0 0 d (by omega) (by omega) (by omega) (frS_0 H)
    simp -implicitDefEqProofs only [Option.bind_some, bd_some, b2i_0, Bool.true_eq_false, Bool.false_eq_true, eq_self, if_true, if_false, not_true_eq_false, not_false_eq_true, e]
    exact ⟨_, _, _, e1, e2, T.dr⟩
end Drawn
