set_option linter.unusedVariables false
set_option linter.unusedSimpArgs false
set_option maxRecDepth 100000
/-! ===== a moment, a night in HouseClapsModel ===== -/
def MS.aft (m : MS) (g : Nat → Int32) (N : NT) (t : Nat) : MS := (MS.mk (m.thrown) (m.length) (m.seatsPaid) (m.seatsHiss) (m.lays) (m.arranged) (m.tape) (m.s) (m.area) (m.kept) (m.keptPaid) (m.keptHiss) (m.isKept) (m.r) (m.h) ((MN.mk (N.paid) (N.hiss) (N.c1) (N.c2) (N.lo) (N.hi) (n2 (t + 1)) (n2 N.next) (m.n.nightHeight) (m.n.nightCarries) (g) (upq m.n.claps t N.c1) (upq m.n.stand t N.c2) (upq m.n.heldLow t N.lo) (upq m.n.heldHigh t N.hi))) (m.c))
/-- the model's night stands ahead of moment t -/
abbrev MNt (m : MS) (N : NT) (t : Nat) : Prop := (m.n.paidNow = N.paid) ∧ (m.n.hissNow = N.hiss) ∧ (m.n.clapping = N.c1) ∧ (m.n.standing = N.c2) ∧ (m.n.low = N.lo) ∧ (m.n.high = N.hi) ∧ (m.n.cueNext = n2 N.next) ∧ (m.n.gone = n2 t)
theorem MNt.paid {m : MS} {N : NT} {t : Nat} (self : MNt m N t) : m.n.paidNow = N.paid := self.1
theorem MNt.hiss {m : MS} {N : NT} {t : Nat} (self : MNt m N t) : m.n.hissNow = N.hiss := self.2.1
theorem MNt.c1 {m : MS} {N : NT} {t : Nat} (self : MNt m N t) : m.n.clapping = N.c1 := self.2.2.1
theorem MNt.c2 {m : MS} {N : NT} {t : Nat} (self : MNt m N t) : m.n.standing = N.c2 := self.2.2.2.1
theorem MNt.lo {m : MS} {N : NT} {t : Nat} (self : MNt m N t) : m.n.low = N.lo := self.2.2.2.2.1
theorem MNt.hi {m : MS} {N : NT} {t : Nat} (self : MNt m N t) : m.n.high = N.hi := self.2.2.2.2.2.1
theorem MNt.next {m : MS} {N : NT} {t : Nat} (self : MNt m N t) : m.n.cueNext = n2 N.next := self.2.2.2.2.2.2.1
theorem MNt.gone {m : MS} {N : NT} {t : Nat} (self : MNt m N t) : m.n.gone = n2 t := self.2.2.2.2.2.2.2
section MomentM
variable {b : Mem} {n s : Nat} {H : HS} {t : Nat} {P : Int64 × Int64 × Bool} {N : NT}
theorem M_row {kk202 : Rf → Int32 → Int32 → Int64 → Int64 → Int64 → Int64 → Int64 → Int64 → Int32 → Mem → Option (Unit × Mem)} {one two : Int64} {r : Nat} (ok : H.Ok) (ht : t ≤ 600) (hr : r < H.rows)
    (ho : one = vwS (rowM H r) N.c1 (seatRun H t P N (H.cols * r)).a1) (ho2 : two = vwS (rowM H r) N.c2 (seatRun H t P N (H.cols * r)).a2) : ∀ (k f v : Nat) (m : MS), v + k = H.cols * (r + 1) → H.cols * r ≤ v → k < f → MHouse m.s H → MArea m H → m.n.paidNow = P.1 → m.n.hissNow = P.2.1 → m.n.clapping = N.c1 → m.n.standing = N.c2 → m.n.low = N.lo → m.n.high = N.hi →
    ∃ hd one' two', bX4_moment_260 kk202 f (some 106) (n2 t) (b2i P.2.2) one two (seatRun H t P N v).a1 (seatRun H t P N v).a2 (seatRun H t P N v).l (seatRun H t P N v).h (n2 r) (b2i (isLeft H t r)) (n2 v) (mkM b n s m) =
      kk202 (some 106) (n2 t) (b2i P.2.2) one' two' (seatRun H t P N (H.cols * (r + 1))).a1 (seatRun H t P N (H.cols * (r + 1))).a2 (seatRun H t P N (H.cols * (r + 1))).l (seatRun H t P N (H.cols * (r + 1))).h (n2 (r + 1)) (mkM b n s (m.sHd hd)) ∧
      (r + 1 < H.rows → one' = vwS (rowM H (r + 1)) N.c1 (seatRun H t P N (H.cols * (r + 1))).a1 ∧ two' = vwS (rowM H (r + 1)) N.c2 (seatRun H t P N (H.cols * (r + 1))).a2) := by
  have h64 := ok.size
  have hc8 := ok.cols
  have hr8 := ok.rows
  have hm64 : H.cols * (r + 1) ≤ 64 := Nat.le_trans (Nat.mul_le_mul_left _ hr) (by rw [Nat.mul_comm]; exact h64)
  intro k
  induction k with
  | zero =>
    intro f v m hv hv' hf hH ha hp hh h1 h2 h3 h4
    obtain ⟨f, rfl⟩ : ∃ g, f = g + 1 := ⟨f - 1, by omega⟩
    have hv2 : v = H.cols * (r + 1) := by omega
    subst hv2
    have c1 : ifx 681 (1 : Int32) (m.s (1 : Int32).toNatClampNeg) = some (n2 H.cols) := by
      rw [show (1 : Int32) = n2 1 from rfl, ifx_n2 (by decide) (by decide), n2_nat (by decide), hH.cols]
    have c5 : ifx 681 (5 : Int32) (m.s (5 : Int32).toNatClampNeg) = some (b2i H.byRows) := by
      rw [show (5 : Int32) = n2 5 from rfl, ifx_n2 (by decide) (by decide), n2_nat (by decide), hH.byRows]
    have em : n2 H.cols * n2 (r + 1) = n2 (H.cols * (r + 1)) := n2_mul _ _
    have er : n2 r + 1 = n2 (r + 1) := n2_add r 1
    show ∃ hd one' two', bX4_moment_260B kk202 (bX4_moment_260 kk202 f) _ _ _ _ _ _ _ _ _ _ _ _ _ = _ ∧ _
    unfold bX4_moment_260B bX4_moment_548 bX4_moment_587
    simp -implicitDefEqProofs only [gM_55, gM_57, gM_58, gM_59, gM_60, gM_64, gM_65, gM_66, gM_67, gM_68, gM_69, gM_70, gM_71, gM_72, gM_73, gM_74, gM_75, gM_76, gM_77, gM_81, gM_82, gM_83, gM_85, gM_86, gM_91, gM_92, gM_93, gM_94, gM_95, gM_96, gM_97, gM_98, gM_99, gM_100, gM_102, gM_103, gM_107, gM_108, gM_110, gM_111, gM_112, gM_113, gM_114, gM_115, gM_118, gM_119, gM_56, aM_107, nM_107, gM_61, aM_108, nM_108, gM_62, aM_109, nM_109, gM_63, aM_110, nM_110, gM_78, aM_111, nM_111, gM_79, aM_112, nM_112, gM_80, aM_113, nM_113, gM_84, aM_114, nM_114, gM_87, aM_115, nM_115, gM_88, aM_116, nM_116, gM_89, aM_117, nM_117, gM_90, aM_118, nM_118, gM_101, aM_119, nM_119, gM_104, aM_120, nM_120, gM_105, aM_121, nM_121, gM_106, aM_122, nM_122, gM_109, aM_123, nM_123, gM_116, aM_124, nM_124, gM_117, aM_125, nM_125, gM_120, aM_126, nM_126, gM_121, aM_127, nM_127, gM_122, aM_128, nM_128, gM_123, aM_129, nM_129, pM_55, pM_57, pM_58, pM_59, pM_60, pM_64, pM_65, pM_66, pM_67, pM_68, pM_69, pM_70, pM_71, pM_72, pM_73, pM_74, pM_75, pM_76, pM_77, pM_81, pM_82, pM_83, pM_85, pM_86, pM_91, pM_92, pM_93, pM_94, pM_95, pM_96, pM_97, pM_98, pM_99, pM_100, pM_102, pM_103, pM_107, pM_108, pM_110, pM_111, pM_112, pM_113, pM_114, pM_115, pM_118, pM_119, uM_107, uM_108, uM_109, uM_110, uM_111, uM_112, uM_113, uM_114, uM_115, uM_116, uM_117, uM_118, uM_119, uM_120, uM_121, uM_122, uM_123, uM_124, uM_125, uM_126, uM_127, uM_128, uM_129, ivM, Option.bind_some, bd_some, mk_MS_thrown, mk_MS_length, mk_MS_seatsPaid, mk_MS_seatsHiss, mk_MS_lays, mk_MS_arranged, mk_MS_tape, mk_MS_s, mk_MS_area, mk_MS_kept, mk_MS_keptPaid, mk_MS_keptHiss, mk_MS_isKept, mk_MS_r, mk_MS_h, mk_MS_n, mk_MS_c, mk_MR_size, mk_MR_p, mk_MR_limit, mk_MR_token, mk_MR_place, mk_MR_span, mk_MR_number, mk_MR_fault, mk_MR_faultAt, mk_MR_word, mk_MR_got, mk_MH_lines, mk_MH_prices, mk_MH_leavings, mk_MH_onces, mk_MH_codeMany, mk_MH_pileMany, mk_MH_ones, mk_MH_coming, mk_MH_hh, mk_MH_newCues, mk_MH_code, mk_MH_pile, mk_MN_paidNow, mk_MN_hissNow, mk_MN_clapping, mk_MN_standing, mk_MN_low, mk_MN_high, mk_MN_gone, mk_MN_cueNext, mk_MN_nightHeight, mk_MN_nightCarries, mk_MN_held, mk_MN_claps, mk_MN_stand, mk_MN_heldLow, mk_MN_heldHigh, mk_MC_askedMany, mk_MC_bought, mk_MC_worthMany, mk_MC_allOrders, mk_MC_hasSides, mk_MC_seenClaps, mk_MC_seenStand, mk_MC_seenAll, mk_MC_beganA, mk_MC_beganB, mk_MC_seed, mk_MC_asked, mk_MC_carried, mk_MC_heights, mk_MC_worths, mk_MC_side, mk_MC_otherClaps, mk_MC_otherStand, mk_NT_paid, mk_NT_hiss, mk_NT_c1, mk_NT_c2, mk_NT_lo, mk_NT_hi, mk_NT_next, mk_Ac_a1, mk_Ac_a2, mk_Ac_l, mk_Ac_h, c1, c5, em, er, n2_le (a := H.cols * (r + 1)) (b := H.cols * (r + 1)) (by omega) (by omega), Nat.le_refl, if_true, h1, h2, b2i_0]
    cases hby : H.byRows
    · rw [if_neg (by decide)]
      refine ⟨m.n.held, one, two, rfl, fun hr2 => ?_⟩
      rw [ho, ho2]
      unfold rowM
      rw [hby, if_neg (by decide), if_neg (by decide), vwS_0, vwS_0, vwS_0, vwS_0]; exact ⟨rfl, rfl⟩
    · rw [if_pos (by decide)]
      have sw : ∀ k0 : Int64, ∀ c a : Int64, (a &&& k0) ||| (c &&& (k0 ^^^ (-1 : Int64))) = vwS k0 c a := fun k0 c a => Int64.or_comm _ _
      rw [sw, sw, sw, sw]
      by_cases e64 : H.cols * (r + 1) = 64
      · rw [if_neg (by rw [e64]; decide)]
        refine ⟨m.n.held, _, _, rfl, fun hr2 => ?_⟩
        exfalso
        have h2 : H.cols * (r + 2) ≤ 64 := Nat.le_trans (Nat.mul_le_mul_left _ hr2) (by rw [Nat.mul_comm]; exact h64)
        rw [show H.cols * (r + 2) = H.cols * (r + 1) + H.cols from Nat.mul_succ _ _] at h2
        have : H.cols = 0 := by omega
        rw [this] at e64; omega
      · rw [if_pos (show ¬ n2 (H.cols * (r + 1)) = 64 by rw [eql (k := 64) (by decide) (by omega)]; exact e64)]
        refine ⟨m.n.held, _, _, rfl, fun hr2 => ?_⟩
        unfold rowM
        rw [hby, if_pos rfl]
        exact ⟨rfl, rfl⟩
  | succ k ih =>
    intro f v m hv hv' hf hH ha hp hh h1 h2 h3 h4
    obtain ⟨f, rfl⟩ : ∃ g, f = g + 1 := ⟨f - 1, by omega⟩
    obtain ⟨hd, e⟩ := M_seat (b := b) (n := n) (s := s) (kk202 := kk202) (kk260 := bX4_moment_260 kk202 f) (one := one) (two := two) (A := seatRun H t P N v) hH ok ha hp hh h1 h2 h3 h4 ht hr (show v < H.cols * (r + 1) by omega) hv'
    have hrow : v / H.cols = r := by
      have : 0 < H.cols := by
        rcases Nat.eq_zero_or_pos H.cols with h | h
        · rw [h] at hv; omega
        · exact h
      refine Nat.div_eq_of_lt_le ?_ ?_
      · rw [Nat.mul_comm]; exact hv'
      · rw [Nat.mul_comm]; show v < H.cols * (r + 1); omega
    have hc64 : H.cols * r < 64 := by
      have : H.cols * (r + 1) = H.cols * r + H.cols := Nat.mul_succ _ _
      omega
    have es : seatSt H t P N one two (seatRun H t P N v) v = seatRun H t P N (v + 1) := by
      show _ = seatSt H t P N _ _ _ _
      have := vwS_row (H := H) (t := t) (P := P) (N := N) (r := r) (s := v) (by omega) hv' hc64
      rw [hrow, this.1, this.2, ho, ho2]
    rw [es] at e
    obtain ⟨hd', o', t', e', q⟩ := ih f (v + 1) (m.sHd hd) (by omega) (by omega) (by omega) hH ha hp hh h1 h2 h3 h4
    exact ⟨hd', o', t', e.trans e', q⟩
theorem M_rows (ok : H.Ok) (ht : t ≤ 600) : ∀ (k f r : Nat) (m : MS) (one two : Int64), r + k = H.rows → k < f → MHouse m.s H → MArea m H → m.n.paidNow = P.1 → m.n.hissNow = P.2.1 → m.n.clapping = N.c1 → m.n.standing = N.c2 → m.n.low = N.lo → m.n.high = N.hi → m.n.gone = n2 t →
    (r < H.rows → one = vwS (rowM H r) N.c1 (seatRun H t P N (H.cols * r)).a1 ∧ two = vwS (rowM H r) N.c2 (seatRun H t P N (H.cols * r)).a2) →
    ∃ hd, bX4_moment_202 f (some 106) (n2 t) (b2i P.2.2) one two (seatRun H t P N (H.cols * r)).a1 (seatRun H t P N (H.cols * r)).a2 (seatRun H t P N (H.cols * r)).l (seatRun H t P N (H.cols * r)).h (n2 r) (mkM b n s m) =
      some ((), mkM b n s (MS.mk (m.thrown) (m.length) (m.seatsPaid) (m.seatsHiss) (m.lays) (m.arranged) (m.tape) (m.s) (m.area) (m.kept) (m.keptPaid) (m.keptHiss) (m.isKept) (m.r) (m.h) ((MN.mk (m.n.paidNow) (m.n.hissNow) ((seatRun H t P N H.size).a1) ((seatRun H t P N H.size).a2) ((seatRun H t P N H.size).l) ((seatRun H t P N H.size).h) (n2 (t + 1)) (m.n.cueNext) (m.n.nightHeight) (m.n.nightCarries) (hd) (upq m.n.claps t (seatRun H t P N H.size).a1) (upq m.n.stand t (seatRun H t P N H.size).a2) (upq m.n.heldLow t (seatRun H t P N H.size).l) (upq m.n.heldHigh t (seatRun H t P N H.size).h))) (m.c))) := by
  have h64 := ok.size
  have hc8 := ok.cols
  have hr8 := ok.rows
  intro k
  induction k with
  | zero =>
    intro f r m one two hr hf hH ha hp hh h1 h2 h3 h4 hg _
    obtain ⟨f, rfl⟩ : ∃ g, f = g + 1 := ⟨f - 1, by omega⟩
    have hr2 : r = H.rows := by omega
    subst hr2
    rw [show H.cols * H.rows = H.size from Nat.mul_comm _ _]
    have c0 : ifx 681 (0 : Int32) (m.s (0 : Int32).toNatClampNeg) = some (n2 H.rows) := by
      rw [show (0 : Int32) = n2 0 from rfl, ifx_n2 (by decide) (by decide), n2_nat (by decide), hH.rows]
    have lt : t < 601 := by omega
    have et : (n2 t).toNatClampNeg = t := n2_nat (by omega)
    have eg : n2 t + (1 : Int32) = n2 (t + 1) := n2_add t 1
    refine ⟨m.n.held, ?_⟩
    show bX4_moment_202B (bX4_moment_202 f) _ _ _ _ _ _ _ _ _ _ _ = _
    unfold bX4_moment_202B
    simp -implicitDefEqProofs only [gM_55, gM_57, gM_58, gM_59, gM_60, gM_64, gM_65, gM_66, gM_67, gM_68, gM_69, gM_70, gM_71, gM_72, gM_73, gM_74, gM_75, gM_76, gM_77, gM_81, gM_82, gM_83, gM_85, gM_86, gM_91, gM_92, gM_93, gM_94, gM_95, gM_96, gM_97, gM_98, gM_99, gM_100, gM_102, gM_103, gM_107, gM_108, gM_110, gM_111, gM_112, gM_113, gM_114, gM_115, gM_118, gM_119, gM_56, aM_107, nM_107, gM_61, aM_108, nM_108, gM_62, aM_109, nM_109, gM_63, aM_110, nM_110, gM_78, aM_111, nM_111, gM_79, aM_112, nM_112, gM_80, aM_113, nM_113, gM_84, aM_114, nM_114, gM_87, aM_115, nM_115, gM_88, aM_116, nM_116, gM_89, aM_117, nM_117, gM_90, aM_118, nM_118, gM_101, aM_119, nM_119, gM_104, aM_120, nM_120, gM_105, aM_121, nM_121, gM_106, aM_122, nM_122, gM_109, aM_123, nM_123, gM_116, aM_124, nM_124, gM_117, aM_125, nM_125, gM_120, aM_126, nM_126, gM_121, aM_127, nM_127, gM_122, aM_128, nM_128, gM_123, aM_129, nM_129, pM_55, pM_57, pM_58, pM_59, pM_60, pM_64, pM_65, pM_66, pM_67, pM_68, pM_69, pM_70, pM_71, pM_72, pM_73, pM_74, pM_75, pM_76, pM_77, pM_81, pM_82, pM_83, pM_85, pM_86, pM_91, pM_92, pM_93, pM_94, pM_95, pM_96, pM_97, pM_98, pM_99, pM_100, pM_102, pM_103, pM_107, pM_108, pM_110, pM_111, pM_112, pM_113, pM_114, pM_115, pM_118, pM_119, uM_107, uM_108, uM_109, uM_110, uM_111, uM_112, uM_113, uM_114, uM_115, uM_116, uM_117, uM_118, uM_119, uM_120, uM_121, uM_122, uM_123, uM_124, uM_125, uM_126, uM_127, uM_128, uM_129, ivM, Option.bind_some, bd_some, mk_MS_thrown, mk_MS_length, mk_MS_seatsPaid, mk_MS_seatsHiss, mk_MS_lays, mk_MS_arranged, mk_MS_tape, mk_MS_s, mk_MS_area, mk_MS_kept, mk_MS_keptPaid, mk_MS_keptHiss, mk_MS_isKept, mk_MS_r, mk_MS_h, mk_MS_n, mk_MS_c, mk_MR_size, mk_MR_p, mk_MR_limit, mk_MR_token, mk_MR_place, mk_MR_span, mk_MR_number, mk_MR_fault, mk_MR_faultAt, mk_MR_word, mk_MR_got, mk_MH_lines, mk_MH_prices, mk_MH_leavings, mk_MH_onces, mk_MH_codeMany, mk_MH_pileMany, mk_MH_ones, mk_MH_coming, mk_MH_hh, mk_MH_newCues, mk_MH_code, mk_MH_pile, mk_MN_paidNow, mk_MN_hissNow, mk_MN_clapping, mk_MN_standing, mk_MN_low, mk_MN_high, mk_MN_gone, mk_MN_cueNext, mk_MN_nightHeight, mk_MN_nightCarries, mk_MN_held, mk_MN_claps, mk_MN_stand, mk_MN_heldLow, mk_MN_heldHigh, mk_MC_askedMany, mk_MC_bought, mk_MC_worthMany, mk_MC_allOrders, mk_MC_hasSides, mk_MC_seenClaps, mk_MC_seenStand, mk_MC_seenAll, mk_MC_beganA, mk_MC_beganB, mk_MC_seed, mk_MC_asked, mk_MC_carried, mk_MC_heights, mk_MC_worths, mk_MC_side, mk_MC_otherClaps, mk_MC_otherStand, mk_NT_paid, mk_NT_hiss, mk_NT_c1, mk_NT_c2, mk_NT_lo, mk_NT_hi, mk_NT_next, mk_Ac_a1, mk_Ac_a2, mk_Ac_l, mk_Ac_h, c0, n2_le (a := H.rows) (b := H.rows) (by omega) (by omega), Nat.le_refl, if_true, ifx_n2 lt (show 601 ≤ 100000 by decide), et, hg, eg]
  | succ k ih =>
    intro f r m one two hr hf hH ha hp hh h1 h2 h3 h4 hg ho
    obtain ⟨f, rfl⟩ : ∃ g, f = g + 1 := ⟨f - 1, by omega⟩
    obtain ⟨o1, o2⟩ := ho (by omega)
    obtain ⟨hd, one', two', e, q⟩ := M_row (b := b) (n := n) (s := s) (kk202 := bX4_moment_202 f) (one := one) (two := two) (N := N) ok ht (show r < H.rows by omega) o1 o2 H.cols 100000 (H.cols * r) m (by rw [Nat.mul_succ]) (Nat.le_refl _) (by omega) hH ha hp hh h1 h2 h3 h4
    obtain ⟨hd', e'⟩ := ih f (r + 1) (m.sHd hd) one' two' (by omega) (by omega) hH ha hp hh h1 h2 h3 h4 hg q
    refine ⟨hd', Eq.trans ?_ (e.trans e')⟩
    have c0 : ifx 681 (0 : Int32) (m.s (0 : Int32).toNatClampNeg) = some (n2 H.rows) := by
      rw [show (0 : Int32) = n2 0 from rfl, ifx_n2 (by decide) (by decide), n2_nat (by decide), hH.rows]
    have c1 : ifx 681 (1 : Int32) (m.s (1 : Int32).toNatClampNeg) = some (n2 H.cols) := by
      rw [show (1 : Int32) = n2 1 from rfl, ifx_n2 (by decide) (by decide), n2_nat (by decide), hH.cols]
    have e78 : (78 : Int32) + n2 r = n2 (78 + r) := n2_add 78 r
    have l78 : 78 + r < 681 := by omega
    have t78 : (n2 (78 + r)).toNatClampNeg = 78 + r := n2_nat (by omega)
    have hlv := ok.leaves r
    show bX4_moment_202B (bX4_moment_202 f) _ _ _ _ _ _ _ _ _ _ _ = _
    unfold bX4_moment_202B bX4_moment_246 bX4_moment_247
    simp -implicitDefEqProofs only [gM_55, gM_57, gM_58, gM_59, gM_60, gM_64, gM_65, gM_66, gM_67, gM_68, gM_69, gM_70, gM_71, gM_72, gM_73, gM_74, gM_75, gM_76, gM_77, gM_81, gM_82, gM_83, gM_85, gM_86, gM_91, gM_92, gM_93, gM_94, gM_95, gM_96, gM_97, gM_98, gM_99, gM_100, gM_102, gM_103, gM_107, gM_108, gM_110, gM_111, gM_112, gM_113, gM_114, gM_115, gM_118, gM_119, gM_56, aM_107, nM_107, gM_61, aM_108, nM_108, gM_62, aM_109, nM_109, gM_63, aM_110, nM_110, gM_78, aM_111, nM_111, gM_79, aM_112, nM_112, gM_80, aM_113, nM_113, gM_84, aM_114, nM_114, gM_87, aM_115, nM_115, gM_88, aM_116, nM_116, gM_89, aM_117, nM_117, gM_90, aM_118, nM_118, gM_101, aM_119, nM_119, gM_104, aM_120, nM_120, gM_105, aM_121, nM_121, gM_106, aM_122, nM_122, gM_109, aM_123, nM_123, gM_116, aM_124, nM_124, gM_117, aM_125, nM_125, gM_120, aM_126, nM_126, gM_121, aM_127, nM_127, gM_122, aM_128, nM_128, gM_123, aM_129, nM_129, pM_55, pM_57, pM_58, pM_59, pM_60, pM_64, pM_65, pM_66, pM_67, pM_68, pM_69, pM_70, pM_71, pM_72, pM_73, pM_74, pM_75, pM_76, pM_77, pM_81, pM_82, pM_83, pM_85, pM_86, pM_91, pM_92, pM_93, pM_94, pM_95, pM_96, pM_97, pM_98, pM_99, pM_100, pM_102, pM_103, pM_107, pM_108, pM_110, pM_111, pM_112, pM_113, pM_114, pM_115, pM_118, pM_119, uM_107, uM_108, uM_109, uM_110, uM_111, uM_112, uM_113, uM_114, uM_115, uM_116, uM_117, uM_118, uM_119, uM_120, uM_121, uM_122, uM_123, uM_124, uM_125, uM_126, uM_127, uM_128, uM_129, ivM, Option.bind_some, bd_some, mk_MS_thrown, mk_MS_length, mk_MS_seatsPaid, mk_MS_seatsHiss, mk_MS_lays, mk_MS_arranged, mk_MS_tape, mk_MS_s, mk_MS_area, mk_MS_kept, mk_MS_keptPaid, mk_MS_keptHiss, mk_MS_isKept, mk_MS_r, mk_MS_h, mk_MS_n, mk_MS_c, mk_MR_size, mk_MR_p, mk_MR_limit, mk_MR_token, mk_MR_place, mk_MR_span, mk_MR_number, mk_MR_fault, mk_MR_faultAt, mk_MR_word, mk_MR_got, mk_MH_lines, mk_MH_prices, mk_MH_leavings, mk_MH_onces, mk_MH_codeMany, mk_MH_pileMany, mk_MH_ones, mk_MH_coming, mk_MH_hh, mk_MH_newCues, mk_MH_code, mk_MH_pile, mk_MN_paidNow, mk_MN_hissNow, mk_MN_clapping, mk_MN_standing, mk_MN_low, mk_MN_high, mk_MN_gone, mk_MN_cueNext, mk_MN_nightHeight, mk_MN_nightCarries, mk_MN_held, mk_MN_claps, mk_MN_stand, mk_MN_heldLow, mk_MN_heldHigh, mk_MC_askedMany, mk_MC_bought, mk_MC_worthMany, mk_MC_allOrders, mk_MC_hasSides, mk_MC_seenClaps, mk_MC_seenStand, mk_MC_seenAll, mk_MC_beganA, mk_MC_beganB, mk_MC_seed, mk_MC_asked, mk_MC_carried, mk_MC_heights, mk_MC_worths, mk_MC_side, mk_MC_otherClaps, mk_MC_otherStand, mk_NT_paid, mk_NT_hiss, mk_NT_c1, mk_NT_c2, mk_NT_lo, mk_NT_hi, mk_NT_next, mk_Ac_a1, mk_Ac_a2, mk_Ac_l, mk_Ac_h, c0, c1, n2_le (a := H.rows) (b := r) (by omega) (by omega), show ¬ H.rows ≤ r from by omega, if_false, e78, ifx_n2 l78 (show 681 ≤ 100000 by decide), t78, hH.leaves r (by omega), n2_mul, lel (k := 0) (a := H.leaves r) (by decide) (by omega)]
    have key : ∀ p : Bool, isLeft H t r = p → bX4_moment_260 (bX4_moment_202 f) hcFuel (some 106) (n2 t) (b2i P.2.2) one two (seatRun H t P N (H.cols * r)).a1 (seatRun H t P N (H.cols * r)).a2 (seatRun H t P N (H.cols * r)).l (seatRun H t P N (H.cols * r)).h (n2 r) (b2i p) (n2 (H.cols * r)) (mkM b n s m) = bX4_moment_260 (bX4_moment_202 f) 100000 (some 106) (n2 t) (b2i P.2.2) one two (seatRun H t P N (H.cols * r)).a1 (seatRun H t P N (H.cols * r)).a2 (seatRun H t P N (H.cols * r)).l (seatRun H t P N (H.cols * r)).h (n2 r) (b2i (isLeft H t r)) (n2 (H.cols * r)) (mkM b n s m) := fun p hp => by rw [hp]; rfl
    by_cases hz : H.leaves r ≤ 0
    · rw [if_pos hz]
      exact key false (by unfold isLeft; simp; omega)
    · rw [if_neg hz, show (1 : Int32) = n2 1 from rfl, n2_sub (by omega)]
      by_cases hz2 : t < H.leaves r - 1
      · rw [if_pos (show n2 t < n2 (H.leaves r - 1) by rw [n2_lt (by omega) (by omega)]; exact hz2)]
        exact key false (by unfold isLeft; simp; omega)
      · rw [if_neg (show ¬ n2 t < n2 (H.leaves r - 1) by rw [n2_lt (by omega) (by omega)]; exact hz2)]
        exact key true (by unfold isLeft; simp; omega)
/-- the cues of a moment -/
theorem M_cues {C : List Cu} (ht : t ≤ 600) : ∀ (k f i : Nat) (m : MS) (Q : Int64 × Int64 × Bool), i + k = C.length → k < f → MCues m.s C → m.n.paidNow = Q.1 → m.n.hissNow = Q.2.1 → m.n.cueNext = n2 i →
    bX4_moment_7 f (some 106) (n2 t) (b2i Q.2.2) (mkM b n s m) = bX4_moment_176 (some 106) (n2 t) (b2i (cueRun t (C.drop i) Q).2.2.2) (mkM b n s (MS.mk (m.thrown) (m.length) (m.seatsPaid) (m.seatsHiss) (m.lays) (m.arranged) (m.tape) (m.s) (m.area) (m.kept) (m.keptPaid) (m.keptHiss) (m.isKept) (m.r) (m.h) ((MN.mk ((cueRun t (C.drop i) Q).2.1) ((cueRun t (C.drop i) Q).2.2.1) (m.n.clapping) (m.n.standing) (m.n.low) (m.n.high) (m.n.gone) (n2 (i + (cueRun t (C.drop i) Q).1)) (m.n.nightHeight) (m.n.nightCarries) (m.n.held) (m.n.claps) (m.n.stand) (m.n.heldLow) (m.n.heldHigh))) (m.c))) := by
  intro k
  induction k with
  | zero =>
    intro f i m Q hi hf hC hp hh hn
    obtain ⟨f, rfl⟩ : ∃ g, f = g + 1 := ⟨f - 1, by omega⟩
    have hi2 : i = C.length := by omega
    have h30 := hC.len
    have c : ifx 681 (590 : Int32) (m.s (590 : Int32).toNatClampNeg) = some (n2 C.length) := by
      rw [show (590 : Int32) = n2 590 from rfl, ifx_n2 (by decide) (by decide), n2_nat (by decide), hC.many]
    show bX4_moment_7B _ _ _ _ _ = _
    unfold bX4_moment_7B
    simp -implicitDefEqProofs only [gM_55, gM_57, gM_58, gM_59, gM_60, gM_64, gM_65, gM_66, gM_67, gM_68, gM_69, gM_70, gM_71, gM_72, gM_73, gM_74, gM_75, gM_76, gM_77, gM_81, gM_82, gM_83, gM_85, gM_86, gM_91, gM_92, gM_93, gM_94, gM_95, gM_96, gM_97, gM_98, gM_99, gM_100, gM_102, gM_103, gM_107, gM_108, gM_110, gM_111, gM_112, gM_113, gM_114, gM_115, gM_118, gM_119, gM_56, aM_107, nM_107, gM_61, aM_108, nM_108, gM_62, aM_109, nM_109, gM_63, aM_110, nM_110, gM_78, aM_111, nM_111, gM_79, aM_112, nM_112, gM_80, aM_113, nM_113, gM_84, aM_114, nM_114, gM_87, aM_115, nM_115, gM_88, aM_116, nM_116, gM_89, aM_117, nM_117, gM_90, aM_118, nM_118, gM_101, aM_119, nM_119, gM_104, aM_120, nM_120, gM_105, aM_121, nM_121, gM_106, aM_122, nM_122, gM_109, aM_123, nM_123, gM_116, aM_124, nM_124, gM_117, aM_125, nM_125, gM_120, aM_126, nM_126, gM_121, aM_127, nM_127, gM_122, aM_128, nM_128, gM_123, aM_129, nM_129, pM_55, pM_57, pM_58, pM_59, pM_60, pM_64, pM_65, pM_66, pM_67, pM_68, pM_69, pM_70, pM_71, pM_72, pM_73, pM_74, pM_75, pM_76, pM_77, pM_81, pM_82, pM_83, pM_85, pM_86, pM_91, pM_92, pM_93, pM_94, pM_95, pM_96, pM_97, pM_98, pM_99, pM_100, pM_102, pM_103, pM_107, pM_108, pM_110, pM_111, pM_112, pM_113, pM_114, pM_115, pM_118, pM_119, uM_107, uM_108, uM_109, uM_110, uM_111, uM_112, uM_113, uM_114, uM_115, uM_116, uM_117, uM_118, uM_119, uM_120, uM_121, uM_122, uM_123, uM_124, uM_125, uM_126, uM_127, uM_128, uM_129, ivM, Option.bind_some, bd_some, mk_MS_thrown, mk_MS_length, mk_MS_seatsPaid, mk_MS_seatsHiss, mk_MS_lays, mk_MS_arranged, mk_MS_tape, mk_MS_s, mk_MS_area, mk_MS_kept, mk_MS_keptPaid, mk_MS_keptHiss, mk_MS_isKept, mk_MS_r, mk_MS_h, mk_MS_n, mk_MS_c, mk_MR_size, mk_MR_p, mk_MR_limit, mk_MR_token, mk_MR_place, mk_MR_span, mk_MR_number, mk_MR_fault, mk_MR_faultAt, mk_MR_word, mk_MR_got, mk_MH_lines, mk_MH_prices, mk_MH_leavings, mk_MH_onces, mk_MH_codeMany, mk_MH_pileMany, mk_MH_ones, mk_MH_coming, mk_MH_hh, mk_MH_newCues, mk_MH_code, mk_MH_pile, mk_MN_paidNow, mk_MN_hissNow, mk_MN_clapping, mk_MN_standing, mk_MN_low, mk_MN_high, mk_MN_gone, mk_MN_cueNext, mk_MN_nightHeight, mk_MN_nightCarries, mk_MN_held, mk_MN_claps, mk_MN_stand, mk_MN_heldLow, mk_MN_heldHigh, mk_MC_askedMany, mk_MC_bought, mk_MC_worthMany, mk_MC_allOrders, mk_MC_hasSides, mk_MC_seenClaps, mk_MC_seenStand, mk_MC_seenAll, mk_MC_beganA, mk_MC_beganB, mk_MC_seed, mk_MC_asked, mk_MC_carried, mk_MC_heights, mk_MC_worths, mk_MC_side, mk_MC_otherClaps, mk_MC_otherStand, mk_NT_paid, mk_NT_hiss, mk_NT_c1, mk_NT_c2, mk_NT_lo, mk_NT_hi, mk_NT_next, mk_Ac_a1, mk_Ac_a2, mk_Ac_l, mk_Ac_h, c, hn, n2_le (a := C.length) (b := i) (by omega) (by omega), show C.length ≤ i from by omega, if_true]
    rw [hi2, List.drop_length]
    simp only [cueRun, Nat.add_zero]
    rw [← hi2, ← hn, ← hp, ← hh]; rfl
  | succ k ih =>
    intro f i m Q hi hf hC hp hh hn
    obtain ⟨f, rfl⟩ : ∃ g, f = g + 1 := ⟨f - 1, by omega⟩
    have h30 := hC.len
    have il : i < C.length := by omega
    obtain ⟨ct, cw, cs⟩ := hC.ok i il
    have c : ifx 681 (590 : Int32) (m.s (590 : Int32).toNatClampNeg) = some (n2 C.length) := by
      rw [show (590 : Int32) = n2 590 from rfl, ifx_n2 (by decide) (by decide), n2_nat (by decide), hC.many]
    have e3 : (591 : Int32) + (3 : Int32) * n2 i = n2 (591 + 3 * i) := by
      rw [show (3 : Int32) = n2 3 from rfl, n2_mul, show (591 : Int32) = n2 591 from rfl, n2_add]
    have e4 : n2 (591 + 3 * i) + (1 : Int32) = n2 (591 + 3 * i + 1) := n2_add _ 1
    have e5 : n2 (591 + 3 * i) + (2 : Int32) = n2 (591 + 3 * i + 2) := n2_add _ 2
    have r3 : ifx 681 (n2 (591 + 3 * i)) (m.s (n2 (591 + 3 * i)).toNatClampNeg) = some (n2 C[i].t) := by rw [ifx_n2 (by omega) (by decide), n2_nat (by omega), hC.t i il]
    have r4 : ifx 681 (n2 (591 + 3 * i + 1)) (m.s (n2 (591 + 3 * i + 1)).toNatClampNeg) = some (n2 C[i].w) := by rw [ifx_n2 (by omega) (by decide), n2_nat (by omega), hC.w i il]
    have r5 : ifx 681 (n2 (591 + 3 * i + 2)) (m.s (n2 (591 + 3 * i + 2)).toNatClampNeg) = some (i2 (cseat C[i])) := by rw [ifx_n2 (by omega) (by decide), n2_nat (by omega), hC.s i il]
    have ei : n2 i + (1 : Int32) = n2 (i + 1) := n2_add i 1
    rw [List.drop_eq_getElem_cons il]
    simp only [cueRun]
    show bX4_moment_7B (bX4_moment_7 f) _ _ _ _ = _
    unfold bX4_moment_7B
    simp -implicitDefEqProofs only [gM_55, gM_57, gM_58, gM_59, gM_60, gM_64, gM_65, gM_66, gM_67, gM_68, gM_69, gM_70, gM_71, gM_72, gM_73, gM_74, gM_75, gM_76, gM_77, gM_81, gM_82, gM_83, gM_85, gM_86, gM_91, gM_92, gM_93, gM_94, gM_95, gM_96, gM_97, gM_98, gM_99, gM_100, gM_102, gM_103, gM_107, gM_108, gM_110, gM_111, gM_112, gM_113, gM_114, gM_115, gM_118, gM_119, gM_56, aM_107, nM_107, gM_61, aM_108, nM_108, gM_62, aM_109, nM_109, gM_63, aM_110, nM_110, gM_78, aM_111, nM_111, gM_79, aM_112, nM_112, gM_80, aM_113, nM_113, gM_84, aM_114, nM_114, gM_87, aM_115, nM_115, gM_88, aM_116, nM_116, gM_89, aM_117, nM_117, gM_90, aM_118, nM_118, gM_101, aM_119, nM_119, gM_104, aM_120, nM_120, gM_105, aM_121, nM_121, gM_106, aM_122, nM_122, gM_109, aM_123, nM_123, gM_116, aM_124, nM_124, gM_117, aM_125, nM_125, gM_120, aM_126, nM_126, gM_121, aM_127, nM_127, gM_122, aM_128, nM_128, gM_123, aM_129, nM_129, pM_55, pM_57, pM_58, pM_59, pM_60, pM_64, pM_65, pM_66, pM_67, pM_68, pM_69, pM_70, pM_71, pM_72, pM_73, pM_74, pM_75, pM_76, pM_77, pM_81, pM_82, pM_83, pM_85, pM_86, pM_91, pM_92, pM_93, pM_94, pM_95, pM_96, pM_97, pM_98, pM_99, pM_100, pM_102, pM_103, pM_107, pM_108, pM_110, pM_111, pM_112, pM_113, pM_114, pM_115, pM_118, pM_119, uM_107, uM_108, uM_109, uM_110, uM_111, uM_112, uM_113, uM_114, uM_115, uM_116, uM_117, uM_118, uM_119, uM_120, uM_121, uM_122, uM_123, uM_124, uM_125, uM_126, uM_127, uM_128, uM_129, ivM, Option.bind_some, bd_some, mk_MS_thrown, mk_MS_length, mk_MS_seatsPaid, mk_MS_seatsHiss, mk_MS_lays, mk_MS_arranged, mk_MS_tape, mk_MS_s, mk_MS_area, mk_MS_kept, mk_MS_keptPaid, mk_MS_keptHiss, mk_MS_isKept, mk_MS_r, mk_MS_h, mk_MS_n, mk_MS_c, mk_MR_size, mk_MR_p, mk_MR_limit, mk_MR_token, mk_MR_place, mk_MR_span, mk_MR_number, mk_MR_fault, mk_MR_faultAt, mk_MR_word, mk_MR_got, mk_MH_lines, mk_MH_prices, mk_MH_leavings, mk_MH_onces, mk_MH_codeMany, mk_MH_pileMany, mk_MH_ones, mk_MH_coming, mk_MH_hh, mk_MH_newCues, mk_MH_code, mk_MH_pile, mk_MN_paidNow, mk_MN_hissNow, mk_MN_clapping, mk_MN_standing, mk_MN_low, mk_MN_high, mk_MN_gone, mk_MN_cueNext, mk_MN_nightHeight, mk_MN_nightCarries, mk_MN_held, mk_MN_claps, mk_MN_stand, mk_MN_heldLow, mk_MN_heldHigh, mk_MC_askedMany, mk_MC_bought, mk_MC_worthMany, mk_MC_allOrders, mk_MC_hasSides, mk_MC_seenClaps, mk_MC_seenStand, mk_MC_seenAll, mk_MC_beganA, mk_MC_beganB, mk_MC_seed, mk_MC_asked, mk_MC_carried, mk_MC_heights, mk_MC_worths, mk_MC_side, mk_MC_otherClaps, mk_MC_otherStand, mk_NT_paid, mk_NT_hiss, mk_NT_c1, mk_NT_c2, mk_NT_lo, mk_NT_hi, mk_NT_next, mk_Ac_a1, mk_Ac_a2, mk_Ac_l, mk_Ac_h, c, hn, n2_le (a := C.length) (b := i) (by omega) (by omega), show ¬ C.length ≤ i from by omega, if_false, e3, e4, e5, r3, r4, r5, n2_eq (a := C[i].t) (b := t) (by omega) (by omega), eql (k := 3) (a := C[i].w) (by decide) (by omega)]
    by_cases hct : C[i].t = t
    · simp only [hct, not_true_eq_false, if_false, if_true]
      have I := fun m' Q' a1 a2 a3 a4 => ih f (i + 1) m' Q' (by omega) (by omega) a1 a2 a3 a4
      unfold bX4_moment_87 bX4_moment_98 bX4_moment_103 bX4_moment_130 bX4_moment_160
      simp -implicitDefEqProofs only [gM_55, gM_57, gM_58, gM_59, gM_60, gM_64, gM_65, gM_66, gM_67, gM_68, gM_69, gM_70, gM_71, gM_72, gM_73, gM_74, gM_75, gM_76, gM_77, gM_81, gM_82, gM_83, gM_85, gM_86, gM_91, gM_92, gM_93, gM_94, gM_95, gM_96, gM_97, gM_98, gM_99, gM_100, gM_102, gM_103, gM_107, gM_108, gM_110, gM_111, gM_112, gM_113, gM_114, gM_115, gM_118, gM_119, gM_56, aM_107, nM_107, gM_61, aM_108, nM_108, gM_62, aM_109, nM_109, gM_63, aM_110, nM_110, gM_78, aM_111, nM_111, gM_79, aM_112, nM_112, gM_80, aM_113, nM_113, gM_84, aM_114, nM_114, gM_87, aM_115, nM_115, gM_88, aM_116, nM_116, gM_89, aM_117, nM_117, gM_90, aM_118, nM_118, gM_101, aM_119, nM_119, gM_104, aM_120, nM_120, gM_105, aM_121, nM_121, gM_106, aM_122, nM_122, gM_109, aM_123, nM_123, gM_116, aM_124, nM_124, gM_117, aM_125, nM_125, gM_120, aM_126, nM_126, gM_121, aM_127, nM_127, gM_122, aM_128, nM_128, gM_123, aM_129, nM_129, pM_55, pM_57, pM_58, pM_59, pM_60, pM_64, pM_65, pM_66, pM_67, pM_68, pM_69, pM_70, pM_71, pM_72, pM_73, pM_74, pM_75, pM_76, pM_77, pM_81, pM_82, pM_83, pM_85, pM_86, pM_91, pM_92, pM_93, pM_94, pM_95, pM_96, pM_97, pM_98, pM_99, pM_100, pM_102, pM_103, pM_107, pM_108, pM_110, pM_111, pM_112, pM_113, pM_114, pM_115, pM_118, pM_119, uM_107, uM_108, uM_109, uM_110, uM_111, uM_112, uM_113, uM_114, uM_115, uM_116, uM_117, uM_118, uM_119, uM_120, uM_121, uM_122, uM_123, uM_124, uM_125, uM_126, uM_127, uM_128, uM_129, ivM, Option.bind_some, bd_some, mk_MS_thrown, mk_MS_length, mk_MS_seatsPaid, mk_MS_seatsHiss, mk_MS_lays, mk_MS_arranged, mk_MS_tape, mk_MS_s, mk_MS_area, mk_MS_kept, mk_MS_keptPaid, mk_MS_keptHiss, mk_MS_isKept, mk_MS_r, mk_MS_h, mk_MS_n, mk_MS_c, mk_MR_size, mk_MR_p, mk_MR_limit, mk_MR_token, mk_MR_place, mk_MR_span, mk_MR_number, mk_MR_fault, mk_MR_faultAt, mk_MR_word, mk_MR_got, mk_MH_lines, mk_MH_prices, mk_MH_leavings, mk_MH_onces, mk_MH_codeMany, mk_MH_pileMany, mk_MH_ones, mk_MH_coming, mk_MH_hh, mk_MH_newCues, mk_MH_code, mk_MH_pile, mk_MN_paidNow, mk_MN_hissNow, mk_MN_clapping, mk_MN_standing, mk_MN_low, mk_MN_high, mk_MN_gone, mk_MN_cueNext, mk_MN_nightHeight, mk_MN_nightCarries, mk_MN_held, mk_MN_claps, mk_MN_stand, mk_MN_heldLow, mk_MN_heldHigh, mk_MC_askedMany, mk_MC_bought, mk_MC_worthMany, mk_MC_allOrders, mk_MC_hasSides, mk_MC_seenClaps, mk_MC_seenStand, mk_MC_seenAll, mk_MC_beganA, mk_MC_beganB, mk_MC_seed, mk_MC_asked, mk_MC_carried, mk_MC_heights, mk_MC_worths, mk_MC_side, mk_MC_otherClaps, mk_MC_otherStand, mk_NT_paid, mk_NT_hiss, mk_NT_c1, mk_NT_c2, mk_NT_lo, mk_NT_hi, mk_NT_next, mk_Ac_a1, mk_Ac_a2, mk_Ac_l, mk_Ac_h, hn, ei, b2i_0, eql (k := 3) (a := C[i].w) (by decide) (by omega), eql (k := 0) (a := C[i].w) (by decide) (by omega), eql (k := 1) (a := C[i].w) (by decide) (by omega)]
      have fin : ∀ (st : Int32) (p h : Int64), st = b2i (cueDo C[i] Q).2.2 → p = (cueDo C[i] Q).1 → h = (cueDo C[i] Q).2.1 → bX4_moment_7 f (some 106) (n2 t) st (mkM b n s (MS.mk (m.thrown) (m.length) (m.seatsPaid) (m.seatsHiss) (m.lays) (m.arranged) (m.tape) (m.s) (m.area) (m.kept) (m.keptPaid) (m.keptHiss) (m.isKept) (m.r) (m.h) ((MN.mk (p) (h) (m.n.clapping) (m.n.standing) (m.n.low) (m.n.high) (m.n.gone) (n2 (i + 1)) (m.n.nightHeight) (m.n.nightCarries) (m.n.held) (m.n.claps) (m.n.stand) (m.n.heldLow) (m.n.heldHigh))) (m.c))) = bX4_moment_176 (some 106) (n2 t) (b2i (cueRun t (C.drop (i + 1)) (cueDo C[i] Q)).2.2.2) (mkM b n s (MS.mk (m.thrown) (m.length) (m.seatsPaid) (m.seatsHiss) (m.lays) (m.arranged) (m.tape) (m.s) (m.area) (m.kept) (m.keptPaid) (m.keptHiss) (m.isKept) (m.r) (m.h) ((MN.mk ((cueRun t (C.drop (i + 1)) (cueDo C[i] Q)).2.1) ((cueRun t (C.drop (i + 1)) (cueDo C[i] Q)).2.2.1) (m.n.clapping) (m.n.standing) (m.n.low) (m.n.high) (m.n.gone) (n2 (i + ((cueRun t (C.drop (i + 1)) (cueDo C[i] Q)).1 + 1))) (m.n.nightHeight) (m.n.nightCarries) (m.n.held) (m.n.claps) (m.n.stand) (m.n.heldLow) (m.n.heldHigh))) (m.c))) := by
        intro st p h h1 h2 h3
        subst h1; subst h2; subst h3
        rw [I (MS.mk (m.thrown) (m.length) (m.seatsPaid) (m.seatsHiss) (m.lays) (m.arranged) (m.tape) (m.s) (m.area) (m.kept) (m.keptPaid) (m.keptHiss) (m.isKept) (m.r) (m.h) ((MN.mk (_) (_) (m.n.clapping) (m.n.standing) (m.n.low) (m.n.high) (m.n.gone) (n2 (i + 1)) (m.n.nightHeight) (m.n.nightCarries) (m.n.held) (m.n.claps) (m.n.stand) (m.n.heldLow) (m.n.heldHigh))) (m.c)) (cueDo C[i] Q) hC rfl rfl rfl, show i + ((cueRun t (C.drop (i + 1)) (cueDo C[i] Q)).1 + 1) = i + 1 + (cueRun t (C.drop (i + 1)) (cueDo C[i] Q)).1 by omega]; rfl
      unfold cueDo at fin ⊢
      have nz0 : ∀ x : Int64, x &&& ((0 : Int64) ^^^ (-1 : Int64)) = x := fun x => tb_ext fun k hk => by rw [tb_and, tb_xm1 _ hk, tb_zero]; simp
      by_cases w3 : C[i].w = 3
      · simp only [w3, not_true_eq_false, if_false, if_true, show ¬ (3 : Nat) = 0 from by decide, show ¬ (3 : Nat) = 1 from by decide, not_false_eq_true] at fin ⊢
        cases hst : Q.2.2
        · simp only [not_true_eq_false, if_false]
          exact fin 1 _ _ rfl (by rw [hp]; exact nz0 _) (by rw [hh]; exact nz0 _)
        · simp only [Bool.true_eq_false, not_false_eq_true, if_true]
          exact fin 1 _ _ rfl (by rw [hp]; exact nz0 _) (by rw [hh]; exact nz0 _)
      · have es : i2 (cseat C[i]) = n2 C[i].s := by unfold cseat; rw [if_neg w3]; rfl
        rw [es]
        simp only [w3, not_false_eq_true, if_true, if_false] at fin ⊢
        by_cases w0 : C[i].w = 0
        · simp only [w0, not_true_eq_false, if_false, if_true, show ¬ (0 : Nat) = 1 from by decide, show ¬ (0 : Nat) = 3 from by decide, not_false_eq_true] at fin ⊢
          rcases Bool.eq_false_or_eq_true Q.2.2 with hst | hst
          · simp only [hst, Bool.true_eq_false, not_false_eq_true, if_true] at fin ⊢
            exact fin 1 _ _ rfl (by rw [hp]; rfl) (by rw [hh]; rfl)
          · simp only [hst, not_true_eq_false, if_false] at fin ⊢
            exact fin 0 _ _ rfl (by rw [hp]; rfl) (by rw [hh]; rfl)
        · by_cases w1 : C[i].w = 1
          · simp only [w1, not_true_eq_false, if_false, if_true, show ¬ (1 : Nat) = 0 from by decide, show ¬ (1 : Nat) = 3 from by decide, not_false_eq_true] at fin ⊢
            rcases Bool.eq_false_or_eq_true Q.2.2 with hst | hst
            · simp only [hst, Bool.true_eq_false, not_false_eq_true, if_true] at fin ⊢
              exact fin 1 _ _ rfl (by rw [hp]; rfl) (by rw [hh]; rfl)
            · simp only [hst, not_true_eq_false, if_false] at fin ⊢
              exact fin 0 _ _ rfl (by rw [hp]; rfl) (by rw [hh]; rfl)
          · simp only [w0, w1, not_false_eq_true, if_true, if_false] at fin ⊢
            rcases Bool.eq_false_or_eq_true Q.2.2 with hst | hst
            · simp only [hst, Bool.true_eq_false, not_false_eq_true, if_true] at fin ⊢
              exact fin 1 _ _ rfl (by rw [hp]; rfl) (by rw [hh]; rfl)
            · simp only [hst, not_true_eq_false, if_false] at fin ⊢
              exact fin 0 _ _ rfl (by rw [hp]; rfl) (by rw [hh]; rfl)
    · simp only [hct, not_false_eq_true, if_true, if_false]
      rw [Nat.add_zero, ← hn, ← hp, ← hh]; rfl
end MomentM
