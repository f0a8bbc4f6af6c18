set_option linter.unusedVariables false
set_option linter.unusedSimpArgs false
set_option maxRecDepth 100000
/-! ===== some of the seats asked for ===== -/
def hasB (k i : Nat) : Bool := decide ((shrI (n2 k) (n2 i)) &&& (1 : Int32) = (1 : Int32))
theorem hasB_out : ∀ k, k < 256 → ∀ i, i < 8 → ∀ N, N ≤ i → k < 2 ^ N → hasB k i = false := by decide +kernel
def pcI (a0 : Int32) : Int32 :=
  let y9 := a0 - ((ushrI a0 (1 : Int32)) &&& (1431655765 : Int32))
  let y23 := (y9 &&& (858993459 : Int32)) + ((ushrI y9 (2 : Int32)) &&& (858993459 : Int32))
  let y33 := (y23 + (ushrI y23 (4 : Int32))) &&& (252645135 : Int32)
  let y40 := y33 + (ushrI y33 (8 : Int32))
  let y47 := y40 + (ushrI y40 (16 : Int32))
  y47 &&& (63 : Int32)
theorem pcI_eq (x : Int32) (st : Mem) : fJ19_bitCount x st = some (pcI x, st) := rfl
theorem pcI_pc : ∀ k, k < 256 → pcI (n2 k) = pc (n2 k).toInt64 := by decide +kernel
theorem pow_shl : ∀ N, N ≤ 8 → shlI (1 : Int32) (n2 N) = n2 (2 ^ N) := by decide +kernel
theorem pow_le8 {N : Nat} (h : N ≤ 8) : 2 ^ N ≤ 256 := by
  have := Nat.pow_le_pow_right (show 0 < 2 by decide) h
  exact this
theorem X_hasB (k i : Nat) (st : Mem) : fX1_has (n2 k) (n2 i) st = some (b2i (hasB k i), st) := by
  unfold fX1_has hasB
  by_cases hc : (shrI (n2 k) (n2 i)) &&& (1 : Int32) = (1 : Int32)
  · rw [if_neg (fun h => h hc), decide_eq_true hc]; rfl
  · rw [if_pos hc, decide_eq_false hc]; rfl
theorem M_hasB (k i : Nat) (st : Mem) : fX4_has (n2 k) (n2 i) st = some (b2i (hasB k i), st) := by
  unfold fX4_has hasB
  by_cases hc : (shrI (n2 k) (n2 i)) &&& (1 : Int32) = (1 : Int32)
  · rw [if_neg (fun h => h hc), decide_eq_true hc]; rfl
  · rw [if_pos hc, decide_eq_false hc]; rfl
def hdsS (a : Nat → Nat) (set : Nat) : Nat → Int64
  | 0 => 0
  | i + 1 => if hasB set i = true then hdsS a set i ||| bitS (a i) else hdsS a set i
def prcS (H : HS) (a : Nat → Nat) (set : Nat) : Nat → Nat
  | 0 => 0
  | i + 1 => if hasB set i = true then prcS H a set i + H.price (a i / H.cols) else prcS H a set i
theorem prcS_le {H : HS} (ok : H.Ok) (a : Nat → Nat) (set : Nat) : ∀ i, prcS H a set i ≤ 999 * i
  | 0 => Nat.le_refl _
  | i + 1 => by
    have := prcS_le ok a set i
    have := ok.price (a i / H.cols)
    simp -implicitDefEqProofs only [prcS]; split <;> omega
/-- the seats asked for, in both -/
abbrev Hnd (x : XS) (m : MS) (H : HS) (N : Nat) (a : Nat → Nat) : Prop := (1 ≤ N) ∧ (N ≤ 8) ∧ (∀ u, u < N → x.asked u = n2 (a u)) ∧ (∀ u, u < N → m.c.asked u = n2 (a u)) ∧ (m.c.askedMany = n2 N) ∧ (∀ u, u < N → a u < H.size ∧ H.kind (a u) ≠ 0)
theorem Hnd.n1 {x : XS} {m : MS} {H : HS} {N : Nat} {a : Nat → Nat} (self : Hnd x m H N a) : 1 ≤ N := self.1
theorem Hnd.n8 {x : XS} {m : MS} {H : HS} {N : Nat} {a : Nat → Nat} (self : Hnd x m H N a) : N ≤ 8 := self.2.1
theorem Hnd.xa {x : XS} {m : MS} {H : HS} {N : Nat} {a : Nat → Nat} (self : Hnd x m H N a) : ∀ u, u < N → x.asked u = n2 (a u) := self.2.2.1
theorem Hnd.ma {x : XS} {m : MS} {H : HS} {N : Nat} {a : Nat → Nat} (self : Hnd x m H N a) : ∀ u, u < N → m.c.asked u = n2 (a u) := self.2.2.2.1
theorem Hnd.mm {x : XS} {m : MS} {H : HS} {N : Nat} {a : Nat → Nat} (self : Hnd x m H N a) : m.c.askedMany = n2 N := self.2.2.2.2.1
theorem Hnd.sz {x : XS} {m : MS} {H : HS} {N : Nat} {a : Nat → Nat} (self : Hnd x m H N a) : ∀ u, u < N → a u < H.size ∧ H.kind (a u) ≠ 0 := self.2.2.2.2.2
def XS.tp0 (x : XS) : XS := (XS.mk (0) (x.fault) (x.bought) (x.worthMany) (x.beganFirst) (x.beganSecond) (x.seed) (x.arranged) (x.paid) (x.hiss) (x.orders) (x.house) (x.cues) (x.tape) (x.states) (x.asked) (x.carriesSet) (x.heights) (x.worth) (x.mouths) (x.sided) (x.keptHouse) (x.keptPaid) (x.keptHiss) (x.kMod) (x.kData) (x.kSize) (x.out) (x.n0) (x.n1))
def MS.tk (m : MS) (v : Int32) : MS := (MS.mk (m.thrown) (0) (m.seatsPaid) (m.seatsHiss) (m.lays) (m.arranged) (m.tape) (m.s) (m.area) (m.kept) (m.keptPaid) (m.keptHiss) (m.isKept) ((MR.mk (m.length) (0) (v) (m.r.token) (m.r.place) (m.r.span) (m.r.number) (m.r.fault) (m.r.faultAt) (m.r.word) (m.r.got))) (m.h) (m.n) (m.c))
theorem sAk_sAk (m : MS) (f g : Nat → Int32) (q r : Int32) : (m.sAk f q).sAk g r = m.sAk g r := by
  simp -implicitDefEqProofs only [gM_55, gM_57, gM_58, gM_59, gM_60, gM_64, gM_65, gM_66, gM_67, gM_68, gM_69, gM_70, gM_71, gM_72, gM_73, gM_74, gM_75, gM_76, gM_77, gM_81, gM_82, gM_83, gM_85, gM_86, gM_91, gM_92, gM_93, gM_94, gM_95, gM_96, gM_97, gM_98, gM_99, gM_100, gM_102, gM_103, gM_107, gM_108, gM_110, gM_111, gM_112, gM_113, gM_114, gM_115, gM_118, gM_119, gM_56, aM_107, nM_107, gM_61, aM_108, nM_108, gM_62, aM_109, nM_109, gM_63, aM_110, nM_110, gM_78, aM_111, nM_111, gM_79, aM_112, nM_112, gM_80, aM_113, nM_113, gM_84, aM_114, nM_114, gM_87, aM_115, nM_115, gM_88, aM_116, nM_116, gM_89, aM_117, nM_117, gM_90, aM_118, nM_118, gM_101, aM_119, nM_119, gM_104, aM_120, nM_120, gM_105, aM_121, nM_121, gM_106, aM_122, nM_122, gM_109, aM_123, nM_123, gM_116, aM_124, nM_124, gM_117, aM_125, nM_125, gM_120, aM_126, nM_126, gM_121, aM_127, nM_127, gM_122, aM_128, nM_128, gM_123, aM_129, nM_129, pM_55, pM_57, pM_58, pM_59, pM_60, pM_64, pM_65, pM_66, pM_67, pM_68, pM_69, pM_70, pM_71, pM_72, pM_73, pM_74, pM_75, pM_76, pM_77, pM_81, pM_82, pM_83, pM_85, pM_86, pM_91, pM_92, pM_93, pM_94, pM_95, pM_96, pM_97, pM_98, pM_99, pM_100, pM_102, pM_103, pM_107, pM_108, pM_110, pM_111, pM_112, pM_113, pM_114, pM_115, pM_118, pM_119, uM_107, uM_108, uM_109, uM_110, uM_111, uM_112, uM_113, uM_114, uM_115, uM_116, uM_117, uM_118, uM_119, uM_120, uM_121, uM_122, uM_123, uM_124, uM_125, uM_126, uM_127, uM_128, uM_129, ivM, Option.bind_some, bd_some, mk_MS_thrown, mk_MS_length, mk_MS_seatsPaid, mk_MS_seatsHiss, mk_MS_lays, mk_MS_arranged, mk_MS_tape, mk_MS_s, mk_MS_area, mk_MS_kept, mk_MS_keptPaid, mk_MS_keptHiss, mk_MS_isKept, mk_MS_r, mk_MS_h, mk_MS_n, mk_MS_c, mk_MR_size, mk_MR_p, mk_MR_limit, mk_MR_token, mk_MR_place, mk_MR_span, mk_MR_number, mk_MR_fault, mk_MR_faultAt, mk_MR_word, mk_MR_got, mk_MH_lines, mk_MH_prices, mk_MH_leavings, mk_MH_onces, mk_MH_codeMany, mk_MH_pileMany, mk_MH_ones, mk_MH_coming, mk_MH_hh, mk_MH_newCues, mk_MH_code, mk_MH_pile, mk_MN_paidNow, mk_MN_hissNow, mk_MN_clapping, mk_MN_standing, mk_MN_low, mk_MN_high, mk_MN_gone, mk_MN_cueNext, mk_MN_nightHeight, mk_MN_nightCarries, mk_MN_held, mk_MN_claps, mk_MN_stand, mk_MN_heldLow, mk_MN_heldHigh, mk_MC_askedMany, mk_MC_bought, mk_MC_worthMany, mk_MC_allOrders, mk_MC_hasSides, mk_MC_seenClaps, mk_MC_seenStand, mk_MC_seenAll, mk_MC_beganA, mk_MC_beganB, mk_MC_seed, mk_MC_asked, mk_MC_carried, mk_MC_heights, mk_MC_worths, mk_MC_side, mk_MC_otherClaps, mk_MC_otherStand, mk_NT_paid, mk_NT_hiss, mk_NT_c1, mk_NT_c2, mk_NT_lo, mk_NT_hi, mk_NT_next, mk_Ac_a1, mk_Ac_a2, mk_Ac_l, mk_Ac_h, MS.sAk]
theorem sAk_asked (m : MS) (f : Nat → Int32) (q : Int32) : (m.sAk f q).c.asked = f := rfl
theorem sAk_many (m : MS) (f : Nat → Int32) (q : Int32) : (m.sAk f q).c.askedMany = q := rfl
theorem pM_102' {b : Mem} {n s : Nat} {m : MS} {v : Int32} : pI (mkM b n s m) (some 106) 102 v = some (mkM b n s (m.sAk m.c.asked v)) := by
  rw [pM_102]; simp -implicitDefEqProofs only [gM_55, gM_57, gM_58, gM_59, gM_60, gM_64, gM_65, gM_66, gM_67, gM_68, gM_69, gM_70, gM_71, gM_72, gM_73, gM_74, gM_75, gM_76, gM_77, gM_81, gM_82, gM_83, gM_85, gM_86, gM_91, gM_92, gM_93, gM_94, gM_95, gM_96, gM_97, gM_98, gM_99, gM_100, gM_102, gM_103, gM_107, gM_108, gM_110, gM_111, gM_112, gM_113, gM_114, gM_115, gM_118, gM_119, gM_56, aM_107, nM_107, gM_61, aM_108, nM_108, gM_62, aM_109, nM_109, gM_63, aM_110, nM_110, gM_78, aM_111, nM_111, gM_79, aM_112, nM_112, gM_80, aM_113, nM_113, gM_84, aM_114, nM_114, gM_87, aM_115, nM_115, gM_88, aM_116, nM_116, gM_89, aM_117, nM_117, gM_90, aM_118, nM_118, gM_101, aM_119, nM_119, gM_104, aM_120, nM_120, gM_105, aM_121, nM_121, gM_106, aM_122, nM_122, gM_109, aM_123, nM_123, gM_116, aM_124, nM_124, gM_117, aM_125, nM_125, gM_120, aM_126, nM_126, gM_121, aM_127, nM_127, gM_122, aM_128, nM_128, gM_123, aM_129, nM_129, pM_55, pM_57, pM_58, pM_59, pM_60, pM_64, pM_65, pM_66, pM_67, pM_68, pM_69, pM_70, pM_71, pM_72, pM_73, pM_74, pM_75, pM_76, pM_77, pM_81, pM_82, pM_83, pM_85, pM_86, pM_91, pM_92, pM_93, pM_94, pM_95, pM_96, pM_97, pM_98, pM_99, pM_100, pM_102, pM_103, pM_107, pM_108, pM_110, pM_111, pM_112, pM_113, pM_114, pM_115, pM_118, pM_119, uM_107, uM_108, uM_109, uM_110, uM_111, uM_112, uM_113, uM_114, uM_115, uM_116, uM_117, uM_118, uM_119, uM_120, uM_121, uM_122, uM_123, uM_124, uM_125, uM_126, uM_127, uM_128, uM_129, ivM, Option.bind_some, bd_some, mk_MS_thrown, mk_MS_length, mk_MS_seatsPaid, mk_MS_seatsHiss, mk_MS_lays, mk_MS_arranged, mk_MS_tape, mk_MS_s, mk_MS_area, mk_MS_kept, mk_MS_keptPaid, mk_MS_keptHiss, mk_MS_isKept, mk_MS_r, mk_MS_h, mk_MS_n, mk_MS_c, mk_MR_size, mk_MR_p, mk_MR_limit, mk_MR_token, mk_MR_place, mk_MR_span, mk_MR_number, mk_MR_fault, mk_MR_faultAt, mk_MR_word, mk_MR_got, mk_MH_lines, mk_MH_prices, mk_MH_leavings, mk_MH_onces, mk_MH_codeMany, mk_MH_pileMany, mk_MH_ones, mk_MH_coming, mk_MH_hh, mk_MH_newCues, mk_MH_code, mk_MH_pile, mk_MN_paidNow, mk_MN_hissNow, mk_MN_clapping, mk_MN_standing, mk_MN_low, mk_MN_high, mk_MN_gone, mk_MN_cueNext, mk_MN_nightHeight, mk_MN_nightCarries, mk_MN_held, mk_MN_claps, mk_MN_stand, mk_MN_heldLow, mk_MN_heldHigh, mk_MC_askedMany, mk_MC_bought, mk_MC_worthMany, mk_MC_allOrders, mk_MC_hasSides, mk_MC_seenClaps, mk_MC_seenStand, mk_MC_seenAll, mk_MC_beganA, mk_MC_beganB, mk_MC_seed, mk_MC_asked, mk_MC_carried, mk_MC_heights, mk_MC_worths, mk_MC_side, mk_MC_otherClaps, mk_MC_otherStand, mk_NT_paid, mk_NT_hiss, mk_NT_c1, mk_NT_c2, mk_NT_lo, mk_NT_hi, mk_NT_next, mk_Ac_a1, mk_Ac_a2, mk_Ac_l, mk_Ac_h, MS.sAk]
section Hands
variable {b b' : Mem} {n s : Nat} {x : XS} {m : MS} {H : HS} {C : List Cu} {h c : Nat} {K : Nat → Option (HS × List Cu)} {p p' hi : Int64} {a : Nat → Nat} {N : Nat}
theorem X_take (hb : 131 ≤ mNx b) : fX1_take (some 64) (mkX b x) = some (x.taped, mkX b x.tp0) := by
  unfold fX1_take
  simp -implicitDefEqProofs only [Option.bind_some, bd_some, b2i_0, Bool.true_eq_false, Bool.false_eq_true, eq_self, if_true, if_false, not_true_eq_false, not_false_eq_true, gX_2 hb, pX_2 hb]; rfl
theorem M_taken (v : Int32) : fX4_taken (some 106) v (mkM b' n s m) = some ((), mkM b' n s (m.tk v)) := by
  unfold fX4_taken
  simp -implicitDefEqProofs only [gM_55, gM_57, gM_58, gM_59, gM_60, gM_64, gM_65, gM_66, gM_67, gM_68, gM_69, gM_70, gM_71, gM_72, gM_73, gM_74, gM_75, gM_76, gM_77, gM_81, gM_82, gM_83, gM_85, gM_86, gM_91, gM_92, gM_93, gM_94, gM_95, gM_96, gM_97, gM_98, gM_99, gM_100, gM_102, gM_103, gM_107, gM_108, gM_110, gM_111, gM_112, gM_113, gM_114, gM_115, gM_118, gM_119, gM_56, aM_107, nM_107, gM_61, aM_108, nM_108, gM_62, aM_109, nM_109, gM_63, aM_110, nM_110, gM_78, aM_111, nM_111, gM_79, aM_112, nM_112, gM_80, aM_113, nM_113, gM_84, aM_114, nM_114, gM_87, aM_115, nM_115, gM_88, aM_116, nM_116, gM_89, aM_117, nM_117, gM_90, aM_118, nM_118, gM_101, aM_119, nM_119, gM_104, aM_120, nM_120, gM_105, aM_121, nM_121, gM_106, aM_122, nM_122, gM_109, aM_123, nM_123, gM_116, aM_124, nM_124, gM_117, aM_125, nM_125, gM_120, aM_126, nM_126, gM_121, aM_127, nM_127, gM_122, aM_128, nM_128, gM_123, aM_129, nM_129, pM_55, pM_57, pM_58, pM_59, pM_60, pM_64, pM_65, pM_66, pM_67, pM_68, pM_69, pM_70, pM_71, pM_72, pM_73, pM_74, pM_75, pM_76, pM_77, pM_81, pM_82, pM_83, pM_85, pM_86, pM_91, pM_92, pM_93, pM_94, pM_95, pM_96, pM_97, pM_98, pM_99, pM_100, pM_102, pM_103, pM_107, pM_108, pM_110, pM_111, pM_112, pM_113, pM_114, pM_115, pM_118, pM_119, uM_107, uM_108, uM_109, uM_110, uM_111, uM_112, uM_113, uM_114, uM_115, uM_116, uM_117, uM_118, uM_119, uM_120, uM_121, uM_122, uM_123, uM_124, uM_125, uM_126, uM_127, uM_128, uM_129, ivM, Option.bind_some, bd_some, mk_MS_thrown, mk_MS_length, mk_MS_seatsPaid, mk_MS_seatsHiss, mk_MS_lays, mk_MS_arranged, mk_MS_tape, mk_MS_s, mk_MS_area, mk_MS_kept, mk_MS_keptPaid, mk_MS_keptHiss, mk_MS_isKept, mk_MS_r, mk_MS_h, mk_MS_n, mk_MS_c, mk_MR_size, mk_MR_p, mk_MR_limit, mk_MR_token, mk_MR_place, mk_MR_span, mk_MR_number, mk_MR_fault, mk_MR_faultAt, mk_MR_word, mk_MR_got, mk_MH_lines, mk_MH_prices, mk_MH_leavings, mk_MH_onces, mk_MH_codeMany, mk_MH_pileMany, mk_MH_ones, mk_MH_coming, mk_MH_hh, mk_MH_newCues, mk_MH_code, mk_MH_pile, mk_MN_paidNow, mk_MN_hissNow, mk_MN_clapping, mk_MN_standing, mk_MN_low, mk_MN_high, mk_MN_gone, mk_MN_cueNext, mk_MN_nightHeight, mk_MN_nightCarries, mk_MN_held, mk_MN_claps, mk_MN_stand, mk_MN_heldLow, mk_MN_heldHigh, mk_MC_askedMany, mk_MC_bought, mk_MC_worthMany, mk_MC_allOrders, mk_MC_hasSides, mk_MC_seenClaps, mk_MC_seenStand, mk_MC_seenAll, mk_MC_beganA, mk_MC_beganB, mk_MC_seed, mk_MC_asked, mk_MC_carried, mk_MC_heights, mk_MC_worths, mk_MC_side, mk_MC_otherClaps, mk_MC_otherStand, mk_NT_paid, mk_NT_hiss, mk_NT_c1, mk_NT_c2, mk_NT_lo, mk_NT_hi, mk_NT_next, mk_Ac_a1, mk_Ac_a2, mk_Ac_l, mk_Ac_h]; rfl
theorem Duo.tk {v : Int32} (R : Duo b x m H C h c K) : Duo b x.tp0 (m.tk v) H C h c K := ⟨R.hb, R.fz, R.ok, R.ar, R.XH, R.xh, R.XC, R.xc, R.MH, R.MC, R.lays, R.l01, R.tape, ⟨0, by decide, rfl, rfl⟩, R.fault, R.paid, R.hiss, R.bought, R.worth, R.sided, R.b1, R.b2, R.arranged, R.kept, R.keptC⟩
theorem Duo.ask {f g : Nat → Int32} {q : Int32} (R : Duo b x m H C h c K) : Duo b (x.sAsk f) (m.sAk g q) H C h c K := ⟨R.hb, R.fz, R.ok, R.ar, R.XH, R.xh, R.XC, R.xc, R.MH, R.MC, R.lays, R.l01, R.tape, R.len, R.fault, R.paid, R.hiss, R.bought, R.worth, R.sided, R.b1, R.b2, R.arranged, R.kept, R.keptC⟩
theorem Duo.mth {f : Nat → Int32} (R : Duo b x m H C h c K) : Duo b (x.sMth f) m H C h c K := ⟨R.hb, R.fz, R.ok, R.ar, R.XH, R.xh, R.XC, R.xc, R.MH, R.MC, R.lays, R.l01, R.tape, R.len, R.fault, R.paid, R.hiss, R.bought, R.worth, R.sided, R.b1, R.b2, R.arranged, R.kept, R.keptC⟩
theorem Hnd.ny {y : NX} {g : Nat → Int64} {z : MN} (R : Hnd x m H N a) : Hnd (x.setN false y) (m.lay g z) H N a := ⟨R.n1, R.n8, R.xa, R.ma, R.mm, R.sz⟩
theorem X_hands (hb : 131 ≤ mNx b) (A : Hnd x m H N a) (ok : H.Ok) {set : Nat} (hs : set < 2 ^ N) : fX1_handsOf (some 64) (n2 set) (mkX b x) = some (hdsS a set N, mkX b x) := by
  have h64 := ok.size
  have hn := A.n8
  have h256 := pow_le8 hn
  have loop : ∀ k f i, i + k = 8 → k < f → bX1_handsOf_5 f (some 64) (n2 set) (hdsS a set (min i N)) (n2 i) (mkX b x) = some (hdsS a set N, mkX b x) := by
    intro k
    induction k with
    | zero =>
      intro f i hk hf
      obtain ⟨f, rfl⟩ : ∃ g, f = g + 1 := ⟨f - 1, by omega⟩
      have e : i = 8 := by omega
      subst e
      show bX1_handsOf_5B _ _ _ _ _ _ = _
      unfold bX1_handsOf_5B
      rw [if_pos (by decide), Nat.min_eq_right hn]
    | succ k ih =>
      intro f i hk hf
      obtain ⟨f, rfl⟩ : ∃ g, f = g + 1 := ⟨f - 1, by omega⟩
      have i8 : i < 8 := by omega
      have le : ((8 : Int32) ≤ n2 i) = False := by rw [li_8, n2_le (by omega) (by omega)]; exact eq_false (by omega)
      have I := ih f (i + 1) (by omega) (by omega)
      show bX1_handsOf_5B (bX1_handsOf_5 f) _ _ _ _ _ = _
      unfold bX1_handsOf_5B bX1_handsOf_33
      simp -implicitDefEqProofs only [Option.bind_some, bd_some, b2i_0, Bool.true_eq_false, Bool.false_eq_true, eq_self, if_true, if_false, not_true_eq_false, not_false_eq_true, le, X_hasB, gX_11 hb, aX_96 hb, ifx_k i8 (show i < 2147483648 by omega), n2_nat (show i < 2147483648 by omega), show n2 i + 1 = n2 (i + 1) from n2_add i 1]
      by_cases hc : i < N
      · rw [Nat.min_eq_left (by omega), show hdsS a set (i + 1) = if hasB set i = true then hdsS a set i ||| bitS (a i) else hdsS a set i from rfl] at I
        rw [Nat.min_eq_left (by omega), A.xa i hc]
        rcases Bool.eq_false_or_eq_true (hasB set i) with e | e
        · rw [e, if_pos rfl] at I; simp -implicitDefEqProofs only [Option.bind_some, bd_some, b2i_0, Bool.true_eq_false, Bool.false_eq_true, eq_self, if_true, if_false, not_true_eq_false, not_false_eq_true, e]; exact I
        · rw [e, if_neg (by decide)] at I; simp -implicitDefEqProofs only [Option.bind_some, bd_some, b2i_0, Bool.true_eq_false, Bool.false_eq_true, eq_self, if_true, if_false, not_true_eq_false, not_false_eq_true, e]; exact I
      · have e : hasB set i = false := hasB_out set (by omega) i i8 N (by omega) hs
        rw [Nat.min_eq_right (by omega)] at I ⊢
        simp -implicitDefEqProofs only [Option.bind_some, bd_some, b2i_0, Bool.true_eq_false, Bool.false_eq_true, eq_self, if_true, if_false, not_true_eq_false, not_false_eq_true, e]; exact I
  exact loop 8 hcFuel 0 (by omega) (by unfold hcFuel; omega)
theorem M_hands (A : Hnd x m H N a) {set : Nat} : fX4_bitsOf (some 106) (n2 set) (mkM b' n s m) = some (hdsS a set N, mkM b' n s m) := by
  have hn := A.n8
  have loop : ∀ k f i, i + k = N → k < f → bX4_bitsOf_5 f (some 106) (n2 set) (hdsS a set i) (n2 i) (mkM b' n s m) = some (hdsS a set N, mkM b' n s m) := by
    intro k
    induction k with
    | zero =>
      intro f i hk hf
      obtain ⟨f, rfl⟩ : ∃ g, f = g + 1 := ⟨f - 1, by omega⟩
      have e : i = N := by omega
      subst e
      show bX4_bitsOf_5B _ _ _ _ _ _ = _
      unfold bX4_bitsOf_5B
      rw [gM_102, Option.bind_some, A.mm, if_pos (Int32.le_refl _)]
    | succ k ih =>
      intro f i hk hf
      obtain ⟨f, rfl⟩ : ∃ g, f = g + 1 := ⟨f - 1, by omega⟩
      have i14 : i < 14 := by omega
      have le : (n2 N ≤ n2 i) = False := by rw [n2_le (by omega) (by omega)]; exact eq_false (by omega)
      have I := ih f (i + 1) (by omega) (by omega)
      rw [show hdsS a set (i + 1) = if hasB set i = true then hdsS a set i ||| bitS (a i) else hdsS a set i from rfl] at I
      show bX4_bitsOf_5B (bX4_bitsOf_5 f) _ _ _ _ _ = _
      unfold bX4_bitsOf_5B bX4_bitsOf_37
      simp -implicitDefEqProofs only [Option.bind_some, bd_some, b2i_0, Bool.true_eq_false, Bool.false_eq_true, eq_self, if_true, if_false, not_true_eq_false, not_false_eq_true, gM_102, A.mm, le, M_hasB, gM_101, aM_119, ifx_k i14 (show i < 2147483648 by omega), n2_nat (show i < 2147483648 by omega), A.ma i (show i < N by omega), show n2 i + 1 = n2 (i + 1) from n2_add i 1]
      rcases Bool.eq_false_or_eq_true (hasB set i) with e | e
      · rw [e, if_pos rfl] at I; simp -implicitDefEqProofs only [Option.bind_some, bd_some, b2i_0, Bool.true_eq_false, Bool.false_eq_true, eq_self, if_true, if_false, not_true_eq_false, not_false_eq_true, e]; exact I
      · rw [e, if_neg (by decide)] at I; simp -implicitDefEqProofs only [Option.bind_some, bd_some, b2i_0, Bool.true_eq_false, Bool.false_eq_true, eq_self, if_true, if_false, not_true_eq_false, not_false_eq_true, e, Int64.or_zero]; exact I
  exact loop N hcFuel 0 (by omega) (by unfold hcFuel; omega)
theorem X_priceOf (hb : 131 ≤ mNx b) (X : XHouse b h H) (ok : H.Ok) (xh : x.house = some h) (A : Hnd x m H N a) {set : Nat} (hs : set < 2 ^ N) : fX1_priceOf (some 64) (n2 set) (mkX b x) = some (n2 (prcS H a set N), mkX b x) := by
  have h64 := ok.size
  have hn := A.n8
  have h256 := pow_le8 hn
  have loop : ∀ k f i, i + k = 8 → k < f → bX1_priceOf_4 f (some 64) (n2 set) (n2 (prcS H a set (min i N))) (n2 i) (mkX b x) = some (n2 (prcS H a set N), mkX b x) := by
    intro k
    induction k with
    | zero =>
      intro f i hk hf
      obtain ⟨f, rfl⟩ : ∃ g, f = g + 1 := ⟨f - 1, by omega⟩
      have e : i = 8 := by omega
      subst e
      show bX1_priceOf_4B _ _ _ _ _ _ = _
      unfold bX1_priceOf_4B
      rw [if_pos (by decide), Nat.min_eq_right hn]
    | succ k ih =>
      intro f i hk hf
      obtain ⟨f, rfl⟩ : ∃ g, f = g + 1 := ⟨f - 1, by omega⟩
      have i8 : i < 8 := by omega
      have le : ((8 : Int32) ≤ n2 i) = False := by rw [li_8, n2_le (by omega) (by omega)]; exact eq_false (by omega)
      have I := ih f (i + 1) (by omega) (by omega)
      show bX1_priceOf_4B (bX1_priceOf_4 f) _ _ _ _ _ = _
      unfold bX1_priceOf_4B bX1_priceOf_42
      simp -implicitDefEqProofs only [Option.bind_some, bd_some, b2i_0, Bool.true_eq_false, Bool.false_eq_true, eq_self, if_true, if_false, not_true_eq_false, not_false_eq_true, le, X_hasB, gX_11 hb, gX_4 hb, xh, xh_35 X, xh_iv X, aX_96 hb, ifx_k i8 (show i < 2147483648 by omega), n2_nat (show i < 2147483648 by omega), show n2 i + 1 = n2 (i + 1) from n2_add i 1]
      by_cases hc : i < N
      · rw [Nat.min_eq_left (by omega), show prcS H a set (i + 1) = if hasB set i = true then prcS H a set i + H.price (a i / H.cols) else prcS H a set i from rfl] at I
        have hv := (A.sz i hc).1
        have hr := row_lt hv
        have hr8 := ok.rows
        rw [Nat.min_eq_left (by omega)]
        simp -implicitDefEqProofs only [Option.bind_some, bd_some, b2i_0, Bool.true_eq_false, Bool.false_eq_true, eq_self, if_true, if_false, not_true_eq_false, not_false_eq_true, A.xa i hc, xh_row X ok hv, xh_price X (show a i / H.cols < 8 by omega), n2_add]
        rcases Bool.eq_false_or_eq_true (hasB set i) with e | e
        · rw [e, if_pos rfl] at I; simp -implicitDefEqProofs only [Option.bind_some, bd_some, b2i_0, Bool.true_eq_false, Bool.false_eq_true, eq_self, if_true, if_false, not_true_eq_false, not_false_eq_true, e]; exact I
        · rw [e, if_neg (by decide)] at I; simp -implicitDefEqProofs only [Option.bind_some, bd_some, b2i_0, Bool.true_eq_false, Bool.false_eq_true, eq_self, if_true, if_false, not_true_eq_false, not_false_eq_true, e]; exact I
      · have e : hasB set i = false := hasB_out set (by omega) i i8 N (by omega) hs
        rw [Nat.min_eq_right (by omega)] at I ⊢
        simp -implicitDefEqProofs only [Option.bind_some, bd_some, b2i_0, Bool.true_eq_false, Bool.false_eq_true, eq_self, if_true, if_false, not_true_eq_false, not_false_eq_true, e]; exact I
  exact loop 8 hcFuel 0 (by omega) (by unfold hcFuel; omega)
/-- eight seats or fewer, in both -/
theorem D_eight (R : Duo b x m H C h c K) : ∃ k, x.taped = n2 k ∧ k ≤ 940 ∧
    ((∃ m', decide ((1 : Int32) ≤ n2 k ∧ n2 k ≤ 8) = false ∧ fX4_areEight (some 106) (mkM b' n s m) = some (0, mkM b' n s m') ∧ Duo b x.tp0 m' H C h c K) ∨
     (∃ F m', decide ((1 : Int32) ≤ n2 k ∧ n2 k ≤ 8) = true ∧ fX1_takesSeats (some 64) 0 (n2 k) (some 96) 0 (mkX b x.tp0) = some (-1, mkX b (x.tp0.sAsk F)) ∧ fX4_areEight (some 106) (mkM b' n s m) = some (0, mkM b' n s m') ∧ Duo b (x.tp0.sAsk F) m' H C h c K) ∨
     (∃ F m' a, decide ((1 : Int32) ≤ n2 k ∧ n2 k ≤ 8) = true ∧ (n2 k = -1) = False ∧ fX1_takesSeats (some 64) 0 (n2 k) (some 96) 0 (mkX b x.tp0) = some (n2 k, mkX b (x.tp0.sAsk F)) ∧ fX4_areEight (some 106) (mkM b' n s m) = some (1, mkM b' n s m') ∧ Duo b (x.tp0.sAsk F) m' H C h c K ∧ Hnd (x.tp0.sAsk F) m' H k a)) := by
  obtain ⟨k, hk, k1, k2⟩ := R.len
  have h64 := R.ok.size
  refine ⟨k, k1, hk, ?_⟩
  have sz : (m.tk 940).r.size = n2 k := k2
  have hF : 20 < hcFuel := by unfold hcFuel; omega
  unfold fX4_areEight fX4_takesSeats bX4_areEight_36 fX1_takesSeats
  generalize hcFuel = fu at hF ⊢
  simp -implicitDefEqProofs only [Option.bind_some, bd_some, b2i_0, Bool.true_eq_false, Bool.false_eq_true, eq_self, if_true, if_false, not_true_eq_false, not_false_eq_true, ivM, M_taken, gM_58, sz, M_isIn]
  rcases (Bool.eq_false_or_eq_true (decide ((1 : Int32) ≤ n2 k ∧ n2 k ≤ 8))).symm with e | e
  · refine Or.inl ⟨m.tk 940, e, ?_, R.tk⟩
    simp -implicitDefEqProofs only [Option.bind_some, bd_some, b2i_0, Bool.true_eq_false, Bool.false_eq_true, eq_self, if_true, if_false, not_true_eq_false, not_false_eq_true, e]
  · obtain ⟨k', g1, g8, ek⟩ := in_true (l := 1) (u := 8) (by decide) (by decide) e
    rw [n2_eq (by omega) (by omega)] at ek
    subst ek
    have c14 : (n2 k - (0 : Int32) ≤ 14) = True := by rw [li_0, n2_sub (by omega), li_14, n2_le (by omega) (by omega)]; exact eq_true (by omega)
    obtain ⟨F, e1, J1⟩ := X_takesA (f0 := 0) (j0 := 0) (N := k) (tp := x.tape) R.hb R.XH R.ok (by omega) g8 k fu 0 x.tp0 (by omega) (by omega) rfl R.xh (fun u hu => absurd hu (Nat.not_lt_zero u))
    obtain ⟨G, q, e2, J2⟩ := M_takes (b' := b') (n := n) (s := s) (f0 := 0) (N := k) (tp := x.tape) R.ok (by omega) (by omega) k fu 0 ((m.tk 940).sAk (m.tk 940).c.asked 0) (by omega) (by omega) R.tape.symm R.MH rfl (fun u hu => absurd hu (Nat.not_lt_zero u)) (fun u hu => absurd hu (Nat.not_lt_zero u))
    simp -implicitDefEqProofs only [Nat.add_zero, Nat.zero_add, ← li_0, show ∀ g : Nat → Nat, hadS g 0 = 0 from fun _ => rfl, sAk_sAk] at e1 J1 e2 J2
    refine Or.inr ?_
    rcases (Bool.eq_false_or_eq_true (gdS H (fun u => octN (x.tape u)) 0 k)).symm with g | g
    · refine Or.inl ⟨F, ((m.tk 940).sAk G q), e, ?_, ?_, ((R.tk (v := 940)).ask (f := F) (g := G) (q := q))⟩
      · rw [e1, g, if_neg (by decide)]
      · simp -implicitDefEqProofs only [Option.bind_some, bd_some, b2i_0, Bool.true_eq_false, Bool.false_eq_true, eq_self, if_true, if_false, not_true_eq_false, not_false_eq_true, e, pM_102', c14, e2, g]
    · have mo : (n2 k = -1) = False := by rw [li_m1, ni_eq (by omega) (by omega) (by omega)]; exact eq_false (by omega)
      refine Or.inr ⟨F, ((m.tk 940).sAk G q), fun u => octN (x.tape u), e, mo, ?_, ?_, ((R.tk (v := 940)).ask (f := F) (g := G) (q := q)), g1, g8, ?_, (J2 g).2, (J2 g).1, ?_⟩
      · rw [e1, g, if_pos rfl]
      · simp -implicitDefEqProofs only [Option.bind_some, bd_some, b2i_0, Bool.true_eq_false, Bool.false_eq_true, eq_self, if_true, if_false, not_true_eq_false, not_false_eq_true, e, pM_102', c14, e2, g]
      · exact J1 g
      · intro u hu
        exact isS_lt (gdS_seat g u (by omega) (by omega))
end Hands
