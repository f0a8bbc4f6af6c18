set_option linter.unusedVariables false
set_option linter.unusedSimpArgs false
/-! ===== conditions: what a law says, in both forms ===== -/
/-- a condition: neg is 'not', add is 'and', sub is 'or', var w a comparison, w as the model writes it -/
abbrev Cd : Type := Int.Internal.Linear.Expr
def lk (w : Nat) : Nat := w % 8
def la (w : Nat) : Nat := w / 8 % 8
def ll (w : Nat) : Nat := w / 64 % 4
def ls (w : Nat) : Nat := w / 256 % 4
def lnum (w : Nat) : Nat := w / 1024
def leafOk (w : Nat) : Prop := w < 1024000 ∧ lk w < 3 ∧ la w < 6 ∧ (lk w = 0 → ll w = 1 ∨ ll w = 2) ∧ ls w < 3
def b2i (p : Bool) : Int32 := if p then 1 else 0
theorem b2i_0 (p : Bool) : (b2i p = 0) = (p = false) := by cases p <;> decide
theorem b2i_1 (p : Bool) : (b2i p = 1) = (p = true) := by cases p <;> decide
theorem nz_b2i (p : Bool) : nz (b2i p) = b2i p := by cases p <;> decide
def cmpS (sign : Nat) (x y : Int32) : Bool := if sign = 0 then decide (x < y) else if sign = 1 then decide (x = y) else decide (y < x)
def leafV (ar : Nat → Int64) (v1 v2 : Int64) (own since : Int32) (w : Nat) : Int32 := if lk w = 1 then own else if lk w = 2 then since else pc (ar (la w) &&& (if ll w = 1 then v1 else v2))
def cev (ar : Nat → Int64) (v1 v2 : Int64) (own since : Int32) : Cd → Bool
  | .neg a => !cev ar v1 v2 own since a
  | .add a b => cev ar v1 v2 own since a && cev ar v1 v2 own since b
  | .sub a b => cev ar v1 v2 own since a || cev ar v1 v2 own since b
  | .var w => cmpS (ls w) (leafV ar v1 v2 own since w) (n2 (lnum w))
  | .num _ => false
  | .mulL _ _ => false
  | .mulR _ _ => false
def cdep : Cd → Nat
  | .neg a => cdep a + 1
  | .add a b => max (cdep a) (cdep b) + 1
  | .sub a b => max (cdep a) (cdep b) + 1
  | _ => 1
def clvs : Cd → Nat
  | .neg a => clvs a
  | .add a b => clvs a + clvs b
  | .sub a b => clvs a + clvs b
  | _ => 1
theorem clvs_pos : ∀ c : Cd, 0 < clvs c
  | .neg a => clvs_pos a
  | .add a b => Nat.add_pos_left (clvs_pos a) _
  | .sub a b => Nat.add_pos_left (clvs_pos a) _
  | .var _ => Nat.one_pos
  | .num _ => Nat.one_pos
  | .mulL _ _ => Nat.one_pos
  | .mulR _ _ => Nat.one_pos
/-- the model's code of a condition -/
def Post : Cd → List Int32 → Prop
  | .neg a, l => ∃ k, Post a k ∧ l = k ++ [3]
  | .add a b, l => ∃ k j, Post a k ∧ Post b j ∧ l = k ++ j ++ [4]
  | .sub a b, l => ∃ k j, Post a k ∧ Post b j ∧ l = k ++ j ++ [5]
  | .var w, l => leafOk w ∧ l = [n2 w]
  | .num _, _ => False
  | .mulL _ _, _ => False
  | .mulR _ _, _ => False
theorem shrI_n2 {w k : Nat} (hw : w < 2147483648) (hk : k < 32) : shrI (n2 w) (n2 k) = n2 (w / 2 ^ k) := by
  unfold shrI
  have e1 : (n2 k &&& (31 : Int32)) = n2 k := by
    have : ∀ k : Nat, k < 32 → (n2 k &&& (31 : Int32)) = n2 k := by decide
    exact this k hk
  rw [e1]
  refine Int32.toBitVec.inj ?_
  rw [Int32.toBitVec_shiftRight]
  have e2 : (((n2 k).toBitVec).smod 32).toNat = k := by
    have : ∀ k : Nat, k < 32 → (((n2 k).toBitVec).smod 32).toNat = k := by decide
    exact this k hk
  rw [BitVec.sshiftRight_eq', e2]
  have ew : (n2 w).toBitVec = BitVec.ofNat 32 w := rfl
  have m1 : (BitVec.ofNat 32 w).msb = false := by rw [BitVec.msb_eq_decide, BitVec.toNat_ofNat]; simp; omega
  rw [ew, BitVec.sshiftRight_eq_of_msb_false m1]
  refine BitVec.eq_of_toNat_eq ?_
  rw [BitVec.toNat_ushiftRight, BitVec.toNat_ofNat, Nat.shiftRight_eq_div_pow]
  show w % 2 ^ 32 / 2 ^ k = (w / 2 ^ k) % 2 ^ 32
  have : w / 2 ^ k ≤ w := Nat.div_le_self _ _
  rw [Nat.mod_eq_of_lt (show w < 2 ^ 32 by omega), Nat.mod_eq_of_lt (show w / 2 ^ k < 2 ^ 32 by omega)]
theorem and_n2 {w k : Nat} (hw : w < 2147483648) (hk : k < 31) : n2 w &&& n2 (2 ^ k - 1) = n2 (w % 2 ^ k) := by
  refine Int32.toBitVec.inj (BitVec.eq_of_toNat_eq ?_)
  rw [Int32.toBitVec_and, BitVec.toNat_and]
  show (w % 2 ^ 32) &&& ((2 ^ k - 1) % 2 ^ 32) = (w % 2 ^ k) % 2 ^ 32
  have : 2 ^ k ≤ 2 ^ 30 := Nat.pow_le_pow_right (by decide) (by omega)
  have h30 : (2 : Nat) ^ 30 = 1073741824 := rfl
  have h32 : (2 : Nat) ^ 32 = 4294967296 := rfl
  have hp : 0 < 2 ^ k := Nat.two_pow_pos k
  have hm := Nat.mod_lt w hp
  rw [Nat.mod_eq_of_lt (show w < 2 ^ 32 by omega), Nat.mod_eq_of_lt (show 2 ^ k - 1 < 2 ^ 32 by omega), Nat.and_two_pow_sub_one_eq_mod, Nat.mod_eq_of_lt (show w % 2 ^ k < 2 ^ 32 by omega)]
theorem code7 {w : Nat} (h : w < 1024000) : n2 w &&& (7 : Int32) = n2 (lk w) := and_n2 (k := 3) (by omega) (by decide)
theorem code3 {w : Nat} (h : w < 1024000) : shrI (n2 w) (3 : Int32) &&& (7 : Int32) = n2 (la w) := by
  rw [show (3 : Int32) = n2 3 from rfl, shrI_n2 (by omega) (by decide)]
  exact and_n2 (k := 3) (by omega) (by decide)
theorem code6 {w : Nat} (h : w < 1024000) : shrI (n2 w) (6 : Int32) &&& (3 : Int32) = n2 (ll w) := by
  rw [show (6 : Int32) = n2 6 from rfl, shrI_n2 (by omega) (by decide)]
  exact and_n2 (k := 2) (by omega) (by decide)
theorem code8 {w : Nat} (h : w < 1024000) : shrI (n2 w) (8 : Int32) &&& (3 : Int32) = n2 (ls w) := by
  rw [show (8 : Int32) = n2 8 from rfl, shrI_n2 (by omega) (by decide)]
  exact and_n2 (k := 2) (by omega) (by decide)
theorem code10 {w : Nat} (h : w < 1024000) : shrI (n2 w) (10 : Int32) = n2 (lnum w) := by
  rw [show (10 : Int32) = n2 10 from rfl, shrI_n2 (by omega) (by decide)]; rfl
section IsLaw
variable {b : Mem} {n s : Nat}
theorem isLaw_leaf {kk : Rf → Int32 → Int32 → Int64 → Int64 → Int32 → Int32 → Int32 → Int32 → Mem → Option (Int32 × Mem)} {v1 v2 : Int32} {v3 v5 : Int64} {v7 v8 : Int32} {h k sign : Nat} {num w x : Int32} {m : MS} (hs : sign < 3) (h8 : (shrI w 8) &&& 3 = n2 sign) (h10 : shrI w 10 = num) (hh : h < 64) :
    bX4_isLaw_224 kk (some 106) v1 v2 v3 v5 v7 v8 (n2 h) (n2 k) w x (mkM b n s m) = kk (some 106) v1 v2 v3 v5 v7 v8 (n2 (h + 1)) (n2 (k + 1)) (mkM b n s (MS.mk (m.thrown) (m.length) (m.seatsPaid) (m.seatsHiss) (m.lays) (m.arranged) (m.tape) (m.s) (m.area) (m.kept) (m.keptPaid) (m.keptHiss) (m.isKept) (m.r) (m.h) ((MN.mk (m.n.paidNow) (m.n.hissNow) (m.n.clapping) (m.n.standing) (m.n.low) (m.n.high) (m.n.gone) (m.n.cueNext) (m.n.nightHeight) (m.n.nightCarries) (upq m.n.held h (b2i (cmpS sign x num))) (m.n.claps) (m.n.stand) (m.n.heldLow) (m.n.heldHigh))) (m.c))) := by
  unfold bX4_isLaw_224 bX4_isLaw_301 bX4_isLaw_305
  have e1 : n2 h + 1 = n2 (h + 1) := n2_add h 1
  have e2 : n2 k + 1 = n2 (k + 1) := n2_add k 1
  have eh : (n2 h).toNatClampNeg = h := n2_nat (by omega)
  have n0 : nz (0 : Int32) = 0 := by decide
  have n1 : nz (1 : Int32) = 1 := by decide
  simp -implicitDefEqProofs only [gM_55, gM_57, gM_58, gM_59, gM_60, gM_64, gM_65, gM_66, gM_67, gM_68, gM_69, gM_70, gM_71, gM_72, gM_73, gM_74, gM_75, gM_76, gM_77, gM_81, gM_82, gM_83, gM_85, gM_86, gM_91, gM_92, gM_93, gM_94, gM_95, gM_96, gM_97, gM_98, gM_99, gM_100, gM_102, gM_103, gM_107, gM_108, gM_110, gM_111, gM_112, gM_113, gM_114, gM_115, gM_118, gM_119, gM_56, aM_107, nM_107, gM_61, aM_108, nM_108, gM_62, aM_109, nM_109, gM_63, aM_110, nM_110, gM_78, aM_111, nM_111, gM_79, aM_112, nM_112, gM_80, aM_113, nM_113, gM_84, aM_114, nM_114, gM_87, aM_115, nM_115, gM_88, aM_116, nM_116, gM_89, aM_117, nM_117, gM_90, aM_118, nM_118, gM_101, aM_119, nM_119, gM_104, aM_120, nM_120, gM_105, aM_121, nM_121, gM_106, aM_122, nM_122, gM_109, aM_123, nM_123, gM_116, aM_124, nM_124, gM_117, aM_125, nM_125, gM_120, aM_126, nM_126, gM_121, aM_127, nM_127, gM_122, aM_128, nM_128, gM_123, aM_129, nM_129, pM_55, pM_57, pM_58, pM_59, pM_60, pM_64, pM_65, pM_66, pM_67, pM_68, pM_69, pM_70, pM_71, pM_72, pM_73, pM_74, pM_75, pM_76, pM_77, pM_81, pM_82, pM_83, pM_85, pM_86, pM_91, pM_92, pM_93, pM_94, pM_95, pM_96, pM_97, pM_98, pM_99, pM_100, pM_102, pM_103, pM_107, pM_108, pM_110, pM_111, pM_112, pM_113, pM_114, pM_115, pM_118, pM_119, uM_107, uM_108, uM_109, uM_110, uM_111, uM_112, uM_113, uM_114, uM_115, uM_116, uM_117, uM_118, uM_119, uM_120, uM_121, uM_122, uM_123, uM_124, uM_125, uM_126, uM_127, uM_128, uM_129, ivM, Option.bind_some, bd_some, mk_MS_thrown, mk_MS_length, mk_MS_seatsPaid, mk_MS_seatsHiss, mk_MS_lays, mk_MS_arranged, mk_MS_tape, mk_MS_s, mk_MS_area, mk_MS_kept, mk_MS_keptPaid, mk_MS_keptHiss, mk_MS_isKept, mk_MS_r, mk_MS_h, mk_MS_n, mk_MS_c, mk_MR_size, mk_MR_p, mk_MR_limit, mk_MR_token, mk_MR_place, mk_MR_span, mk_MR_number, mk_MR_fault, mk_MR_faultAt, mk_MR_word, mk_MR_got, mk_MH_lines, mk_MH_prices, mk_MH_leavings, mk_MH_onces, mk_MH_codeMany, mk_MH_pileMany, mk_MH_ones, mk_MH_coming, mk_MH_hh, mk_MH_newCues, mk_MH_code, mk_MH_pile, mk_MN_paidNow, mk_MN_hissNow, mk_MN_clapping, mk_MN_standing, mk_MN_low, mk_MN_high, mk_MN_gone, mk_MN_cueNext, mk_MN_nightHeight, mk_MN_nightCarries, mk_MN_held, mk_MN_claps, mk_MN_stand, mk_MN_heldLow, mk_MN_heldHigh, mk_MC_askedMany, mk_MC_bought, mk_MC_worthMany, mk_MC_allOrders, mk_MC_hasSides, mk_MC_seenClaps, mk_MC_seenStand, mk_MC_seenAll, mk_MC_beganA, mk_MC_beganB, mk_MC_seed, mk_MC_asked, mk_MC_carried, mk_MC_heights, mk_MC_worths, mk_MC_side, mk_MC_otherClaps, mk_MC_otherStand, h8, h10, ifx_n2 hh (show 64 ≤ 100000 by decide), e1, e2, eh, n0, n1]
  match sign, hs with
  | 0, _ =>
    simp only [show ¬ ¬ n2 0 = (0 : Int32) from fun h => h rfl, if_false, cmpS, if_true]
    by_cases c : num ≤ x
    · rw [if_pos c, show decide (x < num) = false from decide_eq_false (Int32.not_lt.mpr c)]; rfl
    · rw [if_neg c, show decide (x < num) = true from decide_eq_true (Int32.not_le.mp c)]; rfl
  | 1, _ =>
    simp only [show ¬ n2 1 = (0 : Int32) from by decide, show ¬ ¬ n2 1 = (1 : Int32) from fun h => h rfl, if_false, if_true, cmpS, not_false_eq_true, show ¬ (1 : Nat) = 0 from by decide]
    by_cases c : x = num
    · rw [if_neg (fun h => h c), show decide (x = num) = true from decide_eq_true c]; rfl
    · rw [if_pos c, show decide (x = num) = false from decide_eq_false c]; rfl
  | 2, _ =>
    simp only [show ¬ n2 2 = (0 : Int32) from by decide, show ¬ n2 2 = (1 : Int32) from by decide, if_false, if_true, cmpS, not_false_eq_true, show ¬ (2 : Nat) = 0 from by decide, show ¬ (2 : Nat) = 1 from by decide]
    by_cases c : x ≤ num
    · rw [if_pos c, show decide (num < x) = false from decide_eq_false (Int32.not_lt.mpr c)]; rfl
    · rw [if_neg c, show decide (num < x) = true from decide_eq_true (Int32.not_le.mp c)]; rfl
section Ops
variable {kk : Rf → Int32 → Int32 → Int64 → Int64 → Int32 → Int32 → Int32 → Int32 → Mem → Option (Int32 × Mem)} {one two : Int64} {own since : Int32} {from_ v len h k : Nat} {m : MS}
theorem isLaw_fetch (hl : from_ + 2 + len ≤ 681) (h1 : m.s (from_ + 1) = n2 len) (hk : k < len) {w : Int32} (hw : m.s (from_ + 2 + k) = w) {z : Option (Int32 × Mem)}
    (hz : (if ¬ (w &&& (7 : Int32)) = (3 : Int32) then
      if (w &&& (7 : Int32)) = (4 : Int32) then bX4_isLaw_86 kk (some 106) (n2 from_) (n2 v) one two own since (n2 h) (n2 k) (w &&& (7 : Int32)) (mkM b n s m)
      else
        if ¬ (w &&& (7 : Int32)) = (5 : Int32) then
          if ¬ (w &&& (7 : Int32)) = (1 : Int32) then
            if ¬ (w &&& (7 : Int32)) = (2 : Int32) then
              (ifx 384 (((6 : Int32) * n2 v) + ((shrI w (3 : Int32)) &&& (7 : Int32))) (m.area (((6 : Int32) * n2 v) + ((shrI w (3 : Int32)) &&& (7 : Int32))).toNatClampNeg)).bind fun x202 =>
              if ¬ ((shrI w (6 : Int32)) &&& (3 : Int32)) = (1 : Int32) then
                bX4_isLaw_220 kk (some 106) (n2 from_) (n2 v) one two own since (n2 h) (n2 k) w x202 two (mkM b n s m)
              else
                bX4_isLaw_220 kk (some 106) (n2 from_) (n2 v) one two own since (n2 h) (n2 k) w x202 one (mkM b n s m)
            else bX4_isLaw_224 kk (some 106) (n2 from_) (n2 v) one two own since (n2 h) (n2 k) w since (mkM b n s m)
          else bX4_isLaw_224 kk (some 106) (n2 from_) (n2 v) one two own since (n2 h) (n2 k) w own (mkM b n s m)
        else bX4_isLaw_86 kk (some 106) (n2 from_) (n2 v) one two own since (n2 h) (n2 k) (w &&& (7 : Int32)) (mkM b n s m)
    else
      (ifx 64 (n2 h - 1) (m.n.held (n2 h - 1).toNatClampNeg)).bind fun x61 =>
      if ¬ x61 = 0 then bX4_isLaw_70 kk (some 106) (n2 from_) (n2 v) one two own since (n2 h) (n2 k) (some 113) (n2 h - (1 : Int32)) (0 : Int32) (mkM b n s m)
      else bX4_isLaw_70 kk (some 106) (n2 from_) (n2 v) one two own since (n2 h) (n2 k) (some 113) (n2 h - (1 : Int32)) (1 : Int32) (mkM b n s m)) = z) :
    bX4_isLaw_6B kk (some 106) (n2 from_) (n2 v) one two own since (n2 h) (n2 k) (mkM b n s m) = z := by
  rw [← hz]
  unfold bX4_isLaw_6B
  have x1 : n2 from_ + (1 : Int32) = n2 (from_ + 1) := n2_add _ 1
  have x2 : n2 from_ + (2 : Int32) + n2 k = n2 (from_ + 2 + k) := by rw [show (2 : Int32) = n2 2 from rfl, n2_add, n2_add]
  have y1 : (n2 (from_ + 1)).toNatClampNeg = from_ + 1 := n2_nat (by omega)
  have y2 : (n2 (from_ + 2 + k)).toNatClampNeg = from_ + 2 + k := n2_nat (by omega)
  simp -implicitDefEqProofs only [gM_55, gM_57, gM_58, gM_59, gM_60, gM_64, gM_65, gM_66, gM_67, gM_68, gM_69, gM_70, gM_71, gM_72, gM_73, gM_74, gM_75, gM_76, gM_77, gM_81, gM_82, gM_83, gM_85, gM_86, gM_91, gM_92, gM_93, gM_94, gM_95, gM_96, gM_97, gM_98, gM_99, gM_100, gM_102, gM_103, gM_107, gM_108, gM_110, gM_111, gM_112, gM_113, gM_114, gM_115, gM_118, gM_119, gM_56, aM_107, nM_107, gM_61, aM_108, nM_108, gM_62, aM_109, nM_109, gM_63, aM_110, nM_110, gM_78, aM_111, nM_111, gM_79, aM_112, nM_112, gM_80, aM_113, nM_113, gM_84, aM_114, nM_114, gM_87, aM_115, nM_115, gM_88, aM_116, nM_116, gM_89, aM_117, nM_117, gM_90, aM_118, nM_118, gM_101, aM_119, nM_119, gM_104, aM_120, nM_120, gM_105, aM_121, nM_121, gM_106, aM_122, nM_122, gM_109, aM_123, nM_123, gM_116, aM_124, nM_124, gM_117, aM_125, nM_125, gM_120, aM_126, nM_126, gM_121, aM_127, nM_127, gM_122, aM_128, nM_128, gM_123, aM_129, nM_129, pM_55, pM_57, pM_58, pM_59, pM_60, pM_64, pM_65, pM_66, pM_67, pM_68, pM_69, pM_70, pM_71, pM_72, pM_73, pM_74, pM_75, pM_76, pM_77, pM_81, pM_82, pM_83, pM_85, pM_86, pM_91, pM_92, pM_93, pM_94, pM_95, pM_96, pM_97, pM_98, pM_99, pM_100, pM_102, pM_103, pM_107, pM_108, pM_110, pM_111, pM_112, pM_113, pM_114, pM_115, pM_118, pM_119, uM_107, uM_108, uM_109, uM_110, uM_111, uM_112, uM_113, uM_114, uM_115, uM_116, uM_117, uM_118, uM_119, uM_120, uM_121, uM_122, uM_123, uM_124, uM_125, uM_126, uM_127, uM_128, uM_129, ivM, Option.bind_some, bd_some, mk_MS_thrown, mk_MS_length, mk_MS_seatsPaid, mk_MS_seatsHiss, mk_MS_lays, mk_MS_arranged, mk_MS_tape, mk_MS_s, mk_MS_area, mk_MS_kept, mk_MS_keptPaid, mk_MS_keptHiss, mk_MS_isKept, mk_MS_r, mk_MS_h, mk_MS_n, mk_MS_c, mk_MR_size, mk_MR_p, mk_MR_limit, mk_MR_token, mk_MR_place, mk_MR_span, mk_MR_number, mk_MR_fault, mk_MR_faultAt, mk_MR_word, mk_MR_got, mk_MH_lines, mk_MH_prices, mk_MH_leavings, mk_MH_onces, mk_MH_codeMany, mk_MH_pileMany, mk_MH_ones, mk_MH_coming, mk_MH_hh, mk_MH_newCues, mk_MH_code, mk_MH_pile, mk_MN_paidNow, mk_MN_hissNow, mk_MN_clapping, mk_MN_standing, mk_MN_low, mk_MN_high, mk_MN_gone, mk_MN_cueNext, mk_MN_nightHeight, mk_MN_nightCarries, mk_MN_held, mk_MN_claps, mk_MN_stand, mk_MN_heldLow, mk_MN_heldHigh, mk_MC_askedMany, mk_MC_bought, mk_MC_worthMany, mk_MC_allOrders, mk_MC_hasSides, mk_MC_seenClaps, mk_MC_seenStand, mk_MC_seenAll, mk_MC_beganA, mk_MC_beganB, mk_MC_seed, mk_MC_asked, mk_MC_carried, mk_MC_heights, mk_MC_worths, mk_MC_side, mk_MC_otherClaps, mk_MC_otherStand, x1, x2, ifx_n2 (show from_ + 1 < 681 by omega) (show 681 ≤ 100000 by decide), ifx_n2 (show from_ + 2 + k < 681 by omega) (show 681 ≤ 100000 by decide), y1, y2, h1, hw, n2_le (show len < 2147483648 by omega) (show k < 2147483648 by omega), show ¬ len ≤ k from by omega, if_false]
theorem isLaw_3 (hl : from_ + 2 + len ≤ 681) (h1 : m.s (from_ + 1) = n2 len) (hk : k < len) (hw : m.s (from_ + 2 + k) = 3) (hh : h < 64) {p : Bool} (hp : m.n.held h = b2i p) :
    bX4_isLaw_6B kk (some 106) (n2 from_) (n2 v) one two own since (n2 (h + 1)) (n2 k) (mkM b n s m) = kk (some 106) (n2 from_) (n2 v) one two own since (n2 (h + 1)) (n2 (k + 1)) (mkM b n s (MS.mk (m.thrown) (m.length) (m.seatsPaid) (m.seatsHiss) (m.lays) (m.arranged) (m.tape) (m.s) (m.area) (m.kept) (m.keptPaid) (m.keptHiss) (m.isKept) (m.r) (m.h) ((MN.mk (m.n.paidNow) (m.n.hissNow) (m.n.clapping) (m.n.standing) (m.n.low) (m.n.high) (m.n.gone) (m.n.cueNext) (m.n.nightHeight) (m.n.nightCarries) (upq m.n.held h (b2i (!p))) (m.n.claps) (m.n.stand) (m.n.heldLow) (m.n.heldHigh))) (m.c))) := by
  refine isLaw_fetch hl h1 hk hw ?_
  have x3 : n2 (h + 1) - (1 : Int32) = n2 h := n2_sub (a := h + 1) (b := 1) (by omega)
  have y3 : (n2 h).toNatClampNeg = h := n2_nat (by omega)
  have x4 : n2 k + 1 = n2 (k + 1) := n2_add _ 1
  rw [if_neg (by decide), x3, y3, hp, ifx_n2 hh (by decide)]
  unfold bX4_isLaw_70 bX4_isLaw_305
  simp -implicitDefEqProofs only [gM_55, gM_57, gM_58, gM_59, gM_60, gM_64, gM_65, gM_66, gM_67, gM_68, gM_69, gM_70, gM_71, gM_72, gM_73, gM_74, gM_75, gM_76, gM_77, gM_81, gM_82, gM_83, gM_85, gM_86, gM_91, gM_92, gM_93, gM_94, gM_95, gM_96, gM_97, gM_98, gM_99, gM_100, gM_102, gM_103, gM_107, gM_108, gM_110, gM_111, gM_112, gM_113, gM_114, gM_115, gM_118, gM_119, gM_56, aM_107, nM_107, gM_61, aM_108, nM_108, gM_62, aM_109, nM_109, gM_63, aM_110, nM_110, gM_78, aM_111, nM_111, gM_79, aM_112, nM_112, gM_80, aM_113, nM_113, gM_84, aM_114, nM_114, gM_87, aM_115, nM_115, gM_88, aM_116, nM_116, gM_89, aM_117, nM_117, gM_90, aM_118, nM_118, gM_101, aM_119, nM_119, gM_104, aM_120, nM_120, gM_105, aM_121, nM_121, gM_106, aM_122, nM_122, gM_109, aM_123, nM_123, gM_116, aM_124, nM_124, gM_117, aM_125, nM_125, gM_120, aM_126, nM_126, gM_121, aM_127, nM_127, gM_122, aM_128, nM_128, gM_123, aM_129, nM_129, pM_55, pM_57, pM_58, pM_59, pM_60, pM_64, pM_65, pM_66, pM_67, pM_68, pM_69, pM_70, pM_71, pM_72, pM_73, pM_74, pM_75, pM_76, pM_77, pM_81, pM_82, pM_83, pM_85, pM_86, pM_91, pM_92, pM_93, pM_94, pM_95, pM_96, pM_97, pM_98, pM_99, pM_100, pM_102, pM_103, pM_107, pM_108, pM_110, pM_111, pM_112, pM_113, pM_114, pM_115, pM_118, pM_119, uM_107, uM_108, uM_109, uM_110, uM_111, uM_112, uM_113, uM_114, uM_115, uM_116, uM_117, uM_118, uM_119, uM_120, uM_121, uM_122, uM_123, uM_124, uM_125, uM_126, uM_127, uM_128, uM_129, ivM, Option.bind_some, bd_some, mk_MS_thrown, mk_MS_length, mk_MS_seatsPaid, mk_MS_seatsHiss, mk_MS_lays, mk_MS_arranged, mk_MS_tape, mk_MS_s, mk_MS_area, mk_MS_kept, mk_MS_keptPaid, mk_MS_keptHiss, mk_MS_isKept, mk_MS_r, mk_MS_h, mk_MS_n, mk_MS_c, mk_MR_size, mk_MR_p, mk_MR_limit, mk_MR_token, mk_MR_place, mk_MR_span, mk_MR_number, mk_MR_fault, mk_MR_faultAt, mk_MR_word, mk_MR_got, mk_MH_lines, mk_MH_prices, mk_MH_leavings, mk_MH_onces, mk_MH_codeMany, mk_MH_pileMany, mk_MH_ones, mk_MH_coming, mk_MH_hh, mk_MH_newCues, mk_MH_code, mk_MH_pile, mk_MN_paidNow, mk_MN_hissNow, mk_MN_clapping, mk_MN_standing, mk_MN_low, mk_MN_high, mk_MN_gone, mk_MN_cueNext, mk_MN_nightHeight, mk_MN_nightCarries, mk_MN_held, mk_MN_claps, mk_MN_stand, mk_MN_heldLow, mk_MN_heldHigh, mk_MC_askedMany, mk_MC_bought, mk_MC_worthMany, mk_MC_allOrders, mk_MC_hasSides, mk_MC_seenClaps, mk_MC_seenStand, mk_MC_seenAll, mk_MC_beganA, mk_MC_beganB, mk_MC_seed, mk_MC_asked, mk_MC_carried, mk_MC_heights, mk_MC_worths, mk_MC_side, mk_MC_otherClaps, mk_MC_otherStand, ifx_n2 hh (show 64 ≤ 100000 by decide), y3, x4]
  cases p
  · rw [if_neg (by decide)]; rfl
  · rw [if_pos (by decide)]; rfl
theorem isLaw_45 {w : Int32} (hl : from_ + 2 + len ≤ 681) (h1 : m.s (from_ + 1) = n2 len) (hk : k < len) (hw : m.s (from_ + 2 + k) = w) (h45 : w = 4 ∨ w = 5) (hh : h + 1 < 64) {p q : Bool} (hp : m.n.held h = b2i p) (hq : m.n.held (h + 1) = b2i q) :
    bX4_isLaw_6B kk (some 106) (n2 from_) (n2 v) one two own since (n2 (h + 2)) (n2 k) (mkM b n s m) = kk (some 106) (n2 from_) (n2 v) one two own since (n2 (h + 1)) (n2 (k + 1)) (mkM b n s (MS.mk (m.thrown) (m.length) (m.seatsPaid) (m.seatsHiss) (m.lays) (m.arranged) (m.tape) (m.s) (m.area) (m.kept) (m.keptPaid) (m.keptHiss) (m.isKept) (m.r) (m.h) ((MN.mk (m.n.paidNow) (m.n.hissNow) (m.n.clapping) (m.n.standing) (m.n.low) (m.n.high) (m.n.gone) (m.n.cueNext) (m.n.nightHeight) (m.n.nightCarries) (upq m.n.held h (b2i (if w = 4 then p && q else p || q))) (m.n.claps) (m.n.stand) (m.n.heldLow) (m.n.heldHigh))) (m.c))) := by
  refine isLaw_fetch hl h1 hk hw ?_
  have x3 : n2 (h + 2) + (-1 : Int32) = n2 (h + 1) := by
    show n2 (h + 2) + (i2 (-1)) = _
    rw [n2_i2, i2_add, n2_i2]; congr 1; omega
  have x3b : n2 (h + 1) - (1 : Int32) = n2 h := n2_sub (a := h + 1) (b := 1) (by omega)
  have y3 : (n2 h).toNatClampNeg = h := n2_nat (by omega)
  have y3b : (n2 (h + 1)).toNatClampNeg = h + 1 := n2_nat (by omega)
  have x4 : n2 k + 1 = n2 (k + 1) := n2_add _ 1
  have hz : h < 64 := by omega
  rcases h45 with rfl | rfl
  · rw [if_pos (by decide), if_pos (by decide), if_pos rfl]
    unfold bX4_isLaw_86 bX4_isLaw_155 bX4_isLaw_129 bX4_isLaw_160 bX4_isLaw_305
    simp -implicitDefEqProofs only [gM_55, gM_57, gM_58, gM_59, gM_60, gM_64, gM_65, gM_66, gM_67, gM_68, gM_69, gM_70, gM_71, gM_72, gM_73, gM_74, gM_75, gM_76, gM_77, gM_81, gM_82, gM_83, gM_85, gM_86, gM_91, gM_92, gM_93, gM_94, gM_95, gM_96, gM_97, gM_98, gM_99, gM_100, gM_102, gM_103, gM_107, gM_108, gM_110, gM_111, gM_112, gM_113, gM_114, gM_115, gM_118, gM_119, gM_56, aM_107, nM_107, gM_61, aM_108, nM_108, gM_62, aM_109, nM_109, gM_63, aM_110, nM_110, gM_78, aM_111, nM_111, gM_79, aM_112, nM_112, gM_80, aM_113, nM_113, gM_84, aM_114, nM_114, gM_87, aM_115, nM_115, gM_88, aM_116, nM_116, gM_89, aM_117, nM_117, gM_90, aM_118, nM_118, gM_101, aM_119, nM_119, gM_104, aM_120, nM_120, gM_105, aM_121, nM_121, gM_106, aM_122, nM_122, gM_109, aM_123, nM_123, gM_116, aM_124, nM_124, gM_117, aM_125, nM_125, gM_120, aM_126, nM_126, gM_121, aM_127, nM_127, gM_122, aM_128, nM_128, gM_123, aM_129, nM_129, pM_55, pM_57, pM_58, pM_59, pM_60, pM_64, pM_65, pM_66, pM_67, pM_68, pM_69, pM_70, pM_71, pM_72, pM_73, pM_74, pM_75, pM_76, pM_77, pM_81, pM_82, pM_83, pM_85, pM_86, pM_91, pM_92, pM_93, pM_94, pM_95, pM_96, pM_97, pM_98, pM_99, pM_100, pM_102, pM_103, pM_107, pM_108, pM_110, pM_111, pM_112, pM_113, pM_114, pM_115, pM_118, pM_119, uM_107, uM_108, uM_109, uM_110, uM_111, uM_112, uM_113, uM_114, uM_115, uM_116, uM_117, uM_118, uM_119, uM_120, uM_121, uM_122, uM_123, uM_124, uM_125, uM_126, uM_127, uM_128, uM_129, ivM, Option.bind_some, bd_some, mk_MS_thrown, mk_MS_length, mk_MS_seatsPaid, mk_MS_seatsHiss, mk_MS_lays, mk_MS_arranged, mk_MS_tape, mk_MS_s, mk_MS_area, mk_MS_kept, mk_MS_keptPaid, mk_MS_keptHiss, mk_MS_isKept, mk_MS_r, mk_MS_h, mk_MS_n, mk_MS_c, mk_MR_size, mk_MR_p, mk_MR_limit, mk_MR_token, mk_MR_place, mk_MR_span, mk_MR_number, mk_MR_fault, mk_MR_faultAt, mk_MR_word, mk_MR_got, mk_MH_lines, mk_MH_prices, mk_MH_leavings, mk_MH_onces, mk_MH_codeMany, mk_MH_pileMany, mk_MH_ones, mk_MH_coming, mk_MH_hh, mk_MH_newCues, mk_MH_code, mk_MH_pile, mk_MN_paidNow, mk_MN_hissNow, mk_MN_clapping, mk_MN_standing, mk_MN_low, mk_MN_high, mk_MN_gone, mk_MN_cueNext, mk_MN_nightHeight, mk_MN_nightCarries, mk_MN_held, mk_MN_claps, mk_MN_stand, mk_MN_heldLow, mk_MN_heldHigh, mk_MC_askedMany, mk_MC_bought, mk_MC_worthMany, mk_MC_allOrders, mk_MC_hasSides, mk_MC_seenClaps, mk_MC_seenStand, mk_MC_seenAll, mk_MC_beganA, mk_MC_beganB, mk_MC_seed, mk_MC_asked, mk_MC_carried, mk_MC_heights, mk_MC_worths, mk_MC_side, mk_MC_otherClaps, mk_MC_otherStand, eq_false (show ¬ ¬ ((4 : Int32) &&& (7 : Int32)) = (4 : Int32) by decide), if_false, x3, x3b, y3, y3b, hp, hq, x4, ifx_n2 hz (show 64 ≤ 100000 by decide), ifx_n2 hh (show 64 ≤ 100000 by decide)]
    cases p <;> cases q <;> rfl
  · rw [if_pos (by decide), if_neg (by decide), if_neg (by decide), if_neg (by decide)]
    unfold bX4_isLaw_86 bX4_isLaw_155 bX4_isLaw_129 bX4_isLaw_160 bX4_isLaw_305
    simp -implicitDefEqProofs only [gM_55, gM_57, gM_58, gM_59, gM_60, gM_64, gM_65, gM_66, gM_67, gM_68, gM_69, gM_70, gM_71, gM_72, gM_73, gM_74, gM_75, gM_76, gM_77, gM_81, gM_82, gM_83, gM_85, gM_86, gM_91, gM_92, gM_93, gM_94, gM_95, gM_96, gM_97, gM_98, gM_99, gM_100, gM_102, gM_103, gM_107, gM_108, gM_110, gM_111, gM_112, gM_113, gM_114, gM_115, gM_118, gM_119, gM_56, aM_107, nM_107, gM_61, aM_108, nM_108, gM_62, aM_109, nM_109, gM_63, aM_110, nM_110, gM_78, aM_111, nM_111, gM_79, aM_112, nM_112, gM_80, aM_113, nM_113, gM_84, aM_114, nM_114, gM_87, aM_115, nM_115, gM_88, aM_116, nM_116, gM_89, aM_117, nM_117, gM_90, aM_118, nM_118, gM_101, aM_119, nM_119, gM_104, aM_120, nM_120, gM_105, aM_121, nM_121, gM_106, aM_122, nM_122, gM_109, aM_123, nM_123, gM_116, aM_124, nM_124, gM_117, aM_125, nM_125, gM_120, aM_126, nM_126, gM_121, aM_127, nM_127, gM_122, aM_128, nM_128, gM_123, aM_129, nM_129, pM_55, pM_57, pM_58, pM_59, pM_60, pM_64, pM_65, pM_66, pM_67, pM_68, pM_69, pM_70, pM_71, pM_72, pM_73, pM_74, pM_75, pM_76, pM_77, pM_81, pM_82, pM_83, pM_85, pM_86, pM_91, pM_92, pM_93, pM_94, pM_95, pM_96, pM_97, pM_98, pM_99, pM_100, pM_102, pM_103, pM_107, pM_108, pM_110, pM_111, pM_112, pM_113, pM_114, pM_115, pM_118, pM_119, uM_107, uM_108, uM_109, uM_110, uM_111, uM_112, uM_113, uM_114, uM_115, uM_116, uM_117, uM_118, uM_119, uM_120, uM_121, uM_122, uM_123, uM_124, uM_125, uM_126, uM_127, uM_128, uM_129, ivM, Option.bind_some, bd_some, mk_MS_thrown, mk_MS_length, mk_MS_seatsPaid, mk_MS_seatsHiss, mk_MS_lays, mk_MS_arranged, mk_MS_tape, mk_MS_s, mk_MS_area, mk_MS_kept, mk_MS_keptPaid, mk_MS_keptHiss, mk_MS_isKept, mk_MS_r, mk_MS_h, mk_MS_n, mk_MS_c, mk_MR_size, mk_MR_p, mk_MR_limit, mk_MR_token, mk_MR_place, mk_MR_span, mk_MR_number, mk_MR_fault, mk_MR_faultAt, mk_MR_word, mk_MR_got, mk_MH_lines, mk_MH_prices, mk_MH_leavings, mk_MH_onces, mk_MH_codeMany, mk_MH_pileMany, mk_MH_ones, mk_MH_coming, mk_MH_hh, mk_MH_newCues, mk_MH_code, mk_MH_pile, mk_MN_paidNow, mk_MN_hissNow, mk_MN_clapping, mk_MN_standing, mk_MN_low, mk_MN_high, mk_MN_gone, mk_MN_cueNext, mk_MN_nightHeight, mk_MN_nightCarries, mk_MN_held, mk_MN_claps, mk_MN_stand, mk_MN_heldLow, mk_MN_heldHigh, mk_MC_askedMany, mk_MC_bought, mk_MC_worthMany, mk_MC_allOrders, mk_MC_hasSides, mk_MC_seenClaps, mk_MC_seenStand, mk_MC_seenAll, mk_MC_beganA, mk_MC_beganB, mk_MC_seed, mk_MC_asked, mk_MC_carried, mk_MC_heights, mk_MC_worths, mk_MC_side, mk_MC_otherClaps, mk_MC_otherStand, eq_true (show ¬ ((5 : Int32) &&& (7 : Int32)) = (4 : Int32) by decide), if_true, x3, x3b, y3, y3b, hp, hq, x4, ifx_n2 hz (show 64 ≤ 100000 by decide), ifx_n2 hh (show 64 ≤ 100000 by decide)]
    cases p <;> cases q <;> rfl
theorem isLaw_var {w : Nat} (hl : from_ + 2 + len ≤ 681) (h1 : m.s (from_ + 1) = n2 len) (hk : k < len) (hw : m.s (from_ + 2 + k) = n2 w) (ho : leafOk w) (hh : h < 64) (hv : v < 64) :
    bX4_isLaw_6B kk (some 106) (n2 from_) (n2 v) one two own since (n2 h) (n2 k) (mkM b n s m) = kk (some 106) (n2 from_) (n2 v) one two own since (n2 (h + 1)) (n2 (k + 1)) (mkM b n s (MS.mk (m.thrown) (m.length) (m.seatsPaid) (m.seatsHiss) (m.lays) (m.arranged) (m.tape) (m.s) (m.area) (m.kept) (m.keptPaid) (m.keptHiss) (m.isKept) (m.r) (m.h) ((MN.mk (m.n.paidNow) (m.n.hissNow) (m.n.clapping) (m.n.standing) (m.n.low) (m.n.high) (m.n.gone) (m.n.cueNext) (m.n.nightHeight) (m.n.nightCarries) (upq m.n.held h (b2i (cmpS (ls w) (leafV (fun a => m.area (6 * v + a)) one two own since w) (n2 (lnum w))))) (m.n.claps) (m.n.stand) (m.n.heldLow) (m.n.heldHigh))) (m.c))) := by
  refine isLaw_fetch hl h1 hk hw ?_
  obtain ⟨o1, o2, o3, o4, o5⟩ := ho
  have c8 := code8 o1
  have c10 := code10 o1
  rw [code7 o1]
  unfold leafV
  rcases (by omega : lk w = 0 ∨ lk w = 1 ∨ lk w = 2) with e | e | e
  · rw [e, if_pos (by decide), if_neg (by decide), if_pos (by decide), if_pos (by decide), if_pos (by decide), code3 o1, if_neg (by decide), if_neg (by decide)]
    have x : (6 : Int32) * n2 v + n2 (la w) = n2 (6 * v + la w) := by rw [show (6 : Int32) = n2 6 from rfl, n2_mul, n2_add]
    rw [x, n2_nat (by omega), ifx_n2 (by omega) (by decide), Option.bind_some, code6 o1]
    have key : ∀ z : Int64, bX4_isLaw_220 kk (some 106) (n2 from_) (n2 v) one two own since (n2 h) (n2 k) (n2 w) (m.area (6 * v + la w)) z (mkM b n s m) = kk (some 106) (n2 from_) (n2 v) one two own since (n2 (h + 1)) (n2 (k + 1)) (mkM b n s (MS.mk (m.thrown) (m.length) (m.seatsPaid) (m.seatsHiss) (m.lays) (m.arranged) (m.tape) (m.s) (m.area) (m.kept) (m.keptPaid) (m.keptHiss) (m.isKept) (m.r) (m.h) ((MN.mk (m.n.paidNow) (m.n.hissNow) (m.n.clapping) (m.n.standing) (m.n.low) (m.n.high) (m.n.gone) (m.n.cueNext) (m.n.nightHeight) (m.n.nightCarries) (upq m.n.held h (b2i (cmpS (ls w) (pc (m.area (6 * v + la w) &&& z)) (n2 (lnum w))))) (m.n.claps) (m.n.stand) (m.n.heldLow) (m.n.heldHigh))) (m.c))) := by
      intro z
      unfold bX4_isLaw_220
      rw [pcM, bd_some]
      exact isLaw_leaf o5 c8 c10 hh
    rcases o4 e with e2 | e2
    · rw [e2, if_neg (by decide), if_pos rfl]; exact key _
    · rw [e2, if_pos (by decide), if_neg (by decide)]; exact key _
  · rw [e, if_pos (by decide), if_neg (by decide), if_pos (by decide), if_neg (by decide), if_pos rfl]
    exact isLaw_leaf o5 c8 c10 hh
  · rw [e, if_pos (by decide), if_neg (by decide), if_pos (by decide), if_pos (by decide), if_neg (by decide), if_neg (by decide), if_pos rfl]
    exact isLaw_leaf o5 c8 c10 hh
end Ops
/-- the model's code of a condition runs: one more place on its pile, that holds the answer -/
theorem isLaw_run {one two : Int64} {own since : Int32} {from_ v len : Nat} (hl : from_ + 2 + len ≤ 681) (hv : v < 64) : ∀ (c : Cd) (l : List Int32) (hp : Post c l) (f k h : Nat) (m : MS), m.s (from_ + 1) = n2 len → (∀ i (hi : i < l.length), m.s (from_ + 2 + k + i) = l[i]) → k + l.length ≤ len → h + clvs c ≤ 64 →
    ∃ hd, bX4_isLaw_6 (f + l.length) (some 106) (n2 from_) (n2 v) one two own since (n2 h) (n2 k) (mkM b n s m) = bX4_isLaw_6 f (some 106) (n2 from_) (n2 v) one two own since (n2 (h + 1)) (n2 (k + l.length)) (mkM b n s (MS.mk (m.thrown) (m.length) (m.seatsPaid) (m.seatsHiss) (m.lays) (m.arranged) (m.tape) (m.s) (m.area) (m.kept) (m.keptPaid) (m.keptHiss) (m.isKept) (m.r) (m.h) ((MN.mk (m.n.paidNow) (m.n.hissNow) (m.n.clapping) (m.n.standing) (m.n.low) (m.n.high) (m.n.gone) (m.n.cueNext) (m.n.nightHeight) (m.n.nightCarries) (hd) (m.n.claps) (m.n.stand) (m.n.heldLow) (m.n.heldHigh))) (m.c))) ∧
      hd h = b2i (cev (fun a => m.area (6 * v + a)) one two own since c) ∧ ∀ j, j < h → hd j = m.n.held j
  | .neg a, _, ⟨l, ha, rfl⟩, f, k, h, m, h1, hc, hk, hh => by
    simp only [List.length_append, List.length_singleton, clvs] at hk hh ⊢
    obtain ⟨hd, e, e1, e2⟩ := isLaw_run hl hv a l ha (f + 1) k h m h1 (fun i hi => by rw [hc i (by simp; omega), List.getElem_append_left hi]) (by omega) hh
    have hw : m.s (from_ + 2 + (k + l.length)) = 3 := by rw [← Nat.add_assoc, hc l.length (by simp)]; simp
    have lt : h < 64 := by have : 0 < clvs a := clvs_pos a; omega
    refine ⟨upq hd h (b2i (!cev (fun a => m.area (6 * v + a)) one two own since a)), ?_, upq_self _ _ _, fun j hj => (upq_ne _ _ (by omega)).trans (e2 j hj)⟩
    rw [show f + (l.length + 1) = f + 1 + l.length by omega, e]
    exact isLaw_3 (m := (MS.mk (m.thrown) (m.length) (m.seatsPaid) (m.seatsHiss) (m.lays) (m.arranged) (m.tape) (m.s) (m.area) (m.kept) (m.keptPaid) (m.keptHiss) (m.isKept) (m.r) (m.h) ((MN.mk (m.n.paidNow) (m.n.hissNow) (m.n.clapping) (m.n.standing) (m.n.low) (m.n.high) (m.n.gone) (m.n.cueNext) (m.n.nightHeight) (m.n.nightCarries) (hd) (m.n.claps) (m.n.stand) (m.n.heldLow) (m.n.heldHigh))) (m.c))) hl h1 (by omega) hw lt e1
  | .add a c, _, ⟨l, k', ha, hb, rfl⟩, f, k, h, m, h1, hc, hk, hh => by
    simp only [List.length_append, List.length_singleton, clvs] at hk hh ⊢
    have pa : 0 < clvs a := clvs_pos a
    have pb : 0 < clvs c := clvs_pos c
    obtain ⟨hd, e, e1, e2⟩ := isLaw_run hl hv a l ha (f + 1 + k'.length) k h m h1 (fun i hi => by rw [hc i (by simp; omega), List.getElem_append_left (by simp; omega), List.getElem_append_left hi]) (by omega) (by omega)
    obtain ⟨hd', e', e1', e2'⟩ := isLaw_run hl hv c k' hb (f + 1) (k + l.length) (h + 1) (MS.mk (m.thrown) (m.length) (m.seatsPaid) (m.seatsHiss) (m.lays) (m.arranged) (m.tape) (m.s) (m.area) (m.kept) (m.keptPaid) (m.keptHiss) (m.isKept) (m.r) (m.h) ((MN.mk (m.n.paidNow) (m.n.hissNow) (m.n.clapping) (m.n.standing) (m.n.low) (m.n.high) (m.n.gone) (m.n.cueNext) (m.n.nightHeight) (m.n.nightCarries) (hd) (m.n.claps) (m.n.stand) (m.n.heldLow) (m.n.heldHigh))) (m.c)) h1 (fun i hi => by
      show m.s _ = _
      rw [show from_ + 2 + (k + l.length) + i = from_ + 2 + k + (l.length + i) by omega, hc (l.length + i) (by simp; omega)]
      simp [List.getElem_append, hi]) (by omega) (by omega)
    have hw : m.s (from_ + 2 + (k + l.length + k'.length)) = 4 := by
      rw [show from_ + 2 + (k + l.length + k'.length) = from_ + 2 + k + (l.length + k'.length) by omega, hc (l.length + k'.length) (by simp)]; simp [List.getElem_append]
    refine ⟨upq hd' h (b2i (cev (fun a => m.area (6 * v + a)) one two own since a && cev (fun a => m.area (6 * v + a)) one two own since c)), ?_, upq_self _ _ _, fun j hj => (upq_ne _ _ (by omega)).trans ((e2' j (by omega)).trans (e2 j hj))⟩
    rw [show f + (l.length + k'.length + 1) = f + 1 + k'.length + l.length by omega, e, e']
    have := isLaw_45 (kk := bX4_isLaw_6 f) (b := b) (n := n) (s := s) (v := v) (one := one) (two := two) (own := own) (since := since) (m := (MS.mk (m.thrown) (m.length) (m.seatsPaid) (m.seatsHiss) (m.lays) (m.arranged) (m.tape) (m.s) (m.area) (m.kept) (m.keptPaid) (m.keptHiss) (m.isKept) (m.r) (m.h) ((MN.mk (m.n.paidNow) (m.n.hissNow) (m.n.clapping) (m.n.standing) (m.n.low) (m.n.high) (m.n.gone) (m.n.cueNext) (m.n.nightHeight) (m.n.nightCarries) (hd') (m.n.claps) (m.n.stand) (m.n.heldLow) (m.n.heldHigh))) (m.c))) hl h1 (show k + l.length + k'.length < len by omega) hw (Or.inl rfl) (show h + 1 < 64 by omega) ((e2' h (by omega)).trans e1) e1'
    rw [if_pos rfl] at this
    rw [show k + (l.length + k'.length + 1) = k + l.length + k'.length + 1 by omega]
    exact this
  | .sub a c, _, ⟨l, k', ha, hb, rfl⟩, f, k, h, m, h1, hc, hk, hh => by
    simp only [List.length_append, List.length_singleton, clvs] at hk hh ⊢
    have pa : 0 < clvs a := clvs_pos a
    have pb : 0 < clvs c := clvs_pos c
    obtain ⟨hd, e, e1, e2⟩ := isLaw_run hl hv a l ha (f + 1 + k'.length) k h m h1 (fun i hi => by rw [hc i (by simp; omega), List.getElem_append_left (by simp; omega), List.getElem_append_left hi]) (by omega) (by omega)
    obtain ⟨hd', e', e1', e2'⟩ := isLaw_run hl hv c k' hb (f + 1) (k + l.length) (h + 1) (MS.mk (m.thrown) (m.length) (m.seatsPaid) (m.seatsHiss) (m.lays) (m.arranged) (m.tape) (m.s) (m.area) (m.kept) (m.keptPaid) (m.keptHiss) (m.isKept) (m.r) (m.h) ((MN.mk (m.n.paidNow) (m.n.hissNow) (m.n.clapping) (m.n.standing) (m.n.low) (m.n.high) (m.n.gone) (m.n.cueNext) (m.n.nightHeight) (m.n.nightCarries) (hd) (m.n.claps) (m.n.stand) (m.n.heldLow) (m.n.heldHigh))) (m.c)) h1 (fun i hi => by
      show m.s _ = _
      rw [show from_ + 2 + (k + l.length) + i = from_ + 2 + k + (l.length + i) by omega, hc (l.length + i) (by simp; omega)]
      simp [List.getElem_append, hi]) (by omega) (by omega)
    have hw : m.s (from_ + 2 + (k + l.length + k'.length)) = 5 := by
      rw [show from_ + 2 + (k + l.length + k'.length) = from_ + 2 + k + (l.length + k'.length) by omega, hc (l.length + k'.length) (by simp)]; simp [List.getElem_append]
    refine ⟨upq hd' h (b2i (cev (fun a => m.area (6 * v + a)) one two own since a || cev (fun a => m.area (6 * v + a)) one two own since c)), ?_, upq_self _ _ _, fun j hj => (upq_ne _ _ (by omega)).trans ((e2' j (by omega)).trans (e2 j hj))⟩
    rw [show f + (l.length + k'.length + 1) = f + 1 + k'.length + l.length by omega, e, e']
    have := isLaw_45 (kk := bX4_isLaw_6 f) (b := b) (n := n) (s := s) (v := v) (one := one) (two := two) (own := own) (since := since) (m := (MS.mk (m.thrown) (m.length) (m.seatsPaid) (m.seatsHiss) (m.lays) (m.arranged) (m.tape) (m.s) (m.area) (m.kept) (m.keptPaid) (m.keptHiss) (m.isKept) (m.r) (m.h) ((MN.mk (m.n.paidNow) (m.n.hissNow) (m.n.clapping) (m.n.standing) (m.n.low) (m.n.high) (m.n.gone) (m.n.cueNext) (m.n.nightHeight) (m.n.nightCarries) (hd') (m.n.claps) (m.n.stand) (m.n.heldLow) (m.n.heldHigh))) (m.c))) hl h1 (show k + l.length + k'.length < len by omega) hw (Or.inr rfl) (show h + 1 < 64 by omega) ((e2' h (by omega)).trans e1) e1'
    rw [if_neg (by decide)] at this
    rw [show k + (l.length + k'.length + 1) = k + l.length + k'.length + 1 by omega]
    exact this
  | .var w, _, ⟨ho, rfl⟩, f, k, h, m, h1, hc, hk, hh => ⟨_, isLaw_var hl h1 hk (hc 0 (by simp)) ho hh hv, upq_self _ _ _, fun j hj => upq_ne _ _ (by omega)⟩
/-- a law that lies in a row of numbers -/
abbrev MLaw (r : Nat → Int32) (from_ : Nat) (c : Cd) (ones : Nat) (l : List Int32) : Prop := (Post c l) ∧ (r from_ = n2 ones) ∧ (r (from_ + 1) = n2 l.length) ∧ (∀ i (hi : i < l.length), r (from_ + 2 + i) = l[i]) ∧ (l.length ≤ 40) ∧ (clvs c ≤ 20)
theorem MLaw.post {r : Nat → Int32} {from_ : Nat} {c : Cd} {ones : Nat} {l : List Int32} (self : MLaw r from_ c ones l) : Post c l := self.1
theorem MLaw.ones_ {r : Nat → Int32} {from_ : Nat} {c : Cd} {ones : Nat} {l : List Int32} (self : MLaw r from_ c ones l) : r from_ = n2 ones := self.2.1
theorem MLaw.len {r : Nat → Int32} {from_ : Nat} {c : Cd} {ones : Nat} {l : List Int32} (self : MLaw r from_ c ones l) : r (from_ + 1) = n2 l.length := self.2.2.1
theorem MLaw.code {r : Nat → Int32} {from_ : Nat} {c : Cd} {ones : Nat} {l : List Int32} (self : MLaw r from_ c ones l) : ∀ i (hi : i < l.length), r (from_ + 2 + i) = l[i] := self.2.2.2.1
theorem MLaw.short {r : Nat → Int32} {from_ : Nat} {c : Cd} {ones : Nat} {l : List Int32} (self : MLaw r from_ c ones l) : l.length ≤ 40 := self.2.2.2.2.1
theorem MLaw.lvs {r : Nat → Int32} {from_ : Nat} {c : Cd} {ones : Nat} {l : List Int32} (self : MLaw r from_ c ones l) : clvs c ≤ 20 := self.2.2.2.2.2
theorem M_isLaw {one two : Int64} {own since : Int32} {from_ v ones : Nat} {c : Cd} {l : List Int32} {m : MS} (hl : from_ + 42 ≤ 681) (hv : v < 64) (L : MLaw m.s from_ c ones l) :
    ∃ hd, fX4_isLaw (some 106) (n2 from_) (n2 v) one two own since (mkM b n s m) = some (b2i (cev (fun a => m.area (6 * v + a)) one two own since c), mkM b n s (MS.mk (m.thrown) (m.length) (m.seatsPaid) (m.seatsHiss) (m.lays) (m.arranged) (m.tape) (m.s) (m.area) (m.kept) (m.keptPaid) (m.keptHiss) (m.isKept) (m.r) (m.h) ((MN.mk (m.n.paidNow) (m.n.hissNow) (m.n.clapping) (m.n.standing) (m.n.low) (m.n.high) (m.n.gone) (m.n.cueNext) (m.n.nightHeight) (m.n.nightCarries) (hd) (m.n.claps) (m.n.stand) (m.n.heldLow) (m.n.heldHigh))) (m.c))) := by
  have h40 := L.short
  have hlv := L.lvs
  obtain ⟨hd, e, e1, -⟩ := isLaw_run (b := b) (n := n) (s := s) (one := one) (two := two) (own := own) (since := since) (show from_ + 2 + l.length ≤ 681 by omega) hv c l L.post (100000 - l.length) 0 0 m L.len (by simpa using L.code) (by omega) (by omega)
  refine ⟨hd, ?_⟩
  unfold fX4_isLaw
  rw [show hcFuel = 100000 - l.length + l.length by unfold hcFuel; omega]
  refine e.trans ?_
  rw [show 100000 - l.length = (99999 - l.length) + 1 by omega]
  show bX4_isLaw_6B _ _ _ _ _ _ _ _ _ _ _ = _
  unfold bX4_isLaw_6B
  have x1 : n2 from_ + (1 : Int32) = n2 (from_ + 1) := n2_add _ 1
  have y1 : (n2 (from_ + 1)).toNatClampNeg = from_ + 1 := n2_nat (by omega)
  have z0 : ifx 64 (0 : Int32) (hd (0 : Int32).toNatClampNeg) = some (hd 0) := ifx_n2 (k := 0) (by decide) (by decide)
  simp -implicitDefEqProofs only [gM_55, gM_57, gM_58, gM_59, gM_60, gM_64, gM_65, gM_66, gM_67, gM_68, gM_69, gM_70, gM_71, gM_72, gM_73, gM_74, gM_75, gM_76, gM_77, gM_81, gM_82, gM_83, gM_85, gM_86, gM_91, gM_92, gM_93, gM_94, gM_95, gM_96, gM_97, gM_98, gM_99, gM_100, gM_102, gM_103, gM_107, gM_108, gM_110, gM_111, gM_112, gM_113, gM_114, gM_115, gM_118, gM_119, gM_56, aM_107, nM_107, gM_61, aM_108, nM_108, gM_62, aM_109, nM_109, gM_63, aM_110, nM_110, gM_78, aM_111, nM_111, gM_79, aM_112, nM_112, gM_80, aM_113, nM_113, gM_84, aM_114, nM_114, gM_87, aM_115, nM_115, gM_88, aM_116, nM_116, gM_89, aM_117, nM_117, gM_90, aM_118, nM_118, gM_101, aM_119, nM_119, gM_104, aM_120, nM_120, gM_105, aM_121, nM_121, gM_106, aM_122, nM_122, gM_109, aM_123, nM_123, gM_116, aM_124, nM_124, gM_117, aM_125, nM_125, gM_120, aM_126, nM_126, gM_121, aM_127, nM_127, gM_122, aM_128, nM_128, gM_123, aM_129, nM_129, pM_55, pM_57, pM_58, pM_59, pM_60, pM_64, pM_65, pM_66, pM_67, pM_68, pM_69, pM_70, pM_71, pM_72, pM_73, pM_74, pM_75, pM_76, pM_77, pM_81, pM_82, pM_83, pM_85, pM_86, pM_91, pM_92, pM_93, pM_94, pM_95, pM_96, pM_97, pM_98, pM_99, pM_100, pM_102, pM_103, pM_107, pM_108, pM_110, pM_111, pM_112, pM_113, pM_114, pM_115, pM_118, pM_119, uM_107, uM_108, uM_109, uM_110, uM_111, uM_112, uM_113, uM_114, uM_115, uM_116, uM_117, uM_118, uM_119, uM_120, uM_121, uM_122, uM_123, uM_124, uM_125, uM_126, uM_127, uM_128, uM_129, ivM, Option.bind_some, bd_some, mk_MS_thrown, mk_MS_length, mk_MS_seatsPaid, mk_MS_seatsHiss, mk_MS_lays, mk_MS_arranged, mk_MS_tape, mk_MS_s, mk_MS_area, mk_MS_kept, mk_MS_keptPaid, mk_MS_keptHiss, mk_MS_isKept, mk_MS_r, mk_MS_h, mk_MS_n, mk_MS_c, mk_MR_size, mk_MR_p, mk_MR_limit, mk_MR_token, mk_MR_place, mk_MR_span, mk_MR_number, mk_MR_fault, mk_MR_faultAt, mk_MR_word, mk_MR_got, mk_MH_lines, mk_MH_prices, mk_MH_leavings, mk_MH_onces, mk_MH_codeMany, mk_MH_pileMany, mk_MH_ones, mk_MH_coming, mk_MH_hh, mk_MH_newCues, mk_MH_code, mk_MH_pile, mk_MN_paidNow, mk_MN_hissNow, mk_MN_clapping, mk_MN_standing, mk_MN_low, mk_MN_high, mk_MN_gone, mk_MN_cueNext, mk_MN_nightHeight, mk_MN_nightCarries, mk_MN_held, mk_MN_claps, mk_MN_stand, mk_MN_heldLow, mk_MN_heldHigh, mk_MC_askedMany, mk_MC_bought, mk_MC_worthMany, mk_MC_allOrders, mk_MC_hasSides, mk_MC_seenClaps, mk_MC_seenStand, mk_MC_seenAll, mk_MC_beganA, mk_MC_beganB, mk_MC_seed, mk_MC_asked, mk_MC_carried, mk_MC_heights, mk_MC_worths, mk_MC_side, mk_MC_otherClaps, mk_MC_otherStand, x1, y1, ifx_n2 (show from_ + 1 < 681 by omega) (show 681 ≤ 100000 by decide), L.len, z0, e1, nz_b2i]
  rw [if_pos (by rw [Nat.zero_add]; exact Int32.le_refl _)]
end IsLaw
