set_option linter.unusedVariables false
set_option linter.unusedSimpArgs false
/-! ===== the night in HouseClapsModel ===== -/
def HS.seats (H : HS) : Nat := ((List.range H.size).filter fun v => decide (H.kind v ≠ 0)).length
def cseat (c : Cu) : Int := if c.w = 3 then -1 else c.s
/-- a house in a row of numbers -/
abbrev MHouse (r : Nat → Int32) (H : HS) : Prop := (r 0 = n2 H.rows) ∧ (r 1 = n2 H.cols) ∧ (r 2 = n2 H.seats) ∧ (r 3 = n2 H.carry) ∧ (r 4 = n2 H.paid) ∧ (r 5 = b2i H.byRows) ∧ (∀ v, v < 64 → r (6 + v) = n2 (if v < H.size then H.kind v else 0)) ∧ (∀ q, q < 8 → r (70 + q) = n2 (H.price q)) ∧ (∀ q, q < 8 → r (78 + q) = n2 (H.leaves q)) ∧ (∀ k w, k < 6 → w < 2 → H.law k w = none → r (86 + 42 * (2 * k + w)) = 0) ∧ (∀ k w c o, k < 6 → w < 2 → H.law k w = some (c, o) → ∃ l, MLaw r (86 + 42 * (2 * k + w)) c o l)
theorem MHouse.rows {r : Nat → Int32} {H : HS} (self : MHouse r H) : r 0 = n2 H.rows := self.1
theorem MHouse.cols {r : Nat → Int32} {H : HS} (self : MHouse r H) : r 1 = n2 H.cols := self.2.1
theorem MHouse.seats {r : Nat → Int32} {H : HS} (self : MHouse r H) : r 2 = n2 H.seats := self.2.2.1
theorem MHouse.carry {r : Nat → Int32} {H : HS} (self : MHouse r H) : r 3 = n2 H.carry := self.2.2.2.1
theorem MHouse.paid {r : Nat → Int32} {H : HS} (self : MHouse r H) : r 4 = n2 H.paid := self.2.2.2.2.1
theorem MHouse.byRows {r : Nat → Int32} {H : HS} (self : MHouse r H) : r 5 = b2i H.byRows := self.2.2.2.2.2.1
theorem MHouse.kind {r : Nat → Int32} {H : HS} (self : MHouse r H) : ∀ v, v < 64 → r (6 + v) = n2 (if v < H.size then H.kind v else 0) := self.2.2.2.2.2.2.1
theorem MHouse.price {r : Nat → Int32} {H : HS} (self : MHouse r H) : ∀ q, q < 8 → r (70 + q) = n2 (H.price q) := self.2.2.2.2.2.2.2.1
theorem MHouse.leaves {r : Nat → Int32} {H : HS} (self : MHouse r H) : ∀ q, q < 8 → r (78 + q) = n2 (H.leaves q) := self.2.2.2.2.2.2.2.2.1
theorem MHouse.law0 {r : Nat → Int32} {H : HS} (self : MHouse r H) : ∀ k w, k < 6 → w < 2 → H.law k w = none → r (86 + 42 * (2 * k + w)) = 0 := self.2.2.2.2.2.2.2.2.2.1
theorem MHouse.law {r : Nat → Int32} {H : HS} (self : MHouse r H) : ∀ k w c o, k < 6 → w < 2 → H.law k w = some (c, o) → ∃ l, MLaw r (86 + 42 * (2 * k + w)) c o l := self.2.2.2.2.2.2.2.2.2.2
abbrev MCues (r : Nat → Int32) (C : List Cu) : Prop := (r 590 = n2 C.length) ∧ (C.length ≤ 30) ∧ (∀ i (h : i < C.length), r (591 + 3 * i) = n2 C[i].t) ∧ (∀ i (h : i < C.length), r (591 + 3 * i + 1) = n2 C[i].w) ∧ (∀ i (h : i < C.length), r (591 + 3 * i + 2) = i2 (cseat C[i])) ∧ (∀ i (h : i < C.length), C[i].t ≤ 600 ∧ C[i].w ≤ 3 ∧ C[i].s < 64)
theorem MCues.many {r : Nat → Int32} {C : List Cu} (self : MCues r C) : r 590 = n2 C.length := self.1
theorem MCues.len {r : Nat → Int32} {C : List Cu} (self : MCues r C) : C.length ≤ 30 := self.2.1
theorem MCues.t {r : Nat → Int32} {C : List Cu} (self : MCues r C) : ∀ i (h : i < C.length), r (591 + 3 * i) = n2 C[i].t := self.2.2.1
theorem MCues.w {r : Nat → Int32} {C : List Cu} (self : MCues r C) : ∀ i (h : i < C.length), r (591 + 3 * i + 1) = n2 C[i].w := self.2.2.2.1
theorem MCues.s {r : Nat → Int32} {C : List Cu} (self : MCues r C) : ∀ i (h : i < C.length), r (591 + 3 * i + 2) = i2 (cseat C[i]) := self.2.2.2.2.1
theorem MCues.ok {r : Nat → Int32} {C : List Cu} (self : MCues r C) : ∀ i (h : i < C.length), C[i].t ≤ 600 ∧ C[i].w ≤ 3 ∧ C[i].s < 64 := self.2.2.2.2.2
def MArea (m : MS) (H : HS) : Prop := ∀ a v, a < 6 → v < H.size → m.area (6 * v + a) = H.ar a v
def MS.sHd (m : MS) (g : Nat → Int32) : MS := (MS.mk (m.thrown) (m.length) (m.seatsPaid) (m.seatsHiss) (m.lays) (m.arranged) (m.tape) (m.s) (m.area) (m.kept) (m.keptPaid) (m.keptHiss) (m.isKept) (m.r) (m.h) ((MN.mk (m.n.paidNow) (m.n.hissNow) (m.n.clapping) (m.n.standing) (m.n.low) (m.n.high) (m.n.gone) (m.n.cueNext) (m.n.nightHeight) (m.n.nightCarries) (g) (m.n.claps) (m.n.stand) (m.n.heldLow) (m.n.heldHigh))) (m.c))
theorem sHd_sHd (m : MS) (g k : Nat → Int32) : (m.sHd g).sHd k = m.sHd k := rfl
theorem cev_congr {f g : Nat → Int64} (h : ∀ a, a < 6 → f a = g a) {v1 v2 : Int64} {own since : Int32} : ∀ (c : Cd) (l : List Int32), Post c l → cev f v1 v2 own since c = cev g v1 v2 own since c
  | .neg a, _, ⟨k, ha, _⟩ => by simp only [cev, cev_congr h a k ha]
  | .add a b, _, ⟨k, j, ha, hb, _⟩ => by simp only [cev, cev_congr h a k ha, cev_congr h b j hb]
  | .sub a b, _, ⟨k, j, ha, hb, _⟩ => by simp only [cev, cev_congr h a k ha, cev_congr h b j hb]
  | .var w, _, ⟨ho, _⟩ => by simp only [cev, leafV, h _ ho.2.2.1]
/-! numbers beside a literal -/
theorem lle {k a : Nat} (hk : k < 2147483648) (ha : a < 2147483648) : ((OfNat.ofNat k : Int32) ≤ n2 a) = (k ≤ a) := n2_le hk ha
theorem lel {k a : Nat} (hk : k < 2147483648) (ha : a < 2147483648) : (n2 a ≤ (OfNat.ofNat k : Int32)) = (a ≤ k) := n2_le ha hk
theorem llt {k a : Nat} (hk : k < 2147483648) (ha : a < 2147483648) : ((OfNat.ofNat k : Int32) < n2 a) = (k < a) := n2_lt hk ha
theorem ltl {k a : Nat} (hk : k < 2147483648) (ha : a < 2147483648) : (n2 a < (OfNat.ofNat k : Int32)) = (a < k) := n2_lt ha hk
theorem eql {k a : Nat} (hk : k < 2147483648) (ha : a < 2147483648) : (n2 a = (OfNat.ofNat k : Int32)) = (a = k) := n2_eq ha hk
section NightM
variable {b : Mem} {n s : Nat} {m : MS} {H : HS}
theorem M_holds (x : Int64) {v : Nat} (hv : v < 64) (st : Mem) : fX4_holds x (n2 v) st = some (b2i (tb x v), st) := by
  unfold fX4_holds
  simp only [has_tb x hv]
  cases tb x v <;> rfl
theorem M_levelOf {v : Nat} (hv : v < 64) : fX4_levelOf (some 106) (n2 v) (mkM b n s m) = some (n2 (lvOf m.n.clapping m.n.standing v), mkM b n s m) := by
  unfold fX4_levelOf lvOf
  simp -implicitDefEqProofs only [gM_55, gM_57, gM_58, gM_59, gM_60, gM_64, gM_65, gM_66, gM_67, gM_68, gM_69, gM_70, gM_71, gM_72, gM_73, gM_74, gM_75, gM_76, gM_77, gM_81, gM_82, gM_83, gM_85, gM_86, gM_91, gM_92, gM_93, gM_94, gM_95, gM_96, gM_97, gM_98, gM_99, gM_100, gM_102, gM_103, gM_107, gM_108, gM_110, gM_111, gM_112, gM_113, gM_114, gM_115, gM_118, gM_119, gM_56, aM_107, nM_107, gM_61, aM_108, nM_108, gM_62, aM_109, nM_109, gM_63, aM_110, nM_110, gM_78, aM_111, nM_111, gM_79, aM_112, nM_112, gM_80, aM_113, nM_113, gM_84, aM_114, nM_114, gM_87, aM_115, nM_115, gM_88, aM_116, nM_116, gM_89, aM_117, nM_117, gM_90, aM_118, nM_118, gM_101, aM_119, nM_119, gM_104, aM_120, nM_120, gM_105, aM_121, nM_121, gM_106, aM_122, nM_122, gM_109, aM_123, nM_123, gM_116, aM_124, nM_124, gM_117, aM_125, nM_125, gM_120, aM_126, nM_126, gM_121, aM_127, nM_127, gM_122, aM_128, nM_128, gM_123, aM_129, nM_129, pM_55, pM_57, pM_58, pM_59, pM_60, pM_64, pM_65, pM_66, pM_67, pM_68, pM_69, pM_70, pM_71, pM_72, pM_73, pM_74, pM_75, pM_76, pM_77, pM_81, pM_82, pM_83, pM_85, pM_86, pM_91, pM_92, pM_93, pM_94, pM_95, pM_96, pM_97, pM_98, pM_99, pM_100, pM_102, pM_103, pM_107, pM_108, pM_110, pM_111, pM_112, pM_113, pM_114, pM_115, pM_118, pM_119, uM_107, uM_108, uM_109, uM_110, uM_111, uM_112, uM_113, uM_114, uM_115, uM_116, uM_117, uM_118, uM_119, uM_120, uM_121, uM_122, uM_123, uM_124, uM_125, uM_126, uM_127, uM_128, uM_129, ivM, Option.bind_some, bd_some, mk_MS_thrown, mk_MS_length, mk_MS_seatsPaid, mk_MS_seatsHiss, mk_MS_lays, mk_MS_arranged, mk_MS_tape, mk_MS_s, mk_MS_area, mk_MS_kept, mk_MS_keptPaid, mk_MS_keptHiss, mk_MS_isKept, mk_MS_r, mk_MS_h, mk_MS_n, mk_MS_c, mk_MR_size, mk_MR_p, mk_MR_limit, mk_MR_token, mk_MR_place, mk_MR_span, mk_MR_number, mk_MR_fault, mk_MR_faultAt, mk_MR_word, mk_MR_got, mk_MH_lines, mk_MH_prices, mk_MH_leavings, mk_MH_onces, mk_MH_codeMany, mk_MH_pileMany, mk_MH_ones, mk_MH_coming, mk_MH_hh, mk_MH_newCues, mk_MH_code, mk_MH_pile, mk_MN_paidNow, mk_MN_hissNow, mk_MN_clapping, mk_MN_standing, mk_MN_low, mk_MN_high, mk_MN_gone, mk_MN_cueNext, mk_MN_nightHeight, mk_MN_nightCarries, mk_MN_held, mk_MN_claps, mk_MN_stand, mk_MN_heldLow, mk_MN_heldHigh, mk_MC_askedMany, mk_MC_bought, mk_MC_worthMany, mk_MC_allOrders, mk_MC_hasSides, mk_MC_seenClaps, mk_MC_seenStand, mk_MC_seenAll, mk_MC_beganA, mk_MC_beganB, mk_MC_seed, mk_MC_asked, mk_MC_carried, mk_MC_heights, mk_MC_worths, mk_MC_side, mk_MC_otherClaps, mk_MC_otherStand, mk_NT_paid, mk_NT_hiss, mk_NT_c1, mk_NT_c2, mk_NT_lo, mk_NT_hi, mk_NT_next, mk_Ac_a1, mk_Ac_a2, mk_Ac_l, mk_Ac_h, M_holds _ hv, b2i_0]
  cases tb m.n.standing v <;> cases tb m.n.clapping v <;> rfl
theorem M_heldOf {v : Nat} (hv : v < 64) : fX4_heldOf (some 106) (n2 v) (mkM b n s m) = some (n2 (hdOf m.n.low m.n.high v), mkM b n s m) := by
  unfold fX4_heldOf bX4_heldOf_16 hdOf
  simp -implicitDefEqProofs only [gM_55, gM_57, gM_58, gM_59, gM_60, gM_64, gM_65, gM_66, gM_67, gM_68, gM_69, gM_70, gM_71, gM_72, gM_73, gM_74, gM_75, gM_76, gM_77, gM_81, gM_82, gM_83, gM_85, gM_86, gM_91, gM_92, gM_93, gM_94, gM_95, gM_96, gM_97, gM_98, gM_99, gM_100, gM_102, gM_103, gM_107, gM_108, gM_110, gM_111, gM_112, gM_113, gM_114, gM_115, gM_118, gM_119, gM_56, aM_107, nM_107, gM_61, aM_108, nM_108, gM_62, aM_109, nM_109, gM_63, aM_110, nM_110, gM_78, aM_111, nM_111, gM_79, aM_112, nM_112, gM_80, aM_113, nM_113, gM_84, aM_114, nM_114, gM_87, aM_115, nM_115, gM_88, aM_116, nM_116, gM_89, aM_117, nM_117, gM_90, aM_118, nM_118, gM_101, aM_119, nM_119, gM_104, aM_120, nM_120, gM_105, aM_121, nM_121, gM_106, aM_122, nM_122, gM_109, aM_123, nM_123, gM_116, aM_124, nM_124, gM_117, aM_125, nM_125, gM_120, aM_126, nM_126, gM_121, aM_127, nM_127, gM_122, aM_128, nM_128, gM_123, aM_129, nM_129, pM_55, pM_57, pM_58, pM_59, pM_60, pM_64, pM_65, pM_66, pM_67, pM_68, pM_69, pM_70, pM_71, pM_72, pM_73, pM_74, pM_75, pM_76, pM_77, pM_81, pM_82, pM_83, pM_85, pM_86, pM_91, pM_92, pM_93, pM_94, pM_95, pM_96, pM_97, pM_98, pM_99, pM_100, pM_102, pM_103, pM_107, pM_108, pM_110, pM_111, pM_112, pM_113, pM_114, pM_115, pM_118, pM_119, uM_107, uM_108, uM_109, uM_110, uM_111, uM_112, uM_113, uM_114, uM_115, uM_116, uM_117, uM_118, uM_119, uM_120, uM_121, uM_122, uM_123, uM_124, uM_125, uM_126, uM_127, uM_128, uM_129, ivM, Option.bind_some, bd_some, mk_MS_thrown, mk_MS_length, mk_MS_seatsPaid, mk_MS_seatsHiss, mk_MS_lays, mk_MS_arranged, mk_MS_tape, mk_MS_s, mk_MS_area, mk_MS_kept, mk_MS_keptPaid, mk_MS_keptHiss, mk_MS_isKept, mk_MS_r, mk_MS_h, mk_MS_n, mk_MS_c, mk_MR_size, mk_MR_p, mk_MR_limit, mk_MR_token, mk_MR_place, mk_MR_span, mk_MR_number, mk_MR_fault, mk_MR_faultAt, mk_MR_word, mk_MR_got, mk_MH_lines, mk_MH_prices, mk_MH_leavings, mk_MH_onces, mk_MH_codeMany, mk_MH_pileMany, mk_MH_ones, mk_MH_coming, mk_MH_hh, mk_MH_newCues, mk_MH_code, mk_MH_pile, mk_MN_paidNow, mk_MN_hissNow, mk_MN_clapping, mk_MN_standing, mk_MN_low, mk_MN_high, mk_MN_gone, mk_MN_cueNext, mk_MN_nightHeight, mk_MN_nightCarries, mk_MN_held, mk_MN_claps, mk_MN_stand, mk_MN_heldLow, mk_MN_heldHigh, mk_MC_askedMany, mk_MC_bought, mk_MC_worthMany, mk_MC_allOrders, mk_MC_hasSides, mk_MC_seenClaps, mk_MC_seenStand, mk_MC_seenAll, mk_MC_beganA, mk_MC_beganB, mk_MC_seed, mk_MC_asked, mk_MC_carried, mk_MC_heights, mk_MC_worths, mk_MC_side, mk_MC_otherClaps, mk_MC_otherStand, mk_NT_paid, mk_NT_hiss, mk_NT_c1, mk_NT_c2, mk_NT_lo, mk_NT_hi, mk_NT_next, mk_Ac_a1, mk_Ac_a2, mk_Ac_l, mk_Ac_h, M_holds _ hv, b2i_0]
  cases tb m.n.low v <;> cases tb m.n.high v <;> rfl
theorem le0 {k : Nat} (h : k < 2147483648) : (n2 k ≤ (0 : Int32)) = (k = 0) := by rw [lzero, n2_le h (by decide)]; exact propext Nat.le_zero
theorem M_lawLevel {one two : Int64} {own since v : Nat} (hH : MHouse m.s H) (ok : H.Ok) (ha : MArea m H) (hv : v < H.size) (hk : H.kind v ≠ 0) (ho : own ≤ 2) :
    ∃ hd, fX4_lawLevel (some 106) (n2 v) one two (n2 own) (n2 since) (mkM b n s m) = some (n2 (lawLv H v one two own since), mkM b n s (m.sHd hd)) := by
  have h64 := ok.size
  have hk6 := ok.kind v
  have ev : (6 : Int32) + n2 v = n2 (6 + v) := n2_add 6 v
  have e1 : ifx 681 (n2 (6 + v)) (m.s (n2 (6 + v)).toNatClampNeg) = some (n2 (H.kind v)) := by
    rw [ifx_n2 (by omega) (by decide), n2_nat (by omega), hH.kind v (by omega), if_pos hv]
  have ey : (86 : Int32) + (84 : Int32) * (n2 (H.kind v) - (1 : Int32)) = n2 (86 + 42 * (2 * (H.kind v - 1) + 0)) := by
    rw [show (1 : Int32) = n2 1 from rfl, n2_sub (by omega), show (84 : Int32) = n2 84 from rfl, n2_mul, show (86 : Int32) = n2 86 from rfl, n2_add]; congr 1; omega
  have ey2 : n2 (86 + 42 * (2 * (H.kind v - 1) + 0)) + (42 : Int32) = n2 (86 + 42 * (2 * (H.kind v - 1) + 1)) := by
    rw [show (42 : Int32) = n2 42 from rfl, n2_add]; congr 1
  have hi : ∀ w, w < 2 → ifx 681 (n2 (86 + 42 * (2 * (H.kind v - 1) + w))) (m.s (n2 (86 + 42 * (2 * (H.kind v - 1) + w))).toNatClampNeg) = some (m.s (86 + 42 * (2 * (H.kind v - 1) + w))) := fun w hw => by
    rw [ifx_n2 (by omega) (by decide), n2_nat (by omega)]
  -- one law
  have law : ∀ (w : Nat) (hw : w < 2) (m' : MS) (hs : m'.s = m.s) (har : m'.area = m.area), (H.law (H.kind v - 1) w = none ∧ m.s (86 + 42 * (2 * (H.kind v - 1) + w)) = 0 ∧ onLaw H w v one two own since = false) ∨
      (∃ o, m.s (86 + 42 * (2 * (H.kind v - 1) + w)) = n2 o ∧ 1 ≤ o ∧ o ≤ 20 ∧ ∃ hd, fX4_isLaw (some 106) (n2 (86 + 42 * (2 * (H.kind v - 1) + w))) (n2 v) one two (n2 own) (n2 since) (mkM b n s m') = some (b2i (onLaw H w v one two own since), mkM b n s (m'.sHd hd))) := by
    intro w hw m' hs har
    unfold onLaw
    cases hl : H.law (H.kind v - 1) w with
    | none => exact Or.inl ⟨rfl, hH.law0 _ _ (by omega) hw hl, rfl⟩
    | some co =>
      obtain ⟨c, o⟩ := co
      obtain ⟨l, L⟩ := hH.law _ _ _ _ (by omega) hw hl
      obtain ⟨-, -, o1, o2⟩ := ok.dep _ _ _ _ hl
      rw [← hs] at L
      obtain ⟨hd, e⟩ := M_isLaw (b := b) (n := n) (s := s) (one := one) (two := two) (own := n2 own) (since := n2 since) (m := m') (show 86 + 42 * (2 * (H.kind v - 1) + w) + 42 ≤ 681 by omega) (show v < 64 by omega) L
      refine Or.inr ⟨o, hs ▸ L.ones_, o1, o2, hd, e.trans ?_⟩
      rw [cev_congr (f := fun a => m'.area (6 * v + a)) (g := fun a => H.ar a v) (fun a h6 => by rw [har]; exact ha a v h6 hv) c l L.post]
      rfl
  -- what is behind the first law
  have tail : ∀ (m' : MS) (hs : m'.s = m.s) (har : m'.area = m.area), ∃ hd, bX4_lawLevel_61 (some 106) (n2 v) one two (n2 own) (n2 since) (n2 (86 + 42 * (2 * (H.kind v - 1) + 0))) (mkM b n s m') = some (n2 (if onLaw H 1 v one two own since = true then own - 1 else own), mkM b n s (m'.sHd hd)) := by
    intro m' hs har
    unfold bX4_lawLevel_61
    simp -implicitDefEqProofs only [gM_55, gM_57, gM_58, gM_59, gM_60, gM_64, gM_65, gM_66, gM_67, gM_68, gM_69, gM_70, gM_71, gM_72, gM_73, gM_74, gM_75, gM_76, gM_77, gM_81, gM_82, gM_83, gM_85, gM_86, gM_91, gM_92, gM_93, gM_94, gM_95, gM_96, gM_97, gM_98, gM_99, gM_100, gM_102, gM_103, gM_107, gM_108, gM_110, gM_111, gM_112, gM_113, gM_114, gM_115, gM_118, gM_119, gM_56, aM_107, nM_107, gM_61, aM_108, nM_108, gM_62, aM_109, nM_109, gM_63, aM_110, nM_110, gM_78, aM_111, nM_111, gM_79, aM_112, nM_112, gM_80, aM_113, nM_113, gM_84, aM_114, nM_114, gM_87, aM_115, nM_115, gM_88, aM_116, nM_116, gM_89, aM_117, nM_117, gM_90, aM_118, nM_118, gM_101, aM_119, nM_119, gM_104, aM_120, nM_120, gM_105, aM_121, nM_121, gM_106, aM_122, nM_122, gM_109, aM_123, nM_123, gM_116, aM_124, nM_124, gM_117, aM_125, nM_125, gM_120, aM_126, nM_126, gM_121, aM_127, nM_127, gM_122, aM_128, nM_128, gM_123, aM_129, nM_129, pM_55, pM_57, pM_58, pM_59, pM_60, pM_64, pM_65, pM_66, pM_67, pM_68, pM_69, pM_70, pM_71, pM_72, pM_73, pM_74, pM_75, pM_76, pM_77, pM_81, pM_82, pM_83, pM_85, pM_86, pM_91, pM_92, pM_93, pM_94, pM_95, pM_96, pM_97, pM_98, pM_99, pM_100, pM_102, pM_103, pM_107, pM_108, pM_110, pM_111, pM_112, pM_113, pM_114, pM_115, pM_118, pM_119, uM_107, uM_108, uM_109, uM_110, uM_111, uM_112, uM_113, uM_114, uM_115, uM_116, uM_117, uM_118, uM_119, uM_120, uM_121, uM_122, uM_123, uM_124, uM_125, uM_126, uM_127, uM_128, uM_129, ivM, Option.bind_some, bd_some, mk_MS_thrown, mk_MS_length, mk_MS_seatsPaid, mk_MS_seatsHiss, mk_MS_lays, mk_MS_arranged, mk_MS_tape, mk_MS_s, mk_MS_area, mk_MS_kept, mk_MS_keptPaid, mk_MS_keptHiss, mk_MS_isKept, mk_MS_r, mk_MS_h, mk_MS_n, mk_MS_c, mk_MR_size, mk_MR_p, mk_MR_limit, mk_MR_token, mk_MR_place, mk_MR_span, mk_MR_number, mk_MR_fault, mk_MR_faultAt, mk_MR_word, mk_MR_got, mk_MH_lines, mk_MH_prices, mk_MH_leavings, mk_MH_onces, mk_MH_codeMany, mk_MH_pileMany, mk_MH_ones, mk_MH_coming, mk_MH_hh, mk_MH_newCues, mk_MH_code, mk_MH_pile, mk_MN_paidNow, mk_MN_hissNow, mk_MN_clapping, mk_MN_standing, mk_MN_low, mk_MN_high, mk_MN_gone, mk_MN_cueNext, mk_MN_nightHeight, mk_MN_nightCarries, mk_MN_held, mk_MN_claps, mk_MN_stand, mk_MN_heldLow, mk_MN_heldHigh, mk_MC_askedMany, mk_MC_bought, mk_MC_worthMany, mk_MC_allOrders, mk_MC_hasSides, mk_MC_seenClaps, mk_MC_seenStand, mk_MC_seenAll, mk_MC_beganA, mk_MC_beganB, mk_MC_seed, mk_MC_asked, mk_MC_carried, mk_MC_heights, mk_MC_worths, mk_MC_side, mk_MC_otherClaps, mk_MC_otherStand, mk_NT_paid, mk_NT_hiss, mk_NT_c1, mk_NT_c2, mk_NT_lo, mk_NT_hi, mk_NT_next, mk_Ac_a1, mk_Ac_a2, mk_Ac_l, mk_Ac_h, ey2, hs, hi 1 (by decide)]
    rcases law 1 (by decide) m' hs har with ⟨-, h0, hf⟩ | ⟨o, h0, o1, o2, hd, e⟩
    · refine ⟨m'.n.held, ?_⟩
      rw [h0, if_pos (by decide), hf]; rfl
    · refine ⟨hd, ?_⟩
      rw [h0, if_neg (show ¬ n2 o ≤ 0 by rw [le0 (by omega)]; omega), e, bd_some]
      cases onLaw H 1 v one two own since
      · rfl
      · rw [if_neg (by decide), if_pos rfl]
        by_cases h : own = 0
        · rw [if_pos (show n2 own ≤ 0 by rw [le0 (by omega)]; exact h), h]; rfl
        · rw [if_neg (show ¬ n2 own ≤ 0 by rw [le0 (by omega)]; exact h), show (1 : Int32) = n2 1 from rfl, n2_sub (by omega)]
  unfold fX4_lawLevel
  simp -implicitDefEqProofs only [gM_55, gM_57, gM_58, gM_59, gM_60, gM_64, gM_65, gM_66, gM_67, gM_68, gM_69, gM_70, gM_71, gM_72, gM_73, gM_74, gM_75, gM_76, gM_77, gM_81, gM_82, gM_83, gM_85, gM_86, gM_91, gM_92, gM_93, gM_94, gM_95, gM_96, gM_97, gM_98, gM_99, gM_100, gM_102, gM_103, gM_107, gM_108, gM_110, gM_111, gM_112, gM_113, gM_114, gM_115, gM_118, gM_119, gM_56, aM_107, nM_107, gM_61, aM_108, nM_108, gM_62, aM_109, nM_109, gM_63, aM_110, nM_110, gM_78, aM_111, nM_111, gM_79, aM_112, nM_112, gM_80, aM_113, nM_113, gM_84, aM_114, nM_114, gM_87, aM_115, nM_115, gM_88, aM_116, nM_116, gM_89, aM_117, nM_117, gM_90, aM_118, nM_118, gM_101, aM_119, nM_119, gM_104, aM_120, nM_120, gM_105, aM_121, nM_121, gM_106, aM_122, nM_122, gM_109, aM_123, nM_123, gM_116, aM_124, nM_124, gM_117, aM_125, nM_125, gM_120, aM_126, nM_126, gM_121, aM_127, nM_127, gM_122, aM_128, nM_128, gM_123, aM_129, nM_129, pM_55, pM_57, pM_58, pM_59, pM_60, pM_64, pM_65, pM_66, pM_67, pM_68, pM_69, pM_70, pM_71, pM_72, pM_73, pM_74, pM_75, pM_76, pM_77, pM_81, pM_82, pM_83, pM_85, pM_86, pM_91, pM_92, pM_93, pM_94, pM_95, pM_96, pM_97, pM_98, pM_99, pM_100, pM_102, pM_103, pM_107, pM_108, pM_110, pM_111, pM_112, pM_113, pM_114, pM_115, pM_118, pM_119, uM_107, uM_108, uM_109, uM_110, uM_111, uM_112, uM_113, uM_114, uM_115, uM_116, uM_117, uM_118, uM_119, uM_120, uM_121, uM_122, uM_123, uM_124, uM_125, uM_126, uM_127, uM_128, uM_129, ivM, Option.bind_some, bd_some, mk_MS_thrown, mk_MS_length, mk_MS_seatsPaid, mk_MS_seatsHiss, mk_MS_lays, mk_MS_arranged, mk_MS_tape, mk_MS_s, mk_MS_area, mk_MS_kept, mk_MS_keptPaid, mk_MS_keptHiss, mk_MS_isKept, mk_MS_r, mk_MS_h, mk_MS_n, mk_MS_c, mk_MR_size, mk_MR_p, mk_MR_limit, mk_MR_token, mk_MR_place, mk_MR_span, mk_MR_number, mk_MR_fault, mk_MR_faultAt, mk_MR_word, mk_MR_got, mk_MH_lines, mk_MH_prices, mk_MH_leavings, mk_MH_onces, mk_MH_codeMany, mk_MH_pileMany, mk_MH_ones, mk_MH_coming, mk_MH_hh, mk_MH_newCues, mk_MH_code, mk_MH_pile, mk_MN_paidNow, mk_MN_hissNow, mk_MN_clapping, mk_MN_standing, mk_MN_low, mk_MN_high, mk_MN_gone, mk_MN_cueNext, mk_MN_nightHeight, mk_MN_nightCarries, mk_MN_held, mk_MN_claps, mk_MN_stand, mk_MN_heldLow, mk_MN_heldHigh, mk_MC_askedMany, mk_MC_bought, mk_MC_worthMany, mk_MC_allOrders, mk_MC_hasSides, mk_MC_seenClaps, mk_MC_seenStand, mk_MC_seenAll, mk_MC_beganA, mk_MC_beganB, mk_MC_seed, mk_MC_asked, mk_MC_carried, mk_MC_heights, mk_MC_worths, mk_MC_side, mk_MC_otherClaps, mk_MC_otherStand, mk_NT_paid, mk_NT_hiss, mk_NT_c1, mk_NT_c2, mk_NT_lo, mk_NT_hi, mk_NT_next, mk_Ac_a1, mk_Ac_a2, mk_Ac_l, mk_Ac_h, ev, e1, ey, hi 0 (by decide)]
  unfold lawLv
  rcases law 0 (by decide) m rfl rfl with ⟨-, h0, hf⟩ | ⟨o, h0, o1, o2, hd, e⟩
  · obtain ⟨hd, e⟩ := tail m rfl rfl
    refine ⟨hd, ?_⟩
    rw [h0, if_pos (by decide), hf, e]; rfl
  · rw [h0, if_neg (show ¬ n2 o ≤ 0 by rw [le0 (by omega)]; omega), e, bd_some]
    cases onLaw H 0 v one two own since
    · obtain ⟨hd', e'⟩ := tail (m.sHd hd) rfl rfl
      exact ⟨hd', e'⟩
    · refine ⟨hd, ?_⟩
      rw [if_neg (by decide), if_pos rfl]
      by_cases h : own < 2
      · rw [if_neg (show ¬ (2 : Int32) ≤ n2 own by rw [lle (k := 2) (by decide) (by omega)]; omega), if_pos h]; exact congrArg (fun z => some (z, _)) (n2_add own 1)
      · rw [if_pos (show (2 : Int32) ≤ n2 own by rw [lle (k := 2) (by decide) (by omega)]; omega), if_neg h]; rfl
section Seat
variable {kk202 : Rf → Int32 → Int32 → Int64 → Int64 → Int64 → Int64 → Int64 → Int64 → Int32 → Mem → Option (Unit × Mem)} {kk260 : Rf → Int32 → Int32 → Int64 → Int64 → Int64 → Int64 → Int64 → Int64 → Int32 → Int32 → Int32 → Mem → Option (Unit × Mem)} {t : Nat} {P : Int64 × Int64 × Bool} {N : NT} {one two : Int64} {A : Ac} {left : Int32} {r v : Nat}
theorem M_427 {v1 v2 v15 v16 : Int32} {lv sn : Nat} (hl : lv ≤ 2) (hs : sn ≤ 3) :
    bX4_moment_427 kk202 kk260 (some 106) v1 v2 one two A.a1 A.a2 A.l A.h v15 v16 (n2 v) (bitS v) (n2 lv) (n2 sn) (mkM b n s m) = kk260 (some 106) v1 v2 one two (putLv A v lv sn).a1 (putLv A v lv sn).a2 (putLv A v lv sn).l (putLv A v lv sn).h v15 v16 (n2 (v + 1)) (mkM b n s m) := by
  have e : n2 v + 1 = n2 (v + 1) := n2_add v 1
  unfold bX4_moment_427 bX4_moment_442 bX4_moment_459 bX4_moment_478 bX4_moment_495 bX4_moment_498
  have c3 : (n2 sn &&& (1 : Int32) = 1) = (sn % 2 = 1) := by
    have : ∀ k : Nat, k ≤ 3 → ((n2 k &&& (1 : Int32) = 1) ↔ (k % 2 = 1)) := by decide
    exact propext (this sn hs)
  simp only [lel (k := 0) (a := lv) (by decide) (by omega), lel (k := 1) (a := lv) (by decide) (by omega), lel (k := 1) (a := sn) (by decide) (by omega), c3, e, putLv, mk_Ac_a1, mk_Ac_a2, mk_Ac_l, mk_Ac_h]
  have d1 : (lv ≤ 0) = ¬ (0 < lv) := propext (by omega)
  have d2 : (lv ≤ 1) = ¬ (1 < lv) := propext (by omega)
  have d3 : (sn ≤ 1) = ¬ (1 < sn) := propext (by omega)
  simp only [d1, d2, d3]
  by_cases h1 : 0 < lv <;> by_cases h2 : 1 < lv <;> by_cases h3 : sn % 2 = 1 <;> by_cases h4 : 1 < sn <;> simp only [h1, h2, h3, h4, not_true_eq_false, not_false_eq_true, if_true, if_false]
theorem M_390 {v2 v15 v16 : Int32} {lv own : Nat} (ht : t ≤ 600) (hv : v < 64) (hl : lv ≤ 2) (ho : own ≤ 2) :
    bX4_moment_390 kk202 kk260 (some 106) (n2 t) v2 one two A.a1 A.a2 A.l A.h v15 v16 (n2 v) (bitS v) (n2 own) (n2 lv) (mkM b n s m) =
      kk260 (some 106) (n2 t) v2 one two (putLv A v lv (sinceOf t lv own (hdOf m.n.low m.n.high v))).a1 (putLv A v lv (sinceOf t lv own (hdOf m.n.low m.n.high v))).a2 (putLv A v lv (sinceOf t lv own (hdOf m.n.low m.n.high v))).l (putLv A v lv (sinceOf t lv own (hdOf m.n.low m.n.high v))).h v15 v16 (n2 (v + 1)) (mkM b n s m) := by
  refine Eq.trans ?_ (M_427 (kk202 := kk202) (v := v) hl (sinceOf_le t lv own (hdOf m.n.low m.n.high v)))
  unfold bX4_moment_390 bX4_moment_401
  have h3 := hdOf_le m.n.low m.n.high v
  unfold sinceOf
  simp -implicitDefEqProofs only [gM_55, gM_57, gM_58, gM_59, gM_60, gM_64, gM_65, gM_66, gM_67, gM_68, gM_69, gM_70, gM_71, gM_72, gM_73, gM_74, gM_75, gM_76, gM_77, gM_81, gM_82, gM_83, gM_85, gM_86, gM_91, gM_92, gM_93, gM_94, gM_95, gM_96, gM_97, gM_98, gM_99, gM_100, gM_102, gM_103, gM_107, gM_108, gM_110, gM_111, gM_112, gM_113, gM_114, gM_115, gM_118, gM_119, gM_56, aM_107, nM_107, gM_61, aM_108, nM_108, gM_62, aM_109, nM_109, gM_63, aM_110, nM_110, gM_78, aM_111, nM_111, gM_79, aM_112, nM_112, gM_80, aM_113, nM_113, gM_84, aM_114, nM_114, gM_87, aM_115, nM_115, gM_88, aM_116, nM_116, gM_89, aM_117, nM_117, gM_90, aM_118, nM_118, gM_101, aM_119, nM_119, gM_104, aM_120, nM_120, gM_105, aM_121, nM_121, gM_106, aM_122, nM_122, gM_109, aM_123, nM_123, gM_116, aM_124, nM_124, gM_117, aM_125, nM_125, gM_120, aM_126, nM_126, gM_121, aM_127, nM_127, gM_122, aM_128, nM_128, gM_123, aM_129, nM_129, pM_55, pM_57, pM_58, pM_59, pM_60, pM_64, pM_65, pM_66, pM_67, pM_68, pM_69, pM_70, pM_71, pM_72, pM_73, pM_74, pM_75, pM_76, pM_77, pM_81, pM_82, pM_83, pM_85, pM_86, pM_91, pM_92, pM_93, pM_94, pM_95, pM_96, pM_97, pM_98, pM_99, pM_100, pM_102, pM_103, pM_107, pM_108, pM_110, pM_111, pM_112, pM_113, pM_114, pM_115, pM_118, pM_119, uM_107, uM_108, uM_109, uM_110, uM_111, uM_112, uM_113, uM_114, uM_115, uM_116, uM_117, uM_118, uM_119, uM_120, uM_121, uM_122, uM_123, uM_124, uM_125, uM_126, uM_127, uM_128, uM_129, ivM, Option.bind_some, bd_some, mk_MS_thrown, mk_MS_length, mk_MS_seatsPaid, mk_MS_seatsHiss, mk_MS_lays, mk_MS_arranged, mk_MS_tape, mk_MS_s, mk_MS_area, mk_MS_kept, mk_MS_keptPaid, mk_MS_keptHiss, mk_MS_isKept, mk_MS_r, mk_MS_h, mk_MS_n, mk_MS_c, mk_MR_size, mk_MR_p, mk_MR_limit, mk_MR_token, mk_MR_place, mk_MR_span, mk_MR_number, mk_MR_fault, mk_MR_faultAt, mk_MR_word, mk_MR_got, mk_MH_lines, mk_MH_prices, mk_MH_leavings, mk_MH_onces, mk_MH_codeMany, mk_MH_pileMany, mk_MH_ones, mk_MH_coming, mk_MH_hh, mk_MH_newCues, mk_MH_code, mk_MH_pile, mk_MN_paidNow, mk_MN_hissNow, mk_MN_clapping, mk_MN_standing, mk_MN_low, mk_MN_high, mk_MN_gone, mk_MN_cueNext, mk_MN_nightHeight, mk_MN_nightCarries, mk_MN_held, mk_MN_claps, mk_MN_stand, mk_MN_heldLow, mk_MN_heldHigh, mk_MC_askedMany, mk_MC_bought, mk_MC_worthMany, mk_MC_allOrders, mk_MC_hasSides, mk_MC_seenClaps, mk_MC_seenStand, mk_MC_seenAll, mk_MC_beganA, mk_MC_beganB, mk_MC_seed, mk_MC_asked, mk_MC_carried, mk_MC_heights, mk_MC_worths, mk_MC_side, mk_MC_otherClaps, mk_MC_otherStand, mk_NT_paid, mk_NT_hiss, mk_NT_c1, mk_NT_c2, mk_NT_lo, mk_NT_hi, mk_NT_next, mk_Ac_a1, mk_Ac_a2, mk_Ac_l, mk_Ac_h, M_heldOf hv, eql (k := 0) (a := t) (by decide) (by omega), n2_eq (a := lv) (b := own) (by omega) (by omega), lle (k := 3) (a := hdOf m.n.low m.n.high v) (by decide) (by omega)]
  by_cases h1 : t = 0
  · simp only [h1, if_true, true_or]; rfl
  · simp only [h1, if_false, false_or]
    by_cases h2 : lv = own
    · simp only [h2, if_true, ne_eq, not_true_eq_false, if_false]
      by_cases h4 : hdOf m.n.low m.n.high v < 3
      · rw [if_neg (by omega), if_pos h4, show n2 (hdOf m.n.low m.n.high v) + (1 : Int32) = n2 (hdOf m.n.low m.n.high v + 1) from n2_add _ 1]
      · rw [if_pos (by omega), if_neg h4]; rfl
    · simp only [h2, if_false, ne_eq, not_false_eq_true, if_true]; rfl
/-- one seat -/
theorem M_seat (hH : MHouse m.s H) (ok : H.Ok) (ha : MArea m H) (hp : m.n.paidNow = P.1) (hh : m.n.hissNow = P.2.1) (h1 : m.n.clapping = N.c1) (h2 : m.n.standing = N.c2) (h3 : m.n.low = N.lo) (h4 : m.n.high = N.hi) (ht : t ≤ 600) (hr : r < H.rows) (hv : v < H.cols * (r + 1)) (hv' : H.cols * r ≤ v) :
    ∃ hd, bX4_moment_260B kk202 kk260 (some 106) (n2 t) (b2i P.2.2) one two A.a1 A.a2 A.l A.h (n2 r) (b2i (isLeft H t r)) (n2 v) (mkM b n s m) =
      kk260 (some 106) (n2 t) (b2i P.2.2) one two (seatSt H t P N one two A v).a1 (seatSt H t P N one two A v).a2 (seatSt H t P N one two A v).l (seatSt H t P N one two A v).h (n2 r) (b2i (isLeft H t r)) (n2 (v + 1)) (mkM b n s (m.sHd hd)) := by
  have h64 := ok.size
  have hr8 := ok.rows
  have hc8 := ok.cols
  have hpd := ok.paid
  have hvs : v < H.size := Nat.lt_of_lt_of_le hv (by unfold HS.size; rw [Nat.mul_comm]; exact Nat.mul_le_mul_right _ hr)
  have hrow : v / H.cols = r := by
    have : 0 < H.cols := by
      rcases Nat.eq_zero_or_pos H.cols with h | h
      · rw [h] at hv; omega
      · exact h
    refine Nat.div_eq_of_lt_le ?_ ?_
    · rw [Nat.mul_comm]; exact hv'
    · rw [Nat.mul_comm]; exact hv
  have hm64 : H.cols * (r + 1) ≤ 64 := Nat.le_trans (Nat.mul_le_mul_left _ hr) (by rw [Nat.mul_comm]; exact h64)
  have c1 : ifx 681 (1 : Int32) (m.s (1 : Int32).toNatClampNeg) = some (n2 H.cols) := by
    rw [show (1 : Int32) = n2 1 from rfl, ifx_n2 (by decide) (by decide), n2_nat (by decide), hH.cols]
  have c4 : ifx 681 (4 : Int32) (m.s (4 : Int32).toNatClampNeg) = some (n2 H.paid) := by
    rw [show (4 : Int32) = n2 4 from rfl, ifx_n2 (by decide) (by decide), n2_nat (by decide), hH.paid]
  have ev : (6 : Int32) + n2 v = n2 (6 + v) := n2_add 6 v
  have e1 : ifx 681 (n2 (6 + v)) (m.s (n2 (6 + v)).toNatClampNeg) = some (n2 (H.kind v)) := by
    rw [ifx_n2 (by omega) (by decide), n2_nat (by omega), hH.kind v (by omega), if_pos hvs]
  have em : n2 H.cols * (n2 r + (1 : Int32)) = n2 (H.cols * (r + 1)) := by rw [show (1 : Int32) = n2 1 from rfl, n2_add, n2_mul]
  have hk6 := ok.kind v
  have bz : ∀ x : Int64, (x &&& bitS v = 0) = (tb x v = false) := by
    intro x
    refine propext ⟨fun h => ?_, fun h => tb_ext fun k hk => ?_⟩
    · have := congrArg (fun z => tb z v) h
      simp only [tb_and, tb_zero, tb_bitS (show v < 64 by omega), decide_true, Bool.and_true] at this
      exact this
    · rw [tb_and, tb_zero, tb_bitS (show v < 64 by omega)]
      by_cases e : k = v
      · subst e; rw [h]; rfl
      · simp [e]
  have e498 : n2 v + 1 = n2 (v + 1) := n2_add v 1
  unfold bX4_moment_260B
  simp -implicitDefEqProofs only [gM_55, gM_57, gM_58, gM_59, gM_60, gM_64, gM_65, gM_66, gM_67, gM_68, gM_69, gM_70, gM_71, gM_72, gM_73, gM_74, gM_75, gM_76, gM_77, gM_81, gM_82, gM_83, gM_85, gM_86, gM_91, gM_92, gM_93, gM_94, gM_95, gM_96, gM_97, gM_98, gM_99, gM_100, gM_102, gM_103, gM_107, gM_108, gM_110, gM_111, gM_112, gM_113, gM_114, gM_115, gM_118, gM_119, gM_56, aM_107, nM_107, gM_61, aM_108, nM_108, gM_62, aM_109, nM_109, gM_63, aM_110, nM_110, gM_78, aM_111, nM_111, gM_79, aM_112, nM_112, gM_80, aM_113, nM_113, gM_84, aM_114, nM_114, gM_87, aM_115, nM_115, gM_88, aM_116, nM_116, gM_89, aM_117, nM_117, gM_90, aM_118, nM_118, gM_101, aM_119, nM_119, gM_104, aM_120, nM_120, gM_105, aM_121, nM_121, gM_106, aM_122, nM_122, gM_109, aM_123, nM_123, gM_116, aM_124, nM_124, gM_117, aM_125, nM_125, gM_120, aM_126, nM_126, gM_121, aM_127, nM_127, gM_122, aM_128, nM_128, gM_123, aM_129, nM_129, pM_55, pM_57, pM_58, pM_59, pM_60, pM_64, pM_65, pM_66, pM_67, pM_68, pM_69, pM_70, pM_71, pM_72, pM_73, pM_74, pM_75, pM_76, pM_77, pM_81, pM_82, pM_83, pM_85, pM_86, pM_91, pM_92, pM_93, pM_94, pM_95, pM_96, pM_97, pM_98, pM_99, pM_100, pM_102, pM_103, pM_107, pM_108, pM_110, pM_111, pM_112, pM_113, pM_114, pM_115, pM_118, pM_119, uM_107, uM_108, uM_109, uM_110, uM_111, uM_112, uM_113, uM_114, uM_115, uM_116, uM_117, uM_118, uM_119, uM_120, uM_121, uM_122, uM_123, uM_124, uM_125, uM_126, uM_127, uM_128, uM_129, ivM, Option.bind_some, bd_some, mk_MS_thrown, mk_MS_length, mk_MS_seatsPaid, mk_MS_seatsHiss, mk_MS_lays, mk_MS_arranged, mk_MS_tape, mk_MS_s, mk_MS_area, mk_MS_kept, mk_MS_keptPaid, mk_MS_keptHiss, mk_MS_isKept, mk_MS_r, mk_MS_h, mk_MS_n, mk_MS_c, mk_MR_size, mk_MR_p, mk_MR_limit, mk_MR_token, mk_MR_place, mk_MR_span, mk_MR_number, mk_MR_fault, mk_MR_faultAt, mk_MR_word, mk_MR_got, mk_MH_lines, mk_MH_prices, mk_MH_leavings, mk_MH_onces, mk_MH_codeMany, mk_MH_pileMany, mk_MH_ones, mk_MH_coming, mk_MH_hh, mk_MH_newCues, mk_MH_code, mk_MH_pile, mk_MN_paidNow, mk_MN_hissNow, mk_MN_clapping, mk_MN_standing, mk_MN_low, mk_MN_high, mk_MN_gone, mk_MN_cueNext, mk_MN_nightHeight, mk_MN_nightCarries, mk_MN_held, mk_MN_claps, mk_MN_stand, mk_MN_heldLow, mk_MN_heldHigh, mk_MC_askedMany, mk_MC_bought, mk_MC_worthMany, mk_MC_allOrders, mk_MC_hasSides, mk_MC_seenClaps, mk_MC_seenStand, mk_MC_seenAll, mk_MC_beganA, mk_MC_beganB, mk_MC_seed, mk_MC_asked, mk_MC_carried, mk_MC_heights, mk_MC_worths, mk_MC_side, mk_MC_otherClaps, mk_MC_otherStand, mk_NT_paid, mk_NT_hiss, mk_NT_c1, mk_NT_c2, mk_NT_lo, mk_NT_hi, mk_NT_next, mk_Ac_a1, mk_Ac_a2, mk_Ac_l, mk_Ac_h, c1, em, n2_le (a := H.cols * (r + 1)) (b := v) (by omega) (by omega), show ¬ H.cols * (r + 1) ≤ v from by omega, if_false, ev, e1, M_levelOf (show v < 64 by omega), eql (k := 0) (a := H.kind v) (by decide) (by omega)]
  unfold seatSt
  by_cases hk : H.kind v = 0
  · refine ⟨m.n.held, ?_⟩
    simp only [hk, not_true_eq_false, if_false, if_true]
    unfold bX4_moment_498
    rw [e498]; rfl
  simp only [hk, not_false_eq_true, if_true, if_false]
  rw [show shlL (1 : Int64) (n2 v) = bitS v from rfl, h1, h2]
  have ho := lvOf_le N.c1 N.c2 v
  -- the level, then the rest
  have fin : ∀ (lv : Nat) (hl : lv ≤ 2) (m' : MS) (hlo : m'.n.low = N.lo) (hhi : m'.n.high = N.hi), bX4_moment_390 kk202 kk260 (some 106) (n2 t) (b2i P.2.2) one two A.a1 A.a2 A.l A.h (n2 r) (b2i (isLeft H t r)) (n2 v) (bitS v) (n2 (lvOf N.c1 N.c2 v)) (n2 lv) (mkM b n s m') =
      kk260 (some 106) (n2 t) (b2i P.2.2) one two (putLv A v lv (sinceOf t lv (lvOf N.c1 N.c2 v) (hdOf N.lo N.hi v))).a1 (putLv A v lv (sinceOf t lv (lvOf N.c1 N.c2 v) (hdOf N.lo N.hi v))).a2 (putLv A v lv (sinceOf t lv (lvOf N.c1 N.c2 v) (hdOf N.lo N.hi v))).l (putLv A v lv (sinceOf t lv (lvOf N.c1 N.c2 v) (hdOf N.lo N.hi v))).h (n2 r) (b2i (isLeft H t r)) (n2 (v + 1)) (mkM b n s m') := by
    intro lv hl m' hlo hhi
    rw [M_390 ht (by omega) hl ho, hlo, hhi]
  unfold seatLv
  rw [hrow]
  cases hleft : isLeft H t r
  · -- not left
    rw [hleft] at fin
    simp only [show ¬ ¬ b2i false = 0 from fun h => h rfl, if_false, hh, bz, Bool.false_eq_true, false_or]
    cases hhs : tb P.2.1 v
    · simp only [if_true, Bool.false_eq_true, if_false, hp]
      -- the laws
      have laws : ∃ hd, bX4_moment_357 kk202 kk260 (some 106) (n2 t) (b2i P.2.2) one two A.a1 A.a2 A.l A.h (n2 r) (b2i false) (n2 v) (bitS v) (n2 (lvOf N.c1 N.c2 v)) (mkM b n s m) =
          kk260 (some 106) (n2 t) (b2i P.2.2) one two (putLv A v (if P.2.2 = true ∨ t = 0 then 0 else lawLv H v one two (lvOf N.c1 N.c2 v) (hdOf N.lo N.hi v)) (sinceOf t (if P.2.2 = true ∨ t = 0 then 0 else lawLv H v one two (lvOf N.c1 N.c2 v) (hdOf N.lo N.hi v)) (lvOf N.c1 N.c2 v) (hdOf N.lo N.hi v))).a1 (putLv A v (if P.2.2 = true ∨ t = 0 then 0 else lawLv H v one two (lvOf N.c1 N.c2 v) (hdOf N.lo N.hi v)) (sinceOf t (if P.2.2 = true ∨ t = 0 then 0 else lawLv H v one two (lvOf N.c1 N.c2 v) (hdOf N.lo N.hi v)) (lvOf N.c1 N.c2 v) (hdOf N.lo N.hi v))).a2 (putLv A v (if P.2.2 = true ∨ t = 0 then 0 else lawLv H v one two (lvOf N.c1 N.c2 v) (hdOf N.lo N.hi v)) (sinceOf t (if P.2.2 = true ∨ t = 0 then 0 else lawLv H v one two (lvOf N.c1 N.c2 v) (hdOf N.lo N.hi v)) (lvOf N.c1 N.c2 v) (hdOf N.lo N.hi v))).l (putLv A v (if P.2.2 = true ∨ t = 0 then 0 else lawLv H v one two (lvOf N.c1 N.c2 v) (hdOf N.lo N.hi v)) (sinceOf t (if P.2.2 = true ∨ t = 0 then 0 else lawLv H v one two (lvOf N.c1 N.c2 v) (hdOf N.lo N.hi v)) (lvOf N.c1 N.c2 v) (hdOf N.lo N.hi v))).h (n2 r) (b2i false) (n2 (v + 1)) (mkM b n s (m.sHd hd)) := by
        unfold bX4_moment_357 bX4_moment_365
        cases hst : P.2.2
        · rw [hst] at fin
          simp only [show ¬ ¬ b2i false = 0 from fun h => h rfl, if_false, Bool.false_eq_true, false_or, eql (k := 0) (a := t) (by decide) (show t < 2147483648 by omega)]
          by_cases h0 : t = 0
          · refine ⟨m.n.held, ?_⟩
            simp only [h0, not_true_eq_false, if_false, if_true]
            rw [h0] at fin
            exact fin 0 (by decide) m h3 h4
          · obtain ⟨hd, e⟩ := M_lawLevel (b := b) (n := n) (s := s) (one := one) (two := two) (own := lvOf N.c1 N.c2 v) (since := hdOf N.lo N.hi v) hH ok ha hvs hk ho
            refine ⟨hd, ?_⟩
            simp only [h0, not_false_eq_true, if_true, if_false]
            simp -implicitDefEqProofs only [gM_55, gM_57, gM_58, gM_59, gM_60, gM_64, gM_65, gM_66, gM_67, gM_68, gM_69, gM_70, gM_71, gM_72, gM_73, gM_74, gM_75, gM_76, gM_77, gM_81, gM_82, gM_83, gM_85, gM_86, gM_91, gM_92, gM_93, gM_94, gM_95, gM_96, gM_97, gM_98, gM_99, gM_100, gM_102, gM_103, gM_107, gM_108, gM_110, gM_111, gM_112, gM_113, gM_114, gM_115, gM_118, gM_119, gM_56, aM_107, nM_107, gM_61, aM_108, nM_108, gM_62, aM_109, nM_109, gM_63, aM_110, nM_110, gM_78, aM_111, nM_111, gM_79, aM_112, nM_112, gM_80, aM_113, nM_113, gM_84, aM_114, nM_114, gM_87, aM_115, nM_115, gM_88, aM_116, nM_116, gM_89, aM_117, nM_117, gM_90, aM_118, nM_118, gM_101, aM_119, nM_119, gM_104, aM_120, nM_120, gM_105, aM_121, nM_121, gM_106, aM_122, nM_122, gM_109, aM_123, nM_123, gM_116, aM_124, nM_124, gM_117, aM_125, nM_125, gM_120, aM_126, nM_126, gM_121, aM_127, nM_127, gM_122, aM_128, nM_128, gM_123, aM_129, nM_129, pM_55, pM_57, pM_58, pM_59, pM_60, pM_64, pM_65, pM_66, pM_67, pM_68, pM_69, pM_70, pM_71, pM_72, pM_73, pM_74, pM_75, pM_76, pM_77, pM_81, pM_82, pM_83, pM_85, pM_86, pM_91, pM_92, pM_93, pM_94, pM_95, pM_96, pM_97, pM_98, pM_99, pM_100, pM_102, pM_103, pM_107, pM_108, pM_110, pM_111, pM_112, pM_113, pM_114, pM_115, pM_118, pM_119, uM_107, uM_108, uM_109, uM_110, uM_111, uM_112, uM_113, uM_114, uM_115, uM_116, uM_117, uM_118, uM_119, uM_120, uM_121, uM_122, uM_123, uM_124, uM_125, uM_126, uM_127, uM_128, uM_129, ivM, Option.bind_some, bd_some, mk_MS_thrown, mk_MS_length, mk_MS_seatsPaid, mk_MS_seatsHiss, mk_MS_lays, mk_MS_arranged, mk_MS_tape, mk_MS_s, mk_MS_area, mk_MS_kept, mk_MS_keptPaid, mk_MS_keptHiss, mk_MS_isKept, mk_MS_r, mk_MS_h, mk_MS_n, mk_MS_c, mk_MR_size, mk_MR_p, mk_MR_limit, mk_MR_token, mk_MR_place, mk_MR_span, mk_MR_number, mk_MR_fault, mk_MR_faultAt, mk_MR_word, mk_MR_got, mk_MH_lines, mk_MH_prices, mk_MH_leavings, mk_MH_onces, mk_MH_codeMany, mk_MH_pileMany, mk_MH_ones, mk_MH_coming, mk_MH_hh, mk_MH_newCues, mk_MH_code, mk_MH_pile, mk_MN_paidNow, mk_MN_hissNow, mk_MN_clapping, mk_MN_standing, mk_MN_low, mk_MN_high, mk_MN_gone, mk_MN_cueNext, mk_MN_nightHeight, mk_MN_nightCarries, mk_MN_held, mk_MN_claps, mk_MN_stand, mk_MN_heldLow, mk_MN_heldHigh, mk_MC_askedMany, mk_MC_bought, mk_MC_worthMany, mk_MC_allOrders, mk_MC_hasSides, mk_MC_seenClaps, mk_MC_seenStand, mk_MC_seenAll, mk_MC_beganA, mk_MC_beganB, mk_MC_seed, mk_MC_asked, mk_MC_carried, mk_MC_heights, mk_MC_worths, mk_MC_side, mk_MC_otherClaps, mk_MC_otherStand, mk_NT_paid, mk_NT_hiss, mk_NT_c1, mk_NT_c2, mk_NT_lo, mk_NT_hi, mk_NT_next, mk_Ac_a1, mk_Ac_a2, mk_Ac_l, mk_Ac_h, M_heldOf (show v < 64 by omega), h3, h4, e]
            exact fin _ (lawLv_le ho) (m.sHd hd) h3 h4
        · rw [hst] at fin
          refine ⟨m.n.held, ?_⟩
          simp only [show ¬ b2i true = 0 from by decide, not_false_eq_true, if_true, true_or]
          exact fin 0 (by decide) m h3 h4
      cases hpa : tb P.1 v
      · simp only [if_true, Bool.false_eq_true, false_and, if_false]
        exact laws
      · simp only [Bool.true_eq_false, if_false, true_and]
        simp -implicitDefEqProofs only [gM_55, gM_57, gM_58, gM_59, gM_60, gM_64, gM_65, gM_66, gM_67, gM_68, gM_69, gM_70, gM_71, gM_72, gM_73, gM_74, gM_75, gM_76, gM_77, gM_81, gM_82, gM_83, gM_85, gM_86, gM_91, gM_92, gM_93, gM_94, gM_95, gM_96, gM_97, gM_98, gM_99, gM_100, gM_102, gM_103, gM_107, gM_108, gM_110, gM_111, gM_112, gM_113, gM_114, gM_115, gM_118, gM_119, gM_56, aM_107, nM_107, gM_61, aM_108, nM_108, gM_62, aM_109, nM_109, gM_63, aM_110, nM_110, gM_78, aM_111, nM_111, gM_79, aM_112, nM_112, gM_80, aM_113, nM_113, gM_84, aM_114, nM_114, gM_87, aM_115, nM_115, gM_88, aM_116, nM_116, gM_89, aM_117, nM_117, gM_90, aM_118, nM_118, gM_101, aM_119, nM_119, gM_104, aM_120, nM_120, gM_105, aM_121, nM_121, gM_106, aM_122, nM_122, gM_109, aM_123, nM_123, gM_116, aM_124, nM_124, gM_117, aM_125, nM_125, gM_120, aM_126, nM_126, gM_121, aM_127, nM_127, gM_122, aM_128, nM_128, gM_123, aM_129, nM_129, pM_55, pM_57, pM_58, pM_59, pM_60, pM_64, pM_65, pM_66, pM_67, pM_68, pM_69, pM_70, pM_71, pM_72, pM_73, pM_74, pM_75, pM_76, pM_77, pM_81, pM_82, pM_83, pM_85, pM_86, pM_91, pM_92, pM_93, pM_94, pM_95, pM_96, pM_97, pM_98, pM_99, pM_100, pM_102, pM_103, pM_107, pM_108, pM_110, pM_111, pM_112, pM_113, pM_114, pM_115, pM_118, pM_119, uM_107, uM_108, uM_109, uM_110, uM_111, uM_112, uM_113, uM_114, uM_115, uM_116, uM_117, uM_118, uM_119, uM_120, uM_121, uM_122, uM_123, uM_124, uM_125, uM_126, uM_127, uM_128, uM_129, ivM, Option.bind_some, bd_some, mk_MS_thrown, mk_MS_length, mk_MS_seatsPaid, mk_MS_seatsHiss, mk_MS_lays, mk_MS_arranged, mk_MS_tape, mk_MS_s, mk_MS_area, mk_MS_kept, mk_MS_keptPaid, mk_MS_keptHiss, mk_MS_isKept, mk_MS_r, mk_MS_h, mk_MS_n, mk_MS_c, mk_MR_size, mk_MR_p, mk_MR_limit, mk_MR_token, mk_MR_place, mk_MR_span, mk_MR_number, mk_MR_fault, mk_MR_faultAt, mk_MR_word, mk_MR_got, mk_MH_lines, mk_MH_prices, mk_MH_leavings, mk_MH_onces, mk_MH_codeMany, mk_MH_pileMany, mk_MH_ones, mk_MH_coming, mk_MH_hh, mk_MH_newCues, mk_MH_code, mk_MH_pile, mk_MN_paidNow, mk_MN_hissNow, mk_MN_clapping, mk_MN_standing, mk_MN_low, mk_MN_high, mk_MN_gone, mk_MN_cueNext, mk_MN_nightHeight, mk_MN_nightCarries, mk_MN_held, mk_MN_claps, mk_MN_stand, mk_MN_heldLow, mk_MN_heldHigh, mk_MC_askedMany, mk_MC_bought, mk_MC_worthMany, mk_MC_allOrders, mk_MC_hasSides, mk_MC_seenClaps, mk_MC_seenStand, mk_MC_seenAll, mk_MC_beganA, mk_MC_beganB, mk_MC_seed, mk_MC_asked, mk_MC_carried, mk_MC_heights, mk_MC_worths, mk_MC_side, mk_MC_otherClaps, mk_MC_otherStand, mk_NT_paid, mk_NT_hiss, mk_NT_c1, mk_NT_c2, mk_NT_lo, mk_NT_hi, mk_NT_next, mk_Ac_a1, mk_Ac_a2, mk_Ac_l, mk_Ac_h, c4, n2_lt (a := H.paid) (b := t) (by omega) (by omega)]
        by_cases hpt : t ≤ H.paid
        · refine ⟨m.n.held, ?_⟩
          rw [if_neg (by omega), if_pos hpt]
          exact fin 2 (by decide) m h3 h4
        · rw [if_pos (by omega), if_neg hpt]
          exact laws
    · refine ⟨m.n.held, ?_⟩
      simp only [Bool.true_eq_false, if_false, if_true]
      exact fin 0 (by decide) m h3 h4
  · refine ⟨m.n.held, ?_⟩
    rw [hleft] at fin
    simp only [show ¬ b2i true = 0 from by decide, not_false_eq_true, if_true, true_or]
    exact fin 0 (by decide) m h3 h4
end Seat
end NightM
