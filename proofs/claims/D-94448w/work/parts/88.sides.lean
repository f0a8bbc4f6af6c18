set_option linter.unusedVariables false
set_option linter.unusedSimpArgs false
set_option maxRecDepth 100000
/-! ===== command: sides ===== -/
def XS.sSd (x : XS) (f : Nat → Int32) : XS := (XS.mk (x.taped) (x.fault) (x.bought) (x.worthMany) (x.beganFirst) (x.beganSecond) (x.seed) (x.arranged) (x.paid) (x.hiss) (x.orders) (x.house) (x.cues) (x.tape) (x.states) (x.asked) (x.carriesSet) (x.heights) (x.worth) (x.mouths) (f) (x.keptHouse) (x.keptPaid) (x.keptHiss) (x.kMod) (x.kData) (x.kSize) (x.out) (x.n0) (x.n1))
def MS.sT (m : MS) (t d : Nat → Int32) : MS := (MS.mk (m.thrown) (m.length) (m.seatsPaid) (m.seatsHiss) (m.lays) (m.arranged) (m.tape) (m.s) (m.area) (m.kept) (m.keptPaid) (m.keptHiss) (m.isKept) (m.r) (m.h) (m.n) ((MC.mk (m.c.askedMany) (m.c.bought) (m.c.worthMany) (m.c.allOrders) (m.c.hasSides) (m.c.seenClaps) (m.c.seenStand) (m.c.seenAll) (m.c.beganA) (m.c.beganB) (m.c.seed) (m.c.asked) (m.c.carried) (t) (m.c.worths) (d) (m.c.otherClaps) (m.c.otherStand))))
def MS.sTh (m : MS) (t d : Nat → Int32) : MS := (MS.mk (m.thrown) (m.length) (m.seatsPaid) (m.seatsHiss) (m.lays) (m.arranged) (m.tape) (m.s) (m.area) (m.kept) (m.keptPaid) (m.keptHiss) (m.isKept) (m.r) (m.h) (m.n) ((MC.mk (m.c.askedMany) (m.c.bought) (m.c.worthMany) (m.c.allOrders) (1) (m.c.seenClaps) (m.c.seenStand) (m.c.seenAll) (m.c.beganA) (m.c.beganB) (m.c.seed) (m.c.asked) (m.c.carried) (t) (m.c.worths) (d) (m.c.otherClaps) (m.c.otherStand))))
theorem MC_eta (z : MC) : MC.mk z.askedMany z.bought z.worthMany z.allOrders z.hasSides z.seenClaps z.seenStand z.seenAll z.beganA z.beganB z.seed z.asked z.carried z.heights z.worths z.side z.otherClaps z.otherStand = z := rfl
theorem MS_eta (z : MS) : MS.mk z.thrown z.length z.seatsPaid z.seatsHiss z.lays z.arranged z.tape z.s z.area z.kept z.keptPaid z.keptHiss z.isKept z.r z.h z.n z.c = z := rfl
theorem sSd_self (x : XS) : x.sSd x.sided = x := by unfold XS.sSd; exact XS_eta x
theorem sT_self (m : MS) : m.sT m.c.heights m.c.side = m := by unfold MS.sT; rw [MC_eta m.c, MS_eta m]
theorem sSd_setN (x : XS) (f : Nat → Int32) (y : NX) : (x.sSd f).setN false y = (x.setN false y).sSd f := by simp -implicitDefEqProofs only [XS.sSd, XS.setN, mk_XS_taped, mk_XS_fault, mk_XS_bought, mk_XS_worthMany, mk_XS_beganFirst, mk_XS_beganSecond, mk_XS_seed, mk_XS_arranged, mk_XS_paid, mk_XS_hiss, mk_XS_orders, mk_XS_house, mk_XS_cues, mk_XS_tape, mk_XS_states, mk_XS_asked, mk_XS_carriesSet, mk_XS_heights, mk_XS_worth, mk_XS_mouths, mk_XS_sided, mk_XS_keptHouse, mk_XS_keptPaid, mk_XS_keptHiss, mk_XS_kMod, mk_XS_kData, mk_XS_kSize, mk_XS_out, mk_XS_n0, mk_XS_n1]
theorem sT_lay (m : MS) (t d : Nat → Int32) (g : Nat → Int64) (z : MN) : (m.sT t d).lay g z = (m.lay g z).sT t d := by simp -implicitDefEqProofs only [gM_55, gM_57, gM_58, gM_59, gM_60, gM_64, gM_65, gM_66, gM_67, gM_68, gM_69, gM_70, gM_71, gM_72, gM_73, gM_74, gM_75, gM_76, gM_77, gM_81, gM_82, gM_83, gM_85, gM_86, gM_91, gM_92, gM_93, gM_94, gM_95, gM_96, gM_97, gM_98, gM_99, gM_100, gM_102, gM_103, gM_107, gM_108, gM_110, gM_111, gM_112, gM_113, gM_114, gM_115, gM_118, gM_119, gM_56, aM_107, nM_107, gM_61, aM_108, nM_108, gM_62, aM_109, nM_109, gM_63, aM_110, nM_110, gM_78, aM_111, nM_111, gM_79, aM_112, nM_112, gM_80, aM_113, nM_113, gM_84, aM_114, nM_114, gM_87, aM_115, nM_115, gM_88, aM_116, nM_116, gM_89, aM_117, nM_117, gM_90, aM_118, nM_118, gM_101, aM_119, nM_119, gM_104, aM_120, nM_120, gM_105, aM_121, nM_121, gM_106, aM_122, nM_122, gM_109, aM_123, nM_123, gM_116, aM_124, nM_124, gM_117, aM_125, nM_125, gM_120, aM_126, nM_126, gM_121, aM_127, nM_127, gM_122, aM_128, nM_128, gM_123, aM_129, nM_129, pM_55, pM_57, pM_58, pM_59, pM_60, pM_64, pM_65, pM_66, pM_67, pM_68, pM_69, pM_70, pM_71, pM_72, pM_73, pM_74, pM_75, pM_76, pM_77, pM_81, pM_82, pM_83, pM_85, pM_86, pM_91, pM_92, pM_93, pM_94, pM_95, pM_96, pM_97, pM_98, pM_99, pM_100, pM_102, pM_103, pM_107, pM_108, pM_110, pM_111, pM_112, pM_113, pM_114, pM_115, pM_118, pM_119, uM_107, uM_108, uM_109, uM_110, uM_111, uM_112, uM_113, uM_114, uM_115, uM_116, uM_117, uM_118, uM_119, uM_120, uM_121, uM_122, uM_123, uM_124, uM_125, uM_126, uM_127, uM_128, uM_129, ivM, Option.bind_some, bd_some, mk_MS_thrown, mk_MS_length, mk_MS_seatsPaid, mk_MS_seatsHiss, mk_MS_lays, mk_MS_arranged, mk_MS_tape, mk_MS_s, mk_MS_area, mk_MS_kept, mk_MS_keptPaid, mk_MS_keptHiss, mk_MS_isKept, mk_MS_r, mk_MS_h, mk_MS_n, mk_MS_c, mk_MR_size, mk_MR_p, mk_MR_limit, mk_MR_token, mk_MR_place, mk_MR_span, mk_MR_number, mk_MR_fault, mk_MR_faultAt, mk_MR_word, mk_MR_got, mk_MH_lines, mk_MH_prices, mk_MH_leavings, mk_MH_onces, mk_MH_codeMany, mk_MH_pileMany, mk_MH_ones, mk_MH_coming, mk_MH_hh, mk_MH_newCues, mk_MH_code, mk_MH_pile, mk_MN_paidNow, mk_MN_hissNow, mk_MN_clapping, mk_MN_standing, mk_MN_low, mk_MN_high, mk_MN_gone, mk_MN_cueNext, mk_MN_nightHeight, mk_MN_nightCarries, mk_MN_held, mk_MN_claps, mk_MN_stand, mk_MN_heldLow, mk_MN_heldHigh, mk_MC_askedMany, mk_MC_bought, mk_MC_worthMany, mk_MC_allOrders, mk_MC_hasSides, mk_MC_seenClaps, mk_MC_seenStand, mk_MC_seenAll, mk_MC_beganA, mk_MC_beganB, mk_MC_seed, mk_MC_asked, mk_MC_carried, mk_MC_heights, mk_MC_worths, mk_MC_side, mk_MC_otherClaps, mk_MC_otherStand, mk_NT_paid, mk_NT_hiss, mk_NT_c1, mk_NT_c2, mk_NT_lo, mk_NT_hi, mk_NT_next, mk_Ac_a1, mk_Ac_a2, mk_Ac_l, mk_Ac_h, MS.sT, MS.lay]
theorem sSd_house (x : XS) (f : Nat → Int32) : (x.sSd f).house = x.house := rfl
theorem sSd_cues (x : XS) (f : Nat → Int32) : (x.sSd f).cues = x.cues := rfl
theorem sSd_paid (x : XS) (f : Nat → Int32) : (x.sSd f).paid = x.paid := rfl
theorem sSd_hiss (x : XS) (f : Nat → Int32) : (x.sSd f).hiss = x.hiss := rfl
theorem sSd_asked (x : XS) (f : Nat → Int32) : (x.sSd f).asked = x.asked := rfl
theorem sSd_mouths (x : XS) (f : Nat → Int32) : (x.sSd f).mouths = x.mouths := rfl
theorem sT_paid (m : MS) (t d : Nat → Int32) : (m.sT t d).seatsPaid = m.seatsPaid := rfl
theorem sT_hiss (m : MS) (t d : Nat → Int32) : (m.sT t d).seatsHiss = m.seatsHiss := rfl
theorem sT_asked (m : MS) (t d : Nat → Int32) : (m.sT t d).c.asked = m.c.asked := rfl
theorem sT_lays (m : MS) (t d : Nat → Int32) : (m.sT t d).lays = m.lays := rfl
theorem sT_area (m : MS) (t d : Nat → Int32) : (m.sT t d).area = m.area := rfl
theorem sT_s (m : MS) (t d : Nat → Int32) : (m.sT t d).s = m.s := rfl
theorem lay_asked (m : MS) (g : Nat → Int64) (z : MN) : (m.lay g z).c.asked = m.c.asked := rfl
def hN (H : HS) (C : List Cu) (p hi : Int64) : Nat := (hgtS H C p hi 61).toNatClampNeg
theorem hN_le (H : HS) (C : List Cu) (p hi : Int64) : hN H C p hi ≤ 64 := by
  obtain ⟨k, h1, h2⟩ := hgt_nat H C p hi
  unfold hN; rw [h2, n2_nat (by omega)]; exact h1
theorem hN_eq (H : HS) (C : List Cu) (p hi : Int64) : hgtS H C p hi 61 = n2 (hN H C p hi) := by
  obtain ⟨k, h1, h2⟩ := hgt_nat H C p hi
  unfold hN; rw [h2, n2_nat (by omega)]
def prN (H : HS) (C : List Cu) (p hi : Int64) (a : Nat → Nat) (N u v : Nat) : Nat := hN H C (p ||| shlL 1 (n2 (a u))) (hi ||| shlL 1 (n2 (a (N + v))))
abbrev Sid (x : XS) (m : MS) (a : Nat → Nat) (N P : Nat) (p hi : Int64) : Prop := (1 ≤ N) ∧ (N ≤ 6) ∧ (1 ≤ P) ∧ (P ≤ 6) ∧ (x.paid = p) ∧ (x.hiss = hi) ∧ (∀ u, u < N → x.asked u = n2 (a u)) ∧ (∀ v, v < P → x.mouths v = n2 (a (N + v))) ∧ (∀ u, u < N + P → m.c.asked u = n2 (a u))
theorem Sid.n1 {x : XS} {m : MS} {a : Nat → Nat} {N P : Nat} {p hi : Int64} (self : Sid x m a N P p hi) : 1 ≤ N := self.1
theorem Sid.n6 {x : XS} {m : MS} {a : Nat → Nat} {N P : Nat} {p hi : Int64} (self : Sid x m a N P p hi) : N ≤ 6 := self.2.1
theorem Sid.p1 {x : XS} {m : MS} {a : Nat → Nat} {N P : Nat} {p hi : Int64} (self : Sid x m a N P p hi) : 1 ≤ P := self.2.2.1
theorem Sid.p6 {x : XS} {m : MS} {a : Nat → Nat} {N P : Nat} {p hi : Int64} (self : Sid x m a N P p hi) : P ≤ 6 := self.2.2.2.1
theorem Sid.xp {x : XS} {m : MS} {a : Nat → Nat} {N P : Nat} {p hi : Int64} (self : Sid x m a N P p hi) : x.paid = p := self.2.2.2.2.1
theorem Sid.xi {x : XS} {m : MS} {a : Nat → Nat} {N P : Nat} {p hi : Int64} (self : Sid x m a N P p hi) : x.hiss = hi := self.2.2.2.2.2.1
theorem Sid.xa {x : XS} {m : MS} {a : Nat → Nat} {N P : Nat} {p hi : Int64} (self : Sid x m a N P p hi) : ∀ u, u < N → x.asked u = n2 (a u) := self.2.2.2.2.2.2.1
theorem Sid.xm {x : XS} {m : MS} {a : Nat → Nat} {N P : Nat} {p hi : Int64} (self : Sid x m a N P p hi) : ∀ v, v < P → x.mouths v = n2 (a (N + v)) := self.2.2.2.2.2.2.2.1
theorem Sid.ma {x : XS} {m : MS} {a : Nat → Nat} {N P : Nat} {p hi : Int64} (self : Sid x m a N P p hi) : ∀ u, u < N + P → m.c.asked u = n2 (a u) := self.2.2.2.2.2.2.2.2
section Sides
variable {b b' : Mem} {n s : Nat} {x : XS} {m : MS} {H : HS} {C : List Cu} {h c : Nat} {K : Nat → Option (HS × List Cu)} {p hi : Int64} {a : Nat → Nat} {N P : Nat} {f t d : Nat → Int32}
theorem Sid.nX {y : NX} (A : Sid x m a N P p hi) : Sid (x.setN false y) m a N P p hi := ⟨A.n1, A.n6, A.p1, A.p6, A.xp, A.xi, A.xa, A.xm, A.ma⟩
theorem Sid.ly {g : Nat → Int64} {z : MN} (A : Sid x m a N P p hi) : Sid x (m.lay g z) a N P p hi := ⟨A.n1, A.n6, A.p1, A.p6, A.xp, A.xi, A.xa, A.xm, A.ma⟩
theorem X_ht (R : Duo b x m H C h c K) (f : Nat → Int32) (p hi : Int64) : ∃ y, fX1_heightOf (some 64) (some h) p hi (mkX b (x.sSd f)) = some (n2 (hN H C p hi), mkX b ((x.setN false y).sSd f)) := by
  obtain ⟨y, e1⟩ := X_height R.hb (x := x.sSd f) (p := p) (hi := hi) R.XH R.ok R.XC ((sSd_cues x f).trans R.xc)
  rw [sSd_setN, hN_eq] at e1
  exact ⟨y, e1⟩
theorem D_ht0 (R : Duo b x m H C h c K) (t d : Nat → Int32) (p hi : Int64) : ∃ g z, fX4_height (some 106) p hi (mkM b' n s (m.sT t d)) = some (hgtS H C p hi 61, mkM b' n s ((m.sT t d).lay g z)) ∧ MArea ((m.sT t d).lay g z) H := by
  have h1 : MHouse (m.sT t d).s H := by rw [sT_s]; exact R.MH
  have h2 : MCues (m.sT t d).s C := by rw [sT_s]; exact R.MC
  have h3 : (m.sT t d).lays = 0 → MArea (m.sT t d) H := by
    rw [sT_lays]; intro hl a v h1 h2; rw [sT_area]; exact R.lays hl a v h1 h2
  have h4 : (m.sT t d).lays = 0 ∨ (m.sT t d).lays = 1 := by rw [sT_lays]; exact R.l01
  generalize m.sT t d = q at *
  obtain ⟨g, z, e2, ha, -⟩ := M_height (b := b') (n := n) (s := s) (m := q) (p := p) (h := hi) R.ok R.ar h1 h2 h3 h4
  exact ⟨g, z, e2, ha⟩
theorem D_ht1 (R : Duo b x m H C h c K) (t d : Nat → Int32) (p hi : Int64) : ∃ g z, fX4_height (some 106) p hi (mkM b' n s (m.sT t d)) = some (n2 (hN H C p hi), mkM b' n s ((m.lay g z).sT t d)) ∧ MArea (m.lay g z) H := by
  obtain ⟨g, z, e2, ha⟩ := D_ht0 (b' := b') (n := n) (s := s) R t d p hi
  rw [sT_lay, hN_eq] at e2
  rw [sT_lay] at ha
  refine ⟨g, z, e2, fun a v h1 h2 => ?_⟩
  have := ha a v h1 h2
  rw [sT_area] at this; exact this
theorem D_ht (R : Duo b x m H C h c K) (f t d : Nat → Int32) (p hi : Int64) : ∃ y g z, fX1_heightOf (some 64) (some h) p hi (mkX b (x.sSd f)) = some (n2 (hN H C p hi), mkX b ((x.setN false y).sSd f)) ∧ fX4_height (some 106) p hi (mkM b' n s (m.sT t d)) = some (n2 (hN H C p hi), mkM b' n s ((m.lay g z).sT t d)) ∧ Duo b (x.setN false y) (m.lay g z) H C h c K := by
  obtain ⟨y, e1⟩ := X_ht R f p hi
  obtain ⟨g, z, e2, ha⟩ := D_ht1 (b' := b') (n := n) (s := s) R t d p hi
  exact ⟨y, g, z, e1, e2, (R.lay ha).nX⟩
theorem uT_h {k : Nat} {v : Int32} (hk : k < 256) : uI (mkM b' n s (m.sT t d)) (some 121) (n2 k) v = some (mkM b' n s (m.sT (upq t k v) d)) := by
  rw [uM_121, ifx_k hk (by omega), n2_nat (by omega)]; simp -implicitDefEqProofs only [gM_55, gM_57, gM_58, gM_59, gM_60, gM_64, gM_65, gM_66, gM_67, gM_68, gM_69, gM_70, gM_71, gM_72, gM_73, gM_74, gM_75, gM_76, gM_77, gM_81, gM_82, gM_83, gM_85, gM_86, gM_91, gM_92, gM_93, gM_94, gM_95, gM_96, gM_97, gM_98, gM_99, gM_100, gM_102, gM_103, gM_107, gM_108, gM_110, gM_111, gM_112, gM_113, gM_114, gM_115, gM_118, gM_119, gM_56, aM_107, nM_107, gM_61, aM_108, nM_108, gM_62, aM_109, nM_109, gM_63, aM_110, nM_110, gM_78, aM_111, nM_111, gM_79, aM_112, nM_112, gM_80, aM_113, nM_113, gM_84, aM_114, nM_114, gM_87, aM_115, nM_115, gM_88, aM_116, nM_116, gM_89, aM_117, nM_117, gM_90, aM_118, nM_118, gM_101, aM_119, nM_119, gM_104, aM_120, nM_120, gM_105, aM_121, nM_121, gM_106, aM_122, nM_122, gM_109, aM_123, nM_123, gM_116, aM_124, nM_124, gM_117, aM_125, nM_125, gM_120, aM_126, nM_126, gM_121, aM_127, nM_127, gM_122, aM_128, nM_128, gM_123, aM_129, nM_129, pM_55, pM_57, pM_58, pM_59, pM_60, pM_64, pM_65, pM_66, pM_67, pM_68, pM_69, pM_70, pM_71, pM_72, pM_73, pM_74, pM_75, pM_76, pM_77, pM_81, pM_82, pM_83, pM_85, pM_86, pM_91, pM_92, pM_93, pM_94, pM_95, pM_96, pM_97, pM_98, pM_99, pM_100, pM_102, pM_103, pM_107, pM_108, pM_110, pM_111, pM_112, pM_113, pM_114, pM_115, pM_118, pM_119, uM_107, uM_108, uM_109, uM_110, uM_111, uM_112, uM_113, uM_114, uM_115, uM_116, uM_117, uM_118, uM_119, uM_120, uM_121, uM_122, uM_123, uM_124, uM_125, uM_126, uM_127, uM_128, uM_129, ivM, Option.bind_some, bd_some, mk_MS_thrown, mk_MS_length, mk_MS_seatsPaid, mk_MS_seatsHiss, mk_MS_lays, mk_MS_arranged, mk_MS_tape, mk_MS_s, mk_MS_area, mk_MS_kept, mk_MS_keptPaid, mk_MS_keptHiss, mk_MS_isKept, mk_MS_r, mk_MS_h, mk_MS_n, mk_MS_c, mk_MR_size, mk_MR_p, mk_MR_limit, mk_MR_token, mk_MR_place, mk_MR_span, mk_MR_number, mk_MR_fault, mk_MR_faultAt, mk_MR_word, mk_MR_got, mk_MH_lines, mk_MH_prices, mk_MH_leavings, mk_MH_onces, mk_MH_codeMany, mk_MH_pileMany, mk_MH_ones, mk_MH_coming, mk_MH_hh, mk_MH_newCues, mk_MH_code, mk_MH_pile, mk_MN_paidNow, mk_MN_hissNow, mk_MN_clapping, mk_MN_standing, mk_MN_low, mk_MN_high, mk_MN_gone, mk_MN_cueNext, mk_MN_nightHeight, mk_MN_nightCarries, mk_MN_held, mk_MN_claps, mk_MN_stand, mk_MN_heldLow, mk_MN_heldHigh, mk_MC_askedMany, mk_MC_bought, mk_MC_worthMany, mk_MC_allOrders, mk_MC_hasSides, mk_MC_seenClaps, mk_MC_seenStand, mk_MC_seenAll, mk_MC_beganA, mk_MC_beganB, mk_MC_seed, mk_MC_asked, mk_MC_carried, mk_MC_heights, mk_MC_worths, mk_MC_side, mk_MC_otherClaps, mk_MC_otherStand, mk_NT_paid, mk_NT_hiss, mk_NT_c1, mk_NT_c2, mk_NT_lo, mk_NT_hi, mk_NT_next, mk_Ac_a1, mk_Ac_a2, mk_Ac_l, mk_Ac_h, MS.sT]
theorem uT_s {k : Nat} {v : Int32} (hk : k < 3) : uI (mkM b' n s (m.sT t d)) (some 123) (n2 k) v = some (mkM b' n s (m.sT t (upq d k v))) := by
  rw [uM_123, ifx_k hk (by omega), n2_nat (by omega)]; simp -implicitDefEqProofs only [gM_55, gM_57, gM_58, gM_59, gM_60, gM_64, gM_65, gM_66, gM_67, gM_68, gM_69, gM_70, gM_71, gM_72, gM_73, gM_74, gM_75, gM_76, gM_77, gM_81, gM_82, gM_83, gM_85, gM_86, gM_91, gM_92, gM_93, gM_94, gM_95, gM_96, gM_97, gM_98, gM_99, gM_100, gM_102, gM_103, gM_107, gM_108, gM_110, gM_111, gM_112, gM_113, gM_114, gM_115, gM_118, gM_119, gM_56, aM_107, nM_107, gM_61, aM_108, nM_108, gM_62, aM_109, nM_109, gM_63, aM_110, nM_110, gM_78, aM_111, nM_111, gM_79, aM_112, nM_112, gM_80, aM_113, nM_113, gM_84, aM_114, nM_114, gM_87, aM_115, nM_115, gM_88, aM_116, nM_116, gM_89, aM_117, nM_117, gM_90, aM_118, nM_118, gM_101, aM_119, nM_119, gM_104, aM_120, nM_120, gM_105, aM_121, nM_121, gM_106, aM_122, nM_122, gM_109, aM_123, nM_123, gM_116, aM_124, nM_124, gM_117, aM_125, nM_125, gM_120, aM_126, nM_126, gM_121, aM_127, nM_127, gM_122, aM_128, nM_128, gM_123, aM_129, nM_129, pM_55, pM_57, pM_58, pM_59, pM_60, pM_64, pM_65, pM_66, pM_67, pM_68, pM_69, pM_70, pM_71, pM_72, pM_73, pM_74, pM_75, pM_76, pM_77, pM_81, pM_82, pM_83, pM_85, pM_86, pM_91, pM_92, pM_93, pM_94, pM_95, pM_96, pM_97, pM_98, pM_99, pM_100, pM_102, pM_103, pM_107, pM_108, pM_110, pM_111, pM_112, pM_113, pM_114, pM_115, pM_118, pM_119, uM_107, uM_108, uM_109, uM_110, uM_111, uM_112, uM_113, uM_114, uM_115, uM_116, uM_117, uM_118, uM_119, uM_120, uM_121, uM_122, uM_123, uM_124, uM_125, uM_126, uM_127, uM_128, uM_129, ivM, Option.bind_some, bd_some, mk_MS_thrown, mk_MS_length, mk_MS_seatsPaid, mk_MS_seatsHiss, mk_MS_lays, mk_MS_arranged, mk_MS_tape, mk_MS_s, mk_MS_area, mk_MS_kept, mk_MS_keptPaid, mk_MS_keptHiss, mk_MS_isKept, mk_MS_r, mk_MS_h, mk_MS_n, mk_MS_c, mk_MR_size, mk_MR_p, mk_MR_limit, mk_MR_token, mk_MR_place, mk_MR_span, mk_MR_number, mk_MR_fault, mk_MR_faultAt, mk_MR_word, mk_MR_got, mk_MH_lines, mk_MH_prices, mk_MH_leavings, mk_MH_onces, mk_MH_codeMany, mk_MH_pileMany, mk_MH_ones, mk_MH_coming, mk_MH_hh, mk_MH_newCues, mk_MH_code, mk_MH_pile, mk_MN_paidNow, mk_MN_hissNow, mk_MN_clapping, mk_MN_standing, mk_MN_low, mk_MN_high, mk_MN_gone, mk_MN_cueNext, mk_MN_nightHeight, mk_MN_nightCarries, mk_MN_held, mk_MN_claps, mk_MN_stand, mk_MN_heldLow, mk_MN_heldHigh, mk_MC_askedMany, mk_MC_bought, mk_MC_worthMany, mk_MC_allOrders, mk_MC_hasSides, mk_MC_seenClaps, mk_MC_seenStand, mk_MC_seenAll, mk_MC_beganA, mk_MC_beganB, mk_MC_seed, mk_MC_asked, mk_MC_carried, mk_MC_heights, mk_MC_worths, mk_MC_side, mk_MC_otherClaps, mk_MC_otherStand, mk_NT_paid, mk_NT_hiss, mk_NT_c1, mk_NT_c2, mk_NT_lo, mk_NT_hi, mk_NT_next, mk_Ac_a1, mk_Ac_a2, mk_Ac_l, mk_Ac_h, MS.sT]
theorem aT_h {k : Nat} (hk : k < 256) : aI (mkM b' n s (m.sT t d)) (some 121) (n2 k) = some (t k) := by
  rw [aM_121, ifx_k hk (by omega), n2_nat (by omega)]; simp -implicitDefEqProofs only [gM_55, gM_57, gM_58, gM_59, gM_60, gM_64, gM_65, gM_66, gM_67, gM_68, gM_69, gM_70, gM_71, gM_72, gM_73, gM_74, gM_75, gM_76, gM_77, gM_81, gM_82, gM_83, gM_85, gM_86, gM_91, gM_92, gM_93, gM_94, gM_95, gM_96, gM_97, gM_98, gM_99, gM_100, gM_102, gM_103, gM_107, gM_108, gM_110, gM_111, gM_112, gM_113, gM_114, gM_115, gM_118, gM_119, gM_56, aM_107, nM_107, gM_61, aM_108, nM_108, gM_62, aM_109, nM_109, gM_63, aM_110, nM_110, gM_78, aM_111, nM_111, gM_79, aM_112, nM_112, gM_80, aM_113, nM_113, gM_84, aM_114, nM_114, gM_87, aM_115, nM_115, gM_88, aM_116, nM_116, gM_89, aM_117, nM_117, gM_90, aM_118, nM_118, gM_101, aM_119, nM_119, gM_104, aM_120, nM_120, gM_105, aM_121, nM_121, gM_106, aM_122, nM_122, gM_109, aM_123, nM_123, gM_116, aM_124, nM_124, gM_117, aM_125, nM_125, gM_120, aM_126, nM_126, gM_121, aM_127, nM_127, gM_122, aM_128, nM_128, gM_123, aM_129, nM_129, pM_55, pM_57, pM_58, pM_59, pM_60, pM_64, pM_65, pM_66, pM_67, pM_68, pM_69, pM_70, pM_71, pM_72, pM_73, pM_74, pM_75, pM_76, pM_77, pM_81, pM_82, pM_83, pM_85, pM_86, pM_91, pM_92, pM_93, pM_94, pM_95, pM_96, pM_97, pM_98, pM_99, pM_100, pM_102, pM_103, pM_107, pM_108, pM_110, pM_111, pM_112, pM_113, pM_114, pM_115, pM_118, pM_119, uM_107, uM_108, uM_109, uM_110, uM_111, uM_112, uM_113, uM_114, uM_115, uM_116, uM_117, uM_118, uM_119, uM_120, uM_121, uM_122, uM_123, uM_124, uM_125, uM_126, uM_127, uM_128, uM_129, ivM, Option.bind_some, bd_some, mk_MS_thrown, mk_MS_length, mk_MS_seatsPaid, mk_MS_seatsHiss, mk_MS_lays, mk_MS_arranged, mk_MS_tape, mk_MS_s, mk_MS_area, mk_MS_kept, mk_MS_keptPaid, mk_MS_keptHiss, mk_MS_isKept, mk_MS_r, mk_MS_h, mk_MS_n, mk_MS_c, mk_MR_size, mk_MR_p, mk_MR_limit, mk_MR_token, mk_MR_place, mk_MR_span, mk_MR_number, mk_MR_fault, mk_MR_faultAt, mk_MR_word, mk_MR_got, mk_MH_lines, mk_MH_prices, mk_MH_leavings, mk_MH_onces, mk_MH_codeMany, mk_MH_pileMany, mk_MH_ones, mk_MH_coming, mk_MH_hh, mk_MH_newCues, mk_MH_code, mk_MH_pile, mk_MN_paidNow, mk_MN_hissNow, mk_MN_clapping, mk_MN_standing, mk_MN_low, mk_MN_high, mk_MN_gone, mk_MN_cueNext, mk_MN_nightHeight, mk_MN_nightCarries, mk_MN_held, mk_MN_claps, mk_MN_stand, mk_MN_heldLow, mk_MN_heldHigh, mk_MC_askedMany, mk_MC_bought, mk_MC_worthMany, mk_MC_allOrders, mk_MC_hasSides, mk_MC_seenClaps, mk_MC_seenStand, mk_MC_seenAll, mk_MC_beganA, mk_MC_beganB, mk_MC_seed, mk_MC_asked, mk_MC_carried, mk_MC_heights, mk_MC_worths, mk_MC_side, mk_MC_otherClaps, mk_MC_otherStand, mk_NT_paid, mk_NT_hiss, mk_NT_c1, mk_NT_c2, mk_NT_lo, mk_NT_hi, mk_NT_next, mk_Ac_a1, mk_Ac_a2, mk_Ac_l, mk_Ac_h, MS.sT]
theorem pT_1 : pI (mkM b' n s (m.sT t d)) (some 106) 110 1 = some (mkM b' n s (m.sTh t d)) := by
  rw [pM_110 (Or.inr rfl)]; simp -implicitDefEqProofs only [gM_55, gM_57, gM_58, gM_59, gM_60, gM_64, gM_65, gM_66, gM_67, gM_68, gM_69, gM_70, gM_71, gM_72, gM_73, gM_74, gM_75, gM_76, gM_77, gM_81, gM_82, gM_83, gM_85, gM_86, gM_91, gM_92, gM_93, gM_94, gM_95, gM_96, gM_97, gM_98, gM_99, gM_100, gM_102, gM_103, gM_107, gM_108, gM_110, gM_111, gM_112, gM_113, gM_114, gM_115, gM_118, gM_119, gM_56, aM_107, nM_107, gM_61, aM_108, nM_108, gM_62, aM_109, nM_109, gM_63, aM_110, nM_110, gM_78, aM_111, nM_111, gM_79, aM_112, nM_112, gM_80, aM_113, nM_113, gM_84, aM_114, nM_114, gM_87, aM_115, nM_115, gM_88, aM_116, nM_116, gM_89, aM_117, nM_117, gM_90, aM_118, nM_118, gM_101, aM_119, nM_119, gM_104, aM_120, nM_120, gM_105, aM_121, nM_121, gM_106, aM_122, nM_122, gM_109, aM_123, nM_123, gM_116, aM_124, nM_124, gM_117, aM_125, nM_125, gM_120, aM_126, nM_126, gM_121, aM_127, nM_127, gM_122, aM_128, nM_128, gM_123, aM_129, nM_129, pM_55, pM_57, pM_58, pM_59, pM_60, pM_64, pM_65, pM_66, pM_67, pM_68, pM_69, pM_70, pM_71, pM_72, pM_73, pM_74, pM_75, pM_76, pM_77, pM_81, pM_82, pM_83, pM_85, pM_86, pM_91, pM_92, pM_93, pM_94, pM_95, pM_96, pM_97, pM_98, pM_99, pM_100, pM_102, pM_103, pM_107, pM_108, pM_110, pM_111, pM_112, pM_113, pM_114, pM_115, pM_118, pM_119, uM_107, uM_108, uM_109, uM_110, uM_111, uM_112, uM_113, uM_114, uM_115, uM_116, uM_117, uM_118, uM_119, uM_120, uM_121, uM_122, uM_123, uM_124, uM_125, uM_126, uM_127, uM_128, uM_129, ivM, Option.bind_some, bd_some, mk_MS_thrown, mk_MS_length, mk_MS_seatsPaid, mk_MS_seatsHiss, mk_MS_lays, mk_MS_arranged, mk_MS_tape, mk_MS_s, mk_MS_area, mk_MS_kept, mk_MS_keptPaid, mk_MS_keptHiss, mk_MS_isKept, mk_MS_r, mk_MS_h, mk_MS_n, mk_MS_c, mk_MR_size, mk_MR_p, mk_MR_limit, mk_MR_token, mk_MR_place, mk_MR_span, mk_MR_number, mk_MR_fault, mk_MR_faultAt, mk_MR_word, mk_MR_got, mk_MH_lines, mk_MH_prices, mk_MH_leavings, mk_MH_onces, mk_MH_codeMany, mk_MH_pileMany, mk_MH_ones, mk_MH_coming, mk_MH_hh, mk_MH_newCues, mk_MH_code, mk_MH_pile, mk_MN_paidNow, mk_MN_hissNow, mk_MN_clapping, mk_MN_standing, mk_MN_low, mk_MN_high, mk_MN_gone, mk_MN_cueNext, mk_MN_nightHeight, mk_MN_nightCarries, mk_MN_held, mk_MN_claps, mk_MN_stand, mk_MN_heldLow, mk_MN_heldHigh, mk_MC_askedMany, mk_MC_bought, mk_MC_worthMany, mk_MC_allOrders, mk_MC_hasSides, mk_MC_seenClaps, mk_MC_seenStand, mk_MC_seenAll, mk_MC_beganA, mk_MC_beganB, mk_MC_seed, mk_MC_asked, mk_MC_carried, mk_MC_heights, mk_MC_worths, mk_MC_side, mk_MC_otherClaps, mk_MC_otherStand, mk_NT_paid, mk_NT_hiss, mk_NT_c1, mk_NT_c2, mk_NT_lo, mk_NT_hi, mk_NT_next, mk_Ac_a1, mk_Ac_a2, mk_Ac_l, mk_Ac_h, MS.sT, MS.sTh]
theorem uS_s (hb : 131 ≤ mNx b) {k : Nat} {v : Int32} (hk : k < 3) : uI (mkX b (x.sSd f)) (some 101) (n2 k) v = some (mkX b (x.sSd (upq f k v))) := by
  rw [uX_101 hb, ifx_k hk (by omega), n2_nat (by omega)]; simp -implicitDefEqProofs only [XS.sSd, mk_XS_taped, mk_XS_fault, mk_XS_bought, mk_XS_worthMany, mk_XS_beganFirst, mk_XS_beganSecond, mk_XS_seed, mk_XS_arranged, mk_XS_paid, mk_XS_hiss, mk_XS_orders, mk_XS_house, mk_XS_cues, mk_XS_tape, mk_XS_states, mk_XS_asked, mk_XS_carriesSet, mk_XS_heights, mk_XS_worth, mk_XS_mouths, mk_XS_sided, mk_XS_keptHouse, mk_XS_keptPaid, mk_XS_keptHiss, mk_XS_kMod, mk_XS_kData, mk_XS_kSize, mk_XS_out, mk_XS_n0, mk_XS_n1]
theorem aS_s (hb : 131 ≤ mNx b) {k : Nat} (hk : k < 3) : aI (mkX b (x.sSd f)) (some 101) (n2 k) = some (f k) := by
  rw [aX_101 hb, ifx_k hk (by omega), n2_nat (by omega)]; simp -implicitDefEqProofs only [XS.sSd, mk_XS_taped, mk_XS_fault, mk_XS_bought, mk_XS_worthMany, mk_XS_beganFirst, mk_XS_beganSecond, mk_XS_seed, mk_XS_arranged, mk_XS_paid, mk_XS_hiss, mk_XS_orders, mk_XS_house, mk_XS_cues, mk_XS_tape, mk_XS_states, mk_XS_asked, mk_XS_carriesSet, mk_XS_heights, mk_XS_worth, mk_XS_mouths, mk_XS_sided, mk_XS_keptHouse, mk_XS_keptPaid, mk_XS_keptHiss, mk_XS_kMod, mk_XS_kData, mk_XS_kSize, mk_XS_out, mk_XS_n0, mk_XS_n1]
theorem L_s1i {kkX : Rf → Int32 → Int32 → Int32 → Int32 → Mem → Option (Int32 × Mem)} {kkM : Rf → Int32 → Int32 → Int32 → Int32 → Int32 → Mem → Option (Int32 × Mem)} {best v4 : Int32} {i : Nat} (hi6 : i < N) : ∀ (k F F' j : Nat) (vx vm : Int32) (x : XS) (m : MS) (t : Nat → Int32), j + k = P → k < F → k < F' → Duo b x m H C h c K → Sid x m a N P p hi →
    ((j = 0 ∧ vx = 65 ∧ vm = 1000000000) ∨ ∃ q, 0 < j ∧ q ≤ 64 ∧ vx = n2 q ∧ vm = n2 q) → (∀ v, v < j → t (6 * i + v) = n2 (prN H C p hi a N i v)) →
    ∃ x' m' t' q, q ≤ 64 ∧ Duo b x' m' H C h c K ∧ Sid x' m' a N P p hi ∧ (∀ w, w < 6 * i → t' w = t w) ∧ (∀ v, v < P → t' (6 * i + v) = n2 (prN H C p hi a N i v)) ∧
      bX1_sides_108 kkX F (some 64) (n2 N) (n2 P) best (n2 i) vx (n2 j) (mkX b (x.sSd f)) = (if best < n2 q then kkX (some 64) (n2 N) (n2 P) (n2 q) (n2 (i + 1)) (mkX b (x'.sSd (upq f 1 (n2 (a i))))) else kkX (some 64) (n2 N) (n2 P) best (n2 (i + 1)) (mkX b (x'.sSd f))) ∧
      bX4_sides_101 kkM F' (some 106) (n2 N) (n2 P) best v4 (n2 i) vm (n2 j) (mkM b' n s (m.sT t d)) = (if best < n2 q then kkM (some 106) (n2 N) (n2 P) (n2 q) v4 (n2 (i + 1)) (mkM b' n s (m'.sT t' (upq d 1 (n2 (a i))))) else kkM (some 106) (n2 N) (n2 P) best v4 (n2 (i + 1)) (mkM b' n s (m'.sT t' d))) := by
  intro k
  induction k with
  | zero =>
    intro F F' j vx vm x m t hk hF hF' R A hv ht
    obtain ⟨F, rfl⟩ : ∃ g, F = g + 1 := ⟨F - 1, by omega⟩
    obtain ⟨F', rfl⟩ : ∃ g, F' = g + 1 := ⟨F' - 1, by omega⟩
    have e : j = P := by omega
    subst e
    have p1 := A.p1
    have n6 := A.n6
    obtain ⟨q, -, hq, rfl, rfl⟩ : ∃ q, 0 < j ∧ q ≤ 64 ∧ vx = n2 q ∧ vm = n2 q := by
      rcases hv with ⟨h0, -⟩ | h0
      · omega
      · exact h0
    refine ⟨x, m, t, q, hq, R, A, fun _ _ => rfl, ht, ?_, ?_⟩
    · show bX1_sides_108B kkX _ _ _ _ _ _ _ _ _ = _
      unfold bX1_sides_108B bX1_sides_190
      simp -implicitDefEqProofs only [Option.bind_some, bd_some, b2i_0, Bool.true_eq_false, Bool.false_eq_true, eq_self, if_true, if_false, not_true_eq_false, not_false_eq_true, show (n2 j ≤ n2 j) = True from eq_true (Int32.le_refl _), gX_19 R.hb, gX_11 R.hb, aX_96 R.hb, sSd_asked, ifx_k (show i < 8 by omega) (show i < 2147483648 by omega), n2_nat (show i < 2147483648 by omega), A.xa i hi6, show ∀ v, uI (mkX b (x.sSd f)) (some 101) (1 : Int32) v = some (mkX b (x.sSd (upq f 1 v))) from fun v => uS_s R.hb (k := 1) (by decide), show n2 i + 1 = n2 (i + 1) from n2_add i 1]
    · show bX4_sides_101B kkM _ _ _ _ _ _ _ _ _ _ = _
      unfold bX4_sides_101B bX4_sides_205
      simp -implicitDefEqProofs only [Option.bind_some, bd_some, b2i_0, Bool.true_eq_false, Bool.false_eq_true, eq_self, if_true, if_false, not_true_eq_false, not_false_eq_true, show (n2 j ≤ n2 j) = True from eq_true (Int32.le_refl _), gM_109, gM_101, aM_119, sT_asked, ifx_k (show i < 14 by omega) (show i < 2147483648 by omega), n2_nat (show i < 2147483648 by omega), A.ma i (by omega), show ∀ v, uI (mkM b' n s (m.sT t d)) (some 123) (1 : Int32) v = some (mkM b' n s (m.sT t (upq d 1 v))) from fun v => uT_s (k := 1) (by decide), show n2 i + 1 = n2 (i + 1) from n2_add i 1]
  | succ k ih =>
    intro F F' j vx vm x m t hk hF hF' R A hv ht
    obtain ⟨F, rfl⟩ : ∃ g, F = g + 1 := ⟨F - 1, by omega⟩
    obtain ⟨F', rfl⟩ : ∃ g, F' = g + 1 := ⟨F' - 1, by omega⟩
    have n6 := A.n6
    have p6 := A.p6
    have hj : j < P := by omega
    have le : (n2 P ≤ n2 j) = False := by rw [n2_le (by omega) (by omega)]; exact eq_false (by omega)
    have pp1 : m.seatsPaid = p := R.paid.symm.trans A.xp
    have pp2 : m.seatsHiss = hi := R.hiss.symm.trans A.xi
    have ix : (6 : Int32) * n2 i + n2 j = n2 (6 * i + j) := by rw [li_6, n2_mul, n2_add]
    obtain ⟨y, g, z, e1, e2, D⟩ := D_ht (b' := b') (n := n) (s := s) R f t d (p ||| shlL 1 (n2 (a i))) (hi ||| shlL 1 (n2 (a (N + j))))
    have hw := hN_le H C (p ||| shlL 1 (n2 (a i))) (hi ||| shlL 1 (n2 (a (N + j))))
    have hw' : hN H C (p ||| shlL 1 (n2 (a i))) (hi ||| shlL 1 (n2 (a (N + j)))) = prN H C p hi a N i j := rfl
    rw [hw'] at e1 e2 hw
    generalize hW : prN H C p hi a N i j = W at e1 e2 hw hw'
    have T : ∀ v, v < j + 1 → upq t (6 * i + j) (n2 W) (6 * i + v) = n2 (prN H C p hi a N i v) := by
      intro v hv
      by_cases ev : v = j
      · rw [ev, upq_self, hW]
      · rw [upq_ne _ _ (by omega)]; exact ht v (by omega)
    have T0 : ∀ w, w < 6 * i → upq t (6 * i + j) (n2 W) w = t w := fun w hw => upq_ne _ _ (by omega)
    -- the next least
    have nxt : ∃ q, q ≤ 64 ∧ mminI vx (n2 W) = n2 q ∧ (if vm ≤ n2 W then bX4_sides_172 kkM (bX4_sides_101 kkM F') (some 106) (n2 N) (n2 P) best v4 (n2 i) (n2 j) vm (mkM b' n s ((m.lay g z).sT (upq t (6 * i + j) (n2 W)) d)) else bX4_sides_172 kkM (bX4_sides_101 kkM F') (some 106) (n2 N) (n2 P) best v4 (n2 i) (n2 j) (n2 W) (mkM b' n s ((m.lay g z).sT (upq t (6 * i + j) (n2 W)) d))) = bX4_sides_101 kkM F' (some 106) (n2 N) (n2 P) best v4 (n2 i) (n2 q) (n2 (j + 1)) (mkM b' n s ((m.lay g z).sT (upq t (6 * i + j) (n2 W)) d)) := by
      unfold bX4_sides_172 mminI
      rw [show n2 j + 1 = n2 (j + 1) from n2_add j 1]
      rcases hv with ⟨-, rfl, rfl⟩ | ⟨q, -, hq, rfl, rfl⟩
      · refine ⟨W, hw, ?_, ?_⟩
        · rw [if_pos (by rw [li_65, n2_lt (by omega) (by omega)]; omega)]
        · rw [if_neg (by rw [show (1000000000 : Int32) = n2 1000000000 from rfl, n2_le (by omega) (by omega)]; omega)]
      · by_cases hc : q ≤ W
        · refine ⟨q, hq, ?_, ?_⟩
          · rw [if_neg (by rw [n2_lt (by omega) (by omega)]; omega)]
          · rw [if_pos (by rw [n2_le (by omega) (by omega)]; omega)]
        · refine ⟨W, hw, ?_, ?_⟩
          · rw [if_pos (by rw [n2_lt (by omega) (by omega)]; omega)]
          · rw [if_neg (by rw [n2_le (by omega) (by omega)]; omega)]
    obtain ⟨q, hq, eX, eM⟩ := nxt
    obtain ⟨x', m', t', q', h1, h2, h3, h4, h5, h6, h7⟩ := ih F F' (j + 1) (n2 q) (n2 q) (x.setN false y) (m.lay g z) (upq t (6 * i + j) (n2 W)) (by omega) (by omega) (by omega) D A.nX.ly (Or.inr ⟨q, by omega, hq, rfl, rfl⟩) T
    refine ⟨x', m', t', q', h1, h2, h3, fun w hw => (h4 w hw).trans (T0 w hw), h5, ?_, ?_⟩
    · rw [← h6]
      show bX1_sides_108B kkX (bX1_sides_108 kkX F) _ _ _ _ _ _ _ _ = _
      unfold bX1_sides_108B
      simp -implicitDefEqProofs only [Option.bind_some, bd_some, b2i_0, Bool.true_eq_false, Bool.false_eq_true, eq_self, if_true, if_false, not_true_eq_false, not_false_eq_true, le, gX_4 R.hb, sSd_house, R.xh, gX_5 R.hb, sSd_paid, A.xp, gX_11 R.hb, aX_96 R.hb, sSd_asked, ifx_k (show i < 8 by omega) (show i < 2147483648 by omega), n2_nat (show i < 2147483648 by omega), A.xa i hi6, gX_6 R.hb, sSd_hiss, A.xi, gX_18 R.hb, aX_100 R.hb, sSd_mouths, ifx_k (show j < 8 by omega) (show j < 2147483648 by omega), n2_nat (show j < 2147483648 by omega), A.xm j hj, ivX R.hb, e1, eX, show n2 j + 1 = n2 (j + 1) from n2_add j 1]
    · rw [← h7, ← eM]
      show bX4_sides_101B kkM (bX4_sides_101 kkM F') _ _ _ _ _ _ _ _ _ = _
      unfold bX4_sides_101B
      simp -implicitDefEqProofs only [Option.bind_some, bd_some, b2i_0, Bool.true_eq_false, Bool.false_eq_true, eq_self, if_true, if_false, not_true_eq_false, not_false_eq_true, le, gM_71, sT_paid, pp1, gM_101, aM_119, sT_asked, ifx_k (show i < 14 by omega) (show i < 2147483648 by omega), n2_nat (show i < 2147483648 by omega), A.ma i (by omega), gM_72, sT_hiss, pp2, n2_add, ifx_k (show N + j < 14 by omega) (show N + j < 2147483648 by omega), n2_nat (show N + j < 2147483648 by omega), A.ma (N + j) (by omega), ivM, e2, gM_105, ix, uT_h (show 6 * i + j < 256 by omega)]
theorem L_s2i {kkX : Rf → Int32 → Int32 → Int32 → Int32 → Mem → Option (Int32 × Mem)} {kkM : Rf → Int32 → Int32 → Int32 → Int32 → Int32 → Mem → Option (Int32 × Mem)} {best v4 : Int32} {j : Nat} (hj6 : j < P) (ht : ∀ u v, u < N → v < P → t (6 * u + v) = n2 (prN H C p hi a N u v)) : ∀ (k F F' i : Nat) (vx vm : Int32) (x : XS), i + k = N → k < F → k < F' → Duo b x m H C h c K → Sid x m a N P p hi →
    ((i = 0 ∧ vx = -1 ∧ vm = 0) ∨ ∃ q, 0 < i ∧ q ≤ 64 ∧ vx = n2 q ∧ vm = n2 q) →
    ∃ x' q, q ≤ 64 ∧ Duo b x' m H C h c K ∧ Sid x' m a N P p hi ∧
      bX1_sides_219 kkX F (some 64) (n2 N) (n2 P) best (n2 j) vx (n2 i) (mkX b (x.sSd f)) = (if n2 q < f 0 then kkX (some 64) (n2 N) (n2 P) best (n2 (j + 1)) (mkX b (x'.sSd (upq (upq f 0 (n2 q)) 2 (n2 (a (N + j)))))) else kkX (some 64) (n2 N) (n2 P) best (n2 (j + 1)) (mkX b (x'.sSd f))) ∧
      bX4_sides_226 kkM F' (some 106) (n2 N) (n2 P) best v4 (n2 j) vm (n2 i) (mkM b' n s (m.sT t d)) = (if n2 q < v4 then kkM (some 106) (n2 N) (n2 P) best (n2 q) (n2 (j + 1)) (mkM b' n s (m.sT t (upq d 2 (n2 (a (N + j)))))) else kkM (some 106) (n2 N) (n2 P) best v4 (n2 (j + 1)) (mkM b' n s (m.sT t d))) := by
  intro k
  induction k with
  | zero =>
    intro F F' i vx vm x hk hF hF' R A hv
    obtain ⟨F, rfl⟩ : ∃ g, F = g + 1 := ⟨F - 1, by omega⟩
    obtain ⟨F', rfl⟩ : ∃ g, F' = g + 1 := ⟨F' - 1, by omega⟩
    have e : i = N := by omega
    subst e
    have n1 := A.n1
    have n6 := A.n6
    have p6 := A.p6
    obtain ⟨q, -, hq, rfl, rfl⟩ : ∃ q, 0 < i ∧ q ≤ 64 ∧ vx = n2 q ∧ vm = n2 q := by
      rcases hv with ⟨h0, -⟩ | h0
      · omega
      · exact h0
    refine ⟨x, q, hq, R, A, ?_, ?_⟩
    · show bX1_sides_219B kkX _ _ _ _ _ _ _ _ _ = _
      unfold bX1_sides_219B bX1_sides_309
      simp -implicitDefEqProofs only [Option.bind_some, bd_some, b2i_0, Bool.true_eq_false, Bool.false_eq_true, eq_self, if_true, if_false, not_true_eq_false, not_false_eq_true, show (n2 i ≤ n2 i) = True from eq_true (Int32.le_refl _), gX_19 R.hb, gX_18 R.hb, aX_100 R.hb, sSd_mouths, ifx_k (show j < 8 by omega) (show j < 2147483648 by omega), n2_nat (show j < 2147483648 by omega), A.xm j hj6, show aI (mkX b (x.sSd f)) (some 101) (0 : Int32) = some (f 0) from aS_s R.hb (k := 0) (by decide), show ∀ v, uI (mkX b (x.sSd f)) (some 101) (0 : Int32) v = some (mkX b (x.sSd (upq f 0 v))) from fun v => uS_s R.hb (k := 0) (by decide), show ∀ (f : Nat → Int32) v, uI (mkX b (x.sSd f)) (some 101) (2 : Int32) v = some (mkX b (x.sSd (upq f 2 v))) from fun f v => uS_s R.hb (k := 2) (by decide), show n2 j + 1 = n2 (j + 1) from n2_add j 1]
    · show bX4_sides_226B kkM _ _ _ _ _ _ _ _ _ _ = _
      unfold bX4_sides_226B bX4_sides_305
      simp -implicitDefEqProofs only [Option.bind_some, bd_some, b2i_0, Bool.true_eq_false, Bool.false_eq_true, eq_self, if_true, if_false, not_true_eq_false, not_false_eq_true, show (n2 i ≤ n2 i) = True from eq_true (Int32.le_refl _), gM_109, gM_101, n2_add, aM_119, sT_asked, ifx_k (show i + j < 14 by omega) (show i + j < 2147483648 by omega), n2_nat (show i + j < 2147483648 by omega), A.ma (i + j) (by omega), show ∀ v, uI (mkM b' n s (m.sT t d)) (some 123) (2 : Int32) v = some (mkM b' n s (m.sT t (upq d 2 v))) from fun v => uT_s (k := 2) (by decide), show n2 j + 1 = n2 (j + 1) from n2_add j 1]
  | succ k ih =>
    intro F F' i vx vm x hk hF hF' R A hv
    obtain ⟨F, rfl⟩ : ∃ g, F = g + 1 := ⟨F - 1, by omega⟩
    obtain ⟨F', rfl⟩ : ∃ g, F' = g + 1 := ⟨F' - 1, by omega⟩
    have n6 := A.n6
    have p6 := A.p6
    have hi6 : i < N := by omega
    have le : (n2 N ≤ n2 i) = False := by rw [n2_le (by omega) (by omega)]; exact eq_false (by omega)
    have ix : (6 : Int32) * n2 i + n2 j = n2 (6 * i + j) := by rw [li_6, n2_mul, n2_add]
    obtain ⟨y, e1⟩ := X_ht R f (p ||| shlL 1 (n2 (a i))) (hi ||| shlL 1 (n2 (a (N + j))))
    have hw := hN_le H C (p ||| shlL 1 (n2 (a i))) (hi ||| shlL 1 (n2 (a (N + j))))
    have hw' : hN H C (p ||| shlL 1 (n2 (a i))) (hi ||| shlL 1 (n2 (a (N + j)))) = prN H C p hi a N i j := rfl
    have hT := ht i j hi6 hj6
    rw [hw'] at e1 hw
    generalize prN H C p hi a N i j = W at e1 hw hw' hT
    have nxt : ∃ q, q ≤ 64 ∧ mmaxI vx (n2 W) = n2 q ∧ (if n2 W ≤ vm then bX4_sides_268 kkM (bX4_sides_226 kkM F') (some 106) (n2 N) (n2 P) best v4 (n2 j) (n2 i) vm (mkM b' n s (m.sT t d)) else bX4_sides_268 kkM (bX4_sides_226 kkM F') (some 106) (n2 N) (n2 P) best v4 (n2 j) (n2 i) (n2 W) (mkM b' n s (m.sT t d))) = bX4_sides_226 kkM F' (some 106) (n2 N) (n2 P) best v4 (n2 j) (n2 q) (n2 (i + 1)) (mkM b' n s (m.sT t d)) := by
      unfold bX4_sides_268 mmaxI
      rw [show n2 i + 1 = n2 (i + 1) from n2_add i 1]
      rcases hv with ⟨-, rfl, rfl⟩ | ⟨q, -, hq, rfl, rfl⟩
      · refine ⟨W, hw, ?_, ?_⟩
        · rw [if_pos (by rw [li_m1, in_lt (by omega) (by omega) (by omega)]; omega)]
        · by_cases h0 : W = 0
          · rw [h0, if_pos (by decide), show n2 0 = (0 : Int32) from rfl]
          · rw [if_neg (by rw [li_0, n2_le (by omega) (by omega)]; omega)]
      · by_cases hc : W ≤ q
        · refine ⟨q, hq, ?_, ?_⟩
          · rw [if_neg (by rw [n2_lt (by omega) (by omega)]; omega)]
          · rw [if_pos (by rw [n2_le (by omega) (by omega)]; omega)]
        · refine ⟨W, hw, ?_, ?_⟩
          · rw [if_pos (by rw [n2_lt (by omega) (by omega)]; omega)]
          · rw [if_neg (by rw [n2_le (by omega) (by omega)]; omega)]
    obtain ⟨q, hq, eX, eM⟩ := nxt
    obtain ⟨x', q', h1, h2, h3, h6, h7⟩ := ih F F' (i + 1) (n2 q) (n2 q) (x.setN false y) (by omega) (by omega) (by omega) R.nX A.nX (Or.inr ⟨q, by omega, hq, rfl, rfl⟩)
    refine ⟨x', q', h1, h2, h3, ?_, ?_⟩
    · rw [← h6]
      show bX1_sides_219B kkX (bX1_sides_219 kkX F) _ _ _ _ _ _ _ _ = _
      unfold bX1_sides_219B
      simp -implicitDefEqProofs only [Option.bind_some, bd_some, b2i_0, Bool.true_eq_false, Bool.false_eq_true, eq_self, if_true, if_false, not_true_eq_false, not_false_eq_true, le, gX_4 R.hb, sSd_house, R.xh, gX_5 R.hb, sSd_paid, A.xp, gX_11 R.hb, aX_96 R.hb, sSd_asked, ifx_k (show i < 8 by omega) (show i < 2147483648 by omega), n2_nat (show i < 2147483648 by omega), A.xa i hi6, gX_6 R.hb, sSd_hiss, A.xi, gX_18 R.hb, aX_100 R.hb, sSd_mouths, ifx_k (show j < 8 by omega) (show j < 2147483648 by omega), n2_nat (show j < 2147483648 by omega), A.xm j hj6, ivX R.hb, e1, eX, show n2 i + 1 = n2 (i + 1) from n2_add i 1]
    · rw [← h7, ← eM]
      show bX4_sides_226B kkM (bX4_sides_226 kkM F') _ _ _ _ _ _ _ _ _ = _
      unfold bX4_sides_226B
      simp -implicitDefEqProofs only [Option.bind_some, bd_some, b2i_0, Bool.true_eq_false, Bool.false_eq_true, eq_self, if_true, if_false, not_true_eq_false, not_false_eq_true, le, gM_105, ix, aT_h (show 6 * i + j < 256 by omega), hT]
theorem L_s2o {best : Int32} (ht : ∀ u v, u < N → v < P → t (6 * u + v) = n2 (prN H C p hi a N u v)) : ∀ (k F F' j : Nat) (v4 : Int32) (x : XS) (f d : Nat → Int32), j + k = P → k < F → k < F' → Duo b x m H C h c K → Sid x m a N P p hi → ((j = 0 ∧ f 0 = 65 ∧ v4 = 1000000000) ∨ (0 < j ∧ f 0 = v4 ∧ f 2 = d 2)) → f 1 = d 1 →
    ∃ x' m', bX1_sides_207 F (some 64) (n2 N) (n2 P) best (n2 j) (mkX b (x.sSd f)) = some (best, mkX b x') ∧ bX4_sides_214 F' (some 106) (n2 N) (n2 P) best v4 (n2 j) (mkM b' n s (m.sT t d)) = some (best, mkM b' n s m') ∧ Duo b x' m' H C h c K := by
  intro k
  induction k with
  | zero =>
    intro F F' j v4 x f d hk hF hF' R A hv h1
    obtain ⟨F, rfl⟩ : ∃ g, F = g + 1 := ⟨F - 1, by omega⟩
    obtain ⟨F', rfl⟩ : ∃ g, F' = g + 1 := ⟨F' - 1, by omega⟩
    have e : j = P := by omega
    subst e
    have p1 := A.p1
    obtain ⟨-, h0, h2⟩ : 0 < j ∧ f 0 = v4 ∧ f 2 = d 2 := by
      rcases hv with ⟨h0, -⟩ | h0
      · omega
      · exact h0
    refine ⟨x.sSd f, m.sTh t (upq d 0 v4), ?_, ?_, ?_⟩
    · show bX1_sides_207B _ _ _ _ _ _ _ = _
      unfold bX1_sides_207B
      rw [if_pos (Int32.le_refl _)]
    · show bX4_sides_214B _ _ _ _ _ _ _ _ = _
      unfold bX4_sides_214B
      simp -implicitDefEqProofs only [Option.bind_some, bd_some, b2i_0, Bool.true_eq_false, Bool.false_eq_true, eq_self, if_true, if_false, not_true_eq_false, not_false_eq_true, show (n2 j ≤ n2 j) = True from eq_true (Int32.le_refl _), gM_109, show ∀ v, uI (mkM b' n s (m.sT t d)) (some 123) (0 : Int32) v = some (mkM b' n s (m.sT t (upq d 0 v))) from fun v => uT_s (k := 0) (by decide), pT_1]
    · have hs : ∀ i, i < 3 → f i = upq d 0 v4 i := by
        intro i hi
        by_cases e0 : i = 0
        · rw [e0, upq_self]; exact h0
        · rw [upq_ne _ _ e0]
          by_cases e1 : i = 1
          · rw [e1]; exact h1
          · rw [show i = 2 by omega]; exact h2
      exact ⟨R.hb, R.fz, R.ok, R.ar, R.XH, R.xh, R.XC, R.xc, R.MH, R.MC, R.lays, R.l01, R.tape, R.len, R.fault, R.paid, R.hiss, R.bought, R.worth, Or.inr ⟨rfl, hs⟩, R.b1, R.b2, R.arranged, R.kept, R.keptC⟩
  | succ k ih =>
    intro F F' j v4 x f d hk hF hF' R A hv h1
    obtain ⟨F, rfl⟩ : ∃ g, F = g + 1 := ⟨F - 1, by omega⟩
    obtain ⟨F', rfl⟩ : ∃ g, F' = g + 1 := ⟨F' - 1, by omega⟩
    have n6 := A.n6
    have p6 := A.p6
    have le : (n2 P ≤ n2 j) = False := by rw [n2_le (by omega) (by omega)]; exact eq_false (by omega)
    have hFu : 20 < hcFuel := by unfold hcFuel; omega
    show ∃ x' m', bX1_sides_207B (bX1_sides_207 F) _ _ _ _ _ _ = _ ∧ bX4_sides_214B (bX4_sides_214 F') _ _ _ _ _ _ _ = _ ∧ _
    unfold bX1_sides_207B bX4_sides_214B
    generalize hcFuel = fu at hFu ⊢
    obtain ⟨x', q, hq, D, A2, e1, e2⟩ := L_s2i (b' := b') (n := n) (s := s) (f := f) (d := d) (kkX := bX1_sides_207 F) (kkM := bX4_sides_214 F') (best := best) (v4 := v4) (show j < P by omega) ht N fu fu 0 (-1) 0 x (by omega) (by omega) (by omega) R A (Or.inl ⟨rfl, rfl, rfl⟩)
    have e1' : bX1_sides_219 (bX1_sides_207 F) fu (some 64) (n2 N) (n2 P) best (n2 j) (-1) 0 (mkX b (x.sSd f)) = _ := e1
    have e2' : bX4_sides_226 (bX4_sides_214 F') fu (some 106) (n2 N) (n2 P) best v4 (n2 j) 0 0 (mkM b' n s (m.sT t d)) = _ := e2
    simp -implicitDefEqProofs only [Option.bind_some, bd_some, b2i_0, Bool.true_eq_false, Bool.false_eq_true, eq_self, if_true, if_false, not_true_eq_false, not_false_eq_true, le, e1', e2']
    have go : ∃ x2 m2, bX1_sides_207 F (some 64) (n2 N) (n2 P) best (n2 (j + 1)) (mkX b (x'.sSd (upq (upq f 0 (n2 q)) 2 (n2 (a (N + j)))))) = some (best, mkX b x2) ∧ bX4_sides_214 F' (some 106) (n2 N) (n2 P) best (n2 q) (n2 (j + 1)) (mkM b' n s (m.sT t (upq d 2 (n2 (a (N + j)))))) = some (best, mkM b' n s m2) ∧ Duo b x2 m2 H C h c K := by
      refine ih F F' (j + 1) (n2 q) x' _ _ (by omega) (by omega) (by omega) D A2 (Or.inr ⟨by omega, ?_, ?_⟩) ?_
      · rw [upq_ne _ _ (by decide), upq_self]
      · rw [upq_self, upq_self]
      · rw [upq_ne _ _ (by decide), upq_ne _ _ (by decide), upq_ne _ _ (by decide)]; exact h1
    rcases hv with ⟨-, g0, rfl⟩ | ⟨g0, g1, g2⟩
    · have c1 : (n2 q < f 0) = True := by rw [g0, li_65, n2_lt (by omega) (by omega)]; exact eq_true (by omega)
      have c2 : (n2 q < (1000000000 : Int32)) = True := by rw [show (1000000000 : Int32) = n2 1000000000 from rfl, n2_lt (by omega) (by omega)]; exact eq_true (by omega)
      simp -implicitDefEqProofs only [Option.bind_some, bd_some, b2i_0, Bool.true_eq_false, Bool.false_eq_true, eq_self, if_true, if_false, not_true_eq_false, not_false_eq_true, c1, c2]
      exact go
    · rw [g1]
      by_cases hc : n2 q < v4
      · simp -implicitDefEqProofs only [Option.bind_some, bd_some, b2i_0, Bool.true_eq_false, Bool.false_eq_true, eq_self, if_true, if_false, not_true_eq_false, not_false_eq_true, hc]; exact go
      · simp -implicitDefEqProofs only [Option.bind_some, bd_some, b2i_0, Bool.true_eq_false, Bool.false_eq_true, eq_self, if_true, if_false, not_true_eq_false, not_false_eq_true, hc]
        exact ih F F' (j + 1) v4 x' f d (by omega) (by omega) (by omega) D A2 (Or.inr ⟨by omega, g1, g2⟩) h1
theorem L_s1o : ∀ (k F F' i : Nat) (best : Int32) (x : XS) (m : MS) (f t d : Nat → Int32), i + k = N → k < F → k < F' → Duo b x m H C h c K → Sid x m a N P p hi → (∀ u v, u < i → v < P → t (6 * u + v) = n2 (prN H C p hi a N u v)) → ((i = 0 ∧ best = -1) ∨ (0 < i ∧ f 1 = d 1)) →
    ∃ r x' m', bX1_sides_95 F (some 64) (n2 N) (n2 P) best (n2 i) (mkX b (x.sSd f)) = some (r, mkX b x') ∧ bX4_sides_87 F' (some 106) (n2 N) (n2 P) best 1000000000 (n2 i) (mkM b' n s (m.sT t d)) = some (r, mkM b' n s m') ∧ Duo b x' m' H C h c K := by
  intro k
  induction k with
  | zero =>
    intro F F' i best x m f t d hk hF hF' R A ht hv
    obtain ⟨F, rfl⟩ : ∃ g, F = g + 1 := ⟨F - 1, by omega⟩
    obtain ⟨F', rfl⟩ : ∃ g, F' = g + 1 := ⟨F' - 1, by omega⟩
    have e : i = N := by omega
    subst e
    have n1 := A.n1
    have p6 := A.p6
    have hFu : 20 < hcFuel := by unfold hcFuel; omega
    obtain ⟨-, h1⟩ : 0 < i ∧ f 1 = d 1 := by
      rcases hv with ⟨h0, -⟩ | h0
      · omega
      · exact h0
    show ∃ r x' m', bX1_sides_95B _ _ _ _ _ _ _ = _ ∧ bX4_sides_87B _ _ _ _ _ _ _ _ = _ ∧ _
    unfold bX1_sides_95B bX4_sides_87B
    generalize hcFuel = fu at hFu ⊢
    obtain ⟨x', m', e1, e2, D⟩ := L_s2o (b' := b') (n := n) (s := s) (best := best) ht P fu fu 0 1000000000 x (upq f 0 65) d (by omega) (by omega) (by omega) R A (Or.inl ⟨rfl, upq_self _ _ _, rfl⟩) (by rw [upq_ne _ _ (by decide)]; exact h1)
    simp -implicitDefEqProofs only [Option.bind_some, bd_some, b2i_0, Bool.true_eq_false, Bool.false_eq_true, eq_self, if_true, if_false, not_true_eq_false, not_false_eq_true, show (n2 i ≤ n2 i) = True from eq_true (Int32.le_refl _), gX_19 R.hb, show ∀ v, uI (mkX b (x.sSd f)) (some 101) (0 : Int32) v = some (mkX b (x.sSd (upq f 0 v))) from fun v => uS_s R.hb (k := 0) (by decide)]
    exact ⟨_, _, _, e1, e2, D⟩
  | succ k ih =>
    intro F F' i best x m f t d hk hF hF' R A ht hv
    obtain ⟨F, rfl⟩ : ∃ g, F = g + 1 := ⟨F - 1, by omega⟩
    obtain ⟨F', rfl⟩ : ∃ g, F' = g + 1 := ⟨F' - 1, by omega⟩
    have n6 := A.n6
    have p6 := A.p6
    have le : (n2 N ≤ n2 i) = False := by rw [n2_le (by omega) (by omega)]; exact eq_false (by omega)
    have hFu : 20 < hcFuel := by unfold hcFuel; omega
    show ∃ r x' m', bX1_sides_95B (bX1_sides_95 F) _ _ _ _ _ _ = _ ∧ bX4_sides_87B (bX4_sides_87 F') _ _ _ _ _ _ _ = _ ∧ _
    unfold bX1_sides_95B bX4_sides_87B
    generalize hcFuel = fu at hFu ⊢
    obtain ⟨x', m', t', q, hq, D, A2, t0, t1, e1, e2⟩ := L_s1i (b' := b') (n := n) (s := s) (f := f) (d := d) (kkX := bX1_sides_95 F) (kkM := bX4_sides_87 F') (best := best) (v4 := 1000000000) (show i < N by omega) P fu fu 0 65 1000000000 x m t (by omega) (by omega) (by omega) R A (Or.inl ⟨rfl, rfl, rfl⟩) (fun v hv => absurd hv (Nat.not_lt_zero v))
    have e1' : bX1_sides_108 (bX1_sides_95 F) fu (some 64) (n2 N) (n2 P) best (n2 i) 65 0 (mkX b (x.sSd f)) = _ := e1
    have e2' : bX4_sides_101 (bX4_sides_87 F') fu (some 106) (n2 N) (n2 P) best 1000000000 (n2 i) 1000000000 0 (mkM b' n s (m.sT t d)) = _ := e2
    have ht' : ∀ u v, u < i + 1 → v < P → t' (6 * u + v) = n2 (prN H C p hi a N u v) := by
      intro u v hu hvP
      by_cases eu : u = i
      · rw [eu]; exact t1 v hvP
      · rw [t0 _ (by omega)]; exact ht u v (by omega) hvP
    simp -implicitDefEqProofs only [Option.bind_some, bd_some, b2i_0, Bool.true_eq_false, Bool.false_eq_true, eq_self, if_true, if_false, not_true_eq_false, not_false_eq_true, le, e1', e2']
    by_cases hc : best < n2 q
    · simp -implicitDefEqProofs only [Option.bind_some, bd_some, b2i_0, Bool.true_eq_false, Bool.false_eq_true, eq_self, if_true, if_false, not_true_eq_false, not_false_eq_true, hc]
      exact ih F F' (i + 1) (n2 q) x' m' _ t' _ (by omega) (by omega) (by omega) D A2 ht' (Or.inr ⟨by omega, by rw [upq_self, upq_self]⟩)
    · simp -implicitDefEqProofs only [Option.bind_some, bd_some, b2i_0, Bool.true_eq_false, Bool.false_eq_true, eq_self, if_true, if_false, not_true_eq_false, not_false_eq_true, hc]
      refine ih F F' (i + 1) best x' m' f t' d (by omega) (by omega) (by omega) D A2 ht' (Or.inr ⟨by omega, ?_⟩)
      rcases hv with ⟨-, rfl⟩ | ⟨-, h1⟩
      · exact absurd (show (-1 : Int32) < n2 q by rw [li_m1, in_lt (by omega) (by omega) (by omega)]; omega) hc
      · exact h1
theorem hasB_all : ∀ q, q ≤ 8 → ∀ i, i < q → hasB (2 ^ q - 1) i = true := by decide +kernel
theorem hds_had (g : Nat → Nat) {q : Nat} (hq : q ≤ 8) : ∀ i, i ≤ q → hdsS g (2 ^ q - 1) i = hadS g i
  | 0, _ => rfl
  | i + 1, h => by
    have ih := hds_had g hq i (by omega)
    show (if hasB (2 ^ q - 1) i = true then hdsS g (2 ^ q - 1) i ||| bitS (g i) else hdsS g (2 ^ q - 1) i) = hadS g i ||| bitS (g i)
    rw [if_pos (hasB_all q hq i (by omega)), ih]
theorem sMth_asked (x : XS) (f : Nat → Int32) : (x.sMth f).asked = x.asked := rfl
theorem sMth_mouths (x : XS) (f : Nat → Int32) : (x.sMth f).mouths = f := rfl
theorem sMth_paid (x : XS) (f : Nat → Int32) : (x.sMth f).paid = x.paid := rfl
theorem sMth_hiss (x : XS) (f : Nat → Int32) : (x.sMth f).hiss = x.hiss := rfl
theorem sAsk_asked (x : XS) (f : Nat → Int32) : (x.sAsk f).asked = f := rfl
theorem sAsk_paid (x : XS) (f : Nat → Int32) : (x.sAsk f).paid = x.paid := rfl
theorem sAsk_hiss (x : XS) (f : Nat → Int32) : (x.sAsk f).hiss = x.hiss := rfl
theorem L_s18 (R : Duo b x m H C h c K) {k q : Nat} (hk : k ≤ 940) (hq : q < 256) (hz : m.r.size = n2 k) : ∃ r x' m', bX1_sides_18 (some 64) (n2 k) (n2 q) (mkX b x) = some (r, mkX b x') ∧ bX4_sides_28 (some 106) (n2 q) (mkM b' n s m) = some (r, mkM b' n s m') ∧ Duo b x' m' H C h c K := by
  have h64 := R.ok.size
  have hF : 20 < hcFuel := by unfold hcFuel; omega
  have ey : n2 k - (1 : Int32) - n2 q = i2 ((k : Int) - 1 - q) := by
    rw [show (1 : Int32) = i2 1 from rfl, n2_i2 k, n2_i2 q, i2_sub, i2_sub]
  unfold bX1_sides_18 bX4_sides_28 fX4_takesSeats fX1_takesSeats
  generalize hcFuel = fu at hF ⊢
  simp -implicitDefEqProofs only [Option.bind_some, bd_some, b2i_0, Bool.true_eq_false, Bool.false_eq_true, eq_self, if_true, if_false, not_true_eq_false, not_false_eq_true, X_isIn, M_isIn, gM_58, hz, ey]
  rcases (Bool.eq_false_or_eq_true (decide ((1 : Int32) ≤ n2 q ∧ n2 q ≤ 6))).symm with e | e
  · simp -implicitDefEqProofs only [Option.bind_some, bd_some, b2i_0, Bool.true_eq_false, Bool.false_eq_true, eq_self, if_true, if_false, not_true_eq_false, not_false_eq_true, e]; exact ⟨_, _, _, rfl, rfl, R⟩
  obtain ⟨q', q1, q6, eq⟩ := in_true (l := 1) (u := 6) (by decide) (by decide) e
  rw [n2_eq (by omega) (by omega)] at eq
  subst eq
  rcases (Bool.eq_false_or_eq_true (decide ((1 : Int32) ≤ i2 ((k : Int) - 1 - q) ∧ i2 ((k : Int) - 1 - q) ≤ 6))).symm with e2 | e2
  · simp -implicitDefEqProofs only [Option.bind_some, bd_some, b2i_0, Bool.true_eq_false, Bool.false_eq_true, eq_self, if_true, if_false, not_true_eq_false, not_false_eq_true, e, e2]; exact ⟨_, _, _, rfl, rfl, R⟩
  obtain ⟨P, p1, p6, eP⟩ := in_true (l := 1) (u := 6) (by decide) (by decide) e2
  have kP : k = 1 + (q + P) := by
    rw [n2_i2 P, i2_eq (by omega) (by omega)] at eP; omega
  rw [eP] at e2
  rw [eP]
  subst kP
  obtain ⟨F, e3, J1⟩ := X_takesA (f0 := 1) (j0 := 0) (N := q) (tp := x.tape) R.hb R.XH R.ok (by omega) (by omega) q fu 0 x (by omega) (by omega) rfl R.xh (fun u hu => absurd hu (Nat.not_lt_zero u))
  obtain ⟨G, w, e4, J2⟩ := M_takes (b' := b') (n := n) (s := s) (f0 := 1) (N := q + P) (tp := x.tape) R.ok (by omega) (by omega) (q + P) fu 0 (m.sAk m.c.asked 0) (by omega) (by omega) R.tape.symm R.MH rfl (fun u hu => absurd hu (Nat.not_lt_zero u)) (fun u hu => absurd hu (Nat.not_lt_zero u))
  simp -implicitDefEqProofs only [Nat.add_zero, Nat.zero_add, ← li_0, ← li_1, show ∀ g : Nat → Nat, hadS g 0 = 0 from fun _ => rfl, sAk_sAk] at e3 J1 e4 J2
  rw [gdS_add] at e4 J2
  have c14 : (n2 (1 + (q + P)) - (1 : Int32) ≤ 14) = True := by rw [li_1, n2_sub (by omega), li_14, n2_le (by omega) (by omega)]; exact eq_true (by omega)
  have dum : ∀ z : XS, (∀ u, u < q → z.asked u = n2 (octN (x.tape (1 + u)))) → (∀ u, u < q → octN (x.tape (1 + u)) < H.size ∧ H.kind (octN (x.tape (1 + u))) ≠ 0) → Hnd z (m.sAk (fun u => n2 (octN (x.tape (1 + u)))) (n2 q)) H q (fun u => octN (x.tape (1 + u))) := fun z hz hs => ⟨q1, by omega, hz, fun _ _ => rfl, rfl, hs⟩
  rcases (Bool.eq_false_or_eq_true (gdS H (fun u => octN (x.tape (1 + u))) 0 q)).symm with g | g
  · rw [g] at e3 e4
    rw [if_neg (by decide)] at e3
    rw [Bool.false_and] at e4
    simp -implicitDefEqProofs only [Option.bind_some, bd_some, b2i_0, Bool.true_eq_false, Bool.false_eq_true, eq_self, if_true, if_false, not_true_eq_false, not_false_eq_true, e, e2, gX_11 R.hb, ivX R.hb, e3, ivM, pM_102', c14, e4]
    exact ⟨_, _, _, rfl, rfl, R.ask⟩
  · rw [g] at e3 e4 J1 J2
    rw [if_pos rfl] at e3
    rw [Bool.true_and] at e4 J2
    have hx1 : (x.sAsk F).house = some h := R.xh
    have hx2 : (x.sAsk F).tape = x.tape := rfl
    obtain ⟨F2, e5, J3⟩ := X_takesB (f0 := 1) (j0 := q) (N := P) (tp := x.tape) R.hb R.XH R.ok (by omega) (by omega) P fu 0 (x.sAsk F) (by omega) (by omega) hx2 hx1 (fun u hu => absurd hu (Nat.not_lt_zero u))
    simp -implicitDefEqProofs only [Nat.add_zero, ← li_0] at e5 J3
    have A0 := dum (x.sAsk F) (J1 rfl) (fun u hu => isS_lt (gdS_seat g u (by omega) (by omega)))
    have h2q := pow_le8 (N := q) (by omega)
    have h2p : 0 < 2 ^ q := Nat.pos_of_ne_zero (by simp)
    have eh := X_hands R.hb A0 R.ok (show 2 ^ q - 1 < 2 ^ q by omega)
    rw [hds_had _ (by omega) q (Nat.le_refl _)] at eh
    have es : shlI (1 : Int32) (n2 q) - (1 : Int32) = n2 (2 ^ q - 1) := by rw [pow_shl q (by omega), li_1, n2_sub (by omega)]
    have nq : (n2 q = -1) = False := n2_nm1 (by omega)
    have eq1 : (1 : Int32) + n2 q = n2 (1 + q) := n2_add 1 q
    rcases (Bool.eq_false_or_eq_true (gdS H (fun u => octN (x.tape (1 + u))) (0 + q) P)).symm with g2 | g2
    · have g3 := g2
      rw [Nat.zero_add] at g3
      rw [g3] at e5
      rw [g2] at e4
      rw [if_neg (by decide)] at e5
      simp -implicitDefEqProofs only [Option.bind_some, bd_some, b2i_0, Bool.true_eq_false, Bool.false_eq_true, eq_self, if_true, if_false, not_true_eq_false, not_false_eq_true, e, e2, gX_11 R.hb, gX_18 R.hb, ivX R.hb, e3, nq, es, eh, eq1, e5, ivM, pM_102', c14, e4]
      exact ⟨_, _, _, rfl, rfl, R.ask.mth⟩
    · have g3 := g2
      rw [Nat.zero_add] at g3
      rw [g3] at e5 J3
      rw [g2] at e4 J2
      rw [if_pos rfl] at e5
      obtain ⟨hw, J4⟩ := J2 rfl
      subst hw
      have nP : (n2 P = -1) = False := n2_nm1 (by omega)
      have eNP : n2 (q + P) - n2 q = n2 P := by rw [n2_sub (by omega), Nat.add_sub_cancel_left]
      have A : Sid ((x.sAsk F).sMth F2) (m.sAk G (n2 (q + P))) (fun u => octN (x.tape (1 + u))) q P x.paid x.hiss := by
        refine ⟨q1, q6, p1, p6, ?_, ?_, ?_, ?_, ?_⟩
        · rw [sMth_paid, sAsk_paid]
        · rw [sMth_hiss, sAsk_hiss]
        · rw [sMth_asked, sAsk_asked]; exact J1 rfl
        · rw [sMth_mouths]; exact J3 rfl
        · rw [sAk_asked]; exact J4
      have L := L_s1o (b' := b') (n := n) (s := s) q fu fu 0 (-1) ((x.sAsk F).sMth F2) (m.sAk G (n2 (q + P))) ((x.sAsk F).sMth F2).sided (m.sAk G (n2 (q + P))).c.heights (m.sAk G (n2 (q + P))).c.side (by omega) (by omega) (by omega) R.ask.mth A (fun u v hu _ => absurd hu (Nat.not_lt_zero u)) (Or.inl ⟨rfl, rfl⟩)
      rw [sSd_self, sT_self] at L
      simp -implicitDefEqProofs only [Option.bind_some, bd_some, b2i_0, Bool.true_eq_false, Bool.false_eq_true, eq_self, if_true, if_false, not_true_eq_false, not_false_eq_true, e, e2, gX_11 R.hb, gX_18 R.hb, ivX R.hb, e3, nq, es, eh, eq1, e5, nP, ivM, pM_102', c14, e4, gM_102, sAk_many, eNP, show (1 : Int32) = 0 ↔ False by decide]
      exact L
theorem C_sides (R : Duo b x m H C h c K) : ∃ r x' m', fX1_sides (some 64) (mkX b x) = some (r, mkX b x') ∧ fX4_sides (some 106) (mkM b' n s m) = some (r, mkM b' n s m') ∧ Duo b x' m' H C h c K := by
  obtain ⟨k, hk, k1, k2⟩ := R.len
  have T := (R.th (v := 0)).tk (v := 940)
  have sz : ((m.th 0).tk 940).r.size = n2 k := k2
  have tp : ((m.th 0).tk 940).tape = x.tape := T.tape.symm
  have tx : x.tp0.tape = x.tape := rfl
  unfold fX1_sides fX4_sides
  by_cases h0 : k = 0
  · subst h0
    have L := L_s18 (b' := b') (n := n) (s := s) T hk (show 0 < 256 by decide) sz
    simp -implicitDefEqProofs only [Option.bind_some, bd_some, b2i_0, Bool.true_eq_false, Bool.false_eq_true, eq_self, if_true, if_false, not_true_eq_false, not_false_eq_true, pM_55', ivX R.hb, X_take R.hb, k1, ivM, M_taken, gM_58, sz, show (n2 0 = (0 : Int32)) = True from eq_true rfl]
    exact L
  · have nz : (n2 k = (0 : Int32)) = False := by rw [li_0, n2_eq (by omega) (by decide)]; exact eq_false h0
    have L := L_s18 (b' := b') (n := n) (s := s) T hk (oct_lt (x.tape 0)) sz
    have e1 : fX1_byteAt (some 64) (0 : Int32) (mkX b x.tp0) = some (n2 (octN (x.tape 0)), mkX b x.tp0) := X_byteAt (x := x.tp0) (k := 0) R.hb (by decide)
    have e2 : fX4_octet (some 106) (0 : Int32) (mkM b' n s ((m.th 0).tk 940)) = some (n2 (octN (x.tape 0)), mkM b' n s ((m.th 0).tk 940)) := by
      have := M_octet (b' := b') (n := n) (s := s) (m := (m.th 0).tk 940) (k := 0) (by decide)
      rw [tp] at this; exact this
    simp -implicitDefEqProofs only [Option.bind_some, bd_some, b2i_0, Bool.true_eq_false, Bool.false_eq_true, eq_self, if_true, if_false, not_true_eq_false, not_false_eq_true, pM_55', ivX R.hb, X_take R.hb, k1, ivM, M_taken, gM_58, sz, nz, e1, e2]
    exact L
end Sides
