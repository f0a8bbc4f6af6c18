set_option linter.unusedVariables false
set_option linter.unusedSimpArgs false
set_option maxRecDepth 100000
/-! ===== command: arrange ===== -/
abbrev Arr (b0 b : Mem) (x : XS) (m : MS) (H0 H : HS) (C : List Cu) (h0 N c : Nat) (K : Nat → Option (HS × List Cu)) (s0 : Nat → Int32) (p hi : Int64) : Prop := (Duo b0 (x.hs (some h0)) (m.ss s0) H0 C h0 c K) ∧ (Ext b0 b) ∧ (mNx b0 ≤ N) ∧ (XHouse b N H) ∧ (x.house = some N) ∧ (H.Ok) ∧ (H.ArOk) ∧ (MHouse m.s H) ∧ (MCues m.s C) ∧ (H.ar = H0.ar) ∧ (H.size = H0.size) ∧ (x.paid = p) ∧ (x.hiss = hi)
theorem Arr.R {b0 b : Mem} {x : XS} {m : MS} {H0 H : HS} {C : List Cu} {h0 N c : Nat} {K : Nat → Option (HS × List Cu)} {s0 : Nat → Int32} {p hi : Int64} (self : Arr b0 b x m H0 H C h0 N c K s0 p hi) : Duo b0 (x.hs (some h0)) (m.ss s0) H0 C h0 c K := self.1
theorem Arr.E {b0 b : Mem} {x : XS} {m : MS} {H0 H : HS} {C : List Cu} {h0 N c : Nat} {K : Nat → Option (HS × List Cu)} {s0 : Nat → Int32} {p hi : Int64} (self : Arr b0 b x m H0 H C h0 N c K s0 p hi) : Ext b0 b := self.2.1
theorem Arr.N {b0 b : Mem} {x : XS} {m : MS} {H0 H : HS} {C : List Cu} {h0 N c : Nat} {K : Nat → Option (HS × List Cu)} {s0 : Nat → Int32} {p hi : Int64} (self : Arr b0 b x m H0 H C h0 N c K s0 p hi) : mNx b0 ≤ N := self.2.2.1
theorem Arr.X {b0 b : Mem} {x : XS} {m : MS} {H0 H : HS} {C : List Cu} {h0 N c : Nat} {K : Nat → Option (HS × List Cu)} {s0 : Nat → Int32} {p hi : Int64} (self : Arr b0 b x m H0 H C h0 N c K s0 p hi) : XHouse b N H := self.2.2.2.1
theorem Arr.xh {b0 b : Mem} {x : XS} {m : MS} {H0 H : HS} {C : List Cu} {h0 N c : Nat} {K : Nat → Option (HS × List Cu)} {s0 : Nat → Int32} {p hi : Int64} (self : Arr b0 b x m H0 H C h0 N c K s0 p hi) : x.house = some N := self.2.2.2.2.1
theorem Arr.ok {b0 b : Mem} {x : XS} {m : MS} {H0 H : HS} {C : List Cu} {h0 N c : Nat} {K : Nat → Option (HS × List Cu)} {s0 : Nat → Int32} {p hi : Int64} (self : Arr b0 b x m H0 H C h0 N c K s0 p hi) : H.Ok := self.2.2.2.2.2.1
theorem Arr.ar {b0 b : Mem} {x : XS} {m : MS} {H0 H : HS} {C : List Cu} {h0 N c : Nat} {K : Nat → Option (HS × List Cu)} {s0 : Nat → Int32} {p hi : Int64} (self : Arr b0 b x m H0 H C h0 N c K s0 p hi) : H.ArOk := self.2.2.2.2.2.2.1
theorem Arr.MH {b0 b : Mem} {x : XS} {m : MS} {H0 H : HS} {C : List Cu} {h0 N c : Nat} {K : Nat → Option (HS × List Cu)} {s0 : Nat → Int32} {p hi : Int64} (self : Arr b0 b x m H0 H C h0 N c K s0 p hi) : MHouse m.s H := self.2.2.2.2.2.2.2.1
theorem Arr.MC {b0 b : Mem} {x : XS} {m : MS} {H0 H : HS} {C : List Cu} {h0 N c : Nat} {K : Nat → Option (HS × List Cu)} {s0 : Nat → Int32} {p hi : Int64} (self : Arr b0 b x m H0 H C h0 N c K s0 p hi) : MCues m.s C := self.2.2.2.2.2.2.2.2.1
theorem Arr.ha {b0 b : Mem} {x : XS} {m : MS} {H0 H : HS} {C : List Cu} {h0 N c : Nat} {K : Nat → Option (HS × List Cu)} {s0 : Nat → Int32} {p hi : Int64} (self : Arr b0 b x m H0 H C h0 N c K s0 p hi) : H.ar = H0.ar := self.2.2.2.2.2.2.2.2.2.1
theorem Arr.hz {b0 b : Mem} {x : XS} {m : MS} {H0 H : HS} {C : List Cu} {h0 N c : Nat} {K : Nat → Option (HS × List Cu)} {s0 : Nat → Int32} {p hi : Int64} (self : Arr b0 b x m H0 H C h0 N c K s0 p hi) : H.size = H0.size := self.2.2.2.2.2.2.2.2.2.2.1
theorem Arr.xp {b0 b : Mem} {x : XS} {m : MS} {H0 H : HS} {C : List Cu} {h0 N c : Nat} {K : Nat → Option (HS × List Cu)} {s0 : Nat → Int32} {p hi : Int64} (self : Arr b0 b x m H0 H C h0 N c K s0 p hi) : x.paid = p := self.2.2.2.2.2.2.2.2.2.2.2.1
theorem Arr.xi {b0 b : Mem} {x : XS} {m : MS} {H0 H : HS} {C : List Cu} {h0 N c : Nat} {K : Nat → Option (HS × List Cu)} {s0 : Nat → Int32} {p hi : Int64} (self : Arr b0 b x m H0 H C h0 N c K s0 p hi) : x.hiss = hi := self.2.2.2.2.2.2.2.2.2.2.2.2
def XS.sAr (x : XS) (v : Int32) : XS := (XS.mk (x.taped) (x.fault) (x.bought) (x.worthMany) (x.beganFirst) (x.beganSecond) (x.seed) (v) (x.paid) (x.hiss) (x.orders) (x.house) (x.cues) (x.tape) (x.states) (x.asked) (x.carriesSet) (x.heights) (x.worth) (x.mouths) (x.sided) (x.keptHouse) (x.keptPaid) (x.keptHiss) (x.kMod) (x.kData) (x.kSize) (x.out) (x.n0) (x.n1))
def MS.sAr (m : MS) (v : Int32) : MS := (MS.mk (m.thrown) (m.length) (m.seatsPaid) (m.seatsHiss) (m.lays) (v) (m.tape) (m.s) (m.area) (m.kept) (m.keptPaid) (m.keptHiss) (m.isKept) (m.r) (m.h) (m.n) (m.c))
theorem sAr_hs (x : XS) (v : Int32) (r : Rf) : (x.sAr v).hs r = (x.hs r).sAr v := by simp -implicitDefEqProofs only [XS.sAr, XS.hs, mk_XS_taped, mk_XS_fault, mk_XS_bought, mk_XS_worthMany, mk_XS_beganFirst, mk_XS_beganSecond, mk_XS_seed, mk_XS_arranged, mk_XS_paid, mk_XS_hiss, mk_XS_orders, mk_XS_house, mk_XS_cues, mk_XS_tape, mk_XS_states, mk_XS_asked, mk_XS_carriesSet, mk_XS_heights, mk_XS_worth, mk_XS_mouths, mk_XS_sided, mk_XS_keptHouse, mk_XS_keptPaid, mk_XS_keptHiss, mk_XS_kMod, mk_XS_kData, mk_XS_kSize, mk_XS_out, mk_XS_n0, mk_XS_n1]
theorem sAr_ss (m : MS) (v : Int32) (f : Nat → Int32) : (m.sAr v).ss f = (m.ss f).sAr v := by simp -implicitDefEqProofs only [gM_55, gM_57, gM_58, gM_59, gM_60, gM_64, gM_65, gM_66, gM_67, gM_68, gM_69, gM_70, gM_71, gM_72, gM_73, gM_74, gM_75, gM_76, gM_77, gM_81, gM_82, gM_83, gM_85, gM_86, gM_91, gM_92, gM_93, gM_94, gM_95, gM_96, gM_97, gM_98, gM_99, gM_100, gM_102, gM_103, gM_107, gM_108, gM_110, gM_111, gM_112, gM_113, gM_114, gM_115, gM_118, gM_119, gM_56, aM_107, nM_107, gM_61, aM_108, nM_108, gM_62, aM_109, nM_109, gM_63, aM_110, nM_110, gM_78, aM_111, nM_111, gM_79, aM_112, nM_112, gM_80, aM_113, nM_113, gM_84, aM_114, nM_114, gM_87, aM_115, nM_115, gM_88, aM_116, nM_116, gM_89, aM_117, nM_117, gM_90, aM_118, nM_118, gM_101, aM_119, nM_119, gM_104, aM_120, nM_120, gM_105, aM_121, nM_121, gM_106, aM_122, nM_122, gM_109, aM_123, nM_123, gM_116, aM_124, nM_124, gM_117, aM_125, nM_125, gM_120, aM_126, nM_126, gM_121, aM_127, nM_127, gM_122, aM_128, nM_128, gM_123, aM_129, nM_129, pM_55, pM_57, pM_58, pM_59, pM_60, pM_64, pM_65, pM_66, pM_67, pM_68, pM_69, pM_70, pM_71, pM_72, pM_73, pM_74, pM_75, pM_76, pM_77, pM_81, pM_82, pM_83, pM_85, pM_86, pM_91, pM_92, pM_93, pM_94, pM_95, pM_96, pM_97, pM_98, pM_99, pM_100, pM_102, pM_103, pM_107, pM_108, pM_110, pM_111, pM_112, pM_113, pM_114, pM_115, pM_118, pM_119, uM_107, uM_108, uM_109, uM_110, uM_111, uM_112, uM_113, uM_114, uM_115, uM_116, uM_117, uM_118, uM_119, uM_120, uM_121, uM_122, uM_123, uM_124, uM_125, uM_126, uM_127, uM_128, uM_129, ivM, Option.bind_some, bd_some, mk_MS_thrown, mk_MS_length, mk_MS_seatsPaid, mk_MS_seatsHiss, mk_MS_lays, mk_MS_arranged, mk_MS_tape, mk_MS_s, mk_MS_area, mk_MS_kept, mk_MS_keptPaid, mk_MS_keptHiss, mk_MS_isKept, mk_MS_r, mk_MS_h, mk_MS_n, mk_MS_c, mk_MR_size, mk_MR_p, mk_MR_limit, mk_MR_token, mk_MR_place, mk_MR_span, mk_MR_number, mk_MR_fault, mk_MR_faultAt, mk_MR_word, mk_MR_got, mk_MH_lines, mk_MH_prices, mk_MH_leavings, mk_MH_onces, mk_MH_codeMany, mk_MH_pileMany, mk_MH_ones, mk_MH_coming, mk_MH_hh, mk_MH_newCues, mk_MH_code, mk_MH_pile, mk_MN_paidNow, mk_MN_hissNow, mk_MN_clapping, mk_MN_standing, mk_MN_low, mk_MN_high, mk_MN_gone, mk_MN_cueNext, mk_MN_nightHeight, mk_MN_nightCarries, mk_MN_held, mk_MN_claps, mk_MN_stand, mk_MN_heldLow, mk_MN_heldHigh, mk_MC_askedMany, mk_MC_bought, mk_MC_worthMany, mk_MC_allOrders, mk_MC_hasSides, mk_MC_seenClaps, mk_MC_seenStand, mk_MC_seenAll, mk_MC_beganA, mk_MC_beganB, mk_MC_seed, mk_MC_asked, mk_MC_carried, mk_MC_heights, mk_MC_worths, mk_MC_side, mk_MC_otherClaps, mk_MC_otherStand, mk_NT_paid, mk_NT_hiss, mk_NT_c1, mk_NT_c2, mk_NT_lo, mk_NT_hi, mk_NT_next, mk_Ac_a1, mk_Ac_a2, mk_Ac_l, mk_Ac_h, MS.sAr, MS.ss]
theorem sAr_setN (x : XS) (v : Int32) (y : NX) : (x.setN false y).sAr v = (x.sAr v).setN false y := by simp -implicitDefEqProofs only [XS.sAr, XS.setN, mk_XS_taped, mk_XS_fault, mk_XS_bought, mk_XS_worthMany, mk_XS_beganFirst, mk_XS_beganSecond, mk_XS_seed, mk_XS_arranged, mk_XS_paid, mk_XS_hiss, mk_XS_orders, mk_XS_house, mk_XS_cues, mk_XS_tape, mk_XS_states, mk_XS_asked, mk_XS_carriesSet, mk_XS_heights, mk_XS_worth, mk_XS_mouths, mk_XS_sided, mk_XS_keptHouse, mk_XS_keptPaid, mk_XS_keptHiss, mk_XS_kMod, mk_XS_kData, mk_XS_kSize, mk_XS_out, mk_XS_n0, mk_XS_n1]
section Arrange
variable {b b' b0 st : Mem} {n s : Nat} {x : XS} {m : MS} {H H0 H' : HS} {C : List Cu} {h0 c d u v N : Nat} {K : Nat → Option (HS × List Cu)} {s0 : Nat → Int32} {p hi : Int64}
theorem Duo.sAr {h : Nat} {v : Int32} (R : Duo b x m H C h c K) : Duo b (x.sAr v) (m.sAr v) H C h c K := ⟨R.hb, R.fz, R.ok, R.ar, R.XH, R.xh, R.XC, R.xc, R.MH, R.MC, R.lays, R.l01, R.tape, R.len, R.fault, R.paid, R.hiss, R.bought, R.worth, R.sided, R.b1, R.b2, rfl, R.kept, R.keptC⟩
theorem Arr.duo (A : Arr b0 b x m H0 H C h0 N c K s0 p hi) : Duo b x m H C N c K := by
  have R2 := A.R.ext A.E
  have la : m.lays = 0 → MArea m H := fun hl a v h1 h2 => (R2.lays hl a v h1 (by rw [← A.hz]; exact h2)).trans (by rw [A.ha])
  exact ⟨R2.hb, R2.fz, A.ok, A.ar, A.X, A.xh, R2.XC, R2.xc, A.MH, A.MC, la, R2.l01, R2.tape, R2.len, R2.fault, R2.paid, R2.hiss, R2.bought, R2.worth, R2.sided, R2.b1, R2.b2, R2.arranged, R2.kept, R2.keptC⟩
theorem Arr.sAr {v : Int32} (A : Arr b0 b x m H0 H C h0 N c K s0 p hi) : Arr b0 b (x.sAr v) (m.sAr v) H0 H C h0 N c K s0 p hi := by
  refine ⟨?_, A.E, A.N, A.X, A.xh, A.ok, A.ar, A.MH, A.MC, A.ha, A.hz, A.xp, A.xi⟩
  rw [sAr_hs, sAr_ss]; exact A.R.sAr
/-- a night -/
theorem Arr.ht (A : Arr b0 b x m H0 H C h0 N c K s0 p hi) : ∃ y g z, fX1_heightOf (some 64) (some N) p hi (mkX b x) = some (hgtS H C p hi 61, mkX b (x.setN false y)) ∧ fX4_height (some 106) p hi (mkM b' n s m) = some (hgtS H C p hi 61, mkM b' n s (m.lay g z)) ∧ z.nightHeight = hgtS H C p hi 61 ∧ Arr b0 b (x.setN false y) (m.lay g z) H0 H C h0 N c K s0 p hi := by
  have D := A.duo
  obtain ⟨y, e1⟩ := X_height D.hb (p := p) (hi := hi) D.XH D.ok D.XC D.xc
  obtain ⟨g, z, e2, ha, -, h1, -⟩ := M_height (b := b') (n := n) (s := s) (p := p) (h := hi) D.ok D.ar D.MH D.MC D.lays D.l01
  refine ⟨y, g, z, e1, e2, h1, ⟨?_, A.E, A.N, A.X, A.xh, A.ok, A.ar, A.MH, A.MC, A.ha, A.hz, A.xp, A.xi⟩⟩
  have ha0 : MArea ((m.ss s0).lay g z) H0 := fun a v h1 h2 => (ha a v h1 (by rw [A.hz]; exact h2)).trans (by rw [A.ha])
  have R2 := (A.R.lay ha0).nX (z := y)
  rw [hs_setN, ss_lay] at R2
  exact R2
/-- two seats change places -/
theorem Arr.sw (A : Arr b0 b x m H0 H C h0 N c K s0 p hi) (hu : u < H.size) (hv : v < H.size) (ku : H.kind u ≠ 0) (kv : H.kind v ≠ 0) : ∃ b1, fX2_swap (some N) (n2 u) (n2 v) (mkX b x) = some ((), mkX b1 x) ∧ mNx b1 = mNx b ∧ mNs b1 = mNs b ∧ fX4_change (some 106) (n2 u) (n2 v) (mkM b' n s m) = some ((), mkM b' n s (m.ss (swS m.s u v))) ∧ Arr b0 b1 x (m.ss (swS m.s u v)) H0 (H.sw u v) C h0 N c K s0 p hi := by
  have h64 := A.ok.size
  obtain ⟨b1, e1, x1, z1, m1, X1⟩ := X_swap (x := x) A.X (show u < 64 by omega) (show v < 64 by omega) (Or.inl ⟨hu, hv⟩)
  have hN := A.N
  refine ⟨b1, e1, x1, z1, M_change (by omega) (by omega), ⟨?_, ⟨by rw [x1]; exact A.E.1, fun a ha hd => (A.E.2 a ha hd).trans (m1 a (by omega) hd)⟩, A.N, X1, A.xh, sw_ok A.ok u v, sw_arok A.ar ku kv, A.MH.sw hu hv h64 ku kv, A.MC.sw (by omega) (by omega), A.ha, A.hz, A.xp, A.xi⟩⟩
  rw [ss_ss]; exact A.R
/-- what one round of arranging comes to -/
def ArI (b0 : Mem) (NX NS : Nat) (H0 : HS) (C : List Cu) (h0 N c : Nat) (K : Nat → Option (HS × List Cu)) (s0 : Nat → Int32) (p hi : Int64) (best : Int32) (ar : Int32) (kx km : Mem → Option (Int32 × Mem)) (H : HS) (b' : Mem) (n s : Nat) (rx rm : Option (Int32 × Mem)) : Prop :=
  (∃ w b2 x' m' H', rx = some (w, mkX b2 x') ∧ rm = some (1, mkM b' n s m') ∧ best < w ∧ m'.n.nightHeight = w ∧ Arr b0 b2 x' m' H0 H' C h0 N c K s0 p hi ∧ mNx b2 = NX ∧ mNs b2 = NS ∧ x'.arranged = ar) ∨
  (∃ b2 x' m', rx = kx (mkX b2 x') ∧ rm = km (mkM b' n s m') ∧ Arr b0 b2 x' m' H0 H C h0 N c K s0 p hi ∧ mNx b2 = NX ∧ mNs b2 = NS ∧ x'.arranged = ar)
theorem L_ari {kX : Rf → Int32 → Int32 → Mem → Option (Int32 × Mem)} {kM : Rf → Int32 → Int32 → Int32 → Mem → Option (Int32 × Mem)} {best ar : Int32} {NX NS : Nat} (hu : u < H.size) : ∀ (k F F' v : Nat) (b : Mem) (x : XS) (m : MS), v + k = H.size → u < v → k < F → k < F' → Arr b0 b x m H0 H C h0 N c K s0 p hi → mNx b = NX → mNs b = NS → x.arranged = ar →
    ArI b0 NX NS H0 C h0 N c K s0 p hi best ar (fun st => kX (some 64) best (n2 (u + 1)) st) (fun st => kM (some 106) best (n2 H.size) (n2 (u + 1)) st) H b' n s (bX1_arrangeOnce_17 kX F (some 64) best (n2 u) (n2 v) (mkX b x)) (bX4_arranges_26 kM F' (some 106) best (n2 H.size) (n2 u) (n2 v) (mkM b' n s m)) := by
  have eu : n2 u + 1 = n2 (u + 1) := n2_add u 1
  intro k
  induction k with
  | zero =>
    intro F F' v b x m hk huv hF hF' A hNX hNS har
    obtain ⟨F, rfl⟩ : ∃ g, F = g + 1 := ⟨F - 1, by omega⟩
    obtain ⟨F', rfl⟩ : ∃ g, F' = g + 1 := ⟨F' - 1, by omega⟩
    have e : v = H.size := by omega
    subst e
    have D := A.duo
    refine Or.inr ⟨b, x, m, ?_, ?_, A, hNX, hNS, har⟩
    · show bX1_arrangeOnce_17B kX _ _ _ _ _ _ = _
      unfold bX1_arrangeOnce_17B
      simp -implicitDefEqProofs only [Option.bind_some, bd_some, b2i_0, Bool.true_eq_false, Bool.false_eq_true, eq_self, if_true, if_false, not_true_eq_false, not_false_eq_true, gX_4 D.hb, A.xh, xh_iv A.X, xh_size A.X, show (n2 H.size ≤ n2 H.size) = True from eq_true (Int32.le_refl _), eu]
    · show bX4_arranges_26B kM _ _ _ _ _ _ _ = _
      unfold bX4_arranges_26B
      simp -implicitDefEqProofs only [Option.bind_some, bd_some, b2i_0, Bool.true_eq_false, Bool.false_eq_true, eq_self, if_true, if_false, not_true_eq_false, not_false_eq_true, show (n2 H.size ≤ n2 H.size) = True from eq_true (Int32.le_refl _), eu]
  | succ k ih =>
    intro F F' v b x m hk huv hF hF' A hNX hNS har
    obtain ⟨F, rfl⟩ : ∃ g, F = g + 1 := ⟨F - 1, by omega⟩
    obtain ⟨F', rfl⟩ : ∃ g, F' = g + 1 := ⟨F' - 1, by omega⟩
    have h64 := A.ok.size
    have D := A.duo
    have hv : v < H.size := by omega
    have le : (n2 H.size ≤ n2 v) = False := by rw [n2_le (by omega) (by omega)]; exact eq_false (by omega)
    have ev : n2 v + 1 = n2 (v + 1) := n2_add v 1
    have skip := ih F F' (v + 1) b x m (by omega) (by omega) (by omega) (by omega) A hNX hNS har
    show ArI _ _ _ _ _ _ _ _ _ _ _ _ _ _ _ _ _ _ _ _ (bX1_arrangeOnce_17B kX (bX1_arrangeOnce_17 kX F) _ _ _ _ _) (bX4_arranges_26B kM (bX4_arranges_26 kM F') _ _ _ _ _ _)
    unfold bX1_arrangeOnce_17B bX4_arranges_26B bX1_arrangeOnce_119 bX4_arranges_77
    simp -implicitDefEqProofs only [Option.bind_some, bd_some, b2i_0, Bool.true_eq_false, Bool.false_eq_true, eq_self, if_true, if_false, not_true_eq_false, not_false_eq_true, gX_4 D.hb, A.xh, xh_iv A.X, xh_size A.X, le, X_isSeatI A.X A.ok, seatI_n2 (show u < 2147483648 by omega), seatI_n2 (show v < 2147483648 by omega), decide_eq_true hu, decide_eq_true hv, Bool.true_and, xh_34 A.X, xh_kind A.X hu h64, xh_kind A.X hv h64, ivM, M_unl A.MH A.ok hu hv, ev]
    by_cases c1 : H.kind u = 0
    · have un : unl H u v = false := by unfold unl; rw [decide_eq_false (fun h => h c1), Bool.false_and]
      rw [un, decide_eq_false (fun h => h c1)]
      simp -implicitDefEqProofs only [Option.bind_some, bd_some, b2i_0, Bool.true_eq_false, Bool.false_eq_true, eq_self, if_true, if_false, not_true_eq_false, not_false_eq_true]
      exact skip
    · by_cases c2 : H.kind v = 0
      · have un : unl H u v = false := by unfold unl; rw [decide_eq_false (fun h : H.kind v ≠ 0 => h c2), Bool.false_and, Bool.and_false]
        rw [un, decide_eq_false (fun h : H.kind v ≠ 0 => h c2), decide_eq_true c1]
        simp -implicitDefEqProofs only [Option.bind_some, bd_some, b2i_0, Bool.true_eq_false, Bool.false_eq_true, eq_self, if_true, if_false, not_true_eq_false, not_false_eq_true]
        exact skip
      · by_cases c3 : H.kind u = H.kind v
        · have un : unl H u v = false := by unfold unl; rw [decide_eq_false (fun h : H.kind u ≠ H.kind v => h c3), Bool.and_false, Bool.and_false]
          have nx : (n2 (kindX (H.kind u)) = n2 (kindX (H.kind v))) = True := by rw [c3]; exact eq_true rfl
          rw [un, decide_eq_true c1, decide_eq_true c2]
          simp -implicitDefEqProofs only [Option.bind_some, bd_some, b2i_0, Bool.true_eq_false, Bool.false_eq_true, eq_self, if_true, if_false, not_true_eq_false, not_false_eq_true, nx]
          exact skip
        · have un : unl H u v = true := by unfold unl; rw [decide_eq_true c1, decide_eq_true c2, decide_eq_true c3]; rfl
          have nx : (n2 (kindX (H.kind u)) = n2 (kindX (H.kind v))) = False := by rw [kindX_inj (A.ok.kind u) (A.ok.kind v) c1 c2]; exact eq_false c3
          obtain ⟨b1, e1, x1, z1, e2, A1⟩ := A.sw (b' := b') (n := n) (s := s) hu hv c1 c2
          have D1 := A1.duo
          obtain ⟨y, g, z, e3, e4, hh, A2⟩ := A1.ht (b' := b') (n := n) (s := s)
          have k1 : (H.sw u v).kind u ≠ 0 := by
            rw [sw_kind]; simp -implicitDefEqProofs only [if_neg (show ¬ u = v by omega), if_pos]; exact c2
          have k2 : (H.sw u v).kind v ≠ 0 := by rw [sw_kind]; simp -implicitDefEqProofs only [if_pos]; exact c1
          obtain ⟨b2, f1, x2, z2, f2, A3⟩ := A2.sw (b' := b') (n := n) (s := s) (u := u) (v := v) hu hv k1 k2
          have D2 := A2.duo
          rw [sw_sw] at A3
          have pp1 : (m.ss (swS m.s u v)).seatsPaid = p := D1.paid.symm.trans A.xp
          have pp2 : (m.ss (swS m.s u v)).seatsHiss = hi := D1.hiss.symm.trans A.xi
          have hx2 : (x.setN false y).house = some N := A2.xh
          rw [un, decide_eq_true c1, decide_eq_true c2]
          simp -implicitDefEqProofs only [Option.bind_some, bd_some, b2i_0, Bool.true_eq_false, Bool.false_eq_true, eq_self, if_true, if_false, not_true_eq_false, not_false_eq_true, nx, e1, gX_4 D1.hb, A.xh, gX_5 D1.hb, A.xp, gX_6 D1.hb, A.xi, ivX D1.hb, e3, e2, gM_71, gM_72, pp1, pp2, ivM, e4, hx2, xh_iv A1.X, f1, f2]
          by_cases hc : hgtS (H.sw u v) C p hi 61 ≤ best
          · simp -implicitDefEqProofs only [Option.bind_some, bd_some, b2i_0, Bool.true_eq_false, Bool.false_eq_true, eq_self, if_true, if_false, not_true_eq_false, not_false_eq_true, hc]
            exact ih F F' (v + 1) b2 (x.setN false y) _ (by omega) (by omega) (by omega) (by omega) A3 (by rw [x2, x1, hNX]) (by rw [z2, z1, hNS]) har
          · simp -implicitDefEqProofs only [Option.bind_some, bd_some, b2i_0, Bool.true_eq_false, Bool.false_eq_true, eq_self, if_true, if_false, not_true_eq_false, not_false_eq_true, hc]
            refine Or.inl ⟨_, _, _, _, _, rfl, rfl, Int32.not_le.mp hc, ?_, A2, by rw [x1, hNX], by rw [z1, hNS], har⟩
            rw [lay_n]; exact hh
theorem L_aro {best ar : Int32} {NX NS : Nat} : ∀ (k F F' u : Nat) (b : Mem) (x : XS) (m : MS), u + k = H.size → k < F → k < F' → Arr b0 b x m H0 H C h0 N c K s0 p hi → mNx b = NX → mNs b = NS → x.arranged = ar →
    ArI b0 NX NS H0 C h0 N c K s0 p hi best ar (fun st => some (best, st)) (fun st => some (0, st)) H b' n s (bX1_arrangeOnce_2 F (some 64) best (n2 u) (mkX b x)) (bX4_arranges_16 F' (some 106) best (n2 H.size) (n2 u) (mkM b' n s m)) := by
  intro k
  induction k with
  | zero =>
    intro F F' u b x m hk hF hF' A hNX hNS har
    obtain ⟨F, rfl⟩ : ∃ g, F = g + 1 := ⟨F - 1, by omega⟩
    obtain ⟨F', rfl⟩ : ∃ g, F' = g + 1 := ⟨F' - 1, by omega⟩
    have e : u = H.size := by omega
    subst e
    have D := A.duo
    refine Or.inr ⟨b, x, m, ?_, ?_, A, hNX, hNS, har⟩
    · show bX1_arrangeOnce_2B _ _ _ _ _ = _
      unfold bX1_arrangeOnce_2B
      simp -implicitDefEqProofs only [Option.bind_some, bd_some, b2i_0, Bool.true_eq_false, Bool.false_eq_true, eq_self, if_true, if_false, not_true_eq_false, not_false_eq_true, gX_4 D.hb, A.xh, xh_iv A.X, xh_size A.X, show (n2 H.size ≤ n2 H.size) = True from eq_true (Int32.le_refl _)]
    · show bX4_arranges_16B _ _ _ _ _ _ = _
      unfold bX4_arranges_16B
      simp -implicitDefEqProofs only [Option.bind_some, bd_some, b2i_0, Bool.true_eq_false, Bool.false_eq_true, eq_self, if_true, if_false, not_true_eq_false, not_false_eq_true, show (n2 H.size ≤ n2 H.size) = True from eq_true (Int32.le_refl _)]
  | succ k ih =>
    intro F F' u b x m hk hF hF' A hNX hNS har
    obtain ⟨F, rfl⟩ : ∃ g, F = g + 1 := ⟨F - 1, by omega⟩
    obtain ⟨F', rfl⟩ : ∃ g, F' = g + 1 := ⟨F' - 1, by omega⟩
    have h64 := A.ok.size
    have hFu : 100 < hcFuel := by unfold hcFuel; omega
    have D := A.duo
    have le : (n2 H.size ≤ n2 u) = False := by rw [n2_le (by omega) (by omega)]; exact eq_false (by omega)
    have eu : n2 u + 1 = n2 (u + 1) := n2_add u 1
    show ArI _ _ _ _ _ _ _ _ _ _ _ _ _ _ _ _ _ _ _ _ (bX1_arrangeOnce_2B (bX1_arrangeOnce_2 F) _ _ _ _) (bX4_arranges_16B (bX4_arranges_16 F') _ _ _ _ _)
    unfold bX1_arrangeOnce_2B bX4_arranges_16B
    generalize hcFuel = fu at hFu ⊢
    have L := L_ari (b' := b') (n := n) (s := s) (kX := bX1_arrangeOnce_2 F) (kM := bX4_arranges_16 F') (best := best) (show u < H.size by omega) (H.size - (u + 1)) fu fu (u + 1) b x m (by omega) (by omega) (by omega) (by omega) A hNX hNS har
    simp -implicitDefEqProofs only [Option.bind_some, bd_some, b2i_0, Bool.true_eq_false, Bool.false_eq_true, eq_self, if_true, if_false, not_true_eq_false, not_false_eq_true, gX_4 D.hb, A.xh, xh_iv A.X, xh_size A.X, le, eu]
    rcases L with ⟨w, b2, x', m', H', l1, l2, l3⟩ | ⟨b2, x', m', l1, l2, l3, l4, l5, l6⟩
    · exact Or.inl ⟨w, b2, x', m', H', l1, l2, l3⟩
    · have L2 := ih F F' (u + 1) b2 x' m' (by omega) (by omega) (by omega) l3 l4 l5 l6
      have l1' : bX1_arrangeOnce_17 (bX1_arrangeOnce_2 F) fu (some 64) best (n2 u) (n2 (u + 1)) (mkX b x) = bX1_arrangeOnce_2 F (some 64) best (n2 (u + 1)) (mkX b2 x') := l1
      have l2' : bX4_arranges_26 (bX4_arranges_16 F') fu (some 106) best (n2 H.size) (n2 u) (n2 (u + 1)) (mkM b' n s m) = bX4_arranges_16 F' (some 106) best (n2 H.size) (n2 (u + 1)) (mkM b' n s m') := l2
      rw [l1', l2']
      exact L2
theorem L_arr {NX NS : Nat} : ∀ (k F F' j : Nat) (best : Int32) (H : HS) (b : Mem) (x : XS) (m : MS), j + k = 20 → k < F → k < F' → Arr b0 b x m H0 H C h0 N c K s0 p hi → mNx b = NX → mNs b = NS → x.arranged = n2 j →
    ∃ r b2 x' m' H', bX1_arrange_49 F (some 64) best (mkX b x) = some (r, mkX b2 x') ∧ bX4_arrange_36 F' (some 106) best (mkM b' n s m) = some (r, mkM b' n s m') ∧ Arr b0 b2 x' m' H0 H' C h0 N c K s0 p hi ∧ mNx b2 = NX ∧ mNs b2 = NS := by
  intro k
  induction k with
  | zero =>
    intro F F' j best H b x m hk hF hF' A hNX hNS har
    obtain ⟨F, rfl⟩ : ∃ g, F = g + 1 := ⟨F - 1, by omega⟩
    obtain ⟨F', rfl⟩ : ∃ g, F' = g + 1 := ⟨F' - 1, by omega⟩
    have e : j = 20 := by omega
    subst e
    have D := A.duo
    have ma : m.arranged = n2 20 := D.arranged.symm.trans har
    refine ⟨best, b, x, m, H, ?_, ?_, A, hNX, hNS⟩
    · show bX1_arrange_49B _ _ _ _ = _
      unfold bX1_arrange_49B
      simp -implicitDefEqProofs only [Option.bind_some, bd_some, b2i_0, Bool.true_eq_false, Bool.false_eq_true, eq_self, if_true, if_false, not_true_eq_false, not_false_eq_true, gX_23 D.hb, har, show ((20 : Int32) ≤ n2 20) = True from eq_true (by decide)]
    · show bX4_arrange_36B _ _ _ _ = _
      unfold bX4_arrange_36B
      simp -implicitDefEqProofs only [Option.bind_some, bd_some, b2i_0, Bool.true_eq_false, Bool.false_eq_true, eq_self, if_true, if_false, not_true_eq_false, not_false_eq_true, gM_118, ma, show ((20 : Int32) ≤ n2 20) = True from eq_true (by decide)]
  | succ k ih =>
    intro F F' j best H b x m hk hF hF' A hNX hNS har
    obtain ⟨F, rfl⟩ : ∃ g, F = g + 1 := ⟨F - 1, by omega⟩
    obtain ⟨F', rfl⟩ : ∃ g, F' = g + 1 := ⟨F' - 1, by omega⟩
    have h64 := A.ok.size
    have D := A.duo
    have ma : m.arranged = n2 j := D.arranged.symm.trans har
    have le : ((20 : Int32) ≤ n2 j) = False := by rw [li_20, n2_le (by omega) (by omega)]; exact eq_false (by omega)
    have ej : n2 j + 1 = n2 (j + 1) := n2_add j 1
    have r0 : aI (mkM b' n s m) (some 108) (0 : Int32) = some (n2 H.rows) := (rd_s' (k := 0) (by decide)).trans (congrArg some A.MH.rows)
    have r1 : aI (mkM b' n s m) (some 108) (1 : Int32) = some (n2 H.cols) := (rd_s' (k := 1) (by decide)).trans (congrArg some A.MH.cols)
    have sz : n2 H.rows * n2 H.cols = n2 H.size := n2_mul _ _
    have L := L_aro (b' := b') (n := n) (s := s) (best := best) H.size hcFuel hcFuel 0 b x m (by omega) (by unfold hcFuel; omega) (by unfold hcFuel; omega) A hNX hNS har
    show ∃ r b2 x' m' H', bX1_arrange_49B (bX1_arrange_49 F) _ _ _ = _ ∧ bX4_arrange_36B (bX4_arrange_36 F') _ _ _ = _ ∧ _
    unfold bX1_arrange_49B bX4_arrange_36B fX1_arrangeOnce fX4_arranges
    generalize hcFuel = fu at L ⊢
    simp -implicitDefEqProofs only [Option.bind_some, bd_some, b2i_0, Bool.true_eq_false, Bool.false_eq_true, eq_self, if_true, if_false, not_true_eq_false, not_false_eq_true, gX_23 D.hb, har, le, ivX D.hb, gM_118, ma, ivM, gM_61, r0, r1, sz]
    rcases L with ⟨w, b2, x', m', H', l1, l2, l3, l4, l5, l6, l7, l8⟩ | ⟨b2, x', m', l1, l2, l3, l4, l5, l6⟩
    · have l1' : bX1_arrangeOnce_2 fu (some 64) best (0 : Int32) (mkX b x) = some (w, mkX b2 x') := l1
      have l2' : bX4_arranges_16 fu (some 106) best (n2 H.size) (0 : Int32) (mkM b' n s m) = some (1, mkM b' n s m') := l2
      have D2 := l5.duo
      have ma2 : m'.arranged = n2 j := D2.arranged.symm.trans l8
      have ne : (w = best) = False := eq_false (fun e => by rw [e] at l3; exact Int32.lt_irrefl l3)
      have pa : ∀ v, pI (mkX b2 x') (some 64) 23 v = some (mkX b2 (x'.sAr v)) := fun v => pX_23 D2.hb
      have pm : ∀ v, pI (mkM b' n s m') (some 106) 118 v = some (mkM b' n s (m'.sAr v)) := fun v => pM_118
      simp -implicitDefEqProofs only [Option.bind_some, bd_some, b2i_0, Bool.true_eq_false, Bool.false_eq_true, eq_self, if_true, if_false, not_true_eq_false, not_false_eq_true, l1', ne, gX_23 D2.hb, l8, pa, l2', show ((1 : Int32) = 0) = False from eq_false (by decide), gM_99, l4, gM_118, ma2, pm, ej]
      exact ih F F' (j + 1) w H' b2 (x'.sAr (n2 (j + 1))) (m'.sAr (n2 (j + 1))) (by omega) (by omega) (by omega) l5.sAr l6 l7 rfl
    · have l1' : bX1_arrangeOnce_2 fu (some 64) best (0 : Int32) (mkX b x) = some (best, mkX b2 x') := l1
      have l2' : bX4_arranges_16 fu (some 106) best (n2 H.size) (0 : Int32) (mkM b' n s m) = some (0, mkM b' n s m') := l2
      simp -implicitDefEqProofs only [Option.bind_some, bd_some, b2i_0, Bool.true_eq_false, Bool.false_eq_true, eq_self, if_true, if_false, not_true_eq_false, not_false_eq_true, l1', l2']
      exact ⟨_, b2, x', m', H, rfl, rfl, l3, l4, l5⟩
theorem C_arrange {h : Nat} (R : Duo b x m H C h c K) : ∃ r b2 x' m' H' h', fX1_arrange (some 64) (mkX b x) = some (r, mkX b2 x') ∧ fX4_arrange (some 106) (mkM b' n s m) = some (r, mkM b' n s m') ∧ Duo b2 x' m' H' C h' c K ∧ Ans b b2 := by
  have T := R.th (v := 0)
  have h64 := R.ok.size
  have hsl := seats_le H
  have r2 : ∀ q : MS, MHouse q.s H → aI (mkM b' n s q) (some 108) (2 : Int32) = some (n2 H.seats) := fun q hq => (rd_s' (k := 2) (by decide)).trans (congrArg some hq.seats)
  unfold fX1_arrange fX4_arrange
  simp -implicitDefEqProofs only [Option.bind_some, bd_some, b2i_0, Bool.true_eq_false, Bool.false_eq_true, eq_self, if_true, if_false, not_true_eq_false, not_false_eq_true, pM_55', gX_4 R.hb, R.xh, xh_iv R.XH, X_seats R.XH R.ok, gM_61, r2 _ T.MH]
  by_cases hc : H.seats ≤ 24
  · have l2 : (n2 H.seats ≤ (24 : Int32)) = True := by rw [li_24, n2_le (by omega) (by omega)]; exact eq_true (by omega)
    obtain ⟨b2, f1, X2, E, x2, z2⟩ := X_exchd (x := x) (u := 0) (v := 0) R.hb R.XH R.ok (by decide) (by decide) (Or.inr rfl)
    rw [sw_self] at X2
    have f1' : fX2_exchanged (some h) (0 : Int32) (0 : Int32) (mkX b x) = some (some (mNx b), mkX b2 x) := f1
    have hb2 : 131 ≤ mNx b2 := Nat.le_trans R.hb E.1
    have T2 : Duo b (x.sAr 0) ((m.th 0).sAr 0) H C h c K := T.sAr
    obtain ⟨y, e1⟩ := X_height hb2 (x := x.hs (some (mNx b))) (p := x.paid) (hi := x.hiss) X2 R.ok (R.XC.ext E) R.xc
    obtain ⟨g, z, e2, ha, -, h1, -⟩ := M_height (b := b') (n := n) (s := s) (m := (m.th 0).sAr 0) (p := x.paid) (h := x.hiss) R.ok R.ar T2.MH T2.MC T2.lays T2.l01
    have T3 := (T2.lay ha).nX (z := y)
    have xs : x.hs (some h) = x := by rw [← R.xh]; unfold XS.hs; exact XS_eta x
    have xe : (((x.hs (some (mNx b))).setN false y).sAr 0).hs (some h) = (x.sAr 0).setN false y := by
      rw [sAr_hs, ← hs_setN, hs_hs, xs, sAr_setN]
    have A0 : Arr b b2 (((x.hs (some (mNx b))).setN false y).sAr 0) (((m.th 0).sAr 0).lay g z) H H C h (mNx b) c K (((m.th 0).sAr 0).lay g z).s x.paid x.hiss := by
      refine ⟨?_, E, Nat.le_refl _, X2, rfl, R.ok, R.ar, T3.MH, T3.MC, rfl, rfl, rfl, rfl⟩
      rw [xe, ss_self]; exact T3
    have pp1 : ((m.th 0).sAr 0).seatsPaid = x.paid := T2.paid.symm
    have pp2 : ((m.th 0).sAr 0).seatsHiss = x.hiss := T2.hiss.symm
    have pa : pI (mkX b2 ((x.hs (some (mNx b))).setN false y)) (some 64) 23 0 = some (mkX b2 (((x.hs (some (mNx b))).setN false y).sAr 0)) := pX_23 hb2
    have pm : pI (mkM b' n s (m.th 0)) (some 106) 118 0 = some (mkM b' n s ((m.th 0).sAr 0)) := pM_118
    obtain ⟨r, b3, x3, m3, H3, g1, g2, A3, g4, g5⟩ := L_arr (b' := b') (n := n) (s := s) 20 hcFuel hcFuel 0 (hgtS H C x.paid x.hiss 61) H b2 _ _ (by omega) (by unfold hcFuel; omega) (by unfold hcFuel; omega) A0 rfl rfl rfl
    generalize hcFuel = fu at g1 g2 ⊢
    simp -implicitDefEqProofs only [Option.bind_some, bd_some, b2i_0, Bool.true_eq_false, Bool.false_eq_true, eq_self, if_true, if_false, not_true_eq_false, not_false_eq_true, l2, f1', pX_4' hb2, gX_4 hb2, hs_house, gX_5 hb2, hs_paid, gX_6 hb2, hs_hiss, ivX hb2, e1, pa, pm, gM_71, gM_72, pp1, pp2, ivM, e2]
    exact ⟨r, b3, x3, m3, H3, _, g1, g2, A3.duo, ⟨by omega, by omega, by omega, by omega⟩⟩
  · have l2 : (n2 H.seats ≤ (24 : Int32)) = False := by rw [li_24, n2_le (by omega) (by omega)]; exact eq_false (by omega)
    simp -implicitDefEqProofs only [Option.bind_some, bd_some, b2i_0, Bool.true_eq_false, Bool.false_eq_true, eq_self, if_true, if_false, not_true_eq_false, not_false_eq_true, l2]
    exact ⟨_, b, _, _, _, _, rfl, rfl, T, Ans.refl b⟩
end Arrange
