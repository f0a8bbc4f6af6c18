set_option linter.unusedVariables false
set_option linter.unusedSimpArgs false
set_option maxRecDepth 100000
/-! ===== commands: exchange, exchanged ===== -/
def XS.hs (x : XS) (r : Rf) : XS := (XS.mk (x.taped) (x.fault) (x.bought) (x.worthMany) (x.beganFirst) (x.beganSecond) (x.seed) (x.arranged) (x.paid) (x.hiss) (x.orders) (r) (x.cues) (x.tape) (x.states) (x.asked) (x.carriesSet) (x.heights) (x.worth) (x.mouths) (x.sided) (x.keptHouse) (x.keptPaid) (x.keptHiss) (x.kMod) (x.kData) (x.kSize) (x.out) (x.n0) (x.n1))
theorem hs_house (x : XS) (r : Rf) : (x.hs r).house = r := rfl
theorem hs_setN (x : XS) (r : Rf) (y : NX) : (x.hs r).setN false y = (x.setN false y).hs r := by simp -implicitDefEqProofs only [XS.hs, XS.setN, mk_XS_taped, mk_XS_fault, mk_XS_bought, mk_XS_worthMany, mk_XS_beganFirst, mk_XS_beganSecond, mk_XS_seed, mk_XS_arranged, mk_XS_paid, mk_XS_hiss, mk_XS_orders, mk_XS_house, mk_XS_cues, mk_XS_tape, mk_XS_states, mk_XS_asked, mk_XS_carriesSet, mk_XS_heights, mk_XS_worth, mk_XS_mouths, mk_XS_sided, mk_XS_keptHouse, mk_XS_keptPaid, mk_XS_keptHiss, mk_XS_kMod, mk_XS_kData, mk_XS_kSize, mk_XS_out, mk_XS_n0, mk_XS_n1]
theorem hs_hs (x : XS) (r r' : Rf) : (x.hs r).hs r' = x.hs r' := by simp -implicitDefEqProofs only [XS.hs, mk_XS_taped, mk_XS_fault, mk_XS_bought, mk_XS_worthMany, mk_XS_beganFirst, mk_XS_beganSecond, mk_XS_seed, mk_XS_arranged, mk_XS_paid, mk_XS_hiss, mk_XS_orders, mk_XS_house, mk_XS_cues, mk_XS_tape, mk_XS_states, mk_XS_asked, mk_XS_carriesSet, mk_XS_heights, mk_XS_worth, mk_XS_mouths, mk_XS_sided, mk_XS_keptHouse, mk_XS_keptPaid, mk_XS_keptHiss, mk_XS_kMod, mk_XS_kData, mk_XS_kSize, mk_XS_out, mk_XS_n0, mk_XS_n1]
theorem hs_cues (x : XS) (r : Rf) : (x.hs r).cues = x.cues := rfl
theorem hs_paid (x : XS) (r : Rf) : (x.hs r).paid = x.paid := rfl
theorem hs_hiss (x : XS) (r : Rf) : (x.hs r).hiss = x.hiss := rfl
theorem ss_lay (m : MS) (f : Nat → Int32) (g : Nat → Int64) (z : MN) : (m.ss f).lay g z = (m.lay g z).ss f := by simp -implicitDefEqProofs only [gM_55, gM_57, gM_58, gM_59, gM_60, gM_64, gM_65, gM_66, gM_67, gM_68, gM_69, gM_70, gM_71, gM_72, gM_73, gM_74, gM_75, gM_76, gM_77, gM_81, gM_82, gM_83, gM_85, gM_86, gM_91, gM_92, gM_93, gM_94, gM_95, gM_96, gM_97, gM_98, gM_99, gM_100, gM_102, gM_103, gM_107, gM_108, gM_110, gM_111, gM_112, gM_113, gM_114, gM_115, gM_118, gM_119, gM_56, aM_107, nM_107, gM_61, aM_108, nM_108, gM_62, aM_109, nM_109, gM_63, aM_110, nM_110, gM_78, aM_111, nM_111, gM_79, aM_112, nM_112, gM_80, aM_113, nM_113, gM_84, aM_114, nM_114, gM_87, aM_115, nM_115, gM_88, aM_116, nM_116, gM_89, aM_117, nM_117, gM_90, aM_118, nM_118, gM_101, aM_119, nM_119, gM_104, aM_120, nM_120, gM_105, aM_121, nM_121, gM_106, aM_122, nM_122, gM_109, aM_123, nM_123, gM_116, aM_124, nM_124, gM_117, aM_125, nM_125, gM_120, aM_126, nM_126, gM_121, aM_127, nM_127, gM_122, aM_128, nM_128, gM_123, aM_129, nM_129, pM_55, pM_57, pM_58, pM_59, pM_60, pM_64, pM_65, pM_66, pM_67, pM_68, pM_69, pM_70, pM_71, pM_72, pM_73, pM_74, pM_75, pM_76, pM_77, pM_81, pM_82, pM_83, pM_85, pM_86, pM_91, pM_92, pM_93, pM_94, pM_95, pM_96, pM_97, pM_98, pM_99, pM_100, pM_102, pM_103, pM_107, pM_108, pM_110, pM_111, pM_112, pM_113, pM_114, pM_115, pM_118, pM_119, uM_107, uM_108, uM_109, uM_110, uM_111, uM_112, uM_113, uM_114, uM_115, uM_116, uM_117, uM_118, uM_119, uM_120, uM_121, uM_122, uM_123, uM_124, uM_125, uM_126, uM_127, uM_128, uM_129, ivM, Option.bind_some, bd_some, mk_MS_thrown, mk_MS_length, mk_MS_seatsPaid, mk_MS_seatsHiss, mk_MS_lays, mk_MS_arranged, mk_MS_tape, mk_MS_s, mk_MS_area, mk_MS_kept, mk_MS_keptPaid, mk_MS_keptHiss, mk_MS_isKept, mk_MS_r, mk_MS_h, mk_MS_n, mk_MS_c, mk_MR_size, mk_MR_p, mk_MR_limit, mk_MR_token, mk_MR_place, mk_MR_span, mk_MR_number, mk_MR_fault, mk_MR_faultAt, mk_MR_word, mk_MR_got, mk_MH_lines, mk_MH_prices, mk_MH_leavings, mk_MH_onces, mk_MH_codeMany, mk_MH_pileMany, mk_MH_ones, mk_MH_coming, mk_MH_hh, mk_MH_newCues, mk_MH_code, mk_MH_pile, mk_MN_paidNow, mk_MN_hissNow, mk_MN_clapping, mk_MN_standing, mk_MN_low, mk_MN_high, mk_MN_gone, mk_MN_cueNext, mk_MN_nightHeight, mk_MN_nightCarries, mk_MN_held, mk_MN_claps, mk_MN_stand, mk_MN_heldLow, mk_MN_heldHigh, mk_MC_askedMany, mk_MC_bought, mk_MC_worthMany, mk_MC_allOrders, mk_MC_hasSides, mk_MC_seenClaps, mk_MC_seenStand, mk_MC_seenAll, mk_MC_beganA, mk_MC_beganB, mk_MC_seed, mk_MC_asked, mk_MC_carried, mk_MC_heights, mk_MC_worths, mk_MC_side, mk_MC_otherClaps, mk_MC_otherStand, mk_NT_paid, mk_NT_hiss, mk_NT_c1, mk_NT_c2, mk_NT_lo, mk_NT_hi, mk_NT_next, mk_Ac_a1, mk_Ac_a2, mk_Ac_l, mk_Ac_h, MS.ss, MS.lay]
theorem lay_s (m : MS) (g : Nat → Int64) (z : MN) : (m.lay g z).s = m.s := rfl
theorem lay_n (m : MS) (g : Nat → Int64) (z : MN) : (m.lay g z).n = z := rfl
theorem ss_n (m : MS) (f : Nat → Int32) : (m.ss f).n = m.n := rfl
theorem ss_self (m : MS) : m.ss m.s = m := by unfold MS.ss; rw [MS_eta m]
theorem lay_paid (m : MS) (g : Nat → Int64) (z : MN) : (m.lay g z).seatsPaid = m.seatsPaid := rfl
theorem lay_hiss (m : MS) (g : Nat → Int64) (z : MN) : (m.lay g z).seatsHiss = m.seatsHiss := rfl
theorem ss_paid (m : MS) (f : Nat → Int32) : (m.ss f).seatsPaid = m.seatsPaid := rfl
theorem ss_hiss (m : MS) (f : Nat → Int32) : (m.ss f).seatsHiss = m.seatsHiss := rfl
theorem pX_4' {b : Mem} {x : XS} (hb : 131 ≤ mNx b) {r : Rf} : pA (mkX b x) (some 64) 4 r = some (mkX b (x.hs r)) := pX_4 hb
def unl (H : HS) (u v : Nat) : Bool := decide (H.kind u ≠ 0) && (decide (H.kind v ≠ 0) && decide (H.kind u ≠ H.kind v))
theorem unl_true {H : HS} {u v : Nat} (h : unl H u v = true) : H.kind u ≠ 0 ∧ H.kind v ≠ 0 ∧ H.kind u ≠ H.kind v := by
  unfold unl at h; simpa only [Bool.and_eq_true, decide_eq_true_eq] using h
theorem kindX_inj {k l : Nat} (hk : k ≤ 6) (hl : l ≤ 6) (h0 : k ≠ 0) (h1 : l ≠ 0) : (n2 (kindX k) = n2 (kindX l)) = (k = l) := by
  unfold kindX
  rw [if_neg h0, if_neg h1, n2_eq (by omega) (by omega)]
  exact propext ⟨fun h => by omega, fun h => by omega⟩
section ExchC
variable {b b' b0 st : Mem} {n s : Nat} {x : XS} {m : MS} {H H0 H' : HS} {C : List Cu} {h c d u v N : Nat} {K : Nat → Option (HS × List Cu)}
theorem Duo.hs {f : Nat → Int32} (R : Duo b x m H C h c K) (E : Ext b st) (X : XHouse st N H') (ok : H'.Ok) (ar : H'.ArOk) (MH : MHouse f H') (MC : MCues f C) (la : m.lays = 0 → MArea m H') : Duo st (x.hs (some N)) (m.ss f) H' C N c K := by
  have R2 := R.ext E
  exact ⟨R2.hb, R2.fz, ok, ar, X, rfl, R2.XC, R2.xc, MH, MC, la, R2.l01, R2.tape, R2.len, R2.fault, R2.paid, R2.hiss, R2.bought, R2.worth, R2.sided, R2.b1, R2.b2, R2.arranged, R2.kept, R2.keptC⟩
theorem Duo.ss {f : Nat → Int32} (R : Duo b x m H C h c K) (MH : MHouse f H) (MC : MCues f C) : Duo b x (m.ss f) H C h c K := ⟨R.hb, R.fz, R.ok, R.ar, R.XH, R.xh, R.XC, R.xc, MH, MC, R.lays, R.l01, R.tape, R.len, R.fault, R.paid, R.hiss, R.bought, R.worth, R.sided, R.b1, R.b2, R.arranged, R.kept, R.keptC⟩
theorem C_exchange (R : Duo b x m H C h c K) (a d : Int32) : ∃ r b2 x' m' H' h', fX1_exchange (some 64) a d (mkX b x) = some (r, mkX b2 x') ∧ fX4_exchange (some 106) a d (mkM b' n s m) = some (r, mkM b' n s m') ∧ Duo b2 x' m' H' C h' c K ∧ Ans b b2 := by
  have T := R.th (v := 0)
  have h64 := R.ok.size
  unfold fX1_exchange fX4_exchange
  simp -implicitDefEqProofs only [Option.bind_some, bd_some, b2i_0, Bool.true_eq_false, Bool.false_eq_true, eq_self, if_true, if_false, not_true_eq_false, not_false_eq_true, pM_55', gX_4 R.hb, R.xh, xh_iv R.XH, X_isSeatI R.XH R.ok, ivM, M_isSeatI T.MH R.ok]
  cases es : seatI H a
  · simp -implicitDefEqProofs only [Option.bind_some, bd_some, b2i_0, Bool.true_eq_false, Bool.false_eq_true, eq_self, if_true, if_false, not_true_eq_false, not_false_eq_true]; exact ⟨_, _, _, _, _, _, rfl, rfl, T, Ans.refl b⟩
  cases ed : seatI H d
  · simp -implicitDefEqProofs only [Option.bind_some, bd_some, b2i_0, Bool.true_eq_false, Bool.false_eq_true, eq_self, if_true, if_false, not_true_eq_false, not_false_eq_true]; exact ⟨_, _, _, _, _, _, rfl, rfl, T, Ans.refl b⟩
  obtain ⟨u, hu, ku, rfl⟩ := seatI_true es
  obtain ⟨v, hv, kv, rfl⟩ := seatI_true ed
  by_cases e : n2 u = n2 v
  · simp -implicitDefEqProofs only [Option.bind_some, bd_some, b2i_0, Bool.true_eq_false, Bool.false_eq_true, eq_self, if_true, if_false, not_true_eq_false, not_false_eq_true, e]; exact ⟨_, _, _, _, _, _, rfl, rfl, T, Ans.refl b⟩
  · obtain ⟨b2, e1, X2, E, x2, z2⟩ := X_exchd (x := x) R.hb R.XH R.ok (show u < 64 by omega) (show v < 64 by omega) (Or.inl ⟨hu, hv⟩)
    have hb2 : 131 ≤ mNx b2 := Nat.le_trans R.hb E.1
    simp -implicitDefEqProofs only [Option.bind_some, bd_some, b2i_0, Bool.true_eq_false, Bool.false_eq_true, eq_self, if_true, if_false, not_true_eq_false, not_false_eq_true, e, e1, pX_4' hb2, M_change (show u < 64 by omega) (show v < 64 by omega)]
    refine ⟨_, b2, _, _, _, _, rfl, rfl, T.hs E X2 (sw_ok R.ok u v) (sw_arok R.ar ku kv) (T.MH.sw hu hv h64 ku kv) (T.MC.sw (by omega) (by omega)) (fun hl a v h1 h2 => T.lays hl a v h1 h2), ⟨by omega, by omega, by omega, by omega⟩⟩
theorem M_unl (hH : MHouse m.s H) (ok : H.Ok) (hu : u < H.size) (hv : v < H.size) : fX4_areUnlike (some 106) (n2 u) (n2 v) (mkM b' n s m) = some (b2i (unl H u v), mkM b' n s m) := by
  have h64 := ok.size
  have k1 := hH.kind u (by omega)
  have k2 := hH.kind v (by omega)
  rw [if_pos hu] at k1
  rw [if_pos hv] at k2
  have o1 := ok.kind u
  have o2 := ok.kind v
  have iu : (6 : Int32) + n2 u = n2 (6 + u) := n2_add 6 u
  have iv' : (6 : Int32) + n2 v = n2 (6 + v) := n2_add 6 v
  unfold fX4_areUnlike bX4_areUnlike_41 unl
  simp -implicitDefEqProofs only [Option.bind_some, bd_some, b2i_0, Bool.true_eq_false, Bool.false_eq_true, eq_self, if_true, if_false, not_true_eq_false, not_false_eq_true, ivM, M_isSeatI hH ok, seatI_n2 (show u < 2147483648 by omega), seatI_n2 (show v < 2147483648 by omega), decide_eq_true hu, decide_eq_true hv, Bool.true_and, gM_61, iu, iv', rd_s' (show 6 + u < 681 by omega), rd_s' (show 6 + v < 681 by omega), k1, k2, n2_eq (show H.kind u < 2147483648 by omega) (show H.kind v < 2147483648 by omega)]
  by_cases c1 : H.kind u = 0
  · rw [decide_eq_false (fun h => h c1)]; simp -implicitDefEqProofs only [Option.bind_some, bd_some, b2i_0, Bool.true_eq_false, Bool.false_eq_true, eq_self, if_true, if_false, not_true_eq_false, not_false_eq_true, Bool.false_and]; rfl
  · rw [decide_eq_true c1]
    by_cases c2 : H.kind v = 0
    · rw [decide_eq_false (fun h => h c2)]; simp -implicitDefEqProofs only [Option.bind_some, bd_some, b2i_0, Bool.true_eq_false, Bool.false_eq_true, eq_self, if_true, if_false, not_true_eq_false, not_false_eq_true, Bool.false_and, Bool.and_false]; rfl
    · rw [decide_eq_true c2]
      by_cases c3 : H.kind u = H.kind v
      · rw [decide_eq_false (fun h => h c3)]; simp -implicitDefEqProofs only [Option.bind_some, bd_some, b2i_0, Bool.true_eq_false, Bool.false_eq_true, eq_self, if_true, if_false, not_true_eq_false, not_false_eq_true, c3, Bool.and_false]; rfl
      · rw [decide_eq_true c3]; simp -implicitDefEqProofs only [Option.bind_some, bd_some, b2i_0, Bool.true_eq_false, Bool.false_eq_true, eq_self, if_true, if_false, not_true_eq_false, not_false_eq_true, c3, Bool.and_true]; rfl
/-- a night of a house with two seats exchanged, in both -/
theorem D_sw (R : Duo b0 x m H C h c K) (E : Ext b0 b) (hN : mNx b0 ≤ N) (X : XHouse b N H) (hu : u < H.size) (hv : v < H.size) (ku : H.kind u ≠ 0) (kv : H.kind v ≠ 0) (p hi : Int64) :
    ∃ b1 y g z, fX2_swap (some N) (n2 u) (n2 v) (mkX b x) = some ((), mkX b1 x) ∧ fX1_heightOf (some 64) (some N) p hi (mkX b1 x) = some (hgtS (H.sw u v) C p hi 61, mkX b1 (x.setN false y)) ∧ XHouse b1 N (H.sw u v) ∧ Ext b0 b1 ∧ mNx b1 = mNx b ∧ mNs b1 = mNs b ∧
      fX4_change (some 106) (n2 u) (n2 v) (mkM b' n s m) = some ((), mkM b' n s (m.ss (swS m.s u v))) ∧ fX4_height (some 106) p hi (mkM b' n s (m.ss (swS m.s u v))) = some (hgtS (H.sw u v) C p hi 61, mkM b' n s ((m.lay g z).ss (swS m.s u v))) ∧
      z.nightHeight = hgtS (H.sw u v) C p hi 61 ∧ z.nightCarries = b2i (decide (n2 H.carry ≤ hgtS (H.sw u v) C p hi 61)) ∧ Duo b0 (x.setN false y) (m.lay g z) H C h c K ∧ MArea ((m.lay g z).ss (swS m.s u v)) (H.sw u v) := by
  have h64 := R.ok.size
  obtain ⟨b1, e1, x1, z1, m1, X1⟩ := X_swap (x := x) X (show u < 64 by omega) (show v < 64 by omega) (Or.inl ⟨hu, hv⟩)
  have E1 : Ext b0 b1 := ⟨by rw [x1]; exact E.1, fun a ha hd => (E.2 a ha hd).trans (m1 a (by omega) hd)⟩
  have hb1 : 131 ≤ mNx b1 := Nat.le_trans R.hb E1.1
  obtain ⟨y, e2⟩ := X_height hb1 (x := x) (p := p) (hi := hi) X1 (sw_ok R.ok u v) (R.XC.ext E1) R.xc
  obtain ⟨g, z, e3, ha, -, h1, h2⟩ := M_height (b := b') (n := n) (s := s) (m := m.ss (swS m.s u v)) (p := p) (h := hi) (sw_ok R.ok u v) (sw_arok R.ar ku kv) (R.MH.sw hu hv h64 ku kv) (R.MC.sw (by omega) (by omega)) (fun hl a v h1 h2 => R.lays hl a v h1 h2) R.l01
  rw [ss_lay] at e3 ha
  have ha' : MArea (m.lay g z) H := fun a v h1 h2 => ha a v h1 h2
  exact ⟨b1, y, g, z, e1, e2, X1, E1, x1, z1, M_change (by omega) (by omega), e3, h1, h2, (R.lay ha').nX, ha⟩
/-- what the inner loop of exchanged comes to -/
def ExI (b0 : Mem) (NX NS N : Nat) (H : HS) (C : List Cu) (h c : Nat) (K : Nat → Option (HS × List Cu)) (p hi : Int64) (kx km : Mem → Option (Int32 × Mem)) (b' : Mem) (n s : Nat) (rx rm : Option (Int32 × Mem)) : Prop :=
  (∃ r b2 x' m', rx = some (r, mkX b2 x') ∧ rm = some (r, mkM b' n s m') ∧ Duo b0 x' m' H C h c K ∧ Ext b0 b2 ∧ mNx b2 = NX ∧ mNs b2 = NS) ∨
  (∃ b2 x' m', rx = kx (mkX b2 x') ∧ rm = km (mkM b' n s m') ∧ Duo b0 x' m' H C h c K ∧ Ext b0 b2 ∧ XHouse b2 N H ∧ mNx b2 = NX ∧ mNs b2 = NS ∧ x'.paid = p ∧ x'.hiss = hi)
theorem L_exi {kX : Rf → Rf → Int32 → Mem → Option (Int32 × Mem)} {kM : Rf → Int32 → Int32 → Mem → Option (Int32 × Mem)} {p hi : Int64} {NX NS : Nat} (hN : mNx b0 ≤ N) (hu : u < H.size) : ∀ (k F F' v : Nat) (b : Mem) (x : XS) (m : MS), v + k = H.size → k < F → k < F' → Duo b0 x m H C h c K → Ext b0 b → XHouse b N H → mNx b = NX → mNs b = NS → x.paid = p → x.hiss = hi →
    ExI b0 NX NS N H C h c K p hi (fun st => kX (some 64) (some N) (n2 (u + 1)) st) (fun st => kM (some 106) (n2 H.size) (n2 (u + 1)) st) b' n s (bX1_exchanged_56 kX F (some 64) (some N) (n2 u) (n2 v) (mkX b x)) (bX4_exchanged_65 kM F' (some 106) (n2 H.size) (n2 u) (n2 v) (mkM b' n s m)) := by
  have eu : n2 u + 1 = n2 (u + 1) := n2_add u 1
  intro k
  induction k with
  | zero =>
    intro F F' v b x m hk hF hF' R E X hNX hNS hp hh
    obtain ⟨F, rfl⟩ : ∃ g, F = g + 1 := ⟨F - 1, by omega⟩
    obtain ⟨F', rfl⟩ : ∃ g, F' = g + 1 := ⟨F' - 1, by omega⟩
    have e : v = H.size := by omega
    subst e
    have R2 := R.ext E
    refine Or.inr ⟨b, x, m, ?_, ?_, R, E, X, hNX, hNS, hp, hh⟩
    · show bX1_exchanged_56B kX _ _ _ _ _ _ = _
      unfold bX1_exchanged_56B
      simp -implicitDefEqProofs only [Option.bind_some, bd_some, b2i_0, Bool.true_eq_false, Bool.false_eq_true, eq_self, if_true, if_false, not_true_eq_false, not_false_eq_true, gX_4 R2.hb, R.xh, xh_iv R2.XH, xh_size R2.XH, show (n2 H.size ≤ n2 H.size) = True from eq_true (Int32.le_refl _), eu]
    · show bX4_exchanged_65B kM _ _ _ _ _ _ = _
      unfold bX4_exchanged_65B
      simp -implicitDefEqProofs only [Option.bind_some, bd_some, b2i_0, Bool.true_eq_false, Bool.false_eq_true, eq_self, if_true, if_false, not_true_eq_false, not_false_eq_true, show (n2 H.size ≤ n2 H.size) = True from eq_true (Int32.le_refl _), eu]
  | succ k ih =>
    intro F F' v b x m hk hF hF' R E X hNX hNS hp hh
    obtain ⟨F, rfl⟩ : ∃ g, F = g + 1 := ⟨F - 1, by omega⟩
    obtain ⟨F', rfl⟩ : ∃ g, F' = g + 1 := ⟨F' - 1, by omega⟩
    have h64 := R.ok.size
    have R2 := R.ext E
    have hv : v < H.size := by omega
    have le : (n2 H.size ≤ n2 v) = False := by rw [n2_le (by omega) (by omega)]; exact eq_false (by omega)
    have ev : n2 v + 1 = n2 (v + 1) := n2_add v 1
    have skip := ih F F' (v + 1) b x m (by omega) (by omega) (by omega) R E X hNX hNS hp hh
    show ExI _ _ _ _ _ _ _ _ _ _ _ _ _ _ _ _ (bX1_exchanged_56B kX (bX1_exchanged_56 kX F) _ _ _ _ _) (bX4_exchanged_65B kM (bX4_exchanged_65 kM F') _ _ _ _ _)
    unfold bX1_exchanged_56B bX4_exchanged_65B bX1_exchanged_144 bX4_exchanged_121
    simp -implicitDefEqProofs only [Option.bind_some, bd_some, b2i_0, Bool.true_eq_false, Bool.false_eq_true, eq_self, if_true, if_false, not_true_eq_false, not_false_eq_true, gX_4 R2.hb, R.xh, xh_iv R2.XH, xh_size R2.XH, le, X_isSeatI R2.XH R.ok, seatI_n2 (show u < 2147483648 by omega), seatI_n2 (show v < 2147483648 by omega), decide_eq_true hu, decide_eq_true hv, Bool.true_and, xh_34 R2.XH, xh_kind R2.XH hu h64, xh_kind R2.XH hv h64, ivM, M_unl R.MH R.ok hu hv, ev]
    by_cases c1 : H.kind u = 0
    · have un : unl H u v = false := by unfold unl; rw [decide_eq_false (fun h => h c1), Bool.false_and]
      rw [un, decide_eq_false (fun h => h c1)]
      simp -implicitDefEqProofs only [Option.bind_some, bd_some, b2i_0, Bool.true_eq_false, Bool.false_eq_true, eq_self, if_true, if_false, not_true_eq_false, not_false_eq_true]
      exact skip
    · by_cases c2 : H.kind v = 0
      · have un : unl H u v = false := by unfold unl; rw [decide_eq_false (fun h : H.kind v ≠ 0 => h c2), Bool.false_and, Bool.and_false]
        rw [un, decide_eq_false (fun h : H.kind v ≠ 0 => h c2), decide_eq_true c1]
        simp -implicitDefEqProofs only [Option.bind_some, bd_some, b2i_0, Bool.true_eq_false, Bool.false_eq_true, eq_self, if_true, if_false, not_true_eq_false, not_false_eq_true]
        exact skip
      · by_cases c3 : H.kind u = H.kind v
        · have un : unl H u v = false := by unfold unl; rw [decide_eq_false (fun h : H.kind u ≠ H.kind v => h c3), Bool.and_false, Bool.and_false]
          have nx : (n2 (kindX (H.kind u)) = n2 (kindX (H.kind v))) = True := by rw [c3]; exact eq_true rfl
          rw [un, decide_eq_true c1, decide_eq_true c2]
          simp -implicitDefEqProofs only [Option.bind_some, bd_some, b2i_0, Bool.true_eq_false, Bool.false_eq_true, eq_self, if_true, if_false, not_true_eq_false, not_false_eq_true, nx]
          exact skip
        · have un : unl H u v = true := by unfold unl; rw [decide_eq_true c1, decide_eq_true c2, decide_eq_true c3]; rfl
          obtain ⟨b1, y, g, z, e1, e2, X1, E1, x1, z1, e3, e4, n1, n2', D, -⟩ := D_sw (b' := b') (n := n) (s := s) R E hN X hu hv c1 c2 p hi
          have hb1 : 131 ≤ mNx b1 := Nat.le_trans R.hb E1.1
          obtain ⟨b2, f1, f2, f3, f4, f5⟩ := X_swap (x := x.setN false y) X1 (show u < 64 by omega) (show v < 64 by omega) (Or.inl ⟨hu, hv⟩)
          rw [sw_sw] at f5
          have E2 : Ext b0 b2 := ⟨by rw [f2]; exact E1.1, fun a ha hd => (E1.2 a ha hd).trans (f4 a (by omega) hd)⟩
          have MH2 : MHouse (swS (swS m.s u v) u v) H := by
            have k1 : (H.sw u v).kind u ≠ 0 := by
              rw [sw_kind]
              by_cases e : u = v
              · simp -implicitDefEqProofs only [if_pos e]; exact c1
              · simp -implicitDefEqProofs only [if_neg e, if_pos]; exact c2
            have k2 : (H.sw u v).kind v ≠ 0 := by rw [sw_kind]; simp -implicitDefEqProofs only [if_pos]; exact c1
            have := (R.MH.sw hu hv h64 c1 c2).sw (u := u) (v := v) hu hv h64 k1 k2
            rw [sw_sw] at this; exact this
          have MC2 : MCues (swS (swS m.s u v) u v) C := (R.MC.sw (by omega) (by omega)).sw (by omega) (by omega)
          have D2 := D.ss MH2 MC2
          have e5 : fX4_change (some 106) (n2 u) (n2 v) (mkM b' n s ((m.lay g z).ss (swS m.s u v))) = some ((), mkM b' n s ((m.lay g z).ss (swS (swS m.s u v) u v))) := by
            rw [M_change (by omega) (by omega), ss_s, ss_ss]
          have ca : fX1_isCarried (some 64) (some N) p (mkX b1 x) = some (b2i (decide (n2 H.carry ≤ hgtS (H.sw u v) C p hi 61)), mkX b1 (x.setN false y)) := by
            have := X_isCarried (C := C) hb1 X1 (p := p) (y := y) (x := x) (by rw [hh]; exact e2)
            rw [hh] at this; exact this
          have pp1 : ((m.ss (swS m.s u v))).seatsPaid = p := by rw [ss_paid]; exact R.paid.symm.trans hp
          have pp2 : ((m.ss (swS m.s u v))).seatsHiss = hi := by rw [ss_hiss]; exact R.hiss.symm.trans hh
          have nx : (n2 (kindX (H.kind u)) = n2 (kindX (H.kind v))) = False := by rw [kindX_inj (R.ok.kind u) (R.ok.kind v) c1 c2]; exact eq_false c3
          have n2'' : ((m.lay g z).ss (swS (swS m.s u v) u v)).n.nightCarries = b2i (decide (n2 H.carry ≤ hgtS (H.sw u v) C p hi 61)) := by rw [ss_n, lay_n]; exact n2'
          rw [un, decide_eq_true c1, decide_eq_true c2]
          simp -implicitDefEqProofs only [Option.bind_some, bd_some, b2i_0, Bool.true_eq_false, Bool.false_eq_true, eq_self, if_true, if_false, not_true_eq_false, not_false_eq_true, nx, xh_iv X, e1, gX_5 hb1, hp, ivX hb1, ca, xh_iv X1, f1, e3, gM_71, gM_72, pp1, pp2, ivM, e4, e5, gM_100, n2'']
          by_cases hc : n2 H.carry ≤ hgtS (H.sw u v) C p hi 61
          · rw [decide_eq_true hc]
            simp -implicitDefEqProofs only [Option.bind_some, bd_some, b2i_0, Bool.true_eq_false, Bool.false_eq_true, eq_self, if_true, if_false, not_true_eq_false, not_false_eq_true]
            exact Or.inl ⟨_, _, _, _, rfl, rfl, D2, E1, by rw [x1, hNX], by rw [z1, hNS]⟩
          · rw [decide_eq_false hc]
            simp -implicitDefEqProofs only [Option.bind_some, bd_some, b2i_0, Bool.true_eq_false, Bool.false_eq_true, eq_self, if_true, if_false, not_true_eq_false, not_false_eq_true]
            exact ih F F' (v + 1) b2 (x.setN false y) ((m.lay g z).ss (swS (swS m.s u v) u v)) (by omega) (by omega) (by omega) D2 E2 f5 (by rw [f2, x1, hNX]) (by rw [f3, z1, hNS]) hp hh
theorem L_exo {p hi : Int64} {NX NS : Nat} (hN : mNx b0 ≤ N) : ∀ (k F F' u : Nat) (b : Mem) (x : XS) (m : MS), u + k = H.size → k < F → k < F' → Duo b0 x m H C h c K → Ext b0 b → XHouse b N H → mNx b = NX → mNs b = NS → x.paid = p → x.hiss = hi →
    ∃ r b2 x' m', bX1_exchanged_41 F (some 64) (some N) (n2 u) (mkX b x) = some (r, mkX b2 x') ∧ bX4_exchanged_56 F' (some 106) (n2 H.size) (n2 u) (mkM b' n s m) = some (r, mkM b' n s m') ∧ Duo b0 x' m' H C h c K ∧ Ext b0 b2 ∧ mNx b2 = NX ∧ mNs b2 = NS := by
  intro k
  induction k with
  | zero =>
    intro F F' u b x m hk hF hF' R E X hNX hNS hp hh
    obtain ⟨F, rfl⟩ : ∃ g, F = g + 1 := ⟨F - 1, by omega⟩
    obtain ⟨F', rfl⟩ : ∃ g, F' = g + 1 := ⟨F' - 1, by omega⟩
    have e : u = H.size := by omega
    subst e
    have R2 := R.ext E
    refine ⟨-1, b, x, m, ?_, ?_, R, E, hNX, hNS⟩
    · show bX1_exchanged_41B _ _ _ _ _ = _
      unfold bX1_exchanged_41B
      simp -implicitDefEqProofs only [Option.bind_some, bd_some, b2i_0, Bool.true_eq_false, Bool.false_eq_true, eq_self, if_true, if_false, not_true_eq_false, not_false_eq_true, gX_4 R2.hb, R.xh, xh_iv R2.XH, xh_size R2.XH, show (n2 H.size ≤ n2 H.size) = True from eq_true (Int32.le_refl _)]
    · show bX4_exchanged_56B _ _ _ _ _ = _
      unfold bX4_exchanged_56B
      simp -implicitDefEqProofs only [Option.bind_some, bd_some, b2i_0, Bool.true_eq_false, Bool.false_eq_true, eq_self, if_true, if_false, not_true_eq_false, not_false_eq_true, show (n2 H.size ≤ n2 H.size) = True from eq_true (Int32.le_refl _)]
  | succ k ih =>
    intro F F' u b x m hk hF hF' R E X hNX hNS hp hh
    obtain ⟨F, rfl⟩ : ∃ g, F = g + 1 := ⟨F - 1, by omega⟩
    obtain ⟨F', rfl⟩ : ∃ g, F' = g + 1 := ⟨F' - 1, by omega⟩
    have h64 := R.ok.size
    have hFu : 100 < hcFuel := by unfold hcFuel; omega
    have R2 := R.ext E
    have le : (n2 H.size ≤ n2 u) = False := by rw [n2_le (by omega) (by omega)]; exact eq_false (by omega)
    have eu : n2 u + 1 = n2 (u + 1) := n2_add u 1
    show ∃ r b2 x' m', bX1_exchanged_41B (bX1_exchanged_41 F) _ _ _ _ = _ ∧ bX4_exchanged_56B (bX4_exchanged_56 F') _ _ _ _ = _ ∧ _
    unfold bX1_exchanged_41B bX4_exchanged_56B
    generalize hcFuel = fu at hFu ⊢
    have L := L_exi (b' := b') (n := n) (s := s) (kX := bX1_exchanged_41 F) (kM := bX4_exchanged_56 F') hN (show u < H.size by omega) (H.size - (u + 1)) fu fu (u + 1) b x m (by omega) (by omega) (by omega) R E X hNX hNS hp hh
    simp -implicitDefEqProofs only [Option.bind_some, bd_some, b2i_0, Bool.true_eq_false, Bool.false_eq_true, eq_self, if_true, if_false, not_true_eq_false, not_false_eq_true, gX_4 R2.hb, R.xh, xh_iv R2.XH, xh_size R2.XH, le, eu]
    rcases L with ⟨r, b2, x', m', l1, l2, l3, l4, l5, l6⟩ | ⟨b2, x', m', l1, l2, l3, l4, l5, l6, l7, l8, l9⟩
    · exact ⟨r, b2, x', m', l1, l2, l3, l4, l5, l6⟩
    · obtain ⟨r, b3, x3, m3, q1, q2, q3⟩ := ih F F' (u + 1) b2 x' m' (by omega) (by omega) (by omega) l3 l4 l5 l6 l7 l8 l9
      exact ⟨r, b3, x3, m3, l1.trans q1, l2.trans q2, q3⟩
theorem C_exchanged (R : Duo b x m H C h c K) : ∃ r b2 x' m', fX1_exchanged (some 64) (mkX b x) = some (r, mkX b2 x') ∧ fX4_exchanged (some 106) (mkM b' n s m) = some (r, mkM b' n s m') ∧ Duo b2 x' m' H C h c K ∧ Ans b b2 := by
  have T := R.th (v := 0)
  have h64 := R.ok.size
  have hsl := seats_le H
  have r0 : ∀ q : MS, MHouse q.s H → aI (mkM b' n s q) (some 108) (0 : Int32) = some (n2 H.rows) := fun q hq => (rd_s' (k := 0) (by decide)).trans (congrArg some hq.rows)
  have r1 : ∀ q : MS, MHouse q.s H → aI (mkM b' n s q) (some 108) (1 : Int32) = some (n2 H.cols) := fun q hq => (rd_s' (k := 1) (by decide)).trans (congrArg some hq.cols)
  have r2 : ∀ q : MS, MHouse q.s H → aI (mkM b' n s q) (some 108) (2 : Int32) = some (n2 H.seats) := fun q hq => (rd_s' (k := 2) (by decide)).trans (congrArg some hq.seats)
  have sz : n2 H.rows * n2 H.cols = n2 H.size := n2_mul _ _
  have hFu : 100 < hcFuel := by unfold hcFuel; omega
  unfold fX1_exchanged fX4_exchanged
  generalize hcFuel = fu at hFu ⊢
  obtain ⟨y, g, z, e1, e2, D, q1, q2, -⟩ := D_height (b' := b') (n := n) (s := s) T x.paid x.hiss
  have p1 : (m.th 0).seatsPaid = x.paid := T.paid.symm
  have p2 : (m.th 0).seatsHiss = x.hiss := T.hiss.symm
  have ca := X_isCarried (C := C) R.hb R.XH e1
  have q2' : ((m.th 0).lay g z).n.nightCarries = b2i (decide (n2 H.carry ≤ hgtS H C x.paid x.hiss 61)) := by rw [lay_n]; exact q2
  simp -implicitDefEqProofs only [Option.bind_some, bd_some, b2i_0, Bool.true_eq_false, Bool.false_eq_true, eq_self, if_true, if_false, not_true_eq_false, not_false_eq_true, pM_55', gX_4 R.hb, R.xh, xh_iv R.XH, X_seats R.XH R.ok, gX_5 R.hb, ivX R.hb, ca, gM_61, r2 _ T.MH, gM_71, gM_72, p1, p2, ivM, e2, gM_100, q2', setN_house, r0 _ D.MH, r1 _ D.MH, sz]
  by_cases hc : H.seats ≤ 24
  · have l1 : ((24 : Int32) < n2 H.seats) = False := by rw [li_24, n2_lt (by omega) (by omega)]; exact eq_false (by omega)
    have l2 : (n2 H.seats ≤ (24 : Int32)) = True := by rw [li_24, n2_le (by omega) (by omega)]; exact eq_true (by omega)
    simp -implicitDefEqProofs only [Option.bind_some, bd_some, b2i_0, Bool.true_eq_false, Bool.false_eq_true, eq_self, if_true, if_false, not_true_eq_false, not_false_eq_true, l1, l2]
    by_cases hcc : n2 H.carry ≤ hgtS H C x.paid x.hiss 61
    · rw [decide_eq_true hcc]; simp -implicitDefEqProofs only [Option.bind_some, bd_some, b2i_0, Bool.true_eq_false, Bool.false_eq_true, eq_self, if_true, if_false, not_true_eq_false, not_false_eq_true]
      exact ⟨_, b, _, _, rfl, rfl, D, Ans.refl b⟩
    · rw [decide_eq_false hcc]
      obtain ⟨b2, f1, X2, E, x2, z2⟩ := X_exchd (x := x.setN false y) (u := 0) (v := 0) R.hb R.XH R.ok (by decide) (by decide) (Or.inr rfl)
      rw [sw_self] at X2
      have f1' : fX2_exchanged (some h) (0 : Int32) (0 : Int32) (mkX b (x.setN false y)) = some (some (mNx b), mkX b2 (x.setN false y)) := f1
      simp -implicitDefEqProofs only [Option.bind_some, bd_some, b2i_0, Bool.true_eq_false, Bool.false_eq_true, eq_self, if_true, if_false, not_true_eq_false, not_false_eq_true, f1']
      obtain ⟨r, b3, x3, m3, g1, g2, g3, g4, g5, g6⟩ := L_exo (b' := b') (n := n) (s := s) (Nat.le_refl _) H.size fu fu 0 b2 (x.setN false y) ((m.th 0).lay g z) (by omega) (by omega) (by omega) D E X2 rfl rfl rfl rfl
      exact ⟨r, b3, x3, m3, g1, g2, g3.ext g4, ⟨by omega, by omega, by omega, by omega⟩⟩
  · have l1 : ((24 : Int32) < n2 H.seats) = True := by rw [li_24, n2_lt (by omega) (by omega)]; exact eq_true (by omega)
    have l2 : (n2 H.seats ≤ (24 : Int32)) = False := by rw [li_24, n2_le (by omega) (by omega)]; exact eq_false (by omega)
    simp -implicitDefEqProofs only [Option.bind_some, bd_some, b2i_0, Bool.true_eq_false, Bool.false_eq_true, eq_self, if_true, if_false, not_true_eq_false, not_false_eq_true, l1, l2]
    exact ⟨_, b, _, _, rfl, rfl, T, Ans.refl b⟩
end ExchC
