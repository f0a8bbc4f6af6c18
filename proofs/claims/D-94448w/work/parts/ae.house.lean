set_option linter.unusedVariables false
set_option linter.unusedSimpArgs false
set_option maxRecDepth 100000
/-! ===== the command house ===== -/
def XS.sFa (x : XS) (v : Int32) : XS := (XS.mk (x.taped) (v) (x.bought) (x.worthMany) (x.beganFirst) (x.beganSecond) (x.seed) (x.arranged) (x.paid) (x.hiss) (x.orders) (x.house) (x.cues) (x.tape) (x.states) (x.asked) (x.carriesSet) (x.heights) (x.worth) (x.mouths) (x.sided) (x.keptHouse) (x.keptPaid) (x.keptHiss) (x.kMod) (x.kData) (x.kSize) (x.out) (x.n0) (x.n1))
def XS.sCu (x : XS) (v : Rf) : XS := (XS.mk (x.taped) (x.fault) (x.bought) (x.worthMany) (x.beganFirst) (x.beganSecond) (x.seed) (x.arranged) (x.paid) (x.hiss) (x.orders) (x.house) (v) (x.tape) (x.states) (x.asked) (x.carriesSet) (x.heights) (x.worth) (x.mouths) (x.sided) (x.keptHouse) (x.keptPaid) (x.keptHiss) (x.kMod) (x.kData) (x.kSize) (x.out) (x.n0) (x.n1))
def XS.sPd (x : XS) (v : Int64) : XS := (XS.mk (x.taped) (x.fault) (x.bought) (x.worthMany) (x.beganFirst) (x.beganSecond) (x.seed) (x.arranged) (v) (x.hiss) (x.orders) (x.house) (x.cues) (x.tape) (x.states) (x.asked) (x.carriesSet) (x.heights) (x.worth) (x.mouths) (x.sided) (x.keptHouse) (x.keptPaid) (x.keptHiss) (x.kMod) (x.kData) (x.kSize) (x.out) (x.n0) (x.n1))
def XS.sHi (x : XS) (v : Int64) : XS := (XS.mk (x.taped) (x.fault) (x.bought) (x.worthMany) (x.beganFirst) (x.beganSecond) (x.seed) (x.arranged) (x.paid) (v) (x.orders) (x.house) (x.cues) (x.tape) (x.states) (x.asked) (x.carriesSet) (x.heights) (x.worth) (x.mouths) (x.sided) (x.keptHouse) (x.keptPaid) (x.keptHiss) (x.kMod) (x.kData) (x.kSize) (x.out) (x.n0) (x.n1))
def XS.sP0 (x : XS) : XS := (x.sPd 0).sHi 0
theorem bd_inv {α : Type} {A : Option (Unit × Mem)} {k : α} {S : Mem} (h : (bd A fun _ st => some (k, st)) = some (k, S)) : A = some ((), S) := by
  cases A with
  | none => exact absurd h (by intro e; cases e)
  | some a =>
    obtain ⟨u, sa⟩ := a
    have h' : some (k, sa) = some (k, S) := h
    cases h'
    rfl
section HouseOf
variable {B : Mem} {c : Cl} {T : List Cl} {z : Nat} {f : Nat → Int32} {H : HS} {ln : Nat}
theorem t_ce {i : Nat} (hi : i < T.length) : Ce (ovs B (c :: T) z) (mNx B + 1 + i) (clD T i) := by
  have := ov_ce (B := B) (z := z) (tc_len (c := c) hi)
  rw [tc_at] at this
  rw [Nat.add_assoc]; exact this
theorem HT.house (X : HT (mNx B) T f H ln) (hB : 131 ≤ mNx B) : XHouse (ovs B (c :: T) z) (mNx B + 1) (H.wAr (fun a v => (clD T (8 + a)).j v)) := by
  have len := X.len
  have ce : ∀ i, i < 14 → Ce (ovs B (c :: T) z) (mNx B + 1 + i) (clD T i) := fun i hi => t_ce (by omega)
  have c0 : Ce (ovs B (c :: T) z) (mNx B + 1) (clD T 0) := ce 0 (by decide)
  have c1 := ce 1 (by decide)
  have c2 := ce 2 (by decide)
  have c3 := ce 3 (by decide)
  have c4 := ce 4 (by decide)
  have c5 := ce 5 (by decide)
  have c6 := ce 6 (by decide)
  have c7 := ce 7 (by decide)
  have c8 : ∀ a, a < 6 → Ce (ovs B (c :: T) z) (mNx B + 1 + 8 + a) (clD T (8 + a)) := fun a ha => by have := ce (8 + a) (by omega); rw [← Nat.add_assoc] at this; exact this
  obtain ⟨r1, r2, r3, r4, r5, r6, r7⟩ := X.sh.refs
  obtain ⟨g1, g2, g3, g4, g5, g6, g7⟩ := X.sh.tg
  obtain ⟨l1, l2, l3, l4, l5, l6, l7⟩ := X.sh.ls
  have ad : ∀ i, mNx B + (1 + i) = mNx B + 1 + i := fun i => (Nat.add_assoc _ _ _).symm
  refine ⟨Or.inr (by omega), by rw [ov_nx, List.length_cons]; omega, c0.1.trans X.t0, ?_, ?_, ?_, ?_, ?_, ?_, ?_, c1.1.trans g1, c2.1.trans g2, c3.1.trans g3, c4.1.trans g4, c5.1.trans g5, c6.1.trans g6, c7.1.trans g7, fun a ha => (c8 a ha).1.trans (X.sh.ars a ha).2.1, c1.2.1.trans l1, c2.2.1.trans l2, c3.2.1.trans l3, c4.2.1.trans l4, c5.2.1.trans l5, c6.2.1.trans l6, c7.2.1.trans l7, fun a ha => (c8 a ha).2.1.trans (X.sh.ars a ha).2.2, fun a ha => ?_, ?_, ?_, ?_, ?_, ?_, fun v hv => ?_, fun r hr => ?_, fun r hr => ?_, fun k hk hl => ?_, fun k cn o hk hl => ?_, fun k hk hl => ?_, fun k cn o hk hl => ?_, fun a v ha hv => ?_⟩
  · rw [c0.2.2.2.2, r1, ad]
  · rw [c0.2.2.2.2, r2, ad]
  · rw [c0.2.2.2.2, r3, ad]
  · rw [c0.2.2.2.2, r4, ad]
  · rw [c0.2.2.2.2, r5, ad]
  · rw [c0.2.2.2.2, r6, ad]
  · rw [c0.2.2.2.2, r7, ad]
  · rw [c7.2.2.2.2, (X.sh.ars a ha).1, ad, Nat.add_assoc (mNx B + 1) 8 a]
  · rw [c0.2.2.1]; exact X.rows
  · rw [c0.2.2.1]; exact X.cols
  · rw [c0.2.2.1]; exact X.carry
  · rw [c0.2.2.1]; exact X.paid
  · rw [c0.2.2.1]; exact X.byRows
  · rw [c1.2.2.1]; exact X.kind v hv
  · rw [c2.2.2.1]; exact X.price r hr
  · rw [c3.2.2.1]; exact X.leaves r hr
  · rw [c4.2.2.2.2]; exact X.up0 k hk hl
  · obtain ⟨q1, a, q2, q3⟩ := X.up k cn o hk hl
    exact ⟨by rw [c6.2.2.1]; exact q1, _, by rw [c4.2.2.2.2]; exact q2, q3.at hB⟩
  · rw [c5.2.2.2.2]; exact X.down0 k hk hl
  · obtain ⟨q1, a, q2, q3⟩ := X.down k cn o hk hl
    exact ⟨by rw [c6.2.2.1]; exact q1, _, by rw [c5.2.2.2.2]; exact q2, q3.at hB⟩
  · rw [(c8 a ha).2.2.2.1]; rfl
end HouseOf
/-- a house of which nothing is told -/
def H0 : HS := HS.mk 0 0 1 600 false (fun _ => 0) (fun _ => 10) (fun _ => 0) (fun _ _ => none) (fun _ _ => 0)
theorem H0_m {f : Nat → Int32} (hf : ∀ i, i < 590 → f i = plF i) : MHouse f H0 := by
  have e : ∀ i, i < 590 → f i = plF i := hf
  refine ⟨e 0 (by decide), e 1 (by decide), e 2 (by decide), e 3 (by decide), e 4 (by decide), e 5 (by decide), fun v hv => ?_, fun q hq => ?_, fun q hq => ?_, fun k w hk hw _ => ?_, fun k w c o _ _ hl => by cases hl⟩
  · rw [e _ (by omega)]
    unfold plF
    by_cases c3 : 6 + v = 3
    · omega
    · rw [if_neg (by omega), if_neg c3, if_neg (by omega)]
      show (0 : Int32) = n2 (if v < 0 * 0 then 0 else 0)
      rw [if_neg (by omega)]; rfl
  · rw [e _ (by omega)]; unfold plF; rw [if_pos (by omega)]; rfl
  · rw [e _ (by omega)]; unfold plF; rw [if_neg (by omega), if_neg (by omega), if_neg (by omega)]; rfl
  · rw [e _ (by omega)]; unfold plF; rw [if_neg (by omega), if_neg (by omega), if_neg (by omega)]
theorem H0_ok : H0.Ok := ⟨by decide, by decide, by decide, ⟨by decide, by decide⟩, by decide, fun _ => by show (0 : Nat) ≤ 6; decide, fun _ => by show (10 : Nat) ≤ 999; decide, fun _ => by show (0 : Nat) ≤ 601; decide, fun k w c o hl => by cases hl⟩
theorem H0_t {N : Nat} {T : List Cl} {f : Nat → Int32} (h : HB0 N T) (hf : ∀ i, i < 590 → f i = plF i) : HT N T f H0 0 := by
  obtain ⟨h1, h2, h3, h4, h5, h6, h7, h8, h9⟩ := h
  obtain ⟨i1, i2', i3, i4, i5, i6⟩ := h4
  refine ⟨⟨by omega, h2, h3, h5, h6, fun a ha => ?_⟩, i1, i2', i3, i4, i5, i6, fun v hv => ?_, fun r hr => (h8 r hr).1, fun r hr => (h8 r hr).2, fun k hk _ => (h9 k hk).1, fun k c o _ hl => (by cases hl), fun k hk _ => (h9 k hk).2, fun k c o _ hl => (by cases hl), H0_m hf, H0_ok⟩
  · obtain ⟨q1, q2, q3⟩ := h7 a ha
    refine ⟨?_, q2, q3⟩
    rw [q1]; congr 1; omega
  · have : v < 0 * 0 := hv
    omega
section HouseC
variable {b b' : Mem} {n s : Nat} {x : XS} {m : MS} {H : HS} {C : List Cu} {h c : Nat} {K : Nat → Option (HS × List Cu)}
theorem pX_3' (hb : 131 ≤ mNx b) {v : Int32} : pI (mkX b x) (some 64) 3 v = some (mkX b (x.sFa v)) := pX_3 hb
theorem pX_5' (hb : 131 ≤ mNx b) {v : Int64} : pJ (mkX b x) (some 64) 5 v = some (mkX b (x.sPd v)) := pX_5 hb
theorem pX_6' (hb : 131 ≤ mNx b) {v : Int64} : pJ (mkX b x) (some 64) 6 v = some (mkX b (x.sHi v)) := pX_6 hb
theorem pX_7' (hb : 131 ≤ mNx b) {v : Rf} : pA (mkX b x) (some 64) 7 v = some (mkX b (x.sCu v)) := pX_7 hb
theorem p_fa {r : MR} {h : MH} {w : Int32} : pI (mkM b' n s (m.sRH r h)) (some 106) 68 w = some (mkM b' n s (m.sRH (r.sF w r.faultAt) h)) := by
  rw [pM_68]; simp -implicitDefEqProofs only [gM_55, gM_57, gM_58, gM_59, gM_60, gM_64, gM_65, gM_66, gM_67, gM_68, gM_69, gM_70, gM_71, gM_72, gM_73, gM_74, gM_75, gM_76, gM_77, gM_81, gM_82, gM_83, gM_85, gM_86, gM_91, gM_92, gM_93, gM_94, gM_95, gM_96, gM_97, gM_98, gM_99, gM_100, gM_102, gM_103, gM_107, gM_108, gM_110, gM_111, gM_112, gM_113, gM_114, gM_115, gM_118, gM_119, gM_56, aM_107, nM_107, gM_61, aM_108, nM_108, gM_62, aM_109, nM_109, gM_63, aM_110, nM_110, gM_78, aM_111, nM_111, gM_79, aM_112, nM_112, gM_80, aM_113, nM_113, gM_84, aM_114, nM_114, gM_87, aM_115, nM_115, gM_88, aM_116, nM_116, gM_89, aM_117, nM_117, gM_90, aM_118, nM_118, gM_101, aM_119, nM_119, gM_104, aM_120, nM_120, gM_105, aM_121, nM_121, gM_106, aM_122, nM_122, gM_109, aM_123, nM_123, gM_116, aM_124, nM_124, gM_117, aM_125, nM_125, gM_120, aM_126, nM_126, gM_121, aM_127, nM_127, gM_122, aM_128, nM_128, gM_123, aM_129, nM_129, pM_55, pM_57, pM_58, pM_59, pM_60, pM_64, pM_65, pM_66, pM_67, pM_68, pM_69, pM_70, pM_71, pM_72, pM_73, pM_74, pM_75, pM_76, pM_77, pM_81, pM_82, pM_83, pM_85, pM_86, pM_91, pM_92, pM_93, pM_94, pM_95, pM_96, pM_97, pM_98, pM_99, pM_100, pM_102, pM_103, pM_107, pM_108, pM_110, pM_111, pM_112, pM_113, pM_114, pM_115, pM_118, pM_119, uM_107, uM_108, uM_109, uM_110, uM_111, uM_112, uM_113, uM_114, uM_115, uM_116, uM_117, uM_118, uM_119, uM_120, uM_121, uM_122, uM_123, uM_124, uM_125, uM_126, uM_127, uM_128, uM_129, ivM, Option.bind_some, bd_some, mk_MS_thrown, mk_MS_length, mk_MS_seatsPaid, mk_MS_seatsHiss, mk_MS_lays, mk_MS_arranged, mk_MS_tape, mk_MS_s, mk_MS_area, mk_MS_kept, mk_MS_keptPaid, mk_MS_keptHiss, mk_MS_isKept, mk_MS_r, mk_MS_h, mk_MS_n, mk_MS_c, mk_MR_size, mk_MR_p, mk_MR_limit, mk_MR_token, mk_MR_place, mk_MR_span, mk_MR_number, mk_MR_fault, mk_MR_faultAt, mk_MR_word, mk_MR_got, mk_MH_lines, mk_MH_prices, mk_MH_leavings, mk_MH_onces, mk_MH_codeMany, mk_MH_pileMany, mk_MH_ones, mk_MH_coming, mk_MH_hh, mk_MH_newCues, mk_MH_code, mk_MH_pile, mk_MN_paidNow, mk_MN_hissNow, mk_MN_clapping, mk_MN_standing, mk_MN_low, mk_MN_high, mk_MN_gone, mk_MN_cueNext, mk_MN_nightHeight, mk_MN_nightCarries, mk_MN_held, mk_MN_claps, mk_MN_stand, mk_MN_heldLow, mk_MN_heldHigh, mk_MC_askedMany, mk_MC_bought, mk_MC_worthMany, mk_MC_allOrders, mk_MC_hasSides, mk_MC_seenClaps, mk_MC_seenStand, mk_MC_seenAll, mk_MC_beganA, mk_MC_beganB, mk_MC_seed, mk_MC_asked, mk_MC_carried, mk_MC_heights, mk_MC_worths, mk_MC_side, mk_MC_otherClaps, mk_MC_otherStand, mk_NT_paid, mk_NT_hiss, mk_NT_c1, mk_NT_c2, mk_NT_lo, mk_NT_hi, mk_NT_next, mk_Ac_a1, mk_Ac_a2, mk_Ac_l, mk_Ac_h, MS.sRH, MS.sR, MS.sH2, MR.sF]
/-- after a reading: faults alike, the tape empty -/
theorem duo_rd {r : MR} {g : MH} {w : Int32} (R : Duo b x m H C h c K) : Duo b (x.tp0.sFa r.fault) (((m.th 0).tk w).sRH r g) H C h c K := ⟨R.hb, R.fz, R.ok, R.ar, R.XH, R.xh, R.XC, R.xc, R.MH, R.MC, R.lays, R.l01, R.tape, ⟨0, by decide, rfl, rfl⟩, rfl, R.paid, R.hiss, R.bought, R.worth, R.sided, R.b1, R.b2, R.arranged, R.kept, R.keptC⟩
/-- and a new house, no cues -/
theorem duo_rst {st : Mem} {S : Nat → Int32} {N cN : Nat} {H' : HS} (R : Duo b x m H C h c K) (E : Ext b st) (X : XHouse st N H') (ok : H'.Ok) (ar : H'.ArOk) (XC : XCues st cN []) (MH : MHouse S H') (MC : MCues S []) : Duo st (x.rst (some N) (some cN) 0 0) (m.rst S 0 0) H' [] N cN K := by
  have R2 := R.ext E
  exact ⟨R2.hb, R2.fz, ok, ar, X, rfl, XC, rfl, MH, MC, fun q => absurd (show (1 : Int32) = 0 from q) (by decide), Or.inr rfl, R2.tape, R2.len, R2.fault, rfl, rfl, R2.bought, R2.worth, R2.sided, R2.b1, R2.b2, R2.arranged, R2.kept, R2.keptC⟩
theorem rst_eq (x : XS) (h c : Rf) : ((x.hs h).sP0).sCu c = x.rst h c 0 0 := by simp -implicitDefEqProofs only [XS.hs, XS.sP0, XS.sPd, XS.sHi, XS.sCu, XS.rst, mk_XS_taped, mk_XS_fault, mk_XS_bought, mk_XS_worthMany, mk_XS_beganFirst, mk_XS_beganSecond, mk_XS_seed, mk_XS_arranged, mk_XS_paid, mk_XS_hiss, mk_XS_orders, mk_XS_house, mk_XS_cues, mk_XS_tape, mk_XS_states, mk_XS_asked, mk_XS_carriesSet, mk_XS_heights, mk_XS_worth, mk_XS_mouths, mk_XS_sided, mk_XS_keptHouse, mk_XS_keptPaid, mk_XS_keptHiss, mk_XS_kMod, mk_XS_kData, mk_XS_kSize, mk_XS_out, mk_XS_n0, mk_XS_n1]
theorem duo_nw {st : Mem} {r : MR} {g : MH} {w : Int32} {S : Nat → Int32} {N cN : Nat} {H' : HS} (R : Duo b x m H C h c K) (E : Ext b st) (X : XHouse st N H') (ok : H'.Ok) (ar : H'.ArOk) (XC : XCues st cN []) (MH : MHouse S H') (MC : MCues S []) (hf : r.fault = 0) : Duo st ((((x.tp0.sFa 0).hs (some N)).sP0).sCu (some cN)) ((((m.th 0).tk w).sRH r g).rst S 0 0) H' [] N cN K := by
  have R1 := duo_rd (r := r) (g := g) (w := w) R
  rw [hf] at R1
  rw [rst_eq]
  exact duo_rst R1 E X ok ar XC MH MC
end HouseC
/-- an empty list -/
def lsC : Cl := Cl.mk 18 0 (fun _ => 0) (fun _ => 0) (upq (fun _ => none) 153 (some 52))
theorem X_newL {B : Mem} (hB : 64 ≤ mNx B) : ∃ d, (bd (nO B 18) fun x st => bd (nn x (fJ3_init x st)) fun _ st => some (x, st)) = some (some (mNx B), ovs B [d] 3) ∧ d.t = 18 ∧ d.i 154 = 0 ∧ d.a 153 = some 52 := by
  have e0 : (bd (nO B 18) fun x st => bd (nn x (fJ3_init x st)) fun _ st => some (x, st)) = (bd (nO (ovs B [] 0) 18) fun x st => bd (nn x (fJ3_init x st)) fun _ st => some (x, st)) := by rw [ov_nil]
  rw [e0]
  unfold fJ3_init fJ2_init fJ1_init
  simp -implicitDefEqProofs (disch := first | with_unfolding_all exact id rfl | decide) only [bd_some, Option.bind_some, nn_some, o_nO, o_pI hB, o_pA hB, List.nil_append, List.cons_append, List.length_cons, List.length_nil, Nat.reduceAdd, clS, clD, Cl.nw, Cl.sI, Cl.sA, mk_Cl_t, mk_Cl_l, mk_Cl_i, mk_Cl_j, mk_Cl_a, nsl_18]
  exact ⟨_, rfl, rfl, rfl, rfl⟩
