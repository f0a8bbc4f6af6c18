set_option linter.unusedVariables false
set_option linter.unusedSimpArgs false
set_option maxRecDepth 100000
/-! ===== commands: parts ===== -/
def diffS (H : HS) (C : List Cu) (p p' hi : Int64) (t : Nat) : Bool := decide (¬ ((nightS H C p hi t).c1 = (nightS H C p' hi t).c1 ∧ (nightS H C p hi t).c2 = (nightS H C p' hi t).c2))
def MS.oc (m : MS) (f g : Nat → Int64) : MS := (MS.mk (m.thrown) (m.length) (m.seatsPaid) (m.seatsHiss) (m.lays) (m.arranged) (m.tape) (m.s) (m.area) (m.kept) (m.keptPaid) (m.keptHiss) (m.isKept) (m.r) (m.h) (m.n) ((MC.mk (m.c.askedMany) (m.c.bought) (m.c.worthMany) (m.c.allOrders) (m.c.hasSides) (m.c.seenClaps) (m.c.seenStand) (m.c.seenAll) (m.c.beganA) (m.c.beganB) (m.c.seed) (m.c.asked) (m.c.carried) (m.c.heights) (m.c.worths) (m.c.side) (f) (g))))
theorem setN_two (x : XS) (y z y3 z3 : NX) : (((x.setN false y).setN true z).setN false y3).setN true z3 = (x.setN false y3).setN true z3 := by
  simp -implicitDefEqProofs only [XS.setN, mk_XS_taped, mk_XS_fault, mk_XS_bought, mk_XS_worthMany, mk_XS_beganFirst, mk_XS_beganSecond, mk_XS_seed, mk_XS_arranged, mk_XS_paid, mk_XS_hiss, mk_XS_orders, mk_XS_house, mk_XS_cues, mk_XS_tape, mk_XS_states, mk_XS_asked, mk_XS_carriesSet, mk_XS_heights, mk_XS_worth, mk_XS_mouths, mk_XS_sided, mk_XS_keptHouse, mk_XS_keptPaid, mk_XS_keptHiss, mk_XS_kMod, mk_XS_kData, mk_XS_kSize, mk_XS_out, mk_XS_n0, mk_XS_n1]
section CmdG
variable {b b' : Mem} {n s : Nat} {x : XS} {m : MS} {H : HS} {C : List Cu} {h c : Nat} {K : Nat → Option (HS × List Cu)} {p p' hi : Int64}
theorem Duo.oc {f g : Nat → Int64} (R : Duo b x m H C h c K) : Duo b x (m.oc f g) H C h c K := ⟨R.hb, R.fz, R.ok, R.ar, R.XH, R.xh, R.XC, R.xc, R.MH, R.MC, R.lays, R.l01, R.tape, R.len, R.fault, R.paid, R.hiss, R.bought, R.worth, R.sided, R.b1, R.b2, R.arranged, R.kept, R.keptC⟩
theorem X_parts74 {kk : Rf → Rf → Rf → Mem → Option (Int32 × Mem)} {t : Nat} (hb : 131 ≤ mNx b) (X : XHouse b h H) (ok : H.Ok) (xh : x.house = some h) (I : XNt (x.n false) h c H (nightS H C p hi t) t) (J : XNt (x.n true) h c H (nightS H C p' hi t) t) : ∀ (k f s : Nat), s + k = H.size → k < f → (∀ u, u < s → lvOf (nightS H C p hi t).c1 (nightS H C p hi t).c2 u = lvOf (nightS H C p' hi t).c1 (nightS H C p' hi t).c2 u) →
    bX1_parts_74 kk f (some 64) (some (nid false)) (some (nid true)) (n2 s) (mkX b x) = if diffS H C p p' hi t = true then some (n2 t, mkX b x) else if n2 t = (60 : Int32) then some (-1, mkX b x) else bd (fX3_step (some (nid false)) (mkX b x)) fun _ st => bd (iv st (some (nid true)) [3] (fX3_step (some (nid true)) st)) fun _ st => kk (some 64) (some (nid false)) (some (nid true)) st := by
  have h64 := ok.size
  intro k
  induction k with
  | zero =>
    intro f s hk hf hu
    obtain ⟨f, rfl⟩ : ∃ g, f = g + 1 := ⟨f - 1, by omega⟩
    have e : s = H.size := by omega
    subst e
    have d : diffS H C p p' hi t = false := decide_eq_false (fun hc => hc (lv_inj h64 t hu))
    show bX1_parts_74B kk _ _ _ _ _ _ = _
    unfold bX1_parts_74B
    simp -implicitDefEqProofs only [Option.bind_some, bd_some, b2i_0, Bool.true_eq_false, Bool.false_eq_true, eq_self, if_true, if_false, not_true_eq_false, not_false_eq_true, gX_4 hb, xh, xh_iv X, xh_size X, show (n2 H.size ≤ n2 H.size) = True from eq_true (Int32.le_refl _), gN_44 hb, I.now, ivN hb, d]
    by_cases h60 : n2 t = 60
    · simp -implicitDefEqProofs only [Option.bind_some, bd_some, b2i_0, Bool.true_eq_false, Bool.false_eq_true, eq_self, if_true, if_false, not_true_eq_false, not_false_eq_true, h60]
    · simp -implicitDefEqProofs only [Option.bind_some, bd_some, b2i_0, Bool.true_eq_false, Bool.false_eq_true, eq_self, if_true, if_false, not_true_eq_false, not_false_eq_true, h60]
  | succ k ih =>
    intro f s hk hf hu
    obtain ⟨f, rfl⟩ : ∃ g, f = g + 1 := ⟨f - 1, by omega⟩
    have hs : s < H.size := by omega
    have s64 : s < 64 := by omega
    have le : (n2 H.size ≤ n2 s) = False := by rw [n2_le (by omega) (by omega)]; exact eq_false (by omega)
    have aL := aN_level (x := x) (q := false) (i := n2 s) hb
    have aM := aN_level (x := x) (q := true) (i := n2 s) hb
    rw [ifx_k s64 (by omega), n2_nat (by omega), I.level s hs] at aL
    rw [ifx_k s64 (by omega), n2_nat (by omega), J.level s hs] at aM
    have l1 := lvOf_le (nightS H C p hi t).c1 (nightS H C p hi t).c2 s
    have l2 := lvOf_le (nightS H C p' hi t).c1 (nightS H C p' hi t).c2 s
    have eq : (n2 (lvOf (nightS H C p hi t).c1 (nightS H C p hi t).c2 s) = n2 (lvOf (nightS H C p' hi t).c1 (nightS H C p' hi t).c2 s)) = (lvOf (nightS H C p hi t).c1 (nightS H C p hi t).c2 s = lvOf (nightS H C p' hi t).c1 (nightS H C p' hi t).c2 s) := n2_eq (by omega) (by omega)
    show bX1_parts_74B kk (bX1_parts_74 kk f) _ _ _ _ _ = _
    unfold bX1_parts_74B
    simp -implicitDefEqProofs only [Option.bind_some, bd_some, b2i_0, Bool.true_eq_false, Bool.false_eq_true, eq_self, if_true, if_false, not_true_eq_false, not_false_eq_true, gX_4 hb, xh, xh_iv X, xh_size X, le, gN_49 hb, aL, aM, gN_44 hb, I.now, eq, show n2 s + 1 = n2 (s + 1) from n2_add s 1]
    by_cases hc : lvOf (nightS H C p hi t).c1 (nightS H C p hi t).c2 s = lvOf (nightS H C p' hi t).c1 (nightS H C p' hi t).c2 s
    · rw [if_pos hc]
      exact ih f (s + 1) (by omega) (by omega) (fun u h2 => by
        by_cases e : u = s
        · rw [e]; exact hc
        · exact hu u (by omega))
    · have d : diffS H C p p' hi t = true := decide_eq_true (fun hd => hc (by rw [hd.1, hd.2]))
      rw [if_neg hc, d, if_pos rfl]
theorem X_parts_ (hb : 131 ≤ mNx b) (X : XHouse b h H) (ok : H.Ok) (XC : XCues b c C) : ∀ (k f t : Nat) (x : XS), t + k = 60 → k < f → x.house = some h → XNt (x.n false) h c H (nightS H C p hi t) t → XNt (x.n true) h c H (nightS H C p' hi t) t →
    ∃ y z, bX1_parts_71 f (some 64) (some (nid false)) (some (nid true)) (mkX b x) = some (firstS (diffS H C p p' hi) k t, mkX b ((x.setN false y).setN true z)) := by
  have h64 := ok.size
  intro k
  induction k with
  | zero =>
    intro f t x hk hf xh I J
    obtain ⟨f, rfl⟩ : ∃ g, f = g + 1 := ⟨f - 1, by omega⟩
    have e : t = 60 := by omega
    subst e
    refine ⟨x.n false, x.n true, ?_⟩
    have E := X_parts74 (kk := bX1_parts_71 f) hb X ok xh I J H.size hcFuel 0 (by omega) (by unfold hcFuel; omega) (fun u hu => absurd hu (Nat.not_lt_zero u))
    show bX1_parts_74 (bX1_parts_71 f) hcFuel _ _ _ _ _ = _
    refine E.trans ?_
    have e1 : (x.setN false (x.n false)).setN true (x.n true) = x := by rw [setN_self]; exact setN_self x true
    rw [e1]
    unfold firstS
    rcases Bool.eq_false_or_eq_true (diffS H C p p' hi 60) with d | d
    · simp -implicitDefEqProofs only [Option.bind_some, bd_some, b2i_0, Bool.true_eq_false, Bool.false_eq_true, eq_self, if_true, if_false, not_true_eq_false, not_false_eq_true, d]
    · simp -implicitDefEqProofs only [Option.bind_some, bd_some, b2i_0, Bool.true_eq_false, Bool.false_eq_true, eq_self, if_true, if_false, not_true_eq_false, not_false_eq_true, d, show (n2 60 = (60 : Int32)) = True from eq_true rfl]
  | succ k ih =>
    intro f t x hk hf xh I J
    obtain ⟨f, rfl⟩ : ∃ g, f = g + 1 := ⟨f - 1, by omega⟩
    have E := X_parts74 (kk := bX1_parts_71 f) hb X ok xh I J H.size hcFuel 0 (by omega) (by unfold hcFuel; omega) (fun u hu => absurd hu (Nat.not_lt_zero u))
    obtain ⟨y, e1, I2⟩ := X_nstep hb X ok XC (by omega) I
    obtain ⟨z, e2, J2⟩ := X_nstep hb (x := x.setN false y) (q := true) X ok XC (by omega) J
    obtain ⟨y3, z3, e3⟩ := ih f (t + 1) ((x.setN false y).setN true z) (by omega) (by omega) xh I2 J2
    rw [setN_two] at e3
    have n60 : (n2 t = (60 : Int32)) = False := by rw [li_60, n2_eq (by omega) (by omega)]; exact eq_false (by omega)
    have ex : (x.setN false (x.n false)).setN true (x.n true) = x := by rw [setN_self]; exact setN_self x true
    show ∃ y z, bX1_parts_74 (bX1_parts_71 f) hcFuel _ _ _ _ _ = _
    unfold firstS
    rcases Bool.eq_false_or_eq_true (diffS H C p p' hi t) with d | d
    · refine ⟨x.n false, x.n true, E.trans ?_⟩
      simp -implicitDefEqProofs only [Option.bind_some, bd_some, b2i_0, Bool.true_eq_false, Bool.false_eq_true, eq_self, if_true, if_false, not_true_eq_false, not_false_eq_true, d, ex]
    · refine ⟨y3, z3, E.trans ?_⟩
      simp -implicitDefEqProofs only [Option.bind_some, bd_some, b2i_0, Bool.true_eq_false, Bool.false_eq_true, eq_self, if_true, if_false, not_true_eq_false, not_false_eq_true, d, n60, e1, ivN hb, e2, e3]
theorem M_parts37 {v : Int32} : ∀ (k f t : Nat) (m : MS), t + k = 61 → k < f → (∀ u, u < t → m.c.otherClaps u = m.n.claps u ∧ m.c.otherStand u = m.n.stand u) →
    ∃ F G, bX4_parts_37 f (some 106) v (n2 t) (mkM b' n s m) = bX4_parts_37 1 (some 106) v (n2 61) (mkM b' n s (m.oc F G)) ∧ ∀ u, u < 61 → F u = m.n.claps u ∧ G u = m.n.stand u := by
  intro k
  induction k with
  | zero =>
    intro f t m hk hf hu
    obtain ⟨f, rfl⟩ : ∃ g, f = g + 1 := ⟨f - 1, by omega⟩
    have e : t = 61 := by omega
    subst e
    refine ⟨m.c.otherClaps, m.c.otherStand, ?_, hu⟩
    show bX4_parts_37B _ _ _ _ _ = bX4_parts_37B _ _ _ _ _
    unfold bX4_parts_37B
    rw [if_pos (by decide), if_pos (by decide)]; rfl
  | succ k ih =>
    intro f t m hk hf hu
    obtain ⟨f, rfl⟩ : ∃ g, f = g + 1 := ⟨f - 1, by omega⟩
    have t61 : t < 61 := by omega
    have t601 : t < 601 := by omega
    have lt : ((60 : Int32) < n2 t) = False := by rw [li_60, n2_lt (by omega) (by omega)]; exact eq_false (by omega)
    obtain ⟨F, G, e, J⟩ := ih f (t + 1) (m.oc (upq m.c.otherClaps t (m.n.claps t)) (upq m.c.otherStand t (m.n.stand t))) (by omega) (by omega) (fun u h2 => by
      show upq m.c.otherClaps t (m.n.claps t) u = m.n.claps u ∧ upq m.c.otherStand t (m.n.stand t) u = m.n.stand u
      by_cases eu : u = t
      · rw [eu, upq_self, upq_self]; exact ⟨rfl, rfl⟩
      · rw [upq_ne _ _ eu, upq_ne _ _ eu]; exact hu u (by omega))
    refine ⟨F, G, Eq.trans ?_ e, J⟩
    show bX4_parts_37B (bX4_parts_37 f) _ _ _ _ = _
    unfold bX4_parts_37B
    simp -implicitDefEqProofs only [gM_55, gM_57, gM_58, gM_59, gM_60, gM_64, gM_65, gM_66, gM_67, gM_68, gM_69, gM_70, gM_71, gM_72, gM_73, gM_74, gM_75, gM_76, gM_77, gM_81, gM_82, gM_83, gM_85, gM_86, gM_91, gM_92, gM_93, gM_94, gM_95, gM_96, gM_97, gM_98, gM_99, gM_100, gM_102, gM_103, gM_107, gM_108, gM_110, gM_111, gM_112, gM_113, gM_114, gM_115, gM_118, gM_119, gM_56, aM_107, nM_107, gM_61, aM_108, nM_108, gM_62, aM_109, nM_109, gM_63, aM_110, nM_110, gM_78, aM_111, nM_111, gM_79, aM_112, nM_112, gM_80, aM_113, nM_113, gM_84, aM_114, nM_114, gM_87, aM_115, nM_115, gM_88, aM_116, nM_116, gM_89, aM_117, nM_117, gM_90, aM_118, nM_118, gM_101, aM_119, nM_119, gM_104, aM_120, nM_120, gM_105, aM_121, nM_121, gM_106, aM_122, nM_122, gM_109, aM_123, nM_123, gM_116, aM_124, nM_124, gM_117, aM_125, nM_125, gM_120, aM_126, nM_126, gM_121, aM_127, nM_127, gM_122, aM_128, nM_128, gM_123, aM_129, nM_129, pM_55, pM_57, pM_58, pM_59, pM_60, pM_64, pM_65, pM_66, pM_67, pM_68, pM_69, pM_70, pM_71, pM_72, pM_73, pM_74, pM_75, pM_76, pM_77, pM_81, pM_82, pM_83, pM_85, pM_86, pM_91, pM_92, pM_93, pM_94, pM_95, pM_96, pM_97, pM_98, pM_99, pM_100, pM_102, pM_103, pM_107, pM_108, pM_110, pM_111, pM_112, pM_113, pM_114, pM_115, pM_118, pM_119, uM_107, uM_108, uM_109, uM_110, uM_111, uM_112, uM_113, uM_114, uM_115, uM_116, uM_117, uM_118, uM_119, uM_120, uM_121, uM_122, uM_123, uM_124, uM_125, uM_126, uM_127, uM_128, uM_129, ivM, Option.bind_some, bd_some, mk_MS_thrown, mk_MS_length, mk_MS_seatsPaid, mk_MS_seatsHiss, mk_MS_lays, mk_MS_arranged, mk_MS_tape, mk_MS_s, mk_MS_area, mk_MS_kept, mk_MS_keptPaid, mk_MS_keptHiss, mk_MS_isKept, mk_MS_r, mk_MS_h, mk_MS_n, mk_MS_c, mk_MR_size, mk_MR_p, mk_MR_limit, mk_MR_token, mk_MR_place, mk_MR_span, mk_MR_number, mk_MR_fault, mk_MR_faultAt, mk_MR_word, mk_MR_got, mk_MH_lines, mk_MH_prices, mk_MH_leavings, mk_MH_onces, mk_MH_codeMany, mk_MH_pileMany, mk_MH_ones, mk_MH_coming, mk_MH_hh, mk_MH_newCues, mk_MH_code, mk_MH_pile, mk_MN_paidNow, mk_MN_hissNow, mk_MN_clapping, mk_MN_standing, mk_MN_low, mk_MN_high, mk_MN_gone, mk_MN_cueNext, mk_MN_nightHeight, mk_MN_nightCarries, mk_MN_held, mk_MN_claps, mk_MN_stand, mk_MN_heldLow, mk_MN_heldHigh, mk_MC_askedMany, mk_MC_bought, mk_MC_worthMany, mk_MC_allOrders, mk_MC_hasSides, mk_MC_seenClaps, mk_MC_seenStand, mk_MC_seenAll, mk_MC_beganA, mk_MC_beganB, mk_MC_seed, mk_MC_asked, mk_MC_carried, mk_MC_heights, mk_MC_worths, mk_MC_side, mk_MC_otherClaps, mk_MC_otherStand, mk_NT_paid, mk_NT_hiss, mk_NT_c1, mk_NT_c2, mk_NT_lo, mk_NT_hi, mk_NT_next, mk_Ac_a1, mk_Ac_a2, mk_Ac_l, mk_Ac_h, lt, if_false, ifx_k t61 (show t < 2147483648 by omega), ifx_k t601 (show t < 2147483648 by omega), n2_nat (show t < 2147483648 by omega), show n2 t + 1 = n2 (t + 1) from n2_add t 1]
    rfl
theorem M_parts87 (h1 : ∀ u, u < 61 → m.c.otherClaps u = (nightS H C p hi u).c1 ∧ m.c.otherStand u = (nightS H C p hi u).c2) (hR : MRun m H C p' hi 61) : ∀ (k f t : Nat), t + k = 60 → k + 1 < f →
    bX4_parts_87 f (some 106) (n2 t) (mkM b' n s m) = some (firstS (diffS H C p p' hi) k t, mkM b' n s m) := by
  have one : ∀ f t, t ≤ 60 → bX4_parts_87 (f + 1) (some 106) (n2 t) (mkM b' n s m) = if diffS H C p p' hi t = true then some (n2 t, mkM b' n s m) else bX4_parts_87 f (some 106) (n2 (t + 1)) (mkM b' n s m) := by
    intro f t ht
    have t61 : t < 61 := by omega
    have t601 : t < 601 := by omega
    have lt : ((60 : Int32) < n2 t) = False := by rw [li_60, n2_lt (by omega) (by omega)]; exact eq_false (by omega)
    show bX4_parts_87B (bX4_parts_87 f) _ _ _ = _
    unfold bX4_parts_87B
    simp -implicitDefEqProofs only [Option.bind_some, bd_some, b2i_0, Bool.true_eq_false, Bool.false_eq_true, eq_self, if_true, if_false, not_true_eq_false, not_false_eq_true, lt, gM_87, gM_88, gM_116, gM_117, aM_115, aM_116, aM_124, aM_125, ifx_k t61 (show t < 2147483648 by omega), ifx_k t601 (show t < 2147483648 by omega), n2_nat (show t < 2147483648 by omega), (h1 t t61).1, (h1 t t61).2, hR.k1 t t61, hR.k2 t t61, show n2 t + 1 = n2 (t + 1) from n2_add t 1]
    by_cases c1 : (nightS H C p' hi t).c1 = (nightS H C p hi t).c1
    · by_cases c2 : (nightS H C p' hi t).c2 = (nightS H C p hi t).c2
      · have d : diffS H C p p' hi t = false := decide_eq_false (fun hc => hc ⟨c1.symm, c2.symm⟩)
        simp -implicitDefEqProofs only [Option.bind_some, bd_some, b2i_0, Bool.true_eq_false, Bool.false_eq_true, eq_self, if_true, if_false, not_true_eq_false, not_false_eq_true, c1, c2, d]
      · have d : diffS H C p p' hi t = true := decide_eq_true (fun hc => c2 hc.2.symm)
        simp -implicitDefEqProofs only [Option.bind_some, bd_some, b2i_0, Bool.true_eq_false, Bool.false_eq_true, eq_self, if_true, if_false, not_true_eq_false, not_false_eq_true, c1, c2, d]
    · have d : diffS H C p p' hi t = true := decide_eq_true (fun hc => c1 hc.1.symm)
      simp -implicitDefEqProofs only [Option.bind_some, bd_some, b2i_0, Bool.true_eq_false, Bool.false_eq_true, eq_self, if_true, if_false, not_true_eq_false, not_false_eq_true, c1, d]
  intro k
  induction k with
  | zero =>
    intro f t hk hf
    obtain ⟨f, rfl⟩ : ∃ g, f = g + 2 := ⟨f - 2, by omega⟩
    rw [one _ _ (by omega)]
    unfold firstS
    have lt : ((60 : Int32) < n2 (t + 1)) = True := by rw [li_60, n2_lt (by omega) (by omega)]; exact eq_true (by omega)
    have e : bX4_parts_87 (f + 1) (some 106) (n2 (t + 1)) (mkM b' n s m) = some (-1, mkM b' n s m) := by
      show bX4_parts_87B (bX4_parts_87 f) _ _ _ = _
      unfold bX4_parts_87B
      simp -implicitDefEqProofs only [Option.bind_some, bd_some, b2i_0, Bool.true_eq_false, Bool.false_eq_true, eq_self, if_true, if_false, not_true_eq_false, not_false_eq_true, lt]
    rw [e]
    rcases Bool.eq_false_or_eq_true (diffS H C p p' hi t) with d | d <;> simp -implicitDefEqProofs only [Option.bind_some, bd_some, b2i_0, Bool.true_eq_false, Bool.false_eq_true, eq_self, if_true, if_false, not_true_eq_false, not_false_eq_true, d]
  | succ k ih =>
    intro f t hk hf
    obtain ⟨f, rfl⟩ : ∃ g, f = g + 1 := ⟨f - 1, by omega⟩
    rw [one _ _ (by omega), ih f (t + 1) (by omega) (by omega)]
    simp -implicitDefEqProofs only [firstS]
    rcases Bool.eq_false_or_eq_true (diffS H C p p' hi t) with d | d <;> simp -implicitDefEqProofs only [Option.bind_some, bd_some, b2i_0, Bool.true_eq_false, Bool.false_eq_true, eq_self, if_true, if_false, not_true_eq_false, not_false_eq_true, d]
theorem M_hD (R : Duo b x m H C h c K) (p hi : Int64) : ∃ g z, fX4_height (some 106) p hi (mkM b' n s m) = some (hgtS H C p hi 61, mkM b' n s (m.lay g z)) ∧ Duo b x (m.lay g z) H C h c K ∧ z.nightHeight = hgtS H C p hi 61 ∧ z.nightCarries = b2i (decide (n2 H.carry ≤ hgtS H C p hi 61)) ∧ MRun (m.lay g z) H C p hi 61 := by
  obtain ⟨g, z, e2, ha, hR, h1, h2⟩ := M_height (b := b') (n := n) (s := s) (p := p) (h := hi) R.ok R.ar R.MH R.MC R.lays R.l01
  exact ⟨g, z, e2, R.lay ha, h1, h2, hR⟩
set_option maxHeartbeats 4000000 in
theorem C_parts (R : Duo b x m H C h c K) (a d : Int32) : ∃ r x' m', fX1_parts (some 64) a d (mkX b x) = some (r, mkX b x') ∧ fX4_parts (some 106) a d (mkM b' n s m) = some (r, mkM b' n s m') ∧ Duo b x' m' H C h c K := by
  have T := R.th (v := 0)
  have h64 := R.ok.size
  unfold fX1_parts fX4_parts
  simp -implicitDefEqProofs only [Option.bind_some, bd_some, b2i_0, Bool.true_eq_false, Bool.false_eq_true, eq_self, if_true, if_false, not_true_eq_false, not_false_eq_true, pM_55', gX_4 R.hb, R.xh, xh_iv R.XH, X_isSeatI R.XH R.ok, ivM, M_isSeatI T.MH R.ok]
  cases seatI H a
  · simp -implicitDefEqProofs only [Option.bind_some, bd_some, b2i_0, Bool.true_eq_false, Bool.false_eq_true, eq_self, if_true, if_false, not_true_eq_false, not_false_eq_true]; exact ⟨_, _, _, rfl, rfl, T⟩
  cases seatI H d
  · simp -implicitDefEqProofs only [Option.bind_some, bd_some, b2i_0, Bool.true_eq_false, Bool.false_eq_true, eq_self, if_true, if_false, not_true_eq_false, not_false_eq_true]; exact ⟨_, _, _, rfl, rfl, T⟩
  obtain ⟨y, e1, I⟩ := X_begin R.hb (q := false) (x := x) (p := shlL 1 a) (hi := x.hiss) R.XH R.ok R.XC
  obtain ⟨z, e2, J⟩ := X_begin R.hb (q := true) (x := x.setN false y) (p := shlL 1 d) (hi := x.hiss) R.XH R.ok R.XC
  obtain ⟨y3, z3, e3⟩ := X_parts_ R.hb R.XH R.ok R.XC 60 hcFuel 0 ((x.setN false y).setN true z) (by omega) (by unfold hcFuel; omega) R.xh I J
  rw [setN_two] at e3
  obtain ⟨g, ym, f1, T1, -, -, hR1⟩ := M_hD (b' := b') (n := n) (s := s) T (shlL 1 a) x.hiss
  obtain ⟨F, G, f2, J2⟩ := M_parts37 (b' := b') (n := n) (s := s) (v := d) 61 hcFuel 0 ((m.th 0).lay g ym) (by omega) (by unfold hcFuel; omega) (fun u hu => absurd hu (Nat.not_lt_zero u))
  obtain ⟨g2, ym2, f3, T2, -, -, hR2⟩ := M_hD (b' := b') (n := n) (s := s) (T1.oc (f := F) (g := G)) (shlL 1 d) x.hiss
  have f4 := M_parts87 (b' := b') (n := n) (s := s) (m := (((m.th 0).lay g ym).oc F G).lay g2 ym2) (p := shlL 1 a) (hi := x.hiss) (p' := shlL 1 d) (H := H) (C := C) (fun u hu => ⟨((J2 u hu).1).trans (hR1.k1 u hu), ((J2 u hu).2).trans (hR1.k2 u hu)⟩) hR2 60 hcFuel 0 (by omega) (by unfold hcFuel; omega)
  have p2 : (m.th 0).seatsHiss = x.hiss := T.hiss.symm
  have p3 : (((m.th 0).lay g ym).oc F G).seatsHiss = x.hiss := T.hiss.symm
  have f5 : bX4_parts_37 1 (some 106) d (n2 61) (mkM b' n s (((m.th 0).lay g ym).oc F G)) = some (firstS (diffS H C (shlL 1 a) (shlL 1 d) x.hiss) 60 0, mkM b' n s ((((m.th 0).lay g ym).oc F G).lay g2 ym2)) := by
    show bX4_parts_37B _ _ _ _ _ = _
    unfold bX4_parts_37B
    rw [if_pos (by decide), gM_72, Option.bind_some, p3, ivM, f3, bd_some]
    exact f4
  have hx : (x.setN false y).hiss = x.hiss := rfl
  simp -implicitDefEqProofs only [Option.bind_some, bd_some, b2i_0, Bool.true_eq_false, Bool.false_eq_true, eq_self, if_true, if_false, not_true_eq_false, not_false_eq_true, gX_8 R.hb, gX_9 R.hb, gX_4 R.hb, gX_7 R.hb, gX_6 R.hb, R.xh, R.xc, ivN R.hb, e1, setN_house, setN_cues, hx, e2, gM_72, p2, f1]
  exact ⟨_, _, _, e3, f2.trans f5, (T2.nX).nY⟩
end CmdG
