set_option linter.unusedVariables false
set_option linter.unusedSimpArgs false
set_option maxRecDepth 100000
section Worth2
variable {b b' : Mem} {n s : Nat} {x : XS} {m : MS} {H : HS} {C : List Cu} {h c : Nat} {K : Nat → Option (HS × List Cu)} {p hi : Int64} {a : Nat → Nat} {N : Nat} {ht : Nat → Int32}
theorem sWo_self : x.sWo x.worth = x := by unfold XS.sWo; exact XS_eta x
theorem X_worth85 (hb : 131 ≤ mNx b) (hN : N ≤ 8) : ∀ (k f i : Nat) (x : XS), i + k = N → k < f → (∀ w, w < 2 ^ N → x.heights w = ht w) → (∀ w, w < i → x.worth w = wS ht N w (2 ^ N)) →
    ∃ W, bX1_worth_85 f (some 64) (n2 N) (n2 i) (mkX b x) = some (ht (2 ^ N - 1), mkX b (x.sWo W)) ∧ ∀ w, w < N → W w = wS ht N w (2 ^ N) := by
  have h256 := pow_le8 hN
  have p1 : 1 ≤ 2 ^ N := Nat.one_le_two_pow
  intro k
  induction k with
  | zero =>
    intro f i x hk hf hh hw
    obtain ⟨f, rfl⟩ : ∃ g, f = g + 1 := ⟨f - 1, by omega⟩
    have e : i = N := by omega
    subst e
    have l : 2 ^ i - 1 < 256 := by omega
    have es : n2 (2 ^ i) - (1 : Int32) = n2 (2 ^ i - 1) := by rw [li_1, n2_sub (by omega)]
    refine ⟨x.worth, ?_, hw⟩
    rw [sWo_self]
    show bX1_worth_85B _ _ _ _ _ = _
    unfold bX1_worth_85B
    rw [if_pos (Int32.le_refl _), gX_14 hb, Option.bind_some, pow_shl i hN, es, aX_98 hb, ifx_k l (by omega), Option.bind_some, n2_nat (by omega), hh _ (by omega)]
  | succ k ih =>
    intro f i x hk hf hh hw
    obtain ⟨f, rfl⟩ : ∃ g, f = g + 1 := ⟨f - 1, by omega⟩
    have i8 : i < 8 := by omega
    have hF : 300 < hcFuel := by unfold hcFuel; omega
    have E := X_worth99 (kk := bX1_worth_85 f) (ht := ht) hb hN (show i < N by omega) (2 ^ N) hcFuel 0 (x.sWo (upq x.worth i 0)) (by omega) (by omega) (by rw [sWo_hX]; exact hh) (by rw [sWo_X, upq_self]; rfl)
    rw [sWo_X, upd_upd, sWoX2] at E
    obtain ⟨W, e, J⟩ := ih f (i + 1) (x.sWo (upq x.worth i (wS ht N i (2 ^ N)))) (by omega) (by omega) (by rw [sWo_hX]; exact hh) (fun w h2 => by
      rw [sWo_X]
      by_cases e : w = i
      · rw [e, upq_self]
      · rw [upq_ne _ _ e]; exact hw w (by omega))
    rw [sWoX2] at e
    refine ⟨W, ?_, J⟩
    show bX1_worth_85B (bX1_worth_85 f) _ _ _ _ = _
    unfold bX1_worth_85B
    generalize hcFuel = fu at E ⊢
    rw [if_neg (by rw [n2_le (by omega) (by omega)]; omega), gX_15 hb, Option.bind_some, uX_99' hb i8, Option.bind_some]
    exact E.trans e
theorem sWo_selfM : m.sWo m.c.worths = m := rfl
theorem sWm_eq {v : Int32} {o : Int64} : ((pI (mkM b' n s m) (some 106) 107 v).bind fun st => (gI st (some 106) 102).bind fun x163 => bd (fX4_orders x163 st) fun x166 st => (pJ st (some 106) 108 x166).bind fun st => (gA st (some 106) 105).bind fun x173 => (gI st (some 106) 102).bind fun x178 => (aI st x173 ((shlI (1 : Int32) x178) - (1 : Int32))).bind fun x184 => some (x184, st)) = ((pI (mkM b' n s m) (some 106) 107 v).bind fun st => (gI st (some 106) 102).bind fun x163 => bd (fX4_orders x163 st) fun x166 st => (pJ st (some 106) 108 x166).bind fun st => (gA st (some 106) 105).bind fun x173 => (gI st (some 106) 102).bind fun x178 => (aI st x173 ((shlI (1 : Int32) x178) - (1 : Int32))).bind fun x184 => some (x184, st)) := rfl
theorem M_worth53 (hN : N ≤ 8) : ∀ (k f i : Nat) (m : MS), i + k = N → k < f → m.c.askedMany = n2 N → (∀ w, w < 2 ^ N → m.c.heights w = ht w) → (∀ w, w < i → m.c.worths w = wS ht N w (2 ^ N)) →
    ∃ W, bX4_worth_53 f (some 106) (n2 i) (mkM b' n s m) = some (ht (2 ^ N - 1), mkM b' n s ((m.sWo W).sWm (n2 N) (fcZ (n2 N)))) ∧ ∀ w, w < N → W w = wS ht N w (2 ^ N) := by
  have h256 := pow_le8 hN
  have p1 : 1 ≤ 2 ^ N := Nat.one_le_two_pow
  intro k
  induction k with
  | zero =>
    intro f i m hk hf hm hh hw
    obtain ⟨f, rfl⟩ : ∃ g, f = g + 1 := ⟨f - 1, by omega⟩
    have e : i = N := by omega
    subst e
    have l : 2 ^ i - 1 < 256 := by omega
    have es : n2 (2 ^ i) - (1 : Int32) = n2 (2 ^ i - 1) := by rw [li_1, n2_sub (by omega)]
    have z1 : n2 i ≤ 8 := by rw [li_8, n2_le (by omega) (by omega)]; exact hN
    refine ⟨m.c.worths, ?_, hw⟩
    rw [sWo_selfM]
    show bX4_worth_53B _ _ _ _ = _
    unfold bX4_worth_53B
    simp -implicitDefEqProofs only [gM_55, gM_57, gM_58, gM_59, gM_60, gM_64, gM_65, gM_66, gM_67, gM_68, gM_69, gM_70, gM_71, gM_72, gM_73, gM_74, gM_75, gM_76, gM_77, gM_81, gM_82, gM_83, gM_85, gM_86, gM_91, gM_92, gM_93, gM_94, gM_95, gM_96, gM_97, gM_98, gM_99, gM_100, gM_102, gM_103, gM_107, gM_108, gM_110, gM_111, gM_112, gM_113, gM_114, gM_115, gM_118, gM_119, gM_56, aM_107, nM_107, gM_61, aM_108, nM_108, gM_62, aM_109, nM_109, gM_63, aM_110, nM_110, gM_78, aM_111, nM_111, gM_79, aM_112, nM_112, gM_80, aM_113, nM_113, gM_84, aM_114, nM_114, gM_87, aM_115, nM_115, gM_88, aM_116, nM_116, gM_89, aM_117, nM_117, gM_90, aM_118, nM_118, gM_101, aM_119, nM_119, gM_104, aM_120, nM_120, gM_105, aM_121, nM_121, gM_106, aM_122, nM_122, gM_109, aM_123, nM_123, gM_116, aM_124, nM_124, gM_117, aM_125, nM_125, gM_120, aM_126, nM_126, gM_121, aM_127, nM_127, gM_122, aM_128, nM_128, gM_123, aM_129, nM_129, pM_55, pM_57, pM_58, pM_59, pM_60, pM_64, pM_65, pM_66, pM_67, pM_68, pM_69, pM_70, pM_71, pM_72, pM_73, pM_74, pM_75, pM_76, pM_77, pM_81, pM_82, pM_83, pM_85, pM_86, pM_91, pM_92, pM_93, pM_94, pM_95, pM_96, pM_97, pM_98, pM_99, pM_100, pM_102, pM_103, pM_107, pM_108, pM_110, pM_111, pM_112, pM_113, pM_114, pM_115, pM_118, pM_119, uM_107, uM_108, uM_109, uM_110, uM_111, uM_112, uM_113, uM_114, uM_115, uM_116, uM_117, uM_118, uM_119, uM_120, uM_121, uM_122, uM_123, uM_124, uM_125, uM_126, uM_127, uM_128, uM_129, ivM, Option.bind_some, bd_some, mk_MS_thrown, mk_MS_length, mk_MS_seatsPaid, mk_MS_seatsHiss, mk_MS_lays, mk_MS_arranged, mk_MS_tape, mk_MS_s, mk_MS_area, mk_MS_kept, mk_MS_keptPaid, mk_MS_keptHiss, mk_MS_isKept, mk_MS_r, mk_MS_h, mk_MS_n, mk_MS_c, mk_MR_size, mk_MR_p, mk_MR_limit, mk_MR_token, mk_MR_place, mk_MR_span, mk_MR_number, mk_MR_fault, mk_MR_faultAt, mk_MR_word, mk_MR_got, mk_MH_lines, mk_MH_prices, mk_MH_leavings, mk_MH_onces, mk_MH_codeMany, mk_MH_pileMany, mk_MH_ones, mk_MH_coming, mk_MH_hh, mk_MH_newCues, mk_MH_code, mk_MH_pile, mk_MN_paidNow, mk_MN_hissNow, mk_MN_clapping, mk_MN_standing, mk_MN_low, mk_MN_high, mk_MN_gone, mk_MN_cueNext, mk_MN_nightHeight, mk_MN_nightCarries, mk_MN_held, mk_MN_claps, mk_MN_stand, mk_MN_heldLow, mk_MN_heldHigh, mk_MC_askedMany, mk_MC_bought, mk_MC_worthMany, mk_MC_allOrders, mk_MC_hasSides, mk_MC_seenClaps, mk_MC_seenStand, mk_MC_seenAll, mk_MC_beganA, mk_MC_beganB, mk_MC_seed, mk_MC_asked, mk_MC_carried, mk_MC_heights, mk_MC_worths, mk_MC_side, mk_MC_otherClaps, mk_MC_otherStand, mk_NT_paid, mk_NT_hiss, mk_NT_c1, mk_NT_c2, mk_NT_lo, mk_NT_hi, mk_NT_next, mk_Ac_a1, mk_Ac_a2, mk_Ac_l, mk_Ac_h, hm, show (n2 i ≤ n2 i) = True from eq_true (Int32.le_refl _), if_true, M_fac z1, pow_shl i hN, es, ifx_k l (show 2 ^ i - 1 < 2147483648 by omega), n2_nat (show 2 ^ i - 1 < 2147483648 by omega), hh _ (show 2 ^ i - 1 < 2 ^ i by omega), MS.sWm]
  | succ k ih =>
    intro f i m hk hf hm hh hw
    obtain ⟨f, rfl⟩ : ∃ g, f = g + 1 := ⟨f - 1, by omega⟩
    have i8 : i < 8 := by omega
    have hF : 300 < hcFuel := by unfold hcFuel; omega
    have E := M_worth70 (b' := b') (n := n) (s := s) (kk := bX4_worth_53 f) (ht := ht) hN (show i < N by omega) (2 ^ N) hcFuel 0 (m.sWo (upq m.c.worths i 0)) (by omega) (by omega) (by rw [sWo_many]; exact hm) (by rw [sWo_hM]; exact hh) (by rw [sWo_M, upq_self]; rfl)
    rw [sWo_M, upd_upd, sWoM2] at E
    obtain ⟨W, e, J⟩ := ih f (i + 1) (m.sWo (upq m.c.worths i (wS ht N i (2 ^ N)))) (by omega) (by omega) (by rw [sWo_many]; exact hm) (by rw [sWo_hM]; exact hh) (fun w h2 => by
      rw [sWo_M]
      by_cases e : w = i
      · rw [e, upq_self]
      · rw [upq_ne _ _ e]; exact hw w (by omega))
    rw [sWoM2] at e
    refine ⟨W, ?_, J⟩
    show bX4_worth_53B (bX4_worth_53 f) _ _ _ = _
    unfold bX4_worth_53B
    generalize hcFuel = fu at E ⊢
    rw [gM_102, Option.bind_some, hm, if_neg (by rw [n2_le (by omega) (by omega)]; omega), gM_106, Option.bind_some, uM_122' i8, Option.bind_some]
    exact E.trans e
theorem pX_1617 (hb : 131 ≤ mNx b) {v : Int32} {o : Int64} (g : Mem → Option (Int32 × Mem)) : ((pI (mkX b x) (some 64) 16 v).bind fun st => (pJ st (some 64) 17 o).bind g) = g (mkX b (x.sWm v o)) := by
  rw [pX_16 hb, Option.bind_some, pX_17 hb, Option.bind_some]
  simp -implicitDefEqProofs only [XS.sWm, mk_XS_taped, mk_XS_fault, mk_XS_bought, mk_XS_worthMany, mk_XS_beganFirst, mk_XS_beganSecond, mk_XS_seed, mk_XS_arranged, mk_XS_paid, mk_XS_hiss, mk_XS_orders, mk_XS_house, mk_XS_cues, mk_XS_tape, mk_XS_states, mk_XS_asked, mk_XS_carriesSet, mk_XS_heights, mk_XS_worth, mk_XS_mouths, mk_XS_sided, mk_XS_keptHouse, mk_XS_keptPaid, mk_XS_keptHiss, mk_XS_kMod, mk_XS_kData, mk_XS_kSize, mk_XS_out, mk_XS_n0, mk_XS_n1]
theorem sWm_hX {v : Int32} {o : Int64} : (x.sWm v o).heights = x.heights := rfl
theorem Duo.wo {W W' : Nat → Int64} {v : Int32} {o : Int64} (R : Duo b x m H C h c K) (hw : ∃ k, k ≤ 8 ∧ v = n2 k ∧ (∀ i, i < k → W i = W' i ∧ -1000000000000000 ≤ (W i).toInt ∧ (W i).toInt ≤ 1000000000000000) ∧ (0 < k → 1 ≤ o.toInt ∧ o.toInt ≤ 40320)) : Duo b ((x.sWm v o).sWo W) ((m.sWo W').sWm v o) H C h c K := by
  obtain ⟨k, k8, hv, h1, h2⟩ := hw
  exact ⟨R.hb, R.fz, R.ok, R.ar, R.XH, R.xh, R.XC, R.xc, R.MH, R.MC, R.lays, R.l01, R.tape, R.len, R.fault, R.paid, R.hiss, R.bought, ⟨k, k8, hv, hv, h1, fun h0 => ⟨rfl, h2 h0⟩⟩, R.sided, R.b1, R.b2, R.arranged, R.kept, R.keptC⟩
theorem C_worth (R : Duo b x m H C h c K) : ∃ r x' m', fX1_worth (some 64) (mkX b x) = some (r, mkX b x') ∧ fX4_worth (some 106) (mkM b' n s m) = some (r, mkM b' n s m') ∧ Duo b x' m' H C h c K := by
  have T := R.th (v := 0)
  have hF : 300 < hcFuel := by unfold hcFuel; omega
  unfold fX1_worth fX4_worth
  obtain ⟨k, k1, -, ⟨m', c1, e1, D⟩ | ⟨F, m', c1, e0, e1, D⟩ | ⟨F, m', a, c1, c2, e0, e1, D, A⟩⟩ := D_eight (b' := b') (n := n) (s := s) T
  · simp -implicitDefEqProofs only [Option.bind_some, bd_some, b2i_0, Bool.true_eq_false, Bool.false_eq_true, eq_self, if_true, if_false, not_true_eq_false, not_false_eq_true, pM_55', ivX R.hb, X_take R.hb, k1, X_isIn, c1, ivM, e1]
    exact ⟨_, _, _, rfl, rfl, D⟩
  · simp -implicitDefEqProofs only [Option.bind_some, bd_some, b2i_0, Bool.true_eq_false, Bool.false_eq_true, eq_self, if_true, if_false, not_true_eq_false, not_false_eq_true, pM_55', ivX R.hb, X_take R.hb, k1, X_isIn, c1, ivM, e1, gX_11 R.hb, e0]
    exact ⟨_, _, _, rfl, rfl, D⟩
  · have n8 := A.n8
    have h256 := pow_le8 A.n8
    have z1 : n2 k ≤ 8 := by rw [li_8, n2_le (by omega) (by omega)]; exact A.n8
    obtain ⟨x2, m2, e3, e4, D2, A2, J⟩ := L_worth1 (b' := b') (n := n) (s := s) (hi := x.hiss) (2 ^ k) hcFuel hcFuel 0 (x.tp0.sAsk F) m' (by omega) (by omega) (by omega) D A rfl (fun w hw => absurd hw (Nat.not_lt_zero w))
    obtain ⟨W, e5, J5⟩ := X_worth85 (ht := fun w => hgtS H C (hdsS a w k) x.hiss 61) R.hb A.n8 k hcFuel 0 (x2.sWm (n2 k) (fcZ (n2 k))) (by omega) (by omega) (fun w hw => by rw [sWm_hX]; exact (J w hw).1) (fun w hw => absurd hw (Nat.not_lt_zero w))
    obtain ⟨W', e6, J6⟩ := M_worth53 (b' := b') (n := n) (s := s) (ht := fun w => hgtS H C (hdsS a w k) x.hiss 61) A.n8 k hcFuel 0 m2 (by omega) (by omega) A2.mm (fun w hw => (J w hw).2) (fun w hw => absurd hw (Nat.not_lt_zero w))
    have e7 : bX1_worth_34 1 (some 64) (n2 k) (n2 (2 ^ k)) (mkX b x2) = some (hgtS H C (hdsS a (2 ^ k - 1) k) x.hiss 61, mkX b ((x2.sWm (n2 k) (fcZ (n2 k))).sWo W)) := by
      show bX1_worth_34B _ _ _ _ _ = _
      unfold bX1_worth_34B
      generalize hcFuel = fu at e5 ⊢
      rw [pow_shl k A.n8, if_pos (Int32.le_refl _), pX_16 R.hb, Option.bind_some, X_fac z1, bd_some, pX_17 R.hb, Option.bind_some]
      have ex : ∀ y : XS, y = x2.sWm (n2 k) (fcZ (n2 k)) → bX1_worth_85 fu (some 64) (n2 k) 0 (mkX b y) = some (hgtS H C (hdsS a (2 ^ k - 1) k) x.hiss 61, mkX b ((x2.sWm (n2 k) (fcZ (n2 k))).sWo W)) := fun y hy => by rw [hy]; exact e5
      exact ex _ (by simp -implicitDefEqProofs only [XS.sWm, mk_XS_taped, mk_XS_fault, mk_XS_bought, mk_XS_worthMany, mk_XS_beganFirst, mk_XS_beganSecond, mk_XS_seed, mk_XS_arranged, mk_XS_paid, mk_XS_hiss, mk_XS_orders, mk_XS_house, mk_XS_cues, mk_XS_tape, mk_XS_states, mk_XS_asked, mk_XS_carriesSet, mk_XS_heights, mk_XS_worth, mk_XS_mouths, mk_XS_sided, mk_XS_keptHouse, mk_XS_keptPaid, mk_XS_keptHiss, mk_XS_kMod, mk_XS_kData, mk_XS_kSize, mk_XS_out, mk_XS_n0, mk_XS_n1])
    have e8 : bX4_worth_16 1 (some 106) (n2 (2 ^ k)) (mkM b' n s m2) = some (hgtS H C (hdsS a (2 ^ k - 1) k) x.hiss 61, mkM b' n s ((m2.sWo W').sWm (n2 k) (fcZ (n2 k)))) := by
      show bX4_worth_16B _ _ _ _ = _
      unfold bX4_worth_16B
      generalize hcFuel = fu at e6 ⊢
      rw [gM_102, Option.bind_some, A2.mm, pow_shl k A.n8, if_pos (Int32.le_refl _)]
      exact e6
    have Df := D2.wo (W := W) (W' := W') (v := n2 k) (o := fcZ (n2 k)) ⟨k, A.n8, rfl, fun i hi => by
      have r := wS_rng (ht := fun w => hgtS H C (hdsS a w k) x.hiss 61) (fun u => hgtS_rng H C _ _ 61) (N := k) (i := i) A.n8 (2 ^ k) (by omega)
      rw [J5 i hi, J6 i hi]
      have hq : ((2 ^ k : Nat) : Int) ≤ 256 := by omega
      generalize ((2 ^ k : Nat) : Int) = q at r hq
      exact ⟨rfl, by omega, by omega⟩, fun _ => fcZ_rng z1⟩
    generalize hcFuel = fu at e3 e4 ⊢
    simp -implicitDefEqProofs only [Option.bind_some, bd_some, b2i_0, Bool.true_eq_false, Bool.false_eq_true, eq_self, if_true, if_false, not_true_eq_false, not_false_eq_true, pM_55', ivX R.hb, X_take R.hb, k1, X_isIn, c1, c2, ivM, e1, gX_11 R.hb, e0, show (1 : Int32) = 0 ↔ False by decide]
    exact ⟨_, _, _, e3.trans e7, e4.trans e8, Df⟩
end Worth2
