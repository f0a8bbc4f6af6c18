set_option linter.unusedVariables false
set_option linter.unusedSimpArgs false
set_option maxRecDepth 100000
/-! ===== whole nights of HouseClapsModel ===== -/
def MS.beg (m : MS) (g : Nat → Int64) (p h : Int64) : MS := (MS.mk (m.thrown) (m.length) (m.seatsPaid) (m.seatsHiss) (0) (m.arranged) (m.tape) (m.s) (g) (m.kept) (m.keptPaid) (m.keptHiss) (m.isKept) (m.r) (m.h) ((MN.mk (p) (h) (0) (0) (0) (0) (0) (0) (m.n.nightHeight) (m.n.nightCarries) (m.n.held) (m.n.claps) (m.n.stand) (m.n.heldLow) (m.n.heldHigh))) (m.c))
/-- the night ahead of moment t -/
def ntAt (H : HS) (C : List Cu) (p h : Int64) : Nat → NT
  | 0 => night0 p h
  | t + 1 => nightS H C p h t
theorem nightS_ntAt (H : HS) (C : List Cu) (p h : Int64) (t : Nat) : nightS H C p h t = momentS H C t (ntAt H C p h t) := by cases t <;> rfl
theorem ntAt_next (H : HS) (C : List Cu) (p h : Int64) : ∀ t, (ntAt H C p h t).next ≤ C.length
  | 0 => Nat.zero_le _
  | t + 1 => by
    show (nightS H C p h t).next ≤ _
    rw [nightS_ntAt]; exact momentS_next H C t _ (ntAt_next H C p h t)
abbrev MRun (m : MS) (H : HS) (C : List Cu) (p h : Int64) (t : Nat) : Prop := (MNt m (ntAt H C p h t) t) ∧ (∀ u, u < t → m.n.claps u = (nightS H C p h u).c1) ∧ (∀ u, u < t → m.n.stand u = (nightS H C p h u).c2) ∧ (∀ u, u < t → m.n.heldLow u = (nightS H C p h u).lo) ∧ (∀ u, u < t → m.n.heldHigh u = (nightS H C p h u).hi)
theorem MRun.nt {m : MS} {H : HS} {C : List Cu} {p h : Int64} {t : Nat} (self : MRun m H C p h t) : MNt m (ntAt H C p h t) t := self.1
theorem MRun.k1 {m : MS} {H : HS} {C : List Cu} {p h : Int64} {t : Nat} (self : MRun m H C p h t) : ∀ u, u < t → m.n.claps u = (nightS H C p h u).c1 := self.2.1
theorem MRun.k2 {m : MS} {H : HS} {C : List Cu} {p h : Int64} {t : Nat} (self : MRun m H C p h t) : ∀ u, u < t → m.n.stand u = (nightS H C p h u).c2 := self.2.2.1
theorem MRun.k3 {m : MS} {H : HS} {C : List Cu} {p h : Int64} {t : Nat} (self : MRun m H C p h t) : ∀ u, u < t → m.n.heldLow u = (nightS H C p h u).lo := self.2.2.2.1
theorem MRun.k4 {m : MS} {H : HS} {C : List Cu} {p h : Int64} {t : Nat} (self : MRun m H C p h t) : ∀ u, u < t → m.n.heldHigh u = (nightS H C p h u).hi := self.2.2.2.2
section NightsM
variable {b : Mem} {n s : Nat} {H : HS} {C : List Cu} {t : Nat} {p h : Int64} {m : MS}
theorem M_begin (ok : H.Ok) (har : H.ArOk) (hH : MHouse m.s H) (hl : m.lays = 0 → MArea m H) (h01 : m.lays = 0 ∨ m.lays = 1) :
    ∃ g, fX4_begin (some 106) p h (mkM b n s m) = some ((), mkM b n s (m.beg g p h)) ∧ MArea (m.beg g p h) H ∧ MRun (m.beg g p h) H C p h 0 := by
  obtain ⟨g, e, ha⟩ := M_layOut (b := b) (n := n) (s := s) ok har hH hl h01
  have e0 : fX4_begin (some 106) p h (mkM b n s m) = some ((), mkM b n s (m.beg g p h)) := by
    unfold fX4_begin MS.beg
    rw [ivM, e, bd_some]
    simp -implicitDefEqProofs only [gM_55, gM_57, gM_58, gM_59, gM_60, gM_64, gM_65, gM_66, gM_67, gM_68, gM_69, gM_70, gM_71, gM_72, gM_73, gM_74, gM_75, gM_76, gM_77, gM_81, gM_82, gM_83, gM_85, gM_86, gM_91, gM_92, gM_93, gM_94, gM_95, gM_96, gM_97, gM_98, gM_99, gM_100, gM_102, gM_103, gM_107, gM_108, gM_110, gM_111, gM_112, gM_113, gM_114, gM_115, gM_118, gM_119, gM_56, aM_107, nM_107, gM_61, aM_108, nM_108, gM_62, aM_109, nM_109, gM_63, aM_110, nM_110, gM_78, aM_111, nM_111, gM_79, aM_112, nM_112, gM_80, aM_113, nM_113, gM_84, aM_114, nM_114, gM_87, aM_115, nM_115, gM_88, aM_116, nM_116, gM_89, aM_117, nM_117, gM_90, aM_118, nM_118, gM_101, aM_119, nM_119, gM_104, aM_120, nM_120, gM_105, aM_121, nM_121, gM_106, aM_122, nM_122, gM_109, aM_123, nM_123, gM_116, aM_124, nM_124, gM_117, aM_125, nM_125, gM_120, aM_126, nM_126, gM_121, aM_127, nM_127, gM_122, aM_128, nM_128, gM_123, aM_129, nM_129, pM_55, pM_57, pM_58, pM_59, pM_60, pM_64, pM_65, pM_66, pM_67, pM_68, pM_69, pM_70, pM_71, pM_72, pM_73, pM_74, pM_75, pM_76, pM_77, pM_81, pM_82, pM_83, pM_85, pM_86, pM_91, pM_92, pM_93, pM_94, pM_95, pM_96, pM_97, pM_98, pM_99, pM_100, pM_102, pM_103, pM_107, pM_108, pM_110, pM_111, pM_112, pM_113, pM_114, pM_115, pM_118, pM_119, uM_107, uM_108, uM_109, uM_110, uM_111, uM_112, uM_113, uM_114, uM_115, uM_116, uM_117, uM_118, uM_119, uM_120, uM_121, uM_122, uM_123, uM_124, uM_125, uM_126, uM_127, uM_128, uM_129, ivM, Option.bind_some, bd_some, mk_MS_thrown, mk_MS_length, mk_MS_seatsPaid, mk_MS_seatsHiss, mk_MS_lays, mk_MS_arranged, mk_MS_tape, mk_MS_s, mk_MS_area, mk_MS_kept, mk_MS_keptPaid, mk_MS_keptHiss, mk_MS_isKept, mk_MS_r, mk_MS_h, mk_MS_n, mk_MS_c, mk_MR_size, mk_MR_p, mk_MR_limit, mk_MR_token, mk_MR_place, mk_MR_span, mk_MR_number, mk_MR_fault, mk_MR_faultAt, mk_MR_word, mk_MR_got, mk_MH_lines, mk_MH_prices, mk_MH_leavings, mk_MH_onces, mk_MH_codeMany, mk_MH_pileMany, mk_MH_ones, mk_MH_coming, mk_MH_hh, mk_MH_newCues, mk_MH_code, mk_MH_pile, mk_MN_paidNow, mk_MN_hissNow, mk_MN_clapping, mk_MN_standing, mk_MN_low, mk_MN_high, mk_MN_gone, mk_MN_cueNext, mk_MN_nightHeight, mk_MN_nightCarries, mk_MN_held, mk_MN_claps, mk_MN_stand, mk_MN_heldLow, mk_MN_heldHigh, mk_MC_askedMany, mk_MC_bought, mk_MC_worthMany, mk_MC_allOrders, mk_MC_hasSides, mk_MC_seenClaps, mk_MC_seenStand, mk_MC_seenAll, mk_MC_beganA, mk_MC_beganB, mk_MC_seed, mk_MC_asked, mk_MC_carried, mk_MC_heights, mk_MC_worths, mk_MC_side, mk_MC_otherClaps, mk_MC_otherStand, mk_NT_paid, mk_NT_hiss, mk_NT_c1, mk_NT_c2, mk_NT_lo, mk_NT_hi, mk_NT_next, mk_Ac_a1, mk_Ac_a2, mk_Ac_l, mk_Ac_h]
  have ga : (m.beg g p h).area = g := rfl
  have a0 : MArea (m.beg g p h) H := by
    intro a v h1 h2
    have := ha a v h1 h2
    rw [mk_MS_area] at this
    rw [ga]; exact this
  exact ⟨g, e0, a0, ⟨rfl, rfl, rfl, rfl, rfl, rfl, rfl, rfl⟩, fun u hu => absurd hu (Nat.not_lt_zero u), fun u hu => absurd hu (Nat.not_lt_zero u), fun u hu => absurd hu (Nat.not_lt_zero u), fun u hu => absurd hu (Nat.not_lt_zero u)⟩
theorem M_step (hH : MHouse m.s H) (ok : H.Ok) (hC : MCues m.s C) (ha : MArea m H) (hR : MRun m H C p h t) (ht : t ≤ 600) :
    ∃ q, fX4_moment (some 106) (mkM b n s m) = some ((), mkM b n s (MS.mk (m.thrown) (m.length) (m.seatsPaid) (m.seatsHiss) (m.lays) (m.arranged) (m.tape) (m.s) (m.area) (m.kept) (m.keptPaid) (m.keptHiss) (m.isKept) (m.r) (m.h) (q) (m.c))) ∧ MRun (MS.mk (m.thrown) (m.length) (m.seatsPaid) (m.seatsHiss) (m.lays) (m.arranged) (m.tape) (m.s) (m.area) (m.kept) (m.keptPaid) (m.keptHiss) (m.isKept) (m.r) (m.h) (q) (m.c)) H C p h (t + 1) ∧ q.nightHeight = m.n.nightHeight := by
  obtain ⟨hd, e⟩ := M_moment (b := b) (n := n) (s := s) hH ok hC ha hR.nt (ntAt_next H C p h t) ht
  rw [← nightS_ntAt] at e
  refine ⟨(m.aft hd (nightS H C p h t) t).n, e, ⟨aft_nt m hd (nightS H C p h t) t, fun u hu => ?_, fun u hu => ?_, fun u hu => ?_, fun u hu => ?_⟩, rfl⟩
  · show upq m.n.claps t (nightS H C p h t).c1 u = _
    by_cases hc : u = t
    · rw [hc, upq_self]
    · rw [upq_ne _ _ hc]; exact hR.k1 u (by omega)
  · show upq m.n.stand t (nightS H C p h t).c2 u = _
    by_cases hc : u = t
    · rw [hc, upq_self]
    · rw [upq_ne _ _ hc]; exact hR.k2 u (by omega)
  · show upq m.n.heldLow t (nightS H C p h t).lo u = _
    by_cases hc : u = t
    · rw [hc, upq_self]
    · rw [upq_ne _ _ hc]; exact hR.k3 u (by omega)
  · show upq m.n.heldHigh t (nightS H C p h t).hi u = _
    by_cases hc : u = t
    · rw [hc, upq_self]
    · rw [upq_ne _ _ hc]; exact hR.k4 u (by omega)
theorem M_to {T : Nat} (ok : H.Ok) (hT : T ≤ 600) : ∀ (k f t : Nat) (m : MS), t + k = T + 1 → k < f → MHouse m.s H → MCues m.s C → MArea m H → MRun m H C p h t →
    ∃ q, bX4_night_12 f (some 106) (n2 T) (mkM b n s m) = some ((), mkM b n s (MS.mk (m.thrown) (m.length) (m.seatsPaid) (m.seatsHiss) (m.lays) (m.arranged) (m.tape) (m.s) (m.area) (m.kept) (m.keptPaid) (m.keptHiss) (m.isKept) (m.r) (m.h) (q) (m.c))) ∧ MRun (MS.mk (m.thrown) (m.length) (m.seatsPaid) (m.seatsHiss) (m.lays) (m.arranged) (m.tape) (m.s) (m.area) (m.kept) (m.keptPaid) (m.keptHiss) (m.isKept) (m.r) (m.h) (q) (m.c)) H C p h (T + 1) := by
  intro k
  induction k with
  | zero =>
    intro f t m hk hf hH hC ha hR
    obtain ⟨f, rfl⟩ : ∃ g, f = g + 1 := ⟨f - 1, by omega⟩
    have e : t = T + 1 := by omega
    subst e
    refine ⟨m.n, ?_, hR⟩
    show bX4_night_12B _ _ _ _ = _
    unfold bX4_night_12B
    rw [gM_97, Option.bind_some, hR.nt.gone, if_pos (show n2 T < n2 (T + 1) by rw [n2_lt (by omega) (by omega)]; omega)]
    rfl
  | succ k ih =>
    intro f t m hk hf hH hC ha hR
    obtain ⟨f, rfl⟩ : ∃ g, f = g + 1 := ⟨f - 1, by omega⟩
    obtain ⟨q, e, hR', -⟩ := M_step (b := b) (n := n) (s := s) hH ok hC ha hR (by omega)
    obtain ⟨q', e', hR2⟩ := ih f (t + 1) (MS.mk (m.thrown) (m.length) (m.seatsPaid) (m.seatsHiss) (m.lays) (m.arranged) (m.tape) (m.s) (m.area) (m.kept) (m.keptPaid) (m.keptHiss) (m.isKept) (m.r) (m.h) (q) (m.c)) (by omega) (by omega) hH hC ha hR'
    refine ⟨q', Eq.trans ?_ e', hR2⟩
    show bX4_night_12B (bX4_night_12 f) _ _ _ = _
    unfold bX4_night_12B
    rw [gM_97, Option.bind_some, hR.nt.gone, if_neg (show ¬ n2 T < n2 t by rw [n2_lt (by omega) (by omega)]; omega), ivM, e, bd_some]
end NightsM
