set_option linter.unusedVariables false
set_option linter.unusedSimpArgs false
set_option maxRecDepth 100000
/-! ===== the readers' state in both; faults ===== -/
abbrev RsR (B : Mem) (c : Cl) (T : List Cl) (m : MS) (tp : Nat → Int32) (to most p : Nat) : Prop := (RdX B c tp to most) ∧ (Tk (mNx B) c T m.r tp to) ∧ (m.tape = tp) ∧ (m.r.size = n2 to) ∧ (m.r.limit = n2 most) ∧ (p ≤ to) ∧ (c.i 127 = n2 p) ∧ (m.r.p = n2 p) ∧ (m.r.fault = 0)
theorem RsR.R {B : Mem} {c : Cl} {T : List Cl} {m : MS} {tp : Nat → Int32} {to most p : Nat} (self : RsR B c T m tp to most p) : RdX B c tp to most := self.1
theorem RsR.K {B : Mem} {c : Cl} {T : List Cl} {m : MS} {tp : Nat → Int32} {to most p : Nat} (self : RsR B c T m tp to most p) : Tk (mNx B) c T m.r tp to := self.2.1
theorem RsR.tape {B : Mem} {c : Cl} {T : List Cl} {m : MS} {tp : Nat → Int32} {to most p : Nat} (self : RsR B c T m tp to most p) : m.tape = tp := self.2.2.1
theorem RsR.size {B : Mem} {c : Cl} {T : List Cl} {m : MS} {tp : Nat → Int32} {to most p : Nat} (self : RsR B c T m tp to most p) : m.r.size = n2 to := self.2.2.2.1
theorem RsR.limit {B : Mem} {c : Cl} {T : List Cl} {m : MS} {tp : Nat → Int32} {to most p : Nat} (self : RsR B c T m tp to most p) : m.r.limit = n2 most := self.2.2.2.2.1
theorem RsR.le {B : Mem} {c : Cl} {T : List Cl} {m : MS} {tp : Nat → Int32} {to most p : Nat} (self : RsR B c T m tp to most p) : p ≤ to := self.2.2.2.2.2.1
theorem RsR.xp {B : Mem} {c : Cl} {T : List Cl} {m : MS} {tp : Nat → Int32} {to most p : Nat} (self : RsR B c T m tp to most p) : c.i 127 = n2 p := self.2.2.2.2.2.2.1
theorem RsR.mp {B : Mem} {c : Cl} {T : List Cl} {m : MS} {tp : Nat → Int32} {to most p : Nat} (self : RsR B c T m tp to most p) : m.r.p = n2 p := self.2.2.2.2.2.2.2.1
theorem RsR.nf {B : Mem} {c : Cl} {T : List Cl} {m : MS} {tp : Nat → Int32} {to most p : Nat} (self : RsR B c T m tp to most p) : m.r.fault = 0 := self.2.2.2.2.2.2.2.2
def MS.sH2 (m : MS) (h : MH) : MS := (MS.mk (m.thrown) (m.length) (m.seatsPaid) (m.seatsHiss) (m.lays) (m.arranged) (m.tape) (m.s) (m.area) (m.kept) (m.keptPaid) (m.keptHiss) (m.isKept) (m.r) (h) (m.n) (m.c))
section Need
variable {B b' : Mem} {c d : Cl} {T : List Cl} {tp : Nat → Int32} {to most z n s p : Nat} {m : MS}
theorem RdX.kp (R : RdX B c tp to most) (k : Kp c d) : RdX B d tp to most := ⟨R.hB, by rw [k.1]; exact R.t, (k.2.2.2.1 125 (by omega)).trans R.i125, (k.2.2.2.1 126 (by omega)).trans R.i126, (k.2.2.2.2 124 (by decide)).trans R.a124, R.tape, R.to_, R.ms, R.str⟩
/-- the next token -/
theorem RsR.go (S : RsR B c T m tp to most p) : ∃ c' T' z' r' q R, fX5_go (some (mNx B)) (ovs B (c :: T) z) = some ((), ovs B (c' :: T') z') ∧ fX4_next (some 106) (mkM b' n s m) = some ((), mkM b' n s (m.sR r')) ∧ RsR B c' T' (m.sR r') tp to most q ∧ Kp c c' ∧ Kr m.r r' ∧ T' = T ++ R ∧ p ≤ q ∧ (c'.i 128 = 0 ∨ c'.i 128 = 5 ∨ p < q) ∧ T'.length + 4 * p ≤ T.length + 4 * q ∧ z' + 32 * p ≤ z + 32 * q ∧ z ≤ z' := by
  obtain ⟨c', T', z', r', q, R, h1, h2, h3, h4, h5, h6, h7, h8, h9, h10, h11, h12, h13, h14⟩ := D_tok (b' := b') (n := n) (s := s) (T := T) (z := z) S.R S.tape S.size S.limit S.le S.xp S.mp
  refine ⟨c', T', z', r', q, R, h1, h2, ⟨S.R.kp h4, ?_, S.tape, h5.1.trans S.size, h5.2.1.trans S.limit, h10, h7, h8, h5.2.2.1.trans S.nf⟩, h4, h5, h6, h9, h11, h12, h13, h14⟩
  exact h3
theorem X_need1' (a : Int32) (st : Mem) (o : Rf) : fX5_need o 1 a st = some (.inl (), st) := rfl
theorem nsl_6 : nsl 6 = 8 := rfl
def fcC (u v : Int32) : Cl := Cl.mk 6 0 (upq (upq (fun _ => 0) 139 u) 140 v) (fun _ => 0) (fun _ => none)
theorem X_need0' (R : RdX B c tp to most) (a : Int32) : fX5_need (some (mNx B)) 0 a (ovs B (c :: T) z) = some (.inr (mNx B + (1 + T.length)), ovs B (c :: (T ++ [fcC (if c.i 128 = 1 ∨ c.i 128 = 5 then 1 else a) (c.i 129)])) (z + 8)) := by
  have hB : 64 ≤ mNx B := by have := R.hB; omega
  have e1 : nO (ovs B (c :: T) z) 6 = some (some (mNx B + (1 + T.length)), ovs B (c :: (T ++ [Cl.nw 6 0])) (z + 8)) := by
    rw [o_nO (by decide), List.length_cons, Nat.add_comm T.length 1]; rfl
  have len : 1 + T.length < (c :: (T ++ [Cl.nw 6 0])).length := by rw [List.length_cons, List.length_append]; simp -implicitDefEqProofs only [List.length_cons, List.length_nil]; omega
  have at_ : ∀ f : Cl, clD (c :: (T ++ [f])) (1 + T.length) = f := fun f => by
    rw [show 1 + T.length = (T.length + 0) + 1 by omega]
    show clD (T ++ [f]) (T.length + 0) = f
    rw [clD_apR]; rfl
  have set_ : ∀ f g : Cl, clS (c :: (T ++ [f])) (1 + T.length) g = c :: (T ++ [g]) := fun f g => by
    rw [show 1 + T.length = (T.length + 0) + 1 by omega]
    show c :: clS (T ++ [f]) (T.length + 0) g = _
    rw [clS_apR]; rfl
  have lenf : ∀ f : Cl, decide (1 + T.length < (c :: (T ++ [f])).length) = true := fun f => decide_eq_true (by rw [List.length_cons, List.length_append]; simp -implicitDefEqProofs only [List.length_cons, List.length_nil]; omega)
  have ex : exi 6 (ovs B (c :: (T ++ [Cl.nw 6 0])) (z + 8)) (some (mNx B + (1 + T.length))) = some (ovs B (c :: (T ++ [Cl.nw 6 0])) (z + 8)) := by
    obtain ⟨c1, c2, c3, c4, c5⟩ := ov_ce (B := B) (z := z + 8) len
    rw [at_] at c1 c5
    exact if_pos ⟨by omega, by rw [ov_nx]; omega, c1, by rw [c5]; rfl⟩
  have p1 : ∀ (f : Cl) (k : Nat) (v : Int32), okPI f.t k = true → pI (ovs B (c :: (T ++ [f])) (z + 8)) (some (mNx B + (1 + T.length))) k v = some (ovs B (c :: (T ++ [f.sI k v])) (z + 8)) := fun f k v hk => by
    have := o_pI (B := B) (L := c :: (T ++ [f])) (z := z + 8) (i := 1 + T.length) (f := k) (v := v) hB (lenf f) (by rw [at_]; exact hk)
    rw [at_, set_] at this; exact this
  have th : thr (α := Unit) (some (mNx B + (1 + T.length))) (ovs B (c :: (T ++ [((Cl.nw 6 0).sI 139 (if c.i 128 = 1 ∨ c.i 128 = 5 then 1 else a)).sI 140 (c.i 129)])) (z + 8)) = some (.inr (mNx B + (1 + T.length)), ovs B (c :: (T ++ [((Cl.nw 6 0).sI 139 (if c.i 128 = 1 ∨ c.i 128 = 5 then 1 else a)).sI 140 (c.i 129)])) (z + 8)) := by
    have l := of_decide_eq_true (lenf (((Cl.nw 6 0).sI 139 (if c.i 128 = 1 ∨ c.i 128 = 5 then 1 else a)).sI 140 (c.i 129)))
    exact if_pos ⟨by omega, by rw [ov_nx]; omega⟩
  have G128 : gI (ovs B (c :: (T ++ [Cl.nw 6 0])) (z + 8)) (some (mNx B)) 128 = some (c.i 128) := rd_get R.t rfl
  have G129 : gI (ovs B (c :: (T ++ [Cl.nw 6 0])) (z + 8)) (some (mNx B)) 129 = some (c.i 129) := rd_get R.t rfl
  have o1 : okPI 6 139 = true := by decide
  have o2 : okPI 6 140 = true := by decide
  have core : ∀ v, v = (if c.i 128 = 1 ∨ c.i 128 = 5 then 1 else a) → bX5_need_29 (some (mNx B)) (some (mNx B + (1 + T.length))) (some (mNx B + (1 + T.length))) v (ovs B (c :: (T ++ [Cl.nw 6 0])) (z + 8)) = some (.inr (mNx B + (1 + T.length)), ovs B (c :: (T ++ [fcC (if c.i 128 = 1 ∨ c.i 128 = 5 then 1 else a) (c.i 129)])) (z + 8)) := by
    intro v hv
    unfold bX5_need_29 fX7_init
    simp -implicitDefEqProofs only [Option.bind_some, bd_some, b2i_0, Bool.true_eq_false, Bool.false_eq_true, eq_self, if_true, if_false, not_true_eq_false, not_false_eq_true, G129, nn_some, ex, p1 (Cl.nw 6 0) 139 v o1, p1 ((Cl.nw 6 0).sI 139 v) 140 (c.i 129) o2]
    rw [hv, th]; rfl
  unfold fX5_need bX5_need_24
  by_cases h1 : c.i 128 = 1
  · refine Eq.trans ?_ (core 1 (by rw [if_pos (Or.inl h1)]))
    simp -implicitDefEqProofs only [Option.bind_some, bd_some, b2i_0, Bool.true_eq_false, Bool.false_eq_true, eq_self, if_true, if_false, not_true_eq_false, not_false_eq_true, e1, G128, h1]
  · by_cases h5 : c.i 128 = 5
    · refine Eq.trans ?_ (core 1 (by rw [if_pos (Or.inr h5)]))
      simp -implicitDefEqProofs only [Option.bind_some, bd_some, b2i_0, Bool.true_eq_false, Bool.false_eq_true, eq_self, if_true, if_false, not_true_eq_false, not_false_eq_true, e1, G128, h5, show ((5 : Int32) = 1) = False from eq_false (by decide)]
    · refine Eq.trans ?_ (core a (by rw [if_neg (fun h => h.elim h1 h5)]))
      simp -implicitDefEqProofs only [Option.bind_some, bd_some, b2i_0, Bool.true_eq_false, Bool.false_eq_true, eq_self, if_true, if_false, not_true_eq_false, not_false_eq_true, e1, G128, h1, h5]
theorem M_bad (v : Int32) : fX4_bad (some 106) v (mkM b' n s m) = some (0, mkM b' n s (m.sR (m.r.sF v m.r.place))) := by
  unfold fX4_bad
  simp -implicitDefEqProofs only [gM_55, gM_57, gM_58, gM_59, gM_60, gM_64, gM_65, gM_66, gM_67, gM_68, gM_69, gM_70, gM_71, gM_72, gM_73, gM_74, gM_75, gM_76, gM_77, gM_81, gM_82, gM_83, gM_85, gM_86, gM_91, gM_92, gM_93, gM_94, gM_95, gM_96, gM_97, gM_98, gM_99, gM_100, gM_102, gM_103, gM_107, gM_108, gM_110, gM_111, gM_112, gM_113, gM_114, gM_115, gM_118, gM_119, gM_56, aM_107, nM_107, gM_61, aM_108, nM_108, gM_62, aM_109, nM_109, gM_63, aM_110, nM_110, gM_78, aM_111, nM_111, gM_79, aM_112, nM_112, gM_80, aM_113, nM_113, gM_84, aM_114, nM_114, gM_87, aM_115, nM_115, gM_88, aM_116, nM_116, gM_89, aM_117, nM_117, gM_90, aM_118, nM_118, gM_101, aM_119, nM_119, gM_104, aM_120, nM_120, gM_105, aM_121, nM_121, gM_106, aM_122, nM_122, gM_109, aM_123, nM_123, gM_116, aM_124, nM_124, gM_117, aM_125, nM_125, gM_120, aM_126, nM_126, gM_121, aM_127, nM_127, gM_122, aM_128, nM_128, gM_123, aM_129, nM_129, pM_55, pM_57, pM_58, pM_59, pM_60, pM_64, pM_65, pM_66, pM_67, pM_68, pM_69, pM_70, pM_71, pM_72, pM_73, pM_74, pM_75, pM_76, pM_77, pM_81, pM_82, pM_83, pM_85, pM_86, pM_91, pM_92, pM_93, pM_94, pM_95, pM_96, pM_97, pM_98, pM_99, pM_100, pM_102, pM_103, pM_107, pM_108, pM_110, pM_111, pM_112, pM_113, pM_114, pM_115, pM_118, pM_119, uM_107, uM_108, uM_109, uM_110, uM_111, uM_112, uM_113, uM_114, uM_115, uM_116, uM_117, uM_118, uM_119, uM_120, uM_121, uM_122, uM_123, uM_124, uM_125, uM_126, uM_127, uM_128, uM_129, ivM, Option.bind_some, bd_some, mk_MS_thrown, mk_MS_length, mk_MS_seatsPaid, mk_MS_seatsHiss, mk_MS_lays, mk_MS_arranged, mk_MS_tape, mk_MS_s, mk_MS_area, mk_MS_kept, mk_MS_keptPaid, mk_MS_keptHiss, mk_MS_isKept, mk_MS_r, mk_MS_h, mk_MS_n, mk_MS_c, mk_MR_size, mk_MR_p, mk_MR_limit, mk_MR_token, mk_MR_place, mk_MR_span, mk_MR_number, mk_MR_fault, mk_MR_faultAt, mk_MR_word, mk_MR_got, mk_MH_lines, mk_MH_prices, mk_MH_leavings, mk_MH_onces, mk_MH_codeMany, mk_MH_pileMany, mk_MH_ones, mk_MH_coming, mk_MH_hh, mk_MH_newCues, mk_MH_code, mk_MH_pile, mk_MN_paidNow, mk_MN_hissNow, mk_MN_clapping, mk_MN_standing, mk_MN_low, mk_MN_high, mk_MN_gone, mk_MN_cueNext, mk_MN_nightHeight, mk_MN_nightCarries, mk_MN_held, mk_MN_claps, mk_MN_stand, mk_MN_heldLow, mk_MN_heldHigh, mk_MC_askedMany, mk_MC_bought, mk_MC_worthMany, mk_MC_allOrders, mk_MC_hasSides, mk_MC_seenClaps, mk_MC_seenStand, mk_MC_seenAll, mk_MC_beganA, mk_MC_beganB, mk_MC_seed, mk_MC_asked, mk_MC_carried, mk_MC_heights, mk_MC_worths, mk_MC_side, mk_MC_otherClaps, mk_MC_otherStand, mk_NT_paid, mk_NT_hiss, mk_NT_c1, mk_NT_c2, mk_NT_lo, mk_NT_hi, mk_NT_next, mk_Ac_a1, mk_Ac_a2, mk_Ac_l, mk_Ac_h, MS.sR, MR.sF]
end Need
