set_option linter.unusedVariables false
set_option linter.unusedSimpArgs false
set_option maxRecDepth 100000
/-! ===== the command cues ===== -/
section CuesC
variable {b b' : Mem} {n s : Nat} {x : XS} {m : MS} {H : HS} {C : List Cu} {h c : Nat} {K : Nat → Option (HS × List Cu)}
/-- the model's copy at the end -/
theorem M_cp2 {q : MS} {k : Nat} (hk : k ≤ 30) (hc : q.h.coming = n2 k) : ∀ (j F i : Nat) (f0 : Nat → Int32), i + j = 3 * k → j < F →
    ∃ f, bX4_cues_83 F (some 106) (n2 i) (mkM b' n s (q.ss f0)) = some (n2 k, mkM b' n s (q.ss f)) ∧ ∀ v, f v = if 591 + i ≤ v ∧ v < 591 + 3 * k then q.h.newCues (v - 591) else f0 v := by
  have gc : ∀ f, gI (mkM b' n s (q.ss f)) (some 106) 86 = some (n2 k) := fun f => gM_86.trans (congrArg some hc)
  have t3 : (3 : Int32) * n2 k = n2 (3 * k) := by rw [li_3, n2_mul]
  intro j
  induction j with
  | zero =>
    intro F i f0 hi hF
    obtain ⟨F, rfl⟩ : ∃ w, F = w + 1 := ⟨F - 1, by omega⟩
    have ei : i = 3 * k := by omega
    subst ei
    refine ⟨f0, ?_, fun v => by rw [if_neg (by omega)]⟩
    show bX4_cues_83B _ _ _ _ = _
    unfold bX4_cues_83B
    simp -implicitDefEqProofs only [Option.bind_some, bd_some, b2i_0, Bool.true_eq_false, Bool.false_eq_true, eq_self, if_true, if_false, not_true_eq_false, not_false_eq_true, gc, t3, show (n2 (3 * k) ≤ n2 (3 * k)) = True from eq_true (Int32.le_refl _)]
  | succ j ih =>
    intro F i f0 hi hF
    obtain ⟨F, rfl⟩ : ∃ w, F = w + 1 := ⟨F - 1, by omega⟩
    have le : (n2 (3 * k) ≤ n2 i) = False := by rw [n2_le (by omega) (by omega)]; exact eq_false (by omega)
    have ac : aI (mkM b' n s (q.ss f0)) (some 110) (n2 i) = some (q.h.newCues i) := by
      rw [aM_110, ifx_k (show i < 90 by omega) (by omega), n2_nat (by omega)]; rfl
    have ix : (591 : Int32) + n2 i = n2 (591 + i) := by rw [li_591, n2_add]
    have us : ∀ v, uI (mkM b' n s (q.ss f0)) (some 108) (n2 (591 + i)) v = some (mkM b' n s (q.ss (upq f0 (591 + i) v))) := fun v => by
      rw [uM_108, ifx_k (show 591 + i < 681 by omega) (by omega), n2_nat (by omega)]; rfl
    have e1 : n2 i + 1 = n2 (i + 1) := n2_add i 1
    obtain ⟨f, f1, f2⟩ := ih F (i + 1) (upq f0 (591 + i) (q.h.newCues i)) (by omega) (by omega)
    refine ⟨f, ?_, fun v => ?_⟩
    · rw [← f1]
      show bX4_cues_83B (bX4_cues_83 F) _ _ _ = _
      unfold bX4_cues_83B
      simp -implicitDefEqProofs only [Option.bind_some, bd_some, b2i_0, Bool.true_eq_false, Bool.false_eq_true, eq_self, if_true, if_false, not_true_eq_false, not_false_eq_true, gc, t3, le, gM_61, gM_63, ac, ix, us, e1]
    · rw [f2 v]
      by_cases ev : v = 591 + i
      · rw [if_neg (by omega), ev, upq_self, if_pos (by omega), Nat.add_sub_cancel_left]
      · rw [upq_ne _ _ ev]
        by_cases cv : 591 + (i + 1) ≤ v ∧ v < 591 + 3 * k
        · rw [if_pos cv, if_pos (by omega)]
        · rw [if_neg cv, if_neg (by omega)]
theorem LsC.cues {B : Mem} {c0 : Cl} {T : List Cl} {z : Nat} {Cs : List Cu} (L : LsC (mNx B) T Cs) (hB : 131 ≤ mNx B) (t52 : mTag B 52 = 104) (len : Cs.length ≤ 30) (ok : ∀ i (hi : i < Cs.length), Cs[i].t ≤ 600 ∧ Cs[i].w ≤ 3 ∧ Cs[i].s < 64) : XCues (ovs B (c0 :: T) z) (mNx B + (1 + 0)) Cs := by
  obtain ⟨l1, l2, l3⟩ := L.tag
  have ce : ∀ i, i < T.length → Ce (ovs B (c0 :: T) z) (mNx B + (1 + i)) (clD T i) := fun i hi => by
    have := ov_ce (B := B) (z := z) (tc_len (c := c0) hi)
    rw [tc_at] at this; exact this
  have lt : ∀ i, i < T.length → mNx B + (1 + i) < mNx (ovs B (c0 :: T) z) := fun i hi => by rw [ov_nx, List.length_cons]; omega
  have c1 := ce 0 l1
  refine ⟨⟨Or.inl (by omega), lt 0 l1⟩, c1.1.trans l2, by rw [c1.2.2.1]; exact l3, len, ok, ?_⟩
  rcases L with ⟨h1, h2, h3, h4, h5⟩ | ⟨h1, d, cs, h2, h3⟩
  · subst h1
    refine ⟨52, by rw [c1.2.2.2.2]; exact h5, ⟨by unfold dyn; omega, by rw [ov_nx]; omega⟩, ?_, Nat.zero_le _, fun i hi => absurd hi (Nat.not_lt_zero i)⟩
    rw [(ov_lt (L := c0 :: T) (z := z) (show 52 < mNx B by omega)).1]; exact t52
  · obtain ⟨a1, a2, a3, a4, a5, a6, a7, a8, a9, a10, a11⟩ := h2
    have cd := ce d a5
    refine ⟨mNx B + (1 + d), by rw [c1.2.2.2.2]; exact a4, ⟨Or.inl (by omega), lt d a5⟩, cd.1.trans a7, by rw [cd.2.1, a8]; exact a9, fun i hi => ?_⟩
    obtain ⟨q1, q2, q3, q4⟩ := h3 i hi
    have cc := ce (cs i) q1
    exact ⟨mNx B + (1 + cs i), by rw [cd.2.2.2.2]; exact a11 i hi, ⟨Or.inl (by omega), lt _ q1⟩, cc.1.trans q2, by rw [cc.2.2.1]; exact q3, fun w => by rw [cc.2.2.1]; exact q4 w⟩
theorem duo_cs {st : Mem} {S : Nat → Int32} {cN : Nat} {C' : List Cu} (R : Duo b x m H C h c K) (E : Ext b st) (XC : XCues st cN C') (MH : MHouse S H) (MC : MCues S C') : Duo st (x.sCu (some cN)) (m.ss S) H C' h cN K := by
  have R2 := R.ext E
  exact ⟨R2.hb, R2.fz, R2.ok, R2.ar, R2.XH, R2.xh, XC, rfl, MH, MC, R2.lays, R2.l01, R2.tape, R2.len, R2.fault, R2.paid, R2.hiss, R2.bought, R2.worth, R2.sided, R2.b1, R2.b2, R2.arranged, R2.kept, R2.keptC⟩
theorem duo_cu {st : Mem} {r : MR} {g : MH} {w : Int32} {S : Nat → Int32} {cN : Nat} {C' : List Cu} (R : Duo b x m H C h c K) (E : Ext b st) (XC : XCues st cN C') (MH : MHouse S H) (MC : MCues S C') (hf : r.fault = 0) : Duo st ((x.tp0.sFa 0).sCu (some cN)) ((((m.th 0).tk w).sRH r g).ss S) H C' h cN K := by
  have R1 := duo_rd (r := r) (g := g) (w := w) R
  rw [hf] at R1
  exact duo_cs R1 E XC MH MC
theorem C_cues (R : Duo b x m H C h c K) : ∃ r b2 x' m' C' c', fX1_cues (some 64) (mkX b x) = some (r, mkX b2 x') ∧ fX4_cues (some 106) (mkM b' n s m) = some (r, mkM b' n s m') ∧ Duo b2 x' m' H C' h c' K ∧ Ans b b2 := by
  have hb := R.hb
  obtain ⟨to, hto, k1, k2⟩ := R.len
  obtain ⟨m0, hm0⟩ : ∃ m0, m0 = (m.th 0).tk 400 := ⟨_, rfl⟩
  have ms : m0.r.size = n2 to := by rw [hm0]; exact k2
  have ml : m0.r.limit = n2 400 := by rw [hm0]; rfl
  have mp : m0.r.p = n2 0 := by rw [hm0]; rfl
  have mt : m0.tape = x.tape := by rw [hm0]; exact R.tape.symm
  have mH : MHouse m0.s H := by rw [hm0]; exact R.MH
  obtain ⟨r1, hr1⟩ : ∃ r1, r1 = m0.r.sF 0 m0.r.faultAt := ⟨_, rfl⟩
  obtain ⟨h1, hh1⟩ : ∃ h1, h1 = m0.h.sCo 0 := ⟨_, rfl⟩
  have M0 : fX4_cues (some 106) (mkM b' n s m) = bd (fX4_next (some 106) (mkM b' n s (m0.sRH r1 h1))) fun _ st => bX4_cues_26 hcFuel (some 106) st := by
    have e0 : pI (mkM b' n s m0) (some 106) 68 0 = some (mkM b' n s (m0.sRH r1 m0.h)) := by
      have := p_fa (b' := b') (n := n) (s := s) (m := m0) (r := m0.r) (h := m0.h) (w := 0)
      rw [sRH_self] at this; rw [hr1]; exact this
    have t0 : fX4_taken (some 106) (400 : Int32) (mkM b' n s (m.th 0)) = some ((), mkM b' n s m0) := by rw [hm0]; exact M_taken _
    unfold fX4_cues
    generalize hcFuel = fu
    simp -implicitDefEqProofs only [Option.bind_some, bd_some, b2i_0, Bool.true_eq_false, Bool.false_eq_true, eq_self, if_true, if_false, not_true_eq_false, not_false_eq_true, pM_55', ivM, t0, e0, p_co]
    rw [hh1]
  obtain ⟨x1, hx1⟩ : ∃ x1, x1 = x.tp0.sFa 0 := ⟨_, rfl⟩
  have xt : x1.tape = x.tape := by rw [hx1]; rfl
  obtain ⟨B, hBdef⟩ : ∃ B, B = mkX b x1 := ⟨_, rfl⟩
  have nB : mNx B = mNx b := by rw [hBdef]; rfl
  have sB : mNs B = mNs b := by rw [hBdef]; rfl
  have hB : 131 ≤ mNx B := by rw [nB]; exact hb
  have hB64 : 64 ≤ mNx B := by omega
  have grow : ∀ (L : List Cl) (z : Nat), mkX (ovs B L z) x1 = ovs B L z ∧ Ext b (ovs B L z) := fun L z =>
    grow_of (b := b) (x := x1) hb (by rw [ov_nx, nB]; omega) (fun a ha => by rw [← hBdef]; exact ov_lt (by rw [nB]; exact ha))
  have EB : Ext b B := by
    have := (grow [] 0).2
    rw [ov_nil] at this; exact this
  have FB := R.fz.ext EB hb
  obtain ⟨c0, T0, i0, i1, i2', i4, i5, i6, i7, i8, i9, i10, i11⟩ := X_cInit (B := B) (to := n2 to) (h := some h) hB64
  have nO13 : nO B 13 = some (some (mNx B), ovs B [Cl.nw 13 0] 11) := by
    have := o_nO (B := B) (L := []) (z := 0) (t := 13) (by decide)
    rw [ov_nil] at this; exact this
  rw [nO13, bd_some, nn_some] at i0
  have i0' := bd_inv i0
  have gA1 : gA (ovs B [Cl.nw 13 0] 11) (some 64) 1 = some (some 65) := by rw [oo_gA (by omega), hBdef]; exact gX_1 hb
  have gA4 : gA (ovs B [Cl.nw 13 0] 11) (some 64) 4 = some (some h) := by
    rw [oo_gA (by omega), hBdef, gX_4 hb, hx1]; exact congrArg some R.xh
  have R0 : RdX B c0 x.tape to 400 := by
    refine ⟨hB, by rw [i1]; rfl, i2'.1, i2'.2.1, i4, fun k hk => ?_, hto, by decide, FB.1⟩
    rw [hBdef, aX_65 hb, ifx_k hk (by omega), n2_nat (by omega), xt]
  have XHB : ∀ L z, XHouse (ovs B L z) h H := fun L z => R.XH.ext (grow L z).2
  have O : HsO B h H := by
    refine ⟨fun L z => ?_, fun L z => ?_, fun L z o => ?_, fun L z v hv => ?_⟩
    · have := xh_28 (x := x1) (XHB L z)
      rw [(grow L z).1] at this; exact this
    · have := xh_29 (x := x1) (XHB L z)
      rw [(grow L z).1] at this; exact this
    · have := xh_iv (x := x1) (z := o) (XHB L z)
      rw [(grow L z).1] at this; exact this
    · have := X_isSeatN (x := x1) (XHB L z) R.ok (v := v) (by omega)
      rw [(grow L z).1] at this; exact this
  have X0 : fX1_cues (some 64) (mkX b x) = bc (bd (fX5_go (some (mNx B)) (ovs B (c0 :: T0) 14)) fun _ st => bX17_read_6 hcFuel (some (mNx B)) (0 : Int32) st) (fun z27 st => hg st z27 6 (bX1_cues_41 (some 64) (some z27) st)) fun x27 st => (pA st (some 64) 7 x27).bind fun st => (gA st (some 64) 7).bind fun x34 => bd (iv st x34 [18] (fJ3_size x34 st)) fun x37 st => some (x37, st) := by
    have pf : pI (mkX b x.tp0) (some 64) 3 0 = some B := by rw [pX_3' hb, hBdef, hx1]
    have iv13 : ∀ {α : Type} (o : Option α), iv (ovs B (c0 :: T0) 14) (some (mNx B)) [13] o = o := fun o => rd_iv13 i1
    unfold fX1_cues fX17_read
    generalize hcFuel = fu
    simp -implicitDefEqProofs only [Option.bind_some, bd_some, b2i_0, Bool.true_eq_false, Bool.false_eq_true, eq_self, if_true, if_false, not_true_eq_false, not_false_eq_true, ivX hb, X_take hb, k1, pf, nO13, gA1, gA4, nn_some, i0', iv13]
  rw [X0, M0]
  obtain ⟨c1, T1, z1, r2, q, R1, g1, g2, K1, Kp1, Kr1, T1e, a127, ap, pq, qt, dec, lT, lz, zz⟩ := D_tok (b' := b') (n := n) (s := s) (T := T0) (z := 14) (m := m0.sRH r1 h1) (p := 0) R0 mt (by rw [sRH_r, hr1]; exact ms) (by rw [sRH_r, hr1]; exact ml) (by omega) (by rw [i2'.2.2.1]; rfl) (by rw [sRH_r, hr1]; exact mp)
  rw [sRH_sR] at g2
  rw [sRH_r] at Kr1
  have CR1 : CR B m0 x.tape to 400 (3 + 4 * to) (22 + 16 * to) c1 T1 z1 r2 h1 q [] 0 h := by
    refine ⟨⟨R0.kp Kp1, K1, mt, ?_, ?_, qt, a127, ap, ?_⟩, ?_, Kp1.1.trans i1, ?_, ?_, ?_, ?_, by decide, fun i hi => absurd hi (Nat.not_lt_zero i), fun i hi => absurd hi (Nat.not_lt_zero i), fun _ => rfl, fun q => absurd q (Nat.lt_irrefl 0), by decide⟩
    · rw [sRH_r, Kr1.1, hr1]; exact ms
    · rw [sRH_r, Kr1.2.1, hr1]; exact ml
    · rw [sRH_r, Kr1.2.2.1, hr1]; rfl
    · have e1 : gkN ([] : List Cu).length = 0 := rfl
      have e2 : gzN ([] : List Cu).length = 0 := rfl
      rw [e1, e2]
      unfold nu
      constructor
      · split <;> omega
      · split <;> omega
    · rw [Kp1.2.2.2.2 148 (by decide), i5]
    · rw [Kp1.2.2.2.2 149 (by decide), i6]
    · rw [T1e]
      refine LsC.app (Or.inl ⟨rfl, by omega, i8, by rw [i9]; rfl, i11⟩)
    · rw [hh1]; rfl
  rw [g1, g2, bd_some, bd_some]
  rcases L_cues (b' := b') (n := n) (s := s) FB.2.1 FB.2.2 O R.ok mH (nu c1 to q + 1) hcFuel hcFuel c1 T1 z1 r2 h1 q [] 0 (Nat.lt_succ_self _) (by unfold nu hcFuel; split <;> omega) (by unfold nu hcFuel; split <;> omega) CR1 with ⟨c2, T2, z2, r3, h3, q3, Cs, tl, e1, e2, X3⟩ | ⟨e, c2, T2, z2, r3, h3, e1, e2, el, et, e9, e0, bT, bz⟩
  · -- cues
    have e1' : bX17_read_6 hcFuel (some (mNx B)) (0 : Int32) (ovs B (c1 :: T1) z1) = some (.inl (some (mNx B + (1 + 0))), ovs B (c2 :: T2) z2) := e1
    rw [e1', e2]
    obtain ⟨G1, E1⟩ := grow (c2 :: T2) z2
    have XCn := X3.ls.cues (c0 := c2) (z := z2) hB FB.2.1 X3.len X3.ok
    obtain ⟨st, hst⟩ : ∃ st, st = ovs B (c2 :: T2) z2 := ⟨_, rfl⟩
    have l2 : mNx st = mNx B + (T2.length + 1) := by rw [hst, ov_nx, List.length_cons]
    have z2' : mNs st = mNs B + z2 := by rw [hst, ov_ns]
    rw [← hst] at G1 E1 XCn ⊢
    have hbs : 131 ≤ mNx st := Nat.le_trans hb E1.1
    have k30 := X3.len
    -- the model's copy
    have u0 : uI (mkM b' n s (m0.sRH r3 h3)) (some 108) (590 : Int32) (n2 Cs.length) = some (mkM b' n s ((m0.sRH r3 h3).ss (upq m0.s 590 (n2 Cs.length)))) := by
      rw [li_590, uM_108, ifx_k (by decide) (by decide), n2_nat (by decide)]; rfl
    obtain ⟨f, f1, f2⟩ := M_cp2 (b' := b') (n := n) (s := s) (q := m0.sRH r3 h3) k30 X3.co (3 * Cs.length) hcFuel 0 (upq m0.s 590 (n2 Cs.length)) (by omega) (by unfold hcFuel; omega)
    have f1' : bX4_cues_83 hcFuel (some 106) (0 : Int32) (mkM b' n s ((m0.sRH r3 h3).ss (upq m0.s 590 (n2 Cs.length)))) = some (n2 Cs.length, mkM b' n s ((m0.sRH r3 h3).ss f)) := f1
    rw [u0, Option.bind_some, f1']
    have fl : ∀ v, v < 590 → f v = m0.s v := fun v hv => by rw [f2, if_neg (by omega), upq_ne _ _ (by omega)]
    have f590 : f 590 = n2 Cs.length := by rw [f2, if_neg (by omega), upq_self]
    have fh : ∀ v, v < 3 * Cs.length → f (591 + v) = h3.newCues v := fun v hv => by rw [f2, if_pos (by omega), Nat.add_sub_cancel_left, sRH_h]
    have MHS : MHouse f H := by
      refine ⟨by rw [fl _ (by omega)]; exact mH.rows, by rw [fl _ (by omega)]; exact mH.cols, by rw [fl _ (by omega)]; exact mH.seats, by rw [fl _ (by omega)]; exact mH.carry, by rw [fl _ (by omega)]; exact mH.paid, by rw [fl _ (by omega)]; exact mH.byRows, fun v hv => by rw [fl _ (by omega)]; exact mH.kind v hv, fun q hq => by rw [fl _ (by omega)]; exact mH.price q hq, fun q hq => by rw [fl _ (by omega)]; exact mH.leaves q hq, fun k w hk hw hl => by rw [fl _ (by omega)]; exact mH.law0 k w hk hw hl, fun k w cn o hk hw hl => ?_⟩
      obtain ⟨l, L⟩ := mH.law k w cn o hk hw hl
      have h40 := L.short
      exact ⟨l, L.post, by rw [fl _ (by omega)]; exact L.ones_, by rw [fl _ (by omega)]; exact L.len, fun i hi => by rw [fl _ (by omega)]; exact L.code i hi, L.short, L.lvs⟩
    have MCS : MCues f Cs := by
      refine ⟨f590, k30, fun i hi => ?_, fun i hi => ?_, fun i hi => ?_, X3.ok⟩
      · rw [fh _ (by omega)]; exact (X3.nt i hi).1
      · rw [Nat.add_assoc, fh _ (by omega)]; exact (X3.nt i hi).2.1
      · rw [Nat.add_assoc, fh _ (by omega)]; exact (X3.nt i hi).2.2
    have D := duo_cu (r := r3) (g := h3) (w := 400) (S := f) R E1 XCn MHS MCS X3.S.nf
    rw [← hm0, ← hx1] at D
    have bcl : ∀ (v : Rf) (st : Mem) (gg : Nat → Mem → Option (Int32 × Mem)) (f : Rf → Mem → Option (Int32 × Mem)), bc (some (Sum.inl v, st)) gg f = f v st := fun _ _ _ _ => rfl
    have pp7 : pA st (some 64) 7 (some (mNx B + (1 + 0))) = some (mkX st (x1.sCu (some (mNx B + (1 + 0))))) := by
      have := pX_7' (b := st) (x := x1) (v := some (mNx B + (1 + 0))) hbs
      rw [G1] at this; exact this
    have g7 : gA (mkX st (x1.sCu (some (mNx B + (1 + 0))))) (some 64) 7 = some (some (mNx B + (1 + 0))) := by
      rw [gX_7 hbs]; rfl
    refine ⟨n2 Cs.length, st, x1.sCu (some (mNx B + (1 + 0))), _, Cs, mNx B + (1 + 0), ?_, rfl, D, ?_⟩
    · rw [bcl, pp7, Option.bind_some, g7, Option.bind_some, xc_iv XCn, xc_size XCn, bd_some]
    · obtain ⟨b1, b2⟩ := X3.g
      have qle := X3.S.le
      have gk4 := gkN_le Cs.length
      have gz80 := gzN_le Cs.length
      exact ⟨by omega, by omega, by omega, by omega⟩
  · -- a fault
    have e1' : bX17_read_6 hcFuel (some (mNx B)) (0 : Int32) (ovs B (c1 :: T1) z1) = some (.inr (mNx B + (1 + e)), ovs B (c2 :: T2) z2) := e1
    rw [e1', e2]
    obtain ⟨G1, E1⟩ := grow (c2 :: T2) z2
    have ce := ov_ce (B := B) (z := z2) (tc_len (c := c2) el)
    rw [tc_at] at ce
    have lt := tc_len (c := c2) el
    obtain ⟨st, hst⟩ : ∃ st, st = ovs B (c2 :: T2) z2 := ⟨_, rfl⟩
    have l2 : mNx st = mNx B + (T2.length + 1) := by rw [hst, ov_nx, List.length_cons]
    have z2' : mNs st = mNs B + z2 := by rw [hst, ov_ns]
    rw [← hst] at G1 E1 ce ⊢
    have hbs : 131 ≤ mNx st := Nat.le_trans hb E1.1
    have dn : dyn (mNx B + (1 + e)) := Or.inl (by omega)
    have li : mNx B + (1 + e) < mNx st := by rw [List.length_cons] at lt; omega
    have hgo : ∀ {α : Type} (o : Option α), hg st (mNx B + (1 + e)) 6 o = o := fun o => if_pos ⟨ce.1.trans et, li⟩
    have D := (duo_rd (r := r3) (g := h3) (w := 400) R).ext E1
    rw [← hm0] at D
    refine ⟨-1 - r3.faultAt, st, x.tp0.sFa r3.fault, _, C, c, ?_, rfl, D, ⟨by omega, by omega, by omega, by omega⟩⟩
    have bcr : ∀ (v : Nat) (st : Mem) (gg : Nat → Mem → Option (Int32 × Mem)) (f : Rf → Mem → Option (Int32 × Mem)), bc (some (Sum.inr v, st)) gg f = gg v st := fun _ _ _ _ => rfl
    rw [bcr, hgo]
    unfold bX1_cues_41
    have q1 : gI st (some (mNx B + (1 + e))) 139 = some r3.fault := by
      have := dI (b := st) (x := x1) (a := mNx B + (1 + e)) (t := 6) (f := 139) dn li (ce.1.trans et) (by decide)
      rw [G1, ce.2.2.1, e9] at this; exact this
    have q2 : pI st (some 64) 3 r3.fault = some (mkX st (x.tp0.sFa r3.fault)) := by
      have := pX_3' (b := st) (x := x1) (v := r3.fault) hbs
      rw [G1] at this
      rw [this, hx1]; rfl
    have q3 : gI (mkX st (x.tp0.sFa r3.fault)) (some (mNx B + (1 + e))) 140 = some r3.faultAt := by
      rw [dI (b := st) (a := mNx B + (1 + e)) (t := 6) (f := 140) dn li (ce.1.trans et) (by decide), ce.2.2.1, e0]
    rw [q1, Option.bind_some, q2, Option.bind_some, q3, Option.bind_some]
end CuesC
