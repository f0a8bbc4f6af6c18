set_option linter.unusedVariables false
set_option linter.unusedSimpArgs false
set_option maxRecDepth 100000
section HouseD
variable {b b' : Mem} {n s : Nat} {x : XS} {m : MS} {H : HS} {C : List Cu} {h c : Nat} {K : Nat → Option (HS × List Cu)}
theorem C_house (R : Duo b x m H C h c K) : ∃ r b2 x' m' H' C' h' c', fX1_house (some 64) (mkX b x) = some (r, mkX b2 x') ∧ fX4_house (some 106) (mkM b' n s m) = some (r, mkM b' n s m') ∧ Duo b2 x' m' H' C' h' c' K ∧ Ans b b2 := by
  have hb := R.hb
  obtain ⟨to, hto, k1, k2⟩ := R.len
  -- the model up to its first token
  obtain ⟨m0, hm0⟩ : ∃ m0, m0 = (m.th 0).tk 900 := ⟨_, rfl⟩
  have ms : m0.r.size = n2 to := by rw [hm0]; exact k2
  have ml : m0.r.limit = n2 900 := by rw [hm0]; rfl
  have mp : m0.r.p = n2 0 := by rw [hm0]; rfl
  have mt : m0.tape = x.tape := by rw [hm0]; exact R.tape.symm
  obtain ⟨r1, hr1⟩ : ∃ r1, r1 = m0.r.sF 0 m0.r.faultAt := ⟨_, rfl⟩
  obtain ⟨h1, hh1⟩ : ∃ h1, h1 = (((m0.h.sLn 0).sPr 0).sLe 0).sOn 0 := ⟨_, rfl⟩
  obtain ⟨F, p1, p2⟩ := M_plain (b' := b') (n := n) (s := s) (m := m0.sRH r1 h1)
  rw [sRH_h, sRH_sH2] at p1
  have hhF : (h1.sHh F).hh = F := rfl
  have M0 : fX4_house (some 106) (mkM b' n s m) = bd (fX4_next (some 106) (mkM b' n s (m0.sRH r1 (h1.sHh F)))) fun _ st => bX4_house_45 hcFuel (some 106) st := by
    have e0 : pI (mkM b' n s m0) (some 106) 68 0 = some (mkM b' n s (m0.sRH r1 m0.h)) := by
      have := p_fa (b' := b') (n := n) (s := s) (m := m0) (r := m0.r) (h := m0.h) (w := 0)
      rw [sRH_self] at this; rw [hr1]; exact this
    have t0 : fX4_taken (some 106) (900 : Int32) (mkM b' n s (m.th 0)) = some ((), mkM b' n s m0) := by rw [hm0]; exact M_taken _
    unfold fX4_house
    generalize hcFuel = fu
    rw [hh1] at p1
    simp -implicitDefEqProofs only [Option.bind_some, bd_some, b2i_0, Bool.true_eq_false, Bool.false_eq_true, eq_self, if_true, if_false, not_true_eq_false, not_false_eq_true, pM_55', ivM, t0, e0, p_lin, p_pr, p_le, p_onc, p1]
    rw [hh1]
  -- HouseClaps up to its first token
  obtain ⟨x1, hx1⟩ : ∃ x1, x1 = x.tp0.sFa 0 := ⟨_, rfl⟩
  have xt : x1.tape = x.tape := by rw [hx1]; rfl
  obtain ⟨B, hBdef⟩ : ∃ B, B = mkX b x1 := ⟨_, rfl⟩
  have nB : mNx B = mNx b := by rw [hBdef]; rfl
  have sB : mNs B = mNs b := by rw [hBdef]; rfl
  have hB : 131 ≤ mNx B := by rw [nB]; exact hb
  have hB64 : 64 ≤ mNx B := by omega
  have grow : ∀ (L : List Cl) (z : Nat), mkX (ovs B L z) x1 = ovs B L z ∧ Ext b (ovs B L z) := fun L z =>
    grow_of (b := b) (x := x1) hb (by rw [ov_nx, nB]; omega) (fun a ha => by rw [← hBdef]; exact ov_lt (by rw [nB]; exact ha))
  obtain ⟨c0, T0, i0, i1, i2', i3, i4, i5, i6⟩ := X_hInit (B := B) (to := n2 to) hB64
  have nO5 : nO B 5 = some (some (mNx B), ovs B [Cl.nw 5 0] 15) := by
    have := o_nO (B := B) (L := []) (z := 0) (t := 5) (by decide)
    rw [ov_nil] at this; exact this
  rw [nO5, bd_some, nn_some] at i0
  have i0' := bd_inv i0
  have gA1 : gA (ovs B [Cl.nw 5 0] 15) (some 64) 1 = some (some 65) := by rw [oo_gA (by omega), hBdef]; exact gX_1 hb
  have R0 : RdX B c0 x.tape to 900 := by
    refine ⟨hB, by rw [i1]; rfl, i2'.1, i2'.2.1, i4, fun k hk => ?_, hto, by decide, fun i hi => ?_⟩
    · rw [hBdef, aX_65 hb, ifx_k hk (by omega), n2_nat (by omega), xt]
    · have := R.fz.1 i hi
      have E : Ext b B := by
        have := (grow [] 0).2
        rw [ov_nil] at this; exact this
      exact this.ext E
  have X0 : fX1_house (some 64) (mkX b x) = bc (bd (fX5_go (some (mNx B)) (ovs B (c0 :: T0) 522)) fun _ st => bX6_read_4 hcFuel (some (mNx B)) st) (fun z23 st => hg st z23 6 (bX1_house_58 (some 64) (some z23) st)) fun x23 st => (pA st (some 64) 4 x23).bind fun st => (pJ st (some 64) 5 (0 : Int64)).bind fun st => (pJ st (some 64) 6 (0 : Int64)).bind fun st => bd (nO st 18) fun x40 st => bd (nn x40 (fJ3_init x40 st)) fun _ st => (pA st (some 64) 7 x40).bind fun st => (gA st (some 64) 4).bind fun x51 => (gI st x51 32).bind fun x54 => some (x54, st) := by
    have pf : pI (mkX b x.tp0) (some 64) 3 0 = some B := by rw [pX_3' hb, hBdef, hx1]
    have iv5 : ∀ {α : Type} (o : Option α), iv (ovs B (c0 :: T0) 522) (some (mNx B)) [5] o = o := fun o => rd_iv5 i1
    unfold fX1_house fX6_read
    generalize hcFuel = fu
    simp -implicitDefEqProofs only [Option.bind_some, bd_some, b2i_0, Bool.true_eq_false, Bool.false_eq_true, eq_self, if_true, if_false, not_true_eq_false, not_false_eq_true, ivX hb, X_take hb, k1, pf, nO5, gA1, nn_some, i0', iv5]
  rw [X0, M0]
  -- the first token
  obtain ⟨c1, T1, z1, r2, q, R1, g1, g2, K1, Kp1, Kr1, T1e, a127, ap, pq, qt, dec, lT, lz, zz⟩ := D_tok (b' := b') (n := n) (s := s) (T := T0) (z := 522) (m := m0.sRH r1 (h1.sHh F)) (p := 0) R0 mt (by rw [sRH_r, hr1]; exact ms) (by rw [sRH_r, hr1]; exact ml) (by omega) (by rw [i2'.2.2.1]; rfl) (by rw [sRH_r, hr1]; exact mp)
  rw [sRH_sR] at g2
  rw [sRH_r] at Kr1
  have t51 : c1.t = 5 := Kp1.1.trans i1
  have lT0 : T0.length = 14 := i6.1
  have HR1 : HR B m0 x.tape to 900 (16 + 4 * to) (530 + 16 * to) c1 T1 z1 r2 (h1.sHh F) q H0 0 := by
    refine ⟨⟨R0.kp Kp1, K1, mt, ?_, ?_, qt, a127, ap, ?_⟩, ?_, t51, ?_, ?_, ?_, ?_, ?_, ?_⟩
    · rw [sRH_r, Kr1.1, hr1]; exact ms
    · rw [sRH_r, Kr1.2.1, hr1]; exact ml
    · rw [sRH_r, Kr1.2.2.1, hr1]; rfl
    · unfold nu
      constructor
      · split <;> omega
      · split <;> omega
    · rw [T1e, hhF]; exact (H0_t i6 p2).app R1
    · rw [Kp1.2.2.2.2 133 (by decide), i5]
    · rw [Kp1.2.2.2.1 134 (by omega), i3.1, hh1]; rfl
    · rw [Kp1.2.2.2.1 135 (by omega), i3.2.1, hh1]; rfl
    · rw [Kp1.2.2.2.1 136 (by omega), i3.2.2.1, hh1]; rfl
    · rw [hh1]; rfl
  rw [g1, g2, bd_some, bd_some]
  rcases L_read (b' := b') (n := n) (s := s) (nu c1 to q + 1) hcFuel hcFuel c1 T1 z1 r2 (h1.sHh F) q H0 0 (Nat.lt_succ_self _) (by unfold nu hcFuel; split <;> omega) (by unfold nu hcFuel; split <;> omega) HR1 with ⟨c2, T2, z2, r3, h3, q3, H3, ln, e1, e2, X3⟩ | ⟨e, c2, T2, z2, r3, h3, e1, e2, el, et, e9, e0, bT, bz⟩
  · -- a house
    rw [e1, e2]
    obtain ⟨G1, E1⟩ := grow (c2 :: T2) z2
    obtain ⟨st, hst⟩ : ∃ st, st = ovs B (c2 :: T2) z2 := ⟨_, rfl⟩
    have XH := X3.ho.house (c := c2) (z := z2) hB
    rw [← hst] at G1 E1 XH ⊢
    have hbs : 131 ≤ mNx st := Nat.le_trans hb E1.1
    have okw : (H3.wAr (fun a v => (clD T2 (8 + a)).j v)).Ok := wAr_ok X3.ho.ok
    obtain ⟨s2, g, o1, o2, o3, o4⟩ := X_open (x := x1) okw XH
    rw [G1] at o1
    have o2' : XHouse s2 (mNx B + 1) (H3.wAr g) := o2
    have o4' : (H3.wAr g).ArOk := o4
    have ok2 : (H3.wAr g).Ok := wAr_ok X3.ho.ok
    have E2 : Ext b s2 := ⟨by rw [o3.1]; exact E1.1, fun a ha hd => (E1.2 a ha hd).trans (o3.2.2 a (Or.inl (by omega)) hd)⟩
    have hb2 : 131 ≤ mNx s2 := Nat.le_trans hb E2.1
    -- the model's copy
    obtain ⟨S, t1, t2⟩ := M_take (b' := b') (n := n) (s := s) 681 hcFuel 0 (m0.sRH r3 h3) (by omega) (by unfold hcFuel; omega) (fun i hi => absurd hi (Nat.not_lt_zero i))
    have t1' : bX4_house_90 hcFuel (some 106) (0 : Int32) (mkM b' n s (m0.sRH r3 h3)) = some (n2 ln, mkM b' n s ((m0.sRH r3 h3).rst S 0 0)) := by
      refine Eq.trans t1 ?_
      rw [sRH_h, X3.ml]
    rw [t1']
    have MHS : MHouse S (H3.wAr g) := by
      have mh : MHouse h3.hh (H3.wAr g) := ⟨X3.ho.mh.rows, X3.ho.mh.cols, X3.ho.mh.seats, X3.ho.mh.carry, X3.ho.mh.paid, X3.ho.mh.byRows, X3.ho.mh.kind, X3.ho.mh.price, X3.ho.mh.leaves, X3.ho.mh.law0, X3.ho.mh.law⟩
      have eS : ∀ i, i < 590 → h3.hh i = S i := fun i hi => by rw [t2 i (by omega), if_pos hi]; rfl
      refine ⟨by rw [← eS _ (by omega)]; exact mh.rows, by rw [← eS _ (by omega)]; exact mh.cols, by rw [← eS _ (by omega)]; exact mh.seats, by rw [← eS _ (by omega)]; exact mh.carry, by rw [← eS _ (by omega)]; exact mh.paid, by rw [← eS _ (by omega)]; exact mh.byRows, fun v hv => by rw [← eS _ (by omega)]; exact mh.kind v hv, fun q hq => by rw [← eS _ (by omega)]; exact mh.price q hq, fun q hq => by rw [← eS _ (by omega)]; exact mh.leaves q hq, fun k w hk hw hl => by rw [← eS _ (by omega)]; exact mh.law0 k w hk hw hl, fun k w cn o hk hw hl => ?_⟩
      obtain ⟨l, L⟩ := mh.law k w cn o hk hw hl
      have h40 := L.short
      exact ⟨l, L.post, by rw [← eS _ (by omega)]; exact L.ones_, by rw [← eS _ (by omega)]; exact L.len, fun i hi => by rw [← eS _ (by omega)]; exact L.code i hi, L.short, L.lvs⟩
    have MCS : MCues S [] := ⟨by rw [t2 590 (by decide), if_neg (by decide)]; rfl, by decide, fun i hi => absurd hi (Nat.not_lt_zero i), fun i hi => absurd hi (Nat.not_lt_zero i), fun i hi => absurd hi (Nat.not_lt_zero i), fun i hi => absurd hi (Nat.not_lt_zero i)⟩
    -- HouseClaps' new list
    obtain ⟨x3, hx3⟩ : ∃ x3, x3 = (x1.hs (some (mNx B + 1))).sP0 := ⟨_, rfl⟩
    obtain ⟨d, n0, n1, n2', n3⟩ := X_newL (B := mkX s2 x3) (by show 64 ≤ mNx s2; omega)
    obtain ⟨G3, E3⟩ := grow_of (b := s2) (x := x3) (st := ovs (mkX s2 x3) [d] 3) hb2 (by rw [ov_nx]; exact Nat.le_add_right _ _) (fun a ha => ov_lt ha)
    obtain ⟨s3, hs3⟩ : ∃ s3, s3 = ovs (mkX s2 x3) [d] 3 := ⟨_, rfl⟩
    rw [← hs3] at n0 G3 E3
    have hb3 : 131 ≤ mNx s3 := Nat.le_trans hb2 E3.1
    have cE : Ce s3 (mNx s2 + 0) d := by rw [hs3]; exact ov_ce (B := mkX s2 x3) (L := [d]) (i := 0) (z := 3) (Nat.succ_pos _)
    rw [Nat.add_zero] at cE
    have n3x : mNx s3 = mNx s2 + 1 := by rw [hs3]; rfl
    have n3s : mNs s3 = mNs s2 + 3 := by rw [hs3]; rfl
    have R52 := R.fz.2
    have f52 : mTag s3 52 = 104 := by
      have a1 := (E2.2 52 (by omega) (by unfold dyn; omega)).1
      have a2 := (E3.2 52 (by omega) (by unfold dyn; omega)).1
      rw [a2, a1]; exact R52.1
    have XCn : XCues s3 (mNx s2) [] := by
      refine ⟨⟨Or.inl (by omega), by omega⟩, cE.1.trans n1, ?_, by decide, fun i hi => absurd hi (Nat.not_lt_zero i), 52, ?_, ⟨by unfold dyn; omega, by omega⟩, f52, Nat.zero_le _, fun i hi => absurd hi (Nat.not_lt_zero i)⟩
      · rw [cE.2.2.1]; exact n2'
      · rw [cE.2.2.2.2]; exact n3
    have E4 : Ext b s3 := E2.trans E3
    have D := duo_nw (r := r3) (g := h3) (w := 900) (S := S) R E4 (o2'.ext E3) ok2 o4' XCn MHS MCS ?_
    · rw [← hm0, ← hx1] at D
      have pp5 : pJ (mkX s2 (x1.hs (some (mNx B + 1)))) (some 64) 5 (0 : Int64) = some (mkX s2 ((x1.hs (some (mNx B + 1))).sPd 0)) := pX_5' hb2
      have lin : gI (mkX s3 (x3.sCu (some (mNx s2)))) (some (mNx B + 1)) 32 = some (n2 ln) := by
        have XH3 := o2'.ext E3
        rw [dI XH3.dyn0 XH3.lt0 XH3.tag (by decide)]
        have a1 := (E3.2 (mNx B + 1) o2'.lt0 o2'.dyn0).2.2.1
        have a2 := (o3.2.2 (mNx B + 1) (Or.inl (by omega)) XH.dyn0).2.2.1
        have a3 : mI st (mNx B + 1) = (clD T2 0).i := by
          rw [hst]; exact (t_ce (B := B) (c := c2) (z := z2) (T := T2) (i := 0) (by have := X3.ho.len; omega)).2.2.1
        rw [a1, a2, a3]; exact congrArg some X3.ho.lines
      refine ⟨n2 ln, s3, x3.sCu (some (mNx s2)), _, H3.wAr g, [], mNx B + 1, mNx s2, ?_, rfl, by rw [hx3]; exact D, ?_⟩
      · have bcl : ∀ (v : Rf) (st : Mem) (gg : Nat → Mem → Option (Int32 × Mem)) (f : Rf → Mem → Option (Int32 × Mem)), bc (some (Sum.inl v, st)) gg f = f v st := fun _ _ _ _ => rfl
        have o1' : fX2_open (some (mNx B + (1 + 0))) st = some (some (mNx B + 1), mkX s2 x1) := o1
        rw [o1', bd_some, bcl, pX_4' hb2, Option.bind_some, pp5, Option.bind_some]
        have pp6 : pJ (mkX s2 ((x1.hs (some (mNx B + 1))).sPd 0)) (some 64) 6 (0 : Int64) = some (mkX s2 x3) := by
          rw [hx3, pX_6' hb2]; rfl
        rw [pp6, Option.bind_some]
        refine (bd_k n0 (fun x40 st => (pA st (some 64) 7 x40).bind fun st => (gA st (some 64) 4).bind fun x51 => (gI st x51 32).bind fun x54 => some (x54, st))).trans ?_
        have pp7 : pA s3 (some 64) 7 (some (mNx s2)) = some (mkX s3 (x3.sCu (some (mNx s2)))) := by
          have := pX_7' (b := s3) (x := x3) (v := some (mNx s2)) hb3
          rw [G3] at this; exact this
        have g4 : gA (mkX s3 (x3.sCu (some (mNx s2)))) (some 64) 4 = some (some (mNx B + 1)) := by
          rw [gX_4 hb3, hx3]; rfl
        show (pA s3 (some 64) 7 (some (mNx s2))).bind _ = _
        rw [pp7, Option.bind_some, g4, Option.bind_some, lin, Option.bind_some]
      · have l2 : mNx st = mNx B + (T2.length + 1) := by rw [hst, ov_nx, List.length_cons]
        have z2' : mNs st = mNs B + z2 := by rw [hst, ov_ns]
        obtain ⟨b1, b2⟩ := X3.g
        have qle := X3.S.le
        have o31 := o3.1
        have o32 := o3.2.1
        exact ⟨by omega, by omega, by omega, by omega⟩
    · exact X3.S.nf
  · -- a fault
    rw [e1, e2]
    obtain ⟨G1, E1⟩ := grow (c2 :: T2) z2
    have ce := ov_ce (B := B) (z := z2) (tc_len (c := c2) el)
    rw [tc_at] at ce
    have lt := tc_len (c := c2) el
    obtain ⟨st, hst⟩ : ∃ st, st = ovs B (c2 :: T2) z2 := ⟨_, rfl⟩
    have l2 : mNx st = mNx B + (T2.length + 1) := by rw [hst, ov_nx, List.length_cons]
    have z2' : mNs st = mNs B + z2 := by rw [hst, ov_ns]
    rw [← hst] at G1 E1 ce ⊢
    have hbs : 131 ≤ mNx st := Nat.le_trans hb E1.1
    have dn : dyn (mNx B + (1 + e)) := Or.inl (by omega)
    have li : mNx B + (1 + e) < mNx st := by rw [List.length_cons] at lt; omega
    have hgo : ∀ {α : Type} (o : Option α), hg st (mNx B + (1 + e)) 6 o = o := fun o => if_pos ⟨ce.1.trans et, li⟩
    have D := (duo_rd (r := r3) (g := h3) (w := 900) R).ext E1
    rw [← hm0] at D
    refine ⟨-1 - r3.faultAt, st, x.tp0.sFa r3.fault, _, H, C, h, c, ?_, rfl, D, ⟨by omega, by omega, by omega, by omega⟩⟩
    have bcr : ∀ (v : Nat) (st : Mem) (gg : Nat → Mem → Option (Int32 × Mem)) (f : Rf → Mem → Option (Int32 × Mem)), bc (some (Sum.inr v, st)) gg f = gg v st := fun _ _ _ _ => rfl
    rw [bcr, hgo]
    unfold bX1_house_58
    have q1 : gI st (some (mNx B + (1 + e))) 139 = some r3.fault := by
      have := dI (b := st) (x := x1) (a := mNx B + (1 + e)) (t := 6) (f := 139) dn li (ce.1.trans et) (by decide)
      rw [G1, ce.2.2.1, e9] at this; exact this
    have q2 : pI st (some 64) 3 r3.fault = some (mkX st (x.tp0.sFa r3.fault)) := by
      have := pX_3' (b := st) (x := x1) (v := r3.fault) hbs
      rw [G1] at this
      rw [this, hx1]; rfl
    have q3 : gI (mkX st (x.tp0.sFa r3.fault)) (some (mNx B + (1 + e))) 140 = some r3.faultAt := by
      rw [dI (b := st) (a := mNx B + (1 + e)) (t := 6) (f := 140) dn li (ce.1.trans et) (by decide), ce.2.2.1, e0]
    rw [q1, Option.bind_some, q2, Option.bind_some, q3, Option.bind_some]
end HouseD
