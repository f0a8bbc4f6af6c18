set_option linter.unusedVariables false
set_option linter.unusedSimpArgs false
set_option maxRecDepth 100000
section Image2
variable {b b' : Mem} {n s : Nat} {x : XS} {m : MS} {H : HS} {C : List Cu} {h c d : Nat} {K : Nat → Option (HS × List Cu)} {u z : Int32} {r : Rf}
theorem kl_mod : (x.kl u r z).kMod = u := rfl
theorem kl_data : (x.kl u r z).kData = r := rfl
theorem kl_size : (x.kl u r z).kSize = z := rfl
theorem kl_cues : (x.kl u r z).cues = x.cues := rfl
theorem kl_self : x.kl x.kMod x.kData x.kSize = x := by unfold XS.kl; exact XS_eta x
theorem pK_152' (hb : 131 ≤ mNx b) {v : Int32} : pI (mkX b (x.kl u r z)) (some 105) 152 v = some (mkX b (x.kl v r z)) := by
  rw [pK_152 hb]; simp -implicitDefEqProofs only [XS.kl, mk_XS_taped, mk_XS_fault, mk_XS_bought, mk_XS_worthMany, mk_XS_beganFirst, mk_XS_beganSecond, mk_XS_seed, mk_XS_arranged, mk_XS_paid, mk_XS_hiss, mk_XS_orders, mk_XS_house, mk_XS_cues, mk_XS_tape, mk_XS_states, mk_XS_asked, mk_XS_carriesSet, mk_XS_heights, mk_XS_worth, mk_XS_mouths, mk_XS_sided, mk_XS_keptHouse, mk_XS_keptPaid, mk_XS_keptHiss, mk_XS_kMod, mk_XS_kData, mk_XS_kSize, mk_XS_out, mk_XS_n0, mk_XS_n1]
theorem pK_153' (hb : 131 ≤ mNx b) {v : Rf} : pA (mkX b (x.kl u r z)) (some 105) 153 v = some (mkX b (x.kl u v z)) := by
  rw [pK_153 hb]; simp -implicitDefEqProofs only [XS.kl, mk_XS_taped, mk_XS_fault, mk_XS_bought, mk_XS_worthMany, mk_XS_beganFirst, mk_XS_beganSecond, mk_XS_seed, mk_XS_arranged, mk_XS_paid, mk_XS_hiss, mk_XS_orders, mk_XS_house, mk_XS_cues, mk_XS_tape, mk_XS_states, mk_XS_asked, mk_XS_carriesSet, mk_XS_heights, mk_XS_worth, mk_XS_mouths, mk_XS_sided, mk_XS_keptHouse, mk_XS_keptPaid, mk_XS_keptHiss, mk_XS_kMod, mk_XS_kData, mk_XS_kSize, mk_XS_out, mk_XS_n0, mk_XS_n1]
theorem pK_154' (hb : 131 ≤ mNx b) {v : Int32} : pI (mkX b (x.kl u r z)) (some 105) 154 v = some (mkX b (x.kl u r v)) := by
  rw [pK_154 hb]; simp -implicitDefEqProofs only [XS.kl, mk_XS_taped, mk_XS_fault, mk_XS_bought, mk_XS_worthMany, mk_XS_beganFirst, mk_XS_beganSecond, mk_XS_seed, mk_XS_arranged, mk_XS_paid, mk_XS_hiss, mk_XS_orders, mk_XS_house, mk_XS_cues, mk_XS_tape, mk_XS_states, mk_XS_asked, mk_XS_carriesSet, mk_XS_heights, mk_XS_worth, mk_XS_mouths, mk_XS_sided, mk_XS_keptHouse, mk_XS_keptPaid, mk_XS_keptHiss, mk_XS_kMod, mk_XS_kData, mk_XS_kSize, mk_XS_out, mk_XS_n0, mk_XS_n1]
/-- one more list, where there is room -/
theorem add_store (hb : 131 ≤ mNx b) (hd : dyn d) (h64 : 64 ≤ d) (hl : d < mNx b) (ht : mTag b d = 104) {i : Nat} (hi : i < mLen b d) (hln : mLen b d < 1000) (hc : dyn c) (hcl : c < mNx b) (hct : mTag b c = 18) :
    ∃ st, fJ3_add (some 105) (some c) (mkX b (x.kl u (some d) (n2 i))) = some (1, mkX st (x.kl (u + 1) (some d) (n2 (i + 1)))) ∧ mNx st = mNx b ∧ mNs st = mNs b ∧ (∀ a, a ≠ d → dyn a → Sm b st a) ∧ mTag st d = 104 ∧ mLen st d = mLen b d ∧ mA st d i = some c ∧ ∀ j, j ≠ i → mA st d j = mA b d j := by
  obtain ⟨st, e1, e2, e3, e4⟩ := uA_dyn (x := x.kl (u + 1) (some d) (n2 i)) hb hd h64 hl ht hi (by omega) hc hcl hct
  refine ⟨st, ?_, e2, e3, e4⟩
  have hb2 : 131 ≤ mNx st := by rw [e2]; exact hb
  have an : aN (mkX b (x.kl (u + 1) (some d) (n2 i))) (some d) = some (n2 (mLen b d)) := aN_of hl ((ov_tag hd).trans ht) (ov_len hd) (by decide)
  have ne : (n2 i = n2 (mLen b d)) = False := by rw [n2_eq (by omega) (by omega)]; exact eq_false (by omega)
  unfold fJ3_add fJ3_add_2 bJ3_add_2_11
  simp -implicitDefEqProofs only [Option.bind_some, bd_some, b2i_0, Bool.true_eq_false, Bool.false_eq_true, eq_self, if_true, if_false, not_true_eq_false, not_false_eq_true, gK_152 hb, kl_mod, pK_152' hb, gK_153 hb, kl_data, gK_154 hb, kl_size, ivK hb, an, ne, e1, pK_154' hb2, show n2 i + (1 : Int32) = n2 (i + 1) from n2_add i 1]
theorem add_grow (hb : 131 ≤ mNx b) (f1 : mTag b 52 = 104) (f2 : mLen b 52 = 0) (hc : dyn c) (hcl : c < mNx b) (hct : mTag b c = 18) :
    ∃ st, fJ3_add (some 105) (some c) (mkX b (x.kl u (some 52) 0)) = some (1, mkX st (x.kl (u + 1) (some (mNx b)) (n2 1))) ∧ mNx st = mNx b + 1 ∧ mNs st = mNs b + 10 ∧ Ext b st ∧ mTag st (mNx b) = 104 ∧ mLen st (mNx b) = 10 ∧ mA st (mNx b) 0 = some c := by
  have d52 : dyn 52 := by unfold dyn; omega
  have l52 : 52 < mNx b := by omega
  obtain ⟨g1, g2⟩ := grow_of (x := x.kl (u + 1) (some 52) 0) (st := mNew (mkX b (x.kl (u + 1) (some 52) 0)) 104 10 10) hb (Nat.le_succ _) (fun a ha => Sm_new ha)
  generalize hbn : mNew (mkX b (x.kl (u + 1) (some 52) 0)) 104 10 10 = bn at g1 g2
  have nx : mNx bn = mNx b + 1 := by rw [← hbn]; rfl
  have ns : mNs bn = mNs b + 10 := by rw [← hbn]; rfl
  have tg : mTag bn (mNx b) = 104 := by rw [← hbn]; exact up1_at _ _ _
  have ln : mLen bn (mNx b) = 10 := by rw [← hbn]; exact up1_at _ _ _
  have hbn2 : 131 ≤ mNx bn := by omega
  have dN : dyn (mNx b) := by unfold dyn; omega
  have sc := g2.2 c hcl hc
  obtain ⟨st, e1, e2, e3, e4, e5, e6, e7, e8⟩ := uA_dyn (b := bn) (x := x.kl (u + 1) (some (mNx b)) 0) (d := mNx b) (c := c) (i := 0) hbn2 dN (by omega) (by omega) tg (by omega) (by omega) hc (by omega) (sc.1.trans hct)
  have hb2 : 131 ≤ mNx st := by rw [e2]; exact hbn2
  have an : aN (mkX b (x.kl (u + 1) (some 52) 0)) (some 52) = some 0 := aN_of (n := 0) l52 ((ov_tag d52).trans f1) ((ov_len d52).trans f2) (by decide)
  have na : nA (mkX b (x.kl (u + 1) (some 52) 0)) 104 10 = some (some (mNx b), mkX bn (x.kl (u + 1) (some 52) 0)) := by
    rw [g1, ← hbn]; exact if_pos ⟨by decide, by decide, by decide, by decide⟩
  have eq : ∀ {β : Type} (A B : Option β), eqR (mkX b (x.kl (u + 1) (some 52) 0)) (some 52) (some 52) A B = A := fun A B =>
    (if_pos (show _ ∧ _ ∧ _ from ⟨l52, l52, Or.inr (Or.inr rfl)⟩)).trans (if_pos rfl)
  have e1' : uA (mkX bn (x.kl (u + 1) (some (mNx b)) 0)) (some (mNx b)) 0 (some c) = some (mkX st (x.kl (u + 1) (some (mNx b)) 0)) := e1
  refine ⟨st, ?_, by omega, by omega, ⟨by omega, fun a ha hda => ?_⟩, e5, by rw [e6, ln], e7⟩
  · unfold fJ3_add fJ3_add_2 bJ3_add_2_11 fJ3_grow fJ3_grow_2
    simp -implicitDefEqProofs only [Option.bind_some, bd_some, b2i_0, Bool.true_eq_false, Bool.false_eq_true, eq_self, if_true, if_false, not_true_eq_false, not_false_eq_true, gK_152 hb, kl_mod, pK_152' hb, gK_153 hb, kl_data, gK_154 hb, kl_size, ivK hb, an, show ((0 : Int32) < 0) = False from eq_false (by decide), eq, show mmaxI (10 : Int32) (0 + 1) = 10 from by decide, na, pK_153' hbn2, e1', pK_154' hb2]
    rfl
  · exact (g2.2 a ha hda).trans (e4 a (by omega) hda)
theorem C_image (R : Duo b x m H C h c K) (a : Int32) : ∃ r b2 x' m' K', fX1_image (some 64) a (mkX b x) = some (r, mkX b2 x') ∧ fX4_image (some 106) a (mkM b' n s m) = some (r, mkM b' n s m') ∧ Duo b2 x' m' H C h c K' ∧ Ans b b2 := by
  have T := R.th (v := 0)
  have hb := R.hb
  have hF : 700 < hcFuel := by unfold hcFuel; omega
  unfold fX1_image fX4_image
  generalize hcFuel = fu at hF ⊢
  rcases (Bool.eq_false_or_eq_true (decide ((0 : Int32) ≤ a ∧ a ≤ 1))).symm with e | e
  · simp -implicitDefEqProofs only [Option.bind_some, bd_some, b2i_0, Bool.true_eq_false, Bool.false_eq_true, eq_self, if_true, if_false, not_true_eq_false, not_false_eq_true, pM_55', X_isIn, M_isIn, e]
    exact ⟨_, b, _, _, K, rfl, rfl, T, Ans.refl b⟩
  obtain ⟨q, -, hq1, rfl⟩ := in_true (l := 0) (u := 1) (by decide) (by decide) e
  have hq : q < 2 := by omega
  have q31 : q < 2147483648 := by omega
  obtain ⟨S, e1, J1, J2⟩ := M_im (b' := b') (n := n) (s := s) hq 681 fu 0 (m.th 0) (by omega) (by omega) (fun j hj => absurd hj (Nat.not_lt_zero j))
  have hct := R.XC.tag
  have hcd := R.XC.dn
  simp -implicitDefEqProofs only [Option.bind_some, bd_some, b2i_0, Bool.true_eq_false, Bool.false_eq_true, eq_self, if_true, if_false, not_true_eq_false, not_false_eq_true, pM_55', X_isIn, M_isIn, e, gX_24 hb, gX_4 hb, R.xh]
  rw [im_eq hb hq R.XH.lt0 ((ov_tag R.XH.dyn0).trans R.XH.tag)]
  have ci : ∀ st, fJ17_checkIndex (n2 q) 2 st = some (n2 q, st) := fun st => by
    unfold fJ17_checkIndex fJ8_checkIndex
    rw [if_neg (by rw [n2_ge q31]; exact id), if_pos (by rw [li_2, n2_lt q31 (by decide)]; exact hq)]; rfl
  -- the last step: the list is put into its place
  have fin : ∀ (bb : Mem) (y : XS) (dd ee f : Nat), 131 ≤ mNx bb → y.kSize = 2 → y.kData = some dd → dyn dd → 64 ≤ dd → dd < mNx bb → mTag bb dd = 104 → 2 ≤ mLen bb dd → mA bb dd q = some ee → y.cues = some c → dyn c → c < mNx bb → mTag bb c = 18 →
      ∃ st, bX1_image_41 (f + 1) (some 64) (n2 q) (mkX bb y) = some (1, mkX st y) ∧ mNx st = mNx bb ∧ mNs st = mNs bb ∧ (∀ a, a ≠ dd → dyn a → Sm bb st a) ∧ mTag st dd = 104 ∧ mLen st dd = mLen bb dd ∧ mA st dd q = some c ∧ ∀ j, j ≠ q → mA st dd j = mA bb dd j := by
    intro bb y dd ee f hbb y1 y2 d1 d2 d3 d4 d5 d6 y3 c1 c2 c3
    obtain ⟨st, u1, u2⟩ := uA_dyn (x := y) hbb d1 d2 d3 d4 (show q < mLen bb dd by omega) (by omega) c1 c2 c3
    refine ⟨st, ?_, u2⟩
    show bX1_image_41B (bX1_image_41 f) _ _ _ = _
    unfold bX1_image_41B fJ3_size fJ3_set fJ3_elementData
    simp -implicitDefEqProofs only [Option.bind_some, bd_some, b2i_0, Bool.true_eq_false, Bool.false_eq_true, eq_self, if_true, if_false, not_true_eq_false, not_false_eq_true, gX_27 hbb, ivK hbb, gK_154 hbb, y1, show ((2 : Int32) ≤ 2) = True from eq_true (by decide), gX_7 hbb, y3, ci, gK_153 hbb, y2, dRA d1 d3 d4 (show 104 ≤ 104 ∧ 104 < 108 by decide) rfl, ifx_k (show q < mLen bb dd by omega) q31, n2_nat q31, d6, u1, show (some ee = (none : Rf)) = False from eq_false (by simp)]
  obtain ⟨f, rfl⟩ : ∃ g, fu = g + 3 := ⟨fu - 3, by omega⟩
  rcases R.keptC with ⟨k1, k2, k3⟩ | ⟨k1, dd, k2, ⟨k3, k4, k5⟩, k6, k7, k8⟩
  · -- nothing was kept: the row is made
    have ex : x.im q (some h) x.paid x.hiss = (x.im q (some h) x.paid x.hiss).kl x.kMod (some 52) 0 := by
      have := kl_self (x := x.im q (some h) x.paid x.hiss)
      rw [im_kSize, im_kData, k1, k2] at this
      exact this.symm
    obtain ⟨b2, a1, a2, a3, a4, a5, a6, a7⟩ := add_grow (x := x.im q (some h) x.paid x.hiss) (u := x.kMod) hb R.fz.2.1 R.fz.2.2 hcd.1 hcd.2 hct
    have hb2 : 131 ≤ mNx b2 := by omega
    have dN : dyn (mNx b) := by unfold dyn; omega
    have sc := a4.2 c hcd.2 hcd.1
    obtain ⟨b3, s1, s2, s3, s4, s5, s6, s7, s8⟩ := add_store (b := b2) (x := x.im q (some h) x.paid x.hiss) (u := x.kMod + 1) (d := mNx b) (c := c) (i := 1) hb2 dN (by omega) (by omega) a5 (by omega) (by omega) hcd.1 (by omega) (sc.1.trans hct)
    have hb3 : 131 ≤ mNx b3 := by omega
    have E3 : Ext b b3 := ⟨by omega, fun a ha hda => (a4.2 a ha hda).trans (s4 a (by omega) hda)⟩
    have sc3 := E3.2 c hcd.2 hcd.1
    have m0 : mA b3 (mNx b) 0 = some c := by rw [s8 0 (by decide)]; exact a7
    have mq : mA b3 (mNx b) q = some c := by
      rcases (by omega : q = 0 ∨ q = 1) with e | e
      · rw [e]; exact m0
      · rw [e]; exact s7
    obtain ⟨b4, f1, f2, f3, f4, f5, f6, f7, f8⟩ := fin b3 ((x.im q (some h) x.paid x.hiss).kl (x.kMod + 1 + 1) (some (mNx b)) (n2 2)) (mNx b) c f hb3 (kl_size.trans (by decide)) kl_data dN (by omega) (by omega) s5 (by omega) mq (by rw [kl_cues, im_cues]; exact R.xc) hcd.1 (by omega) (sc3.1.trans hct)
    have E4 : Ext b b4 := ⟨by omega, fun a ha hda => (E3.2 a ha hda).trans (f4 a (by omega) hda)⟩
    have all : ∀ k, k < 2 → mA b4 (mNx b) k = some c := fun k hk => by
      by_cases e : k = q
      · rw [e]; exact f7
      · rw [f8 k e]
        rcases (by omega : k = 0 ∨ k = 1) with e2 | e2
        · rw [e2]; exact m0
        · rw [e2]; exact s7
    have XC4 := R.XC.ext E4
    refine ⟨1, b4, (x.im q (some h) x.paid x.hiss).kl (x.kMod + 1 + 1) (some (mNx b)) (n2 2), (m.th 0).im S (upq (m.th 0).keptPaid q (m.th 0).seatsPaid) (upq (m.th 0).keptHiss q (m.th 0).seatsHiss) (upq (m.th 0).isKept q 1), upq K q (some (H, C)), ?_, e1, T.im hq rfl E4.t (R.fz.ext E4 hb) XC4 J1 J2 (Or.inr ⟨kl_size.trans (by decide), mNx b, kl_data, ⟨dN, by omega, by omega⟩, f5, by omega, fun k hk => ⟨c, all k hk, ⟨XC4.dn.1, XC4.dn.2, XC4.tag⟩, fun H' C' hK' => ?_⟩⟩), ⟨by omega, by omega, by omega, by omega⟩⟩
    · refine (congrArg (fun y => bX1_image_41 (f + 3) (some 64) (n2 q) (mkX b y)) ex).trans ?_
      show bX1_image_41B (bX1_image_41 (f + 2)) _ _ _ = _
      unfold bX1_image_41B fJ3_size
      simp -implicitDefEqProofs only [Option.bind_some, bd_some, b2i_0, Bool.true_eq_false, Bool.false_eq_true, eq_self, if_true, if_false, not_true_eq_false, not_false_eq_true, gX_27 hb, ivK hb, gK_154 hb, kl_size, show ((2 : Int32) ≤ 0) = False from eq_false (by decide), gX_7 hb, kl_cues, im_cues, R.xc, a1]
      show bX1_image_41B (bX1_image_41 (f + 1)) _ _ _ = _
      unfold bX1_image_41B fJ3_size
      simp -implicitDefEqProofs only [Option.bind_some, bd_some, b2i_0, Bool.true_eq_false, Bool.false_eq_true, eq_self, if_true, if_false, not_true_eq_false, not_false_eq_true, gX_27 hb2, ivK hb2, gK_154 hb2, kl_size, show ((2 : Int32) ≤ n2 1) = False from eq_false (by decide), gX_7 hb2, kl_cues, im_cues, R.xc, s1]
      exact f1
    · by_cases e : k = q
      · rw [e, upq_self] at hK'
        have := Option.some.inj hK'
        have e2 : C = C' := congrArg Prod.snd this
        rw [← e2]; exact XC4
      · rw [upq_ne _ _ e, k3 k hk] at hK'; exact absurd hK' (by simp)
  · -- the row is there
    obtain ⟨ee, g1, ⟨g2, g3, g4⟩, g5⟩ := k8 q hq
    obtain ⟨b4, f1, f2, f3, f4, f5, f6, f7, f8⟩ := fin b (x.im q (some h) x.paid x.hiss) dd ee (f + 2) hb (by rw [im_kSize]; exact k1) (by rw [im_kData]; exact k2) k3 k5 k4 k6 k7 g1 (by rw [im_cues]; exact R.xc) hcd.1 hcd.2 hct
    have E4 : ExtT b b4 := ⟨by omega, fun a ha hda hne => f4 a (fun e => hne (by rw [e]; exact k6)) hda⟩
    have setK : ∀ {c' : Nat} {C' : List Cu}, XCues b c' C' → XCues b4 c' C' := fun X => X.setK f2 f4 k6 f5 f6 f8 ⟨ee, g1, g4⟩
    have fz4 : Frz b4 := by
      have t := f4 52 (by omega) (by unfold dyn; omega)
      exact ⟨fun i hi => (R.fz.1 i hi).extT E4, t.1.trans R.fz.2.1, t.2.1.trans R.fz.2.2⟩
    have XC4 := setK R.XC
    have ex : x.im q (some h) x.paid x.hiss = (x.im q (some h) x.paid x.hiss).kl x.kMod (some dd) 2 := by
      have := kl_self (x := x.im q (some h) x.paid x.hiss)
      rw [im_kSize, im_kData, k1, k2] at this
      exact this.symm
    refine ⟨1, b4, x.im q (some h) x.paid x.hiss, _, upq K q (some (H, C)), f1, e1, T.im hq ex E4 fz4 XC4 J1 J2 (Or.inr ⟨by rw [im_kSize]; exact k1, dd, by rw [im_kData]; exact k2, ⟨k3, by omega, k5⟩, f5, by omega, fun k hk => ?_⟩), ⟨by omega, by omega, by omega, by omega⟩⟩
    by_cases e : k = q
    · refine ⟨c, by rw [e]; exact f7, ⟨XC4.dn.1, XC4.dn.2, XC4.tag⟩, fun H' C' hK' => ?_⟩
      rw [e, upq_self] at hK'
      have := Option.some.inj hK'
      have e2 : C = C' := congrArg Prod.snd this
      rw [← e2]; exact XC4
    · obtain ⟨e', p1, ⟨p2, p3, p4⟩, p5⟩ := k8 k hk
      have ne : e' ≠ dd := fun e2 => by rw [e2, k6] at p4; exact absurd p4 (by decide)
      refine ⟨e', by rw [f8 k e]; exact p1, ⟨p2, by omega, (f4 e' ne p2).1.trans p4⟩, fun H' C' hK' => ?_⟩
      rw [upq_ne _ _ e] at hK'
      exact setK (p5 H' C' hK')
end Image2
