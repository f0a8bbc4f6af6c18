set_option linter.unusedVariables false
set_option linter.unusedSimpArgs false
set_option maxRecDepth 100000
section Lines2
variable {B b' : Mem} {m : MS} {tp : Nat → Int32} {to most A Z n s : Nat} {c : Cl} {T : List Cl} {z p ln : Nat} {r : MR} {h : MH} {H : HS}
theorem D_price (X : HR B m tp to most A Z c T z r h p H ln) (hw : wd r 482955846501 = true) :
    LnR B m tp to most A Z b' n s c p ln (lnX (some (mNx B)) (some (mNx B + (1 + 2))) 1 999 (ovs B (c :: T) z)) (fX4_line (some 106) (mkM b' n s (m.sRH r h))) := by
  have hB : 64 ≤ mNx B := by have := X.S.R.hB; omega
  have kd : c.i 128 = 2 := wd_kind (w := 482955846501) X.S hw
  have v1 : ¬ (c.i 128 = 0 ∨ c.i 128 = 5) := by rw [kd]; decide
  have o1 : wd r 7499639 = false := by rw [wd_eq hw]; decide
  have o2 : wd r 30064 = false := by rw [wd_eq hw]; decide
  have o3 : wd r 1685026670 = false := by rw [wd_eq hw]; decide
  have r8 := X.ho.ok.rows
  have M0 : fX4_line (some 106) (mkM b' n s (m.sRH r h)) = bd (fX4_takesRow (some 106) h.prices (mkM b' n s (m.sRH r h))) fun x62 st => if ¬ x62 = 0 then (gI st (some 106) 73).bind fun x71 => (gI st (some 106) 75).bind fun x77 => (pI st (some 106) 75 (x77 ||| (shlI (1 : Int32) x71))).bind fun st => bd (iv st (some 106) [4] (fX4_takes (some 106) (0 : Int32) (999 : Int32) st)) fun x92 st => if ¬ x92 = 0 then (gA st (some 106) 62).bind fun x101 => (gI st (some 106) 73).bind fun x109 => (uI st x101 ((70 : Int32) + x71) x109).bind fun st => some ((1 : Int32), st) else some ((0 : Int32), st) else some ((0 : Int32), st) := by
    unfold fX4_line
    simp -implicitDefEqProofs only [Option.bind_some, bd_some, b2i_0, Bool.true_eq_false, Bool.false_eq_true, eq_self, if_true, if_false, not_true_eq_false, not_false_eq_true, ivM, M_wdq, o1, o2, o3, hw, g_pr]
  rw [M0]
  unfold lnX
  rw [rd_iv5 X.t5]
  rcases D_rowTold (b' := b') (n := n) (s := s) X v1 true (had := h.prices) rfl with ⟨v, c1, T1, z1, r1, p1, R1, x1, m1, vr, got, S1, g1, T1e, le1, nu1, t51, a133, i4, i5, i6⟩ | hb
  · have x1' : fX6_rowTold (some (mNx B)) 1 (ovs B (c :: T) z) = some (.inl (n2 v), ovs B (c1 :: T1) z1) := x1
    have S1' : RsR B c1 T1 (m.sRH r1 (h.sPr (h.prices ||| shlI 1 (n2 v)))) tp to most p1 := S1.hh _
    rw [x1', bt_inl, rd_iv5 t51, m1, bd_some, if_pos (by decide), g_got, Option.bind_some, got, g_pr, Option.bind_some, p_pr, Option.bind_some, ivM]
    rcases D_number (b' := b') (n := n) (s := s) (lo := 0) (hi := 999) S1' g1 with ⟨w, c2, T2, z2, r2, p2, R2, x2, m2, S2, Kp2, T2e, le2, nu2, g2, hgot, hlo, hhi⟩ | hb
    · rw [sRH_sR] at m2 S2
      obtain ⟨y, -, hy2, rfl⟩ := in_true (a := w) (l := 0) (u := 999) (by decide) (by decide) (decide_eq_true ⟨hlo, hhi⟩)
      have HT2 : HT (mNx B) T2 h.hh H ln := by rw [T2e, T1e]; exact (X.ho.app R1).app R2
      have l2 := HT2.len
      have U := tc_uI (B := B) (c := c2) (z := z2) (T := T2) (i := 2) (k := v) (v := n2 y) hB (by omega) HT2.sh.tg.2.1 (by rw [HT2.sh.ls.2.1]; omega) (by omega)
      refine Or.inl ⟨c2, _, z2, r2, (h.sPr (h.prices ||| shlI 1 (n2 v))).sHh (upq h.hh (70 + v) (n2 y)), p2, H.sPrice v y, ?_, ?_, ⟨(S2.hh _).ch (HT2.sh.chg (by decide) _), (by
        have := g2.add (T' := clS T2 2 ((clD T2 2).sI v (n2 y))) (z' := z2) (by rw [clS_len]; omega) (by omega); exact this), Kp2.1.trans t51, HT2.sPrice (by omega) hy2, ?_, ?_, ?_, ?_, X.ml⟩, by omega, by omega⟩
      · rw [x2, bt_inl, U]; rfl
      · have ix : (70 : Int32) + n2 v = n2 (70 + v) := by rw [li_70, n2_add]
        rw [m2, bd_some, if_pos (by decide), gM_62, Option.bind_some, g_got, Option.bind_some, hgot, ix, u_hhq (by omega)]; rfl
      · rw [Kp2.2.2.2.2 133 (by decide), a133]; exact X.a133
      · rw [Kp2.2.2.2.1 134 (by omega), i4]; exact X.i134
      · rw [Kp2.2.2.2.1 135 (by omega), i5, X.i135]; rfl
      · rw [Kp2.2.2.2.1 136 (by omega), i6, X.i136]; rfl
    · refine Or.inr ?_
      obtain ⟨e, c', T', z', r', h', y1, y2, y3⟩ := hb.sRH
      refine ⟨e, c', T', z', r', h', by rw [y1]; rfl, ?_, y3⟩
      rw [y2, bd_some, if_neg (fun q => q rfl)]
  · refine Or.inr ?_
    obtain ⟨e, c', T', z', r', h', y1, y2, y3⟩ := hb
    have y1' : fX6_rowTold (some (mNx B)) 1 (ovs B (c :: T) z) = some (.inr (mNx B + (1 + e)), ovs B (c' :: T') z') := y1
    refine ⟨e, c', T', z', r', h', by rw [y1']; rfl, ?_, y3⟩
    rw [y2, bd_some, if_neg (fun q => q rfl)]
theorem D_leaves (X : HR B m tp to most A Z c T z r h p H ln) (hw : wd r 119182682645875 = true) :
    LnR B m tp to most A Z b' n s c p ln (lnX (some (mNx B)) (some (mNx B + (1 + 3))) 0 600 (ovs B (c :: T) z)) (fX4_line (some 106) (mkM b' n s (m.sRH r h))) := by
  have hB : 64 ≤ mNx B := by have := X.S.R.hB; omega
  have kd : c.i 128 = 2 := wd_kind (w := 119182682645875) X.S hw
  have v1 : ¬ (c.i 128 = 0 ∨ c.i 128 = 5) := by rw [kd]; decide
  have o1 : wd r 7499639 = false := by rw [wd_eq hw]; decide
  have o2 : wd r 30064 = false := by rw [wd_eq hw]; decide
  have o3 : wd r 1685026670 = false := by rw [wd_eq hw]; decide
  have o4 : wd r 482955846501 = false := by rw [wd_eq hw]; decide
  have r8 := X.ho.ok.rows
  have M0 : fX4_line (some 106) (mkM b' n s (m.sRH r h)) = bd (fX4_takesRow (some 106) h.leavings (mkM b' n s (m.sRH r h))) fun x130 st => if ¬ x130 = 0 then (gI st (some 106) 73).bind fun x139 => (gI st (some 106) 76).bind fun x145 => (pI st (some 106) 76 (x145 ||| (shlI (1 : Int32) x139))).bind fun st => bd (iv st (some 106) [4] (fX4_takes (some 106) (0 : Int32) (600 : Int32) st)) fun x160 st => if ¬ x160 = 0 then (gA st (some 106) 62).bind fun x169 => (gI st (some 106) 73).bind fun x177 => (uI st x169 ((78 : Int32) + x139) (x177 + (1 : Int32))).bind fun st => some ((1 : Int32), st) else some ((0 : Int32), st) else some ((0 : Int32), st) := by
    unfold fX4_line
    simp -implicitDefEqProofs only [Option.bind_some, bd_some, b2i_0, Bool.true_eq_false, Bool.false_eq_true, eq_self, if_true, if_false, not_true_eq_false, not_false_eq_true, ivM, M_wdq, o1, o2, o3, o4, hw, g_le]
  rw [M0]
  unfold lnX
  rw [rd_iv5 X.t5]
  rcases D_rowTold (b' := b') (n := n) (s := s) X v1 false (had := h.leavings) rfl with ⟨v, c1, T1, z1, r1, p1, R1, x1, m1, vr, got, S1, g1, T1e, le1, nu1, t51, a133, i4, i5, i6⟩ | hb
  · have x1' : fX6_rowTold (some (mNx B)) 0 (ovs B (c :: T) z) = some (.inl (n2 v), ovs B (c1 :: T1) z1) := x1
    have S1' : RsR B c1 T1 (m.sRH r1 (h.sLe (h.leavings ||| shlI 1 (n2 v)))) tp to most p1 := S1.hh _
    rw [x1', bt_inl, rd_iv5 t51, m1, bd_some, if_pos (by decide), g_got, Option.bind_some, got, g_le, Option.bind_some, p_le, Option.bind_some, ivM]
    rcases D_number (b' := b') (n := n) (s := s) (lo := 0) (hi := 600) S1' g1 with ⟨w, c2, T2, z2, r2, p2, R2, x2, m2, S2, Kp2, T2e, le2, nu2, g2, hgot, hlo, hhi⟩ | hb
    · rw [sRH_sR] at m2 S2
      obtain ⟨y, -, hy2, rfl⟩ := in_true (a := w) (l := 0) (u := 600) (by decide) (by decide) (decide_eq_true ⟨hlo, hhi⟩)
      have HT2 : HT (mNx B) T2 h.hh H ln := by rw [T2e, T1e]; exact (X.ho.app R1).app R2
      have l2 := HT2.len
      have U := tc_uI (B := B) (c := c2) (z := z2) (T := T2) (i := 3) (k := v) (v := n2 y) hB (by omega) HT2.sh.tg.2.2.1 (by rw [HT2.sh.ls.2.2.1]; omega) (by omega)
      refine Or.inl ⟨c2, _, z2, r2, (h.sLe (h.leavings ||| shlI 1 (n2 v))).sHh (upq h.hh (78 + v) (n2 (y + 1))), p2, H.sLeaves v (y + 1), ?_, ?_, ⟨(S2.hh _).ch (HT2.sh.chg (by decide) _), (by
        have := g2.add (T' := clS T2 3 ((clD T2 3).sI v (n2 y))) (z' := z2) (by rw [clS_len]; omega) (by omega); exact this), Kp2.1.trans t51, HT2.sLeaves (by omega) hy2, ?_, ?_, ?_, ?_, X.ml⟩, by omega, by omega⟩
      · rw [x2, bt_inl, U]; rfl
      · have ix : (78 : Int32) + n2 v = n2 (78 + v) := by rw [li_78, n2_add]
        have iy : n2 y + (1 : Int32) = n2 (y + 1) := n2_add y 1
        rw [m2, bd_some, if_pos (by decide), gM_62, Option.bind_some, g_got, Option.bind_some, hgot, ix, iy, u_hhq (by omega)]; rfl
      · rw [Kp2.2.2.2.2 133 (by decide), a133]; exact X.a133
      · rw [Kp2.2.2.2.1 134 (by omega), i4]; exact X.i134
      · rw [Kp2.2.2.2.1 135 (by omega), i5, X.i135]; rfl
      · rw [Kp2.2.2.2.1 136 (by omega), i6, X.i136]; rfl
    · refine Or.inr ?_
      obtain ⟨e, c', T', z', r', h', y1, y2, y3⟩ := hb.sRH
      refine ⟨e, c', T', z', r', h', by rw [y1]; rfl, ?_, y3⟩
      rw [y2, bd_some, if_neg (fun q => q rfl)]
  · refine Or.inr ?_
    obtain ⟨e, c', T', z', r', h', y1, y2, y3⟩ := hb
    have y1' : fX6_rowTold (some (mNx B)) 0 (ovs B (c :: T) z) = some (.inr (mNx B + (1 + e)), ovs B (c' :: T') z') := y1
    refine ⟨e, c', T', z', r', h', by rw [y1']; rfl, ?_, y3⟩
    rw [y2, bd_some, if_neg (fun q => q rfl)]
end Lines2
