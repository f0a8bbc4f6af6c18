set_option linter.unusedVariables false
set_option linter.unusedSimpArgs false
set_option maxRecDepth 100000
/-! ===== lines of a house: carry, paid, rows ===== -/
section Once
variable {B b' : Mem} {m : MS} {tp : Nat → Int32} {to most A Z n s : Nat} {c : Cl} {T : List Cl} {z p ln k : Nat} {r : MR} {h : MH} {H : HS}
/-- told once: the flag is set, the next token taken -/
theorem D_onc (X : HR B m tp to most A Z c T z r h p H ln) (hv : ¬ (c.i 128 = 0 ∨ c.i 128 = 5)) (hv1 : c.i 128 ≠ 1) (hk : k < 3) :
    (hasZ h.onces (n2 k) = true ∧ Bad B m A Z to b' n s (bX6_once_52 (some (mNx B)) (n2 k) (some (mNx B)) 1 (ovs B (c :: T) z)) (some (0, mkM b' n s (m.sRH (r.sF 3 r.place) h)))) ∨
    (hasZ h.onces (n2 k) = false ∧ ∀ f : Nat → Int32, ∃ c1 T1 z1 r1 p1 R1, bX6_once_52 (some (mNx B)) (n2 k) (some (mNx B)) 1 (ovs B (c :: T) z) = (if ¬ n2 k = 0 then bX6_once_111 (some (mNx B)) (n2 k) (ovs B (c1 :: T1) z1) else (gA (ovs B (c1 :: T1) z1) (some (mNx B)) 133).bind fun x98 => bt (iv (ovs B (c1 :: T1) z1) (some (mNx B)) [5] (fX5_number (some (mNx B)) (1 : Int32) (64 : Int32) (ovs B (c1 :: T1) z1))) fun x105 st => (pI st x98 30 x105).bind fun st => bX6_once_111 (some (mNx B)) (n2 k) st) ∧
      fX4_next (some 106) (mkM b' n s (m.sRH r ((h.sOn (h.onces ||| shlI 1 (n2 k))).sHh f))) = some ((), mkM b' n s (m.sRH r1 ((h.sOn (h.onces ||| shlI 1 (n2 k))).sHh f))) ∧ RsR B c1 T1 (m.sRH r1 ((h.sOn (h.onces ||| shlI 1 (n2 k))).sHh f)) tp to most p1 ∧ Bg A Z T1 z1 (nu c1 to p1 + 1) p1 ∧ T1 = T ++ R1 ∧ p ≤ p1 ∧ nu c1 to p1 < nu c to p ∧ c1.t = 5 ∧ c1.a 133 = some (mNx B + (1 + 0)) ∧ c1.i 134 = h.onces ||| shlI 1 (n2 k) ∧ c1.i 135 = h.prices ∧ c1.i 136 = h.leavings) := by
  have R := X.S.R
  have hB : 64 ≤ mNx B := by have := R.hB; omega
  have nv : ¬ (c.i 128 = 1 ∨ c.i 128 = 5) := fun q => q.elim hv1 (fun q5 => hv (Or.inr q5))
  have G4 : gI (ovs B (c :: T) z) (some (mNx B)) 134 = some h.onces := (rd5_get X.t5 (by decide)).trans (congrArg some X.i134)
  rcases Bool.eq_false_or_eq_true (hasZ h.onces (n2 k)) with hb | hb
  · refine Or.inl ⟨hb, (D_badH (α := Unit) (b' := b') (n := n) (s := s) X.S X.g 3 (Or.inr nv)).eq ?_ rfl⟩
    unfold bX6_once_52 bX6_once_73
    simp -implicitDefEqProofs only [Option.bind_some, bd_some, b2i_0, Bool.true_eq_false, Bool.false_eq_true, eq_self, if_true, if_false, not_true_eq_false, not_false_eq_true, rd_iv5 X.t5, X_need1', bt_inl, G4, X_hasI, hb, X_need0' R 3, bt_inr]
  · refine Or.inr ⟨hb, fun f => ?_⟩
    have P4 : pI (ovs B (c :: T) z) (some (mNx B)) 134 (h.onces ||| shlI 1 (n2 k)) = some (ovs B (c.sI 134 (h.onces ||| shlI 1 (n2 k)) :: T) z) := rd5_put hB X.t5 (by decide)
    have t5' : (c.sI 134 (h.onces ||| shlI 1 (n2 k))).t = 5 := X.t5
    obtain ⟨c1, T1, z1, r1, p1, R1, x1, m1, S1, Kp1, Kr1, T1e, le1, nu1, g1⟩ := goG (b' := b') (n := n) (s := s) (z := z) (A := A) (Z := Z) ((X.S.hh ((h.sOn (h.onces ||| shlI 1 (n2 k))).sHh f)).sI (f := 134) (by omega) (h.onces ||| shlI 1 (n2 k))) (by rw [nu_sI (by decide)]; exact X.g) (by rw [i_ne _ _ (by decide)]; exact hv)
    rw [nu_sI (by decide)] at nu1
    refine ⟨c1, T1, z1, r1, p1, R1, ?_, m1, S1, g1, T1e, le1, nu1, Kp1.1.trans t5', (Kp1.2.2.2.2 133 (by decide)).trans X.a133, ?_, ?_, ?_⟩
    · unfold bX6_once_52 bX6_once_73
      simp -implicitDefEqProofs only [Option.bind_some, bd_some, b2i_0, Bool.true_eq_false, Bool.false_eq_true, eq_self, if_true, if_false, not_true_eq_false, not_false_eq_true, rd_iv5 X.t5, X_need1', bt_inl, G4, X_hasI, hb, P4, rd_iv5 t5', x1]
    · rw [Kp1.2.2.2.1 134 (by omega), i_self]
    · rw [Kp1.2.2.2.1 135 (by omega), i_ne _ _ (by decide)]; exact X.i135
    · rw [Kp1.2.2.2.1 136 (by omega), i_ne _ _ (by decide)]; exact X.i136
theorem D_once (X : HR B m tp to most A Z c T z r h p H ln) (o1 : wd r 7499639 = false) (o2 : wd r 30064 = false) (o3 : wd r 1685026670 = false) (o4 : wd r 482955846501 = false) (o5 : wd r 119182682645875 = false) :
    LnR B m tp to most A Z b' n s c p ln (fX6_once (some (mNx B)) (ovs B (c :: T) z)) (fX4_line (some 106) (mkM b' n s (m.sRH r h))) := by
  have R := X.S.R
  have hB : 64 ≤ mNx B := by have := R.hB; omega
  have nz0 : nz (0 : Int32) = 0 := by decide
  have nz1 : nz (1 : Int32) = 1 := by decide
  have w10 := X_w10 (z := z) X.S
  have w11 := X_w11 (z := z) X.S
  have w12 := X_w12 (z := z) X.S
  rw [sRH_r] at w10 w11 w12
  have q01 : ((0 : Int32) = (-1 : Int32)) = False := eq_false (by decide)
  have q11 : ((1 : Int32) = (-1 : Int32)) = False := eq_false (by decide)
  have q21 : ((2 : Int32) = (-1 : Int32)) = False := eq_false (by decide)
  rcases Bool.eq_false_or_eq_true (wd r 426836652665) with h10 | h10
  · -- carry
    have kd : c.i 128 = 2 := wd_kind (w := 426836652665) X.S h10
    have X0 : fX6_once (some (mNx B)) (ovs B (c :: T) z) = bX6_once_52 (some (mNx B)) (n2 0) (some (mNx B)) 1 (ovs B (c :: T) z) := by
      unfold fX6_once bX6_once_40
      simp -implicitDefEqProofs only [Option.bind_some, bd_some, b2i_0, Bool.true_eq_false, Bool.false_eq_true, eq_self, if_true, if_false, not_true_eq_false, not_false_eq_true, rd_iv5 X.t5, w10, h10, q01]; rfl
    have M0 : fX4_line (some 106) (mkM b' n s (m.sRH r h)) = bd (fX4_once (some 106) (0 : Int32) (3 : Int32) (1 : Int32) (64 : Int32) (mkM b' n s (m.sRH r h))) fun x st => some ((nz x), st) := by
      unfold fX4_line
      simp -implicitDefEqProofs only [Option.bind_some, bd_some, b2i_0, Bool.true_eq_false, Bool.false_eq_true, eq_self, if_true, if_false, not_true_eq_false, not_false_eq_true, ivM, M_wdq, o1, o2, o3, o4, o5, h10]
    rw [X0, M0]
    rcases D_onc (b' := b') (n := n) (s := s) (k := 0) X (by rw [kd]; decide) (by rw [kd]; decide) (by decide) with ⟨hh, hb⟩ | ⟨hh, hb⟩
    · refine Or.inr (hb.eq rfl ?_)
      have hh' : hasZ h.onces 0 = true := hh
      unfold fX4_once
      simp -implicitDefEqProofs only [Option.bind_some, bd_some, b2i_0, Bool.true_eq_false, Bool.false_eq_true, eq_self, if_true, if_false, not_true_eq_false, not_false_eq_true, g_onc, M_hasI, hh', ivM, M_badH, nz0]
    · have hh' : hasZ h.onces 0 = false := hh
      obtain ⟨c1, T1, z1, r1, p1, R1, x1, m1, S1, g1, T1e, le1, nu1, t51, a133, i4, i5, i6⟩ := hb h.hh
      have m1' : fX4_next (some 106) (mkM b' n s (m.sRH r (h.sOn (h.onces ||| shlI 1 0)))) = some ((), mkM b' n s (m.sRH r1 (h.sOn (h.onces ||| shlI 1 0)))) := m1
      rw [x1, if_neg (fun q => q rfl), rd5_gA t51 (by decide), Option.bind_some, a133, rd_iv5 t51]
      have S1' : RsR B c1 T1 (m.sRH r1 (h.sOn (h.onces ||| shlI 1 0))) tp to most p1 := S1
      have M1 : fX4_once (some 106) (0 : Int32) (3 : Int32) (1 : Int32) (64 : Int32) (mkM b' n s (m.sRH r h)) = bd (fX4_takes (some 106) 1 64 (mkM b' n s (m.sRH r1 (h.sOn (h.onces ||| shlI 1 0))))) fun x37 st => if ¬ x37 = 0 then (gA st (some 106) 62).bind fun x46 => (gI st (some 106) 73).bind fun x51 => (uI st x46 (3 : Int32) x51).bind fun st => some ((1 : Int32), st) else some ((0 : Int32), st) := by
        unfold fX4_once
        simp -implicitDefEqProofs only [Option.bind_some, bd_some, b2i_0, Bool.true_eq_false, Bool.false_eq_true, eq_self, if_true, if_false, not_true_eq_false, not_false_eq_true, g_onc, M_hasI, hh', ivM, p_onc, m1']
      rw [M1]
      rcases D_number (b' := b') (n := n) (s := s) (z := z1) (lo := 1) (hi := 64) S1' (g1.add (by omega) (by omega)) with ⟨w, c2, T2, z2, r2, p2, R2, x2, m2, S2, Kp2, T2e, le2, nu2, g2, hgot, hlo, hhi⟩ | hb2
      · rw [sRH_sR] at m2 S2
        obtain ⟨y, hy1, hy2, rfl⟩ := in_true (a := w) (l := 1) (u := 64) (by decide) (by decide) (decide_eq_true ⟨hlo, hhi⟩)
        have HT2 : HT (mNx B) T2 h.hh H ln := by rw [T2e, T1e]; exact (X.ho.app R1).app R2
        have l2 := HT2.len
        have U := tc_pI (B := B) (c := c2) (z := z2) (T := T2) (i := 0) (f := 30) (v := n2 y) hB (by omega) (by rw [HT2.t0]; rfl)
        refine Or.inl ⟨c2, _, z2, r2, (h.sOn (h.onces ||| shlI 1 0)).sHh (upq h.hh 3 (n2 y)), p2, H.sCarry y, ?_, ?_, ⟨(S2.hh _).ch (HT2.sh.chg (by decide) _), (by
          have := g2.add (T' := clS T2 0 ((clD T2 0).sI 30 (n2 y))) (z' := z2) (by rw [clS_len]; omega) (by omega); exact this), Kp2.1.trans t51, HT2.sCarry hy1 hy2, ?_, ?_, ?_, ?_, X.ml⟩, by omega, by omega⟩
        · rw [x2, bt_inl, U, Option.bind_some]
          unfold bX6_once_111 bX6_once_131
          rw [if_pos (by decide), if_pos (by decide)]
        · have u := u_hhq (b' := b') (n := n) (s := s) (m := m) (r := r2) (h := h.sOn (h.onces ||| shlI 1 0)) (k := 3) (v := n2 y) (by decide)
          have u' : uI (mkM b' n s (m.sRH r2 (h.sOn (h.onces ||| shlI 1 0)))) (some 109) (3 : Int32) (n2 y) = some (mkM b' n s (m.sRH r2 ((h.sOn (h.onces ||| shlI 1 0)).sHh (upq h.hh 3 (n2 y))))) := u
          rw [m2, bd_some, if_pos (by decide), gM_62, Option.bind_some, g_got, Option.bind_some, hgot, u', Option.bind_some, bd_some, nz1]
        · rw [Kp2.2.2.2.2 133 (by decide), a133]
        · rw [Kp2.2.2.2.1 134 (by omega), i4]; rfl
        · rw [Kp2.2.2.2.1 135 (by omega), i5]; rfl
        · rw [Kp2.2.2.2.1 136 (by omega), i6]; rfl
      · refine Or.inr ?_
        obtain ⟨e, c', T', z', r', h', y1, y2, y3⟩ := hb2.sRH
        refine ⟨e, c', T', z', r', h', by rw [y1]; rfl, ?_, y3⟩
        rw [y2, bd_some, if_neg (fun q => q rfl), bd_some, nz0]
  · rcases Bool.eq_false_or_eq_true (wd r 1885432164) with h11 | h11
    · -- paid
      have kd : c.i 128 = 2 := wd_kind (w := 1885432164) X.S h11
      have X0 : fX6_once (some (mNx B)) (ovs B (c :: T) z) = bX6_once_52 (some (mNx B)) (n2 1) (some (mNx B)) 1 (ovs B (c :: T) z) := by
        unfold fX6_once bX6_once_40
        simp -implicitDefEqProofs only [Option.bind_some, bd_some, b2i_0, Bool.true_eq_false, Bool.false_eq_true, eq_self, if_true, if_false, not_true_eq_false, not_false_eq_true, rd_iv5 X.t5, w10, h10, w11, h11, q11]; rfl
      have M0 : fX4_line (some 106) (mkM b' n s (m.sRH r h)) = bd (fX4_once (some 106) (1 : Int32) (4 : Int32) (0 : Int32) (600 : Int32) (mkM b' n s (m.sRH r h))) fun x st => some ((nz x), st) := by
        unfold fX4_line
        simp -implicitDefEqProofs only [Option.bind_some, bd_some, b2i_0, Bool.true_eq_false, Bool.false_eq_true, eq_self, if_true, if_false, not_true_eq_false, not_false_eq_true, ivM, M_wdq, o1, o2, o3, o4, o5, h10, h11]
      rw [X0, M0]
      rcases D_onc (b' := b') (n := n) (s := s) (k := 1) X (by rw [kd]; decide) (by rw [kd]; decide) (by decide) with ⟨hh, hb⟩ | ⟨hh, hb⟩
      · refine Or.inr (hb.eq rfl ?_)
        have hh' : hasZ h.onces 1 = true := hh
        unfold fX4_once
        simp -implicitDefEqProofs only [Option.bind_some, bd_some, b2i_0, Bool.true_eq_false, Bool.false_eq_true, eq_self, if_true, if_false, not_true_eq_false, not_false_eq_true, g_onc, M_hasI, hh', ivM, M_badH, nz0]
      · have hh' : hasZ h.onces 1 = false := hh
        obtain ⟨c1, T1, z1, r1, p1, R1, x1, m1, S1, g1, T1e, le1, nu1, t51, a133, i4, i5, i6⟩ := hb h.hh
        have m1' : fX4_next (some 106) (mkM b' n s (m.sRH r (h.sOn (h.onces ||| shlI 1 1)))) = some ((), mkM b' n s (m.sRH r1 (h.sOn (h.onces ||| shlI 1 1)))) := m1
        have S1' : RsR B c1 T1 (m.sRH r1 (h.sOn (h.onces ||| shlI 1 1))) tp to most p1 := S1
        have X1 : bX6_once_52 (some (mNx B)) (n2 1) (some (mNx B)) 1 (ovs B (c :: T) z) = bt (fX5_number (some (mNx B)) (0 : Int32) (600 : Int32) (ovs B (c1 :: T1) z1)) fun x125 st => (pI st (some (mNx B + (1 + 0))) 31 x125).bind fun st => bX6_once_131 (some (mNx B)) (n2 1) st := by
          rw [x1, if_pos (by decide)]
          unfold bX6_once_111
          rw [if_neg (by decide), rd5_gA t51 (by decide), Option.bind_some, a133, rd_iv5 t51]
        have M1 : fX4_once (some 106) (1 : Int32) (4 : Int32) (0 : Int32) (600 : Int32) (mkM b' n s (m.sRH r h)) = bd (fX4_takes (some 106) 0 600 (mkM b' n s (m.sRH r1 (h.sOn (h.onces ||| shlI 1 1))))) fun x37 st => if ¬ x37 = 0 then (gA st (some 106) 62).bind fun x46 => (gI st (some 106) 73).bind fun x51 => (uI st x46 (4 : Int32) x51).bind fun st => some ((1 : Int32), st) else some ((0 : Int32), st) := by
          unfold fX4_once
          simp -implicitDefEqProofs only [Option.bind_some, bd_some, b2i_0, Bool.true_eq_false, Bool.false_eq_true, eq_self, if_true, if_false, not_true_eq_false, not_false_eq_true, g_onc, M_hasI, hh', ivM, p_onc, m1']
        rw [X1, M1]
        rcases D_number (b' := b') (n := n) (s := s) (z := z1) (lo := 0) (hi := 600) S1' (g1.add (by omega) (by omega)) with ⟨w, c2, T2, z2, r2, p2, R2, x2, m2, S2, Kp2, T2e, le2, nu2, g2, hgot, hlo, hhi⟩ | hb2
        · rw [sRH_sR] at m2 S2
          obtain ⟨y, -, hy2, rfl⟩ := in_true (a := w) (l := 0) (u := 600) (by decide) (by decide) (decide_eq_true ⟨hlo, hhi⟩)
          have HT2 : HT (mNx B) T2 h.hh H ln := by rw [T2e, T1e]; exact (X.ho.app R1).app R2
          have l2 := HT2.len
          have U := tc_pI (B := B) (c := c2) (z := z2) (T := T2) (i := 0) (f := 31) (v := n2 y) hB (by omega) (by rw [HT2.t0]; rfl)
          refine Or.inl ⟨c2, _, z2, r2, (h.sOn (h.onces ||| shlI 1 1)).sHh (upq h.hh 4 (n2 y)), p2, H.sPaid y, ?_, ?_, ⟨(S2.hh _).ch (HT2.sh.chg (by decide) _), (by
            have := g2.add (T' := clS T2 0 ((clD T2 0).sI 31 (n2 y))) (z' := z2) (by rw [clS_len]; omega) (by omega); exact this), Kp2.1.trans t51, HT2.sPaid hy2, ?_, ?_, ?_, ?_, X.ml⟩, by omega, by omega⟩
          · rw [x2, bt_inl, U, Option.bind_some]
            unfold bX6_once_131
            rw [if_pos (by decide)]
          · have u' : uI (mkM b' n s (m.sRH r2 (h.sOn (h.onces ||| shlI 1 1)))) (some 109) (4 : Int32) (n2 y) = some (mkM b' n s (m.sRH r2 ((h.sOn (h.onces ||| shlI 1 1)).sHh (upq h.hh 4 (n2 y))))) := u_hhq (b' := b') (n := n) (s := s) (m := m) (r := r2) (h := h.sOn (h.onces ||| shlI 1 1)) (k := 4) (v := n2 y) (by decide)
            rw [m2, bd_some, if_pos (by decide), gM_62, Option.bind_some, g_got, Option.bind_some, hgot, u', Option.bind_some, bd_some, nz1]
          · rw [Kp2.2.2.2.2 133 (by decide), a133]
          · rw [Kp2.2.2.2.1 134 (by omega), i4]; rfl
          · rw [Kp2.2.2.2.1 135 (by omega), i5]; rfl
          · rw [Kp2.2.2.2.1 136 (by omega), i6]; rfl
        · refine Or.inr ?_
          obtain ⟨e, c', T', z', r', h', y1, y2, y3⟩ := hb2.sRH
          refine ⟨e, c', T', z', r', h', by rw [y1]; rfl, ?_, y3⟩
          rw [y2, bd_some, if_neg (fun q => q rfl), bd_some, nz0]
    · rcases Bool.eq_false_or_eq_true (wd r 1919907699) with h12 | h12
      · -- rows
        have kd : c.i 128 = 2 := wd_kind (w := 1919907699) X.S h12
        have X0 : fX6_once (some (mNx B)) (ovs B (c :: T) z) = bX6_once_52 (some (mNx B)) (n2 2) (some (mNx B)) 1 (ovs B (c :: T) z) := by
          unfold fX6_once bX6_once_40
          simp -implicitDefEqProofs only [Option.bind_some, bd_some, b2i_0, Bool.true_eq_false, Bool.false_eq_true, eq_self, if_true, if_false, not_true_eq_false, not_false_eq_true, rd_iv5 X.t5, w10, h10, w11, h11, w12, h12, q21]; rfl
        rw [X0]
        rcases D_onc (b' := b') (n := n) (s := s) (k := 2) X (by rw [kd]; decide) (by rw [kd]; decide) (by decide) with ⟨hh, hb⟩ | ⟨hh, hb⟩
        · refine Or.inr (hb.eq rfl ?_)
          have hh' : hasZ h.onces 2 = true := hh
          unfold fX4_line
          simp -implicitDefEqProofs only [Option.bind_some, bd_some, b2i_0, Bool.true_eq_false, Bool.false_eq_true, eq_self, if_true, if_false, not_true_eq_false, not_false_eq_true, ivM, M_wdq, o1, o2, o3, o4, o5, h10, h11, h12, g_onc, M_hasI, hh', M_badH, nz0]
        · have hh' : hasZ h.onces 2 = false := hh
          obtain ⟨c1, T1, z1, r1, p1, R1, x1, m1, S1, g1, T1e, le1, nu1, t51, a133, i4, i5, i6⟩ := hb (upq h.hh 5 1)
          have HT1 : HT (mNx B) T1 h.hh H ln := by rw [T1e]; exact X.ho.app R1
          have l1 := HT1.len
          have U : pI (ovs B (c1 :: T1) z1) (some (mNx B + (1 + 0))) 33 (1 : Int32) = some (ovs B (c1 :: clS T1 0 ((clD T1 0).sI 33 1)) z1) := by
            have := o_pZ (B := B) (L := c1 :: T1) (z := z1) (i := 1 + 0) (f := 33) (v := true) hB (decide_eq_true (tc_len (by omega))) (by rw [tc_at, HT1.t0]; rfl)
            rw [tc_at, tc_set] at this; exact this
          refine Or.inl ⟨c1, _, z1, r1, (h.sOn (h.onces ||| shlI 1 2)).sHh (upq h.hh 5 1), p1, H.sBy true, ?_, ?_, ⟨S1.ch (HT1.sh.chg (by decide) _), (by
            have := g1.add (T' := clS T1 0 ((clD T1 0).sI 33 1)) (z' := z1) (by rw [clS_len]; omega) (by omega); exact this), t51, HT1.sBy, a133, i4, i5, i6, X.ml⟩, by omega, by omega⟩
          · rw [x1, if_pos (by decide)]
            unfold bX6_once_111 bX6_once_131
            rw [if_pos (by decide), if_neg (by decide), rd5_gA t51 (by decide), Option.bind_some, a133, U]; rfl
          · have u' : uI (mkM b' n s (m.sRH r (h.sOn (h.onces ||| 4)))) (some 109) (5 : Int32) 1 = some (mkM b' n s (m.sRH r ((h.sOn (h.onces ||| 4)).sHh (upq h.hh 5 1)))) := u_hhq (b' := b') (n := n) (s := s) (m := m) (r := r) (h := h.sOn (h.onces ||| 4)) (k := 5) (v := 1) (by decide)
            have s4 : shlI 1 (n2 2) = 4 := by decide
            rw [s4] at m1
            have s4' : shlI 1 2 = 4 := by decide
            rw [s4']
            unfold fX4_line
            simp -implicitDefEqProofs only [Option.bind_some, bd_some, b2i_0, Bool.true_eq_false, Bool.false_eq_true, eq_self, if_true, if_false, not_true_eq_false, not_false_eq_true, ivM, M_wdq, o1, o2, o3, o4, o5, h10, h11, h12, g_onc, M_hasI, hh', p_onc, gM_62, u', m1]
      · -- none
        refine Or.inr ((D_badH (α := Unit) (b' := b') (n := n) (s := s) X.S X.g 1 (Or.inl rfl)).eq ?_ ?_)
        · unfold fX6_once bX6_once_40 bX6_once_52
          simp -implicitDefEqProofs only [Option.bind_some, bd_some, b2i_0, Bool.true_eq_false, Bool.false_eq_true, eq_self, if_true, if_false, not_true_eq_false, not_false_eq_true, rd_iv5 X.t5, w10, h10, w11, h11, w12, h12, X_need0' R 1, bt_inr]
        · unfold fX4_line
          simp -implicitDefEqProofs only [Option.bind_some, bd_some, b2i_0, Bool.true_eq_false, Bool.false_eq_true, eq_self, if_true, if_false, not_true_eq_false, not_false_eq_true, ivM, M_wdq, o1, o2, o3, o4, o5, h10, h11, h12, M_badH, nz0]
end Once
