set_option linter.unusedVariables false
set_option linter.unusedSimpArgs false
set_option maxRecDepth 100000
/-! ===== one: a bracket, a 'not', a comparison ===== -/
/-- what follows in HouseClaps when the first token of it was taken -/
def oneT (rc : Rf → Mem → Option ((Rf ⊕ Nat) × Mem)) (v0 : Rf) (v1 v2 v3 v4 : Int32) (st : Mem) : Option ((Rf ⊕ Nat) × Mem) :=
  if v1 = 0 then
    if v2 = 0 then
      bt (iv st v0 [5] (fX6_compare v0 v4 v3 st)) fun x168 st =>
      bX6_one_173 rc v0 x168 st
    else
      bd (nO st 7) fun x148 st =>
      bt (iv st v0 [5] (rc v0 st)) fun x153 st =>
      bd (nn x148 (fX9_init x148 x153 st)) fun _ st =>
      bX6_one_173 rc v0 x148 st
  else
    bt (iv st v0 [5] (fX6_or rc v0 st)) fun x121 st =>
    bd (iv st v0 [5] (fX5_isSign v0 (41 : Int32) st)) fun x130 st =>
    bt (iv st v0 [5] (fX5_need v0 x130 (1 : Int32) st)) fun _ st =>
    bd (iv st v0 [5] (fX5_go v0 st)) fun _ st =>
    bX6_one_173 rc v0 x121 st
/-- and in the model -/
def oneM (kk0 : Rf → Mem → Option (Int32 × Mem)) (v0 : Rf) (v1 v2 : Int32) (st : Mem) : Option (Int32 × Mem) :=
  if 0 ≤ v2 then
    bd (iv st v0 [4] (fX4_asks v0 v2 st)) fun x112 st =>
    some ((nz x112), st)
  else
    (gA st v0 79).bind fun x79 =>
    (gI st v0 82).bind fun x83 =>
    if v1 = 0 then
      bX4_one_96 kk0 v0 x79 x83 (6 : Int32) st
    else
      bX4_one_96 kk0 v0 x79 x83 (3 : Int32) st
section One
variable {B b' : Mem} {tp : Nat → Int32} {to most n s A Z d : Nat} {m : MS}
section Mid
variable {c : Cl} {T : List Cl} {z p o : Nat} {r : MR} {h : MH} {Q : List Nat} {l : List Int32} {rc : Rf → Mem → Option ((Rf ⊕ Nat) × Mem)} {kk : Rf → Mem → Option (Int32 × Mem)} {v1 v2 v3 v4 w1 w2 : Int32}
theorem D_mid (C : CSt B m tp to most A Z c T z r h p Q l o) (h138 : c.i 138 = n2 (opS Q)) (hQ8 : opS Q ≤ 8) (h30 : Q.length ≤ 30) (hv : ¬ (c.i 128 = 0 ∨ c.i 128 = 5)) (hv1 : c.i 128 ≠ 1) :
    (Bad B m A Z to b' n s (bX6_one_60 rc (some (mNx B)) v1 v2 v3 v4 (some (mNx B)) 1 (ovs B (c :: T) z)) (bX4_one_36 kk (some 106) w1 w2 (mkM b' n s (m.sRH r h)))) ∨
    (o < 20 ∧ opS Q < 8 ∧ ∃ c1 T1 z1 r1 h1 p1 R1, bX6_one_60 rc (some (mNx B)) v1 v2 v3 v4 (some (mNx B)) 1 (ovs B (c :: T) z) = oneT rc (some (mNx B)) v1 v2 v3 v4 (ovs B (c1 :: T1) z1) ∧ bX4_one_36 kk (some 106) w1 w2 (mkM b' n s (m.sRH r h)) = oneM kk (some 106) w1 w2 (mkM b' n s (m.sRH r1 h1)) ∧ CSt B m tp to most A Z c1 T1 z1 r1 h1 p1 Q l (o + 1) ∧ Bg A Z T1 z1 (nu c1 to p1 + 1) p1 ∧ c1.i 138 = n2 (opS Q + 1) ∧ Kc c c1 ∧ Kh h h1 ∧ T1 = T ++ R1 ∧ p ≤ p1 ∧ nu c1 to p1 < nu c to p) := by
  have R := C.S.R
  have hB : 64 ≤ mNx B := by have := R.hB; omega
  have ho := C.o20
  have nz0 : nz (0 : Int32) = 0 := by decide
  have G7 : gI (ovs B (c :: T) z) (some (mNx B)) 137 = some (n2 o) := (rd5_get C.t5 (by decide)).trans (congrArg some C.x7)
  have G8 : gI (ovs B (c :: T) z) (some (mNx B)) 138 = some (n2 (opS Q)) := (rd5_get C.t5 (by decide)).trans (congrArg some h138)
  have g83 : gI (mkM b' n s (m.sRH r h)) (some 106) 83 = some (n2 o) := g_on.trans (congrArg some C.P.on)
  have nv : ¬ (c.i 128 = 1 ∨ c.i 128 = 5) := fun q => q.elim hv1 (fun q5 => hv (Or.inr q5))
  have bad4 : Bad (α := Rf) B m A Z to b' n s (some (.inr (mNx B + (1 + T.length)), ovs B (c :: (T ++ [fcC (if c.i 128 = 1 ∨ c.i 128 = 5 then 1 else 4) (c.i 129)])) (z + 8))) (some (0, mkM b' n s (m.sRH (r.sF 4 r.place) h))) := D_badH C.S C.g 4 (Or.inr nv)
  have e20 : ((20 : Int32) ≤ n2 o) = (20 ≤ o) := by rw [li_20, n2_le (by omega) (by omega)]
  have q20 : (n2 o = (20 : Int32)) = (o = 20) := by rw [li_20, n2_eq (by omega) (by omega)]
  have e8 : ((8 : Int32) ≤ n2 (opS Q)) = (8 ≤ opS Q) := by rw [li_8, n2_le (by omega) (by omega)]
  have q8 : (n2 (opS Q) = (8 : Int32)) = (opS Q = 8) := by rw [li_8, n2_eq (by omega) (by omega)]
  by_cases h20 : o = 20
  · refine Or.inl (bad4.eq ?_ ?_)
    · unfold bX6_one_60 bX6_one_87 bX6_one_88
      simp -implicitDefEqProofs only [Option.bind_some, bd_some, b2i_0, Bool.true_eq_false, Bool.false_eq_true, eq_self, if_true, if_false, not_true_eq_false, not_false_eq_true, rd_iv5 C.t5, X_need1', bt_inl, G7, e20, show (20 ≤ o) = True from eq_true (by omega), X_need0' R 4, bt_inr]
    · unfold bX4_one_36 bX4_one_54
      simp -implicitDefEqProofs only [Option.bind_some, bd_some, b2i_0, Bool.true_eq_false, Bool.false_eq_true, eq_self, if_true, if_false, not_true_eq_false, not_false_eq_true, g83, q20, eq_true h20, ivM, M_badH, nz0]
  · by_cases h8 : opS Q = 8
    · refine Or.inl (bad4.eq ?_ ?_)
      · unfold bX6_one_60 bX6_one_87 bX6_one_88
        simp -implicitDefEqProofs only [Option.bind_some, bd_some, b2i_0, Bool.true_eq_false, Bool.false_eq_true, eq_self, if_true, if_false, not_true_eq_false, not_false_eq_true, rd_iv5 C.t5, X_need1', bt_inl, G7, e20, show (20 ≤ o) = False from eq_false (by omega), G8, e8, show (8 ≤ opS Q) = True from eq_true (by omega), X_need0' R 4, bt_inr]
      · unfold bX4_one_36 bX4_one_54
        simp -implicitDefEqProofs only [Option.bind_some, bd_some, b2i_0, Bool.true_eq_false, Bool.false_eq_true, eq_self, if_true, if_false, not_true_eq_false, not_false_eq_true, g83, q20, h20, ivM, M_opd C.P h30, q8, eq_true h8, M_badH, nz0]
    · refine Or.inr ⟨by omega, by omega, ?_⟩
      have p7 : pI (ovs B (c :: T) z) (some (mNx B)) 137 (n2 (o + 1)) = some (ovs B (c.sI 137 (n2 (o + 1)) :: T) z) := rd5_put hB C.t5 (by decide)
      have G8' : gI (ovs B (c.sI 137 (n2 (o + 1)) :: T) z) (some (mNx B)) 138 = some (n2 (opS Q)) := (rd5_get (c := c.sI 137 (n2 (o + 1))) C.t5 (by decide)).trans (congrArg some ((i_ne c _ (by decide)).trans h138))
      have p8 : pI (ovs B (c.sI 137 (n2 (o + 1)) :: T) z) (some (mNx B)) 138 (n2 (opS Q + 1)) = some (ovs B ((c.sI 137 (n2 (o + 1))).sI 138 (n2 (opS Q + 1)) :: T) z) := rd5_put (c := c.sI 137 (n2 (o + 1))) hB C.t5 (by decide)
      have S2 : RsR B ((c.sI 137 (n2 (o + 1))).sI 138 (n2 (opS Q + 1))) T (m.sRH r (h.son (n2 (o + 1)))) tp to most p := ((C.S.hh _).sI (f := 137) (by omega) _).sI (f := 138) (by omega) _
      have nue : nu ((c.sI 137 (n2 (o + 1))).sI 138 (n2 (opS Q + 1))) to p = nu c to p := by rw [nu_sI (by decide), nu_sI (by decide)]
      have k8 : ((c.sI 137 (n2 (o + 1))).sI 138 (n2 (opS Q + 1))).i 128 = c.i 128 := by rw [i_ne _ _ (by decide), i_ne _ _ (by decide)]
      have k137 : ((c.sI 137 (n2 (o + 1))).sI 138 (n2 (opS Q + 1))).i 137 = n2 (o + 1) := by rw [i_ne _ _ (by decide), i_self]
      have k138 : ((c.sI 137 (n2 (o + 1))).sI 138 (n2 (opS Q + 1))).i 138 = n2 (opS Q + 1) := i_self _ _ _
      have kc2 : Kc c ((c.sI 137 (n2 (o + 1))).sI 138 (n2 (opS Q + 1))) := ((Kc.refl c).s7 _).s8 _
      have t52 : ((c.sI 137 (n2 (o + 1))).sI 138 (n2 (opS Q + 1))).t = 5 := C.t5
      generalize (c.sI 137 (n2 (o + 1))).sI 138 (n2 (opS Q + 1)) = c2 at p8 S2 nue k8 k137 k138 kc2 t52
      obtain ⟨c1, T1, z1, r1, p1, R1, x1, m1, S1, Kp1, Kr1, T1e, le1, nu1, g1⟩ := goG (b' := b') (n := n) (s := s) (z := z) (A := A) (Z := Z) S2 (by rw [nue]; exact C.g) (by rw [k8]; exact hv)
      have P1 : PS (h.son (n2 (o + 1))) Q l (o + 1) := ⟨C.P.pm, C.P.pl, C.P.cm, C.P.cd, rfl⟩
      refine ⟨c1, T1, z1, r1, _, p1, R1, ?_, ?_, ⟨S1, g1.add (by omega) (by omega), Kp1.1.trans t52, (Kp1.2.2.2.1 137 (by omega)).trans k137, by omega, P1⟩, g1, (Kp1.2.2.2.1 138 (by omega)).trans k138, kc2.trans Kp1.c, ⟨rfl, rfl, rfl, rfl, rfl, rfl, rfl⟩, T1e, le1, by omega⟩
      · have c15 : (c.sI 137 (n2 (o + 1))).t = 5 := C.t5
        unfold bX6_one_60 bX6_one_88 oneT
        simp -implicitDefEqProofs only [Option.bind_some, bd_some, b2i_0, Bool.true_eq_false, Bool.false_eq_true, eq_self, if_true, if_false, not_true_eq_false, not_false_eq_true, rd_iv5 C.t5, X_need1', bt_inl, G7, e20, show (20 ≤ o) = False from eq_false (by omega), G8, e8, show (8 ≤ opS Q) = False from eq_false (by omega), show n2 o + 1 = n2 (o + 1) from n2_add o 1, p7, G8', show n2 (opS Q) + 1 = n2 (opS Q + 1) from n2_add _ 1, p8, rd_iv5 t52, x1]
      · unfold bX4_one_36 oneM
        simp -implicitDefEqProofs only [Option.bind_some, bd_some, b2i_0, Bool.true_eq_false, Bool.false_eq_true, eq_self, if_true, if_false, not_true_eq_false, not_false_eq_true, g83, q20, h20, ivM, M_opd C.P h30, q8, h8, show n2 o + 1 = n2 (o + 1) from n2_add o 1, p_on, m1]
/-- the end of one -/
theorem X_173 {x : Rf} {k : Nat} (hB : 64 ≤ mNx B) (h5 : c.t = 5) (h8 : c.i 138 = n2 (k + 1)) : bX6_one_173 rc (some (mNx B)) x (ovs B (c :: T) z) = some (.inl x, ovs B (c.sI 138 (n2 k) :: T) z) := by
  have G8 : gI (ovs B (c :: T) z) (some (mNx B)) 138 = some (n2 (k + 1)) := (rd5_get h5 (by decide)).trans (congrArg some h8)
  have p8 : pI (ovs B (c :: T) z) (some (mNx B)) 138 (n2 k) = some (ovs B (c.sI 138 (n2 k) :: T) z) := rd5_put hB h5 (by decide)
  unfold bX6_one_173
  simp -implicitDefEqProofs only [Option.bind_some, bd_some, b2i_0, Bool.true_eq_false, Bool.false_eq_true, eq_self, if_true, if_false, not_true_eq_false, not_false_eq_true, G8, show n2 (k + 1) - 1 = n2 k from by rw [li_1, n2_sub (by omega), Nat.add_sub_cancel], p8]
theorem CSt.s8 (C : CSt B m tp to most A Z c T z r h p Q l o) (v : Int32) : CSt B m tp to most A Z (c.sI 138 v) T z r h p Q l o :=
  ⟨C.S.sI (by omega) v, by rw [nu_sI (by decide)]; exact C.g, C.t5, (i_ne c v (by decide)).trans C.x7, C.o20, C.P⟩
theorem M_push96 {x : Nat} (hx : x < 8) (P : PS h Q l o) (h30 : Q.length < 30) : bX4_one_96 kk (some 106) (some 112) (n2 Q.length) (n2 x) (mkM b' n s (m.sRH r h)) = kk (some 106) (mkM b' n s (m.sRH r ((h.psh Q.length (n2 x)).spm (n2 (Q.length + 1))))) := by
  have g2 : gI (mkM b' n s (m.sRH r (h.psh Q.length (n2 x)))) (some 106) 82 = some (n2 Q.length) := g_pm.trans (congrArg some P.pm)
  unfold bX4_one_96
  simp -implicitDefEqProofs only [Option.bind_some, bd_some, b2i_0, Bool.true_eq_false, Bool.false_eq_true, eq_self, if_true, if_false, not_true_eq_false, not_false_eq_true, u_pile h30, g2, show n2 Q.length + 1 = n2 (Q.length + 1) from n2_add _ 1, p_pm]
end Mid
theorem one_of (IH : COne B m tp to most A Z b' n s d) : COne B m tp to most A Z b' n s (d + 1) := by
  have IO := or_of (and_of IH)
  intro c T z r h p Q l o F0 F1 C h138 hQ8 hQl hlen hd hF0 hF1
  obtain ⟨F1, rfl⟩ : ∃ g, F1 = g + 1 := ⟨F1 - 1, by omega⟩
  have R := C.S.R
  have hB : 64 ≤ mNx B := by have := R.hB; omega
  have ho := C.o20
  have nz0 : nz (0 : Int32) = 0 := by decide
  have nz1 : nz (1 : Int32) = 1 := by decide
  have s40 := X_sg (z := z) C.S 40
  have w21 := X_w21 (z := z) C.S
  have w22 := X_w22 (z := z) C.S
  have w23 := X_w23 (z := z) C.S
  have ar := X_area (z := z) C.S C.t5
  rw [sRH_r] at s40 w21 w22 w23 ar
  rw [atN_self] at w22
  rw [atN_held] at w23
  have at4 : fX4_atom (some 106) (mkM b' n s (m.sRH r h)) = some (if atN r < 8 then n2 (atN r) else -1, mkM b' n s (m.sRH r h)) := M_atom
  have m1p : ((0 : Int32) ≤ (-1 : Int32)) = False := eq_false (by decide)
  have h30 : Q.length < 30 := by omega
  have toF : ∀ (c' : Cl) (q : Nat), nu c' to q < hcFuel := fun c' q => by have := R.to_; unfold nu hcFuel; split <;> omega
  show CdG B m tp to most A Z b' n s c T h p (nu c to p) o (DOne Q l) (fX6_one (fX6_oneR d) (some (mNx B)) (ovs B (c :: T) z)) _ ∨ Bad B m A Z to b' n s (fX6_one (fX6_oneR d) (some (mNx B)) (ovs B (c :: T) z)) _
  -- what the model does, by what its one does
  have MBe : ∀ {y : Option (Int32 × Mem)}, bX4_one_0B (bX4_one_0 F1) (some 106) (mkM b' n s (m.sRH r h)) = y → MB b' n s F0 (F1 + 1) (m.sRH r h) = bd y fun x st => if ¬ x = 0 then bX4_cond_9 (bX4_cond_0 F0) hcFuel (some 106) st else some (0, st) := fun hy => by
    rw [← hy]; rfl
  have badB : ∀ {α : Type} {rx : Option ((α ⊕ Nat) × Mem)} {y : Option (Int32 × Mem)}, Bad B m A Z to b' n s rx y → Bad B m A Z to b' n s rx (bd y fun x st => if ¬ x = 0 then bX4_cond_9 (bX4_cond_0 F0) hcFuel (some 106) st else some (0, st)) := fun hb => by
    obtain ⟨e, c', T', z', r', h', y1, y2, y3⟩ := hb
    refine ⟨e, c', T', z', r', h', y1, ?_, y3⟩
    rw [y2, bd_some, if_neg (fun q => q rfl)]
  by_cases hop : sg r 40 = true
  · -- a bracket
    have hnt : wd r 7237492 = false := sg_wd hop _
    have hat : atN r = 8 := atN_sg hop
    have kd4 : c.i 128 = 4 := (sg_kind C.S hop).1
    have X0 : fX6_one (fX6_oneR d) (some (mNx B)) (ovs B (c :: T) z) = bX6_one_60 (fX6_oneR d) (some (mNx B)) (b2i true) (b2i false) (b2i (decide (atN r = 6))) (if atN r < 6 then n2 (atN r) else -1) (some (mNx B)) 1 (ovs B (c :: T) z) := by
      unfold fX6_one bX6_one_55
      simp -implicitDefEqProofs only [Option.bind_some, bd_some, b2i_0, Bool.true_eq_false, Bool.false_eq_true, eq_self, if_true, if_false, not_true_eq_false, not_false_eq_true, rd_iv5 C.t5, s40, w21, w22, ar, hop, hnt]
    have M0 : bX4_one_0B (bX4_one_0 F1) (some 106) (mkM b' n s (m.sRH r h)) = bX4_one_36 (bX4_one_0 F1) (some 106) (b2i false) (-1) (mkM b' n s (m.sRH r h)) := by
      unfold bX4_one_0B
      simp -implicitDefEqProofs only [Option.bind_some, bd_some, b2i_0, Bool.true_eq_false, Bool.false_eq_true, eq_self, if_true, if_false, not_true_eq_false, not_false_eq_true, ivM, M_wdq, M_sgq, at4, hop, hnt, hat, show ((8 : Nat) < 8) = False from eq_false (by decide), m1p]
    rcases D_mid (b' := b') (n := n) (s := s) (rc := fX6_oneR d) (kk := bX4_one_0 F1) (v1 := b2i true) (v2 := b2i false) (v3 := b2i (decide (atN r = 6))) (v4 := if atN r < 6 then n2 (atN r) else -1) (w1 := b2i false) (w2 := -1) C h138 hQ8 (by omega) (by rw [kd4]; decide) (by rw [kd4]; decide) with hb | ⟨o19, q7, c1, T1, z1, r1, h1, p1, R1, x1, m1, C1, g1, c18, kc1, kh1, T1e, le1, nu1⟩
    · rw [X0, MBe M0]
      exact Or.inr (badB hb)
    · have P2 := C1.P.push (x := 6) (by decide)
      have m2 : oneM (bX4_one_0 F1) (some 106) (b2i false) (-1) (mkM b' n s (m.sRH r1 h1)) = bX4_one_0 F1 (some 106) (mkM b' n s (m.sRH r1 ((h1.psh Q.length (n2 6)).spm (n2 (Q.length + 1))))) := by
        unfold oneM
        have g2 : gI (mkM b' n s (m.sRH r1 h1)) (some 106) 82 = some (n2 Q.length) := g_pm.trans (congrArg some C1.P.pm)
        simp -implicitDefEqProofs only [Option.bind_some, bd_some, b2i_0, Bool.true_eq_false, Bool.false_eq_true, eq_self, if_true, if_false, not_true_eq_false, not_false_eq_true, m1p, gM_79, g2]
        exact M_push96 (x := 6) (by decide) C1.P h30
      rw [X0, x1, MBe M0, m1, m2]
      generalize hh2 : (h1.psh Q.length (n2 6)).spm (n2 (Q.length + 1)) = h2 at P2
      have kh2 : Kh h h2 := by rw [← hh2]; exact kh1.trans (Kh.push _ _ _)
      have op6 : opS (6 :: Q) = opS Q + 1 := by
        show (if (6 : Nat) = 3 ∨ (6 : Nat) = 6 then 1 else 0) + opS Q = opS Q + 1
        rw [if_pos (Or.inr rfl)]; omega
      have C2 : CSt B m tp to most A Z c1 T1 z1 r1 h2 p1 (6 :: Q) l (o + 1) := ⟨C1.S.hh h2, C1.g, C1.t5, C1.x7, C1.o20, P2⟩
      have I := IO c1 T1 z1 r1 h2 p1 (6 :: Q) l (o + 1) F0 F1 C2 (by rw [op6]; exact c18) (by rw [op6]; omega) (Or.inr ⟨Q, rfl⟩) (by rw [op6, List.length_cons]; omega) (by rw [List.length_cons]; omega) (by rw [op6]; omega) (by omega) (by omega)
      have XT : oneT (fX6_oneR d) (some (mNx B)) (b2i true) (b2i false) (b2i (decide (atN r = 6))) (if atN r < 6 then n2 (atN r) else -1) (ovs B (c1 :: T1) z1) = bt (fX6_or (fX6_oneR d) (some (mNx B)) (ovs B (c1 :: T1) z1)) fun x121 st => bd (iv st (some (mNx B)) [5] (fX5_isSign (some (mNx B)) (41 : Int32) st)) fun x130 st => bt (iv st (some (mNx B)) [5] (fX5_need (some (mNx B)) x130 (1 : Int32) st)) fun _ st => bd (iv st (some (mNx B)) [5] (fX5_go (some (mNx B)) st)) fun _ st => bX6_one_173 (fX6_oneR d) (some (mNx B)) x121 st := by
        unfold oneT
        simp -implicitDefEqProofs only [Option.bind_some, bd_some, b2i_0, Bool.true_eq_false, Bool.false_eq_true, eq_self, if_true, if_false, not_true_eq_false, not_false_eq_true, rd_iv5 C1.t5]
      rw [XT]
      rcases I with ⟨e3, c3, T3, z3, r3, h3, p3, R3, Q3, l3, o3, cnd, F0', F9', y1, y2, C3, y4, y5, y6, y7, y8, y9, y10, y11, y12, y13, u, k, y14, y15, y16, y17, y18, y19, y20⟩ | I
      · subst y16
        subst y17
        have y2' : (bd (bX4_one_0 F1 (some 106) (mkM b' n s (m.sRH r1 h2))) fun x st => if ¬ x = 0 then bX4_cond_9 (bX4_cond_0 F0) hcFuel (some 106) st else some (0, st)) = MCx b' n s F0' F9' (m.sRH r3 h3) := y2
        rw [y1, bt_inl, rd_iv5 C3.t5, X_sg C3.S, bd_some, rd_iv5 C3.t5, y2', sRH_r]
        obtain ⟨F9', rfl⟩ : ∃ g, F9' = g + 1 := ⟨F9' - 1, by omega⟩
        have ul : (u ++ 6 :: Q).length = u.length + (Q.length + 1) := by rw [List.length_append, List.length_cons]
        have o3b := C3.o20
        have plen := Post_len y18
        rw [List.length_append, List.length_map] at plen
        have lk3 : (l ++ k).length = l.length + k.length := List.length_append
        rcases Bool.eq_false_or_eq_true (sg r3 41) with hs | hs
        · obtain ⟨h4, M4, P4, K4⟩ := M_close (b' := b') (n := n) (s := s) (F := F9') (m := m) (r := r3) (kk := bX4_cond_0 F0') C3.P y14 (by omega) (by omega) hs
          have kd3 : c3.i 128 = 4 := (sg_kind C3.S hs).1
          obtain ⟨c4, T4, z4, r4, p4, R4, x4, m4, S4, Kp4, Kr4, T4e, le4, nu4, g4⟩ := goG (b' := b') (n := n) (s := s) (C3.S.hh h4) C3.g (by rw [kd3]; decide)
          have c45 : c4.t = 5 := Kp4.1.trans C3.t5
          have c48 : c4.i 138 = n2 (opS Q + 1) := (Kp4.2.2.2.1 138 (by omega)).trans (y8.trans c18)
          refine Or.inl ⟨e3, c4.sI 138 (n2 (opS Q)), T4, z4, r4, h4, p4, R1 ++ R3 ++ R4, wdR 3 Q, l ++ k ++ u.map n2 ++ (wdP 3 Q).map n2, o3, cnd, F0', F9', ?_, ?_, CSt.s8 ⟨S4, g4.add (by omega) (by omega), c45, (Kp4.2.2.2.1 137 (by omega)).trans C3.x7, C3.o20, P4⟩ _, by rw [T4e, y4, T1e]; simp, by rw [T4e]; exact y5.app, by omega, ((kc1.trans y7).trans Kp4.c).s8 _, by rw [i_self]; exact h138.symm, kh2.trans (y9.trans K4), by omega, ?_, ?_, ?_, rfl, k ++ u.map n2, y18, by simp⟩
          · rw [hs, show b2i true = (1 : Int32) from rfl, X_need1', bt_inl, rd_iv5 C3.t5, x4, bd_some, X_173 hB c45 c48]
          · unfold MCx; rw [M4, m4, bd_some]
          · rw [nu_sI (by decide)]; omega
          · rw [nu_sI (by decide)]; omega
          · rw [nu_sI (by decide)]; omega
        · refine Or.inr ((D_badH (α := Rf) (b' := b') (n := n) (s := s) C3.S C3.g 1 (Or.inl rfl)).eq ?_ ?_)
          · rw [hs, show b2i false = (0 : Int32) from rfl, X_need0' C3.S.R 1, bt_inr]
          · unfold MCx
            exact M_nocl C3.P (by omega) (isO_app u Q) hs y19 y20
      · exact Or.inr (I.bt _)
  · have hop' : sg r 40 = false := by
      rcases Bool.eq_false_or_eq_true (sg r 40) with q | q
      · exact absurd q hop
      · exact q
    by_cases hnt : wd r 7237492 = true
    · -- not
      have hat : atN r = 8 := atN_not hnt
      have kd2 : c.i 128 = 2 := wd_kind C.S hnt
      have X0 : fX6_one (fX6_oneR d) (some (mNx B)) (ovs B (c :: T) z) = bX6_one_60 (fX6_oneR d) (some (mNx B)) (b2i false) (b2i true) (b2i (decide (atN r = 6))) (if atN r < 6 then n2 (atN r) else -1) (some (mNx B)) 1 (ovs B (c :: T) z) := by
        unfold fX6_one bX6_one_55
        simp -implicitDefEqProofs only [Option.bind_some, bd_some, b2i_0, Bool.true_eq_false, Bool.false_eq_true, eq_self, if_true, if_false, not_true_eq_false, not_false_eq_true, rd_iv5 C.t5, s40, w21, w22, ar, hop', hnt]
      have M0 : bX4_one_0B (bX4_one_0 F1) (some 106) (mkM b' n s (m.sRH r h)) = bX4_one_36 (bX4_one_0 F1) (some 106) (b2i true) (-1) (mkM b' n s (m.sRH r h)) := by
        unfold bX4_one_0B
        simp -implicitDefEqProofs only [Option.bind_some, bd_some, b2i_0, Bool.true_eq_false, Bool.false_eq_true, eq_self, if_true, if_false, not_true_eq_false, not_false_eq_true, ivM, M_wdq, M_sgq, at4, hnt, hat, show ((8 : Nat) < 8) = False from eq_false (by decide)]
      rcases D_mid (b' := b') (n := n) (s := s) (rc := fX6_oneR d) (kk := bX4_one_0 F1) (v1 := b2i false) (v2 := b2i true) (v3 := b2i (decide (atN r = 6))) (v4 := if atN r < 6 then n2 (atN r) else -1) (w1 := b2i true) (w2 := -1) C h138 hQ8 (by omega) (by rw [kd2]; decide) (by rw [kd2]; decide) with hb | ⟨o19, q7, c1, T1, z1, r1, h1, p1, R1, x1, m1, C1, g1, c18, kc1, kh1, T1e, le1, nu1⟩
      · rw [X0, MBe M0]
        exact Or.inr (badB hb)
      · have P2 := C1.P.push (x := 3) (by decide)
        have m2 : oneM (bX4_one_0 F1) (some 106) (b2i true) (-1) (mkM b' n s (m.sRH r1 h1)) = bX4_one_0 F1 (some 106) (mkM b' n s (m.sRH r1 ((h1.psh Q.length (n2 3)).spm (n2 (Q.length + 1))))) := by
          unfold oneM
          have g2 : gI (mkM b' n s (m.sRH r1 h1)) (some 106) 82 = some (n2 Q.length) := g_pm.trans (congrArg some C1.P.pm)
          simp -implicitDefEqProofs only [Option.bind_some, bd_some, b2i_0, Bool.true_eq_false, Bool.false_eq_true, eq_self, if_true, if_false, not_true_eq_false, not_false_eq_true, m1p, gM_79, g2]
          exact M_push96 (x := 3) (by decide) C1.P h30
        rw [X0, x1, MBe M0, m1, m2]
        generalize hh2 : (h1.psh Q.length (n2 3)).spm (n2 (Q.length + 1)) = h2 at P2
        have kh2 : Kh h h2 := by rw [← hh2]; exact kh1.trans (Kh.push _ _ _)
        have op3 : opS (3 :: Q) = opS Q + 1 := by
          show (if (3 : Nat) = 3 ∨ (3 : Nat) = 6 then 1 else 0) + opS Q = opS Q + 1
          rw [if_pos (Or.inl rfl)]; omega
        have C2 : CSt B m tp to most A Z c1 (T1 ++ [Cl.nw 7 0]) (z1 + 1) r1 h2 p1 (3 :: Q) l (o + 1) := ⟨(C1.S.hh h2).ch (Chg.app _ _), g1.add (by rw [List.length_append]; simp -implicitDefEqProofs only [List.length_cons, List.length_nil]; omega) (by omega), C1.t5, C1.x7, C1.o20, P2⟩
        have I := IH c1 (T1 ++ [Cl.nw 7 0]) (z1 + 1) r1 h2 p1 (3 :: Q) l (o + 1) F0 F1 C2 (by rw [op3]; exact c18) (by rw [op3]; omega) (by rw [op3, List.length_cons]; omega) (by rw [List.length_cons]; omega) (by rw [op3]; omega) (by omega) (by omega)
        have XT : oneT (fX6_oneR d) (some (mNx B)) (b2i false) (b2i true) (b2i (decide (atN r = 6))) (if atN r < 6 then n2 (atN r) else -1) (ovs B (c1 :: T1) z1) = bt (fX6_oneR d (some (mNx B)) (ovs B (c1 :: (T1 ++ [Cl.nw 7 0])) (z1 + 1))) fun x153 st => bd (nn (some (mNx B + (1 + T1.length))) (fX9_init (some (mNx B + (1 + T1.length))) x153 st)) fun _ st => bX6_one_173 (fX6_oneR d) (some (mNx B)) (some (mNx B + (1 + T1.length))) st := by
          unfold oneT
          simp -implicitDefEqProofs only [Option.bind_some, bd_some, b2i_0, Bool.true_eq_false, Bool.false_eq_true, eq_self, if_true, if_false, not_true_eq_false, not_false_eq_true, tc_nO (t := 7) (by decide), nsl_7, rd_iv5 C1.t5]
        rw [XT]
        rcases I with ⟨e3, c3, T3, z3, r3, h3, p3, R3, Q3, l3, o3, cnd, F0', F9', y1, y2, C3, y4, y5, y6, y7, y8, y9, y10, y11, y12, y13, y14, k, y15, y16⟩ | I
        · have e4 : wdR 3 (3 :: Q) = wdR 3 Q := by simp [wdR, bnd]
          have e5 : wdP 3 (3 :: Q) = 3 :: wdP 3 Q := by simp [wdP, bnd]
          rw [e4] at y14
          rw [e5, List.map_cons] at y16
          subst y14
          subst y16
          have y2' : (bd (bX4_one_0 F1 (some 106) (mkM b' n s (m.sRH r1 h2))) fun x st => if ¬ x = 0 then bX4_cond_9 (bX4_cond_0 F0) hcFuel (some 106) st else some (0, st)) = MCx b' n s F0' F9' (m.sRH r3 h3) := y2
          have len3 : T3.length = T1.length + 1 + R3.length := by rw [y4, List.length_append, List.length_append]; rfl
          have at3 : clD T3 T1.length = Cl.nw 7 0 := by
            rw [y4, clD_apL _ _ _ (by rw [List.length_append]; simp), clD_last]
          have X2 : fX9_init (some (mNx B + (1 + T1.length))) (some (mNx B + (1 + e3))) (ovs B (c3 :: T3) z3) = some ((), ovs B (c3 :: clS T3 T1.length ((clD T3 T1.length).sA 141 (some (mNx B + (1 + e3))))) z3) := X_not9 hB (by omega) (by rw [at3]; rfl)
          rw [at3] at X2
          have chg : Chg T3 (clS T3 T1.length ((Cl.nw 7 0).sA 141 (some (mNx B + (1 + e3))))) := Chg.set (by rw [at3]; exact ⟨fun _ => rfl, fun _ => rfl, by decide⟩) (by rw [at3]; decide) (by rw [at3]; decide)
          have T4e : clS T3 T1.length ((Cl.nw 7 0).sA 141 (some (mNx B + (1 + e3)))) = T ++ (R1 ++ [(Cl.nw 7 0).sA 141 (some (mNx B + (1 + e3)))] ++ R3) := by
            have := clS_apR T1 ([Cl.nw 7 0] ++ R3) 0 ((Cl.nw 7 0).sA 141 (some (mNx B + (1 + e3))))
            rw [y4, List.append_assoc]
            refine this.trans ?_
            rw [T1e]; simp [clS]
          have at4' : clD (clS T3 T1.length ((Cl.nw 7 0).sA 141 (some (mNx B + (1 + e3))))) T1.length = (Cl.nw 7 0).sA 141 (some (mNx B + (1 + e3))) := clS_at T3 _ _ (by omega)
          have len4 : (clS T3 T1.length ((Cl.nw 7 0).sA 141 (some (mNx B + (1 + e3))))).length = T3.length := clS_len _ _ _
          generalize clS T3 T1.length ((Cl.nw 7 0).sA 141 (some (mNx B + (1 + e3)))) = T4 at X2 chg T4e at4' len4
          have c38 : c3.i 138 = n2 (opS Q + 1) := y8.trans c18
          have C4 : CSt B m tp to most A Z c3 T4 z3 r3 h3 p3 (wdR 3 Q) (l ++ (k ++ [n2 3]) ++ (wdP 3 Q).map n2) o3 := ⟨C3.S.ch chg, ⟨by rw [len4]; exact C3.g.1, C3.g.2⟩, C3.t5, C3.x7, C3.o20, by have := C3.P; rw [show l ++ (k ++ [n2 3]) ++ (wdP 3 Q).map n2 = l ++ k ++ n2 3 :: (wdP 3 Q).map n2 by simp]; exact this⟩
          refine Or.inl ⟨T1.length, c3.sI 138 (n2 (opS Q)), T4, z3, r3, h3, p3, _, _, _, o3, .neg cnd, F0', F9', ?_, y2', C4.s8 _, T4e, ?_, by simp -implicitDefEqProofs only [cwt]; omega, (kc1.trans y7).s8 _, by rw [i_self]; exact h138.symm, kh2.trans y9, by omega, ?_, ?_, ?_, rfl, k ++ [n2 3], ⟨k, y15, rfl⟩, rfl⟩
          · rw [y1, bt_inl, nn_some, X2, bd_some, X_173 hB C3.t5 c38]
          · refine ⟨by omega, by rw [at4']; rfl, e3, ?_, y5.ch chg⟩
            rw [at4', a_self]
          · rw [nu_sI (by decide)]; omega
          · rw [nu_sI (by decide)]; omega
          · rw [nu_sI (by decide)]; omega
        · exact Or.inr (I.bt _)
    · have hnt' : wd r 7237492 = false := by
        rcases Bool.eq_false_or_eq_true (wd r 7237492) with q | q
        · exact absurd q hnt
        · exact q
      by_cases hat : atN r < 8
      · -- a comparison
        have tok := atN_wd hat
        have kd2 : c.i 128 = 2 := by
          rcases C.S.K.kd with ⟨-, q⟩ | ⟨-, q⟩ | ⟨q, -, -⟩ | ⟨-, q, -⟩ | ⟨-, q, -⟩
          · rw [sRH_r, tok] at q; exact absurd q (by decide)
          · rw [sRH_r, tok] at q; exact absurd q (by decide)
          · exact q
          · rw [sRH_r, tok] at q; exact absurd q (by decide)
          · rw [sRH_r, tok] at q; exact absurd q (by decide)
        have arE : (if atN r < 6 then n2 (atN r) else (-1 : Int32)) = arX (atN r) := rfl
        have arN : atN r < 6 → (arX (atN r) = (-1 : Int32)) = False := fun h6 => by
          unfold arX; rw [if_pos h6]
          refine eq_false (fun q => ?_)
          have := congrArg Int32.toInt q
          rw [n2_i2, i2_int (by omega) (by omega)] at this
          exact absurd this (by intro q2; have : ((atN r : Nat) : Int) = -1 := q2; omega)
        have X0 : fX6_one (fX6_oneR d) (some (mNx B)) (ovs B (c :: T) z) = bX6_one_60 (fX6_oneR d) (some (mNx B)) (b2i false) (b2i false) (b2i (decide (atN r = 6))) (arX (atN r)) (some (mNx B)) 1 (ovs B (c :: T) z) := by
          unfold fX6_one bX6_one_55
          by_cases h6 : atN r = 6
          · have d6 : decide (atN r = 6) = true := decide_eq_true h6
            simp -implicitDefEqProofs only [Option.bind_some, bd_some, b2i_0, Bool.true_eq_false, Bool.false_eq_true, eq_self, if_true, if_false, not_true_eq_false, not_false_eq_true, rd_iv5 C.t5, s40, w21, w22, ar, hop', hnt', d6, arE]
          · have d6 : decide (atN r = 6) = false := decide_eq_false h6
            by_cases h7 : atN r = 7
            · have d7 : decide (atN r = 7) = true := decide_eq_true h7
              simp -implicitDefEqProofs only [Option.bind_some, bd_some, b2i_0, Bool.true_eq_false, Bool.false_eq_true, eq_self, if_true, if_false, not_true_eq_false, not_false_eq_true, rd_iv5 C.t5, s40, w21, w22, ar, hop', hnt', d6, w23, d7, arE]
            · have d7 : decide (atN r = 7) = false := decide_eq_false h7
              simp -implicitDefEqProofs only [Option.bind_some, bd_some, b2i_0, Bool.true_eq_false, Bool.false_eq_true, eq_self, if_true, if_false, not_true_eq_false, not_false_eq_true, rd_iv5 C.t5, s40, w21, w22, ar, hop', hnt', d6, w23, d7, arE, arN (by omega)]
        have ge : ((0 : Int32) ≤ n2 (atN r)) = True := eq_true (n2_pos (by omega))
        have M0 : bX4_one_0B (bX4_one_0 F1) (some 106) (mkM b' n s (m.sRH r h)) = bX4_one_36 (bX4_one_0 F1) (some 106) (b2i false) (n2 (atN r)) (mkM b' n s (m.sRH r h)) := by
          unfold bX4_one_0B
          simp -implicitDefEqProofs only [Option.bind_some, bd_some, b2i_0, Bool.true_eq_false, Bool.false_eq_true, eq_self, if_true, if_false, not_true_eq_false, not_false_eq_true, ivM, M_wdq, M_sgq, at4, hnt', hat, ge]
        rcases D_mid (b' := b') (n := n) (s := s) (rc := fX6_oneR d) (kk := bX4_one_0 F1) (v1 := b2i false) (v2 := b2i false) (v3 := b2i (decide (atN r = 6))) (v4 := arX (atN r)) (w1 := b2i false) (w2 := n2 (atN r)) C h138 hQ8 (by omega) (by rw [kd2]; decide) (by rw [kd2]; decide) with hb | ⟨o19, q7, c1, T1, z1, r1, h1, p1, R1, x1, m1, C1, g1, c18, kc1, kh1, T1e, le1, nu1⟩
        · rw [X0, MBe M0]
          exact Or.inr (badB hb)
        · have L := D_leaf (b' := b') (n := n) (s := s) hat C1.S C1.g C1.t5 C1.P (by omega) (by omega)
          have XT : oneT (fX6_oneR d) (some (mNx B)) (b2i false) (b2i false) (b2i (decide (atN r = 6))) (arX (atN r)) (ovs B (c1 :: T1) z1) = bt (fX6_compare (some (mNx B)) (arX (atN r)) (b2i (decide (atN r = 6))) (ovs B (c1 :: T1) z1)) fun x168 st => bX6_one_173 (fX6_oneR d) (some (mNx B)) x168 st := by
            unfold oneT
            simp -implicitDefEqProofs only [Option.bind_some, bd_some, b2i_0, Bool.true_eq_false, Bool.false_eq_true, eq_self, if_true, if_false, not_true_eq_false, not_false_eq_true, rd_iv5 C1.t5]
          have MT : oneM (bX4_one_0 F1) (some 106) (b2i false) (n2 (atN r)) (mkM b' n s (m.sRH r1 h1)) = bd (fX4_asks (some 106) (n2 (atN r)) (mkM b' n s (m.sRH r1 h1))) fun x112 st => some ((nz x112), st) := by
            unfold oneM
            simp -implicitDefEqProofs only [Option.bind_some, bd_some, b2i_0, Bool.true_eq_false, Bool.false_eq_true, eq_self, if_true, if_false, not_true_eq_false, not_false_eq_true, ge, ivM]
          rw [X0, x1, MBe M0, m1, XT, MT]
          rcases L with ⟨e3, c3, T3, z3, r3, h3, p3, R3, w, y1, y2, S3, y4, y5, y6, y7, y8, y9, y10, y11, y12⟩ | L
          · have c35 : c3.t = 5 := y4.1.trans C1.t5
            have c38 : c3.i 138 = n2 (opS Q + 1) := (y4.2.2.2.1 138 (by omega)).trans c18
            have C3 : CSt B m tp to most A Z c3 T3 z3 r3 h3 p3 (wdR 3 Q) (l ++ [n2 w] ++ (wdP 3 Q).map n2) (o + 1) := ⟨S3, y8, c35, (y4.2.2.2.1 137 (by omega)).trans C1.x7, C1.o20, y11⟩
            refine Or.inl ⟨e3, c3.sI 138 (n2 (opS Q)), T3, z3, r3, h3, p3, R1 ++ R3, _, _, o + 1, .var w, F0, hcFuel, ?_, ?_, C3.s8 _, by rw [y5, T1e]; simp, y9, by simp -implicitDefEqProofs only [cwt]; omega, (kc1.trans y4.c).s8 _, by rw [i_self]; exact h138.symm, kh1.trans y12, by omega, ?_, ?_, toF _ _, rfl, [n2 w], ⟨y10, rfl⟩, rfl⟩
            · rw [y1, bt_inl, X_173 hB c35 c38]
            · rw [y2, bd_some, nz1, bd_some, if_pos (by decide)]; rfl
            · rw [nu_sI (by decide)]; omega
            · rw [nu_sI (by decide)]; omega
          · refine Or.inr (badB ?_)
            obtain ⟨e, c', T', z', r', h', y1, y2, y3⟩ := L
            refine ⟨e, c', T', z', r', h', by rw [y1]; rfl, ?_, y3⟩
            rw [y2, bd_some, nz0]
      · -- none of them
        have d6 : decide (atN r = 6) = false := decide_eq_false (by omega)
        have d7 : decide (atN r = 7) = false := decide_eq_false (by omega)
        have l6 : (atN r < 6) = False := eq_false (by omega)
        have l8 : (atN r < 8) = False := eq_false hat
        have M0 : bX4_one_0B (bX4_one_0 F1) (some 106) (mkM b' n s (m.sRH r h)) = some (0, mkM b' n s (m.sRH (r.sF 1 r.place) h)) := by
          unfold bX4_one_0B
          simp -implicitDefEqProofs only [Option.bind_some, bd_some, b2i_0, Bool.true_eq_false, Bool.false_eq_true, eq_self, if_true, if_false, not_true_eq_false, not_false_eq_true, ivM, M_wdq, M_sgq, at4, hnt', hop', l8, m1p, M_badH, nz0]
        rw [MBe M0]
        refine Or.inr (badB ((D_badH (α := Rf) (b' := b') (n := n) (s := s) C.S C.g 1 (Or.inl rfl)).eq ?_ rfl))
        unfold fX6_one bX6_one_60
        simp -implicitDefEqProofs only [Option.bind_some, bd_some, b2i_0, Bool.true_eq_false, Bool.false_eq_true, eq_self, if_true, if_false, not_true_eq_false, not_false_eq_true, rd_iv5 C.t5, s40, w21, w22, ar, hop', hnt', d6, w23, d7, l6, X_need0' R 1, bt_inr]
theorem one_all : ∀ d, COne B m tp to most A Z b' n s d
  | 0 => fun _ _ _ _ _ _ _ _ _ _ _ _ _ _ _ _ hd => absurd hd (Nat.not_lt_zero _)
  | d + 1 => one_of (one_all d)
theorem or_all (d : Nat) : COr B m tp to most A Z b' n s d := or_of (and_of (one_all d))
end One
