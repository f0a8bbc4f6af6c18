set_option linter.unusedVariables false
set_option linter.unusedSimpArgs false
set_option maxRecDepth 100000
/-! ===== a house's lines, one after the other ===== -/
def BadW {α : Type} (B : Mem) (m : MS) (A Z to : Nat) (b' : Mem) (n s : Nat) (rx : Option ((α ⊕ Nat) × Mem)) (rm : Option (Int32 × Mem)) : Prop :=
  ∃ e c' T' z' r' h', rx = some (.inr (mNx B + (1 + e)), ovs B (c' :: T') z') ∧ rm = some (-1 - r'.faultAt, mkM b' n s (m.sRH r' h')) ∧ e < T'.length ∧ (clD T' e).t = 6 ∧ (clD T' e).i 139 = r'.fault ∧ (clD T' e).i 140 = r'.faultAt ∧ T'.length ≤ A + 4 * to + 1 ∧ z' ≤ Z + 32 * to + 8
section Read
variable {B b' : Mem} {m : MS} {tp : Nat → Int32} {to most A Z n s : Nat} {c : Cl} {T : List Cl} {z p ln : Nat} {r : MR} {h : MH} {H : HS}
theorem g_fa {r : MR} {h : MH} : gI (mkM b' n s (m.sRH r h)) (some 106) 69 = some r.faultAt := gM_69
/-- the end of a line -/
theorem D_tail {kX : Rf → Mem → Option ((Rf ⊕ Nat) × Mem)} {kM : Rf → Mem → Option (Int32 × Mem)} {rx : Option ((Unit ⊕ Nat) × Mem)} {rm : Option (Int32 × Mem)} (L : LnR B m tp to most A Z b' n s c p ln rx rm) :
    (∃ c' T' z' r' h' q H', (bt rx fun _ st => bX6_read_146 kX (some (mNx B)) st) = kX (some (mNx B)) (ovs B (c' :: T') z') ∧ (bd rm fun x53 st => if x53 = 0 then bX4_house_68 (some 106) st else bd (iv st (some 106) [4] (fX4_sign (some 106) (59 : Int32) st)) fun x62 st => if ¬ x62 = 0 then (gI st (some 106) 74).bind fun x77 => (pI st (some 106) 74 (x77 + (1 : Int32))).bind fun st => kM (some 106) st else bX4_house_68 (some 106) st) = kM (some 106) (mkM b' n s (m.sRH r' h')) ∧ HR B m tp to most A Z c' T' z' r' h' q H' (ln + 1) ∧ p ≤ q ∧ nu c' to q < nu c to p) ∨
    BadW B m A Z to b' n s (bt rx fun _ st => bX6_read_146 kX (some (mNx B)) st) (bd rm fun x53 st => if x53 = 0 then bX4_house_68 (some 106) st else bd (iv st (some 106) [4] (fX4_sign (some 106) (59 : Int32) st)) fun x62 st => if ¬ x62 = 0 then (gI st (some 106) 74).bind fun x77 => (pI st (some 106) 74 (x77 + (1 : Int32))).bind fun st => kM (some 106) st else bX4_house_68 (some 106) st) := by
  rcases L with ⟨c1, T1, z1, r1, h1, p1, H1, x1, m1, X1, le1, nu1⟩ | ⟨e, c', T', z', r', h', y1, y2, y3⟩
  · have hB : 64 ≤ mNx B := by have := X1.S.R.hB; omega
    rw [x1, m1, bt_inl, bd_some, if_neg (by decide), ivM]
    unfold bX6_read_146
    rw [rd_iv5 X1.t5]
    rcases D_end (b' := b') (n := n) (s := s) X1.S X1.g with ⟨v, c2, T2, z2, r2, p2, R2, x2, m2, S2, Kp2, T2e, le2, nu2, g2, Kr2⟩ | hb
    · rw [sRH_sR] at m2 S2
      have X2 : HR B m tp to most A Z c2 T2 z2 r2 h1 p2 H1 ln := X1.go S2 (g2.add (by omega) (by omega)) Kp2.c (Kh.refl h1) T2e
      have len2 := X2.ho.len
      have G32 : gI (ovs B (c2 :: T2) z2) (some (mNx B + (1 + 0))) 32 = some (n2 ln) := (X2.ho.gI (by decide)).trans (congrArg some X2.ho.lines)
      have P32 := tc_pI (B := B) (c := c2) (z := z2) (T := T2) (i := 0) (f := 32) (v := n2 (ln + 1)) hB (by omega) (by rw [X2.ho.t0]; rfl)
      refine Or.inl ⟨c2, clS T2 0 ((clD T2 0).sI 32 (n2 (ln + 1))), z2, r2, h1.sLn (n2 (ln + 1)), p2, H1, ?_, ?_, ⟨(S2.hh _).ch (X2.ho.sh.chg (by decide) _), ?_, X2.t5, X2.ho.sLn, X2.a133, X2.i134, X2.i135, X2.i136, rfl⟩, by omega, by omega⟩
      · rw [x2, bt_inl]
        simp -implicitDefEqProofs only [Option.bind_some, bd_some, b2i_0, Bool.true_eq_false, Bool.false_eq_true, eq_self, if_true, if_false, not_true_eq_false, not_false_eq_true, X2.gA, G32, show n2 ln + 1 = n2 (ln + 1) from n2_add ln 1, P32]
      · have gl : gI (mkM b' n s (m.sRH r2 h1)) (some 106) 74 = some (n2 ln) := g_lin.trans (congrArg some X1.ml)
        rw [m2, bd_some, if_pos (by decide)]
        simp -implicitDefEqProofs only [Option.bind_some, bd_some, b2i_0, Bool.true_eq_false, Bool.false_eq_true, eq_self, if_true, if_false, not_true_eq_false, not_false_eq_true, gl, show n2 ln + 1 = n2 (ln + 1) from n2_add ln 1, p_lin]
      · obtain ⟨b1, b2⟩ := X2.g
        exact ⟨by rw [clS_len]; exact b1, b2⟩
    · refine Or.inr ?_
      obtain ⟨e, c', T', z', r', h', y1, y2, y3⟩ := hb.sRH
      refine ⟨e, c', T', z', r', h', by rw [y1]; rfl, ?_, y3⟩
      rw [y2, bd_some, if_neg (fun q => q rfl)]
      unfold bX4_house_68
      rw [show mkM b' n s ((m.sR r').sH2 h') = mkM b' n s (m.sRH r' h') from rfl, g_fa, Option.bind_some]
  · refine Or.inr ⟨e, c', T', z', r', h', by rw [y1]; rfl, ?_, y3⟩
    rw [y2, bd_some, if_pos rfl]
    unfold bX4_house_68
    rw [show mkM b' n s ((m.sR r').sH2 h') = mkM b' n s (m.sRH r' h') from rfl, g_fa, Option.bind_some]
theorem L_read : ∀ (j F F' : Nat) (c : Cl) (T : List Cl) (z : Nat) (r : MR) (h : MH) (p : Nat) (H : HS) (ln : Nat), nu c to p < j → nu c to p < F → nu c to p < F' → HR B m tp to most A Z c T z r h p H ln →
    (∃ c' T' z' r' h' q H' ln', bX6_read_4 F (some (mNx B)) (ovs B (c :: T) z) = (bd (fX2_open (some (mNx B + (1 + 0))) (ovs B (c' :: T') z')) fun x170 st => some (.inl x170, st)) ∧ bX4_house_45 F' (some 106) (mkM b' n s (m.sRH r h)) = bX4_house_90 hcFuel (some 106) (0 : Int32) (mkM b' n s (m.sRH r' h')) ∧ HR B m tp to most A Z c' T' z' r' h' q H' ln') ∨
    BadW B m A Z to b' n s (bX6_read_4 F (some (mNx B)) (ovs B (c :: T) z)) (bX4_house_45 F' (some 106) (mkM b' n s (m.sRH r h))) := by
  intro j
  induction j with
  | zero => intro F F' c T z r h p H ln hn; exact absurd hn (Nat.not_lt_zero _)
  | succ j ih =>
    intro F F' c T z r h p H ln hn hF hF' X
    obtain ⟨F, rfl⟩ : ∃ g, F = g + 1 := ⟨F - 1, by omega⟩
    obtain ⟨F', rfl⟩ : ∃ g, F' = g + 1 := ⟨F' - 1, by omega⟩
    have G128 : gI (ovs B (c :: T) z) (some (mNx B)) 128 = some (c.i 128) := rd_get X.S.R.t rfl
    have tk : (c.i 128 = 0 ∧ r.token = 0) ∨ (¬ c.i 128 = 0 ∧ ¬ r.token = 0) := by
      rcases X.S.K.kd with ⟨k1, k2⟩ | ⟨k1, k2⟩ | ⟨k1, k2, -⟩ | ⟨k1, k2, -⟩ | ⟨k1, k2, -⟩
      · exact Or.inl ⟨k1, k2⟩
      · refine Or.inr ⟨?_, by rw [sRH_r] at k2; rw [k2]; decide⟩
        rcases k1 with k1 | k1 <;> rw [k1] <;> decide
      · exact Or.inr ⟨by rw [k1]; decide, by rw [sRH_r] at k2; rw [k2]; decide⟩
      · exact Or.inr ⟨by rw [k1]; decide, by rw [sRH_r] at k2; rw [k2]; decide⟩
      · exact Or.inr ⟨by rw [k1]; decide, by rw [sRH_r] at k2; rw [k2]; decide⟩
    rcases tk with ⟨k1, k2⟩ | ⟨k1, k2⟩
    · -- the end
      have len := X.ho.len
      refine Or.inl ⟨c, T, z, r, h, p, H, ln, ?_, ?_, X⟩
      · show bX6_read_4B _ _ _ = _
        unfold bX6_read_4B
        have iv2 : ∀ {α : Type} (o : Option α), iv (ovs B (c :: T) z) (some (mNx B + (1 + 0))) [2] o = o := fun o => tc_iv (by omega) (by rw [X.ho.t0]; rfl)
        simp -implicitDefEqProofs only [Option.bind_some, bd_some, b2i_0, Bool.true_eq_false, Bool.false_eq_true, eq_self, if_true, if_false, not_true_eq_false, not_false_eq_true, G128, k1, X.gA, iv2]
      · show bX4_house_45B _ _ _ = _
        unfold bX4_house_45B
        generalize hcFuel = fu
        simp -implicitDefEqProofs only [Option.bind_some, bd_some, b2i_0, Bool.true_eq_false, Bool.false_eq_true, eq_self, if_true, if_false, not_true_eq_false, not_false_eq_true, g_tok, k2]
    · have M0 : bX4_house_45 (F' + 1) (some 106) (mkM b' n s (m.sRH r h)) = bd (fX4_line (some 106) (mkM b' n s (m.sRH r h))) fun x53 st => if x53 = 0 then bX4_house_68 (some 106) st else bd (iv st (some 106) [4] (fX4_sign (some 106) (59 : Int32) st)) fun x62 st => if ¬ x62 = 0 then (gI st (some 106) 74).bind fun x77 => (pI st (some 106) 74 (x77 + (1 : Int32))).bind fun st => bX4_house_45 F' (some 106) st else bX4_house_68 (some 106) st := by
        show bX4_house_45B (bX4_house_45 F') _ _ = _
        unfold bX4_house_45B
        generalize hcFuel = fu
        simp -implicitDefEqProofs only [Option.bind_some, bd_some, b2i_0, Bool.true_eq_false, Bool.false_eq_true, eq_self, if_true, if_false, not_true_eq_false, not_false_eq_true, g_tok, k2, ivM]
      -- from a line on
      have go : ∀ {rx : Option ((Unit ⊕ Nat) × Mem)}, LnR B m tp to most A Z b' n s c p ln rx (fX4_line (some 106) (mkM b' n s (m.sRH r h))) → bX6_read_4 (F + 1) (some (mNx B)) (ovs B (c :: T) z) = (bt rx fun _ st => bX6_read_146 (bX6_read_4 F) (some (mNx B)) st) →
          (∃ c' T' z' r' h' q H' ln', bX6_read_4 (F + 1) (some (mNx B)) (ovs B (c :: T) z) = (bd (fX2_open (some (mNx B + (1 + 0))) (ovs B (c' :: T') z')) fun x170 st => some (.inl x170, st)) ∧ bX4_house_45 (F' + 1) (some 106) (mkM b' n s (m.sRH r h)) = bX4_house_90 hcFuel (some 106) (0 : Int32) (mkM b' n s (m.sRH r' h')) ∧ HR B m tp to most A Z c' T' z' r' h' q H' ln') ∨
          BadW B m A Z to b' n s (bX6_read_4 (F + 1) (some (mNx B)) (ovs B (c :: T) z)) (bX4_house_45 (F' + 1) (some 106) (mkM b' n s (m.sRH r h))) := by
        intro rx L hX
        rw [hX, M0]
        rcases D_tail (b' := b') (n := n) (s := s) (kX := bX6_read_4 F) (kM := bX4_house_45 F') L with ⟨c1, T1, z1, r1, h1, p1, H1, e1, e2, X1, le1, nu1⟩ | hb
        · rw [e1, e2]
          exact ih F F' c1 T1 z1 r1 h1 p1 H1 (ln + 1) (by omega) (by omega) (by omega) X1
        · exact Or.inr hb
      have s5 := X_w5 (z := z) X.S
      have s6 := X_w6 (z := z) X.S
      have s7 := X_w7 (z := z) X.S
      have s8 := X_w8 (z := z) X.S
      have s9 := X_w9 (z := z) X.S
      rw [sRH_r] at s5 s6 s7 s8 s9
      have G35 : gA (ovs B (c :: T) z) (some (mNx B + (1 + 0))) 35 = some (some (mNx B + (1 + 2))) := (X.ho.gA (by decide)).trans (congrArg some X.ho.sh.refs.2.1)
      have G36 : gA (ovs B (c :: T) z) (some (mNx B + (1 + 0))) 36 = some (some (mNx B + (1 + 3))) := (X.ho.gA (by decide)).trans (congrArg some X.ho.sh.refs.2.2.1)
      have G37 : gA (ovs B (c :: T) z) (some (mNx B + (1 + 0))) 37 = some (some (mNx B + (1 + 4))) := (X.ho.gA (by decide)).trans (congrArg some X.ho.sh.refs.2.2.2.1)
      have G38 : gA (ovs B (c :: T) z) (some (mNx B + (1 + 0))) 38 = some (some (mNx B + (1 + 5))) := (X.ho.gA (by decide)).trans (congrArg some X.ho.sh.refs.2.2.2.2.1)
      have iv6 : ∀ v : Bool, iv (ovs B (c :: T) z) (some (mNx B)) [5] (some (b2i v, ovs B (c :: T) z)) = some (b2i v, ovs B (c :: T) z) := fun v => rd_iv5 X.t5
      have nz0 : nz (0 : Int32) = 0 := by decide
      have nz1 : nz (1 : Int32) = 1 := by decide
      -- the model's laws answer what they answer
      have lawR : ∀ {rx : Option ((Unit ⊕ Nat) × Mem)} {y : Option (Int32 × Mem)}, LnR B m tp to most A Z b' n s c p ln rx y → LnR B m tp to most A Z b' n s c p ln rx (bd y fun x st => some ((nz x), st)) := fun L => by
        rcases L with ⟨c1, T1, z1, r1, h1, p1, H1, x1, m1, X1⟩ | ⟨e, c', T', z', r', h', y1, y2, y3⟩
        · exact Or.inl ⟨c1, T1, z1, r1, h1, p1, H1, x1, by rw [m1, bd_some, nz1], X1⟩
        · exact Or.inr ⟨e, c', T', z', r', h', y1, by rw [y2, bd_some, nz0], y3⟩
      rcases Bool.eq_false_or_eq_true (wd r 7499639) with o1 | o1
      · refine go (D_row (b' := b') (n := n) (s := s) X o1) ?_
        show bX6_read_4B (bX6_read_4 F) _ _ = _
        unfold bX6_read_4B
        simp -implicitDefEqProofs only [Option.bind_some, bd_some, b2i_0, Bool.true_eq_false, Bool.false_eq_true, eq_self, if_true, if_false, not_true_eq_false, not_false_eq_true, G128, k1, rd_iv5 X.t5, s5, o1]
      · rcases Bool.eq_false_or_eq_true (wd r 30064) with o2 | o2
        · have kd : c.i 128 = 2 := wd_kind (w := 30064) X.S o2
          have M1 : fX4_line (some 106) (mkM b' n s (m.sRH r h)) = bd (fX4_readLaw (some 106) (n2 0) (mkM b' n s (m.sRH r h))) fun x st => some ((nz x), st) := by
            unfold fX4_line
            simp -implicitDefEqProofs only [Option.bind_some, bd_some, b2i_0, Bool.true_eq_false, Bool.false_eq_true, eq_self, if_true, if_false, not_true_eq_false, not_false_eq_true, ivM, M_wdq, o1, o2]; rfl
          refine go (rx := fX6_law (some (mNx B)) (some (mNx B + (1 + (4 + 0)))) (n2 (6 * 0)) (ovs B (c :: T) z)) (by rw [M1]; exact lawR (D_law (b' := b') (n := n) (s := s) X (by rw [kd]; decide) (Or.inl rfl))) ?_
          show bX6_read_4B (bX6_read_4 F) _ _ = _
          unfold bX6_read_4B
          simp -implicitDefEqProofs only [Option.bind_some, bd_some, b2i_0, Bool.true_eq_false, Bool.false_eq_true, eq_self, if_true, if_false, not_true_eq_false, not_false_eq_true, G128, k1, rd_iv5 X.t5, s5, o1, s6, o2, X.gA, G37]; rfl
        · rcases Bool.eq_false_or_eq_true (wd r 1685026670) with o3 | o3
          · have kd : c.i 128 = 2 := wd_kind (w := 1685026670) X.S o3
            have M1 : fX4_line (some 106) (mkM b' n s (m.sRH r h)) = bd (fX4_readLaw (some 106) (n2 1) (mkM b' n s (m.sRH r h))) fun x st => some ((nz x), st) := by
              unfold fX4_line
              simp -implicitDefEqProofs only [Option.bind_some, bd_some, b2i_0, Bool.true_eq_false, Bool.false_eq_true, eq_self, if_true, if_false, not_true_eq_false, not_false_eq_true, ivM, M_wdq, o1, o2, o3]; rfl
            refine go (rx := fX6_law (some (mNx B)) (some (mNx B + (1 + (4 + 1)))) (n2 (6 * 1)) (ovs B (c :: T) z)) (by rw [M1]; exact lawR (D_law (b' := b') (n := n) (s := s) X (by rw [kd]; decide) (Or.inr rfl))) ?_
            show bX6_read_4B (bX6_read_4 F) _ _ = _
            unfold bX6_read_4B
            simp -implicitDefEqProofs only [Option.bind_some, bd_some, b2i_0, Bool.true_eq_false, Bool.false_eq_true, eq_self, if_true, if_false, not_true_eq_false, not_false_eq_true, G128, k1, rd_iv5 X.t5, s5, o1, s6, o2, s7, o3, X.gA, G38]; rfl
          · rcases Bool.eq_false_or_eq_true (wd r 482955846501) with o4 | o4
            · refine go (D_price (b' := b') (n := n) (s := s) X o4) ?_
              show bX6_read_4B (bX6_read_4 F) _ _ = _
              unfold bX6_read_4B
              simp -implicitDefEqProofs only [Option.bind_some, bd_some, b2i_0, Bool.true_eq_false, Bool.false_eq_true, eq_self, if_true, if_false, not_true_eq_false, not_false_eq_true, G128, k1, iv6, s5, o1, s6, o2, s7, o3, s8, o4, X.gA, G35]
              exact lnX_then (some (mNx B)) (some (mNx B + (1 + 2))) 1 999 (fun st => bX6_read_146 (bX6_read_4 F) (some (mNx B)) st) (ovs B (c :: T) z)
            · rcases Bool.eq_false_or_eq_true (wd r 119182682645875) with o5 | o5
              · refine go (D_leaves (b' := b') (n := n) (s := s) X o5) ?_
                show bX6_read_4B (bX6_read_4 F) _ _ = _
                unfold bX6_read_4B
                simp -implicitDefEqProofs only [Option.bind_some, bd_some, b2i_0, Bool.true_eq_false, Bool.false_eq_true, eq_self, if_true, if_false, not_true_eq_false, not_false_eq_true, G128, k1, iv6, s5, o1, s6, o2, s7, o3, s8, o4, s9, o5, X.gA, G36]
                exact lnX_then (some (mNx B)) (some (mNx B + (1 + 3))) 0 600 (fun st => bX6_read_146 (bX6_read_4 F) (some (mNx B)) st) (ovs B (c :: T) z)
              · refine go (D_once (b' := b') (n := n) (s := s) X o1 o2 o3 o4 o5) ?_
                show bX6_read_4B (bX6_read_4 F) _ _ = _
                unfold bX6_read_4B
                simp -implicitDefEqProofs only [Option.bind_some, bd_some, b2i_0, Bool.true_eq_false, Bool.false_eq_true, eq_self, if_true, if_false, not_true_eq_false, not_false_eq_true, G128, k1, rd_iv5 X.t5, s5, o1, s6, o2, s7, o3, s8, o4, s9, o5]
end Read
