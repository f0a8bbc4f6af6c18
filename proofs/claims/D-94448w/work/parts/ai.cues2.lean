set_option linter.unusedVariables false
set_option linter.unusedSimpArgs false
set_option maxRecDepth 100000
/-! ===== cues, one after the other ===== -/
abbrev CR (B : Mem) (m : MS) (tp : Nat → Int32) (to most A Z : Nat) (c : Cl) (T : List Cl) (z : Nat) (r : MR) (h : MH) (p : Nat) (Cs : List Cu) (tl hs : Nat) : Prop := (RsR B c T (m.sRH r h) tp to most p) ∧ (Bg (A + gkN Cs.length) (Z + gzN Cs.length) T z (nu c to p) p) ∧ (c.t = 13) ∧ (c.a 148 = some hs) ∧ (c.a 149 = some (mNx B + (1 + 0))) ∧ (LsC (mNx B) T Cs) ∧ (h.coming = n2 Cs.length) ∧ (Cs.length ≤ 30) ∧ (∀ i (hi : i < Cs.length), Cs[i].t ≤ 600 ∧ Cs[i].w ≤ 3 ∧ Cs[i].s < 64) ∧ (∀ i (hi : i < Cs.length), h.newCues (3 * i) = n2 Cs[i].t ∧ h.newCues (3 * i + 1) = n2 Cs[i].w ∧ h.newCues (3 * i + 2) = i2 (cseat Cs[i])) ∧ (Cs.length = 0 → tl = 0) ∧ (0 < Cs.length → h.newCues (3 * Cs.length - 3) = n2 tl) ∧ (tl ≤ 600)
theorem CR.S {B : Mem} {m : MS} {tp : Nat → Int32} {to most A Z : Nat} {c : Cl} {T : List Cl} {z : Nat} {r : MR} {h : MH} {p : Nat} {Cs : List Cu} {tl hs : Nat} (self : CR B m tp to most A Z c T z r h p Cs tl hs) : RsR B c T (m.sRH r h) tp to most p := self.1
theorem CR.g {B : Mem} {m : MS} {tp : Nat → Int32} {to most A Z : Nat} {c : Cl} {T : List Cl} {z : Nat} {r : MR} {h : MH} {p : Nat} {Cs : List Cu} {tl hs : Nat} (self : CR B m tp to most A Z c T z r h p Cs tl hs) : Bg (A + gkN Cs.length) (Z + gzN Cs.length) T z (nu c to p) p := self.2.1
theorem CR.t13 {B : Mem} {m : MS} {tp : Nat → Int32} {to most A Z : Nat} {c : Cl} {T : List Cl} {z : Nat} {r : MR} {h : MH} {p : Nat} {Cs : List Cu} {tl hs : Nat} (self : CR B m tp to most A Z c T z r h p Cs tl hs) : c.t = 13 := self.2.2.1
theorem CR.a148 {B : Mem} {m : MS} {tp : Nat → Int32} {to most A Z : Nat} {c : Cl} {T : List Cl} {z : Nat} {r : MR} {h : MH} {p : Nat} {Cs : List Cu} {tl hs : Nat} (self : CR B m tp to most A Z c T z r h p Cs tl hs) : c.a 148 = some hs := self.2.2.2.1
theorem CR.a149 {B : Mem} {m : MS} {tp : Nat → Int32} {to most A Z : Nat} {c : Cl} {T : List Cl} {z : Nat} {r : MR} {h : MH} {p : Nat} {Cs : List Cu} {tl hs : Nat} (self : CR B m tp to most A Z c T z r h p Cs tl hs) : c.a 149 = some (mNx B + (1 + 0)) := self.2.2.2.2.1
theorem CR.ls {B : Mem} {m : MS} {tp : Nat → Int32} {to most A Z : Nat} {c : Cl} {T : List Cl} {z : Nat} {r : MR} {h : MH} {p : Nat} {Cs : List Cu} {tl hs : Nat} (self : CR B m tp to most A Z c T z r h p Cs tl hs) : LsC (mNx B) T Cs := self.2.2.2.2.2.1
theorem CR.co {B : Mem} {m : MS} {tp : Nat → Int32} {to most A Z : Nat} {c : Cl} {T : List Cl} {z : Nat} {r : MR} {h : MH} {p : Nat} {Cs : List Cu} {tl hs : Nat} (self : CR B m tp to most A Z c T z r h p Cs tl hs) : h.coming = n2 Cs.length := self.2.2.2.2.2.2.1
theorem CR.len {B : Mem} {m : MS} {tp : Nat → Int32} {to most A Z : Nat} {c : Cl} {T : List Cl} {z : Nat} {r : MR} {h : MH} {p : Nat} {Cs : List Cu} {tl hs : Nat} (self : CR B m tp to most A Z c T z r h p Cs tl hs) : Cs.length ≤ 30 := self.2.2.2.2.2.2.2.1
theorem CR.ok {B : Mem} {m : MS} {tp : Nat → Int32} {to most A Z : Nat} {c : Cl} {T : List Cl} {z : Nat} {r : MR} {h : MH} {p : Nat} {Cs : List Cu} {tl hs : Nat} (self : CR B m tp to most A Z c T z r h p Cs tl hs) : ∀ i (hi : i < Cs.length), Cs[i].t ≤ 600 ∧ Cs[i].w ≤ 3 ∧ Cs[i].s < 64 := self.2.2.2.2.2.2.2.2.1
theorem CR.nt {B : Mem} {m : MS} {tp : Nat → Int32} {to most A Z : Nat} {c : Cl} {T : List Cl} {z : Nat} {r : MR} {h : MH} {p : Nat} {Cs : List Cu} {tl hs : Nat} (self : CR B m tp to most A Z c T z r h p Cs tl hs) : ∀ i (hi : i < Cs.length), h.newCues (3 * i) = n2 Cs[i].t ∧ h.newCues (3 * i + 1) = n2 Cs[i].w ∧ h.newCues (3 * i + 2) = i2 (cseat Cs[i]) := self.2.2.2.2.2.2.2.2.2.1
theorem CR.tl0 {B : Mem} {m : MS} {tp : Nat → Int32} {to most A Z : Nat} {c : Cl} {T : List Cl} {z : Nat} {r : MR} {h : MH} {p : Nat} {Cs : List Cu} {tl hs : Nat} (self : CR B m tp to most A Z c T z r h p Cs tl hs) : Cs.length = 0 → tl = 0 := self.2.2.2.2.2.2.2.2.2.2.1
theorem CR.tl1 {B : Mem} {m : MS} {tp : Nat → Int32} {to most A Z : Nat} {c : Cl} {T : List Cl} {z : Nat} {r : MR} {h : MH} {p : Nat} {Cs : List Cu} {tl hs : Nat} (self : CR B m tp to most A Z c T z r h p Cs tl hs) : 0 < Cs.length → h.newCues (3 * Cs.length - 3) = n2 tl := self.2.2.2.2.2.2.2.2.2.2.2.1
theorem CR.tl6 {B : Mem} {m : MS} {tp : Nat → Int32} {to most A Z : Nat} {c : Cl} {T : List Cl} {z : Nat} {r : MR} {h : MH} {p : Nat} {Cs : List Cu} {tl hs : Nat} (self : CR B m tp to most A Z c T z r h p Cs tl hs) : tl ≤ 600 := self.2.2.2.2.2.2.2.2.2.2.2.2
section Cues
variable {B b' : Mem} {m : MS} {tp : Nat → Int32} {to most A Z n s : Nat} {hs : Nat} {H : HS}
theorem bad_w {α β : Type} {A' Z' : Nat} {rx : Option ((α ⊕ Nat) × Mem)} {rm : Option (Int32 × Mem)} {f : α → Mem → Option ((β ⊕ Nat) × Mem)} (hb : Bad B m A' Z' to b' n s rx rm) (hA : A' ≤ A + 4) (hZ : Z' ≤ Z + 80) {kM : Mem → Option (Int32 × Mem)} : BadW B m (A + 4) (Z + 80) to b' n s (bt rx f) (bd rm fun x34 st => if x34 = 0 then bX4_cues_49 (some 106) st else kM st) := by
  obtain ⟨e, c', T', z', r', h', y1, y2, y3, y4, y5, y6, y7, y8⟩ := hb
  refine ⟨e, c', T', z', r', h', by rw [y1]; rfl, ?_, y3, y4, y5, y6, by omega, by omega⟩
  rw [y2, bd_some, if_pos rfl]
  unfold bX4_cues_49
  rw [show mkM b' n s ((m.sR r').sH2 h') = mkM b' n s (m.sRH r' h') from rfl, g_fa, Option.bind_some]
theorem L_cues (t52 : mTag B 52 = 104) (l52 : mLen B 52 = 0) (O : HsO B hs H) (ok : H.Ok) (hH : MHouse m.s H) : ∀ (j F F' : Nat) (c : Cl) (T : List Cl) (z : Nat) (r : MR) (h : MH) (p : Nat) (Cs : List Cu) (tl : Nat), nu c to p < j → nu c to p < F → nu c to p < F' → CR B m tp to most A Z c T z r h p Cs tl hs →
    (∃ c' T' z' r' h' q Cs' tl', bX17_read_6 F (some (mNx B)) (n2 tl) (ovs B (c :: T) z) = some (.inl (some (mNx B + (1 + 0))), ovs B (c' :: T') z') ∧ bX4_cues_26 F' (some 106) (mkM b' n s (m.sRH r h)) = ((uI (mkM b' n s (m.sRH r' h')) (some 108) (590 : Int32) (n2 Cs'.length)).bind fun st => bX4_cues_83 hcFuel (some 106) (0 : Int32) st) ∧ CR B m tp to most A Z c' T' z' r' h' q Cs' tl' hs) ∨
    BadW B m (A + 4) (Z + 80) to b' n s (bX17_read_6 F (some (mNx B)) (n2 tl) (ovs B (c :: T) z)) (bX4_cues_26 F' (some 106) (mkM b' n s (m.sRH r h))) := by
  have nz0 : nz (0 : Int32) = 0 := by decide
  intro j
  induction j with
  | zero => intro F F' c T z r h p Cs tl hn; exact absurd hn (Nat.not_lt_zero _)
  | succ j ih =>
    intro F F' c T z r h p Cs tl hn hF hF' X
    obtain ⟨F, rfl⟩ : ∃ g, F = g + 1 := ⟨F - 1, by omega⟩
    obtain ⟨F', rfl⟩ : ∃ g, F' = g + 1 := ⟨F' - 1, by omega⟩
    have hB := X.S.R.hB
    have k30 := X.len
    have gk4 := gkN_le Cs.length
    have gz80 := gzN_le Cs.length
    have G128 : gI (ovs B (c :: T) z) (some (mNx B)) 128 = some (c.i 128) := rd_get X.S.R.t rfl
    have G149 : ∀ {c : Cl} {T : List Cl} {z : Nat}, c.t = 13 → c.a 149 = some (mNx B + (1 + 0)) → gA (ovs B (c :: T) z) (some (mNx B)) 149 = some (some (mNx B + (1 + 0))) := fun h1 h2 => (rd13_gA h1 (by decide)).trans (congrArg some h2)
    have tk : (c.i 128 = 0 ∧ r.token = 0) ∨ (¬ c.i 128 = 0 ∧ ¬ r.token = 0) := by
      rcases X.S.K.kd with ⟨k1, k2⟩ | ⟨k1, k2⟩ | ⟨k1, k2, -⟩ | ⟨k1, k2, -⟩ | ⟨k1, k2, -⟩
      · exact Or.inl ⟨k1, k2⟩
      · refine Or.inr ⟨?_, by rw [sRH_r] at k2; rw [k2]; decide⟩
        rcases k1 with k1 | k1 <;> rw [k1] <;> decide
      · exact Or.inr ⟨by rw [k1]; decide, by rw [sRH_r] at k2; rw [k2]; decide⟩
      · exact Or.inr ⟨by rw [k1]; decide, by rw [sRH_r] at k2; rw [k2]; decide⟩
      · exact Or.inr ⟨by rw [k1]; decide, by rw [sRH_r] at k2; rw [k2]; decide⟩
    have gco : gI (mkM b' n s (m.sRH r h)) (some 106) 86 = some (n2 Cs.length) := g_co.trans (congrArg some X.co)
    rcases tk with ⟨k1, k2⟩ | ⟨k1, k2⟩
    · -- the end
      refine Or.inl ⟨c, T, z, r, h, p, Cs, tl, ?_, ?_, X⟩
      · show bX17_read_6B _ _ _ _ = _
        unfold bX17_read_6B
        simp -implicitDefEqProofs only [Option.bind_some, bd_some, b2i_0, Bool.true_eq_false, Bool.false_eq_true, eq_self, if_true, if_false, not_true_eq_false, not_false_eq_true, G128, k1, G149 X.t13 X.a149]
      · show bX4_cues_26B _ _ _ = _
        unfold bX4_cues_26B
        generalize hcFuel = fu
        simp -implicitDefEqProofs only [Option.bind_some, bd_some, b2i_0, Bool.true_eq_false, Bool.false_eq_true, eq_self, if_true, if_false, not_true_eq_false, not_false_eq_true, g_tok, k2, gM_61, gco]
    · have w0 := X_w0 (z := z) X.S
      rw [sRH_r] at w0
      obtain ⟨l1, l2, l3⟩ := X.ls.tag
      have iv18 : ∀ {α : Type} (o : Option α), iv (ovs B (c :: T) z) (some (mNx B + (1 + 0))) [18] o = o := fun o => tc_iv l1 (by rw [l2]; rfl)
      have sz : fJ3_size (some (mNx B + (1 + 0))) (ovs B (c :: T) z) = some (n2 Cs.length, ovs B (c :: T) z) := by
        unfold fJ3_size
        have := (tc_gI (B := B) (c := c) (z := z) (i := 0) (f := 154) l1 (by rw [l2]; rfl)).trans (congrArg some l3)
        rw [this]; rfl
      have M0 : bX4_cues_26 (F' + 1) (some 106) (mkM b' n s (m.sRH r h)) = bd (fX4_readCue (some 106) (mkM b' n s (m.sRH r h))) fun x34 st => if x34 = 0 then bX4_cues_49 (some 106) st else bd (iv st (some 106) [4] (fX4_sign (some 106) (59 : Int32) st)) fun x43 st => if ¬ x43 = 0 then (gI st (some 106) 86).bind fun x58 => (pI st (some 106) 86 (x58 + (1 : Int32))).bind fun st => bX4_cues_26 F' (some 106) st else bX4_cues_49 (some 106) st := by
        show bX4_cues_26B (bX4_cues_26 F') _ _ = _
        unfold bX4_cues_26B
        generalize hcFuel = fu
        simp -implicitDefEqProofs only [Option.bind_some, bd_some, b2i_0, Bool.true_eq_false, Bool.false_eq_true, eq_self, if_true, if_false, not_true_eq_false, not_false_eq_true, g_tok, k2, ivM]
      have q30 : (n2 Cs.length = (30 : Int32)) = (Cs.length = 30) := by rw [li_30, n2_eq (by omega) (by omega)]
      have le30 : ((30 : Int32) ≤ n2 Cs.length) = (30 ≤ Cs.length) := by rw [li_30, n2_le (by omega) (by omega)]
      rcases Bool.eq_false_or_eq_true (wd r 24948) with o1 | o1
      · have kd : c.i 128 = 2 := wd_kind (w := 24948) X.S o1
        have X0 : ∀ v : Int32, v = (if 30 ≤ Cs.length then 0 else 1) → bX17_read_6 (F + 1) (some (mNx B)) (n2 tl) (ovs B (c :: T) z) = bX17_read_42 (bX17_read_6 F) (some (mNx B)) (n2 tl) (some (mNx B)) v (ovs B (c :: T) z) := by
          intro v hv
          show bX17_read_6B (bX17_read_6 F) _ _ _ = _
          unfold bX17_read_6B
          by_cases h30 : 30 ≤ Cs.length
          · rw [hv]; simp -implicitDefEqProofs only [Option.bind_some, bd_some, b2i_0, Bool.true_eq_false, Bool.false_eq_true, eq_self, if_true, if_false, not_true_eq_false, not_false_eq_true, G128, k1, rd_iv13 X.t13, w0, o1, show b2i true = (1 : Int32) from rfl, X_need1', bt_inl, G149 X.t13 X.a149, iv18, sz, le30, h30]
          · rw [hv]; simp -implicitDefEqProofs only [Option.bind_some, bd_some, b2i_0, Bool.true_eq_false, Bool.false_eq_true, eq_self, if_true, if_false, not_true_eq_false, not_false_eq_true, G128, k1, rd_iv13 X.t13, w0, o1, show b2i true = (1 : Int32) from rfl, X_need1', bt_inl, G149 X.t13 X.a149, iv18, sz, le30, h30]
        by_cases h30 : Cs.length = 30
        · -- too many
          rw [X0 0 (by rw [if_pos (by omega)]), M0]
          unfold bX17_read_42
          rw [rd_iv13 X.t13]
          refine bad_w (A := A) (Z := Z) (α := Unit) ((D_badH (α := Unit) (b' := b') (n := n) (s := s) X.S X.g 4 (Or.inr (by rw [kd]; decide))).eq ?_ ?_) (by omega) (by omega) |> Or.inr
          · exact X_need0' X.S.R 4
          · unfold fX4_readCue
            simp -implicitDefEqProofs only [Option.bind_some, bd_some, b2i_0, Bool.true_eq_false, Bool.false_eq_true, eq_self, if_true, if_false, not_true_eq_false, not_false_eq_true, ivM, M_wdq, o1, gco, q30, eq_true h30, M_badH, nz0]
        · have hk : Cs.length < 30 := by omega
          obtain ⟨c1, T1, z1, r1, p1, R1, x1, m1, S1, Kp1, Kr1, T1e, le1, nu1, g1⟩ := goG (b' := b') (n := n) (s := s) X.S X.g (by rw [kd]; decide)
          have t131 : c1.t = 13 := Kp1.1.trans X.t13
          have a1481 : c1.a 148 = some hs := (Kp1.2.2.2.2 148 (by decide)).trans X.a148
          have a1491 : c1.a 149 = some (mNx B + (1 + 0)) := (Kp1.2.2.2.2 149 (by decide)).trans X.a149
          have X1 : bX17_read_6 (F + 1) (some (mNx B)) (n2 tl) (ovs B (c :: T) z) = bt (fX5_number (some (mNx B)) (n2 tl) (600 : Int32) (ovs B (c1 :: T1) z1)) fun x55 st => (gA st (some (mNx B)) 149).bind fun x60 => bt (iv st (some (mNx B)) [13] (fX17_cue (some (mNx B)) x55 st)) fun x65 st => bd (iv st x60 [18] (fJ3_add x60 x65 st)) fun x68 st => bt (iv st (some (mNx B)) [13] (fX5_end (some (mNx B)) st)) fun _ st => bX17_read_6 F (some (mNx B)) x55 st := by
            rw [X0 1 (by rw [if_neg (by omega)])]
            unfold bX17_read_42
            simp -implicitDefEqProofs only [Option.bind_some, bd_some, b2i_0, Bool.true_eq_false, Bool.false_eq_true, eq_self, if_true, if_false, not_true_eq_false, not_false_eq_true, rd_iv13 X.t13, X_need1', bt_inl, x1, rd_iv13 t131]
          have gco1 : gI (mkM b' n s (m.sRH r1 h)) (some 106) 86 = some (n2 Cs.length) := g_co.trans (congrArg some X.co)
          have M1 : fX4_readCue (some 106) (mkM b' n s (m.sRH r h)) = bd (fX4_takes (some 106) (n2 tl) (600 : Int32) (mkM b' n s (m.sRH r1 h))) fun x65 st => if ¬ x65 = 0 then (gA st (some 106) 63).bind fun x74 => (gI st (some 106) 73).bind fun x79 => (uI st x74 (n2 (3 * Cs.length)) x79).bind fun st => rcW (some 106) (n2 (3 * Cs.length)) st else some ((0 : Int32), st) := by
            have v1 : (3 : Int32) * n2 Cs.length = n2 (3 * Cs.length) := by rw [li_3, n2_mul]
            have q0 : (n2 Cs.length = (0 : Int32)) = (Cs.length = 0) := by rw [li_0, n2_eq (by omega) (by omega)]
            unfold fX4_readCue bX4_readCue_62 rcW
            by_cases h0 : Cs.length = 0
            · have tl0 := X.tl0 h0
              rw [tl0]
              simp -implicitDefEqProofs only [Option.bind_some, bd_some, b2i_0, Bool.true_eq_false, Bool.false_eq_true, eq_self, if_true, if_false, not_true_eq_false, not_false_eq_true, ivM, M_wdq, o1, gco, q30, show (Cs.length = 30) = False from eq_false h30, m1, gco1, q0, eq_true h0, v1]
              rfl
            · have ix : n2 (3 * Cs.length) - (3 : Int32) = n2 (3 * Cs.length - 3) := by rw [li_3, n2_sub (by omega)]
              have an : aI (mkM b' n s (m.sRH r1 h)) (some 110) (n2 (3 * Cs.length - 3)) = some (n2 tl) := (a_nc (by omega)).trans (congrArg some (X.tl1 (by omega)))
              simp -implicitDefEqProofs only [Option.bind_some, bd_some, b2i_0, Bool.true_eq_false, Bool.false_eq_true, eq_self, if_true, if_false, not_true_eq_false, not_false_eq_true, ivM, M_wdq, o1, gco, q30, show (Cs.length = 30) = False from eq_false h30, m1, gco1, q0, eq_false h0, v1, gM_63, ix, an]
          rw [X1, M0, M1]
          have g1' : Bg (A + gkN Cs.length) (Z + gzN Cs.length) T1 z1 (nu c1 to p1) p1 := g1.add (by omega) (by omega)
          rcases D_number (b' := b') (n := n) (s := s) (lo := n2 tl) (hi := 600) S1 g1' with ⟨v, c2, T2, z2, r2, p2, R2, x2, m2, S2, Kp2, T2e, le2, nu2, g2, hgot, hlo, hhi⟩ | hb
          · rw [sRH_sR] at m2 S2
            have tl6 := X.tl6
            obtain ⟨t, ht1, ht2, rfl⟩ := in_true (a := v) (l := tl) (u := 600) (by decide) (by omega) (decide_eq_true ⟨hlo, hhi⟩)
            have t132 : c2.t = 13 := Kp2.1.trans t131
            have a1482 : c2.a 148 = some hs := (Kp2.2.2.2.2 148 (by decide)).trans a1481
            have a1492 : c2.a 149 = some (mNx B + (1 + 0)) := (Kp2.2.2.2.2 149 (by decide)).trans a1491
            obtain ⟨h2, hh2⟩ : ∃ h2, h2 = h.sNc (upq h.newCues (3 * Cs.length) (n2 t)) := ⟨_, rfl⟩
            have u1 : uI (mkM b' n s (m.sRH r2 h)) (some 110) (n2 (3 * Cs.length)) (n2 t) = some (mkM b' n s (m.sRH r2 h2)) := by rw [u_nc (by omega), hh2]
            rw [x2, bt_inl, G149 t132 a1492, Option.bind_some, rd_iv13 t132, m2, bd_some, if_pos (by decide), gM_63, Option.bind_some, g_got, Option.bind_some, hgot, u1, Option.bind_some]
            rcases D_cue (b' := b') (n := n) (s := s) (z := z2) (t := t) (k := Cs.length) (S2.hh h2) (g2.add (by omega) (by omega)) t132 a1482 O ok hH hk with ⟨e, c3, T3, z3, r3, f3, p3, R3, cu, y1, y2, S3, Kp3, T3e, le3, nu3, g3, cT, ct, cw, cs, f1, f2, f0⟩ | hb
            · -- a cue: it is added
              have L3 : LsC (mNx B) T3 Cs := by rw [T3e, T2e, T1e]; exact ((X.ls.app (R := R1)).app (R := R2)).app
              obtain ⟨T4, z4, ad, L4, C4, lT4, lz4⟩ := D_addC (c := c3) (z := z3) hB t52 l52 L3 hk cT
              have t133 : c3.t = 13 := Kp3.1.trans t132
              have a1483 : c3.a 148 = some hs := (Kp3.2.2.2.2 148 (by decide)).trans a1482
              have a1493 : c3.a 149 = some (mNx B + (1 + 0)) := (Kp3.2.2.2.2 149 (by decide)).trans a1492
              obtain ⟨l31, l32, l33⟩ := L3.tag
              have iv3 : ∀ {α : Type} (o : Option α), iv (ovs B (c3 :: T3) z3) (some (mNx B + (1 + 0))) [18] o = o := fun o => tc_iv l31 (by rw [l32]; rfl)
              have g4 : Bg (A + gkN (Cs.length + 1)) (Z + gzN (Cs.length + 1)) T4 z4 (nu c3 to p3) p3 := by
                obtain ⟨b1, b2⟩ := g3
                exact ⟨by omega, by omega⟩
              rw [y1, bt_inl, iv3, ad, bd_some, rd_iv13 t133, y2, bd_some, if_neg (by decide), ivM]
              have gk4' := gkN_le (Cs.length + 1)
              have gz80' := gzN_le (Cs.length + 1)
              have S4 : RsR B c3 T4 (m.sRH r3 (h2.sNc f3)) tp to most p3 := S3.ch C4
              rcases D_end (b' := b') (n := n) (s := s) S4 g4 with ⟨v5, c5, T5, z5, r5, p5, R5, x5, m5, S5, Kp5, T5e, le5, nu5, g5, Kr5⟩ | hb
              · rw [sRH_sR] at m5 S5
                have len1 : (Cs ++ [cu]).length = Cs.length + 1 := by rw [List.length_append]; rfl
                have co5 : gI (mkM b' n s (m.sRH r5 (h2.sNc f3))) (some 106) 86 = some (n2 Cs.length) := by
                  refine g_co.trans ?_
                  show some h2.coming = _
                  rw [hh2]; exact congrArg some X.co
                rw [x5, bt_inl, m5, bd_some, if_pos (by decide), co5, Option.bind_some, show n2 Cs.length + 1 = n2 (Cs.length + 1) from n2_add _ 1, p_co, Option.bind_some]
                have X5 : CR B m tp to most A Z c5 T5 z5 r5 ((h2.sNc f3).sCo (n2 (Cs.length + 1))) p5 (Cs ++ [cu]) t hs := by
                  have fo : ∀ v, v ≠ 3 * Cs.length → v ≠ 3 * Cs.length + 1 → v ≠ 3 * Cs.length + 2 → f3 v = h.newCues v := fun v h1 h2' h3 => by
                    rw [f0 v h2' h3, hh2]; exact upq_ne _ _ h1
                  have ft : f3 (3 * Cs.length) = n2 t := by
                    rw [f0 _ (by omega) (by omega), hh2]; exact upq_self _ _ _
                  have nc : ((h2.sNc f3).sCo (n2 (Cs.length + 1))).newCues = f3 := rfl
                  refine ⟨S5.hh _, ?_, Kp5.1.trans t133, (Kp5.2.2.2.2 148 (by decide)).trans a1483, (Kp5.2.2.2.2 149 (by decide)).trans a1493, by rw [T5e]; exact L4.app, by rw [len1]; rfl, by omega, fun i hi => ?_, fun i hi => ?_, fun q => by omega, fun _ => ?_, ht2⟩
                  · rw [len1]; exact g5.add (by omega) (by omega)
                  · rw [len1] at hi
                    by_cases q : i < Cs.length
                    · rw [List.getElem_append_left q]; exact X.ok i q
                    · have : i = Cs.length := by omega
                      subst this
                      have gt : (Cs ++ [cu])[Cs.length]'(by rw [len1]; omega) = cu := by simp
                      rw [gt]; exact ⟨by rw [ct]; exact ht2, cw, cs⟩
                  · rw [nc]
                    rw [len1] at hi
                    by_cases q : i < Cs.length
                    · rw [List.getElem_append_left q, fo _ (by omega) (by omega) (by omega), fo _ (by omega) (by omega) (by omega), fo _ (by omega) (by omega) (by omega)]; exact X.nt i q
                    · have : i = Cs.length := by omega
                      subst this
                      have gt : (Cs ++ [cu])[Cs.length]'(by rw [len1]; omega) = cu := by simp
                      rw [gt, ct]; exact ⟨ft, f1, f2⟩
                  · rw [nc, len1, show 3 * (Cs.length + 1) - 3 = 3 * Cs.length by omega]; exact ft
                exact ih F F' c5 T5 z5 r5 _ p5 (Cs ++ [cu]) t (by omega) (by omega) (by omega) X5
              · refine Or.inr ?_
                obtain ⟨e', c', T', z', r', h', q1, q2, q3, q4, q5, q6, q7, q8⟩ := hb.sRH
                refine ⟨e', c', T', z', r', h', by rw [q1]; rfl, ?_, q3, q4, q5, q6, by omega, by omega⟩
                rw [q2, bd_some, if_neg (fun q => q rfl)]
                unfold bX4_cues_49
                rw [show mkM b' n s ((m.sR r').sH2 h') = mkM b' n s (m.sRH r' h') from rfl, g_fa, Option.bind_some]
            · exact Or.inr (bad_w (A := A) (Z := Z) hb (by omega) (by omega))
          · refine Or.inr (bad_w (A := A) (Z := Z) ((hb.sRH).eq rfl ?_) (by omega) (by omega))
            obtain ⟨e', c', T', z', r', h', q1, q2, q3⟩ := hb.sRH
            rw [q2, bd_some, if_neg (fun q => q rfl)]
      · -- no 'at'
        rw [M0]
        have X0 : bX17_read_6 (F + 1) (some (mNx B)) (n2 tl) (ovs B (c :: T) z) = bt (fX5_need (some (mNx B)) 0 (1 : Int32) (ovs B (c :: T) z)) fun _ st => (gA st (some (mNx B)) 149).bind fun x26 => bd (iv st x26 [18] (fJ3_size x26 st)) fun x29 st => if (30 : Int32) ≤ x29 then bX17_read_42 (bX17_read_6 F) (some (mNx B)) (n2 tl) (some (mNx B)) (0 : Int32) st else bX17_read_42 (bX17_read_6 F) (some (mNx B)) (n2 tl) (some (mNx B)) (1 : Int32) st := by
          show bX17_read_6B (bX17_read_6 F) _ _ _ = _
          unfold bX17_read_6B
          simp -implicitDefEqProofs only [Option.bind_some, bd_some, b2i_0, Bool.true_eq_false, Bool.false_eq_true, eq_self, if_true, if_false, not_true_eq_false, not_false_eq_true, G128, k1, rd_iv13 X.t13, w0, o1, show b2i false = (0 : Int32) from rfl]
        rw [X0]
        refine Or.inr (bad_w (A := A) (Z := Z) ((D_badH (α := Unit) (b' := b') (n := n) (s := s) X.S X.g 1 (Or.inl rfl)).eq (X_need0' X.S.R 1) ?_) (by omega) (by omega))
        unfold fX4_readCue
        simp -implicitDefEqProofs only [Option.bind_some, bd_some, b2i_0, Bool.true_eq_false, Bool.false_eq_true, eq_self, if_true, if_false, not_true_eq_false, not_false_eq_true, ivM, M_wdq, o1, M_badH, nz0]
end Cues
