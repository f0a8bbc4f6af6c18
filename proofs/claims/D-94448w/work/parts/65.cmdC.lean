set_option linter.unusedVariables false
set_option linter.unusedSimpArgs false
set_option maxRecDepth 100000
/-! ===== commands: the night ===== -/
def firstS (P : Nat → Bool) : Nat → Nat → Int32
  | 0, t => if P t = true then n2 t else -1
  | k + 1, t => if P t = true then n2 t else firstS P k (t + 1)
def callsS (U : Nat → Bool) : Nat → Nat
  | 0 => if U 0 = true then 1 else 0
  | k + 1 => callsS U k + (if U (k + 1) = true ∧ U k = false then 1 else 0)
theorem callsS_le (U : Nat → Bool) : ∀ k, callsS U k ≤ k + 1
  | 0 => by unfold callsS; split <;> omega
  | k + 1 => by
    have := callsS_le U k
    unfold callsS; split <;> omega
section CmdC
variable {b b' : Mem} {n s : Nat} {x : XS} {m : MS} {H : HS} {C : List Cu} {h c : Nat} {K : Nat → Option (HS × List Cu)}
theorem X_tn (R : Duo b x m H C h c K) {T : Nat} (hT : T ≤ 600) : ∃ y y2, fX1_tonight (some 64) (mkX b x) = some (some (nid false), mkX b (x.setN false y)) ∧ fX3_to (some (nid false)) (n2 T) (mkX b (x.setN false y)) = some (some (nid false), mkX b (x.setN false y2)) ∧ XNt y h c H (nightS H C x.paid x.hiss 0) 0 ∧ XNt y2 h c H (nightS H C x.paid x.hiss T) T := by
  obtain ⟨y, e, I⟩ := X_tonight (T := T) R.hb R.XH R.ok R.XC R.xh R.xc
  obtain ⟨y2, e2, I2⟩ := X_to R.hb (q := false) (p := x.paid) (hi := x.hiss) R.XH R.ok R.XC hT T hcFuel 0 (x.setN false y) (by omega) (by unfold hcFuel; omega) (by rw [setN_n]; exact I)
  rw [setN_setN] at e2
  exact ⟨y, y2, e, e2, I, I2⟩
theorem M_tn (R : Duo b x m H C h c K) {T : Nat} (hT : T ≤ 600) : ∃ g y, fX4_night (some 106) (n2 T) (mkM b' n s m) = some ((), mkM b' n s (m.lay g y)) ∧ Duo b x (m.lay g y) H C h c K ∧ MArea (m.lay g y) H ∧ MRun (m.lay g y) H C x.paid x.hiss (T + 1) := by
  obtain ⟨g, y, e, ha, hR⟩ := M_night (b := b') (n := n) (s := s) hT R.ok R.ar R.MH R.MC R.lays R.l01
  rw [← R.paid, ← R.hiss] at hR
  exact ⟨g, y, e, R.lay ha, ha, hR⟩
theorem C_sees (R : Duo b x m H C h c K) (a t w l : Int32) : ∃ r x' m', fX1_sees (some 64) a t w l (mkX b x) = some (r, mkX b x') ∧ fX4_sees (some 106) a t w l (mkM b' n s m) = some (r, mkM b' n s m') ∧ Duo b x' m' H C h c K := by
  have T := R.th (v := 0)
  have h64 := R.ok.size
  unfold fX1_sees fX4_sees bX4_sees_74
  simp -implicitDefEqProofs only [Option.bind_some, bd_some, b2i_0, Bool.true_eq_false, Bool.false_eq_true, eq_self, if_true, if_false, not_true_eq_false, not_false_eq_true, pM_55', gX_4 R.hb, R.xh, xh_iv R.XH, X_isSeatI R.XH R.ok, ivM, M_isSeatI T.MH R.ok, X_isMoment, M_isMoment, X_isIn, M_isIn]
  cases es : seatI H a
  · simp -implicitDefEqProofs only [Option.bind_some, bd_some, b2i_0, Bool.true_eq_false, Bool.false_eq_true, eq_self, if_true, if_false, not_true_eq_false, not_false_eq_true]; exact ⟨_, _, _, rfl, rfl, T⟩
  obtain ⟨v, hv, hk, rfl⟩ := seatI_true es
  cases et : decide ((0 : Int32) ≤ t ∧ t ≤ 600)
  · simp -implicitDefEqProofs only [Option.bind_some, bd_some, b2i_0, Bool.true_eq_false, Bool.false_eq_true, eq_self, if_true, if_false, not_true_eq_false, not_false_eq_true]; exact ⟨_, _, _, rfl, rfl, T⟩
  obtain ⟨τ, -, hτ, rfl⟩ := in_true (l := 0) (u := 600) (by decide) (by decide) et
  cases ew : decide ((0 : Int32) ≤ w ∧ w ≤ 5)
  · simp -implicitDefEqProofs only [Option.bind_some, bd_some, b2i_0, Bool.true_eq_false, Bool.false_eq_true, eq_self, if_true, if_false, not_true_eq_false, not_false_eq_true]; exact ⟨_, _, _, rfl, rfl, T⟩
  obtain ⟨ω, -, hω, rfl⟩ := in_true (l := 0) (u := 5) (by decide) (by decide) ew
  cases el : decide ((1 : Int32) ≤ l ∧ l ≤ 2)
  · simp -implicitDefEqProofs only [Option.bind_some, bd_some, b2i_0, Bool.true_eq_false, Bool.false_eq_true, eq_self, if_true, if_false, not_true_eq_false, not_false_eq_true]; exact ⟨_, _, _, rfl, rfl, T⟩
  obtain ⟨ℓ, hl1, hl, rfl⟩ := in_true (l := 1) (u := 2) (by decide) (by decide) el
  obtain ⟨y, y2, e1, e2, -, I⟩ := X_tn R hτ
  obtain ⟨g, ym, e3, T2, ha, hR⟩ := M_tn (b' := b') (n := n) (s := s) T hτ
  have w6 : ω < 6 := by omega
  have ix : (6 : Int32) * n2 v + n2 ω = n2 (6 * v + ω) := by rw [li_6, n2_mul, n2_add]
  have lx : 6 * v + ω < 384 := by omega
  have l3 : ℓ < 3 := by omega
  have l1 : (n2 ℓ = 1) = (ℓ = 1) := by rw [li_1, n2_eq (by omega) (by decide)]
  have c1 : ((m.th 0).lay g ym).n.clapping = (nightS H C x.paid x.hiss τ).c1 := hR.nt.c1
  have c2 : ((m.th 0).lay g ym).n.standing = (nightS H C x.paid x.hiss τ).c2 := hR.nt.c2
  simp -implicitDefEqProofs only [Option.bind_some, bd_some, b2i_0, Bool.true_eq_false, Bool.false_eq_true, eq_self, if_true, if_false, not_true_eq_false, not_false_eq_true, ivX R.hb, e1, ivN R.hb, e2, xh_40 R.XH, xh_area R.XH w6, xh_ar R.XH w6 hv h64, gN_53 R.hb, aN_wth R.hb, ifx_k l3 (show ℓ < 2147483648 by omega), n2_nat (show ℓ < 2147483648 by omega), setN_n, pcX, e3, gM_84, aM_114, ix, ifx_k lx (show 6 * v + ω < 2147483648 by omega), n2_nat (show 6 * v + ω < 2147483648 by omega), ha ω v w6 hv, gM_93, gM_94, c1, c2, pcM, l1]
  rcases (by omega : ℓ = 1 ∨ ℓ = 2) with rfl | rfl
  · simp -implicitDefEqProofs only [Option.bind_some, bd_some, b2i_0, Bool.true_eq_false, Bool.false_eq_true, eq_self, if_true, if_false, not_true_eq_false, not_false_eq_true, I.a1]; exact ⟨_, _, _, rfl, rfl, T2.nX⟩
  · simp -implicitDefEqProofs only [Option.bind_some, bd_some, b2i_0, Bool.true_eq_false, Bool.false_eq_true, eq_self, if_true, if_false, not_true_eq_false, not_false_eq_true, I.a2, show (2 : Nat) = 1 ↔ False by decide]; exact ⟨_, _, _, rfl, rfl, T2.nX⟩
theorem C_at (R : Duo b x m H C h c K) (a t w : Int32) : ∃ r x' m', fX1_at (some 64) a t w (mkX b x) = some (r, mkX b x') ∧ fX4_at (some 106) a t w (mkM b' n s m) = some (r, mkM b' n s m') ∧ Duo b x' m' H C h c K := by
  have T := R.th (v := 0)
  have h64 := R.ok.size
  unfold fX1_at fX4_at
  simp -implicitDefEqProofs only [Option.bind_some, bd_some, b2i_0, Bool.true_eq_false, Bool.false_eq_true, eq_self, if_true, if_false, not_true_eq_false, not_false_eq_true, pM_55', gX_4 R.hb, R.xh, xh_iv R.XH, X_isSeatI R.XH R.ok, ivM, M_isSeatI T.MH R.ok, X_isMoment, M_isMoment, X_isIn, M_isIn]
  cases es : seatI H a
  · simp -implicitDefEqProofs only [Option.bind_some, bd_some, b2i_0, Bool.true_eq_false, Bool.false_eq_true, eq_self, if_true, if_false, not_true_eq_false, not_false_eq_true]; exact ⟨_, _, _, rfl, rfl, T⟩
  obtain ⟨v, hv, hk, rfl⟩ := seatI_true es
  cases et : decide ((0 : Int32) ≤ t ∧ t ≤ 600)
  · simp -implicitDefEqProofs only [Option.bind_some, bd_some, b2i_0, Bool.true_eq_false, Bool.false_eq_true, eq_self, if_true, if_false, not_true_eq_false, not_false_eq_true]; exact ⟨_, _, _, rfl, rfl, T⟩
  obtain ⟨τ, -, hτ, rfl⟩ := in_true (l := 0) (u := 600) (by decide) (by decide) et
  cases ew : decide ((0 : Int32) ≤ w ∧ w ≤ 1)
  · simp -implicitDefEqProofs only [Option.bind_some, bd_some, b2i_0, Bool.true_eq_false, Bool.false_eq_true, eq_self, if_true, if_false, not_true_eq_false, not_false_eq_true]; exact ⟨_, _, _, rfl, rfl, T⟩
  obtain ⟨y, y2, e1, e2, -, I⟩ := X_tn R hτ
  obtain ⟨g, ym, e3, T2, ha, hR⟩ := M_tn (b' := b') (n := n) (s := s) T hτ
  have v64 : v < 64 := by omega
  have c1 : ((m.th 0).lay g ym).n.clapping = (nightS H C x.paid x.hiss τ).c1 := hR.nt.c1
  have c2 : ((m.th 0).lay g ym).n.standing = (nightS H C x.paid x.hiss τ).c2 := hR.nt.c2
  have c3 : ((m.th 0).lay g ym).n.low = (nightS H C x.paid x.hiss τ).lo := hR.nt.lo
  have c4 : ((m.th 0).lay g ym).n.high = (nightS H C x.paid x.hiss τ).hi := hR.nt.hi
  have aL := aN_level (x := x.setN false y2) (q := false) (i := n2 v) R.hb
  have aH := aN_held (x := x.setN false y2) (q := false) (i := n2 v) R.hb
  rw [ifx_k v64 (by omega), n2_nat (by omega), setN_n, I.level v hv] at aL
  rw [ifx_k v64 (by omega), n2_nat (by omega), setN_n, I.held v hv hk] at aH
  simp -implicitDefEqProofs only [Option.bind_some, bd_some, b2i_0, Bool.true_eq_false, Bool.false_eq_true, eq_self, if_true, if_false, not_true_eq_false, not_false_eq_true, ivX R.hb, e1, ivN R.hb, e2, gN_49 R.hb, gN_51 R.hb, setN_n, aL, aH, e3, M_levelOf v64, M_heldOf v64, c1, c2, c3, c4]
  by_cases w0 : w = 0
  · simp -implicitDefEqProofs only [Option.bind_some, bd_some, b2i_0, Bool.true_eq_false, Bool.false_eq_true, eq_self, if_true, if_false, not_true_eq_false, not_false_eq_true, w0]; exact ⟨_, _, _, rfl, rfl, T2.nX⟩
  · simp -implicitDefEqProofs only [Option.bind_some, bd_some, b2i_0, Bool.true_eq_false, Bool.false_eq_true, eq_self, if_true, if_false, not_true_eq_false, not_false_eq_true, w0]; exact ⟨_, _, _, rfl, rfl, T2.nX⟩
theorem C_many (R : Duo b x m H C h c K) (t l : Int32) : ∃ r x' m', fX1_many (some 64) t l (mkX b x) = some (r, mkX b x') ∧ fX4_many (some 106) t l (mkM b' n s m) = some (r, mkM b' n s m') ∧ Duo b x' m' H C h c K := by
  have T := R.th (v := 0)
  unfold fX1_many fX4_many bX4_many_57 bX1_many_31
  simp -implicitDefEqProofs only [Option.bind_some, bd_some, b2i_0, Bool.true_eq_false, Bool.false_eq_true, eq_self, if_true, if_false, not_true_eq_false, not_false_eq_true, pM_55', X_isMoment, M_isMoment, X_isIn, M_isIn]
  cases et : decide ((0 : Int32) ≤ t ∧ t ≤ 600)
  · simp -implicitDefEqProofs only [Option.bind_some, bd_some, b2i_0, Bool.true_eq_false, Bool.false_eq_true, eq_self, if_true, if_false, not_true_eq_false, not_false_eq_true]; exact ⟨_, _, _, rfl, rfl, T⟩
  obtain ⟨τ, -, hτ, rfl⟩ := in_true (l := 0) (u := 600) (by decide) (by decide) et
  cases el : decide ((0 : Int32) ≤ l ∧ l ≤ 2)
  · simp -implicitDefEqProofs only [Option.bind_some, bd_some, b2i_0, Bool.true_eq_false, Bool.false_eq_true, eq_self, if_true, if_false, not_true_eq_false, not_false_eq_true]; exact ⟨_, _, _, rfl, rfl, T⟩
  obtain ⟨ℓ, -, hl, rfl⟩ := in_true (l := 0) (u := 2) (by decide) (by decide) el
  obtain ⟨y, y2, e1, e2, -, I⟩ := X_tn R hτ
  obtain ⟨g, ym, e3, T2, ha, hR⟩ := M_tn (b' := b') (n := n) (s := s) T hτ
  have c1 : ((m.th 0).lay g ym).n.clapping = (nightS H C x.paid x.hiss τ).c1 := hR.nt.c1
  have c2 : ((m.th 0).lay g ym).n.standing = (nightS H C x.paid x.hiss τ).c2 := hR.nt.c2
  have l0 : (n2 ℓ = 0) = (ℓ = 0) := by rw [li_0, n2_eq (by omega) (by decide)]
  have l1 : (n2 ℓ = 1) = (ℓ = 1) := by rw [li_1, n2_eq (by omega) (by decide)]
  have I' : XNt ((x.setN false y2).n false) h c H (nightS H C x.paid x.hiss τ) τ := by rw [setN_n]; exact I
  have sz : ((m.th 0).lay g ym).s 2 = n2 H.seats := R.MH.seats
  simp -implicitDefEqProofs only [Option.bind_some, bd_some, b2i_0, Bool.true_eq_false, Bool.false_eq_true, eq_self, if_true, if_false, not_true_eq_false, not_false_eq_true, ivX R.hb, e1, ivN R.hb, e2, ivM, e3, l0, l1, gM_93, gM_94, c1, c2, pcM, gM_61]
  rcases (by omega : ℓ = 0 ∨ ℓ = 1 ∨ ℓ = 2) with rfl | rfl | rfl
  · have e0 : fX3_many (some (nid false)) (n2 0) (mkX b (x.setN false y2)) = some (n2 H.seats, mkX b (x.setN false y2)) := by
      unfold fX3_many
      rw [if_neg (by decide), gN_41 R.hb, Option.bind_some, I'.h_, xh_iv R.XH, X_seats R.XH R.ok, bd_some]
    simp -implicitDefEqProofs only [Option.bind_some, bd_some, b2i_0, Bool.true_eq_false, Bool.false_eq_true, eq_self, if_true, if_false, not_true_eq_false, not_false_eq_true, e0, li_2, rd_s' (show 2 < 681 by decide), sz]; exact ⟨_, _, _, rfl, rfl, T2.nX⟩
  · simp -implicitDefEqProofs only [Option.bind_some, bd_some, b2i_0, Bool.true_eq_false, Bool.false_eq_true, eq_self, if_true, if_false, not_true_eq_false, not_false_eq_true, X_many R.hb I' (Or.inl rfl), show (1 : Nat) = 0 ↔ False by decide]; exact ⟨_, _, _, rfl, rfl, T2.nX⟩
  · simp -implicitDefEqProofs only [Option.bind_some, bd_some, b2i_0, Bool.true_eq_false, Bool.false_eq_true, eq_self, if_true, if_false, not_true_eq_false, not_false_eq_true, X_many R.hb I' (Or.inr rfl), show (2 : Nat) = 1 ↔ False by decide, show (2 : Nat) = 0 ↔ False by decide]; exact ⟨_, _, _, rfl, rfl, T2.nX⟩
end CmdC
