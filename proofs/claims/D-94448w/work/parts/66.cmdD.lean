set_option linter.unusedVariables false
set_option linter.unusedSimpArgs false
set_option maxRecDepth 100000
/-! ===== commands: stands, up, calls, anyway, carries, starts ===== -/
theorem lv_2 {c1 c2 : Int64} {v : Nat} : ((2 : Int32) ≤ n2 (lvOf c1 c2 v)) = (tb c2 v = true) ∧ (n2 (lvOf c1 c2 v) = 2) = (tb c2 v = true) := by
  unfold lvOf
  cases tb c2 v <;> cases tb c1 v <;> decide
def upS (H : HS) (C : List Cu) (p hi : Int64) (u : Nat) : Bool := decide (n2 H.carry ≤ pc (nightS H C p hi u).c2)
def stdS (H : HS) (C : List Cu) (p hi : Int64) (v u : Nat) : Bool := tb (nightS H C p hi u).c2 v
section CmdD
variable {b b' : Mem} {n s : Nat} {x : XS} {m : MS} {H : HS} {C : List Cu} {h c : Nat} {K : Nat → Option (HS × List Cu)} {p hi : Int64}
theorem X_stands_ (hb : 131 ≤ mNx b) (X : XHouse b h H) (ok : H.Ok) (XC : XCues b c C) {v : Nat} (hv : v < H.size) : ∀ (k f t : Nat) (x : XS), t + k = 600 → k < f → XNt (x.n false) h c H (nightS H C p hi t) t →
    ∃ y, bX1_stands_18 f (n2 v) (some (nid false)) (mkX b x) = some (firstS (stdS H C p hi v) k t, mkX b (x.setN false y)) := by
  have h64 := ok.size
  have v64 : v < 64 := by omega
  intro k
  induction k with
  | zero =>
    intro f t x hk hf I
    obtain ⟨f, rfl⟩ : ∃ g, f = g + 1 := ⟨f - 1, by omega⟩
    have aL := aN_level (x := x) (q := false) (i := n2 v) hb
    rw [ifx_k v64 (by omega), n2_nat (by omega), I.level v hv] at aL
    have le : ((600 : Int32) ≤ n2 t) = True := by rw [li_600, n2_le (by omega) (by omega)]; exact eq_true (by omega)
    refine ⟨x.n false, ?_⟩
    show bX1_stands_18B _ _ _ _ = _
    unfold bX1_stands_18B bX1_stands_45 firstS
    simp -implicitDefEqProofs only [Option.bind_some, bd_some, b2i_0, Bool.true_eq_false, Bool.false_eq_true, eq_self, if_true, if_false, not_true_eq_false, not_false_eq_true, gN_49 hb, aL, lv_2.1, lv_2.2, show ∀ u, tb (nightS H C p hi u).c2 v = stdS H C p hi v u from fun _ => rfl, gN_44 hb, I.now, le, setN_self]
    rcases Bool.eq_false_or_eq_true (stdS H C p hi v t) with e0 | e0 <;> simp -implicitDefEqProofs only [Option.bind_some, bd_some, b2i_0, Bool.true_eq_false, Bool.false_eq_true, eq_self, if_true, if_false, not_true_eq_false, not_false_eq_true, e0]
  | succ k ih =>
    intro f t x hk hf I
    obtain ⟨f, rfl⟩ : ∃ g, f = g + 1 := ⟨f - 1, by omega⟩
    have aL := aN_level (x := x) (q := false) (i := n2 v) hb
    rw [ifx_k v64 (by omega), n2_nat (by omega), I.level v hv] at aL
    have le : ((600 : Int32) ≤ n2 t) = False := by rw [li_600, n2_le (by omega) (by omega)]; exact eq_false (by omega)
    obtain ⟨y, e, I2⟩ := X_nstep hb X ok XC (by omega) I
    obtain ⟨y2, e2⟩ := ih f (t + 1) (x.setN false y) (by omega) (by omega) (by rw [setN_n]; exact I2)
    rw [setN_setN] at e2
    show ∃ y, bX1_stands_18B (bX1_stands_18 f) _ _ _ = _
    unfold bX1_stands_18B bX1_stands_45 firstS
    simp -implicitDefEqProofs only [Option.bind_some, bd_some, b2i_0, Bool.true_eq_false, Bool.false_eq_true, eq_self, if_true, if_false, not_true_eq_false, not_false_eq_true, gN_49 hb, aL, lv_2.1, lv_2.2, show ∀ u, tb (nightS H C p hi u).c2 v = stdS H C p hi v u from fun _ => rfl, gN_44 hb, I.now, le, ivN hb, e, e2]
    rcases Bool.eq_false_or_eq_true (stdS H C p hi v t) with e0 | e0
    · exact ⟨x.n false, by simp -implicitDefEqProofs only [Option.bind_some, bd_some, b2i_0, Bool.true_eq_false, Bool.false_eq_true, eq_self, if_true, if_false, not_true_eq_false, not_false_eq_true, e0, setN_self]⟩
    · exact ⟨y2, by simp -implicitDefEqProofs only [Option.bind_some, bd_some, b2i_0, Bool.true_eq_false, Bool.false_eq_true, eq_self, if_true, if_false, not_true_eq_false, not_false_eq_true, e0]⟩
theorem M_stands_ {v : Nat} (hv : v < 64) (hR : MRun m H C p hi 601) : ∀ (k f t : Nat), t + k = 600 → k + 1 < f →
    bX4_stands_24 f (some 106) (n2 v) (n2 t) (mkM b' n s m) = some (firstS (stdS H C p hi v) k t, mkM b' n s m) := by
  have one : ∀ f t, t ≤ 600 → bX4_stands_24 (f + 1) (some 106) (n2 v) (n2 t) (mkM b' n s m) = if stdS H C p hi v t = true then some (n2 t, mkM b' n s m) else bX4_stands_24 f (some 106) (n2 v) (n2 (t + 1)) (mkM b' n s m) := by
    intro f t ht
    have lt : ((600 : Int32) < n2 t) = False := by rw [li_600, n2_lt (by omega) (by omega)]; exact eq_false (by omega)
    have t601 : t < 601 := by omega
    show bX4_stands_24B (bX4_stands_24 f) _ _ _ _ = _
    unfold bX4_stands_24B
    simp -implicitDefEqProofs only [Option.bind_some, bd_some, b2i_0, Bool.true_eq_false, Bool.false_eq_true, eq_self, if_true, if_false, not_true_eq_false, not_false_eq_true, lt, gM_88, aM_116, ifx_k t601 (show t < 2147483648 by omega), n2_nat (show t < 2147483648 by omega), hR.k2 t (by omega), M_holds _ hv, show ∀ u, tb (nightS H C p hi u).c2 v = stdS H C p hi v u from fun _ => rfl, show n2 t + 1 = n2 (t + 1) from n2_add t 1]
    rcases Bool.eq_false_or_eq_true (stdS H C p hi v t) with e0 | e0 <;> simp -implicitDefEqProofs only [Option.bind_some, bd_some, b2i_0, Bool.true_eq_false, Bool.false_eq_true, eq_self, if_true, if_false, not_true_eq_false, not_false_eq_true, e0]
  intro k
  induction k with
  | zero =>
    intro f t hk hf
    obtain ⟨f, rfl⟩ : ∃ g, f = g + 2 := ⟨f - 2, by omega⟩
    rw [one _ _ (by omega)]
    unfold firstS
    have lt : ((600 : Int32) < n2 (t + 1)) = True := by rw [li_600, n2_lt (by omega) (by omega)]; exact eq_true (by omega)
    have e : bX4_stands_24 (f + 1) (some 106) (n2 v) (n2 (t + 1)) (mkM b' n s m) = some (-1, mkM b' n s m) := by
      show bX4_stands_24B (bX4_stands_24 f) _ _ _ _ = _
      unfold bX4_stands_24B
      simp -implicitDefEqProofs only [Option.bind_some, bd_some, b2i_0, Bool.true_eq_false, Bool.false_eq_true, eq_self, if_true, if_false, not_true_eq_false, not_false_eq_true, lt]
    rw [e]
    rcases Bool.eq_false_or_eq_true (stdS H C p hi v t) with e0 | e0 <;> simp -implicitDefEqProofs only [Option.bind_some, bd_some, b2i_0, Bool.true_eq_false, Bool.false_eq_true, eq_self, if_true, if_false, not_true_eq_false, not_false_eq_true, e0]
  | succ k ih =>
    intro f t hk hf
    obtain ⟨f, rfl⟩ : ∃ g, f = g + 1 := ⟨f - 1, by omega⟩
    rw [one _ _ (by omega), ih f (t + 1) (by omega) (by omega)]
    simp -implicitDefEqProofs only [firstS]
    rcases Bool.eq_false_or_eq_true (stdS H C p hi v t) with e0 | e0 <;> simp -implicitDefEqProofs only [Option.bind_some, bd_some, b2i_0, Bool.true_eq_false, Bool.false_eq_true, eq_self, if_true, if_false, not_true_eq_false, not_false_eq_true, e0]
theorem C_stands (R : Duo b x m H C h c K) (a : Int32) : ∃ r x' m', fX1_stands (some 64) a (mkX b x) = some (r, mkX b x') ∧ fX4_stands (some 106) a (mkM b' n s m) = some (r, mkM b' n s m') ∧ Duo b x' m' H C h c K := by
  have T := R.th (v := 0)
  have h64 := R.ok.size
  unfold fX1_stands fX4_stands
  simp -implicitDefEqProofs only [Option.bind_some, bd_some, b2i_0, Bool.true_eq_false, Bool.false_eq_true, eq_self, if_true, if_false, not_true_eq_false, not_false_eq_true, pM_55', gX_4 R.hb, R.xh, xh_iv R.XH, X_isSeatI R.XH R.ok, ivM, M_isSeatI T.MH R.ok]
  cases es : seatI H a
  · simp -implicitDefEqProofs only [Option.bind_some, bd_some, b2i_0, Bool.true_eq_false, Bool.false_eq_true, eq_self, if_true, if_false, not_true_eq_false, not_false_eq_true]; exact ⟨_, _, _, rfl, rfl, T⟩
  obtain ⟨v, hv, hk, rfl⟩ := seatI_true es
  obtain ⟨y, y2, e1, -, I, -⟩ := X_tn (T := 600) R (by omega)
  obtain ⟨g, ym, e3, T2, ha, hR⟩ := M_tn (b' := b') (n := n) (s := s) (T := 600) T (by omega)
  obtain ⟨y3, e4⟩ := X_stands_ R.hb R.XH R.ok R.XC hv 600 hcFuel 0 (x.setN false y) (by omega) (by unfold hcFuel; omega) (by rw [setN_n]; exact I)
  have e5 := M_stands_ (b' := b') (n := n) (s := s) (v := v) (by omega) hR 600 hcFuel 0 (by omega) (by unfold hcFuel; omega)
  rw [setN_setN] at e4
  simp -implicitDefEqProofs only [Option.bind_some, bd_some, b2i_0, Bool.true_eq_false, Bool.false_eq_true, eq_self, if_true, if_false, not_true_eq_false, not_false_eq_true, ivX R.hb, e1, li_600, e3]
  exact ⟨_, _, _, e4, e5, T2.nX⟩
theorem X_isUp' (hb : 131 ≤ mNx b) {t : Nat} {x : XS} (X : XHouse b h H) (I : XNt (x.n false) h c H (nightS H C p hi t) t) : fX3_isUp (some (nid false)) (mkX b x) = some (b2i (upS H C p hi t), mkX b x) := X_isUp hb X I
theorem X_up_ (hb : 131 ≤ mNx b) (X : XHouse b h H) (ok : H.Ok) (XC : XCues b c C) : ∀ (k f t : Nat) (x : XS), t + k = 600 → k < f → XNt (x.n false) h c H (nightS H C p hi t) t →
    ∃ y, bX1_up_5 f (some (nid false)) (mkX b x) = some (firstS (upS H C p hi) k t, mkX b (x.setN false y)) := by
  intro k
  induction k with
  | zero =>
    intro f t x hk hf I
    obtain ⟨f, rfl⟩ : ∃ g, f = g + 1 := ⟨f - 1, by omega⟩
    have le : ((600 : Int32) ≤ n2 t) = True := by rw [li_600, n2_le (by omega) (by omega)]; exact eq_true (by omega)
    refine ⟨x.n false, ?_⟩
    show bX1_up_5B _ _ _ = _
    unfold bX1_up_5B bX1_up_29 firstS
    simp -implicitDefEqProofs only [Option.bind_some, bd_some, b2i_0, Bool.true_eq_false, Bool.false_eq_true, eq_self, if_true, if_false, not_true_eq_false, not_false_eq_true, ivN hb, X_isUp' hb X I, gN_44 hb, I.now, le, setN_self]
    rcases Bool.eq_false_or_eq_true (upS H C p hi t) with e0 | e0 <;> simp -implicitDefEqProofs only [Option.bind_some, bd_some, b2i_0, Bool.true_eq_false, Bool.false_eq_true, eq_self, if_true, if_false, not_true_eq_false, not_false_eq_true, e0]
  | succ k ih =>
    intro f t x hk hf I
    obtain ⟨f, rfl⟩ : ∃ g, f = g + 1 := ⟨f - 1, by omega⟩
    have le : ((600 : Int32) ≤ n2 t) = False := by rw [li_600, n2_le (by omega) (by omega)]; exact eq_false (by omega)
    obtain ⟨y, e, I2⟩ := X_nstep hb X ok XC (by omega) I
    obtain ⟨y2, e2⟩ := ih f (t + 1) (x.setN false y) (by omega) (by omega) (by rw [setN_n]; exact I2)
    rw [setN_setN] at e2
    show ∃ y, bX1_up_5B (bX1_up_5 f) _ _ = _
    unfold bX1_up_5B bX1_up_29 firstS
    simp -implicitDefEqProofs only [Option.bind_some, bd_some, b2i_0, Bool.true_eq_false, Bool.false_eq_true, eq_self, if_true, if_false, not_true_eq_false, not_false_eq_true, ivN hb, X_isUp' hb X I, gN_44 hb, I.now, le, e, e2]
    rcases Bool.eq_false_or_eq_true (upS H C p hi t) with e0 | e0
    · exact ⟨x.n false, by simp -implicitDefEqProofs only [Option.bind_some, bd_some, b2i_0, Bool.true_eq_false, Bool.false_eq_true, eq_self, if_true, if_false, not_true_eq_false, not_false_eq_true, e0, setN_self]⟩
    · exact ⟨y2, by simp -implicitDefEqProofs only [Option.bind_some, bd_some, b2i_0, Bool.true_eq_false, Bool.false_eq_true, eq_self, if_true, if_false, not_true_eq_false, not_false_eq_true, e0]⟩
theorem M_isUp (hH : MHouse m.s H) {T t : Nat} (ht : t < T) (hT : T ≤ 601) (hR : MRun m H C p hi T) : fX4_isUp (some 106) (n2 t) (mkM b' n s m) = some (b2i (upS H C p hi t), mkM b' n s m) := by
  have t601 : t < 601 := by omega
  unfold fX4_isUp
  simp -implicitDefEqProofs only [Option.bind_some, bd_some, b2i_0, Bool.true_eq_false, Bool.false_eq_true, eq_self, if_true, if_false, not_true_eq_false, not_false_eq_true, gM_88, aM_116, ifx_k t601 (show t < 2147483648 by omega), n2_nat (show t < 2147483648 by omega), hR.k2 t ht, pcM, gM_61, li_3, rd_s' (show 3 < 681 by decide), hH.carry]
  by_cases hc : pc (nightS H C p hi t).c2 < n2 H.carry
  · rw [if_pos hc, show upS H C p hi t = false from decide_eq_false (Int32.not_le.mpr hc)]; rfl
  · rw [if_neg hc, show upS H C p hi t = true from decide_eq_true (Int32.not_lt.mp hc)]; rfl
theorem M_up_ (hH : MHouse m.s H) (hR : MRun m H C p hi 601) : ∀ (k f t : Nat), t + k = 600 → k + 1 < f →
    bX4_up_14 f (some 106) (n2 t) (mkM b' n s m) = some (firstS (upS H C p hi) k t, mkM b' n s m) := by
  have one : ∀ f t, t ≤ 600 → bX4_up_14 (f + 1) (some 106) (n2 t) (mkM b' n s m) = if upS H C p hi t = true then some (n2 t, mkM b' n s m) else bX4_up_14 f (some 106) (n2 (t + 1)) (mkM b' n s m) := by
    intro f t ht
    have lt : ((600 : Int32) < n2 t) = False := by rw [li_600, n2_lt (by omega) (by omega)]; exact eq_false (by omega)
    show bX4_up_14B (bX4_up_14 f) _ _ _ = _
    unfold bX4_up_14B
    simp -implicitDefEqProofs only [Option.bind_some, bd_some, b2i_0, Bool.true_eq_false, Bool.false_eq_true, eq_self, if_true, if_false, not_true_eq_false, not_false_eq_true, lt, ivM, M_isUp hH (show t < 601 by omega) (Nat.le_refl _) hR, show n2 t + 1 = n2 (t + 1) from n2_add t 1]
    rcases Bool.eq_false_or_eq_true (upS H C p hi t) with e0 | e0 <;> simp -implicitDefEqProofs only [Option.bind_some, bd_some, b2i_0, Bool.true_eq_false, Bool.false_eq_true, eq_self, if_true, if_false, not_true_eq_false, not_false_eq_true, e0]
  intro k
  induction k with
  | zero =>
    intro f t hk hf
    obtain ⟨f, rfl⟩ : ∃ g, f = g + 2 := ⟨f - 2, by omega⟩
    rw [one _ _ (by omega)]
    unfold firstS
    have lt : ((600 : Int32) < n2 (t + 1)) = True := by rw [li_600, n2_lt (by omega) (by omega)]; exact eq_true (by omega)
    have e : bX4_up_14 (f + 1) (some 106) (n2 (t + 1)) (mkM b' n s m) = some (-1, mkM b' n s m) := by
      show bX4_up_14B (bX4_up_14 f) _ _ _ = _
      unfold bX4_up_14B
      simp -implicitDefEqProofs only [Option.bind_some, bd_some, b2i_0, Bool.true_eq_false, Bool.false_eq_true, eq_self, if_true, if_false, not_true_eq_false, not_false_eq_true, lt]
    rw [e]
    rcases Bool.eq_false_or_eq_true (upS H C p hi t) with e0 | e0 <;> simp -implicitDefEqProofs only [Option.bind_some, bd_some, b2i_0, Bool.true_eq_false, Bool.false_eq_true, eq_self, if_true, if_false, not_true_eq_false, not_false_eq_true, e0]
  | succ k ih =>
    intro f t hk hf
    obtain ⟨f, rfl⟩ : ∃ g, f = g + 1 := ⟨f - 1, by omega⟩
    rw [one _ _ (by omega), ih f (t + 1) (by omega) (by omega)]
    simp -implicitDefEqProofs only [firstS]
    rcases Bool.eq_false_or_eq_true (upS H C p hi t) with e0 | e0 <;> simp -implicitDefEqProofs only [Option.bind_some, bd_some, b2i_0, Bool.true_eq_false, Bool.false_eq_true, eq_self, if_true, if_false, not_true_eq_false, not_false_eq_true, e0]
theorem C_up (R : Duo b x m H C h c K) : ∃ r x' m', fX1_up (some 64) (mkX b x) = some (r, mkX b x') ∧ fX4_up (some 106) (mkM b' n s m) = some (r, mkM b' n s m') ∧ Duo b x' m' H C h c K := by
  have T := R.th (v := 0)
  unfold fX1_up fX4_up
  obtain ⟨y, y2, e1, -, I, -⟩ := X_tn (T := 600) R (by omega)
  obtain ⟨g, ym, e3, T2, ha, hR⟩ := M_tn (b' := b') (n := n) (s := s) (T := 600) T (by omega)
  obtain ⟨y3, e4⟩ := X_up_ R.hb R.XH R.ok R.XC 600 hcFuel 0 (x.setN false y) (by omega) (by unfold hcFuel; omega) (by rw [setN_n]; exact I)
  have e5 := M_up_ (b' := b') (n := n) (s := s) T2.MH hR 600 hcFuel 0 (by omega) (by unfold hcFuel; omega)
  rw [setN_setN] at e4
  simp -implicitDefEqProofs only [Option.bind_some, bd_some, b2i_0, Bool.true_eq_false, Bool.false_eq_true, eq_self, if_true, if_false, not_true_eq_false, not_false_eq_true, pM_55', ivX R.hb, ivM, e1, li_600, e3]
  exact ⟨_, _, _, e4, e5, T2.nX⟩
theorem X_calls_ (hb : 131 ≤ mNx b) (X : XHouse b h H) (ok : H.Ok) (XC : XCues b c C) {τ : Nat} (hτ : τ ≤ 600) : ∀ (k f t : Nat) (x : XS), t + k = τ → k < f → XNt (x.n false) h c H (nightS H C p hi t) t →
    ∃ y, bX1_calls_30 f (n2 τ) (some (nid false)) (b2i (upS H C p hi t)) (n2 (callsS (upS H C p hi) t)) (mkX b x) = some (n2 (callsS (upS H C p hi) τ), mkX b (x.setN false y)) := by
  intro k
  induction k with
  | zero =>
    intro f t x hk hf I
    obtain ⟨f, rfl⟩ : ∃ g, f = g + 1 := ⟨f - 1, by omega⟩
    have e : t = τ := by omega
    subst e
    refine ⟨x.n false, ?_⟩
    show bX1_calls_30B _ _ _ _ _ _ = _
    unfold bX1_calls_30B
    rw [gN_44 hb, Option.bind_some, I.now, if_pos (Int32.le_refl _), setN_self]
  | succ k ih =>
    intro f t x hk hf I
    obtain ⟨f, rfl⟩ : ∃ g, f = g + 1 := ⟨f - 1, by omega⟩
    have le : (n2 τ ≤ n2 t) = False := by rw [n2_le (by omega) (by omega)]; exact eq_false (by omega)
    obtain ⟨y, e, I2⟩ := X_nstep hb X ok XC (by omega) I
    obtain ⟨y2, e2⟩ := ih f (t + 1) (x.setN false y) (by omega) (by omega) (by rw [setN_n]; exact I2)
    rw [setN_setN] at e2
    have up := X_isUp' hb (x := x.setN false y) (C := C) (p := p) (hi := hi) (t := t + 1) (c := c) X (by rw [setN_n]; exact I2)
    show ∃ y, bX1_calls_30B (bX1_calls_30 f) _ _ _ _ _ = _
    unfold bX1_calls_30B bX1_calls_56
    simp -implicitDefEqProofs only [Option.bind_some, bd_some, b2i_0, Bool.true_eq_false, Bool.false_eq_true, eq_self, if_true, if_false, not_true_eq_false, not_false_eq_true, gN_44 hb, I.now, le, ivN hb, e, up]
    refine ⟨y2, Eq.trans ?_ e2⟩
    have ec : callsS (upS H C p hi) (t + 1) = callsS (upS H C p hi) t + (if upS H C p hi (t + 1) = true ∧ upS H C p hi t = false then 1 else 0) := rfl
    rw [ec]
    generalize callsS (upS H C p hi) t = cs
    rcases Bool.eq_false_or_eq_true (upS H C p hi (t + 1)) with e0 | e0
    · rcases Bool.eq_false_or_eq_true (upS H C p hi t) with e3 | e3
      · simp -implicitDefEqProofs only [Option.bind_some, bd_some, b2i_0, Bool.true_eq_false, Bool.false_eq_true, eq_self, if_true, if_false, not_true_eq_false, not_false_eq_true, e0, e3, and_false, Nat.add_zero]
      · simp -implicitDefEqProofs only [Option.bind_some, bd_some, b2i_0, Bool.true_eq_false, Bool.false_eq_true, eq_self, if_true, if_false, not_true_eq_false, not_false_eq_true, e0, e3, and_self, show n2 cs + 1 = n2 (cs + 1) from n2_add cs 1]
    · simp -implicitDefEqProofs only [Option.bind_some, bd_some, b2i_0, Bool.true_eq_false, Bool.false_eq_true, eq_self, if_true, if_false, not_true_eq_false, not_false_eq_true, e0, false_and, Nat.add_zero]
theorem M_calls_ (hH : MHouse m.s H) {τ : Nat} (hτ : τ ≤ 600) (hR : MRun m H C p hi (τ + 1)) : ∀ (k f t : Nat), t + k = τ → k + 1 < f →
    bX4_calls_23 f (some 106) (n2 τ) (n2 (if t = 0 then 0 else callsS (upS H C p hi) (t - 1))) (n2 t) (mkM b' n s m) = some (n2 (callsS (upS H C p hi) τ), mkM b' n s m) := by
  have one : ∀ f t, t ≤ τ → bX4_calls_23 (f + 1) (some 106) (n2 τ) (n2 (if t = 0 then 0 else callsS (upS H C p hi) (t - 1))) (n2 t) (mkM b' n s m) = bX4_calls_23 f (some 106) (n2 τ) (n2 (callsS (upS H C p hi) t)) (n2 (t + 1)) (mkM b' n s m) := by
    intro f t ht
    have lt : (n2 τ < n2 t) = False := by rw [n2_lt (by omega) (by omega)]; exact eq_false (by omega)
    have t0 : (n2 t = 0) = (t = 0) := by rw [li_0, n2_eq (by omega) (by decide)]
    show bX4_calls_23B (bX4_calls_23 f) _ _ _ _ _ = _
    unfold bX4_calls_23B bX4_calls_55 bX4_calls_51 bX4_calls_56
    simp -implicitDefEqProofs only [Option.bind_some, bd_some, b2i_0, Bool.true_eq_false, Bool.false_eq_true, eq_self, if_true, if_false, not_true_eq_false, not_false_eq_true, lt, ivM, M_isUp hH (show t < τ + 1 by omega) (show τ + 1 ≤ 601 by omega) hR, t0, show n2 t + 1 = n2 (t + 1) from n2_add t 1, Int32.add_zero]
    by_cases h0 : t = 0
    · subst h0
      simp -implicitDefEqProofs only [callsS]
      rcases Bool.eq_false_or_eq_true (upS H C p hi 0) with e0 | e0
      · simp -implicitDefEqProofs only [Option.bind_some, bd_some, b2i_0, Bool.true_eq_false, Bool.false_eq_true, eq_self, if_true, if_false, not_true_eq_false, not_false_eq_true, e0, show n2 0 + (1 : Int32) = n2 1 from rfl]
      · simp -implicitDefEqProofs only [Option.bind_some, bd_some, b2i_0, Bool.true_eq_false, Bool.false_eq_true, eq_self, if_true, if_false, not_true_eq_false, not_false_eq_true, e0]
    · obtain ⟨u, rfl⟩ : ∃ u, t = u + 1 := ⟨t - 1, by omega⟩
      have es : n2 (u + 1) - (1 : Int32) = n2 u := by rw [li_1, n2_sub (by omega)]; rfl
      simp -implicitDefEqProofs only [callsS, h0, Nat.add_sub_cancel]
      simp -implicitDefEqProofs only [Option.bind_some, bd_some, b2i_0, Bool.true_eq_false, Bool.false_eq_true, eq_self, if_true, if_false, not_true_eq_false, not_false_eq_true, es, M_isUp hH (show u < τ + 1 by omega) (show τ + 1 ≤ 601 by omega) hR, t0, h0]
      generalize callsS (upS H C p hi) u = cs
      rcases Bool.eq_false_or_eq_true (upS H C p hi (u + 1)) with e0 | e0
      · rcases Bool.eq_false_or_eq_true (upS H C p hi u) with e3 | e3
        · simp -implicitDefEqProofs only [Option.bind_some, bd_some, b2i_0, Bool.true_eq_false, Bool.false_eq_true, eq_self, if_true, if_false, not_true_eq_false, not_false_eq_true, e0, e3, and_false, h0, Nat.add_zero]
        · simp -implicitDefEqProofs only [Option.bind_some, bd_some, b2i_0, Bool.true_eq_false, Bool.false_eq_true, eq_self, if_true, if_false, not_true_eq_false, not_false_eq_true, e0, e3, and_self, h0, show n2 cs + (1 : Int32) = n2 (cs + 1) from n2_add cs 1]
      · simp -implicitDefEqProofs only [Option.bind_some, bd_some, b2i_0, Bool.true_eq_false, Bool.false_eq_true, eq_self, if_true, if_false, not_true_eq_false, not_false_eq_true, e0, false_and, Nat.add_zero]
  intro k
  induction k with
  | zero =>
    intro f t hk hf
    obtain ⟨f, rfl⟩ : ∃ g, f = g + 2 := ⟨f - 2, by omega⟩
    have e : t = τ := by omega
    subst e
    rw [one _ _ (by omega)]
    show bX4_calls_23B (bX4_calls_23 f) _ _ _ _ _ = _
    unfold bX4_calls_23B
    rw [if_pos (by rw [n2_lt (by omega) (by omega)]; omega)]
  | succ k ih =>
    intro f t hk hf
    obtain ⟨f, rfl⟩ : ∃ g, f = g + 1 := ⟨f - 1, by omega⟩
    have I := ih f (t + 1) (by omega) (by omega)
    rw [if_neg (by omega), Nat.add_sub_cancel] at I
    rw [one _ _ (by omega), I]
theorem C_calls (R : Duo b x m H C h c K) (a : Int32) : ∃ r x' m', fX1_calls (some 64) a (mkX b x) = some (r, mkX b x') ∧ fX4_calls (some 106) a (mkM b' n s m) = some (r, mkM b' n s m') ∧ Duo b x' m' H C h c K := by
  have T := R.th (v := 0)
  unfold fX1_calls fX4_calls bX1_calls_28
  simp -implicitDefEqProofs only [Option.bind_some, bd_some, b2i_0, Bool.true_eq_false, Bool.false_eq_true, eq_self, if_true, if_false, not_true_eq_false, not_false_eq_true, pM_55', X_isMoment, M_isMoment]
  cases et : decide ((0 : Int32) ≤ a ∧ a ≤ 600)
  · simp -implicitDefEqProofs only [Option.bind_some, bd_some, b2i_0, Bool.true_eq_false, Bool.false_eq_true, eq_self, if_true, if_false, not_true_eq_false, not_false_eq_true]; exact ⟨_, _, _, rfl, rfl, T⟩
  obtain ⟨τ, -, hτ, rfl⟩ := in_true (l := 0) (u := 600) (by decide) (by decide) et
  obtain ⟨y, y2, e1, -, I, -⟩ := X_tn (T := τ) R hτ
  obtain ⟨g, ym, e3, T2, ha, hR⟩ := M_tn (b' := b') (n := n) (s := s) (T := τ) T hτ
  have I' : XNt ((x.setN false y).n false) h c H (nightS H C x.paid x.hiss 0) 0 := by rw [setN_n]; exact I
  obtain ⟨y3, e4⟩ := X_calls_ R.hb R.XH R.ok R.XC hτ τ hcFuel 0 (x.setN false y) (by omega) (by unfold hcFuel; omega) I'
  have e5 := M_calls_ (b' := b') (n := n) (s := s) T2.MH hτ hR τ hcFuel 0 (by omega) (by unfold hcFuel; omega)
  rw [setN_setN] at e4
  simp -implicitDefEqProofs only [Option.bind_some, bd_some, b2i_0, Bool.true_eq_false, Bool.false_eq_true, eq_self, if_true, if_false, not_true_eq_false, not_false_eq_true, ivX R.hb, ivM, ivN R.hb, e1, e3, X_isUp' R.hb R.XH I']
  refine ⟨_, _, _, Eq.trans ?_ e4, e5, T2.nX⟩
  simp -implicitDefEqProofs only [callsS]
  rcases Bool.eq_false_or_eq_true (upS H C x.paid x.hiss 0) with e0 | e0
  · simp -implicitDefEqProofs only [Option.bind_some, bd_some, b2i_0, Bool.true_eq_false, Bool.false_eq_true, eq_self, if_true, if_false, not_true_eq_false, not_false_eq_true, e0]; rfl
  · simp -implicitDefEqProofs only [Option.bind_some, bd_some, b2i_0, Bool.true_eq_false, Bool.false_eq_true, eq_self, if_true, if_false, not_true_eq_false, not_false_eq_true, e0]; rfl
theorem C_carries (R : Duo b x m H C h c K) (a : Int32) : ∃ r x' m', fX1_carries (some 64) a (mkX b x) = some (r, mkX b x') ∧ fX4_carries (some 106) a (mkM b' n s m) = some (r, mkM b' n s m') ∧ Duo b x' m' H C h c K := by
  have T := R.th (v := 0)
  unfold fX1_carries fX4_carries
  simp -implicitDefEqProofs only [Option.bind_some, bd_some, b2i_0, Bool.true_eq_false, Bool.false_eq_true, eq_self, if_true, if_false, not_true_eq_false, not_false_eq_true, pM_55', X_isIn, M_isIn]
  cases et : decide ((0 : Int32) ≤ a ∧ a ≤ 1)
  · simp -implicitDefEqProofs only [Option.bind_some, bd_some, b2i_0, Bool.true_eq_false, Bool.false_eq_true, eq_self, if_true, if_false, not_true_eq_false, not_false_eq_true]; exact ⟨_, _, _, rfl, rfl, T⟩
  obtain ⟨y, e1⟩ := X_height R.hb (p := x.paid) (hi := x.hiss) R.XH R.ok R.XC R.xc
  obtain ⟨g, ym, e2, ha, hR, h1, h2⟩ := M_height (b := b') (n := n) (s := s) (p := x.paid) (h := x.hiss) R.ok R.ar T.MH T.MC T.lays T.l01
  have p1 : (m.th 0).seatsPaid = x.paid := T.paid.symm
  have p2 : (m.th 0).seatsHiss = x.hiss := T.hiss.symm
  have n1 : ((m.th 0).lay g ym).n.nightHeight = hgtS H C x.paid x.hiss 61 := h1
  have n2' : ((m.th 0).lay g ym).n.nightCarries = b2i (decide (n2 H.carry ≤ hgtS H C x.paid x.hiss 61)) := h2
  simp -implicitDefEqProofs only [Option.bind_some, bd_some, b2i_0, Bool.true_eq_false, Bool.false_eq_true, eq_self, if_true, if_false, not_true_eq_false, not_false_eq_true, gX_4 R.hb, gX_5 R.hb, gX_6 R.hb, R.xh, ivX R.hb, e1, gM_71, gM_72, p1, p2, ivM, e2, gM_99, gM_100, n1, n2', xh_30 R.XH, setN_house]
  by_cases h1 : a = 1
  · simp -implicitDefEqProofs only [Option.bind_some, bd_some, b2i_0, Bool.true_eq_false, Bool.false_eq_true, eq_self, if_true, if_false, not_true_eq_false, not_false_eq_true, h1]; exact ⟨_, _, _, rfl, rfl, (T.lay ha).nX⟩
  · simp -implicitDefEqProofs only [Option.bind_some, bd_some, b2i_0, Bool.true_eq_false, Bool.false_eq_true, eq_self, if_true, if_false, not_true_eq_false, not_false_eq_true, h1]
    by_cases hc : hgtS H C x.paid x.hiss 61 < n2 H.carry
    · rw [if_pos hc, show decide (n2 H.carry ≤ hgtS H C x.paid x.hiss 61) = false from decide_eq_false (Int32.not_le.mpr hc)]
      simp -implicitDefEqProofs only [Option.bind_some, bd_some, b2i_0, Bool.true_eq_false, Bool.false_eq_true, eq_self, if_true, if_false, not_true_eq_false, not_false_eq_true]; exact ⟨_, _, _, rfl, rfl, (T.lay ha).nX⟩
    · rw [if_neg hc, show decide (n2 H.carry ≤ hgtS H C x.paid x.hiss 61) = true from decide_eq_true (Int32.not_lt.mp hc)]
      simp -implicitDefEqProofs only [Option.bind_some, bd_some, b2i_0, Bool.true_eq_false, Bool.false_eq_true, eq_self, if_true, if_false, not_true_eq_false, not_false_eq_true]; exact ⟨_, _, _, rfl, rfl, (T.lay ha).nX⟩
end CmdD
