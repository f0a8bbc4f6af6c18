set_option linter.unusedVariables false
set_option linter.unusedSimpArgs false
set_option maxRecDepth 100000
/-! ===== as if all were asked now ===== -/
theorem nRI_swas (b : Mem) (i : Nat) (y : NX) (f : Nat → Int32) : nRI b i (y.s_was f) = nRI b i y := by
  unfold nRI; simp -implicitDefEqProofs only [NX.s_was, mk_NX_now, mk_NX_next, mk_NX_isStill]
theorem nRI_swasHeld (b : Mem) (i : Nat) (y : NX) (f : Nat → Int32) : nRI b i (y.s_wasHeld f) = nRI b i y := by
  unfold nRI; simp -implicitDefEqProofs only [NX.s_wasHeld, mk_NX_now, mk_NX_next, mk_NX_isStill]
theorem f_was_sw (y : NX) (f : Nat → Int32) : (y.s_was f).sw = y.sw := rfl
theorem f_was_level (y : NX) (f : Nat → Int32) : (y.s_was f).level = y.level := rfl
theorem f_was_held (y : NX) (f : Nat → Int32) : (y.s_was f).held = y.held := rfl
theorem f_was_was (y : NX) (f : Nat → Int32) : (y.s_was f).was = f := rfl
theorem f_was_wasHeld (y : NX) (f : Nat → Int32) : (y.s_was f).wasHeld = y.wasHeld := rfl
theorem f_wasHeld_sw (y : NX) (f : Nat → Int32) : (y.s_wasHeld f).sw = y.sw := rfl
theorem f_wasHeld_level (y : NX) (f : Nat → Int32) : (y.s_wasHeld f).level = y.level := rfl
theorem f_wasHeld_held (y : NX) (f : Nat → Int32) : (y.s_wasHeld f).held = y.held := rfl
theorem f_wasHeld_was (y : NX) (f : Nat → Int32) : (y.s_wasHeld f).was = y.was := rfl
theorem f_wasHeld_wasHeld (y : NX) (f : Nat → Int32) : (y.s_wasHeld f).wasHeld = f := rfl
section AskedX
variable {b : Mem} {x : XS} {q : Bool}
set_option maxHeartbeats 8000000 in
theorem X_cpL (hb : 131 ≤ mNx b) : cpy (mkX b x) (some (nid q + (if (x.n q).sw then 1 else 2))) (0 : Int32) (some (nid q + (if (x.n q).sw then 2 else 1))) (0 : Int32) (64 : Int32) = some (mkX b (x.setN q ((x.n q).s_was (va_cpy (x.n q).level (x.n q).was 0 0 64)))) := by
  cases q
  · show cpy (mkX b x) (some (81 + (if x.n0.sw then _ else _))) _ (some (81 + (if x.n0.sw then _ else _))) _ _ = _
    rcases Bool.eq_false_or_eq_true x.n0.sw with hw | hw
    · rw [hw]
      have es : mI (mkX b x) 82 = x.n0.level := by
        show (if x.n0.sw then _ else _ : Nat → Int32) = _
        rw [hw]; rfl
      have ed : mI (mkX b x) 83 = x.n0.was := by
        show (if x.n0.sw then _ else _ : Nat → Int32) = _
        rw [hw]; rfl
      refine (if_pos (c := 64 ≤ 83 ∧ 82 < mNx (mkX b x) ∧ 83 < mNx (mkX b x) ∧ 82 ≠ 83 ∧ mTag (mkX b x) 82 = mTag (mkX b x) 83 ∧ 100 ≤ mTag (mkX b x) 83 ∧ mTag (mkX b x) 83 < 106 ∧ (0 : Int32) ≤ 0 ∧ (0 : Int32) ≤ 0 ∧ (0 : Int32) ≤ 64 ∧ (0 : Int32).toNatClampNeg + (64 : Int32).toNatClampNeg ≤ mLen (mkX b x) 82 ∧ (0 : Int32).toNatClampNeg + (64 : Int32).toNatClampNeg ≤ mLen (mkX b x) 83 ∧ cpOK (mkX b x) (mTag (mkX b x) 83) 82 (0 : Int32).toNatClampNeg (64 : Int32).toNatClampNeg = true) ⟨by decide, mkX_lt hb (by decide), mkX_lt hb (by decide), by decide, rfl, by show 100 ≤ 102; decide, by show 102 < 106; decide, by decide, by decide, by decide, by show 64 ≤ 64; decide, by show 64 ≤ 64; decide, cpOK_2 _ _ _⟩).trans (congrArg some ?_)
      rw [mkX_0]
      show mRow (mkX b x) 83 (va_cpy (mI (mkX b x) 82) (mI (mkX b x) 83) 0 0 64) = _
      rw [es, ed]
      refine mRow_eq rfl rfl (fun c => ?_) rfl
      have e1 : ∀ f, (x.n0.s_was f).sw = x.n0.sw := fun _ => rfl
      by_cases hc : c = 83
      · subst hc
        rw [if_pos rfl]
        show _ = (if (x.n0.s_was _).sw then _ else _ : Nat → Int32)
        rw [e1, hw]; rfl
      · rw [if_neg hc]
        simp -implicitDefEqProofs only [mkX, mkY, up1, hc, if_false, show x.n false = x.n0 from rfl, show x.n true = x.n1 from rfl, nRI_swas, f_was_sw, f_was_level, f_was_held, f_was_was, f_was_wasHeld, hw, if_true, Bool.false_eq_true]
    · rw [hw]
      have es : mI (mkX b x) 83 = x.n0.level := by
        show (if x.n0.sw then _ else _ : Nat → Int32) = _
        rw [hw]; rfl
      have ed : mI (mkX b x) 82 = x.n0.was := by
        show (if x.n0.sw then _ else _ : Nat → Int32) = _
        rw [hw]; rfl
      refine (if_pos (c := 64 ≤ 82 ∧ 83 < mNx (mkX b x) ∧ 82 < mNx (mkX b x) ∧ 83 ≠ 82 ∧ mTag (mkX b x) 83 = mTag (mkX b x) 82 ∧ 100 ≤ mTag (mkX b x) 82 ∧ mTag (mkX b x) 82 < 106 ∧ (0 : Int32) ≤ 0 ∧ (0 : Int32) ≤ 0 ∧ (0 : Int32) ≤ 64 ∧ (0 : Int32).toNatClampNeg + (64 : Int32).toNatClampNeg ≤ mLen (mkX b x) 83 ∧ (0 : Int32).toNatClampNeg + (64 : Int32).toNatClampNeg ≤ mLen (mkX b x) 82 ∧ cpOK (mkX b x) (mTag (mkX b x) 82) 83 (0 : Int32).toNatClampNeg (64 : Int32).toNatClampNeg = true) ⟨by decide, mkX_lt hb (by decide), mkX_lt hb (by decide), by decide, rfl, by show 100 ≤ 102; decide, by show 102 < 106; decide, by decide, by decide, by decide, by show 64 ≤ 64; decide, by show 64 ≤ 64; decide, cpOK_2 _ _ _⟩).trans (congrArg some ?_)
      rw [mkX_0]
      show mRow (mkX b x) 82 (va_cpy (mI (mkX b x) 83) (mI (mkX b x) 82) 0 0 64) = _
      rw [es, ed]
      refine mRow_eq rfl rfl (fun c => ?_) rfl
      have e1 : ∀ f, (x.n0.s_was f).sw = x.n0.sw := fun _ => rfl
      by_cases hc : c = 82
      · subst hc
        rw [if_pos rfl]
        show _ = (if (x.n0.s_was _).sw then _ else _ : Nat → Int32)
        rw [e1, hw]; rfl
      · rw [if_neg hc]
        simp -implicitDefEqProofs only [mkX, mkY, up1, hc, if_false, show x.n false = x.n0 from rfl, show x.n true = x.n1 from rfl, nRI_swas, f_was_sw, f_was_level, f_was_held, f_was_was, f_was_wasHeld, hw, if_true, Bool.false_eq_true]
  · show cpy (mkX b x) (some (88 + (if x.n1.sw then _ else _))) _ (some (88 + (if x.n1.sw then _ else _))) _ _ = _
    rcases Bool.eq_false_or_eq_true x.n1.sw with hw | hw
    · rw [hw]
      have es : mI (mkX b x) 89 = x.n1.level := by
        show (if x.n1.sw then _ else _ : Nat → Int32) = _
        rw [hw]; rfl
      have ed : mI (mkX b x) 90 = x.n1.was := by
        show (if x.n1.sw then _ else _ : Nat → Int32) = _
        rw [hw]; rfl
      refine (if_pos (c := 64 ≤ 90 ∧ 89 < mNx (mkX b x) ∧ 90 < mNx (mkX b x) ∧ 89 ≠ 90 ∧ mTag (mkX b x) 89 = mTag (mkX b x) 90 ∧ 100 ≤ mTag (mkX b x) 90 ∧ mTag (mkX b x) 90 < 106 ∧ (0 : Int32) ≤ 0 ∧ (0 : Int32) ≤ 0 ∧ (0 : Int32) ≤ 64 ∧ (0 : Int32).toNatClampNeg + (64 : Int32).toNatClampNeg ≤ mLen (mkX b x) 89 ∧ (0 : Int32).toNatClampNeg + (64 : Int32).toNatClampNeg ≤ mLen (mkX b x) 90 ∧ cpOK (mkX b x) (mTag (mkX b x) 90) 89 (0 : Int32).toNatClampNeg (64 : Int32).toNatClampNeg = true) ⟨by decide, mkX_lt hb (by decide), mkX_lt hb (by decide), by decide, rfl, by show 100 ≤ 102; decide, by show 102 < 106; decide, by decide, by decide, by decide, by show 64 ≤ 64; decide, by show 64 ≤ 64; decide, cpOK_2 _ _ _⟩).trans (congrArg some ?_)
      rw [mkX_1]
      show mRow (mkX b x) 90 (va_cpy (mI (mkX b x) 89) (mI (mkX b x) 90) 0 0 64) = _
      rw [es, ed]
      refine mRow_eq rfl rfl (fun c => ?_) rfl
      have e1 : ∀ f, (x.n1.s_was f).sw = x.n1.sw := fun _ => rfl
      by_cases hc : c = 90
      · subst hc
        rw [if_pos rfl]
        show _ = (if (x.n1.s_was _).sw then _ else _ : Nat → Int32)
        rw [e1, hw]; rfl
      · rw [if_neg hc]
        simp -implicitDefEqProofs only [mkX, mkY, up1, hc, if_false, show x.n false = x.n0 from rfl, show x.n true = x.n1 from rfl, nRI_swas, f_was_sw, f_was_level, f_was_held, f_was_was, f_was_wasHeld, hw, if_true, Bool.false_eq_true]
    · rw [hw]
      have es : mI (mkX b x) 90 = x.n1.level := by
        show (if x.n1.sw then _ else _ : Nat → Int32) = _
        rw [hw]; rfl
      have ed : mI (mkX b x) 89 = x.n1.was := by
        show (if x.n1.sw then _ else _ : Nat → Int32) = _
        rw [hw]; rfl
      refine (if_pos (c := 64 ≤ 89 ∧ 90 < mNx (mkX b x) ∧ 89 < mNx (mkX b x) ∧ 90 ≠ 89 ∧ mTag (mkX b x) 90 = mTag (mkX b x) 89 ∧ 100 ≤ mTag (mkX b x) 89 ∧ mTag (mkX b x) 89 < 106 ∧ (0 : Int32) ≤ 0 ∧ (0 : Int32) ≤ 0 ∧ (0 : Int32) ≤ 64 ∧ (0 : Int32).toNatClampNeg + (64 : Int32).toNatClampNeg ≤ mLen (mkX b x) 90 ∧ (0 : Int32).toNatClampNeg + (64 : Int32).toNatClampNeg ≤ mLen (mkX b x) 89 ∧ cpOK (mkX b x) (mTag (mkX b x) 89) 90 (0 : Int32).toNatClampNeg (64 : Int32).toNatClampNeg = true) ⟨by decide, mkX_lt hb (by decide), mkX_lt hb (by decide), by decide, rfl, by show 100 ≤ 102; decide, by show 102 < 106; decide, by decide, by decide, by decide, by show 64 ≤ 64; decide, by show 64 ≤ 64; decide, cpOK_2 _ _ _⟩).trans (congrArg some ?_)
      rw [mkX_1]
      show mRow (mkX b x) 89 (va_cpy (mI (mkX b x) 90) (mI (mkX b x) 89) 0 0 64) = _
      rw [es, ed]
      refine mRow_eq rfl rfl (fun c => ?_) rfl
      have e1 : ∀ f, (x.n1.s_was f).sw = x.n1.sw := fun _ => rfl
      by_cases hc : c = 89
      · subst hc
        rw [if_pos rfl]
        show _ = (if (x.n1.s_was _).sw then _ else _ : Nat → Int32)
        rw [e1, hw]; rfl
      · rw [if_neg hc]
        simp -implicitDefEqProofs only [mkX, mkY, up1, hc, if_false, show x.n false = x.n0 from rfl, show x.n true = x.n1 from rfl, nRI_swas, f_was_sw, f_was_level, f_was_held, f_was_was, f_was_wasHeld, hw, if_true, Bool.false_eq_true]
set_option maxHeartbeats 8000000 in
theorem X_cpH (hb : 131 ≤ mNx b) : cpy (mkX b x) (some (nid q + (if (x.n q).sw then 3 else 4))) (0 : Int32) (some (nid q + (if (x.n q).sw then 4 else 3))) (0 : Int32) (64 : Int32) = some (mkX b (x.setN q ((x.n q).s_wasHeld (va_cpy (x.n q).held (x.n q).wasHeld 0 0 64)))) := by
  cases q
  · show cpy (mkX b x) (some (81 + (if x.n0.sw then _ else _))) _ (some (81 + (if x.n0.sw then _ else _))) _ _ = _
    rcases Bool.eq_false_or_eq_true x.n0.sw with hw | hw
    · rw [hw]
      have es : mI (mkX b x) 84 = x.n0.held := by
        show (if x.n0.sw then _ else _ : Nat → Int32) = _
        rw [hw]; rfl
      have ed : mI (mkX b x) 85 = x.n0.wasHeld := by
        show (if x.n0.sw then _ else _ : Nat → Int32) = _
        rw [hw]; rfl
      refine (if_pos (c := 64 ≤ 85 ∧ 84 < mNx (mkX b x) ∧ 85 < mNx (mkX b x) ∧ 84 ≠ 85 ∧ mTag (mkX b x) 84 = mTag (mkX b x) 85 ∧ 100 ≤ mTag (mkX b x) 85 ∧ mTag (mkX b x) 85 < 106 ∧ (0 : Int32) ≤ 0 ∧ (0 : Int32) ≤ 0 ∧ (0 : Int32) ≤ 64 ∧ (0 : Int32).toNatClampNeg + (64 : Int32).toNatClampNeg ≤ mLen (mkX b x) 84 ∧ (0 : Int32).toNatClampNeg + (64 : Int32).toNatClampNeg ≤ mLen (mkX b x) 85 ∧ cpOK (mkX b x) (mTag (mkX b x) 85) 84 (0 : Int32).toNatClampNeg (64 : Int32).toNatClampNeg = true) ⟨by decide, mkX_lt hb (by decide), mkX_lt hb (by decide), by decide, rfl, by show 100 ≤ 102; decide, by show 102 < 106; decide, by decide, by decide, by decide, by show 64 ≤ 64; decide, by show 64 ≤ 64; decide, cpOK_2 _ _ _⟩).trans (congrArg some ?_)
      rw [mkX_0]
      show mRow (mkX b x) 85 (va_cpy (mI (mkX b x) 84) (mI (mkX b x) 85) 0 0 64) = _
      rw [es, ed]
      refine mRow_eq rfl rfl (fun c => ?_) rfl
      have e1 : ∀ f, (x.n0.s_wasHeld f).sw = x.n0.sw := fun _ => rfl
      by_cases hc : c = 85
      · subst hc
        rw [if_pos rfl]
        show _ = (if (x.n0.s_wasHeld _).sw then _ else _ : Nat → Int32)
        rw [e1, hw]; rfl
      · rw [if_neg hc]
        simp -implicitDefEqProofs only [mkX, mkY, up1, hc, if_false, show x.n false = x.n0 from rfl, show x.n true = x.n1 from rfl, nRI_swasHeld, f_wasHeld_sw, f_wasHeld_level, f_wasHeld_held, f_wasHeld_was, f_wasHeld_wasHeld, hw, if_true, Bool.false_eq_true]
    · rw [hw]
      have es : mI (mkX b x) 85 = x.n0.held := by
        show (if x.n0.sw then _ else _ : Nat → Int32) = _
        rw [hw]; rfl
      have ed : mI (mkX b x) 84 = x.n0.wasHeld := by
        show (if x.n0.sw then _ else _ : Nat → Int32) = _
        rw [hw]; rfl
      refine (if_pos (c := 64 ≤ 84 ∧ 85 < mNx (mkX b x) ∧ 84 < mNx (mkX b x) ∧ 85 ≠ 84 ∧ mTag (mkX b x) 85 = mTag (mkX b x) 84 ∧ 100 ≤ mTag (mkX b x) 84 ∧ mTag (mkX b x) 84 < 106 ∧ (0 : Int32) ≤ 0 ∧ (0 : Int32) ≤ 0 ∧ (0 : Int32) ≤ 64 ∧ (0 : Int32).toNatClampNeg + (64 : Int32).toNatClampNeg ≤ mLen (mkX b x) 85 ∧ (0 : Int32).toNatClampNeg + (64 : Int32).toNatClampNeg ≤ mLen (mkX b x) 84 ∧ cpOK (mkX b x) (mTag (mkX b x) 84) 85 (0 : Int32).toNatClampNeg (64 : Int32).toNatClampNeg = true) ⟨by decide, mkX_lt hb (by decide), mkX_lt hb (by decide), by decide, rfl, by show 100 ≤ 102; decide, by show 102 < 106; decide, by decide, by decide, by decide, by show 64 ≤ 64; decide, by show 64 ≤ 64; decide, cpOK_2 _ _ _⟩).trans (congrArg some ?_)
      rw [mkX_0]
      show mRow (mkX b x) 84 (va_cpy (mI (mkX b x) 85) (mI (mkX b x) 84) 0 0 64) = _
      rw [es, ed]
      refine mRow_eq rfl rfl (fun c => ?_) rfl
      have e1 : ∀ f, (x.n0.s_wasHeld f).sw = x.n0.sw := fun _ => rfl
      by_cases hc : c = 84
      · subst hc
        rw [if_pos rfl]
        show _ = (if (x.n0.s_wasHeld _).sw then _ else _ : Nat → Int32)
        rw [e1, hw]; rfl
      · rw [if_neg hc]
        simp -implicitDefEqProofs only [mkX, mkY, up1, hc, if_false, show x.n false = x.n0 from rfl, show x.n true = x.n1 from rfl, nRI_swasHeld, f_wasHeld_sw, f_wasHeld_level, f_wasHeld_held, f_wasHeld_was, f_wasHeld_wasHeld, hw, if_true, Bool.false_eq_true]
  · show cpy (mkX b x) (some (88 + (if x.n1.sw then _ else _))) _ (some (88 + (if x.n1.sw then _ else _))) _ _ = _
    rcases Bool.eq_false_or_eq_true x.n1.sw with hw | hw
    · rw [hw]
      have es : mI (mkX b x) 91 = x.n1.held := by
        show (if x.n1.sw then _ else _ : Nat → Int32) = _
        rw [hw]; rfl
      have ed : mI (mkX b x) 92 = x.n1.wasHeld := by
        show (if x.n1.sw then _ else _ : Nat → Int32) = _
        rw [hw]; rfl
      refine (if_pos (c := 64 ≤ 92 ∧ 91 < mNx (mkX b x) ∧ 92 < mNx (mkX b x) ∧ 91 ≠ 92 ∧ mTag (mkX b x) 91 = mTag (mkX b x) 92 ∧ 100 ≤ mTag (mkX b x) 92 ∧ mTag (mkX b x) 92 < 106 ∧ (0 : Int32) ≤ 0 ∧ (0 : Int32) ≤ 0 ∧ (0 : Int32) ≤ 64 ∧ (0 : Int32).toNatClampNeg + (64 : Int32).toNatClampNeg ≤ mLen (mkX b x) 91 ∧ (0 : Int32).toNatClampNeg + (64 : Int32).toNatClampNeg ≤ mLen (mkX b x) 92 ∧ cpOK (mkX b x) (mTag (mkX b x) 92) 91 (0 : Int32).toNatClampNeg (64 : Int32).toNatClampNeg = true) ⟨by decide, mkX_lt hb (by decide), mkX_lt hb (by decide), by decide, rfl, by show 100 ≤ 102; decide, by show 102 < 106; decide, by decide, by decide, by decide, by show 64 ≤ 64; decide, by show 64 ≤ 64; decide, cpOK_2 _ _ _⟩).trans (congrArg some ?_)
      rw [mkX_1]
      show mRow (mkX b x) 92 (va_cpy (mI (mkX b x) 91) (mI (mkX b x) 92) 0 0 64) = _
      rw [es, ed]
      refine mRow_eq rfl rfl (fun c => ?_) rfl
      have e1 : ∀ f, (x.n1.s_wasHeld f).sw = x.n1.sw := fun _ => rfl
      by_cases hc : c = 92
      · subst hc
        rw [if_pos rfl]
        show _ = (if (x.n1.s_wasHeld _).sw then _ else _ : Nat → Int32)
        rw [e1, hw]; rfl
      · rw [if_neg hc]
        simp -implicitDefEqProofs only [mkX, mkY, up1, hc, if_false, show x.n false = x.n0 from rfl, show x.n true = x.n1 from rfl, nRI_swasHeld, f_wasHeld_sw, f_wasHeld_level, f_wasHeld_held, f_wasHeld_was, f_wasHeld_wasHeld, hw, if_true, Bool.false_eq_true]
    · rw [hw]
      have es : mI (mkX b x) 92 = x.n1.held := by
        show (if x.n1.sw then _ else _ : Nat → Int32) = _
        rw [hw]; rfl
      have ed : mI (mkX b x) 91 = x.n1.wasHeld := by
        show (if x.n1.sw then _ else _ : Nat → Int32) = _
        rw [hw]; rfl
      refine (if_pos (c := 64 ≤ 91 ∧ 92 < mNx (mkX b x) ∧ 91 < mNx (mkX b x) ∧ 92 ≠ 91 ∧ mTag (mkX b x) 92 = mTag (mkX b x) 91 ∧ 100 ≤ mTag (mkX b x) 91 ∧ mTag (mkX b x) 91 < 106 ∧ (0 : Int32) ≤ 0 ∧ (0 : Int32) ≤ 0 ∧ (0 : Int32) ≤ 64 ∧ (0 : Int32).toNatClampNeg + (64 : Int32).toNatClampNeg ≤ mLen (mkX b x) 92 ∧ (0 : Int32).toNatClampNeg + (64 : Int32).toNatClampNeg ≤ mLen (mkX b x) 91 ∧ cpOK (mkX b x) (mTag (mkX b x) 91) 92 (0 : Int32).toNatClampNeg (64 : Int32).toNatClampNeg = true) ⟨by decide, mkX_lt hb (by decide), mkX_lt hb (by decide), by decide, rfl, by show 100 ≤ 102; decide, by show 102 < 106; decide, by decide, by decide, by decide, by show 64 ≤ 64; decide, by show 64 ≤ 64; decide, cpOK_2 _ _ _⟩).trans (congrArg some ?_)
      rw [mkX_1]
      show mRow (mkX b x) 91 (va_cpy (mI (mkX b x) 92) (mI (mkX b x) 91) 0 0 64) = _
      rw [es, ed]
      refine mRow_eq rfl rfl (fun c => ?_) rfl
      have e1 : ∀ f, (x.n1.s_wasHeld f).sw = x.n1.sw := fun _ => rfl
      by_cases hc : c = 91
      · subst hc
        rw [if_pos rfl]
        show _ = (if (x.n1.s_wasHeld _).sw then _ else _ : Nat → Int32)
        rw [e1, hw]; rfl
      · rw [if_neg hc]
        simp -implicitDefEqProofs only [mkX, mkY, up1, hc, if_false, show x.n false = x.n0 from rfl, show x.n true = x.n1 from rfl, nRI_swasHeld, f_wasHeld_sw, f_wasHeld_level, f_wasHeld_held, f_wasHeld_was, f_wasHeld_wasHeld, hw, if_true, Bool.false_eq_true]
end AskedX
def NX.ask (y : NX) : NX := (NX.mk (y.now) (y.next) (y.isStill) (y.paid) (y.hiss) (0) (y.h) (y.cues) (y.sw) (va_cpy y.level y.was 0 0 64) (y.level) (va_cpy y.held y.wasHeld 0 0 64) (y.held) (va_cpy y.wth y.wasWith 0 0 3) (y.wth))
theorem X_asked {b : Mem} {x : XS} {q : Bool} (hb : 131 ≤ mNx b) : fX3_asked (some (nid q)) (mkX b x) = some (some (nid q), mkX b (x.setN q (x.n q).ask)) := by
  unfold fX3_asked
  rw [gN_49 hb, Option.bind_some, gN_48 hb, Option.bind_some, X_cpL hb, Option.bind_some, gN_51 hb, Option.bind_some, gN_50 hb, Option.bind_some, X_cpH hb, Option.bind_some, gN_53 hb, Option.bind_some, gN_52 hb, Option.bind_some, X_cpW hb, Option.bind_some, pN_54 hb, Option.bind_some]
  simp -implicitDefEqProofs only [setN_n, setN_setN, NX.ask, NX.s_now, NX.s_next, NX.s_isStill, NX.s_paid, NX.s_hiss, NX.s_ahead, NX.s_h, NX.s_cues, NX.s_sw, NX.s_was, NX.s_level, NX.s_wasHeld, NX.s_held, NX.s_wasWith, NX.s_wth, mk_NX_now, mk_NX_next, mk_NX_isStill, mk_NX_paid, mk_NX_hiss, mk_NX_ahead, mk_NX_h, mk_NX_cues, mk_NX_sw, mk_NX_was, mk_NX_level, mk_NX_wasHeld, mk_NX_held, mk_NX_wasWith, mk_NX_wth]
