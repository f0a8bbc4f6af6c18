set_option linter.unusedVariables false
set_option linter.unusedSimpArgs false
set_option maxRecDepth 100000
/-! ===== nights in HouseClaps ===== -/
theorem mRowJ_eq {st st' : Mem} {a : Nat} {f : Nat → Int64} (h0 : st.1 = st'.1) (h1 : st.2.1 = st'.2.1) (h2 : st.2.2.1 = st'.2.2.1) (h3 : ∀ c, (if c = a then f else st.2.2.2.1 c) = st'.2.2.2.1 c) (h4 : st.2.2.2.2 = st'.2.2.2.2) : mRowJ st a f = st' := by
  have : up1 st.2.2.2.1 a f = st'.2.2.2.1 := funext h3
  unfold mRowJ; rw [h0, h1, h2, this, h4]
theorem mRow_eq {st st' : Mem} {a : Nat} {f : Nat → Int32} (h0 : st.1 = st'.1) (h1 : st.2.1 = st'.2.1) (h2 : ∀ c, (if c = a then f else st.2.2.1 c) = st'.2.2.1 c) (h4 : st.2.2.2 = st'.2.2.2) : mRow st a f = st' := by
  have : up1 st.2.2.1 a f = st'.2.2.1 := funext h2
  unfold mRow; rw [h0, h1, this, h4]
theorem mSA4 {st st' : Mem} {a : Nat} {v1 v2 v3 v4 : Rf} (h0 : st.1 = st'.1) (h1 : st.2.1 = st'.2.1) (h2 : st.2.2.1 = st'.2.2.1) (h3 : st.2.2.2.1 = st'.2.2.2.1) (h4 : ∀ c j, (if c = a then (if j = 51 then v4 else if j = 50 then v3 else if j = 49 then v2 else if j = 48 then v1 else st.2.2.2.2.1 a j) else st.2.2.2.2.1 c j) = st'.2.2.2.2.1 c j) (h5 : st.2.2.2.2.2 = st'.2.2.2.2.2) : mSA (mSA (mSA (mSA st a 48 v1) a 49 v2) a 50 v3) a 51 v4 = st' := by
  have : up2 (up2 (up2 (up2 st.2.2.2.2.1 a 48 v1) a 49 v2) a 50 v3) a 51 v4 = st'.2.2.2.2.1 := by
    funext c j
    rw [← h4 c j]
    unfold up2
    by_cases e : c = a
    · subst e; simp only [if_true]
    · simp only [e, if_false]
  unfold mSA; simp only []; rw [h0, h1, h2, h3, this, h5]
def NX.swp (y : NX) : NX := ((((y.s_sw (!y.sw)).s_was y.level).s_level y.was).s_wasHeld y.held).s_held y.wasHeld
theorem swp_sw (y : NX) : y.swp.sw = !y.sw := rfl
theorem swp_was (y : NX) : y.swp.was = y.level := rfl
theorem swp_level (y : NX) : y.swp.level = y.was := rfl
theorem swp_wasHeld (y : NX) : y.swp.wasHeld = y.held := rfl
theorem swp_held (y : NX) : y.swp.held = y.wasHeld := rfl
theorem swp_wasWith (y : NX) : y.swp.wasWith = y.wasWith := rfl
theorem swp_h (y : NX) : y.swp.h = y.h := rfl
theorem swp_cues (y : NX) : y.swp.cues = y.cues := rfl
theorem swp_wth (y : NX) : y.swp.wth = y.wth := rfl
theorem nRI_swp (b : Mem) (i : Nat) (y : NX) : nRI b i y.swp = nRI b i y := by
  unfold nRI NX.swp; simp only [NX.s_sw, NX.s_was, NX.s_level, NX.s_wasHeld, NX.s_held, mk_NX_now, mk_NX_next, mk_NX_isStill]
theorem nRJ_swp (b : Mem) (i : Nat) (y : NX) : nRJ b i y.swp = nRJ b i y := by
  unfold nRJ NX.swp; simp only [NX.s_sw, NX.s_was, NX.s_level, NX.s_wasHeld, NX.s_held, mk_NX_paid, mk_NX_hiss, mk_NX_ahead]
theorem cpOK_3 (st : Mem) (a n : Nat) : cpOK st 103 a 0 n = true := by
  unfold cpOK
  rw [List.all_eq_true]; intro i _; rfl
theorem cpOK_2 (st : Mem) (a n : Nat) : cpOK st 102 a 0 n = true := by
  unfold cpOK
  rw [List.all_eq_true]; intro i _; rfl
section NightX
variable {b : Mem} {x : XS} {q : Bool} {h c e t s nx own lv : Nat} {H : HS} {C : List Cu} {k : Cu} {Q P : Int64 × Int64 × Bool} {N : NT} {ah : Int64}
theorem X_cpW (hb : 131 ≤ mNx b) : cpy (mkX b x) (some (nid q + 6)) (0 : Int32) (some (nid q + 5)) (0 : Int32) (3 : Int32) = some (mkX b (x.setN q ((x.n q).s_wasWith (va_cpy (x.n q).wth (x.n q).wasWith 0 0 3)))) := by
  cases q
  · refine (if_pos ⟨by decide, mkX_lt hb (by decide), mkX_lt hb (by decide), by decide, rfl, by show 100 ≤ 103; decide, by show 103 < 106; decide, by decide, by decide, by decide, by show 3 ≤ 3; decide, by show 3 ≤ 3; decide, cpOK_3 _ _ _⟩).trans (congrArg some ?_)
    rw [mkX_0]
    refine mRowJ_eq rfl rfl rfl (fun c => ?_) rfl
    by_cases hc : c = 86
    · subst hc; rfl
    · show (if c = 86 then _ else _) = _
      rw [if_neg hc]
      simp only [mkX, mkY, up1, hc, if_false]; rfl
  · refine (if_pos ⟨by decide, mkX_lt hb (by decide), mkX_lt hb (by decide), by decide, rfl, by show 100 ≤ 103; decide, by show 103 < 106; decide, by decide, by decide, by decide, by show 3 ≤ 3; decide, by show 3 ≤ 3; decide, cpOK_3 _ _ _⟩).trans (congrArg some ?_)
    rw [mkX_1]
    refine mRowJ_eq rfl rfl rfl (fun c => ?_) rfl
    by_cases hc : c = 93
    · subst hc; rfl
    · show (if c = 93 then _ else _) = _
      rw [if_neg hc]
      simp only [mkX, mkY, up1, hc, if_false]; rfl
set_option maxHeartbeats 8000000 in
theorem X_swp (hb : 131 ≤ mNx b) {α : Type} (kk : Mem → Option α) : ((pA (mkX b x) (some (nid q)) 48 (some (nid q + (if (x.n q).sw then 1 else 2)))).bind fun st => (pA st (some (nid q)) 49 (some (nid q + (if (x.n q).sw then 2 else 1)))).bind fun st => (gA st (some (nid q)) 50).bind fun x19 => (gA st (some (nid q)) 51).bind fun x25 => (pA st (some (nid q)) 50 x25).bind fun st => (pA st (some (nid q)) 51 x19).bind fun st => kk st) = kk (mkX b (x.setN q (x.n q).swp)) := by
  cases q
  · have g0 : pA (mkX b x) (some 81) 48 (some (81 + (if x.n0.sw then 1 else 2))) = some (mSA (mkX b x) 81 48 (some (81 + (if x.n0.sw then 1 else 2)))) := pA_of (t := 3) (by decide) (mkX_lt hb (by decide)) rfl (by decide)
    show ((pA (mkX b x) (some 81) 48 (some (81 + (if x.n0.sw then 1 else 2)))).bind _) = _
    rw [g0, Option.bind_some]
    generalize hs0 : mSA (mkX b x) 81 48 (some (81 + (if x.n0.sw then 1 else 2))) = s0
    have l0 : 81 < mNx s0 := by rw [← hs0]; exact mkX_lt (x := x) hb (by decide)
    have t0 : mTag s0 81 = 3 := by rw [← hs0]; rfl
    show ((pA s0 (some 81) 49 (some (81 + (if x.n0.sw then 2 else 1)))).bind _) = _
    rw [pA_of (t := 3) (by decide) l0 t0 (by decide), Option.bind_some]
    have a0 : ∀ j, j ≠ 48 → mA s0 81 j = mA (mkX b x) 81 j := fun j hj => by rw [← hs0]; unfold mA mSA up2; simp only [if_true, hj, if_false]
    generalize hs1 : mSA s0 81 49 (some (81 + (if x.n0.sw then 2 else 1))) = s1
    have l1 : 81 < mNx s1 := by rw [← hs1]; exact l0
    have t1 : mTag s1 81 = 3 := by rw [← hs1]; exact t0
    have a1 : ∀ j, j ≠ 48 → j ≠ 49 → mA s1 81 j = mA (mkX b x) 81 j := fun j hj hj2 => by rw [← a0 j hj, ← hs1]; unfold mA mSA up2; simp only [if_true, hj2, if_false]
    have g50 : gA s1 (some 81) 50 = some (mA s1 81 50) := gA_of (t := 3) l1 t1 (by decide)
    have g51 : gA s1 (some 81) 51 = some (mA s1 81 51) := gA_of (t := 3) l1 t1 (by decide)
    show ((gA s1 (some 81) 50).bind fun x19 => (gA s1 (some 81) 51).bind fun x25 => (pA s1 (some 81) 50 x25).bind fun st => (pA st (some 81) 51 x19).bind fun st => kk st) = _
    rw [g50, Option.bind_some, g51, Option.bind_some, pA_of (t := 3) (by decide) l1 t1 (by decide), Option.bind_some, a1 50 (by decide) (by decide), a1 51 (by decide) (by decide)]
    generalize hs2 : mSA s1 81 50 (mA (mkX b x) 81 51) = s2
    have l2 : 81 < mNx s2 := by rw [← hs2]; exact l1
    have t2 : mTag s2 81 = 3 := by rw [← hs2]; exact t1
    show ((pA s2 (some 81) 51 _).bind _) = _
    rw [pA_of (t := 3) (by decide) l2 t2 (by decide), Option.bind_some, ← hs2, ← hs1, ← hs0, mkX_0]
    refine congrArg kk (mSA4 rfl rfl ?_ ?_ ?_ rfl)
    · show (mkY b x x.n0 x.n1).2.2.1 = (mkY b x (x.n0.swp) x.n1).2.2.1
      unfold mkY
      simp only [nRI_swp, swp_sw, swp_was, swp_level, swp_wasHeld, swp_held]
      rcases Bool.eq_false_or_eq_true x.n0.sw with hw | hw <;> simp only [hw, Bool.not_true, Bool.not_false, if_true, if_false, Bool.false_eq_true]
    · show (mkY b x x.n0 x.n1).2.2.2.1 = (mkY b x (x.n0.swp) x.n1).2.2.2.1
      unfold mkY
      simp only [nRJ_swp, swp_wasWith, swp_wth]
    · intro c j
      by_cases hc : c = 81
      · subst hc
        rw [if_pos rfl]
        show _ = nRA b 81 x.n0.swp j
        have e50 : mA (mkX b x) 81 50 = some (81 + (if x.n0.sw then 4 else 3)) := rfl
        have e51 : mA (mkX b x) 81 51 = some (81 + (if x.n0.sw then 3 else 4)) := rfl
        have ej : (mkX b x).2.2.2.2.1 81 j = nRA b 81 x.n0 j := rfl
        have es : (x.n0.swp).sw = !x.n0.sw := rfl
        rw [e50, e51, ej]
        unfold nRA
        rw [es]
        by_cases j1 : j = 51
        · subst j1; cases x.n0.sw <;> rfl
        · by_cases j2 : j = 50
          · subst j2; cases x.n0.sw <;> rfl
          · by_cases j3 : j = 49
            · subst j3; cases x.n0.sw <;> rfl
            · by_cases j4 : j = 48
              · subst j4; cases x.n0.sw <;> rfl
              · simp only [j1, j2, j3, j4, if_false, swp_h, swp_cues]
      · rw [if_neg hc]
        show (mkY b x x.n0 x.n1).2.2.2.2.1 c j = (mkY b x (x.n0.swp) x.n1).2.2.2.2.1 c j
        unfold mkY
        simp only [up1, hc, if_false]
  · have g0 : pA (mkX b x) (some 88) 48 (some (88 + (if x.n1.sw then 1 else 2))) = some (mSA (mkX b x) 88 48 (some (88 + (if x.n1.sw then 1 else 2)))) := pA_of (t := 3) (by decide) (mkX_lt hb (by decide)) rfl (by decide)
    show ((pA (mkX b x) (some 88) 48 (some (88 + (if x.n1.sw then 1 else 2)))).bind _) = _
    rw [g0, Option.bind_some]
    generalize hs0 : mSA (mkX b x) 88 48 (some (88 + (if x.n1.sw then 1 else 2))) = s0
    have l0 : 88 < mNx s0 := by rw [← hs0]; exact mkX_lt (x := x) hb (by decide)
    have t0 : mTag s0 88 = 3 := by rw [← hs0]; rfl
    show ((pA s0 (some 88) 49 (some (88 + (if x.n1.sw then 2 else 1)))).bind _) = _
    rw [pA_of (t := 3) (by decide) l0 t0 (by decide), Option.bind_some]
    have a0 : ∀ j, j ≠ 48 → mA s0 88 j = mA (mkX b x) 88 j := fun j hj => by rw [← hs0]; unfold mA mSA up2; simp only [if_true, hj, if_false]
    generalize hs1 : mSA s0 88 49 (some (88 + (if x.n1.sw then 2 else 1))) = s1
    have l1 : 88 < mNx s1 := by rw [← hs1]; exact l0
    have t1 : mTag s1 88 = 3 := by rw [← hs1]; exact t0
    have a1 : ∀ j, j ≠ 48 → j ≠ 49 → mA s1 88 j = mA (mkX b x) 88 j := fun j hj hj2 => by rw [← a0 j hj, ← hs1]; unfold mA mSA up2; simp only [if_true, hj2, if_false]
    have g50 : gA s1 (some 88) 50 = some (mA s1 88 50) := gA_of (t := 3) l1 t1 (by decide)
    have g51 : gA s1 (some 88) 51 = some (mA s1 88 51) := gA_of (t := 3) l1 t1 (by decide)
    show ((gA s1 (some 88) 50).bind fun x19 => (gA s1 (some 88) 51).bind fun x25 => (pA s1 (some 88) 50 x25).bind fun st => (pA st (some 88) 51 x19).bind fun st => kk st) = _
    rw [g50, Option.bind_some, g51, Option.bind_some, pA_of (t := 3) (by decide) l1 t1 (by decide), Option.bind_some, a1 50 (by decide) (by decide), a1 51 (by decide) (by decide)]
    generalize hs2 : mSA s1 88 50 (mA (mkX b x) 88 51) = s2
    have l2 : 88 < mNx s2 := by rw [← hs2]; exact l1
    have t2 : mTag s2 88 = 3 := by rw [← hs2]; exact t1
    show ((pA s2 (some 88) 51 _).bind _) = _
    rw [pA_of (t := 3) (by decide) l2 t2 (by decide), Option.bind_some, ← hs2, ← hs1, ← hs0, mkX_1]
    refine congrArg kk (mSA4 rfl rfl ?_ ?_ ?_ rfl)
    · show (mkY b x x.n0 x.n1).2.2.1 = (mkY b x x.n0 (x.n1.swp)).2.2.1
      unfold mkY
      simp only [nRI_swp, swp_sw, swp_was, swp_level, swp_wasHeld, swp_held]
      rcases Bool.eq_false_or_eq_true x.n1.sw with hw | hw <;> simp only [hw, Bool.not_true, Bool.not_false, if_true, if_false, Bool.false_eq_true]
    · show (mkY b x x.n0 x.n1).2.2.2.1 = (mkY b x x.n0 (x.n1.swp)).2.2.2.1
      unfold mkY
      simp only [nRJ_swp, swp_wasWith, swp_wth]
    · intro c j
      by_cases hc : c = 88
      · subst hc
        rw [if_pos rfl]
        show _ = nRA b 88 x.n1.swp j
        have e50 : mA (mkX b x) 88 50 = some (88 + (if x.n1.sw then 4 else 3)) := rfl
        have e51 : mA (mkX b x) 88 51 = some (88 + (if x.n1.sw then 3 else 4)) := rfl
        have ej : (mkX b x).2.2.2.2.1 88 j = nRA b 88 x.n1 j := rfl
        have es : (x.n1.swp).sw = !x.n1.sw := rfl
        rw [e50, e51, ej]
        unfold nRA
        rw [es]
        by_cases j1 : j = 51
        · subst j1; cases x.n1.sw <;> rfl
        · by_cases j2 : j = 50
          · subst j2; cases x.n1.sw <;> rfl
          · by_cases j3 : j = 49
            · subst j3; cases x.n1.sw <;> rfl
            · by_cases j4 : j = 48
              · subst j4; cases x.n1.sw <;> rfl
              · simp only [j1, j2, j3, j4, if_false, swp_h, swp_cues]
      · rw [if_neg hc]
        show (mkY b x x.n0 x.n1).2.2.2.2.1 c j = (mkY b x x.n0 (x.n1.swp)).2.2.2.2.1 c j
        unfold mkY
        simp only [up1, hc, if_false]
end NightX
