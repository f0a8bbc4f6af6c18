set_option linter.unusedVariables false
set_option linter.unusedSimpArgs false
set_option maxRecDepth 100000
/-! ===== a moment in HouseClaps ===== -/
def NX.cu (y : NX) (P : Int64 × Int64 × Bool) (n : Nat) : NX := (((y.s_paid P.1).s_hiss P.2.1).s_isStill (b2i P.2.2)).s_next (n2 n)
theorem cu_cu (y : NX) (P P' : Int64 × Int64 × Bool) (n n' : Nat) : (y.cu P n).cu P' n' = y.cu P' n' := rfl
theorem clr_set (p : Int64) {s : Nat} (hs : s < 64) : (p &&& (bitS s ^^^ (-1 : Int64))) ||| bitS s = p ||| bitS s := by
  refine tb_ext fun k hk => ?_
  rw [tb_or, tb_and, tb_xm1 _ hk, tb_or, tb_bitS hs]
  by_cases e : k = s <;> simp [e]
/-- what a seat must do; -1: as it likes -/
def frc (H : HS) (t : Nat) (P : Int64 × Int64 × Bool) (s : Nat) : Int := if H.kind s = 0 ∨ isLeft H t (s / H.cols) = true ∨ tb P.2.1 s = true then 0 else if tb P.1 s = true ∧ t ≤ H.paid then 2 else if P.2.2 = true then 0 else -1
theorem frc_lv {H : HS} {t s own since : Nat} {P : Int64 × Int64 × Bool} {v1 v2 : Int64} (hk : H.kind s ≠ 0) : seatLv H t P v1 v2 own since s = if frc H t P s = -1 then (if t = 0 then 0 else lawLv H s v1 v2 own since) else (frc H t P s).toNat := by
  unfold seatLv frc
  by_cases h1 : isLeft H t (s / H.cols) = true
  · simp [h1]
  · by_cases h2 : tb P.2.1 s = true
    · simp [h2]
    · by_cases h3 : tb P.1 s = true ∧ t ≤ H.paid
      · simp [h1, h2, h3, hk]
      · by_cases h4 : P.2.2 = true
        · simp only [h1, h2, h3, h4, hk, or_false, true_or, if_true, if_false, Bool.false_eq_true]; simp
        · simp only [h1, h2, h3, h4, hk, or_false, false_or, if_true, if_false, Bool.false_eq_true]
theorem frc_or (H : HS) (t : Nat) (P : Int64 × Int64 × Bool) (s : Nat) : frc H t P s = -1 ∨ frc H t P s = 0 ∨ frc H t P s = 2 := by
  unfold frc
  split
  · exact Or.inr (Or.inl rfl)
  · split
    · exact Or.inr (Or.inr rfl)
    · split
      · exact Or.inr (Or.inl rfl)
      · exact Or.inl rfl
section StepX
variable {b : Mem} {x : XS} {q : Bool} {h c e t s nx : Nat} {H : HS} {C : List Cu} {k : Cu} {Q P : Int64 × Int64 × Bool} {N : NT} {ah : Int64}
theorem X_does (hb : 131 ≤ mNx b) (K : CueAt b e k) (hs : k.s < 64) (h4 : k.w ≤ 3) (hp : (x.n q).paid = Q.1) (hh : (x.n q).hiss = Q.2.1) (hst : (x.n q).isStill = b2i Q.2.2) :
    vX18_does (some e) (some (nid q)) (mkX b x) = some ((), mkX b (x.setN q ((((x.n q).s_paid (cueDo k Q).1).s_hiss (cueDo k Q).2.1).s_isStill (b2i (cueDo k Q).2.2)))) := by
  obtain ⟨⟨K1, K2⟩, K3, K4, K5⟩ := id K
  unfold vX18_does cueDo
  rcases (by omega : k.w = 3 ∨ k.w = 2 ∨ k.w = 0 ∨ k.w = 1) with w | w | w | w
  · rw [w, if_pos rfl] at K3
    rw [dtg K1 K3, if_neg (by decide), if_neg (by decide), if_neg (by decide), if_pos (by decide), div_ K1 K2 K3 (by decide), if_pos w]
    unfold fX19_does
    rw [pN_46 hb (Or.inr rfl), Option.bind_some, ← hp, ← hh]; rfl
  · rw [w, if_neg (by decide), if_pos rfl] at K3
    rw [dtg K1 K3, if_pos (by decide), div_ K1 K2 K3 (by decide), if_neg (show ¬ k.w = 3 by omega), if_neg (show ¬ k.w = 0 by omega), if_neg (show ¬ k.w = 1 by omega), ← hp, ← hh]
    have hs3 : k.w ≠ 3 := by omega
    unfold fX20_does
    simp -implicitDefEqProofs only [gX_2 hb, gX_3 hb, gX_12 hb, gX_16 hb, gX_20 hb, gX_21 hb, gX_22 hb, gX_23 hb, gX_5 hb, gX_6 hb, gX_17 hb, gX_4 hb, gX_7 hb, gK_152 hb, gK_153 hb, gK_154 hb, gN_44 hb, gN_45 hb, gN_46 hb, gN_42 hb, gN_43 hb, gN_54 hb, gN_41 hb, gN_47 hb, gX_8 hb, gX_9 hb, gX_27 hb, gX_1 hb, gX_10 hb, gX_11 hb, gX_13 hb, gX_14 hb, gX_15 hb, gX_18 hb, gX_19 hb, gX_24 hb, gX_25 hb, gX_26 hb, gN_48 hb, gN_49 hb, gN_50 hb, gN_51 hb, gN_52 hb, gN_53 hb, aX_65 hb, nX_65 hb, aX_95 hb, nX_95 hb, aX_96 hb, nX_96 hb, aX_97 hb, nX_97 hb, aX_98 hb, nX_98 hb, aX_99 hb, nX_99 hb, aX_100 hb, nX_100 hb, aX_101 hb, nX_101 hb, aX_102 hb, nX_102 hb, aX_103 hb, nX_103 hb, aX_104 hb, nX_104 hb, aX_130 hb, nX_130 hb, aN_was hb, aN_level hb, aN_wasHeld hb, aN_held hb, aN_wasWith hb, aN_wth hb, ivX hb, ivN hb, ivK hb, pX_2 hb, pX_3 hb, pX_12 hb, pX_16 hb, pX_20 hb, pX_21 hb, pX_22 hb, pX_23 hb, pX_5 hb, pX_6 hb, pX_17 hb, pX_4 hb, pX_7 hb, pK_152 hb, pK_153 hb, pK_154 hb, pN_44 hb, pN_45 hb, pN_46 hb, pN_42 hb, pN_43 hb, pN_54 hb, pN_41 hb, pN_47 hb, uX_65 hb, uX_95 hb, uX_96 hb, uX_97 hb, uX_98 hb, uX_99 hb, uX_100 hb, uX_101 hb, uX_103 hb, uX_104 hb, uX_130 hb, uN_was hb, uN_level hb, uN_wasHeld hb, uN_held hb, uN_wasWith hb, uN_wth hb, Option.bind_some, bd_some, setN_n, setN_setN, setN_taped, setN_fault, setN_bought, setN_worthMany, setN_beganFirst, setN_beganSecond, setN_seed, setN_arranged, setN_paid, setN_hiss, setN_orders, setN_house, setN_cues, setN_tape, setN_states, setN_asked, setN_carriesSet, setN_heights, setN_worth, setN_mouths, setN_sided, setN_keptHouse, setN_keptPaid, setN_keptHiss, setN_kMod, setN_kData, setN_kSize, setN_out, NX.s_now, NX.s_next, NX.s_isStill, NX.s_paid, NX.s_hiss, NX.s_ahead, NX.s_h, NX.s_cues, NX.s_sw, NX.s_was, NX.s_level, NX.s_wasHeld, NX.s_held, NX.s_wasWith, NX.s_wth, mk_XS_taped, mk_XS_fault, mk_XS_bought, mk_XS_worthMany, mk_XS_beganFirst, mk_XS_beganSecond, mk_XS_seed, mk_XS_arranged, mk_XS_paid, mk_XS_hiss, mk_XS_orders, mk_XS_house, mk_XS_cues, mk_XS_tape, mk_XS_states, mk_XS_asked, mk_XS_carriesSet, mk_XS_heights, mk_XS_worth, mk_XS_mouths, mk_XS_sided, mk_XS_keptHouse, mk_XS_keptPaid, mk_XS_keptHiss, mk_XS_kMod, mk_XS_kData, mk_XS_kSize, mk_XS_out, mk_XS_n0, mk_XS_n1, mk_NX_now, mk_NX_next, mk_NX_isStill, mk_NX_paid, mk_NX_hiss, mk_NX_ahead, mk_NX_h, mk_NX_cues, mk_NX_sw, mk_NX_was, mk_NX_level, mk_NX_wasHeld, mk_NX_held, mk_NX_wasWith, mk_NX_wth, mk_NT_paid, mk_NT_hiss, mk_NT_c1, mk_NT_c2, mk_NT_lo, mk_NT_hi, mk_NT_next, mk_Ac_a1, mk_Ac_a2, mk_Ac_l, mk_Ac_h, cu_s K hs3]
    rw [← hst]; rfl
  · rw [w, if_neg (by decide), if_neg (by decide), if_pos rfl] at K3
    rw [dtg K1 K3, if_neg (by decide), if_neg (by decide), if_pos (by decide), div_ K1 K2 K3 (by decide), if_neg (show ¬ k.w = 3 by omega), if_pos w, if_neg (show ¬ k.w = 1 by omega), ← hp, ← hh]
    have hs3 : k.w ≠ 3 := by omega
    unfold fX21_does fX20_does fX20_seat
    simp -implicitDefEqProofs only [gX_2 hb, gX_3 hb, gX_12 hb, gX_16 hb, gX_20 hb, gX_21 hb, gX_22 hb, gX_23 hb, gX_5 hb, gX_6 hb, gX_17 hb, gX_4 hb, gX_7 hb, gK_152 hb, gK_153 hb, gK_154 hb, gN_44 hb, gN_45 hb, gN_46 hb, gN_42 hb, gN_43 hb, gN_54 hb, gN_41 hb, gN_47 hb, gX_8 hb, gX_9 hb, gX_27 hb, gX_1 hb, gX_10 hb, gX_11 hb, gX_13 hb, gX_14 hb, gX_15 hb, gX_18 hb, gX_19 hb, gX_24 hb, gX_25 hb, gX_26 hb, gN_48 hb, gN_49 hb, gN_50 hb, gN_51 hb, gN_52 hb, gN_53 hb, aX_65 hb, nX_65 hb, aX_95 hb, nX_95 hb, aX_96 hb, nX_96 hb, aX_97 hb, nX_97 hb, aX_98 hb, nX_98 hb, aX_99 hb, nX_99 hb, aX_100 hb, nX_100 hb, aX_101 hb, nX_101 hb, aX_102 hb, nX_102 hb, aX_103 hb, nX_103 hb, aX_104 hb, nX_104 hb, aX_130 hb, nX_130 hb, aN_was hb, aN_level hb, aN_wasHeld hb, aN_held hb, aN_wasWith hb, aN_wth hb, ivX hb, ivN hb, ivK hb, pX_2 hb, pX_3 hb, pX_12 hb, pX_16 hb, pX_20 hb, pX_21 hb, pX_22 hb, pX_23 hb, pX_5 hb, pX_6 hb, pX_17 hb, pX_4 hb, pX_7 hb, pK_152 hb, pK_153 hb, pK_154 hb, pN_44 hb, pN_45 hb, pN_46 hb, pN_42 hb, pN_43 hb, pN_54 hb, pN_41 hb, pN_47 hb, uX_65 hb, uX_95 hb, uX_96 hb, uX_97 hb, uX_98 hb, uX_99 hb, uX_100 hb, uX_101 hb, uX_103 hb, uX_104 hb, uX_130 hb, uN_was hb, uN_level hb, uN_wasHeld hb, uN_held hb, uN_wasWith hb, uN_wth hb, Option.bind_some, bd_some, setN_n, setN_setN, setN_taped, setN_fault, setN_bought, setN_worthMany, setN_beganFirst, setN_beganSecond, setN_seed, setN_arranged, setN_paid, setN_hiss, setN_orders, setN_house, setN_cues, setN_tape, setN_states, setN_asked, setN_carriesSet, setN_heights, setN_worth, setN_mouths, setN_sided, setN_keptHouse, setN_keptPaid, setN_keptHiss, setN_kMod, setN_kData, setN_kSize, setN_out, NX.s_now, NX.s_next, NX.s_isStill, NX.s_paid, NX.s_hiss, NX.s_ahead, NX.s_h, NX.s_cues, NX.s_sw, NX.s_was, NX.s_level, NX.s_wasHeld, NX.s_held, NX.s_wasWith, NX.s_wth, mk_XS_taped, mk_XS_fault, mk_XS_bought, mk_XS_worthMany, mk_XS_beganFirst, mk_XS_beganSecond, mk_XS_seed, mk_XS_arranged, mk_XS_paid, mk_XS_hiss, mk_XS_orders, mk_XS_house, mk_XS_cues, mk_XS_tape, mk_XS_states, mk_XS_asked, mk_XS_carriesSet, mk_XS_heights, mk_XS_worth, mk_XS_mouths, mk_XS_sided, mk_XS_keptHouse, mk_XS_keptPaid, mk_XS_keptHiss, mk_XS_kMod, mk_XS_kData, mk_XS_kSize, mk_XS_out, mk_XS_n0, mk_XS_n1, mk_NX_now, mk_NX_next, mk_NX_isStill, mk_NX_paid, mk_NX_hiss, mk_NX_ahead, mk_NX_h, mk_NX_cues, mk_NX_sw, mk_NX_was, mk_NX_level, mk_NX_wasHeld, mk_NX_held, mk_NX_wasWith, mk_NX_wth, mk_NT_paid, mk_NT_hiss, mk_NT_c1, mk_NT_c2, mk_NT_lo, mk_NT_hi, mk_NT_next, mk_Ac_a1, mk_Ac_a2, mk_Ac_l, mk_Ac_h, cu_s K hs3, div_ K1 K2 K3 (show [16].contains 16 = true by decide)]
    rw [← hst, show shlL (1 : Int64) (n2 k.s) = bitS k.s from rfl, clr_set _ hs]; rfl
  · rw [w, if_neg (by decide), if_neg (by decide), if_neg (by decide)] at K3
    rw [dtg K1 K3, if_neg (by decide), if_pos (by decide), div_ K1 K2 K3 (by decide), if_neg (show ¬ k.w = 3 by omega), if_neg (show ¬ k.w = 0 by omega), if_pos w, ← hp, ← hh]
    have hs3 : k.w ≠ 3 := by omega
    unfold fX22_does fX20_does fX20_seat
    simp -implicitDefEqProofs only [gX_2 hb, gX_3 hb, gX_12 hb, gX_16 hb, gX_20 hb, gX_21 hb, gX_22 hb, gX_23 hb, gX_5 hb, gX_6 hb, gX_17 hb, gX_4 hb, gX_7 hb, gK_152 hb, gK_153 hb, gK_154 hb, gN_44 hb, gN_45 hb, gN_46 hb, gN_42 hb, gN_43 hb, gN_54 hb, gN_41 hb, gN_47 hb, gX_8 hb, gX_9 hb, gX_27 hb, gX_1 hb, gX_10 hb, gX_11 hb, gX_13 hb, gX_14 hb, gX_15 hb, gX_18 hb, gX_19 hb, gX_24 hb, gX_25 hb, gX_26 hb, gN_48 hb, gN_49 hb, gN_50 hb, gN_51 hb, gN_52 hb, gN_53 hb, aX_65 hb, nX_65 hb, aX_95 hb, nX_95 hb, aX_96 hb, nX_96 hb, aX_97 hb, nX_97 hb, aX_98 hb, nX_98 hb, aX_99 hb, nX_99 hb, aX_100 hb, nX_100 hb, aX_101 hb, nX_101 hb, aX_102 hb, nX_102 hb, aX_103 hb, nX_103 hb, aX_104 hb, nX_104 hb, aX_130 hb, nX_130 hb, aN_was hb, aN_level hb, aN_wasHeld hb, aN_held hb, aN_wasWith hb, aN_wth hb, ivX hb, ivN hb, ivK hb, pX_2 hb, pX_3 hb, pX_12 hb, pX_16 hb, pX_20 hb, pX_21 hb, pX_22 hb, pX_23 hb, pX_5 hb, pX_6 hb, pX_17 hb, pX_4 hb, pX_7 hb, pK_152 hb, pK_153 hb, pK_154 hb, pN_44 hb, pN_45 hb, pN_46 hb, pN_42 hb, pN_43 hb, pN_54 hb, pN_41 hb, pN_47 hb, uX_65 hb, uX_95 hb, uX_96 hb, uX_97 hb, uX_98 hb, uX_99 hb, uX_100 hb, uX_101 hb, uX_103 hb, uX_104 hb, uX_130 hb, uN_was hb, uN_level hb, uN_wasHeld hb, uN_held hb, uN_wasWith hb, uN_wth hb, Option.bind_some, bd_some, setN_n, setN_setN, setN_taped, setN_fault, setN_bought, setN_worthMany, setN_beganFirst, setN_beganSecond, setN_seed, setN_arranged, setN_paid, setN_hiss, setN_orders, setN_house, setN_cues, setN_tape, setN_states, setN_asked, setN_carriesSet, setN_heights, setN_worth, setN_mouths, setN_sided, setN_keptHouse, setN_keptPaid, setN_keptHiss, setN_kMod, setN_kData, setN_kSize, setN_out, NX.s_now, NX.s_next, NX.s_isStill, NX.s_paid, NX.s_hiss, NX.s_ahead, NX.s_h, NX.s_cues, NX.s_sw, NX.s_was, NX.s_level, NX.s_wasHeld, NX.s_held, NX.s_wasWith, NX.s_wth, mk_XS_taped, mk_XS_fault, mk_XS_bought, mk_XS_worthMany, mk_XS_beganFirst, mk_XS_beganSecond, mk_XS_seed, mk_XS_arranged, mk_XS_paid, mk_XS_hiss, mk_XS_orders, mk_XS_house, mk_XS_cues, mk_XS_tape, mk_XS_states, mk_XS_asked, mk_XS_carriesSet, mk_XS_heights, mk_XS_worth, mk_XS_mouths, mk_XS_sided, mk_XS_keptHouse, mk_XS_keptPaid, mk_XS_keptHiss, mk_XS_kMod, mk_XS_kData, mk_XS_kSize, mk_XS_out, mk_XS_n0, mk_XS_n1, mk_NX_now, mk_NX_next, mk_NX_isStill, mk_NX_paid, mk_NX_hiss, mk_NX_ahead, mk_NX_h, mk_NX_cues, mk_NX_sw, mk_NX_was, mk_NX_level, mk_NX_wasHeld, mk_NX_held, mk_NX_wasWith, mk_NX_wth, mk_NT_paid, mk_NT_hiss, mk_NT_c1, mk_NT_c2, mk_NT_lo, mk_NT_hi, mk_NT_next, mk_Ac_a1, mk_Ac_a2, mk_Ac_l, mk_Ac_h, cu_s K hs3, div_ K1 K2 K3 (show [17].contains 17 = true by decide)]
    rw [← hst, show shlL (1 : Int64) (n2 k.s) = bitS k.s from rfl, clr_set _ hs]; rfl
theorem X_cues (hb : 131 ≤ mNx b) (XC : XCues b c C) : ∀ (k f i : Nat) (x : XS) (Q : Int64 × Int64 × Bool), i + k = C.length → k < f → (x.n q).cues = some c → (x.n q).now = n2 t → t ≤ 600 → (x.n q).paid = Q.1 → (x.n q).hiss = Q.2.1 → (x.n q).isStill = b2i Q.2.2 → (x.n q).next = n2 i →
    bX3_cue_5 f (some (nid q)) (mkX b x) = some ((), mkX b (x.setN q ((x.n q).cu (cueRun t (C.drop i) Q).2 (i + (cueRun t (C.drop i) Q).1)))) := by
  intro k
  induction k with
  | zero =>
    intro f i x Q hi hf hc hn ht hp hh hst hx
    obtain ⟨f, rfl⟩ : ∃ g, f = g + 1 := ⟨f - 1, by omega⟩
    have hi2 : i = C.length := by omega
    have h30 := XC.len
    show bX3_cue_5B _ _ _ = _
    unfold bX3_cue_5B
    rw [gN_45 hb, Option.bind_some, gN_47 hb, Option.bind_some, hc, xc_iv XC, xc_size XC, bd_some, hx, if_pos (by rw [n2_le (by omega) (by omega)]; omega), hi2, List.drop_length]
    simp only [cueRun, Nat.add_zero]
    rw [← hi2]
    unfold NX.cu
    rw [← hp, ← hh, ← hst, ← hx]
    show _ = some ((), mkX b (x.setN q (x.n q)))
    rw [setN_self]
  | succ k ih =>
    intro f i x Q hi hf hc hn ht hp hh hst hx
    obtain ⟨f, rfl⟩ : ∃ g, f = g + 1 := ⟨f - 1, by omega⟩
    have h30 := XC.len
    have il : i < C.length := by omega
    obtain ⟨ct, cw, cs⟩ := XC.ok i il
    obtain ⟨e, e1, e2⟩ := xc_get (x := x) XC il
    rw [List.drop_eq_getElem_cons il]
    simp only [cueRun]
    show bX3_cue_5B (bX3_cue_5 f) _ _ = _
    unfold bX3_cue_5B
    have hle : (n2 C.length ≤ n2 i) = False := by rw [n2_le (by omega) (by omega)]; exact eq_false (by omega)
    simp -implicitDefEqProofs only [Option.bind_some, bd_some, gN_45 hb, gN_47 hb, gN_44 hb, pN_45 hb, hc, xc_iv XC, xc_size XC, hx, hle, if_false, e1, cu_ck e2, cu_t e2, hn, X_does hb e2 cs cw hp hh hst]
    by_cases hct : C[i].t = t
    · rw [if_neg (by rw [hct]; exact fun h => h rfl), if_pos hct]
      have I := ih f (i + 1) (x.setN q ((x.n q).cu (cueDo C[i] Q) (i + 1))) (cueDo C[i] Q) (by omega) (by omega) (by rw [setN_n]; exact hc) (by rw [setN_n]; exact hn) ht (by rw [setN_n]; rfl) (by rw [setN_n]; rfl) (by rw [setN_n]; rfl) (by rw [setN_n]; rfl)
      rw [setN_n, setN_setN, cu_cu] at I
      rw [show i + ((cueRun t (C.drop (i + 1)) (cueDo C[i] Q)).1 + 1) = i + 1 + (cueRun t (C.drop (i + 1)) (cueDo C[i] Q)).1 by omega]
      refine Eq.trans ?_ I
      rw [setN_n, setN_setN]
      unfold NX.cu
      refine congrArg (fun z => bX3_cue_5 f (some (nid q)) (mkX b (x.setN q z))) ?_
      show NX.s_next _ ((x.n q).next + 1) = _
      rw [hx, show n2 i + (1 : Int32) = n2 (i + 1) from n2_add i 1]
    · rw [if_pos (by rw [n2_eq (by omega) (by omega)]; exact hct), if_neg hct]
      show _ = some ((), mkX b (x.setN q ((x.n q).cu Q (i + 0))))
      unfold NX.cu
      rw [Nat.add_zero, ← hp, ← hh, ← hst, ← hx]
      show _ = some ((), mkX b (x.setN q (x.n q)))
      rw [setN_self]
theorem X_cue (hb : 131 ≤ mNx b) (XC : XCues b c C) (hc : (x.n q).cues = some c) (hn : (x.n q).now = n2 t) (ht : t ≤ 600) (hi : nx ≤ C.length) (hx : (x.n q).next = n2 nx) (hp : (x.n q).paid = N.paid) (hh : (x.n q).hiss = N.hiss) (hnx : N.next = nx) :
    fX3_cue (some (nid q)) (mkX b x) = some ((), mkX b (x.setN q ((x.n q).cu (cuesAt C t N).2 (N.next + (cuesAt C t N).1)))) := by
  subst hnx
  unfold fX3_cue cuesAt
  rw [pN_46 hb (Or.inl rfl), Option.bind_some]
  have h30 := XC.len
  have I := X_cues hb (q := q) (t := t) XC (C.length - N.next) hcFuel N.next (x.setN q ((x.n q).s_isStill 0)) (N.paid, N.hiss, false) (by omega) (by unfold hcFuel; omega) (by rw [setN_n]; exact hc) (by rw [setN_n]; exact hn) ht (by rw [setN_n]; exact hp) (by rw [setN_n]; exact hh) (by rw [setN_n]; rfl) (by rw [setN_n]; exact hx)
  rw [setN_n, setN_setN] at I
  exact I
theorem X_forced (hb : 131 ≤ mNx b) (X : XHouse b h H) (ok : H.Ok) (hs : s < H.size) (hh : (x.n q).h = some h) (hn : (x.n q).now = n2 t) (ht : t ≤ 600) (hp : (x.n q).paid = P.1) (hi : (x.n q).hiss = P.2.1) (hst : (x.n q).isStill = b2i P.2.2) :
    fX3_forced (some (nid q)) (n2 s) (mkX b x) = some (i2 (frc H t P s), mkX b x) := by
  have h64 := ok.size
  have hr := row_lt hs
  have hr8 := ok.rows
  have hlv := ok.leaves (s / H.cols)
  have hpd := ok.paid
  have hk6 := ok.kind s
  unfold fX3_forced bX3_forced_44 bX3_forced_86
  simp -implicitDefEqProofs only [Option.bind_some, bd_some, gN_43 hb, gN_42 hb, gN_44 hb, gN_46 hb, gN_41 hb, hi, hp, hn, hh, hst, X_has _ (show s < 64 by omega), b2i_0, xh_36 X, xh_iv X, xh_row X ok hs, xh_leaves X (show s / H.cols < 8 by omega), xh_34 X, xh_kind X hs h64, xh_31 X, kindX_9 hk6, li_m1]
  have c1 : (i2 ((H.leaves (s / H.cols) : Int) - 1) = i2 (-1)) = (H.leaves (s / H.cols) = 0) := by rw [ii_eq (by omega) (by omega) (by omega) (by omega)]; exact propext (by omega)
  have c2 : (i2 ((H.leaves (s / H.cols) : Int) - 1) ≤ n2 t) = (H.leaves (s / H.cols) ≤ t + 1) := by rw [in_le (by omega) (by omega) (by omega)]; exact propext (by omega)
  have c3 : (n2 H.paid < n2 t) = ¬ (t ≤ H.paid) := by rw [n2_lt (by omega) (by omega)]; exact propext (by omega)
  simp only [c1, c2, c3]
  unfold frc isLeft
  generalize H.leaves (s / H.cols) = lv
  by_cases h1 : H.kind s = 0
  · simp only [h1, if_true, true_or]; rfl
  · simp only [h1, if_false, false_or]
    by_cases h2 : lv = 0
    · simp only [h2, if_true, ne_eq, not_true_eq_false, decide_false, Bool.false_and, Bool.false_eq_true, false_or]
      cases tb P.2.1 s
      · simp only [if_true, Bool.false_eq_true, if_false]
        cases tb P.1 s
        · simp only [if_true, Bool.false_eq_true, if_false, false_and]
          cases P.2.2 <;> rfl
        · simp only [Bool.true_eq_false, if_false, true_and]
          by_cases h3 : t ≤ H.paid
          · simp only [h3, not_true_eq_false, if_false, if_true]; rfl
          · simp only [h3, not_false_eq_true, if_false, if_true]
            cases P.2.2 <;> rfl
      · simp only [Bool.true_eq_false, if_false, if_true]; rfl
    · simp only [h2, if_false, ne_eq, not_false_eq_true, decide_true, Bool.true_and, decide_eq_true_eq]
      by_cases h3 : lv ≤ t + 1
      · simp only [h3, if_true, true_or]; rfl
      · simp only [h3, if_false, false_or]
        cases tb P.2.1 s
        · simp only [if_true, Bool.false_eq_true, if_false]
          cases tb P.1 s
          · simp only [if_true, Bool.false_eq_true, if_false, false_and]
            cases P.2.2 <;> rfl
          · simp only [Bool.true_eq_false, if_false, true_and]
            by_cases h3 : t ≤ H.paid
            · simp only [h3, not_true_eq_false, if_false, if_true]; rfl
            · simp only [h3, not_false_eq_true, if_false, if_true]
              cases P.2.2 <;> rfl
        · simp only [Bool.true_eq_false, if_false, if_true]; rfl
theorem X_likes (hb : 131 ≤ mNx b) {own since : Nat} (X : XHouse b h H) (ok : H.Ok) (hs : s < H.size) (hh : (x.n q).h = some h) (hk : H.kind s ≠ 0) (hw : (x.n q).was s = n2 own) (hwh : (x.n q).wasHeld s = n2 since) (ho : own ≤ 2) :
    fX3_likes (some (nid q)) (n2 s) (mkX b x) = some (n2 (lawLv H s (vw (x.n q) 1) (vw (x.n q) 2) own since), mkX b x) := by
  have h64 := ok.size
  have hk6 := ok.kind s
  have hs64 : s < 64 := by omega
  have was : aI (mkX b x) (some (nid q + (if (x.n q).sw then 2 else 1))) (n2 s) = some (n2 own) := by rw [aN_was hb, ifx_k hs64 (by omega), n2_nat (by omega), hw]
  -- one law
  have law : ∀ (w : Nat) (f : Nat), (w = 0 ∧ f = h + 4) ∨ (w = 1 ∧ f = h + 5) → (mA b f (H.kind s - 1) = none ∧ onLaw H w s (vw (x.n q) 1) (vw (x.n q) 2) own since = false) ∨
      (∃ a, mA b f (H.kind s - 1) = some a ∧ vX8_holds 60 (some a) (some (nid q)) (n2 s) (mkX b x) = some (b2i (onLaw H w s (vw (x.n q) 1) (vw (x.n q) 2) own since), mkX b x)) := by
    intro w f hw2
    unfold onLaw
    cases hl : H.law (H.kind s - 1) w with
    | none =>
      refine Or.inl ⟨?_, rfl⟩
      rcases hw2 with ⟨rfl, rfl⟩ | ⟨rfl, rfl⟩
      · exact X.up0 _ (by omega) hl
      · exact X.down0 _ (by omega) hl
    | some co =>
      obtain ⟨cd, o⟩ := co
      obtain ⟨a, a1, a2⟩ : ∃ a, mA b f (H.kind s - 1) = some a ∧ CondAt b cd a := by
        rcases hw2 with ⟨rfl, rfl⟩ | ⟨rfl, rfl⟩
        · exact (X.up _ _ _ (by omega) hl).2
        · exact (X.down _ _ _ (by omega) hl).2
      refine Or.inr ⟨a, a1, ?_⟩
      have d := (ok.dep _ _ _ _ hl).1
      have r := X_holds hb X hh hs h64 cd a 60 a2 (by omega)
      rw [hw, hwh] at r
      exact r
  have l0 := law 0 (h + 4) (Or.inl ⟨rfl, rfl⟩)
  have l1 := law 1 (h + 5) (Or.inr ⟨rfl, rfl⟩)
  have tail : ∀ v3, mA b (h + 5) (H.kind s - 1) = v3 → bX3_likes_62 (some (nid q)) (n2 s) v3 (mkX b x) = some (n2 (if onLaw H 1 s (vw (x.n q) 1) (vw (x.n q) 2) own since = true then own - 1 else own), mkX b x) := by
    intro v3 hv3
    unfold bX3_likes_62 bX3_likes_90
    rw [gN_48 hb]
    simp only [Option.bind_some, was]
    rcases l1 with ⟨e1, e2⟩ | ⟨a, e1, e2⟩
    · rw [← hv3, e1, if_pos rfl, e2]; rfl
    · rw [← hv3, e1, if_neg (by simp), e2, bd_some]
      rw [gN_48 hb]
      simp only [Option.bind_some, was]
      cases onLaw H 1 s (vw (x.n q) 1) (vw (x.n q) 2) own since
      · rfl
      · rw [if_neg (by decide), if_pos rfl]
        unfold mmaxI
        by_cases h0 : own = 0
        · subst h0; rfl
        · rw [show (1 : Int32) = n2 1 from rfl, n2_sub (by omega)]
          by_cases h1 : own = 1
          · subst h1; rfl
          · have : own = 2 := by omega
            subst this; rfl
  unfold fX3_likes
  simp -implicitDefEqProofs only [Option.bind_some, bd_some, gN_41 hb, hh, xh_37 X, xh_34 X, xh_kind X hs h64, kindX_pos hk, xh_up X (show H.kind s - 1 < 6 by omega), xh_38 X, xh_down X (show H.kind s - 1 < 6 by omega)]
  unfold lawLv
  rcases l0 with ⟨e1, e2⟩ | ⟨a, e1, e2⟩
  · rw [e1, if_pos rfl, tail _ rfl, e2]; rfl
  · rw [e1, if_neg (by simp), e2, bd_some]
    cases onLaw H 0 s (vw (x.n q) 1) (vw (x.n q) 2) own since
    · rw [if_pos (by decide), tail _ rfl]; rfl
    · rw [if_neg (by decide), if_pos rfl, gN_48 hb, Option.bind_some, was, Option.bind_some]
      unfold mminI
      rcases (by omega : own = 0 ∨ own = 1 ∨ own = 2) with r | r | r <;> subst r <;> rfl
end StepX
