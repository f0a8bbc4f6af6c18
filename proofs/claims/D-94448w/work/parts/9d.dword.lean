set_option linter.unusedVariables false
set_option linter.unusedSimpArgs false
set_option maxRecDepth 100000
theorem bd_k {α β γ : Type} {A : Option (α × Mem)} {I : α → Mem → Option (γ × Mem)} {X : α} {S : Mem} (h : (bd A fun x st => bd (I x st) fun _ st => some (x, st)) = some (X, S)) (K : α → Mem → Option β) : (bd A fun x st => bd (I x st) fun _ st => K x st) = K X S := by
  cases A with
  | none => exact absurd h (by intro e; cases e)
  | some a =>
    obtain ⟨a, sa⟩ := a
    change bd (I a sa) (fun _ st => some (a, st)) = some (X, S) at h
    show bd (I a sa) (fun _ st => K a st) = K X S
    cases hI : I a sa with
    | none => rw [hI] at h; exact absurd h (by intro e; cases e)
    | some g =>
      obtain ⟨g, sg⟩ := g
      rw [hI] at h
      have h' : some (a, sg) = some (X, S) := h
      cases h'
      rfl
section DWord
variable {B b' : Mem} {c : Cl} {T : List Cl} {tp : Nat → Int32} {to most z n s p q k : Nat} {m : MS} {r : MR}
theorem D_word (R : RdX B c tp to most) (hq : q < to) (h127 : c.i 127 = n2 q) (h129 : c.i 129 = n2 q) (hm : m.tape = tp) (hz : r.size = n2 to) (hp : r.p = n2 q) (hpl : r.place = n2 q) (hsp : r.span = n2 0) (h : isLtN (octN (tp q)) = true ∨ isDgN (octN (tp q)) = true) :
    TokR B c T z q m r tp to b' n s (bX5_go_168 (some (mNx B)) (n2 (octN (tp q))) (ovs B (c :: T) z)) (bX4_next_164 (some 106) (n2 (octN (tp q))) (mkM b' n s (m.sR r))) := by
  have h940 := R.to_
  have hB : 64 ≤ mNx B := by have := R.hB; omega
  have ol := oct_lt (tp q)
  have c0 : c.sI 130 0 = c.wq 0 (q + 0) := (sI_same (c.sI 130 0) 127 (n2 (q + 0)) ((i_ne c (f := 130) (k := 127) 0 (by decide)).trans h127)).symm
  have r0 : (r.sW 0).sNum 0 = r.wq (q + 0) 0 0 0 := by
    simp -implicitDefEqProofs only [MR.sW, MR.sNum, MR.wq, mk_MR_size, mk_MR_p, mk_MR_limit, mk_MR_token, mk_MR_place, mk_MR_span, mk_MR_number, mk_MR_fault, mk_MR_faultAt, mk_MR_word, mk_MR_got, hp, hsp, Nat.add_zero]
  obtain ⟨vb, hvb⟩ : ∃ vb, isLtN (octN (tp q)) = vb := ⟨_, rfl⟩
  have W0 : WI (fun i => octN (tp (q + i))) vb 0 0 (fun _ => 0) 1 := ⟨fun i hi => absurd hi (Nat.not_lt_zero i), fun i hi => absurd hi (Nat.not_lt_zero i), rfl, Or.inr ⟨rfl, fun i hi => absurd hi (Nat.not_lt_zero i)⟩⟩
  obtain ⟨k', num', w', g', fl', j1, j2, ⟨W, N⟩, j4, j5, j6⟩ := L_wd (b' := b') (n := n) (s := s) (T := T) (z := z + 20) (vb := vb) R h129 hm hz (to - q) hcFuel hcFuel 0 0 0 (fun _ => 0) 1 (by omega) (by unfold hcFuel; omega) (by unfold hcFuel; omega) W0 (fun _ => ⟨0, by decide, rfl⟩)
  have k1 : 1 ≤ k' := by
    by_cases e : k' = 0
    · subst e
      obtain ⟨a1, a2⟩ := j4 (by omega)
      rw [Nat.add_zero] at a1 a2
      rcases h with h | h
      · rw [a1] at h; exact absurd h (by decide)
      · rw [a2] at h; exact absurd h (by decide)
    · omega
  have X1 : bX5_go_168 (some (mNx B)) (n2 (octN (tp q))) (ovs B (c :: T) z) = bX5_go_189 1 (some (mNx B)) (b2i vb) fl' (some (mNx B + (T.length + 1 + 0))) (wSt B c T (z + 20) num' (q + k') k' g') := by
    rw [← j5]
    have p1 : pI (ovs B (c :: T) z) (some (mNx B)) 130 0 = some (ovs B (c.sI 130 0 :: T) z) := rd_put hB R.t rfl
    have sb := X_sbInit (B := B) (P := c.sI 130 0 :: T) (z := z) hB
    unfold bX5_go_168
    rw [X_isLt ol, bd_some, p1, Option.bind_some, hvb]
    refine (bd_k sb (fun x180 st => bX5_go_189 hcFuel (some (mNx B)) (b2i vb) 1 x180 st)).trans ?_
    rw [c0]; rfl
  have M1 : bX4_next_164 (some 106) (n2 (octN (tp q))) (mkM b' n s (m.sR r)) = bX4_next_181 1 (some 106) (b2i vb) fl' (mkM b' n s (m.sR (r.wq (q + k') k' num' w'))) := by
    rw [← j6]
    unfold bX4_next_164
    rw [M_isLt ol, bd_some, pR_70, Option.bind_some, pR_67, Option.bind_some, r0, hvb]
  rw [X1, M1]
  clear X1 M1 j5 j6 c0 r0 W0
  -- the end of the word
  obtain ⟨cb, hcb, l1, l2, B2⟩ : ∃ cb, cb < 256 ∧ isLtN cb = false ∧ isDgN cb = false ∧ fX5_byteAt (some (mNx B)) (n2 (q + k')) (wSt B c T (z + 20) num' (q + k') k' g') = some (n2 cb, wSt B c T (z + 20) num' (q + k') k' g') := by
    have rb := X_rb (c := c.wq num' (q + k')) (T := T ++ [sbC (mNx B + (T.length + 1 + 1)) (min k' 8), byC g']) (z := z + 20) (R.wq) (show q + k' ≤ 940 by omega)
    by_cases hl : q + k' < to
    · rw [if_pos hl] at rb
      exact ⟨octN (tp (q + k')), oct_lt _, (j4 hl).1, (j4 hl).2, rb⟩
    · rw [if_neg hl] at rb
      exact ⟨0, by decide, by decide, by decide, rb⟩
  have G : gI (wSt B c T (z + 20) num' (q + k') k' g') (some (mNx B)) 127 = some (n2 (q + k')) := (rd_get (c := c.wq num' (q + k')) R.t rfl).trans (congrArg some wq_i127)
  have I2 : ∀ {α : Type} (o : Option α), iv (wSt B c T (z + 20) num' (q + k') k' g') (some (mNx B)) [5, 13] o = o := fun o => rd_iv (c := c.wq num' (q + k')) R.t rfl
  have IS : ∀ {α : Type} (o : Option α), iv (wSt B c T (z + 20) num' (q + k') k' g') (some (mNx B + (T.length + 1 + 0))) [20] o = o := fun o => q_iv (B := B) (P := c.wq num' (q + k') :: T) (R := [sbC (mNx B + (T.length + 1 + 1)) (min k' 8), byC g']) (j := 0) rfl rfl
  have hg : ∀ i, i < min k' 8 → ∃ c, c < 128 ∧ g' i = n2 c := fun i hi => ⟨octN (tp (q + i)), ld_lt (W.hch i (by omega)), W.hg i (by omega) (by omega)⟩
  generalize hT2 : T ++ [sbC (mNx B + (T.length + 1 + 1)) (min k' 8), byC g', stC (mNx B + (T.length + 1 + 3)), daC (min k' 8) g'] = T2
  have TS : fJ11_toString (some (mNx B + (T.length + 1 + 0))) (wSt B c T (z + 20) num' (q + k') k' g') = some (some (mNx B + (T.length + 1 + 2)), ovs B (c.wq num' (q + k') :: T2) (z + 20 + 4 + min k' 8)) := by
    rw [← hT2]
    exact X_sbStr (B := B) (P := c.wq num' (q + k') :: T) (k := min k' 8) (g := g') (z := z + 20) hB (by omega) hg
  have W132 : pA (ovs B (c.wq num' (q + k') :: T2) (z + 20 + 4 + min k' 8)) (some (mNx B)) 132 (some (mNx B + (T.length + 1 + 2))) = some (ovs B ((c.wq num' (q + k')).sA 132 (some (mNx B + (T.length + 1 + 2))) :: T2) (z + 20 + 4 + min k' 8)) := rd_w132 (c := c.wq num' (q + k')) hB R.t
  have st : StrT (mNx B) T2 (T.length + 2) (min k' 8) (fun i => octN (tp (q + i))) := by
    refine ⟨T.length + 3, ?_, ?_, ?_⟩
    · rw [← hT2, List.length_append]; simp -implicitDefEqProofs only [List.length_cons, List.length_nil]; omega
    · rw [← hT2, List.length_append]; simp -implicitDefEqProofs only [List.length_cons, List.length_nil]; omega
    · rw [← hT2, clD_apR, clD_apR]
      refine ⟨rfl, rfl, ?_, rfl, rfl, fun i hi => ?_⟩
      · show some (mNx B + (T.length + 1 + 3)) = some (mNx B + (1 + (T.length + 3)))
        rw [show T.length + 1 + 3 = 1 + (T.length + 3) by omega]
      · show va_cpy g' (fun _ => 0) 0 0 (min k' 8) i = _
        rw [cp_at hi, W.hg i (by omega) (by omega)]
  have len2 : T2.length = T.length + 4 := by rw [← hT2, List.length_append]; rfl
  generalize hc2 : (c.wq num' (q + k')).sA 132 (some (mNx B + (T.length + 1 + 2))) = c2 at *
  have t2 : rdT c2.t = true := by rw [← hc2]; exact R.t
  have c2_127 : c2.i 127 = n2 (q + k') := by rw [← hc2]; show (c.wq num' (q + k')).i 127 = _; exact wq_i127
  have c2_129 : c2.i 129 = n2 q := by rw [← hc2]; show (c.wq num' (q + k')).i 129 = _; exact wq_i129.trans h129
  have c2_130 : c2.i 130 = num' := by rw [← hc2]; show (c.wq num' (q + k')).i 130 = _; exact wq_i130
  have c2_132 : c2.a 132 = some (mNx B + (1 + (T.length + 2))) := by
    rw [← hc2]
    show upq (c.wq num' (q + k')).a 132 (some (mNx B + (T.length + 1 + 2))) 132 = _
    rw [upq_self, show T.length + 1 + 2 = 1 + (T.length + 2) by omega]
  have kp2 : Kp c c2 := by rw [← hc2]; exact (((Kp.refl c).sI (by omega) _).sI (by omega) _).sA _
  have P128 : ∀ v, pI (ovs B (c2 :: T2) (z + 20 + 4 + min k' 8)) (some (mNx B)) 128 v = some (ovs B (c2.sI 128 v :: T2) (z + 20 + 4 + min k' 8)) := fun v => rd_put hB t2 rfl
  have G127 : gI (ovs B (c2 :: T2) (z + 20 + 4 + min k' 8)) (some (mNx B)) 127 = some (n2 (q + k')) := (rd_get t2 rfl).trans (congrArg some c2_127)
  have G129 : gI (ovs B (c2 :: T2) (z + 20 + 4 + min k' 8)) (some (mNx B)) 129 = some (n2 q) := (rd_get t2 rfl).trans (congrArg some c2_129)
  have e8 : n2 (q + k') - n2 q = n2 k' := by rw [n2_sub (by omega), Nat.add_sub_cancel_left]
  have fin : ∀ (v1 v2 : Int32), (((v1 = 1 ∨ v1 = 5) ∧ v2 = 4) ∨ (v1 = 2 ∧ v2 = 1 ∧ k' ≤ 8 ∧ ∀ i, i < k' → isLtN (octN (tp (q + i))) = true) ∨ (v1 = 3 ∧ v2 = 2 ∧ k' ≤ 3 ∧ ∀ i, i < k' → isLtN (octN (tp (q + i))) = false)) → TokR B c T z q m r tp to b' n s (some ((), ovs B (c2.sI 128 v1 :: T2) (z + 20 + 4 + min k' 8))) (some ((), mkM b' n s (m.sR ((r.wq (q + k') k' num' w').sTok v2)))) := by
    intro v1 v2 hv
    refine ⟨_, T2, _, _, q + k', [sbC (mNx B + (T.length + 1 + 1)) (min k' 8), byC g', stC (mNx B + (T.length + 1 + 3)), daC (min k' 8) g'], rfl, rfl, ⟨?_, ?_, fun ht => ?_⟩, kp2.sI (by omega) _, (Kr.wq (q + k') k' num' w').trans (Kr.sTok v2), hT2.symm, ?_, rfl, by omega, j2, Or.inr (Or.inr (by omega)), by omega, by omega, by omega⟩
    · rw [i_ne _ _ (by decide), c2_129]; exact hpl.symm
    · rw [i_self, i_ne _ _ (by decide)]
      rcases hv with ⟨h1, h2⟩ | ⟨h1, h2, h3, h4⟩ | ⟨h1, h2, -⟩
      · exact Or.inr (Or.inl ⟨h1, h2⟩)
      · refine Or.inr (Or.inr (Or.inl ⟨h1, h2, q, k', T.length + 2, k1, h3, j2, hpl, rfl, h4, ?_, c2_132, ?_⟩))
        · refine W.hw.trans ?_
          rw [show min k' 8 = k' by omega]
        · rw [show min k' 8 = k' by omega] at st; exact st
      · exact Or.inr (Or.inr (Or.inr (Or.inl ⟨h1, h2, c2_130⟩)))
    · have ht' : v2 = 2 := ht
      rcases hv with ⟨h1, h2⟩ | ⟨h1, h2, h3, h4⟩ | ⟨h1, h2, h3, h4⟩
      · rw [h2] at ht'; exact absurd ht' (by decide)
      · rw [h2] at ht'; exact absurd ht' (by decide)
      · obtain ⟨v, n1, n2'⟩ := N (fun i hi => by
          rcases W.hch i hi with e | e
          · have := h4 i hi; rw [this] at e; exact absurd e (by decide)
          · exact e)
        refine ⟨v, Nat.lt_of_lt_of_le n1 ?_, n2'⟩
        rcases (show min k' 3 = 0 ∨ min k' 3 = 1 ∨ min k' 3 = 2 ∨ min k' 3 = 3 by omega) with e | e | e | e <;> rw [e] <;> decide
    · rw [i_ne _ _ (by decide)]; exact c2_127
  have PK := M_pk (b' := b') (n := n) (s := s) (m := m) (r := r.wq (q + k') k' num' w') (p := q + k') h940 hz rfl (by omega)
  rw [hm] at PK
  have Mx : bX4_next_181 1 (some 106) (b2i vb) fl' (mkM b' n s (m.sR (r.wq (q + k') k' num' w'))) = (if fl' = 0 then bX4_next_320 (some 106) (mkM b' n s (m.sR (r.wq (q + k') k' num' w'))) else (if b2i vb = 0 then bX4_next_317 (b2i vb) (some 106) (n2 k') 3 (mkM b' n s (m.sR (r.wq (q + k') k' num' w'))) else bX4_next_317 (b2i vb) (some 106) (n2 k') 8 (mkM b' n s (m.sR (r.wq (q + k') k' num' w'))))) := by
    show bX4_next_181B _ _ _ _ _ = _
    unfold bX4_next_181B
    by_cases hl : q + k' < to
    · rw [if_pos hl] at PK
      obtain ⟨a1, a2⟩ := j4 hl
      simp -implicitDefEqProofs only [Option.bind_some, bd_some, b2i_0, Bool.true_eq_false, Bool.false_eq_true, eq_self, if_true, if_false, not_true_eq_false, not_false_eq_true, ivM, PK, M_isLt (oct_lt (tp (q + k'))), M_isDg (oct_lt (tp (q + k'))), a1, a2, gM_66, sR_r, mq_1]
    · rw [if_neg hl] at PK
      simp -implicitDefEqProofs only [Option.bind_some, bd_some, b2i_0, Bool.true_eq_false, Bool.false_eq_true, eq_self, if_true, if_false, not_true_eq_false, not_false_eq_true, ivM, PK, fun st => (M_m1 st).1, fun st => (M_m1 st).2, gM_66, sR_r, mq_1]
  have Xx : bX5_go_189 1 (some (mNx B)) (b2i vb) fl' (some (mNx B + (T.length + 1 + 0))) (wSt B c T (z + 20) num' (q + k') k' g') = (if fl' = 0 then bX5_go_356 (some (mNx B)) (ovs B (c2 :: T2) (z + 20 + 4 + min k' 8)) else (if b2i vb = 0 then bX5_go_353 (b2i vb) (some (mNx B)) (n2 k') 3 (ovs B (c2 :: T2) (z + 20 + 4 + min k' 8)) else bX5_go_353 (b2i vb) (some (mNx B)) (n2 k') 8 (ovs B (c2 :: T2) (z + 20 + 4 + min k' 8)))) := by
    show bX5_go_189B _ _ _ _ _ _ = _
    unfold bX5_go_189B
    simp -implicitDefEqProofs only [Option.bind_some, bd_some, b2i_0, Bool.true_eq_false, Bool.false_eq_true, eq_self, if_true, if_false, not_true_eq_false, not_false_eq_true, G, I2, B2, X_isLt hcb, X_isDg hcb, l1, l2, IS, TS, W132, G127, G129, e8]
  rw [Mx, Xx]
  unfold bX5_go_356 bX5_go_353 bX4_next_320 bX4_next_317 bX5_go_356 bX4_next_320
  simp -implicitDefEqProofs only [Option.bind_some, bd_some, b2i_0, Bool.true_eq_false, Bool.false_eq_true, eq_self, if_true, if_false, not_true_eq_false, not_false_eq_true, P128, pR_64]
  rcases W.hfl with e | ⟨e, hl⟩
  · simp -implicitDefEqProofs only [Option.bind_some, bd_some, b2i_0, Bool.true_eq_false, Bool.false_eq_true, eq_self, if_true, if_false, not_true_eq_false, not_false_eq_true, e]; exact fin 1 4 (Or.inl ⟨Or.inl rfl, rfl⟩)
  · cases vb
    · simp -implicitDefEqProofs only [Option.bind_some, bd_some, b2i_0, Bool.true_eq_false, Bool.false_eq_true, eq_self, if_true, if_false, not_true_eq_false, not_false_eq_true, e, show ((1 : Int32) = 0) = False from eq_false (by decide), show (b2i false = 0) = True from eq_true rfl]
      by_cases h3 : k' ≤ 3
      · have le : (n2 k' ≤ (3 : Int32)) = True := by rw [li_3, n2_le (by omega) (by omega)]; exact eq_true h3
        simp -implicitDefEqProofs only [Option.bind_some, bd_some, b2i_0, Bool.true_eq_false, Bool.false_eq_true, eq_self, if_true, if_false, not_true_eq_false, not_false_eq_true, le]; exact fin 3 2 (Or.inr (Or.inr ⟨rfl, rfl, h3, hl⟩))
      · have le : (n2 k' ≤ (3 : Int32)) = False := by rw [li_3, n2_le (by omega) (by omega)]; exact eq_false h3
        simp -implicitDefEqProofs only [Option.bind_some, bd_some, b2i_0, Bool.true_eq_false, Bool.false_eq_true, eq_self, if_true, if_false, not_true_eq_false, not_false_eq_true, le]; exact fin 1 4 (Or.inl ⟨Or.inl rfl, rfl⟩)
    · simp -implicitDefEqProofs only [Option.bind_some, bd_some, b2i_0, Bool.true_eq_false, Bool.false_eq_true, eq_self, if_true, if_false, not_true_eq_false, not_false_eq_true, e, show ((1 : Int32) = 0) = False from eq_false (by decide), show (b2i true = 0) = False from eq_false (by decide)]
      by_cases h8 : k' ≤ 8
      · have le : (n2 k' ≤ (8 : Int32)) = True := by rw [li_8, n2_le (by omega) (by omega)]; exact eq_true h8
        simp -implicitDefEqProofs only [Option.bind_some, bd_some, b2i_0, Bool.true_eq_false, Bool.false_eq_true, eq_self, if_true, if_false, not_true_eq_false, not_false_eq_true, le]; exact fin 2 1 (Or.inr (Or.inl ⟨rfl, rfl, h8, hl⟩))
      · have le : (n2 k' ≤ (8 : Int32)) = False := by rw [li_8, n2_le (by omega) (by omega)]; exact eq_false h8
        simp -implicitDefEqProofs only [Option.bind_some, bd_some, b2i_0, Bool.true_eq_false, Bool.false_eq_true, eq_self, if_true, if_false, not_true_eq_false, not_false_eq_true, le]; exact fin 1 4 (Or.inl ⟨Or.inl rfl, rfl⟩)
end DWord
