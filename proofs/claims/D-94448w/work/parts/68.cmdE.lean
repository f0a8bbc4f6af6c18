set_option linter.unusedVariables false
set_option linter.unusedSimpArgs false
set_option maxRecDepth 100000
/-! ===== commands: would, anyway, starts, leader ===== -/
theorem hgtS_nonneg (H : HS) (C : List Cu) (p hi : Int64) : ∀ k, 0 ≤ hgtS H C p hi k
  | 0 => Int32.le_refl _
  | k + 1 => by
    show 0 ≤ (if pc (nightS H C p hi k).c2 ≤ hgtS H C p hi k then hgtS H C p hi k else pc (nightS H C p hi k).c2)
    split
    · exact hgtS_nonneg H C p hi k
    · exact pc_nonneg _
theorem seats_0 {H : HS} (h : H.seats = 0) {v : Nat} (hv : v < H.size) : H.kind v = 0 := by
  unfold HS.seats at h
  have := List.length_eq_zero_iff.mp h
  rw [List.filter_eq_nil_iff] at this
  have := this v (List.mem_range.mpr hv)
  simpa using this
theorem seats_le (H : HS) : H.seats ≤ H.size := by
  unfold HS.seats
  have := List.length_filter_le (fun v => decide (H.kind v ≠ 0)) (List.range H.size)
  rwa [List.length_range] at this
section CmdE
variable {b b' : Mem} {n s : Nat} {x : XS} {m : MS} {H : HS} {C : List Cu} {h c : Nat} {K : Nat → Option (HS × List Cu)} {p hi : Int64}
theorem D_height (R : Duo b x m H C h c K) (p hi : Int64) : ∃ y g z, fX1_heightOf (some 64) (some h) p hi (mkX b x) = some (hgtS H C p hi 61, mkX b (x.setN false y)) ∧ fX4_height (some 106) p hi (mkM b' n s m) = some (hgtS H C p hi 61, mkM b' n s (m.lay g z)) ∧ Duo b (x.setN false y) (m.lay g z) H C h c K ∧ z.nightHeight = hgtS H C p hi 61 ∧ z.nightCarries = b2i (decide (n2 H.carry ≤ hgtS H C p hi 61)) ∧ MRun (m.lay g z) H C p hi 61 := by
  obtain ⟨y, e1⟩ := X_height R.hb (p := p) (hi := hi) R.XH R.ok R.XC R.xc
  obtain ⟨g, z, e2, ha, hR, h1, h2⟩ := M_height (b := b') (n := n) (s := s) (p := p) (h := hi) R.ok R.ar R.MH R.MC R.lays R.l01
  exact ⟨y, g, z, e1, e2, (R.lay ha).nX, h1, h2, hR⟩
theorem C_starts (R : Duo b x m H C h c K) (a : Int32) : ∃ r x' m', fX1_starts (some 64) a (mkX b x) = some (r, mkX b x') ∧ fX4_starts (some 106) a (mkM b' n s m) = some (r, mkM b' n s m') ∧ Duo b x' m' H C h c K := by
  have T := R.th (v := 0)
  have p2 : (m.th 0).seatsHiss = x.hiss := T.hiss.symm
  unfold fX1_starts fX4_starts
  obtain ⟨y, g, z, e1, e2, D, -⟩ := D_height (b' := b') (n := n) (s := s) T (shlL 1 a) x.hiss
  simp -implicitDefEqProofs only [Option.bind_some, bd_some, b2i_0, Bool.true_eq_false, Bool.false_eq_true, eq_self, if_true, if_false, not_true_eq_false, not_false_eq_true, pM_55', gX_4 R.hb, R.xh, xh_iv R.XH, X_isSeatI R.XH R.ok, ivM, M_isSeatI T.MH R.ok, gX_6 R.hb, gM_72, p2, ivX R.hb, e1, e2]
  cases seatI H a
  · simp -implicitDefEqProofs only [Option.bind_some, bd_some, b2i_0, Bool.true_eq_false, Bool.false_eq_true, eq_self, if_true, if_false, not_true_eq_false, not_false_eq_true]; exact ⟨_, _, _, rfl, rfl, T⟩
  · simp -implicitDefEqProofs only [Option.bind_some, bd_some, b2i_0, Bool.true_eq_false, Bool.false_eq_true, eq_self, if_true, if_false, not_true_eq_false, not_false_eq_true]; exact ⟨_, _, _, rfl, rfl, D⟩
theorem M_price {v : Nat} (hH : MHouse m.s H) (ok : H.Ok) (hv : v < H.size) : fX4_price (some 106) (n2 v) (mkM b' n s m) = some (n2 (H.price (v / H.cols)), mkM b' n s m) := by
  have := pos_of_size hv
  have h64 := ok.size
  have hc := ok.cols
  have hr := row_lt hv
  have hr8 := ok.rows
  have ix : (70 : Int32) + n2 (v / H.cols) = n2 (70 + v / H.cols) := by rw [li_70, n2_add]
  unfold fX4_price
  simp -implicitDefEqProofs only [Option.bind_some, bd_some, b2i_0, Bool.true_eq_false, Bool.false_eq_true, eq_self, if_true, if_false, not_true_eq_false, not_false_eq_true, gM_61, li_1, rd_s' (show 1 < 681 by decide), hH.cols, n2_dv (show v < 2147483648 by omega) (show H.cols < 2147483648 by omega) this.1, ix, rd_s' (show 70 + v / H.cols < 681 by omega), hH.price (v / H.cols) (by omega)]
theorem L_leader (a : Int32) : ∀ (k f f' v : Nat) (best most : Int32) (x : XS) (m : MS), v + k = H.size → k < f → k < f' → Duo b x m H C h c K → ((best = -1 ∧ most = -1) ∨ ∃ u, u < H.size ∧ best = n2 u) →
    ∃ r x' m', bX1_leader_28 f (some 64) a best most (n2 v) (mkX b x) = some (r, mkX b x') ∧ bX4_leader_23 f' (some 106) a best most (n2 v) (mkM b' n s m) = some (r, mkM b' n s m') ∧ Duo b x' m' H C h c K := by
  intro k
  induction k with
  | zero =>
    intro f f' v best most x m hv hf hf' R hbm
    have h64 := R.ok.size
    obtain ⟨f, rfl⟩ : ∃ g, f = g + 1 := ⟨f - 1, by omega⟩
    obtain ⟨f', rfl⟩ : ∃ g, f' = g + 1 := ⟨f' - 1, by omega⟩
    have e : v = H.size := by omega
    subst e
    have le : (n2 H.size ≤ n2 H.size) = True := eq_true (Int32.le_refl _)
    have sz : n2 H.rows * n2 H.cols = n2 H.size := n2_mul _ _
    show ∃ r x' m', bX1_leader_28B _ _ _ _ _ _ _ = _ ∧ bX4_leader_23B _ _ _ _ _ _ _ = _ ∧ _
    unfold bX1_leader_28B bX4_leader_23B
    simp -implicitDefEqProofs only [Option.bind_some, bd_some, b2i_0, Bool.true_eq_false, Bool.false_eq_true, eq_self, if_true, if_false, not_true_eq_false, not_false_eq_true, gX_4 R.hb, R.xh, xh_iv R.XH, xh_size R.XH, le, gM_61, li_0, li_1, rd_s' (show 0 < 681 by decide), rd_s' (show 1 < 681 by decide), R.MH.rows, R.MH.cols, sz]
    by_cases h0 : a = n2 0
    · simp -implicitDefEqProofs only [Option.bind_some, bd_some, b2i_0, Bool.true_eq_false, Bool.false_eq_true, eq_self, if_true, if_false, not_true_eq_false, not_false_eq_true, h0]; exact ⟨_, _, _, rfl, rfl, R⟩
    · simp -implicitDefEqProofs only [Option.bind_some, bd_some, b2i_0, Bool.true_eq_false, Bool.false_eq_true, eq_self, if_true, if_false, not_true_eq_false, not_false_eq_true, h0]; exact ⟨_, _, _, rfl, rfl, R⟩
  | succ k ih =>
    intro f f' v best most x m hv hf hf' R hbm
    have h64 := R.ok.size
    obtain ⟨f, rfl⟩ : ∃ g, f = g + 1 := ⟨f - 1, by omega⟩
    obtain ⟨f', rfl⟩ : ∃ g, f' = g + 1 := ⟨f' - 1, by omega⟩
    have hvs : v < H.size := by omega
    have le : (n2 H.size ≤ n2 v) = False := by rw [n2_le (by omega) (by omega)]; exact eq_false (by omega)
    have sz : n2 H.rows * n2 H.cols = n2 H.size := n2_mul _ _
    have p2 : m.seatsHiss = x.hiss := R.hiss.symm
    have ev : n2 v + 1 = n2 (v + 1) := n2_add v 1
    have ps := fun u (hu : u < H.size) => R.ok.rows
    obtain ⟨y, g, z, e1, e2, D, -⟩ := D_height (b' := b') (n := n) (s := s) R (shlL 1 (n2 v)) x.hiss
    show ∃ r x' m', bX1_leader_28B (bX1_leader_28 f) _ _ _ _ _ _ = _ ∧ bX4_leader_23B (bX4_leader_23 f') _ _ _ _ _ _ = _ ∧ _
    unfold bX1_leader_28B bX4_leader_23B bX1_leader_120 bX1_leader_114 bX4_leader_102 bX4_leader_96 bX1_leader_120 bX4_leader_102 fX1_starts
    simp -implicitDefEqProofs only [Option.bind_some, bd_some, b2i_0, Bool.true_eq_false, Bool.false_eq_true, eq_self, if_true, if_false, not_true_eq_false, not_false_eq_true, gX_4 R.hb, R.xh, xh_iv R.XH, xh_size R.XH, le, gM_61, show (0 : Int32) = n2 0 ↔ True from by decide, show aI (mkM b' n s m) (some 108) (0 : Int32) = some (n2 H.rows) from (rd_s' (k := 0) (by decide)).trans (congrArg some R.MH.rows), show aI (mkM b' n s m) (some 108) (1 : Int32) = some (n2 H.cols) from (rd_s' (k := 1) (by decide)).trans (congrArg some R.MH.cols), sz, X_isSeatI R.XH R.ok, ivM, M_isSeatI R.MH R.ok, gX_6 R.hb, gM_72, p2, ivX R.hb, e1, e2, ev, setN_house]
    have hr := row_lt hvs
    have hr8 := R.ok.rows
    rcases Bool.eq_false_or_eq_true (seatI H (n2 v)) with es | es
    · simp -implicitDefEqProofs only [Option.bind_some, bd_some, b2i_0, Bool.true_eq_false, Bool.false_eq_true, eq_self, if_true, if_false, not_true_eq_false, not_false_eq_true, es]
      by_cases c1 : hgtS H C (shlL 1 (n2 v)) x.hiss 61 < most
      · simp -implicitDefEqProofs only [Option.bind_some, bd_some, b2i_0, Bool.true_eq_false, Bool.false_eq_true, eq_self, if_true, if_false, not_true_eq_false, not_false_eq_true, c1]
        exact ih f f' (v + 1) _ _ _ _ (by omega) (by omega) (by omega) D hbm
      · simp -implicitDefEqProofs only [Option.bind_some, bd_some, b2i_0, Bool.true_eq_false, Bool.false_eq_true, eq_self, if_true, if_false, not_true_eq_false, not_false_eq_true, c1]
        by_cases c2 : hgtS H C (shlL 1 (n2 v)) x.hiss 61 = most
        · rcases hbm with ⟨-, rfl⟩ | ⟨u, hu, rfl⟩
          · exfalso
            have := hgtS_nonneg H C (shlL 1 (n2 v)) x.hiss 61
            rw [c2] at this; exact absurd this (by decide)
          · have hru := row_lt hu
            simp -implicitDefEqProofs only [Option.bind_some, bd_some, b2i_0, Bool.true_eq_false, Bool.false_eq_true, eq_self, if_true, if_false, not_true_eq_false, not_false_eq_true, c2, ivM, xh_35 R.XH, xh_iv R.XH, xh_row R.XH R.ok hvs, xh_row R.XH R.ok hu, xh_price R.XH (show v / H.cols < 8 by omega), xh_price R.XH (show u / H.cols < 8 by omega), M_price D.MH R.ok hvs, M_price D.MH R.ok hu, R.xh, gX_4 R.hb, setN_house]
            by_cases c3 : n2 (H.price (v / H.cols)) < n2 (H.price (u / H.cols))
            · simp -implicitDefEqProofs only [Option.bind_some, bd_some, b2i_0, Bool.true_eq_false, Bool.false_eq_true, eq_self, if_true, if_false, not_true_eq_false, not_false_eq_true, c3]
              exact ih f f' (v + 1) _ _ _ _ (by omega) (by omega) (by omega) D (Or.inr ⟨v, hvs, rfl⟩)
            · simp -implicitDefEqProofs only [Option.bind_some, bd_some, b2i_0, Bool.true_eq_false, Bool.false_eq_true, eq_self, if_true, if_false, not_true_eq_false, not_false_eq_true, c3]
              exact ih f f' (v + 1) _ _ _ _ (by omega) (by omega) (by omega) D (Or.inr ⟨u, hu, rfl⟩)
        · simp -implicitDefEqProofs only [Option.bind_some, bd_some, b2i_0, Bool.true_eq_false, Bool.false_eq_true, eq_self, if_true, if_false, not_true_eq_false, not_false_eq_true, c2]
          exact ih f f' (v + 1) _ _ _ _ (by omega) (by omega) (by omega) D (Or.inr ⟨v, hvs, rfl⟩)
    · simp -implicitDefEqProofs only [Option.bind_some, bd_some, b2i_0, Bool.true_eq_false, Bool.false_eq_true, eq_self, if_true, if_false, not_true_eq_false, not_false_eq_true, es]
      exact ih f f' (v + 1) _ _ _ _ (by omega) (by omega) (by omega) R hbm
theorem L_leader0 (a : Int32) (hz : H.seats = 0) (ok : H.Ok) (hH : MHouse m.s H) : ∀ (k f' v : Nat), v + k = H.size → k < f' → bX4_leader_23 f' (some 106) a (-1) (-1) (n2 v) (mkM b' n s m) = some (-1, mkM b' n s m) := by
  have h64 := ok.size
  have sz : n2 H.rows * n2 H.cols = n2 H.size := n2_mul _ _
  have r0 : aI (mkM b' n s m) (some 108) (0 : Int32) = some (n2 H.rows) := (rd_s' (k := 0) (by decide)).trans (congrArg some hH.rows)
  have r1 : aI (mkM b' n s m) (some 108) (1 : Int32) = some (n2 H.cols) := (rd_s' (k := 1) (by decide)).trans (congrArg some hH.cols)
  intro k
  induction k with
  | zero =>
    intro f' v hv hf'
    obtain ⟨f', rfl⟩ : ∃ g, f' = g + 1 := ⟨f' - 1, by omega⟩
    have e : v = H.size := by omega
    subst e
    show bX4_leader_23B _ _ _ _ _ _ _ = _
    unfold bX4_leader_23B
    simp -implicitDefEqProofs only [Option.bind_some, bd_some, b2i_0, Bool.true_eq_false, Bool.false_eq_true, eq_self, if_true, if_false, not_true_eq_false, not_false_eq_true, gM_61, r0, r1, sz, show (n2 H.size ≤ n2 H.size) = True from eq_true (Int32.le_refl _), ite_self]
  | succ k ih =>
    intro f' v hv hf'
    obtain ⟨f', rfl⟩ : ∃ g, f' = g + 1 := ⟨f' - 1, by omega⟩
    have le : (n2 H.size ≤ n2 v) = False := by rw [n2_le (by omega) (by omega)]; exact eq_false (by omega)
    have es : seatI H (n2 v) = false := by rw [seatI_n2 (by omega), seats_0 hz (show v < H.size by omega)]; simp
    show bX4_leader_23B (bX4_leader_23 f') _ _ _ _ _ _ = _
    unfold bX4_leader_23B bX4_leader_102
    simp -implicitDefEqProofs only [Option.bind_some, bd_some, b2i_0, Bool.true_eq_false, Bool.false_eq_true, eq_self, if_true, if_false, not_true_eq_false, not_false_eq_true, gM_61, r0, r1, sz, le, ivM, M_isSeatI hH ok, es, show n2 v + 1 = n2 (v + 1) from n2_add v 1]
    exact ih f' (v + 1) (by omega) (by omega)
theorem C_leader (R : Duo b x m H C h c K) (a : Int32) : ∃ r x' m', fX1_leader (some 64) a (mkX b x) = some (r, mkX b x') ∧ fX4_leader (some 106) a (mkM b' n s m) = some (r, mkM b' n s m') ∧ Duo b x' m' H C h c K := by
  have T := R.th (v := 0)
  have h64 := R.ok.size
  have hsl := seats_le H
  unfold fX1_leader fX4_leader
  simp -implicitDefEqProofs only [Option.bind_some, bd_some, b2i_0, Bool.true_eq_false, Bool.false_eq_true, eq_self, if_true, if_false, not_true_eq_false, not_false_eq_true, pM_55', X_isIn, M_isIn, gX_4 R.hb, R.xh, xh_iv R.XH, X_seats R.XH R.ok]
  cases decide ((0 : Int32) ≤ a ∧ a ≤ 1)
  · simp -implicitDefEqProofs only [Option.bind_some, bd_some, b2i_0, Bool.true_eq_false, Bool.false_eq_true, eq_self, if_true, if_false, not_true_eq_false, not_false_eq_true]; exact ⟨_, _, _, rfl, rfl, T⟩
  · by_cases hz : H.seats = 0
    · have e := L_leader0 (b' := b') (n := n) (s := s) a hz R.ok T.MH H.size hcFuel 0 (by omega) (by unfold hcFuel; omega)
      simp -implicitDefEqProofs only [Option.bind_some, bd_some, b2i_0, Bool.true_eq_false, Bool.false_eq_true, eq_self, if_true, if_false, not_true_eq_false, not_false_eq_true, hz, show (n2 0 = (0 : Int32)) = True from eq_true rfl]
      exact ⟨_, _, _, rfl, e, T⟩
    · have nz : (n2 H.seats = 0) = False := by rw [li_0, n2_eq (by omega) (by decide)]; exact eq_false hz
      simp -implicitDefEqProofs only [Option.bind_some, bd_some, b2i_0, Bool.true_eq_false, Bool.false_eq_true, eq_self, if_true, if_false, not_true_eq_false, not_false_eq_true, nz]
      exact L_leader a H.size hcFuel hcFuel 0 (-1) (-1) x (m.th 0) (by omega) (by unfold hcFuel; omega) (by unfold hcFuel; omega) T (Or.inl ⟨rfl, rfl⟩)
theorem M_any {T : Nat} {w : Int64} (ok : H.Ok) (hT : T ≤ 600) : ∀ (k f t : Nat) (m : MS), t + k = T + 1 → k < f → MHouse m.s H → MCues m.s C → MArea m H → MRun m H C p hi t →
    ∃ y, bX4_anyway_33 f (some 106) (n2 T) w (mkM b' n s m) = some (pc (w &&& (nightS H C p hi T).c2), mkM b' n s (m.sN y)) := by
  intro k
  induction k with
  | zero =>
    intro f t m hk hf hH hC ha hR
    obtain ⟨f, rfl⟩ : ∃ g, f = g + 1 := ⟨f - 1, by omega⟩
    have e : t = T + 1 := by omega
    subst e
    refine ⟨m.n, ?_⟩
    have c2 : m.n.standing = (nightS H C p hi T).c2 := hR.nt.c2
    show bX4_anyway_33B _ _ _ _ _ = _
    unfold bX4_anyway_33B
    rw [gM_97, Option.bind_some, hR.nt.gone, if_pos (show n2 T < n2 (T + 1) by rw [n2_lt (by omega) (by omega)]; omega), gM_94, Option.bind_some, pcM, bd_some, c2]
    rfl
  | succ k ih =>
    intro f t m hk hf hH hC ha hR
    obtain ⟨f, rfl⟩ : ∃ g, f = g + 1 := ⟨f - 1, by omega⟩
    obtain ⟨y, e, hR', -⟩ := M_step (b := b') (n := n) (s := s) hH ok hC ha hR (by omega)
    obtain ⟨y', e'⟩ := ih f (t + 1) (m.sN y) (by omega) (by omega) hH hC ha.sN hR'
    refine ⟨y', Eq.trans ?_ e'⟩
    show bX4_anyway_33B (bX4_anyway_33 f) _ _ _ _ = _
    unfold bX4_anyway_33B
    rw [gM_97, Option.bind_some, hR.nt.gone, if_neg (show ¬ n2 T < n2 t by rw [n2_lt (by omega) (by omega)]; omega), ivM, e, bd_some]; rfl
theorem C_anyway (R : Duo b x m H C h c K) (a : Int32) : ∃ r x' m', fX1_anyway (some 64) a (mkX b x) = some (r, mkX b x') ∧ fX4_anyway (some 106) a (mkM b' n s m) = some (r, mkM b' n s m') ∧ Duo b x' m' H C h c K := by
  have T := R.th (v := 0)
  unfold fX1_anyway fX4_anyway
  simp -implicitDefEqProofs only [Option.bind_some, bd_some, b2i_0, Bool.true_eq_false, Bool.false_eq_true, eq_self, if_true, if_false, not_true_eq_false, not_false_eq_true, pM_55', X_isMoment, M_isMoment]
  cases et : decide ((0 : Int32) ≤ a ∧ a ≤ 600)
  · simp -implicitDefEqProofs only [Option.bind_some, bd_some, b2i_0, Bool.true_eq_false, Bool.false_eq_true, eq_self, if_true, if_false, not_true_eq_false, not_false_eq_true]; exact ⟨_, _, _, rfl, rfl, T⟩
  obtain ⟨τ, -, hτ, rfl⟩ := in_true (l := 0) (u := 600) (by decide) (by decide) et
  obtain ⟨y, y2, e1, e2, -, I⟩ := X_tn R hτ
  obtain ⟨g, ym, e3, T2, ha, hR⟩ := M_tn (b' := b') (n := n) (s := s) T hτ
  have c2 : ((m.th 0).lay g ym).n.standing = (nightS H C x.paid x.hiss τ).c2 := hR.nt.c2
  have p2 : ((m.th 0).lay g ym).seatsHiss = x.hiss := T.hiss.symm
  obtain ⟨y3, e4, I3⟩ := X_begin R.hb (q := true) (x := x.setN false y2) (p := 0) (hi := x.hiss) R.XH R.ok R.XC
  obtain ⟨y4, e5, I4⟩ := X_to R.hb (q := true) (p := 0) (hi := x.hiss) R.XH R.ok R.XC hτ τ hcFuel 0 ((x.setN false y2).setN true y3) (by omega) (by unfold hcFuel; omega) (by rw [setN_n]; exact I3)
  rw [setN_setN] at e5
  have e5' : fX3_to (some (nid true)) (n2 τ) (mkX b ((x.setN false y2).setN true y3)) = some (some (nid true), mkX b ((x.setN false y2).setN true y4)) := e5
  obtain ⟨g2, e6, ha2, hR2⟩ := M_begin (b := b') (n := n) (s := s) (C := C) (p := 0) (h := x.hiss) R.ok R.ar T2.MH T2.lays T2.l01
  obtain ⟨y5, e7⟩ := M_any (b' := b') (n := n) (s := s) (w := (nightS H C x.paid x.hiss τ).c2) R.ok hτ (τ + 1) hcFuel 0 (((m.th 0).lay g ym).beg g2 0 x.hiss) (by omega) (by unfold hcFuel; omega) T2.MH T2.MC ha2 hR2
  rw [beg_lay, lay_sN] at e7
  rw [beg_lay] at e6 ha2
  have hx : (x.setN false y2).hiss = x.hiss := rfl
  have T3 : Duo b ((x.setN false y2).setN true y4) (((m.th 0).lay g ym).lay g2 y5) H C h c K := by
    have a3 := ha2.sN (y := y5)
    rw [lay_sN] at a3
    exact ((T2.nX (z := y2)).nY (z := y4)).lay a3
  simp -implicitDefEqProofs only [Option.bind_some, bd_some, b2i_0, Bool.true_eq_false, Bool.false_eq_true, eq_self, if_true, if_false, not_true_eq_false, not_false_eq_true, ivX R.hb, e1, ivN R.hb, e2, gN_53 R.hb, aN_wth R.hb, show ifx 3 (2 : Int32) (((x.setN false y2).n false).wth (2 : Int32).toNatClampNeg) = some (((x.setN false y2).n false).wth 2) from ifx_k (k := 2) (by decide) (by decide), setN_n, I.a2, gX_9 R.hb, gX_4 R.hb, gX_7 R.hb, gX_6 R.hb, setN_house, setN_cues, hx, R.xh, R.xc, e4, e5', show ∀ w : Nat → Int64, ifx 3 (2 : Int32) (w (2 : Int32).toNatClampNeg) = some (w 2) from fun w => ifx_k (k := 2) (by decide) (by decide), I4.a2, pcX, ivM, e3, gM_94, c2, gM_72, p2, e6, e7]
  exact ⟨_, _, _, rfl, rfl, T3⟩
end CmdE
