set_option linter.unusedVariables false
set_option linter.unusedSimpArgs false
set_option maxRecDepth 100000
section DTok2
variable {B b' : Mem} {c d : Cl} {T : List Cl} {tp : Nat → Int32} {to most z n s p q k : Nat} {m : MS} {r r2 : MR} {rx rm : Option (Unit × Mem)}
theorem TokR.mono (h : TokR B d T z q m r2 tp to b' n s rx rm) (hk : Kp c d) (hr : Kr r r2) (hpq : p ≤ q) : TokR B c T z p m r tp to b' n s rx rm := by
  obtain ⟨c', T', z', r', q', R, h1, h2, h3, h4, h5, h6, h7, h8, h9, h10, h11, h12, h13, h14⟩ := h
  refine ⟨c', T', z', r', q', R, h1, h2, h3, hk.trans h4, hr.trans h5, h6, h7, h8, by omega, h10, ?_, by omega, by omega, h14⟩
  rcases h11 with h | h | h
  · exact Or.inl h
  · exact Or.inr (Or.inl h)
  · exact Or.inr (Or.inr (by omega))
theorem D_94 (R : RdX B c tp to most) (hq : q ≤ to) (h127 : c.i 127 = n2 q) (h129 : c.i 129 = n2 q) (hm : m.tape = tp) (hz : r.size = n2 to) (hp : r.p = n2 q) (hpl : r.place = n2 q) (hsp : r.span = n2 0) :
    TokR B c T z q m r tp to b' n s (bX5_go_94 (some (mNx B)) (ovs B (c :: T) z)) (bX4_next_80 (some 106) (mkM b' n s (m.sR r))) := by
  have h940 := R.to_
  have hB : 64 ≤ mNx B := by have := R.hB; omega
  have G127 : gI (ovs B (c :: T) z) (some (mNx B)) 127 = some (n2 q) := (rd_get R.t rfl).trans (congrArg some h127)
  have G125 : gI (ovs B (c :: T) z) (some (mNx B)) 125 = some (n2 to) := (rd_get R.t rfl).trans (congrArg some R.i125)
  have IV : ∀ {α : Type} (o : Option α), iv (ovs B (c :: T) z) (some (mNx B)) [5, 13] o = o := fun o => rd_iv R.t rfl
  have PK := M_pk (b' := b') (n := n) (s := s) (m := m) (r := r) (p := q) h940 hz hp (by omega)
  rw [hm] at PK
  by_cases h : q < to
  · rw [if_pos h] at PK
    have ol := oct_lt (tp q)
    have RB := X_rb (T := T) (z := z) R (show q ≤ 940 by omega)
    rw [if_pos h] at RB
    have lt : (n2 q < n2 to) = True := by rw [n2_lt (by omega) (by omega)]; exact eq_true h
    have ge : ((0 : Int32) ≤ n2 (octN (tp q))) = True := eq_true (n2_pos (by omega))
    rcases Bool.eq_false_or_eq_true (isLtN (octN (tp q))) with e | e
    · have D := D_word (b' := b') (n := n) (s := s) (T := T) (z := z) R h h127 h129 hm hz hp hpl hsp (Or.inl e)
      unfold bX5_go_94 bX4_next_80
      simp -implicitDefEqProofs only [Option.bind_some, bd_some, b2i_0, Bool.true_eq_false, Bool.false_eq_true, eq_self, if_true, if_false, not_true_eq_false, not_false_eq_true, G127, G125, lt, IV, RB, X_isLt ol, e, ivM, PK, ge, M_isLt ol]
      exact D
    · rcases Bool.eq_false_or_eq_true (isDgN (octN (tp q))) with e2 | e2
      · have D := D_word (b' := b') (n := n) (s := s) (T := T) (z := z) R h h127 h129 hm hz hp hpl hsp (Or.inr e2)
        unfold bX5_go_94 bX4_next_80
        simp -implicitDefEqProofs only [Option.bind_some, bd_some, b2i_0, Bool.true_eq_false, Bool.false_eq_true, eq_self, if_true, if_false, not_true_eq_false, not_false_eq_true, G127, G125, lt, IV, RB, X_isLt ol, e, X_isDg ol, e2, ivM, PK, ge, M_isLt ol, M_isDg ol]
        exact D
      · exact D_sign (R := R) h h127 h129 hm hz hp hpl e e2
  · rw [if_neg h] at PK
    have lt : (n2 q < n2 to) = False := by rw [n2_lt (by omega) (by omega)]; exact eq_false h
    have P : pI (ovs B (c :: T) z) (some (mNx B)) 128 0 = some (ovs B (c.sI 128 0 :: T) z) := rd_put hB R.t rfl
    unfold bX5_go_94 bX4_next_80
    simp -implicitDefEqProofs only [Option.bind_some, bd_some, b2i_0, Bool.true_eq_false, Bool.false_eq_true, eq_self, if_true, if_false, not_true_eq_false, not_false_eq_true, G127, G125, lt, P, ivM, PK, show ((0 : Int32) ≤ (-1 : Int32)) = False from eq_false (by decide), pR_64]
    refine ⟨_, T, z, _, q, [], rfl, rfl, ⟨?_, ?_, fun ht => absurd (show (0 : Int32) = 2 from ht) (by decide)⟩, (Kp.refl c).sI (by omega) _, Kr.sTok 0, (List.append_nil T).symm, ?_, hp, by omega, hq, ?_, by omega, by omega, Nat.le_refl _⟩
    · rw [i_ne _ _ (by decide), h129]; exact hpl.symm
    · rw [i_self]; exact Or.inl ⟨rfl, rfl⟩
    · rw [i_ne _ _ (by decide)]; exact h127
    · rw [i_self]; exact Or.inl rfl
theorem D_tok (R : RdX B c tp to most) (hm : m.tape = tp) (hz : m.r.size = n2 to) (hl : m.r.limit = n2 most) (hp' : p ≤ to) (h127 : c.i 127 = n2 p) (hp : m.r.p = n2 p) :
    TokR B c T z p m m.r tp to b' n s (fX5_go (some (mNx B)) (ovs B (c :: T) z)) (fX4_next (some 106) (mkM b' n s m)) := by
  have h940 := R.to_
  have hms := R.ms
  have hB : 64 ≤ mNx B := by have := R.hB; omega
  obtain ⟨q, q1, q2, q3, e1, e2⟩ := L_sp (b' := b') (n := n) (s := s) (m := m) (r := m.r) (T := T) (z := z) R hm hz (to - p) hcFuel hcFuel p (by omega) (by unfold hcFuel; omega) (by unfold hcFuel; omega)
  have m0 : m.r.sP (n2 p) = m.r := by rw [← hp]; rfl
  rw [sI_same c 127 (n2 p) h127] at e1
  rw [m0, sR_self] at e2
  unfold fX5_go fX4_next
  rw [e1, e2]
  clear e1 e2
  have G127 : gI (ovs B (c.sI 127 (n2 q) :: T) z) (some (mNx B)) 127 = some (n2 q) := (rd_get (c := c.sI 127 (n2 q)) R.t rfl).trans (congrArg some (i_self _ _ _))
  have P129 : pI (ovs B (c.sI 127 (n2 q) :: T) z) (some (mNx B)) 129 (n2 q) = some (ovs B ((c.sI 127 (n2 q)).sI 129 (n2 q) :: T) z) := rd_put (c := c.sI 127 (n2 q)) hB R.t rfl
  have R2 : RdX B ((c.sI 127 (n2 q)).sI 129 (n2 q)) tp to most := (R.sI (by decide) (by decide)).sI (by decide) (by decide)
  have kp2 : Kp c ((c.sI 127 (n2 q)).sI 129 (n2 q)) := ((Kp.refl c).sI (by omega) _).sI (by omega) _
  have h127' : ((c.sI 127 (n2 q)).sI 129 (n2 q)).i 127 = n2 q := by rw [i_ne _ _ (by decide), i_self]
  have h129' : ((c.sI 127 (n2 q)).sI 129 (n2 q)).i 129 = n2 q := i_self _ _ _
  generalize (c.sI 127 (n2 q)).sI 129 (n2 q) = c2 at *
  have G125 : gI (ovs B (c2 :: T) z) (some (mNx B)) 125 = some (n2 to) := (rd_get R2.t rfl).trans (congrArg some R2.i125)
  have G126 : gI (ovs B (c2 :: T) z) (some (mNx B)) 126 = some (n2 most) := (rd_get R2.t rfl).trans (congrArg some R2.i126)
  have G129 : gI (ovs B (c2 :: T) z) (some (mNx B)) 129 = some (n2 q) := (rd_get R2.t rfl).trans (congrArg some h129')
  have PK := M_pk (b' := b') (n := n) (s := s) (m := m) (r := m.r.sP (n2 q)) (p := q) h940 hz rfl (by omega)
  rw [hm] at PK
  -- the model behind the blanks
  have kr : Kr m.r (((m.r.sP (n2 q)).sPl (n2 q)).sSp 0) := ((Kr.sP (n2 q)).trans (Kr.sPl (n2 q))).trans (Kr.sSp 0)
  have rp : (((m.r.sP (n2 q)).sPl (n2 q)).sSp 0).p = n2 q := rfl
  have rpl : (((m.r.sP (n2 q)).sPl (n2 q)).sSp 0).place = n2 q := rfl
  have rsp : (((m.r.sP (n2 q)).sPl (n2 q)).sSp 0).span = n2 0 := rfl
  have rz : (((m.r.sP (n2 q)).sPl (n2 q)).sSp 0).size = n2 to := hz
  have rl : (((m.r.sP (n2 q)).sPl (n2 q)).sSp 0).limit = n2 most := hl
  have Mx : bX4_next_0 1 (some 106) (mkM b' n s (m.sR (m.r.sP (n2 q)))) = (if n2 to ≤ n2 most then bX4_next_80 (some 106) (mkM b' n s (m.sR (((m.r.sP (n2 q)).sPl (n2 q)).sSp 0))) else if n2 q < n2 most then bX4_next_80 (some 106) (mkM b' n s (m.sR (((m.r.sP (n2 q)).sPl (n2 q)).sSp 0))) else some ((), mkM b' n s (m.sR (((((m.r.sP (n2 q)).sPl (n2 q)).sSp 0).sPl (n2 most)).sTok 4)))) := by
    show bX4_next_0B _ _ _ = _
    unfold bX4_next_0B
    have ge : gI (mkM b' n s (m.sR (m.r.sP (n2 q)))) (some 106) 59 = some (n2 q) := gM_59
    by_cases h : q < to
    · rw [if_pos h] at PK
      obtain ⟨a1, a2⟩ := q3 h
      have ol := oct_lt (tp q)
      have e32 : (n2 (octN (tp q)) = (32 : Int32)) = False := by rw [li_32, n2_eq (by omega) (by omega)]; exact eq_false a1
      have e10 : (n2 (octN (tp q)) = (10 : Int32)) = False := by rw [li_10, n2_eq (by omega) (by omega)]; exact eq_false a2
      simp -implicitDefEqProofs only [Option.bind_some, bd_some, b2i_0, Bool.true_eq_false, Bool.false_eq_true, eq_self, if_true, if_false, not_true_eq_false, not_false_eq_true, ivM, PK, e32, e10, ge, pR_65, pR_66, gM_58, gM_60, gM_59, sR_r, rp, rz, rl, pR_64]
    · rw [if_neg h] at PK
      simp -implicitDefEqProofs only [Option.bind_some, bd_some, b2i_0, Bool.true_eq_false, Bool.false_eq_true, eq_self, if_true, if_false, not_true_eq_false, not_false_eq_true, ivM, PK, show ((-1 : Int32) = 32) = False from eq_false (by decide), show ((-1 : Int32) = 10) = False from eq_false (by decide), ge, pR_65, pR_66, gM_58, gM_60, gM_59, sR_r, rp, rz, rl, pR_64]
  generalize ((m.r.sP (n2 q)).sPl (n2 q)).sSp 0 = r2 at *
  rw [Mx]
  have D := (D_94 (b' := b') (n := n) (s := s) (T := T) (z := z) R2 q2 h127' h129' hm rz rp rpl rsp).mono kp2 kr q1
  unfold bX5_go_50
  simp -implicitDefEqProofs only [Option.bind_some, bd_some, b2i_0, Bool.true_eq_false, Bool.false_eq_true, eq_self, if_true, if_false, not_true_eq_false, not_false_eq_true, G127, P129, G125, G126, G129]
  by_cases h1 : n2 to ≤ n2 most
  · simp -implicitDefEqProofs only [Option.bind_some, bd_some, b2i_0, Bool.true_eq_false, Bool.false_eq_true, eq_self, if_true, if_false, not_true_eq_false, not_false_eq_true, h1]; exact D
  · simp -implicitDefEqProofs only [Option.bind_some, bd_some, b2i_0, Bool.true_eq_false, Bool.false_eq_true, eq_self, if_true, if_false, not_true_eq_false, not_false_eq_true, h1]
    by_cases h2 : n2 q < n2 most
    · simp -implicitDefEqProofs only [Option.bind_some, bd_some, b2i_0, Bool.true_eq_false, Bool.false_eq_true, eq_self, if_true, if_false, not_true_eq_false, not_false_eq_true, h2]; exact D
    · have P1 : pI (ovs B (c2 :: T) z) (some (mNx B)) 129 (n2 most) = some (ovs B (c2.sI 129 (n2 most) :: T) z) := rd_put hB R2.t rfl
      have P2 : pI (ovs B (c2.sI 129 (n2 most) :: T) z) (some (mNx B)) 128 5 = some (ovs B ((c2.sI 129 (n2 most)).sI 128 5 :: T) z) := rd_put (c := c2.sI 129 (n2 most)) hB R2.t rfl
      simp -implicitDefEqProofs only [Option.bind_some, bd_some, b2i_0, Bool.true_eq_false, Bool.false_eq_true, eq_self, if_true, if_false, not_true_eq_false, not_false_eq_true, h2, P1, P2]
      refine TokR.mono (d := c2) (r2 := r2) (q := q) ⟨_, T, z, _, q, [], rfl, rfl, ⟨?_, ?_, fun ht => absurd (show (4 : Int32) = 2 from ht) (by decide)⟩, ((Kp.refl c2).sI (by omega) _).sI (by omega) _, (Kr.sPl (n2 most)).trans (Kr.sTok 4), (List.append_nil T).symm, ?_, rp, by omega, q2, ?_, by omega, by omega, Nat.le_refl _⟩ kp2 kr q1
      · rw [i_ne _ _ (by decide), i_self]; rfl
      · rw [i_self]; exact Or.inr (Or.inl ⟨Or.inr rfl, rfl⟩)
      · rw [i_ne _ _ (by decide), i_ne _ _ (by decide)]; exact h127'
      · rw [i_self]; exact Or.inr (Or.inl rfl)
end DTok2
