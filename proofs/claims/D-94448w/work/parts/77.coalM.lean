set_option linter.unusedVariables false
set_option linter.unusedSimpArgs false
set_option maxRecDepth 100000
section Coal2
variable {b b' : Mem} {n s : Nat} {x : XS} {m : MS} {H : HS} {C : List Cu} {h c : Nat} {K : Nat → Option (HS × List Cu)} {p hi : Int64} {a : Nat → Nat} {N : Nat} {cr : Nat → Bool}
theorem M_coal {q : Int32} (hq : -1 ≤ q) : ∀ (k f set many : Nat) (x : XS) (m : MS), set + k = 2 ^ N → k < f → Duo b x m H C h c K → Hnd x m H N a → x.paid = p → x.hiss = hi → (∀ u, u < set → m.c.carried u = b2i (crS H C a N p hi u)) →
    ∃ m', bX4_coalitions_26 f (some 106) q (n2 many) (n2 set) (mkM b' n s m) = some (coalS (crS H C a N p hi) q k set many, mkM b' n s m') ∧ Duo b x m' H C h c K := by
  intro k
  induction k with
  | zero =>
    intro f set many x m hk hf R A hp hi' hc
    obtain ⟨f, rfl⟩ : ∃ g, f = g + 1 := ⟨f - 1, by omega⟩
    have e : set = 2 ^ N := by omega
    subst e
    refine ⟨m, ?_, R⟩
    show bX4_coalitions_26B _ _ _ _ _ _ = _
    unfold bX4_coalitions_26B coalS
    simp -implicitDefEqProofs only [Option.bind_some, bd_some, b2i_0, Bool.true_eq_false, Bool.false_eq_true, eq_self, if_true, if_false, not_true_eq_false, not_false_eq_true, gM_102, A.mm, pow_shl N A.n8, show (n2 (2 ^ N) ≤ n2 (2 ^ N)) = True from eq_true (Int32.le_refl _)]
    by_cases hq : q = -1
    · rw [if_neg (fun h => h hq), if_pos hq]
    · rw [if_pos hq, if_neg hq]
  | succ k ih =>
    intro f set many x m hk hf R A hp hi' hc
    obtain ⟨f, rfl⟩ : ∃ g, f = g + 1 := ⟨f - 1, by omega⟩
    have h256 := pow_le8 A.n8
    have hs : set < 2 ^ N := by omega
    have s256 : set < 256 := by omega
    have hF : 300 < hcFuel := by unfold hcFuel; omega
    have le : (n2 (2 ^ N) ≤ n2 set) = False := by rw [n2_le (by omega) (by omega)]; exact eq_false (by omega)
    have p1 : m.seatsPaid = p := R.paid.symm.trans hp
    have p2 : m.seatsHiss = hi := R.hiss.symm.trans hi'
    obtain ⟨g, z, e2, D, q1, q2, -⟩ := M_hD (b' := b') (n := n) (s := s) R (p ||| hdsS a set N) hi
    have ec : decide (n2 H.carry ≤ hgtS H C (p ||| hdsS a set N) hi 61) = crS H C a N p hi set := by unfold crS; rfl
    rw [ec] at q2
    have q2' : (m.lay g z).n.nightCarries = b2i (crS H C a N p hi set) := q2
    have q3' : ((m.lay g z).sCd (upq m.c.carried set (b2i (crS H C a N p hi set)))).n.nightCarries = b2i (crS H C a N p hi set) := q2
    have uB' : ∀ v : Bool, uB (mkM b' n s (m.lay g z)) (some 120) (n2 set) (b2i v) = some (mkM b' n s ((m.lay g z).sCd (upq m.c.carried set (b2i v)))) := fun v => by
      rw [uM_120, ifx_k s256 (by omega), n2_nat (by omega), nz_b2i, lay_carried]; unfold MS.sCd; rfl
    have A3 : Hnd x ((m.lay g z).sCd (upq m.c.carried set (b2i (crS H C a N p hi set)))) H N a := (A.lay).sCd
    have cc : ∀ u, u < set + 1 → ((m.lay g z).sCd (upq m.c.carried set (b2i (crS H C a N p hi set)))).c.carried u = b2i (crS H C a N p hi u) := fun u hu => by
      show upq m.c.carried set _ u = _
      by_cases eu : u = set
      · rw [eu, upq_self]
      · rw [upq_ne _ _ eu]; exact hc u (by omega)
    have I := fun many' => ih f (set + 1) many' x ((m.lay g z).sCd (upq m.c.carried set (b2i (crS H C a N p hi set)))) (by omega) (by omega) D.sCd A3 hp hi' cc
    show ∃ m', bX4_coalitions_26B (bX4_coalitions_26 f) _ _ _ _ _ = _ ∧ _
    unfold bX4_coalitions_26B
    simp -implicitDefEqProofs only [coalS]
    simp -implicitDefEqProofs only [Option.bind_some, bd_some, b2i_0, Bool.true_eq_false, Bool.false_eq_true, eq_self, if_true, if_false, not_true_eq_false, not_false_eq_true, gM_102, A.mm, pow_shl N A.n8, le, gM_71, gM_72, p1, p2, ivM, M_hands A, e2, gM_104, gM_100, q2', uB', q3']
    generalize hcFuel = fu at hF ⊢
    rcases Bool.eq_false_or_eq_true (crS H C a N p hi set) with e | e
    · have E := M_bare (b' := b') (n := n) (s := s) (kk := bX4_coalitions_26 f) (v1 := q) (v2 := n2 many) (cr := crS H C a N p hi) s256 (fun u hu => cc u (by omega)) set fu 0 (by omega) (by omega) (fun w hw => absurd hw (Nat.not_lt_zero w))
      rw [e] at E ⊢
      have E' : bX4_coalitions_74 (bX4_coalitions_26 f) fu (some 106) q (n2 many) (n2 set) (b2i true) 0 (mkM b' n s ((m.lay g z).sCd (upq m.c.carried set (b2i true)))) = _ := E
      rw [E']
      unfold bX4_coalitions_117 bX4_coalitions_135
      simp -implicitDefEqProofs only [Option.bind_some, bd_some, b2i_0, Bool.true_eq_false, Bool.false_eq_true, eq_self, if_true, if_false, not_true_eq_false, not_false_eq_true, true_and, show n2 set + 1 = n2 (set + 1) from n2_add set 1, show n2 many + 1 = n2 (many + 1) from n2_add many 1]
      rw [e] at I
      rcases Bool.eq_false_or_eq_true (bareS (crS H C a N p hi) set) with d | d
      · simp -implicitDefEqProofs only [Option.bind_some, bd_some, b2i_0, Bool.true_eq_false, Bool.false_eq_true, eq_self, if_true, if_false, not_true_eq_false, not_false_eq_true, d]
        by_cases hm : n2 many = q
        · simp -implicitDefEqProofs only [Option.bind_some, bd_some, b2i_0, Bool.true_eq_false, Bool.false_eq_true, eq_self, if_true, if_false, not_true_eq_false, not_false_eq_true, hm]
          refine ⟨_, rfl, ?_⟩
          exact D.sCd
        · simp -implicitDefEqProofs only [Option.bind_some, bd_some, b2i_0, Bool.true_eq_false, Bool.false_eq_true, eq_self, if_true, if_false, not_true_eq_false, not_false_eq_true, hm]; exact I (many + 1)
      · simp -implicitDefEqProofs only [Option.bind_some, bd_some, b2i_0, Bool.true_eq_false, Bool.false_eq_true, eq_self, if_true, if_false, not_true_eq_false, not_false_eq_true, d]; exact I many
    · obtain ⟨fu, rfl⟩ : ∃ g, fu = g + 1 := ⟨fu - 1, by omega⟩
      rw [e] at I ⊢
      have E : bX4_coalitions_74 (bX4_coalitions_26 f) (fu + 1) (some 106) q (n2 many) (n2 set) (b2i false) 0 (mkM b' n s ((m.lay g z).sCd (upq m.c.carried set (b2i false)))) = bX4_coalitions_26 f (some 106) q (n2 many) (n2 (set + 1)) (mkM b' n s ((m.lay g z).sCd (upq m.c.carried set (b2i false)))) := by
        show bX4_coalitions_74B _ _ _ _ _ _ _ _ _ = _
        unfold bX4_coalitions_74B bX4_coalitions_117 bX4_coalitions_135
        simp -implicitDefEqProofs only [Option.bind_some, bd_some, b2i_0, Bool.true_eq_false, Bool.false_eq_true, eq_self, if_true, if_false, not_true_eq_false, not_false_eq_true, ite_self, show n2 set + 1 = n2 (set + 1) from n2_add set 1]
      rw [E]
      simp -implicitDefEqProofs only [Option.bind_some, bd_some, b2i_0, Bool.true_eq_false, Bool.false_eq_true, eq_self, if_true, if_false, not_true_eq_false, not_false_eq_true, false_and]
      exact I many
theorem coalS_neg {q : Int32} (hq : ¬ -1 ≤ q) : ∀ k set many, many + k ≤ 300 → coalS cr q k set many = -1
  | 0, _, many, _ => by
    unfold coalS; rw [if_neg (fun h => hq (by rw [h]; decide))]
  | k + 1, set, many, hm => by
    simp -implicitDefEqProofs only [coalS]
    have ne : ¬ n2 many = q := fun h => hq (by rw [← h, li_m1, in_le (by omega) (by omega) (by omega)]; omega)
    rw [coalS_neg hq k (set + 1) many (by omega), coalS_neg hq k (set + 1) (many + 1) (by omega), if_neg ne, ite_self]
theorem C_coalitions (R : Duo b x m H C h c K) (q : Int32) : ∃ r x' m', fX1_coalitions (some 64) q (mkX b x) = some (r, mkX b x') ∧ fX4_coalitions (some 106) q (mkM b' n s m) = some (r, mkM b' n s m') ∧ Duo b x' m' H C h c K := by
  have T := R.th (v := 0)
  have hF : 256 < hcFuel := by unfold hcFuel; omega
  unfold fX1_coalitions fX4_coalitions
  generalize hcFuel = fu at hF ⊢
  obtain ⟨k, k1, -, ⟨m', c1, e1, D⟩ | ⟨F, m', c1, e0, e1, D⟩ | ⟨F, m', a, c1, c2, e0, e1, D, A⟩⟩ := D_eight (b' := b') (n := n) (s := s) T
  · simp -implicitDefEqProofs only [Option.bind_some, bd_some, b2i_0, Bool.true_eq_false, Bool.false_eq_true, eq_self, if_true, if_false, not_true_eq_false, not_false_eq_true, pM_55', ivX R.hb, X_take R.hb, k1, X_isIn, c1, ivM, e1]
    exact ⟨_, _, _, rfl, rfl, D⟩
  · simp -implicitDefEqProofs only [Option.bind_some, bd_some, b2i_0, Bool.true_eq_false, Bool.false_eq_true, eq_self, if_true, if_false, not_true_eq_false, not_false_eq_true, pM_55', ivX R.hb, X_take R.hb, k1, X_isIn, c1, ivM, e1, gX_11 R.hb, e0]
    exact ⟨_, _, _, rfl, rfl, D⟩
  · have h256 := pow_le8 A.n8
    obtain ⟨y, G, e3⟩ := X_coal1 (q := q) (2 ^ k) fu 0 (x.tp0.sAsk F) m' (by omega) (by omega) D A rfl rfl (fun u hu => absurd hu (Nat.not_lt_zero u))
    simp -implicitDefEqProofs only [Option.bind_some, bd_some, b2i_0, Bool.true_eq_false, Bool.false_eq_true, eq_self, if_true, if_false, not_true_eq_false, not_false_eq_true, pM_55', ivX R.hb, X_take R.hb, k1, X_isIn, c1, c2, ivM, e1, gX_11 R.hb, e0, show (1 : Int32) = 0 ↔ False by decide]
    by_cases hq : -1 ≤ q
    · obtain ⟨m2, e4, D2⟩ := M_coal (b' := b') (n := n) (s := s) (q := q) hq (2 ^ k) fu 0 0 (x.tp0.sAsk F) m' (by omega) (by omega) D A rfl rfl (fun u hu => absurd hu (Nat.not_lt_zero u))
      rw [if_pos hq]
      exact ⟨_, _, _, e3, e4, (D2.nX).sCs⟩
    · rw [if_neg hq]
      rw [coalS_neg hq _ _ _ (by omega)] at e3
      exact ⟨_, _, _, e3, rfl, (D.nX).sCs⟩
end Coal2
