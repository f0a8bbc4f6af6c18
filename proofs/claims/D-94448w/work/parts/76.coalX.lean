set_option linter.unusedVariables false
set_option linter.unusedSimpArgs false
set_option maxRecDepth 100000
section Coal2
variable {b b' : Mem} {n s : Nat} {x : XS} {m : MS} {H : HS} {C : List Cu} {h c : Nat} {K : Nat → Option (HS × List Cu)} {p hi : Int64} {a : Nat → Nat} {N : Nat} {cr : Nat → Bool}
theorem Hnd.sCs {f : Nat → Int32} (A : Hnd x m H N a) : Hnd (x.sCs f) m H N a := ⟨A.n1, A.n8, A.xa, A.ma, A.mm, A.sz⟩
theorem Hnd.sCd {f : Nat → Int32} (A : Hnd x m H N a) : Hnd x (m.sCd f) H N a := ⟨A.n1, A.n8, A.xa, A.ma, A.mm, A.sz⟩
theorem Hnd.lay {g : Nat → Int64} {z : MN} (A : Hnd x m H N a) : Hnd x (m.lay g z) H N a := ⟨A.n1, A.n8, A.xa, A.ma, A.mm, A.sz⟩
theorem sCs_paid {f : Nat → Int32} : (x.sCs f).paid = x.paid := rfl
theorem sCs_hiss {f : Nat → Int32} : (x.sCs f).hiss = x.hiss := rfl
theorem X_coal1 {q : Int32} : ∀ (k f set : Nat) (x : XS) (m : MS), set + k = 2 ^ N → k < f → Duo b x m H C h c K → Hnd x m H N a → x.paid = p → x.hiss = hi → (∀ u, u < set → x.carriesSet u = b2i (crS H C a N p hi u)) →
    ∃ y F, bX1_coalitions_35 f (some 64) q (n2 N) (n2 set) (mkX b x) = some (coalS (crS H C a N p hi) q (2 ^ N) 0 0, mkX b ((x.setN false y).sCs F)) := by
  intro k
  induction k with
  | zero =>
    intro f set x m hk hf R A hp hi' hc
    obtain ⟨f, rfl⟩ : ∃ g, f = g + 1 := ⟨f - 1, by omega⟩
    have h256 := pow_le8 A.n8
    have e : set = 2 ^ N := by omega
    subst e
    refine ⟨x.n false, x.carriesSet, ?_⟩
    have hF : 300 < hcFuel := by unfold hcFuel; omega
    have ex : (x.setN false (x.n false)).sCs x.carriesSet = x := by rw [setN_self]; exact sCs_self x
    rw [ex]
    show bX1_coalitions_35B _ _ _ _ _ _ = _
    unfold bX1_coalitions_35B
    rw [pow_shl N A.n8, if_pos (Int32.le_refl _)]
    generalize hcFuel = fu at hF ⊢
    exact X_coal2 (q := q) R.hb A.n8 hc (2 ^ N) fu 0 0 (by omega) (by omega)
  | succ k ih =>
    intro f set x m hk hf R A hp hi' hc
    obtain ⟨f, rfl⟩ : ∃ g, f = g + 1 := ⟨f - 1, by omega⟩
    have h256 := pow_le8 A.n8
    have hs : set < 2 ^ N := by omega
    have s256 : set < 256 := by omega
    have le : (n2 (2 ^ N) ≤ n2 set) = False := by rw [n2_le (by omega) (by omega)]; exact eq_false (by omega)
    obtain ⟨y, g, z, e1, e2, D, A2, q1, q2⟩ := D_hh (b' := b) (n := 0) (s := 0) R A (x.paid ||| hdsS a set N) x.hiss
    have e3 := X_isCarried R.hb R.XH e1
    have ec : decide (n2 H.carry ≤ hgtS H C (x.paid ||| hdsS a set N) x.hiss 61) = crS H C a N p hi set := by unfold crS; rw [hp, hi']
    have e3' : fX1_isCarried (some 64) (some h) (x.paid ||| hdsS a set N) (mkX b x) = some (b2i (crS H C a N p hi set), mkX b (x.setN false y)) := by rw [e3, ec]
    have A3 : Hnd ((x.setN false y).sCs (upq x.carriesSet set (b2i (crS H C a N p hi set)))) (m.lay g z) H N a := A2.sCs
    have pp : ((x.setN false y).sCs (upq x.carriesSet set (b2i (crS H C a N p hi set)))).paid = p := by rw [sCs_paid, setN_paid]; exact hp
    have hh : ((x.setN false y).sCs (upq x.carriesSet set (b2i (crS H C a N p hi set)))).hiss = hi := by rw [sCs_hiss, setN_hiss]; exact hi'
    obtain ⟨y2, F, e4⟩ := ih f (set + 1) ((x.setN false y).sCs (upq x.carriesSet set (b2i (crS H C a N p hi set)))) (m.lay g z) (by omega) (by omega) D.sCs A3 pp hh (fun u hu => by
      show upq x.carriesSet set _ u = _
      by_cases eu : u = set
      · rw [eu, upq_self]
      · rw [upq_ne _ _ eu]; exact hc u (by omega))
    refine ⟨y2, F, Eq.trans ?_ (e4.trans ?_)⟩
    · show bX1_coalitions_35B (bX1_coalitions_35 f) _ _ _ _ _ = _
      unfold bX1_coalitions_35B
      simp -implicitDefEqProofs only [Option.bind_some, bd_some, b2i_0, Bool.true_eq_false, Bool.false_eq_true, eq_self, if_true, if_false, not_true_eq_false, not_false_eq_true, pow_shl N A.n8, le, gX_13 R.hb, gX_4 R.hb, R.xh, gX_5 R.hb, ivX R.hb, X_hands R.hb A R.ok hs, e3', uX_97 R.hb, ifx_k s256 (show set < 2147483648 by omega), n2_nat (show set < 2147483648 by omega), nz_b2i, show n2 set + 1 = n2 (set + 1) from n2_add set 1, XS.sCs, setN_carriesSet]
    · simp -implicitDefEqProofs only [XS.sCs, XS.setN, mk_XS_taped, mk_XS_fault, mk_XS_bought, mk_XS_worthMany, mk_XS_beganFirst, mk_XS_beganSecond, mk_XS_seed, mk_XS_arranged, mk_XS_paid, mk_XS_hiss, mk_XS_orders, mk_XS_house, mk_XS_cues, mk_XS_tape, mk_XS_states, mk_XS_asked, mk_XS_carriesSet, mk_XS_heights, mk_XS_worth, mk_XS_mouths, mk_XS_sided, mk_XS_keptHouse, mk_XS_keptPaid, mk_XS_keptHiss, mk_XS_kMod, mk_XS_kData, mk_XS_kSize, mk_XS_out, mk_XS_n0, mk_XS_n1]
end Coal2
