set_option linter.unusedVariables false
set_option linter.unusedSimpArgs false
set_option maxRecDepth 100000
/-! ===== old cells kept; commands that throw ===== -/
def Ext (b st : Mem) : Prop := mNx b ≤ mNx st ∧ ∀ a, a < mNx b → dyn a → Sm b st a
theorem Ext.refl (b : Mem) : Ext b b := ⟨Nat.le_refl _, fun a _ _ => Sm.refl b a⟩
theorem Ext.trans {b c d : Mem} (h : Ext b c) (k : Ext c d) : Ext b d := ⟨Nat.le_trans h.1 k.1, fun a ha hd => (h.2 a ha hd).trans (k.2 a (Nat.lt_of_lt_of_le ha h.1) hd)⟩
/-- as Ext, but for arrays of objects -/
def ExtT (b st : Mem) : Prop := mNx b ≤ mNx st ∧ ∀ a, a < mNx b → dyn a → mTag b a ≠ 104 → Sm b st a
theorem Ext.t {b st : Mem} (h : Ext b st) : ExtT b st := ⟨h.1, fun a ha hd _ => h.2 a ha hd⟩
theorem CondAt.extT {b st : Mem} (E : ExtT b st) : ∀ {c : Cd} {a : Nat}, CondAt b c a → CondAt st c a
  | .neg c, a, ⟨⟨h1, h2⟩, h3, p, h4, h5⟩ => by
    obtain ⟨s1, -, -, -, s5⟩ := E.2 a h2 h1 (by rw [h3]; decide)
    exact ⟨⟨h1, Nat.lt_of_lt_of_le h2 E.1⟩, s1.trans h3, p, by rw [s5]; exact h4, CondAt.extT E h5⟩
  | .add c d, a, ⟨⟨h1, h2⟩, h3, p, q, h4, h5, h6, h7⟩ => by
    obtain ⟨s1, -, -, -, s5⟩ := E.2 a h2 h1 (by rw [h3]; decide)
    exact ⟨⟨h1, Nat.lt_of_lt_of_le h2 E.1⟩, s1.trans h3, p, q, by rw [s5]; exact h4, by rw [s5]; exact h5, CondAt.extT E h6, CondAt.extT E h7⟩
  | .sub c d, a, ⟨⟨h1, h2⟩, h3, p, q, h4, h5, h6, h7⟩ => by
    obtain ⟨s1, -, -, -, s5⟩ := E.2 a h2 h1 (by rw [h3]; decide)
    exact ⟨⟨h1, Nat.lt_of_lt_of_le h2 E.1⟩, s1.trans h3, p, q, by rw [s5]; exact h4, by rw [s5]; exact h5, CondAt.extT E h6, CondAt.extT E h7⟩
  | .var w, a, ⟨⟨h1, h2⟩, h3, h4, h5, h6, h7⟩ => by
    obtain ⟨s1, -, s3, -, -⟩ := E.2 a h2 h1 (by rw [h4]; have := h3.2.1; omega)
    exact ⟨⟨h1, Nat.lt_of_lt_of_le h2 E.1⟩, h3, s1.trans h4, by rw [s3]; exact h5, by rw [s3]; exact h6, fun h => by rw [s3]; exact h7 h⟩
  | .num _, _, h => h.elim
  | .mulL _ _, _, h => h.elim
  | .mulR _ _, _, h => h.elim
theorem CondAt.ext {b st : Mem} (E : Ext b st) {c : Cd} {a : Nat} (h : CondAt b c a) : CondAt st c a := h.extT E.t
section ExtH
variable {b st : Mem} {h c e : Nat} {H : HS} {C : List Cu} {k : Cu}
theorem XHouse.tg (X : XHouse b h H) {j : Nat} (hj : j < 14) : mTag b (h + j) ≠ 104 := by
  rcases (show j = 0 ∨ j = 1 ∨ j = 2 ∨ j = 3 ∨ j = 4 ∨ j = 5 ∨ j = 6 ∨ j = 7 ∨ ∃ a, j = 8 + a ∧ a < 6 from by
    by_cases h8 : j < 8
    · omega
    · have : ∃ a, j = 8 + a ∧ a < 6 := ⟨j - 8, by omega, by omega⟩
      simp -implicitDefEqProofs only [this, or_true]) with e | e | e | e | e | e | e | e | ⟨a, e, ha⟩
  · rw [e, Nat.add_zero, X.tag]; decide
  · rw [e, X.t1]; decide
  · rw [e, X.t2]; decide
  · rw [e, X.t3]; decide
  · rw [e, X.t4]; decide
  · rw [e, X.t5]; decide
  · rw [e, X.t6]; decide
  · rw [e, X.t7]; decide
  · rw [e, ← Nat.add_assoc, X.t8 a ha]; decide
theorem XHouse.extT (E : ExtT b st) (X : XHouse b h H) : XHouse st h H := by
  have s : ∀ j, j < 14 → Sm b st (h + j) := fun j hj => E.2 _ (X.ltJ hj) (X.dynJ hj) (X.tg hj)
  have s0 : Sm b st h := s 0 (by decide)
  refine ⟨X.at_, Nat.le_trans X.lt E.1, s0.1.trans X.tag, ?_, ?_, ?_, ?_, ?_, ?_, ?_, ?_, ?_, ?_, ?_, ?_, ?_, ?_, ?_, ?_, ?_, ?_, ?_, ?_, ?_, ?_, ?_, ?_, ?_, ?_, ?_, ?_, ?_, ?_, ?_, ?_, ?_, ?_, ?_, ?_, ?_⟩
  · rw [s0.2.2.2.2]; exact X.r34
  · rw [s0.2.2.2.2]; exact X.r35
  · rw [s0.2.2.2.2]; exact X.r36
  · rw [s0.2.2.2.2]; exact X.r37
  · rw [s0.2.2.2.2]; exact X.r38
  · rw [s0.2.2.2.2]; exact X.r39
  · rw [s0.2.2.2.2]; exact X.r40
  · exact (s 1 (by decide)).1.trans X.t1
  · exact (s 2 (by decide)).1.trans X.t2
  · exact (s 3 (by decide)).1.trans X.t3
  · exact (s 4 (by decide)).1.trans X.t4
  · exact (s 5 (by decide)).1.trans X.t5
  · exact (s 6 (by decide)).1.trans X.t6
  · exact (s 7 (by decide)).1.trans X.t7
  · intro a ha; rw [Nat.add_assoc]; refine (s (8 + a) (by omega)).1.trans ?_; rw [← Nat.add_assoc]; exact X.t8 a ha
  · exact (s 1 (by decide)).2.1.trans X.l1
  · exact (s 2 (by decide)).2.1.trans X.l2
  · exact (s 3 (by decide)).2.1.trans X.l3
  · exact (s 4 (by decide)).2.1.trans X.l4
  · exact (s 5 (by decide)).2.1.trans X.l5
  · exact (s 6 (by decide)).2.1.trans X.l6
  · exact (s 7 (by decide)).2.1.trans X.l7
  · intro a ha; rw [Nat.add_assoc]; refine (s (8 + a) (by omega)).2.1.trans ?_; rw [← Nat.add_assoc]; exact X.l8 a ha
  · intro a ha; rw [(s 7 (by decide)).2.2.2.2]; exact X.r7 a ha
  · rw [s0.2.2.1]; exact X.rows
  · rw [s0.2.2.1]; exact X.cols
  · rw [s0.2.2.1]; exact X.carry
  · rw [s0.2.2.1]; exact X.paid
  · rw [s0.2.2.1]; exact X.byRows
  · intro v hv; rw [(s 1 (by decide)).2.2.1]; exact X.kind v hv
  · intro r hr; rw [(s 2 (by decide)).2.2.1]; exact X.price r hr
  · intro r hr; rw [(s 3 (by decide)).2.2.1]; exact X.leaves r hr
  · intro k hk hl; rw [(s 4 (by decide)).2.2.2.2]; exact X.up0 k hk hl
  · intro k c o hk hl
    obtain ⟨q1, a, q2, q3⟩ := X.up k c o hk hl
    refine ⟨?_, a, ?_, q3.extT E⟩
    · rw [(s 6 (by decide)).2.2.1]; exact q1
    · rw [(s 4 (by decide)).2.2.2.2]; exact q2
  · intro k hk hl; rw [(s 5 (by decide)).2.2.2.2]; exact X.down0 k hk hl
  · intro k c o hk hl
    obtain ⟨q1, a, q2, q3⟩ := X.down k c o hk hl
    refine ⟨?_, a, ?_, q3.extT E⟩
    · rw [(s 6 (by decide)).2.2.1]; exact q1
    · rw [(s 5 (by decide)).2.2.2.2]; exact q2
  · intro a v ha hv; rw [Nat.add_assoc, (s (8 + a) (by omega)).2.2.2.1, ← Nat.add_assoc]; exact X.area a v ha hv
theorem XHouse.ext (E : Ext b st) (X : XHouse b h H) : XHouse st h H := X.extT E.t
theorem CueAt.extT (E : ExtT b st) (X : CueAt b e k) : CueAt st e k := by
  have tg := cu_tag X
  obtain ⟨⟨h1, h2⟩, h3, h4, h5⟩ := X
  obtain ⟨s1, -, s3, -, -⟩ := E.2 e h2 h1 (by omega)
  exact ⟨⟨h1, Nat.lt_of_lt_of_le h2 E.1⟩, s1.trans h3, by rw [s3]; exact h4, fun h => by rw [s3]; exact h5 h⟩
theorem CueAt.ext (E : Ext b st) (X : CueAt b e k) : CueAt st e k := X.extT E.t
theorem XCues.ext (E : Ext b st) (X : XCues b c C) : XCues st c C := by
  have s := E.2 c X.dn.2 X.dn.1
  refine ⟨⟨X.dn.1, Nat.lt_of_lt_of_le X.dn.2 E.1⟩, s.1.trans X.tag, by rw [s.2.2.1]; exact X.size, X.len, X.ok, ?_⟩
  obtain ⟨d, d1, ⟨d2, d3⟩, d4, d5, d6⟩ := X.data
  have t := E.2 d d3 d2
  refine ⟨d, by rw [s.2.2.2.2]; exact d1, ⟨d2, Nat.lt_of_lt_of_le d3 E.1⟩, t.1.trans d4, by rw [t.2.1]; exact d5, fun i hi => ?_⟩
  obtain ⟨e, e1, e2⟩ := d6 i hi
  exact ⟨e, by rw [t.2.2.2.2]; exact e1, e2.ext E⟩
theorem StrAt.extT {a : Nat} {l : List Nat} (E : ExtT b st) (X : StrAt b a l) : StrAt st a l := by
  obtain ⟨⟨h1, h2⟩, h3, h4, d, d1, ⟨d2, d3⟩, d4, d5, d6⟩ := X
  have s := E.2 a h2 h1 (by rw [h3]; decide)
  have t := E.2 d d3 d2 (by rw [d4]; decide)
  exact ⟨⟨h1, Nat.lt_of_lt_of_le h2 E.1⟩, s.1.trans h3, by rw [s.2.2.1]; exact h4, d, by rw [s.2.2.2.2]; exact d1, ⟨d2, Nat.lt_of_lt_of_le d3 E.1⟩, t.1.trans d4, t.2.1.trans d5, fun i hi => by rw [t.2.2.1]; exact d6 i hi⟩
theorem StrAt.ext {a : Nat} {l : List Nat} (E : Ext b st) (X : StrAt b a l) : StrAt st a l := X.extT E.t
theorem Frz.ext (E : Ext b st) (hb : 131 ≤ mNx b) (X : Frz b) : Frz st := by
  have t := E.2 52 (by omega) (by unfold dyn; omega)
  exact ⟨fun i hi => (X.1 i hi).ext E, t.1.trans X.2.1, t.2.1.trans X.2.2⟩
theorem KRel.ext (E : Ext b st) {kh : Rf} {ik : Int32} {r : Nat → Int32} {xp mp xi mi : Int64} : ∀ {o : Option (HS × List Cu)}, KRel b kh ik r xp mp xi mi o → KRel st kh ik r xp mp xi mi o
  | none, hk => hk
  | some (H, C), ⟨h, h1, h2, h3⟩ => ⟨h, h1, h2.ext E, h3⟩
theorem Duo.ext {x : XS} {m : MS} {K : Nat → Option (HS × List Cu)} (E : Ext b st) (R : Duo b x m H C h c K) : Duo st x m H C h c K := by
  refine ⟨Nat.le_trans R.hb E.1, R.fz.ext E R.hb, R.ok, R.ar, R.XH.ext E, R.xh, R.XC.ext E, R.xc, R.MH, R.MC, R.lays, R.l01, R.tape, R.len, R.fault, R.paid, R.hiss, R.bought, R.worth, R.sided, R.b1, R.b2, R.arranged, fun k hk => (R.kept k hk).ext E, ?_⟩
  rcases R.keptC with q | ⟨q1, d, q2, ⟨q3, q4, q5⟩, q6, q7, q8⟩
  · exact Or.inl q
  · have t := E.2 d q4 q3
    refine Or.inr ⟨q1, d, q2, ⟨q3, Nat.lt_of_lt_of_le q4 E.1, q5⟩, t.1.trans q6, by rw [t.2.1]; exact q7, fun k hk => ?_⟩
    obtain ⟨e, e1, ⟨e2, e3, e4⟩, e5⟩ := q8 k hk
    have u := E.2 e e3 e2
    exact ⟨e, by rw [t.2.2.2.2]; exact e1, ⟨e2, Nat.lt_of_lt_of_le e3 E.1, u.1.trans e4⟩, fun H' C' hk' => (e5 H' C' hk').ext E⟩
end ExtH
section Grow
variable {b b' st : Mem} {n s : Nat} {x : XS} {m : MS} {H : HS} {C : List Cu} {h c : Nat} {K : Nat → Option (HS × List Cu)}
theorem grow_of (hb : 131 ≤ mNx b) (hx : mNx b ≤ mNx st) (hh : ∀ a, a < mNx b → Sm (mkX b x) st a) : mkX st x = st ∧ Ext b st := by
  refine ⟨mkX_same (b := b) (fun a hd => hh a ?_), hx, fun a ha hd => ?_⟩
  · unfold dyn at hd; omega
  · obtain ⟨s1, s2, s3, s4, s5⟩ := hh a ha
    exact ⟨s1.trans (ov_tag hd), s2.trans (ov_len hd), s3.trans (ov_I hd), s4.trans (ov_J hd), s5.trans (ov_A hd)⟩
theorem Sm_new {st : Mem} {t l z a : Nat} (ha : a < mNx st) : Sm st (mNew st t l z) a := by
  have ne : a ≠ mNx st := by omega
  exact ⟨up1_nq _ _ ne, up1_nq _ _ ne, up1_nq _ _ ne, up1_nq _ _ ne, up1_nq _ _ ne⟩
/-- how much a call may make -/
def Ans (b b' : Mem) : Prop := mNx b ≤ mNx b' ∧ mNx b' ≤ mNx b + 9000 ∧ mNs b ≤ mNs b' ∧ mNs b' ≤ mNs b + 110000
theorem Ans.refl (b : Mem) : Ans b b := ⟨Nat.le_refl _, Nat.le_add_right _ _, Nat.le_refl _, Nat.le_add_right _ _⟩
theorem X_need1 (st : Mem) : fX1_need 1 st = some (.inl (), st) := rfl
theorem X_need0 (R : Duo b x m H C h c K) : ∃ b2, fX1_need 0 (mkX b x) = some (.inr (mNx b), mkX b2 x) ∧ mTag (mkX b2 x) (mNx b) = 21 ∧ mNx b < mNx (mkX b2 x) ∧ Ext b b2 ∧ Ans b b2 := by
  have hb := R.hb
  obtain ⟨g1, g2⟩ := grow_of (x := x) (st := mNew (mkX b x) 21 0 6) hb (Nat.le_succ _) (fun a ha => Sm_new ha)
  have tg : mTag (mNew (mkX b x) 21 0 6) (mNx b) = 21 := up1_at _ _ _
  have mA0 : mA (mNew (mkX b x) 21 0 6) (mNx b) 163 = none := by
    show up1 (mkX b x).2.2.2.2.1 (mNx b) (fun _ => none) (mNx b) 163 = none
    rw [up1_at]
  have lt : mNx b < mNx (mNew (mkX b x) 21 0 6) := Nat.lt_succ_self _
  refine ⟨mNew (mkX b x) 21 0 6, ?_, by rw [g1]; exact tg, by rw [g1]; exact lt, g2, ⟨Nat.le_succ _, ?_, ?_, ?_⟩⟩
  · rw [g1]
    unfold fX1_need
    rw [if_neg (fun h => h rfl)]
    have e1 : nO (mkX b x) 21 = some (some (mNx b), mNew (mkX b x) 21 0 6) := if_pos ⟨by decide, by decide⟩
    rw [e1, bd_some]
    have e2 : exi 21 (mNew (mkX b x) 21 0 6) (some (mNx b)) = some (mNew (mkX b x) 21 0 6) := if_pos ⟨by omega, lt, tg, mA0⟩
    rw [e2, Option.bind_some]
    exact if_pos ⟨by omega, lt⟩
  · show mNx b + 1 ≤ _; omega
  · show mNs b ≤ mNs b + 6; omega
  · show mNs b + 6 ≤ _; omega
def XS.sOut (x : XS) (v : Int64) : XS := (XS.mk (x.taped) (x.fault) (x.bought) (x.worthMany) (x.beganFirst) (x.beganSecond) (x.seed) (x.arranged) (x.paid) (x.hiss) (x.orders) (x.house) (x.cues) (x.tape) (x.states) (x.asked) (x.carriesSet) (x.heights) (x.worth) (x.mouths) (x.sided) (x.keptHouse) (x.keptPaid) (x.keptHiss) (x.kMod) (x.kData) (x.kSize) (upq x.out 0 v) (x.n0) (x.n1))
theorem Duo.sOut {v : Int64} (R : Duo b x m H C h c K) : Duo b (x.sOut v) m H C h c K := ⟨R.hb, R.fz, R.ok, R.ar, R.XH, R.xh, R.XC, R.xc, R.MH, R.MC, R.lays, R.l01, R.tape, R.len, R.fault, R.paid, R.hiss, R.bought, R.worth, R.sided, R.b1, R.b2, R.arranged, R.kept, R.keptC⟩
theorem uX_130' (hb : 131 ≤ mNx b) {v : Int64} : uJ (mkX b x) (some 130) (0 : Int32) v = some (mkX b (x.sOut v)) := by
  rw [uX_130 hb, li_0, ifx_k (by decide) (by decide), n2_nat (by decide)]; unfold XS.sOut; rfl
theorem M_throws (v : Bool) : fX4_throwsIf (some 106) (b2i v) (mkM b' n s m) = some (b2i v, mkM b' n s (m.th (b2i v))) := by
  unfold fX4_throwsIf bX4_throwsIf_10
  cases v
  · simp -implicitDefEqProofs only [Option.bind_some, bd_some, b2i_0, Bool.true_eq_false, Bool.false_eq_true, eq_self, if_true, if_false, not_true_eq_false, not_false_eq_true, pM_55']; rfl
  · simp -implicitDefEqProofs only [Option.bind_some, bd_some, b2i_0, Bool.true_eq_false, Bool.false_eq_true, eq_self, if_true, if_false, not_true_eq_false, not_false_eq_true, pM_55']; rfl
/-- what a command that may throw answers in both -/
def Thr (b : Mem) (x : XS) (m : MS) (H : HS) (C : List Cu) (h c : Nat) (K : Nat → Option (HS × List Cu)) (rx : Option (Int32 × Mem)) (rm : Option (Int32 × Mem)) (b' : Mem) (n s : Nat) : Prop :=
  ∃ (k r : Int32) (b2 : Mem) (x' : XS) (m' : MS), rx = some (k, mkX b2 x') ∧ rm = some (r, mkM b' n s m') ∧ m'.thrown = k ∧ (k = 0 → x'.out 0 = r.toInt64) ∧ Duo b2 x' m' H C h c K ∧ Ans b b2
theorem thr_no (R : Duo b x m H C h c K) (hb : 131 ≤ mNx b) {rx rm : Option (Int32 × Mem)} {r : Int32} (e1 : rx = some (0, mkX b (x.sOut r.toInt64))) (e2 : rm = some (r, mkM b' n s (m.th 0))) : Thr b x m H C h c K rx rm b' n s :=
  ⟨0, r, b, x.sOut r.toInt64, m.th 0, e1, e2, rfl, fun _ => by show upq x.out 0 _ 0 = _; exact upq_self _ _ _, (R.th).sOut, Ans.refl b⟩
theorem C_seat (R : Duo b x m H C h c K) (a d : Int32) : Thr b x m H C h c K (fX0_seat (some 64) a d (some 130) (mkX b x)) (fX4_seat (some 106) a d (mkM b' n s m)) b' n s := by
  obtain ⟨b2, n1, n2', n3, n4, n5⟩ := X_need0 R
  have h64 := R.ok.size
  have R2 := R.ext n4
  have thrown : ∀ (rx rm : Option (Int32 × Mem)), rx = some (1, mkX b2 x) → rm = some (0, mkM b' n s (m.th 1)) → Thr b x m H C h c K rx rm b' n s := fun rx rm e1 e2 => ⟨1, 0, b2, x, m.th 1, e1, e2, rfl, fun hc => absurd hc (by decide), R2.th, n5⟩
  have hgo : ∀ {α : Type} (z : Option α), hg (mkX b2 x) (mNx b) 21 z = z := fun z => if_pos ⟨n2', n3⟩
  have btr : bt (some (Sum.inr (mNx b), mkX b2 x) : Option ((Unit ⊕ Nat) × Mem)) = fun (f : Unit → Mem → Option ((Int32 ⊕ Nat) × Mem)) => some (Sum.inr (mNx b), mkX b2 x) := rfl
  have bcr : ∀ (g : Nat → Mem → Option (Int32 × Mem)) (f : Int32 → Mem → Option (Int32 × Mem)), bc (some (Sum.inr (mNx b), mkX b2 x)) g f = g (mNx b) (mkX b2 x) := fun _ _ => rfl
  have bcl : ∀ (v : Int32) (st : Mem) (g : Nat → Mem → Option (Int32 × Mem)) (f : Int32 → Mem → Option (Int32 × Mem)), bc (some (Sum.inl v, st)) g f = f v st := fun _ _ _ _ => rfl
  have btl : ∀ (st : Mem) (f : Unit → Mem → Option ((Int32 ⊕ Nat) × Mem)), bt (some (Sum.inl (), st)) f = f () st := fun _ _ => rfl
  unfold fX0_seat fX1_seat fX4_seat bX1_seat_24 bX4_seat_18 bX1_seat_25 bX4_seat_23 bX0_seat_13
  simp -implicitDefEqProofs only [Option.bind_some, bd_some, b2i_0, Bool.true_eq_false, Bool.false_eq_true, eq_self, if_true, if_false, not_true_eq_false, not_false_eq_true, ivX R.hb, gX_4 R.hb, R.xh, xh_iv R.XH, X_isSeatI R.XH R.ok, ivM, M_isSeatI R.MH R.ok, X_isIn, M_isIn, n1, btr, bcr, hgo, X_need1, btl, show fX4_throwsIf (some 106) 1 (mkM b' n s m) = some (1, mkM b' n s (m.th 1)) from M_throws true, show fX4_throwsIf (some 106) 0 (mkM b' n s m) = some (0, mkM b' n s (m.th 0)) from M_throws false, show ((1 : Int32) = 0) = False from eq_false (by decide)]
  cases es : seatI H a
  · simp -implicitDefEqProofs only [Option.bind_some, bd_some, b2i_0, Bool.true_eq_false, Bool.false_eq_true, eq_self, if_true, if_false, not_true_eq_false, not_false_eq_true, bcr, hgo]; exact thrown _ _ rfl rfl
  obtain ⟨v, hv, hk, rfl⟩ := seatI_true es
  cases ed : decide ((0 : Int32) ≤ d ∧ d ≤ 4)
  · simp -implicitDefEqProofs only [Option.bind_some, bd_some, b2i_0, Bool.true_eq_false, Bool.false_eq_true, eq_self, if_true, if_false, not_true_eq_false, not_false_eq_true, bcr, hgo]; exact thrown _ _ rfl rfl
  have v64 : v < 64 := by omega
  have k6 := R.ok.kind v
  have hr := row_lt hv
  have hr8 := R.ok.rows
  have hcp := (pos_of_size hv).1
  have hc8 := R.ok.cols
  have T := R.th (v := 0)
  have kd : (m.th 0).s (6 + v) = n2 (H.kind v) := by
    have := T.MH.kind v v64; rw [if_pos hv] at this; exact this
  have lv : (m.th 0).s (78 + v / H.cols) = n2 (H.leaves (v / H.cols)) := T.MH.leaves _ (by omega)
  have r1 : aI (mkM b' n s (m.th 0)) (some 108) (1 : Int32) = some (n2 H.cols) := (rd_s' (k := 1) (by decide)).trans (congrArg some T.MH.cols)
  have i6 : (6 : Int32) + n2 v = n2 (6 + v) := n2_add 6 v
  have i78 : (78 : Int32) + n2 (v / H.cols) = n2 (78 + v / H.cols) := by rw [li_78, n2_add]
  have sp : (m.th 0).seatsPaid = x.paid := T.paid.symm
  have sh : (m.th 0).seatsHiss = x.hiss := T.hiss.symm
  simp -implicitDefEqProofs only [Option.bind_some, bd_some, b2i_0, Bool.true_eq_false, Bool.false_eq_true, eq_self, if_true, if_false, not_true_eq_false, not_false_eq_true, xh_34 R.XH, xh_kind R.XH hv h64, kindX_pos hk, xh_35 R.XH, xh_36 R.XH, xh_row R.XH R.ok hv, xh_price R.XH (show v / H.cols < 8 by omega), xh_leaves R.XH (show v / H.cols < 8 by omega), gX_5 R.hb, gX_6 R.hb, X_has _ v64, M_holds _ v64, uX_130' R.hb, gM_61, i6, rd_s' (show 6 + v < 681 by omega), kd, M_price T.MH R.ok hv, r1, n2_dv (show v < 2147483648 by omega) (show H.cols < 2147483648 by omega) hcp, i78, rd_s' (show 78 + v / H.cols < 681 by omega), lv, gM_71, gM_72, sp, sh]
  by_cases d0 : d = 0
  · simp -implicitDefEqProofs only [Option.bind_some, bd_some, b2i_0, Bool.true_eq_false, Bool.false_eq_true, eq_self, if_true, if_false, not_true_eq_false, not_false_eq_true, d0, bcl, uX_130' R.hb]
    exact thr_no R R.hb rfl (by rw [li_1, n2_sub (by omega)])
  · by_cases d1 : d = 1
    · simp -implicitDefEqProofs only [Option.bind_some, bd_some, b2i_0, Bool.true_eq_false, Bool.false_eq_true, eq_self, if_true, if_false, not_true_eq_false, not_false_eq_true, d1, bcl, uX_130' R.hb, show ((1 : Int32) = 0) = False from eq_false (by decide)]
      exact thr_no R R.hb rfl rfl
    · by_cases d2 : d = 2
      · simp -implicitDefEqProofs only [Option.bind_some, bd_some, b2i_0, Bool.true_eq_false, Bool.false_eq_true, eq_self, if_true, if_false, not_true_eq_false, not_false_eq_true, d2, bcl, uX_130' R.hb, show ((2 : Int32) = 0) = False from eq_false (by decide), show ((2 : Int32) = 1) = False from eq_false (by decide)]
        exact thr_no R R.hb rfl (by rw [li_1, nn_sub]; rfl)
      · by_cases d3 : d = 3
        · simp -implicitDefEqProofs only [Option.bind_some, bd_some, b2i_0, Bool.true_eq_false, Bool.false_eq_true, eq_self, if_true, if_false, not_true_eq_false, not_false_eq_true, d3, bcl, uX_130' R.hb, show ((3 : Int32) = 0) = False from eq_false (by decide), show ((3 : Int32) = 1) = False from eq_false (by decide), show ((3 : Int32) = 2) = False from eq_false (by decide)]
          cases tb x.paid v
          · simp -implicitDefEqProofs only [Option.bind_some, bd_some, b2i_0, Bool.true_eq_false, Bool.false_eq_true, eq_self, if_true, if_false, not_true_eq_false, not_false_eq_true, bcl, uX_130' R.hb]; exact thr_no R R.hb rfl rfl
          · simp -implicitDefEqProofs only [Option.bind_some, bd_some, b2i_0, Bool.true_eq_false, Bool.false_eq_true, eq_self, if_true, if_false, not_true_eq_false, not_false_eq_true, bcl, uX_130' R.hb]; exact thr_no R R.hb rfl rfl
        · simp -implicitDefEqProofs only [Option.bind_some, bd_some, b2i_0, Bool.true_eq_false, Bool.false_eq_true, eq_self, if_true, if_false, not_true_eq_false, not_false_eq_true, d0, d1, d2, d3]
          cases tb x.hiss v
          · simp -implicitDefEqProofs only [Option.bind_some, bd_some, b2i_0, Bool.true_eq_false, Bool.false_eq_true, eq_self, if_true, if_false, not_true_eq_false, not_false_eq_true, bcl, uX_130' R.hb]; exact thr_no R R.hb rfl rfl
          · simp -implicitDefEqProofs only [Option.bind_some, bd_some, b2i_0, Bool.true_eq_false, Bool.false_eq_true, eq_self, if_true, if_false, not_true_eq_false, not_false_eq_true, bcl, uX_130' R.hb]; exact thr_no R R.hb rfl rfl
theorem cu_what {e : Nat} {k : Cu} (K : CueAt b e k) (h4 : k.w ≤ 3) : vX18_what (some e) (mkX b x) = some (n2 k.w, mkX b x) := by
  obtain ⟨⟨K1, K2⟩, K3, K4, K5⟩ := K
  unfold vX18_what
  rcases (by omega : k.w = 3 ∨ k.w = 2 ∨ k.w = 0 ∨ k.w = 1) with w | w | w | w
  · rw [w, if_pos rfl] at K3
    rw [dtg K1 K3, if_neg (by decide), if_neg (by decide), if_neg (by decide), if_pos (by decide), div_ K1 K2 K3 (by decide), w]; rfl
  · rw [w, if_neg (by decide), if_pos rfl] at K3
    rw [dtg K1 K3, if_pos (by decide), div_ K1 K2 K3 (by decide), w]; rfl
  · rw [w, if_neg (by decide), if_neg (by decide), if_pos rfl] at K3
    rw [dtg K1 K3, if_neg (by decide), if_neg (by decide), if_pos (by decide), div_ K1 K2 K3 (by decide), w]; rfl
  · rw [w, if_neg (by decide), if_neg (by decide), if_neg (by decide)] at K3
    rw [dtg K1 K3, if_neg (by decide), if_pos (by decide), div_ K1 K2 K3 (by decide), w]; rfl
theorem cu_seat {e : Nat} {k : Cu} (K : CueAt b e k) (h4 : k.w ≤ 3) : vX18_seat (some e) (mkX b x) = some (i2 (cseat k), mkX b x) := by
  obtain ⟨⟨K1, K2⟩, K3, K4, K5⟩ := id K
  unfold vX18_seat cseat
  rcases (by omega : k.w = 3 ∨ k.w = 2 ∨ k.w = 0 ∨ k.w = 1) with w | w | w | w
  · rw [w, if_pos rfl] at K3
    rw [dtg K1 K3, if_pos (by decide), div_ K1 K2 K3 (by decide), if_pos w]; rfl
  · rw [w, if_neg (by decide), if_pos rfl] at K3
    rw [dtg K1 K3, if_neg (by decide), if_pos (by decide), div_ K1 K2 K3 (by decide), if_neg (by omega)]
    unfold fX20_seat; rw [cu_s K (by omega), Option.bind_some]; rfl
  · rw [w, if_neg (by decide), if_neg (by decide), if_pos rfl] at K3
    rw [dtg K1 K3, if_neg (by decide), if_pos (by decide), div_ K1 K2 K3 (by decide), if_neg (by omega)]
    unfold fX20_seat; rw [cu_s K (by omega), Option.bind_some]; rfl
  · rw [w, if_neg (by decide), if_neg (by decide), if_neg (by decide)] at K3
    rw [dtg K1 K3, if_neg (by decide), if_pos (by decide), div_ K1 K2 K3 (by decide), if_neg (by omega)]
    unfold fX20_seat; rw [cu_s K (by omega), Option.bind_some]; rfl
theorem C_cue (R : Duo b x m H C h c K) (a d : Int32) : Thr b x m H C h c K (fX0_cue (some 64) a d (some 130) (mkX b x)) (fX4_cue (some 106) a d (mkM b' n s m)) b' n s := by
  obtain ⟨b2, n1, n2', n3, n4, n5⟩ := X_need0 R
  have h30 := R.XC.len
  have R2 := R.ext n4
  have thrown : ∀ (rx rm : Option (Int32 × Mem)), rx = some (1, mkX b2 x) → rm = some (0, mkM b' n s (m.th 1)) → Thr b x m H C h c K rx rm b' n s := fun rx rm e1 e2 => ⟨1, 0, b2, x, m.th 1, e1, e2, rfl, fun hc => absurd hc (by decide), R2.th, n5⟩
  have hgo : ∀ {α : Type} (z : Option α), hg (mkX b2 x) (mNx b) 21 z = z := fun z => if_pos ⟨n2', n3⟩
  have btr : bt (some (Sum.inr (mNx b), mkX b2 x) : Option ((Unit ⊕ Nat) × Mem)) = fun (f : Unit → Mem → Option ((Int32 ⊕ Nat) × Mem)) => some (Sum.inr (mNx b), mkX b2 x) := rfl
  have bcr : ∀ (g : Nat → Mem → Option (Int32 × Mem)) (f : Int32 → Mem → Option (Int32 × Mem)), bc (some (Sum.inr (mNx b), mkX b2 x)) g f = g (mNx b) (mkX b2 x) := fun _ _ => rfl
  have bcl : ∀ (v : Int32) (st : Mem) (g : Nat → Mem → Option (Int32 × Mem)) (f : Int32 → Mem → Option (Int32 × Mem)), bc (some (Sum.inl v, st)) g f = f v st := fun _ _ _ _ => rfl
  have btl : ∀ (st : Mem) (f : Unit → Mem → Option ((Int32 ⊕ Nat) × Mem)), bt (some (Sum.inl (), st)) f = f () st := fun _ _ => rfl
  have r590 : aI (mkM b' n s m) (some 108) (590 : Int32) = some (n2 C.length) := (rd_s' (k := 590) (by decide)).trans (congrArg some R.MC.many)
  unfold fX0_cue fX1_cue fX4_cue bX1_cue_30 bX4_cue_28 bX1_cue_31 bX4_cue_33 bX0_cue_13
  simp -implicitDefEqProofs only [Option.bind_some, bd_some, b2i_0, Bool.true_eq_false, Bool.false_eq_true, eq_self, if_true, if_false, not_true_eq_false, not_false_eq_true, ivX R.hb, gX_7 R.hb, R.xc, xc_iv R.XC, xc_size R.XC, ivM, gM_61, r590, X_isIn, M_isIn, n1, btr, bcr, hgo, X_need1, btl, show fX4_throwsIf (some 106) 1 (mkM b' n s m) = some (1, mkM b' n s (m.th 1)) from M_throws true, show fX4_throwsIf (some 106) 0 (mkM b' n s m) = some (0, mkM b' n s (m.th 0)) from M_throws false, show ((1 : Int32) = 0) = False from eq_false (by decide)]
  cases es : decide ((0 : Int32) ≤ a ∧ a ≤ n2 C.length - 1)
  · simp -implicitDefEqProofs only [Option.bind_some, bd_some, b2i_0, Bool.true_eq_false, Bool.false_eq_true, eq_self, if_true, if_false, not_true_eq_false, not_false_eq_true, bcr, hgo]; exact thrown _ _ rfl rfl
  have es2 := of_decide_eq_true es
  obtain ⟨i, rfl, hi⟩ := n2_of es2.1
  have il : i < C.length := by
    have := es2.2
    rw [li_1, nn_sub, ni_le hi (by omega) (by omega)] at this; omega
  cases ed : decide ((0 : Int32) ≤ d ∧ d ≤ 2)
  · simp -implicitDefEqProofs only [Option.bind_some, bd_some, b2i_0, Bool.true_eq_false, Bool.false_eq_true, eq_self, if_true, if_false, not_true_eq_false, not_false_eq_true, bcr, hgo]; exact thrown _ _ rfl rfl
  obtain ⟨w, -, hw, rfl⟩ := in_true (l := 0) (u := 2) (by decide) (by decide) ed
  obtain ⟨e, e1, e2⟩ := xc_get (x := x) R.XC il
  obtain ⟨ct, cw, cs⟩ := R.XC.ok i il
  have ix : (591 : Int32) + (3 : Int32) * n2 i + n2 w = n2 (591 + 3 * i + w) := by rw [li_591, li_3, n2_mul, n2_add, n2_add]
  have lx : 591 + 3 * i + w < 681 := by omega
  have T := R.th (v := 0)
  have w0 : (n2 w = 0) = (w = 0) := by rw [li_0, n2_eq (by omega) (by decide)]
  have w1 : (n2 w = 1) = (w = 1) := by rw [li_1, n2_eq (by omega) (by decide)]
  simp -implicitDefEqProofs only [Option.bind_some, bd_some, b2i_0, Bool.true_eq_false, Bool.false_eq_true, eq_self, if_true, if_false, not_true_eq_false, not_false_eq_true, e1, cu_ck e2, cu_t e2, cu_what e2 cw, cu_seat e2 cw, gM_61, ix, rd_s' lx, w0, w1]
  rcases (by omega : w = 0 ∨ w = 1 ∨ w = 2) with rfl | rfl | rfl
  · simp -implicitDefEqProofs only [Option.bind_some, bd_some, b2i_0, Bool.true_eq_false, Bool.false_eq_true, eq_self, if_true, if_false, not_true_eq_false, not_false_eq_true, bcl, uX_130' R.hb]
    exact thr_no R R.hb rfl (by rw [Nat.add_zero, show (m.th 0).s (591 + 3 * i) = n2 C[i].t from T.MC.t i il])
  · simp -implicitDefEqProofs only [Option.bind_some, bd_some, b2i_0, Bool.true_eq_false, Bool.false_eq_true, eq_self, if_true, if_false, not_true_eq_false, not_false_eq_true, bcl, uX_130' R.hb, show ((1 : Nat) = 0) = False from eq_false (by decide)]
    exact thr_no R R.hb rfl (by rw [show (m.th 0).s (591 + 3 * i + 1) = n2 C[i].w from T.MC.w i il])
  · simp -implicitDefEqProofs only [Option.bind_some, bd_some, b2i_0, Bool.true_eq_false, Bool.false_eq_true, eq_self, if_true, if_false, not_true_eq_false, not_false_eq_true, bcl, uX_130' R.hb, show ((2 : Nat) = 0) = False from eq_false (by decide), show ((2 : Nat) = 1) = False from eq_false (by decide)]
    exact thr_no R R.hb rfl (by rw [show (m.th 0).s (591 + 3 * i + 2) = i2 (cseat C[i]) from T.MC.s i il])
end Grow
