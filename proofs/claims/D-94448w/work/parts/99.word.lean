set_option linter.unusedVariables false
set_option linter.unusedSimpArgs false
set_option maxRecDepth 100000
/-! ===== signs and words ===== -/
def sgF (i : Nat) : Nat := if i = 0 then 59 else if i = 1 then 60 else if i = 2 then 61 else if i = 3 then 62 else if i = 4 then 40 else 41
theorem sgF_B : ∀ i, i < 6 → strB[25][i]? = some (sgF i) := by decide
theorem sg_eq : ∀ ch, ch < 256 → ∀ i, i < 6 → ((n2 (sgF i) = i2bv (n2 ch)) ↔ sgF i = ch) := by decide +kernel
theorem sg_is : ∀ ch, ch < 256 → ((∀ i, i < 6 → sgF i ≠ ch) ↔ isSgN ch = false) := by decide +kernel
section Idx
variable {B : Mem} {L : List Cl} {z ch : Nat}
theorem X_idx (S : StrAt B 50 strB[25]) (hc : ch < 256) : ∃ v, fJ4_indexOf (some 50) (n2 ch) (ovs B L z) = some (v, ovs B L z) ∧ (v < 0 ↔ isSgN ch = false) := by
  obtain ⟨⟨h1, h2⟩, h3, h4, d, d1, ⟨d2, d3⟩, d4, d5, d6⟩ := S
  have d5' : mLen B d = 6 := d5
  have d6' : ∀ i, i < 6 → mI B d i = n2 (sgF i) := fun i hi => by
    have hl : i < strB[25].length := hi
    have e := sgF_B i hi
    rw [List.getElem?_eq_getElem hl] at e
    rw [d6 i hl, Option.some.inj e]
  have r1 : gI (ovs B L z) (some 50) 156 = some 0 := (oo_gI h2).trans ((gI_of (t := 19) h2 h3 (by decide)).trans (congrArg some h4))
  have r2 : gA (ovs B L z) (some 50) 155 = some (some d) := (oo_gA h2).trans ((gA_of (t := 19) h2 h3 (by decide)).trans (congrArg some d1))
  have r3 : aN (ovs B L z) (some d) = some (n2 6) := by
    rw [oo_aN d3]
    have cond : d < mNx B ∧ 100 ≤ mTag B d ∧ mTag B d < 108 := ⟨d3, by rw [d4]; decide, by rw [d4]; decide⟩
    exact (if_pos cond).trans (by rw [d5']; rfl)
  have r4 : ∀ i, i < 6 → aB (ovs B L z) (some d) (n2 i) = some (n2 (sgF i)) := fun i hi => by
    rw [oo_aB d3, aB_of d3 (Or.inl d4) d5', ifx_k hi (by omega), n2_nat (by omega), d6' i hi]
  have r5 : ∀ {α : Type} (w : Option α), iv (ovs B L z) (some 50) [19] w = w := fun w => by
    rw [oo_iv h2]; exact if_pos ⟨h2, by rw [h3]; rfl⟩
  have loop : ∀ (k fu j : Nat), j + k = 6 → k < fu → (∀ i, i < j → sgF i ≠ ch) → ∃ v, bJ5_indexOfChar_7 fu (some d) (n2 6) (i2bv (n2 ch)) (n2 j) (ovs B L z) = some (v, ovs B L z) ∧ (v < 0 ↔ isSgN ch = false) := by
    intro k
    induction k with
    | zero =>
      intro fu j hk hf hj
      obtain ⟨fu, rfl⟩ : ∃ g, fu = g + 1 := ⟨fu - 1, by omega⟩
      have e : j = 6 := by omega
      subst e
      refine ⟨-1, ?_, fun _ => (sg_is ch hc).mp hj, fun _ => by decide⟩
      show bJ5_indexOfChar_7B _ _ _ _ _ _ = _
      unfold bJ5_indexOfChar_7B
      rw [if_pos (Int32.le_refl _)]
    | succ k ih =>
      intro fu j hk hf hj
      obtain ⟨fu, rfl⟩ : ∃ g, fu = g + 1 := ⟨fu - 1, by omega⟩
      have j6 : j < 6 := by omega
      have le : (n2 6 ≤ n2 j) = False := by rw [n2_le (by omega) (by omega)]; exact eq_false (by omega)
      show ∃ v, bJ5_indexOfChar_7B (bJ5_indexOfChar_7 fu) _ _ _ _ _ = _ ∧ _
      unfold bJ5_indexOfChar_7B
      by_cases e : sgF j = ch
      · have e2 : (n2 (sgF j) = i2bv (n2 ch)) = True := eq_true ((sg_eq ch hc j j6).mpr e)
        simp -implicitDefEqProofs only [Option.bind_some, bd_some, b2i_0, Bool.true_eq_false, Bool.false_eq_true, eq_self, if_true, if_false, not_true_eq_false, not_false_eq_true, le, r4 j j6, e2]
        refine ⟨_, rfl, fun h => absurd h (by rw [n2_nlt0 (by omega)]; exact id), fun h => ?_⟩
        exact absurd e ((sg_is ch hc).mpr h j j6)
      · have e2 : (n2 (sgF j) = i2bv (n2 ch)) = False := eq_false (fun h => e ((sg_eq ch hc j j6).mp h))
        simp -implicitDefEqProofs only [Option.bind_some, bd_some, b2i_0, Bool.true_eq_false, Bool.false_eq_true, eq_self, if_true, if_false, not_true_eq_false, not_false_eq_true, le, r4 j j6, e2, show n2 j + 1 = n2 (j + 1) from n2_add j 1]
        exact ih fu (j + 1) (by omega) (by omega) (fun i hi => by
          by_cases ei : i = j
          · rw [ei]; exact e
          · exact hj i (by omega))
  obtain ⟨v, e1, e2⟩ := loop 6 hcFuel 0 (by omega) (by unfold hcFuel; omega) (fun i hi => absurd hi (Nat.not_lt_zero i))
  refine ⟨v, ?_, e2⟩
  have c1 : (n2 ch < (0 : Int32)) = False := n2_nlt0 (by omega)
  have c2 : ((255 : Int32) < n2 ch) = False := by rw [li_255, n2_lt (by omega) (by omega)]; exact eq_false (by omega)
  have e1' : bJ5_indexOfChar_7 hcFuel (some d) (mminI (shrI (n2 6) 0) (n2 6)) (i2bv (n2 ch)) (mmaxI 0 0) (ovs B L z) = some (v, ovs B L z) := e1
  unfold fJ4_indexOf fJ4_indexOf_2 fJ4_isLatin1 fJ4_length fJ4_coder fJ5_indexOf fJ5_canEncode fJ5_indexOfChar
  generalize hcFuel = fu at e1'
  simp -implicitDefEqProofs only [Option.bind_some, bd_some, b2i_0, Bool.true_eq_false, Bool.false_eq_true, eq_self, if_true, if_false, not_true_eq_false, not_false_eq_true, r5, r1, r2, r3, show ((1 : Int32) = 0) = False from eq_false (by decide), show nby 0 = 0 from by decide, c1, c2, show (mmaxI 0 0 < mminI (shrI (n2 6) 0) (n2 6)) = True from eq_true (by decide), e1']
end Idx
def pkW (g : Nat → Nat) : Nat → Int64
  | 0 => 0
  | k + 1 => shlL (pkW g k) (8 : Int32) ||| (n2 (g k)).toInt64
def Cl.wq (c : Cl) (num : Int32) (q : Nat) : Cl := (c.sI 130 num).sI 127 (n2 q)
def MR.wq (r : MR) (q k : Nat) (num : Int32) (w : Int64) : MR := MR.mk r.size (n2 q) r.limit r.token r.place (n2 k) num r.fault r.faultAt w r.got
theorem wq_130 (c : Cl) (num v : Int32) (q : Nat) : (c.wq num q).sI 130 v = c.wq v q := by
  have e : upq (upq (upq c.i 130 num) 127 (n2 q)) 130 v = upq (upq c.i 130 v) 127 (n2 q) := by
    funext j; unfold upq
    by_cases h : j = 130
    · rw [if_pos h, if_neg (by omega), if_pos h]
    · by_cases h2 : j = 127
      · rw [if_neg h, if_pos h2, if_pos h2]
      · rw [if_neg h, if_neg h2, if_neg h, if_neg h2, if_neg h]
  unfold Cl.wq Cl.sI
  simp -implicitDefEqProofs only [mk_Cl_t, mk_Cl_l, mk_Cl_i, mk_Cl_j, mk_Cl_a]
  rw [e]
theorem wq_127 (c : Cl) (num : Int32) (q q' : Nat) : (c.wq num q).sI 127 (n2 q') = c.wq num q' := sI_sI _ _ _ _
section Wq
variable {c : Cl} {num num' v : Int32} {q q' k : Nat} {r : MR} {w w' : Int64}
theorem wq_i127 : (c.wq num q).i 127 = n2 q := upq_self (upq c.i 130 num) 127 (n2 q)
theorem wq_i130 : (c.wq num q).i 130 = num := (show upq (upq c.i 130 num) 127 (n2 q) 130 = upq c.i 130 num 130 from upq_ne _ _ (by decide)).trans (upq_self c.i 130 num)
theorem wq_i129 : (c.wq num q).i 129 = c.i 129 := (show upq (upq c.i 130 num) 127 (n2 q) 129 = upq c.i 130 num 129 from upq_ne _ _ (by decide)).trans (upq_ne c.i num (by decide))
theorem RdX.wq {B : Mem} {tp : Nat → Int32} {to most : Nat} (R : RdX B c tp to most) : RdX B (c.wq num q) tp to most := (R.sI (f := 130) (v := num) (by decide) (by decide)).sI (f := 127) (v := n2 q) (by decide) (by decide)
theorem mq_w : (r.wq q k num w).sW w' = r.wq q k num w' := by simp -implicitDefEqProofs only [MR.sW, MR.wq, mk_MR_size, mk_MR_p, mk_MR_limit, mk_MR_token, mk_MR_place, mk_MR_span, mk_MR_number, mk_MR_fault, mk_MR_faultAt, mk_MR_word, mk_MR_got]
theorem mq_n : (r.wq q k num w).sNum num' = r.wq q k num' w := by simp -implicitDefEqProofs only [MR.sNum, MR.wq, mk_MR_size, mk_MR_p, mk_MR_limit, mk_MR_token, mk_MR_place, mk_MR_span, mk_MR_number, mk_MR_fault, mk_MR_faultAt, mk_MR_word, mk_MR_got]
theorem mq_s {k' : Nat} : (r.wq q k num w).sSp (n2 k') = r.wq q k' num w := by simp -implicitDefEqProofs only [MR.sSp, MR.wq, mk_MR_size, mk_MR_p, mk_MR_limit, mk_MR_token, mk_MR_place, mk_MR_span, mk_MR_number, mk_MR_fault, mk_MR_faultAt, mk_MR_word, mk_MR_got]
theorem mq_p : (r.wq q k num w).sP (n2 q') = r.wq q' k num w := by simp -implicitDefEqProofs only [MR.sP, MR.wq, mk_MR_size, mk_MR_p, mk_MR_limit, mk_MR_token, mk_MR_place, mk_MR_span, mk_MR_number, mk_MR_fault, mk_MR_faultAt, mk_MR_word, mk_MR_got]
theorem mq_1 : (r.wq q k num w).span = n2 k := rfl
theorem mq_2 : (r.wq q k num w).number = num := rfl
theorem mq_3 : (r.wq q k num w).word = w := rfl
theorem mq_4 : (r.wq q k num w).p = n2 q := rfl
theorem mq_5 : (r.wq q k num w).size = r.size := rfl
end Wq
