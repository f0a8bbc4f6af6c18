set_option linter.unusedVariables false
set_option linter.unusedSimpArgs false
set_option maxRecDepth 100000
theorem nsl_2 : nsl 2 = 13 := rfl
theorem okA2_34 : okA 2 34 = true := by decide
theorem okA2_35 : okA 2 35 = true := by decide
theorem okA2_36 : okA 2 36 = true := by decide
theorem okA2_37 : okA 2 37 = true := by decide
theorem okA2_38 : okA 2 38 = true := by decide
theorem okA2_39 : okA 2 39 = true := by decide
theorem okA2_40 : okA 2 40 = true := by decide
theorem okP2_28 : okPI 2 28 = true := by decide
theorem okP2_29 : okPI 2 29 = true := by decide
theorem okP2_30 : okPI 2 30 = true := by decide
theorem okP2_31 : okPI 2 31 = true := by decide
theorem okP2_32 : okPI 2 32 = true := by decide
theorem okZ2_33 : okPZ 2 33 = true := by decide
section ExchX
variable {B b b' st : Mem} {n s : Nat} {x : XS} {m : MS} {H : HS} {C : List Cu} {h c d u v z : Nat} {K : Nat → Option (HS × List Cu)} {L : List Cl}
theorem o_nAA : nAA (ovs B L z) (n2 6) (n2 64) = some (some (mNx B + L.length), mkRows (mNx B + L.length) 64 6 0 (ovs B (L ++ [Cl.nw 107 6]) (z + 6))) := by
  unfold nAA
  rw [if_pos (by decide), n2_nat (by decide), n2_nat (by decide), o_new, ov_nx]
theorem X_e0 {br : Bool} {a1 a2 : Int32} (hB : 64 ≤ mNx B) (hl : h + 14 ≤ mNx B)
    (i28 : gI B (some h) 28 = some (mI B h 28)) (i29 : gI B (some h) 29 = some (mI B h 29)) (i30 : gI B (some h) 30 = some (mI B h 30)) (i31 : gI B (some h) 31 = some (mI B h 31)) (i32 : gI B (some h) 32 = some (mI B h 32)) (i33 : gI B (some h) 33 = some (b2i br)) (j33 : mI B h 33 = b2i br)
    (r34 : gA B (some h) 34 = some (some (h + 1))) (r35 : gA B (some h) 35 = some (some (h + 2))) (r36 : gA B (some h) 36 = some (some (h + 3))) (r37 : gA B (some h) 37 = some (some (h + 4))) (r38 : gA B (some h) 38 = some (some (h + 5))) (r39 : gA B (some h) 39 = some (some (h + 6)))
    (t1 : mTag B (h + 1) = 102) (t2 : mTag B (h + 2) = 102) (t3 : mTag B (h + 3) = 102) (t4 : mTag B (h + 4) = 105) (t5 : mTag B (h + 5) = 105) (t6 : mTag B (h + 6) = 102)
    (l1 : mLen B (h + 1) = 64) (l2 : mLen B (h + 2) = 8) (l3 : mLen B (h + 3) = 8) (l4 : mLen B (h + 4) = 6) (l5 : mLen B (h + 5) = 6) (l6 : mLen B (h + 6) = 12)
    (u4 : ∀ k, k < 6 → mA B (h + 4) k = none ∨ ∃ e, mA B (h + 4) k = some e ∧ e < mNx B ∧ asg 105 (mTag B e) = true) (u5 : ∀ k, k < 6 → mA B (h + 5) k = none ∨ ∃ e, mA B (h + 5) k = some e ∧ e < mNx B ∧ asg 105 (mTag B e) = true) :
    ∃ L z, fX2_exchanged (some h) a1 a2 B = bX2_exchanged_149 hcFuel (some h) a1 a2 (some (mNx B)) (n2 0) (ovs B L z) ∧ z = 507 ∧ Bld (mNx B) L ∧ Bld2 B h (mNx B) L := by
  have hl0 : h < mNx B := by omega
  have c1 : ∀ {L : List Cl} {z i : Nat}, decide (i < L.length) = true → decide ((clD L i).t = 102 ∧ 64 ≤ (clD L i).l) = true → cpy (ovs B L z) (some (h + 1)) 0 (some (mNx B + i)) 0 (n2 64) = some (ovs B (clS L i ((clD L i).rI (va_cpy (mI B (h + 1)) (clD L i).i 0 0 64))) z) := fun h1 h2 => o_cpI hB (by omega) (of_decide_eq_true h1) t1 (of_decide_eq_true h2).1 (by rw [l1]; exact Nat.le_refl _) (of_decide_eq_true h2).2 (by decide)
  have c2 : ∀ {L : List Cl} {z i : Nat}, decide (i < L.length) = true → decide ((clD L i).t = 102 ∧ 8 ≤ (clD L i).l) = true → cpy (ovs B L z) (some (h + 2)) 0 (some (mNx B + i)) 0 (n2 8) = some (ovs B (clS L i ((clD L i).rI (va_cpy (mI B (h + 2)) (clD L i).i 0 0 8))) z) := fun h1 h2 => o_cpI hB (by omega) (of_decide_eq_true h1) t2 (of_decide_eq_true h2).1 (by rw [l2]; exact Nat.le_refl _) (of_decide_eq_true h2).2 (by decide)
  have c3 : ∀ {L : List Cl} {z i : Nat}, decide (i < L.length) = true → decide ((clD L i).t = 102 ∧ 8 ≤ (clD L i).l) = true → cpy (ovs B L z) (some (h + 3)) 0 (some (mNx B + i)) 0 (n2 8) = some (ovs B (clS L i ((clD L i).rI (va_cpy (mI B (h + 3)) (clD L i).i 0 0 8))) z) := fun h1 h2 => o_cpI hB (by omega) (of_decide_eq_true h1) t3 (of_decide_eq_true h2).1 (by rw [l3]; exact Nat.le_refl _) (of_decide_eq_true h2).2 (by decide)
  have c6 : ∀ {L : List Cl} {z i : Nat}, decide (i < L.length) = true → decide ((clD L i).t = 102 ∧ 12 ≤ (clD L i).l) = true → cpy (ovs B L z) (some (h + 6)) 0 (some (mNx B + i)) 0 (n2 12) = some (ovs B (clS L i ((clD L i).rI (va_cpy (mI B (h + 6)) (clD L i).i 0 0 12))) z) := fun h1 h2 => o_cpI hB (by omega) (of_decide_eq_true h1) t6 (of_decide_eq_true h2).1 (by rw [l6]; exact Nat.le_refl _) (of_decide_eq_true h2).2 (by decide)
  have c4 : ∀ {L : List Cl} {z i : Nat}, decide (i < L.length) = true → decide ((clD L i).t = 105 ∧ 6 ≤ (clD L i).l) = true → cpy (ovs B L z) (some (h + 4)) 0 (some (mNx B + i)) 0 (n2 6) = some (ovs B (clS L i ((clD L i).rA (va_cpy (mA B (h + 4)) (clD L i).a 0 0 6))) z) := fun h1 h2 => o_cpA hB (by omega) (of_decide_eq_true h1) t4 (of_decide_eq_true h2).1 (by rw [l4]; exact Nat.le_refl _) (of_decide_eq_true h2).2 (by decide) u4
  have c5 : ∀ {L : List Cl} {z i : Nat}, decide (i < L.length) = true → decide ((clD L i).t = 105 ∧ 6 ≤ (clD L i).l) = true → cpy (ovs B L z) (some (h + 5)) 0 (some (mNx B + i)) 0 (n2 6) = some (ovs B (clS L i ((clD L i).rA (va_cpy (mA B (h + 5)) (clD L i).a 0 0 6))) z) := fun h1 h2 => o_cpA hB (by omega) (of_decide_eq_true h1) t5 (of_decide_eq_true h2).1 (by rw [l5]; exact Nat.le_refl _) (of_decide_eq_true h2).2 (by decide) u5
  have f8 : ∀ {L : List Cl} {z i : Nat} {v : Int32}, decide (i < L.length) = true → decide ((clD L i).t = 102 ∧ (clD L i).l = 8) = true → fJ0_fill (some (mNx B + i)) v (ovs B L z) = some ((), ovs B (clS L i ((clD L i).rI (fun k => if k < 8 then v else (clD L i).i k))) z) := fun h1 h2 => o_fill hB (of_decide_eq_true h1) (of_decide_eq_true h2).1 (of_decide_eq_true h2).2 (by decide)
  have e0 : fX2_exchanged (some h) a1 a2 B = fX2_exchanged (some h) a1 a2 (ovs B [] 0) := by rw [ov_nil]
  have S : ∀ {L : List Cl} {z i k : Nat} {v : Rf}, decide (i < L.length) = true → mSA (ovs B L z) (mNx B + i) k v = ovs B (clS L i ((clD L i).sA k v)) z := fun h1 => o_SA (of_decide_eq_true h1)
  rw [e0]
  unfold fX2_exchanged fX2_init
  generalize hcFuel = fu
  simp -implicitDefEqProofs (disch := first | with_unfolding_all exact id rfl | decide | simp -implicitDefEqProofs only [clD, mk_Cl_t, okA2_34, okA2_35, okA2_36, okA2_37, okA2_38, okA2_39, okA2_40, okP2_28, okP2_29, okP2_30, okP2_31, okP2_32, okZ2_33]) only [bd_some, Option.bind_some, nn_some, li_64, li_8, li_6, li_12, o_nO, o_nA, o_nAA, mkRows, o_new, ov_nx, S, o_pI hB, o_pZ hB, o_pA hB, o_gA, oo_gI hl0, oo_gA hl0, i28, i29, i30, i31, i32, i33, r34, r35, r36, r37, r38, r39, c1, c2, c3, c4, c5, c6, f8, List.nil_append, List.cons_append, List.length_cons, List.length_nil, Nat.reduceAdd, clS, clD, Cl.nw, Cl.sI, Cl.sA, Cl.rI, Cl.rA, mk_Cl_t, mk_Cl_l, mk_Cl_i, mk_Cl_j, mk_Cl_a, upq_self, upq_ne, nsl_2]
  refine ⟨_, _, rfl, rfl, ?_, ?_⟩
  · refine ⟨rfl, rfl, rfl, rfl, rfl, fun a ha => ?_, fun a ha => ?_⟩
    · rcases (show a = 0 ∨ a = 1 ∨ a = 2 ∨ a = 3 ∨ a = 4 ∨ a = 5 by omega) with rfl | rfl | rfl | rfl | rfl | rfl <;> rfl
    · rcases (show a = 0 ∨ a = 1 ∨ a = 2 ∨ a = 3 ∨ a = 4 ∨ a = 5 by omega) with rfl | rfl | rfl | rfl | rfl | rfl <;> exact ⟨rfl, rfl⟩
  · refine ⟨⟨rfl, rfl, rfl, rfl, rfl, rfl⟩, ⟨rfl, rfl, rfl, rfl, j33.symm⟩, ⟨rfl, rfl, rfl, rfl, rfl, rfl⟩, ⟨rfl, rfl, rfl, rfl, rfl, rfl⟩, fun k hk => ?_, fun k hk => ?_, fun k hk => ?_, fun k hk => ?_, fun k hk => ?_, fun k hk => ?_⟩
    · simp -implicitDefEqProofs only [clD, mk_Cl_i, mk_Cl_a]; exact cp_at hk
    · simp -implicitDefEqProofs only [clD, mk_Cl_i, mk_Cl_a]; exact cp_at hk
    · simp -implicitDefEqProofs only [clD, mk_Cl_i, mk_Cl_a]; exact cp_at hk
    · simp -implicitDefEqProofs only [clD, mk_Cl_i, mk_Cl_a]; exact cp_at hk
    · simp -implicitDefEqProofs only [clD, mk_Cl_i, mk_Cl_a]; exact cp_at hk
    · simp -implicitDefEqProofs only [clD, mk_Cl_i, mk_Cl_a]; exact cp_at hk
theorem X_exchd (hb : 131 ≤ mNx b) (X : XHouse b h H) (ok : H.Ok) (hu : u < 64) (hv : v < 64) (huv : (u < H.size ∧ v < H.size) ∨ u = v) :
    ∃ b2, fX2_exchanged (some h) (n2 u) (n2 v) (mkX b x) = some (some (mNx b), mkX b2 x) ∧ XHouse b2 (mNx b) (H.sw u v) ∧ Ext b b2 ∧ mNx b2 = mNx b + 14 ∧ mNs b2 = mNs b + 507 := by
  have d : ∀ j, j < 14 → dyn (h + j) := fun j hj => X.dynJ hj
  have d0 : dyn h := X.dyn0
  have eu : ∀ k, k < 6 → mA (mkX b x) (h + 4) k = none ∨ ∃ e, mA (mkX b x) (h + 4) k = some e ∧ e < mNx (mkX b x) ∧ asg 105 (mTag (mkX b x) e) = true := by
    intro k hk
    rw [ov_A (d 4 (by decide))]
    cases hl : H.law k 0 with
    | none => exact Or.inl (X.up0 k hk hl)
    | some co =>
      obtain ⟨c, o⟩ := co
      obtain ⟨-, a, r2, r3⟩ := X.up k c o hk hl
      obtain ⟨g1, g2, g3⟩ := r3.ag
      exact Or.inr ⟨a, r2, g1, by rw [ov_tag g2]; exact g3⟩
  have ed : ∀ k, k < 6 → mA (mkX b x) (h + 5) k = none ∨ ∃ e, mA (mkX b x) (h + 5) k = some e ∧ e < mNx (mkX b x) ∧ asg 105 (mTag (mkX b x) e) = true := by
    intro k hk
    rw [ov_A (d 5 (by decide))]
    cases hl : H.law k 1 with
    | none => exact Or.inl (X.down0 k hk hl)
    | some co =>
      obtain ⟨c, o⟩ := co
      obtain ⟨-, a, r2, r3⟩ := X.down k c o hk hl
      obtain ⟨g1, g2, g3⟩ := r3.ag
      exact Or.inr ⟨a, r2, g1, by rw [ov_tag g2]; exact g3⟩
  have gi : ∀ f, (fl 2).contains f = true ∧ (fty f = 0 ∨ fty f = 3 ∨ fty f = 4) → gI (mkX b x) (some h) f = some (mI (mkX b x) h f) := fun f hf => by rw [dI d0 X.lt0 X.tag hf, ov_I d0]
  obtain ⟨L, z, e1, hz, hB, hB2⟩ := X_e0 (B := mkX b x) (h := h) (br := H.byRows) (a1 := n2 u) (a2 := n2 v) (show 64 ≤ mNx b by omega) X.lt (gi 28 (by decide)) (gi 29 (by decide)) (gi 30 (by decide)) (gi 31 (by decide)) (gi 32 (by decide)) (xh_33 X) (by rw [ov_I d0]; exact X.byRows) (xh_34 X) (xh_35 X) (xh_36 X) (xh_37 X) (xh_38 X) (xh_39 X) ((ov_tag (d 1 (by decide))).trans X.t1) ((ov_tag (d 2 (by decide))).trans X.t2) ((ov_tag (d 3 (by decide))).trans X.t3) ((ov_tag (d 4 (by decide))).trans X.t4) ((ov_tag (d 5 (by decide))).trans X.t5) ((ov_tag (d 6 (by decide))).trans X.t6) ((ov_len (d 1 (by decide))).trans X.l1) ((ov_len (d 2 (by decide))).trans X.l2) ((ov_len (d 3 (by decide))).trans X.l3) ((ov_len (d 4 (by decide))).trans X.l4) ((ov_len (d 5 (by decide))).trans X.l5) ((ov_len (d 6 (by decide))).trans X.l6) eu ed
  have hB2' : Bld2 b h (mNx b) L := by
    unfold Bld2 at hB2 ⊢
    rw [ov_I d0, ov_I (d 1 (by decide)), ov_I (d 2 (by decide)), ov_I (d 3 (by decide)), ov_I (d 6 (by decide)), ov_A (d 4 (by decide)), ov_A (d 5 (by decide))] at hB2
    exact hB2
  obtain ⟨L', e2, hB', g3, g4⟩ := X_e149 (x := x) (z := z) X (a1 := n2 u) (a2 := n2 v) 6 hcFuel 0 L (by omega) (by unfold hcFuel; omega) hB (fun a ha => absurd ha (Nat.not_lt_zero a))
  have hB2'' : Bld2 b h (mNx b) L' := by
    unfold Bld2 at hB2' ⊢
    rw [g3 0 (by decide), g3 1 (by decide), g3 2 (by decide), g3 3 (by decide), g3 4 (by decide), g3 5 (by decide), g3 6 (by decide)]
    exact hB2'
  obtain ⟨k1, k2, k3⟩ := X_house2 (x := x) (z := z) hb X hB' hB2'' g4 ok.size
  obtain ⟨st, s1, s2, s3, s4, s5⟩ := X_swap (x := x) k3 hu hv huv
  rw [k1] at s1
  have nx : mNx (ovs (mkX b x) L' z) = mNx b + 14 := by rw [ov_nx, hB'.len]; rfl
  refine ⟨st, ?_, s5, ?_, by rw [s2, nx], by rw [s3, ov_ns, hz]; rfl⟩
  · have e1' : fX2_exchanged (some h) (n2 u) (n2 v) (mkX b x) = bX2_exchanged_149 hcFuel (some h) (n2 u) (n2 v) (some (mNx b)) (n2 0) (ovs (mkX b x) L z) := e1
    rw [e1', e2]
    have iv1 : ∀ {α : Type} (w : Option α), iv (ovs (mkX b x) L' z) (some (mNx b)) [2] w = w := fun w => by
      have := xh_iv (x := x) (z := w) k3
      rw [k1] at this; exact this
    rw [iv1, s1, bd_some]
  · refine ⟨by rw [s2]; exact k2.1, fun a ha hd => (k2.2 a ha hd).trans (s4 a (by omega) hd)⟩
end ExchX
