set_option linter.unusedVariables false
set_option linter.unusedSimpArgs false
set_option maxRecDepth 100000
/-! ===== the law's own walk: its rows ===== -/
theorem Rel.frame2 {w : Wd} {a b f : Mem} {H0 H : Heap} (hU : Rel w (mU a b) H0) (hle : mLe a f) (hb : ∀ x, mNx a ≤ x → x < mNx f → mTag b x = 0) (hf : Rel w f H) (hk : ∀ q : Nat, q < H0.size → ¬ zA w a H0 q → H[q]? = H0[q]?) : Rel w (mU f b) H := by
  have t53 : mTag (mU f b) 53 = 0 := (mU_tag0 hf.2.2.2.2.2.2.2.2.1).trans (mU_53 hU.2.2.2.2.2.2.2.2.1).2
  have t54 : mTag (mU f b) 54 = mTag (mU a b) 54 := by
    have e := hle.2.2 54 (Nat.lt_of_lt_of_le (by decide) hU.2.2.2.2.2.1)
    show (if mTag f 54 = 0 then mTag b 54 else mTag f 54) = if mTag a 54 = 0 then mTag b 54 else mTag a 54
    rw [e]
  refine ⟨fun x hx => ?_, hf.2.1, hf.2.2.1, hf.2.2.2.1, hf.2.2.2.2.1, hf.2.2.2.2.2.1, hf.2.2.2.2.2.2.1, hf.2.2.2.2.2.2.2.1, t53, by rw [t54]; exact hU.2.2.2.2.2.2.2.2.2⟩
  by_cases h53 : x = 53
  · rw [h53]; exact okCell.none t53
  by_cases h1 : mTag f x = 0
  · by_cases h2 : x < mNx a
    · have h0 : mTag a x = 0 := by rw [← hle.2.2 x h2]; exact h1
      have ok := hU.1 x h2
      refine (ok.swap h0 h1).kept (hk _ (hU.2.2.2.2.2.2.2.1 x h2 h53) ?_)
      rintro (⟨c, c1, c2, c3, c4⟩ | c)
      · have := hU.2.1 c x c1 c2 h2 h53 c4
        subst this
        exact c3 h0
      · have := hU.2.2.2.2.2.2.2.1 x h2 h53
        omega
    · exact okCell.none (by rw [mU_tag0 h1]; exact hb x (by omega) hx)
  · exact (hf.1 x hx).toU h1
theorem Con.frame2 {y : MethodName} {lev : Nat} {av : List Ev} {a b : Mem} {β : Type} {tr : β → Rs} {fin : β × Mem} (hb : ∀ x, mNx a ≤ x → x < mNx fin.2 → mTag b x = 0) (c : Con y lev av a tr fin) : Con y lev av (mU a b) tr (fin.1, mU fin.2 b) := by
  refine ⟨c.1.U, c.2.1, fun k w h1 h2 h3 h4 h5 h6 h0 h7 h8 h9 h10 h11 T hT X => ?_⟩
  obtain ⟨t, hs, o, z1, z2, z3, ⟨L, z4, z5⟩, z6, z7, z8⟩ := c.2.2 k w h1 h2 h3 h4 h5 h6 h0 h7 h8 h9 h10 h11.ofU T hT X
  exact ⟨t, hs, o, z1, z2, z3, ⟨L, z4, fun q hq => (z5 q hq).U⟩, z6, h11.frame2 c.1 hb z7 z8.2, z8.1, fun q hq hn => z8.2 q hq fun h => hn h.U⟩
abbrev lwD : MD := (cL_law, "HouseClapsLaw", "law", 160, some .boolean, 7)
/-- the script's memory: the array at 54, nothing else -/
def SB (b' : Mem) : Prop := mTag b' 54 = 102 ∧ (∀ a, a ≠ 54 → mTag b' a = 0) ∧ mLen b' 54 ≤ 384
/-- HouseClaps' memory has none of the other's cells -/
def NoM (b : Mem) : Prop := ∀ a, (a = 54 ∨ (106 ≤ a ∧ a < 130)) → mTag b a = 0
def UU (b' b : Mem) (x : XS) (m : MS) : Mem := mU (mkX b x) (mkM b' (mNx b - 130) (mNs b) m)
def LI (b' b : Mem) (x : XS) (m : MS) : Prop := (∃ H C h c K, Duo b x m H C h c K) ∧ NoM b
abbrev lwE (i : Nat) : List (Nat × Ev) := [(4, vi (n2 i)), (3, vr (some 130)), (2, vr (some 106)), (1, vr (some 64)), (0, vr (some 54))]
theorem mU_len {a b : Mem} {x : Nat} (h : mTag a x ≠ 0) : mLen (mU a b) x = mLen a x := if_neg h
theorem mU_J {a b : Mem} {x k : Nat} (h : mTag a x ≠ 0) : mJ (mU a b) x k = mJ a x k := congrFun (if_neg h) k
theorem mU_ns {a b' : Mem} {n s n' s' : Nat} {m : MS} : mU a (mkM b' n s m) = mU a (mkM b' n' s' m) := rfl
section LawMem
variable {b' b : Mem} {x : XS} {m : MS} {a n s : Nat}
theorem tagX (ha : a = 54 ∨ (106 ≤ a ∧ a < 130)) : mTag (mkX b x) a = mTag b a := by
  show (up1 _ _ _ : Nat → Nat) a = _
  repeat rw [up1_nq _ _ (by omega)]
theorem tagM (ha : ¬ (106 ≤ a ∧ a < 130)) : mTag (mkM b' n s m) a = mTag b' a := by
  show (up1 _ _ _ : Nat → Nat) a = _
  repeat rw [up1_nq _ _ (by omega)]
theorem tagM0 (hB : SB b') (ha : ¬ (a = 54 ∨ (106 ≤ a ∧ a < 130))) : mTag (mkM b' n s m) a = 0 := by
  rw [tagM (by omega)]; exact hB.2.1 a (by omega)
theorem dj (hB : SB b') (hN : NoM b) (a : Nat) : mTag (mkX b x) a = 0 ∨ mTag (mkM b' n s m) a = 0 := by
  by_cases ha : a = 54 ∨ (106 ≤ a ∧ a < 130)
  · exact Or.inl (by rw [tagX ha]; exact hN a ha)
  · exact Or.inr (tagM0 hB ha)
theorem UU_M (hB : SB b') (hN : NoM b) (hb : 131 ≤ mNx b) : UU b' b x m = mU (mkM b' (mNx b - 130) (mNs b) m) (mkX b x) :=
  mU_comm (show mNx b = mNx b - 130 + 130 by omega) rfl (fun a => (dj hB hN a).elim Or.inl (fun h => Or.inr (Or.inl h)))
theorem UU_54 (hB : SB b') (hN : NoM b) : mTag (UU b' b x m) 54 = 102 ∧ mLen (UU b' b x m) 54 = mLen b' 54 ∧ ∀ k, mI (UU b' b x m) 54 k = mI b' 54 k := by
  have t0 : mTag (mkX b x) 54 = 0 := by rw [tagX (Or.inl rfl)]; exact hN 54 (Or.inl rfl)
  have t1 : mTag (mkM b' (mNx b - 130) (mNs b) m) 54 = 102 := by rw [tagM (by omega)]; exact hB.1
  have t2 : ¬ mTag (mkM b' (mNx b - 130) (mNs b) m) 54 = 0 := by rw [t1]; decide
  refine ⟨(if_pos t0).trans t1, (if_pos t0).trans (if_neg t2), fun k => ?_⟩
  exact congrFun ((if_pos t0).trans (if_neg t2)) k
theorem scrA (hB : SB b') (hN : NoM b) (hb : 131 ≤ mNx b) {k : Nat} (hk : k < mLen b' 54) : aI (UU b' b x m) (some 54) (n2 k) = some (mI b' 54 k) := by
  obtain ⟨h1, h2, h3⟩ := UU_54 (x := x) (m := m) hB hN
  have h4 := hB.2.2
  show (if _ then _ else _) = _
  rw [if_pos ⟨show 54 < mNx b by omega, h1, n2_pos (by omega), by rw [n2_nat (by omega), h2]; exact hk⟩, n2_nat (by omega), h3]
theorem scrN (hB : SB b') (hN : NoM b) (hb : 131 ≤ mNx b) : aN (UU b' b x m) (some 54) = some (n2 (mLen b' 54)) := by
  obtain ⟨h1, h2, h3⟩ := UU_54 (x := x) (m := m) hB hN
  show (if _ then _ else _) = _
  rw [if_pos ⟨show 54 < mNx b by omega, by rw [h1]; decide, by rw [h1]; decide⟩, h2]; rfl
theorem outA (hb : 131 ≤ mNx b) : aJ (UU b' b x m) (some 130) 0 = some (x.out 0) := by
  have t0 : mTag (mkX b x) 130 = 103 := rfl
  have t1 : ¬ mTag (mkX b x) 130 = 0 := by rw [t0]; decide
  have h1 : mTag (UU b' b x m) 130 = 103 := (mU_tag t1).trans t0
  have h2 : mLen (UU b' b x m) 130 = 1 := (mU_len t1).trans rfl
  have h3 : mJ (UU b' b x m) 130 0 = x.out 0 := (mU_J t1).trans rfl
  show (if _ then _ else _) = _
  rw [if_pos ⟨show 130 < mNx b by omega, h1, by decide, by rw [h2]; decide⟩]
  exact congrArg some h3
end LawMem
section LawRows
variable {st0 : Mem} {fin : Int32 × Mem} {pc idx : Nat} {env : List (Nat × Ev)} {rest stk as : List Ev} {X y : MethodName} {lev' : Nat} {b' b b2 : Mem} {x x2 : XS} {m m2 : MS} {v : Int32} {i : Nat}
theorem lwArg (j : Nat) {jz : Int} {p4 p0 : Nat} (h0 : env[p0]? = some (0, vr (some 54))) (h4 : env[p4]? = some (4, vi (n2 i))) (hB : SB b') (hN : NoM b) (hb : 131 ≤ mNx b) (d1 : decode cL_law pc = .ok (.aload_n 0, 1)) (d2 : decode cL_law (pc + 1) = .ok (.iload 4, 2)) (d3 : decode cL_law (pc + 1 + 2) = .ok (.iconst jz, 1)) (d4 : decode cL_law (pc + 1 + 2 + 1) = .ok (.iadd, 1)) (d5 : decode cL_law (pc + 1 + 2 + 1 + 1) = .ok (.iaload, 1)) (hj : Int32.ofInt jz = n2 j) (hk : i + j < mLen b' 54)
    (K : G lwD st0 trI fin (pc + 1 + 2 + 1 + 1 + 1) env (vi (mI b' 54 (i + j)) :: stk) (UU b' b x m)) : G lwD st0 trI fin pc env stk (UU b' b x m) := by
  refine r_aload_n d1 p0 rfl h0 ?_
  refine r_iload d2 p4 h4 ?_
  refine r_iconst d3 hj ?_
  refine r_iadd d4 ?_
  rw [n2_add]
  have e := scrA (x := x) (m := m) hB hN hb hk
  refine r_iaload (F := fun _ => some fin) d5 (by rw [e]; rfl) (fun z hz _ => ?_)
  cases e.symm.trans hz
  exact K
theorem lwV {S S' : Mem} {r t : Nat} (d : decode cL_law pc = .ok (.invokevirtual idx, 3)) (q1 : Cond.methodLink "HouseClapsLaw" idx X ∈ lw_all) (hx : XDecl X) (hts : ∀ u ∈ [t], 0 < u ∧ u < 22 ∧ (Cond.selects (cnm u) X y ∈ lw_all ∨ Cond.selects (cnm u) X y ∈ lw_ex)) (q : Cond.instanceMethod y ∈ lw_all) (ha : Ad X as.length) (hlv : lev' + 1 ≤ 160) (hr : (rest.map evc).sum ≤ 20) (hst : (vr (some r) :: as).reverse ++ rest = stk)
    (hn : r < mNx S) (ht : mTag S r = t) (c : Con y lev' (vr (some r) :: as) S trI (v, S')) (K : G lwD st0 trI fin (pc + 3) env (vi v :: rest) S') : G lwD st0 trI fin pc env stk S := by
  refine r_call (fx := some (v, S')) (av := vr (some r) :: as) (tr' := trI) (lev' := lev') (fun fin' h => ?_) hlv hr hst rfl rfl K
  refine lkV d q1 hx (vc_of (ts := [t]) (fx := some (v, S')) hts q (fun fin' h => ?_)) ha fin' ?_
  · cases h; exact c
  · rw [← h]
    exact if_pos ⟨hn, by rw [ht]; simp⟩
theorem lwX (hB : SB b') (hb : 131 ≤ mNx b) (c : Con y lev' (vr (some 64) :: as) (mkX b x) trI (v, mkX b2 x2)) (d : decode cL_law pc = .ok (.invokevirtual idx, 3)) (q1 : Cond.methodLink "HouseClapsLaw" idx X ∈ lw_all) (hx : XDecl X) (hts : ∀ u ∈ [1], 0 < u ∧ u < 22 ∧ (Cond.selects (cnm u) X y ∈ lw_all ∨ Cond.selects (cnm u) X y ∈ lw_ex)) (q : Cond.instanceMethod y ∈ lw_all) (ha : Ad X as.length) (hlv : lev' + 1 ≤ 160) (hr : (rest.map evc).sum ≤ 20) (hst : (vr (some 64) :: as).reverse ++ rest = stk)
    (K : G lwD st0 trI fin (pc + 3) env (vi v :: rest) (UU b' b2 x2 m)) : G lwD st0 trI fin pc env stk (UU b' b x m) := by
  have c2 : Con y lev' (vr (some 64) :: as) (UU b' b x m) trI (v, UU b' b2 x2 m) := c.frame2 (b := mkM b' (mNx b - 130) (mNs b) m) (fun a h1 h2 => tagM0 hB (by have : 131 ≤ a := Nat.le_trans hb h1; omega))
  refine lwV d q1 hx hts q ha hlv hr hst (show 64 < mNx b by omega) ?_ c2 K
  have t0 : mTag (mkX b x) 64 = 1 := rfl
  exact (mU_tag (by rw [t0]; decide)).trans t0
theorem lwM (hB : SB b') (hN : NoM b) (hb : 131 ≤ mNx b) (c : Con y lev' (vr (some 106) :: as) (mkM b' (mNx b - 130) (mNs b) m) trI (v, mkM b' (mNx b - 130) (mNs b) m2)) (d : decode cL_law pc = .ok (.invokevirtual idx, 3)) (q1 : Cond.methodLink "HouseClapsLaw" idx X ∈ lw_all) (hx : XDecl X) (hts : ∀ u ∈ [4], 0 < u ∧ u < 22 ∧ (Cond.selects (cnm u) X y ∈ lw_all ∨ Cond.selects (cnm u) X y ∈ lw_ex)) (q : Cond.instanceMethod y ∈ lw_all) (ha : Ad X as.length) (hlv : lev' + 1 ≤ 160) (hr : (rest.map evc).sum ≤ 20) (hst : (vr (some 106) :: as).reverse ++ rest = stk)
    (K : G lwD st0 trI fin (pc + 3) env (vi v :: rest) (UU b' b x m2)) : G lwD st0 trI fin pc env stk (UU b' b x m) := by
  have c2 := Con.frame2 (b := mkX b x) (by
    intro a h1 h2
    exact absurd (show mNx b - 130 + 130 < mNx b - 130 + 130 from Nat.lt_of_le_of_lt h1 h2) (Nat.lt_irrefl _)) c
  rw [← UU_M hB hN hb] at c2
  have c3 : Con y lev' (vr (some 106) :: as) (UU b' b x m) trI (v, UU b' b x m2) := by
    rw [UU_M (m := m2) hB hN hb]; exact c2
  refine lwV d q1 hx hts q ha hlv hr hst (show 106 < mNx b by omega) ?_ c3 K
  have t0 : mTag (mkX b x) 106 = 0 := by rw [tagX (Or.inr ⟨by decide, by decide⟩)]; exact hN 106 (Or.inr ⟨by decide, by decide⟩)
  exact (mU_tag0 t0).trans rfl
/-- a helper of the law's -/
theorem lwS (hB : SB b') (hb : 131 ≤ mNx b) (c : Con y lev' as (mkX b x) trI (v, mkX b2 x2)) (d : decode cL_law pc = .ok (.invokestatic idx, 3)) (q1 : Cond.methodLink "HouseClapsLaw" idx y ∈ lw_all) (q2 : Cond.static y ∈ lw_all) (q3 : Cond.initialized y.cls ∈ lw_all) (ha : Ad y as.length) (hlv : lev' + 1 ≤ 160) (hr : (rest.map evc).sum ≤ 20) (hst : as.reverse ++ rest = stk)
    (K : G lwD st0 trI fin (pc + 3) env (vi v :: rest) (UU b' b2 x2 m)) : G lwD st0 trI fin pc env stk (UU b' b x m) := by
  have c2 : Con y lev' as (UU b' b x m) trI (v, UU b' b2 x2 m) := c.frame2 (b := mkM b' (mNx b - 130) (mNs b) m) (fun a h1 h2 => tagM0 hB (by have : 131 ≤ a := Nat.le_trans hb h1; omega))
  refine r_call (fx := some (v, UU b' b2 x2 m)) (av := as) (tr' := trI) (lev' := lev') (fun fin' h => ?_) hlv hr hst rfl rfl K
  exact lkS (fx := some (v, UU b' b2 x2 m)) d q1 q2 q3 (fun fin' h => by cases h; exact c2) ha fin' h
theorem NoM.next (hN : NoM b) (hb : 131 ≤ mNx b) (h : mLe (mkX b x) (mkX b2 x2)) : NoM b2 := fun a ha => by
  rw [← tagX (x := x2) ha, h.2.2 a (show a < mNx b by omega), tagX ha]; exact hN a ha
theorem lwEq {tgt : Nat} {off : Int} {S : Mem} (d : decode cL_law pc = .ok (.if_icmp .eq off, 3)) (ht : (pc : Int) + off = (tgt : Int)) (K : G lwD st0 trI fin tgt env rest S) : G lwD st0 trI fin pc env (vi v :: vi v :: rest) S :=
  r_icmp_eq (A := some fin) (B := none) d ht (if_pos rfl) (fun _ _ => K) (fun h _ => absurd rfl h)
/-- both answers, at the room used -/
theorem two_at {α γ : Type} {A : Option (α × Mem)} {B : Nat → Nat → Option (γ × Mem)} {P : α → γ → Mem → XS → MS → Prop} (h : ∀ n s, ∃ r t b2 x2 m2, A = some (r, mkX b2 x2) ∧ B n s = some (t, mkM b' n s m2) ∧ P r t b2 x2 m2) : ∃ r t b2 x2 m2, A = some (r, mkX b2 x2) ∧ B (mNx b2 - 130) (mNs b2) = some (t, mkM b' (mNx b2 - 130) (mNs b2) m2) ∧ P r t b2 x2 m2 := by
  obtain ⟨r, t, b2, x2, m2, e1, -, -⟩ := h 0 0
  obtain ⟨r3, t3, b3, x3, m3, e3, e4, p3⟩ := h (mNx b2 - 130) (mNs b2)
  have e := Option.some.inj (e1.symm.trans e3)
  have e5 : mkX b2 x2 = mkX b3 x3 := congrArg Prod.snd e
  have e6 : mNx b2 = mNx b3 := by
    show mNx (mkX b2 x2) = mNx (mkX b3 x3)
    rw [e5]
  have e7 : mNs b2 = mNs b3 := by
    show mNs (mkX b2 x2) = mNs (mkX b3 x3)
    rw [e5]
  exact ⟨r3, t3, b3, x3, m3, e3, by rw [← e6, ← e7]; exact e4, p3⟩
end LawRows
