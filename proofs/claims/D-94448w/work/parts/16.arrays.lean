/-! ===== arrays, new ===== -/
theorem cnm_ok : ∀ u, u < 22 → 0 < u → (hcl[u]?).map (fun q => q.1) = some (cnm u) := by decide +kernel
theorem cls_at {w : Wd} {s : State} (hf : SF w s) {u : Nat} (h : u < 22) (h0 : 0 < u) : ClassAt s (cnm u) (w.1.1 u) := by
  have h1 := cnm_ok u h h0
  cases hq : hcl[u]? with
  | none => rw [hq] at h1; cases h1
  | some q =>
    rw [hq] at h1
    have h2 := (hf.2.2.1.1 u q hq).2
    rw [← Option.some.inj h1]
    exact h2
theorem asg_cast {t u : Nat} (h : asg t u = true) : (t = 106 ∧ u = 2) ∨ ∃ nm, ety t = .object nm ∧ Cond.castable (cnm u) nm ∈ lw_tbl := by
  simp only [asg, Bool.or_eq_true, Bool.and_eq_true, beq_iff_eq, or_assoc] at h
  rcases h with ⟨rfl, h⟩ | ⟨rfl, h⟩ | ⟨rfl, rfl⟩
  · rcases h with rfl | rfl | rfl | rfl | rfl
    · exact Or.inr ⟨_, rfl, q2346⟩
    · exact Or.inr ⟨_, rfl, q2349⟩
    · exact Or.inr ⟨_, rfl, q2347⟩
    · exact Or.inr ⟨_, rfl, q2348⟩
    · exact Or.inr ⟨_, rfl, q2331⟩
  · rcases h with rfl | rfl | rfl | rfl | rfl | rfl
    · exact Or.inr ⟨_, rfl, q2351⟩
    · exact Or.inr ⟨_, rfl, q2352⟩
    · exact Or.inr ⟨_, rfl, q2353⟩
    · exact Or.inr ⟨_, rfl, q2354⟩
    · exact Or.inr ⟨_, rfl, q2355⟩
    · exact Or.inr ⟨_, rfl, q2356⟩
  · exact Or.inl ⟨rfl, rfl⟩
theorem asg_dom {t u : Nat} (h : asg t u = true) : 104 ≤ t ∧ t < 107 ∧ 0 < u ∧ u < 22 := by
  simp only [asg, Bool.or_eq_true, Bool.and_eq_true, beq_iff_eq, or_assoc] at h
  omega
theorem Rel.push {w : Wd} {st st' : Mem} {H H1 : Heap} (hR : Rel w st H) (z : H1.size = H.size + 1) (o1 : ∀ q : Nat, q < H.size → H1[q]? = H[q]?) (hn : mNx st' = mNx st + 1) (hc : okCell w st' H1 (mNx st))
    (hk : ∀ b, b < mNx st → okCell w st H b → okCell w st' H b) (h53 : ∀ x, x < 64 → mTag st' x = mTag st x) : Rel w st' H1 := by
  obtain ⟨r1, r2, r3, r4, r5, r6, r7, r8, r9⟩ := hR
  have e0 : wR w (mNx st) = H.size := by have := r5 0; simpa using this
  refine ⟨fun b hb => ?_, fun a b h64 ha hb h53b e => ?_, fun a h64 ha => ?_, fun q hq => ?_, fun j => ?_, by omega, by omega, fun b hb h53b => ?_, by rw [h53 53 (by decide), h53 54 (by decide)]; exact r9⟩
  · rw [hn] at hb
    rcases Nat.lt_or_ge b (mNx st) with hb1 | hb1
    · by_cases h3 : b = 53
      · have t0 : mTag st' b = 0 := by rw [h3, h53 53 (by decide)]; exact r9.1
        exact ⟨fun h => by omega, fun h _ => by omega⟩
      · exact (hk b hb1 (r1 b hb1)).kept (o1 _ (r8 b hb1 h3))
    · have : b = mNx st := by omega
      subst this; exact hc
  · rw [hn] at ha hb
    rcases Nat.lt_or_ge a (mNx st) with ha1 | ha1 <;> rcases Nat.lt_or_ge b (mNx st) with hb1 | hb1
    · exact r2 a b h64 ha1 hb1 h53b e
    · have hb2 : b = mNx st := by omega
      subst hb2
      have := r8 a ha1 (by omega)
      omega
    · have ha2 : a = mNx st := by omega
      subst ha2
      have := r8 b hb1 h53b
      omega
    · omega
  · rw [hn] at ha
    rcases Nat.lt_or_ge a (mNx st) with ha1 | ha1
    · exact r3 a h64 ha1
    · have : a = mNx st := by omega
      subst this; omega
  · rw [o1 q (by omega)]; exact r4 q hq
  · rw [hn, z]
    have := r5 (j + 1)
    rw [show mNx st + 1 + j = mNx st + (j + 1) by omega, this]; omega
  · rw [hn] at hb
    rcases Nat.lt_or_ge b (mNx st) with hb1 | hb1
    · have := r8 b hb1 h53b; omega
    · have : b = mNx st := by omega
      subst this; omega
theorem S_push {A : Nat → Prop} {H0 H H1 : Heap} {locs : List Loc} (hS : va_S A H0 H locs) (z : H1.size = H.size + 1) (o1 : ∀ q : Nat, q < H.size → H1[q]? = H[q]?) : va_S A H0 H1 locs :=
  ⟨Nat.le_trans hS.1 (by omega), fun q h1 h2 => (o1 q (Nat.lt_of_lt_of_le h1 hS.1)).trans (hS.2.1 q h1 h2), hS.2.2⟩
theorem mNew_old {w : Wd} {st : Mem} {H : Heap} {t n s b : Nat} (hb : b < mNx st) (h : okCell w st H b) : okCell w (mNew st t n s) H b := by
  have hne : b ≠ mNx st := by omega
  exact h.congr (if_neg hne) (if_neg hne) (fun j => congrFun (if_neg hne) j) (fun j => congrFun (if_neg hne) j) (fun j => congrFun (if_neg hne) j)
theorem mNew_53 {w : Wd} {st : Mem} {H : Heap} {t n s : Nat} (hR : Rel w st H) : ∀ x, x < 64 → mTag (mNew st t n s) x = mTag st x := fun x hx => if_neg (by have := hR.2.2.2.2.2.1; omega)
theorem mNew_I {st : Mem} {t n s j : Nat} : mI (mNew st t n s) (mNx st) j = 0 := congrFun (if_pos rfl) j
theorem mNew_J {st : Mem} {t n s j : Nat} : mJ (mNew st t n s) (mNx st) j = 0 := congrFun (if_pos rfl) j
theorem mNew_A {st : Mem} {t n s j : Nat} : mA (mNew st t n s) (mNx st) j = none := congrFun (if_pos rfl) j
theorem mNew_tag {st : Mem} {t n s : Nat} : mTag (mNew st t n s) (mNx st) = t := if_pos rfl
theorem mNew_len {st : Mem} {t n s : Nat} : mLen (mNew st t n s) (mNx st) = n := if_pos rfl
section Arrays
variable {k : CT} {w : Wd} {cc : ByteArray} {own nm : String} {lev : Nat} {ret : Option FieldType} {mx : Nat} {st0 st : Mem} {β : Type} {tr : β → Rs} {fin : β × Mem} {pc : Nat} {env : List (Nat × Ev)} {stk : List Ev}
variable {H : Heap} {locs : List Loc} {cells slots : Nat} {Q : State → Prop} {ls : Array Slot} {rest : List Value}
theorem arr_rd (hR : Rel w st H) {a : Nat} (ha : a < mNx st) (ht : 100 ≤ mTag st a) : ∃ cell : Cell, H[wR w a]? = some cell ∧ cell.cls = wC w (kcl a (mTag st a)) ∧ cell.slots = (arrV (wC w (mTag st a)) (mLen st a) (avv w st (mTag st a) a)).slots ∧ (cell.vm ≠ .unknown ∧ cell.vm.isStatics = false) ∧ (64 ≤ a → cell = arrV (wC w (mTag st a)) (mLen st a) (avv w st (mTag st a) a)) := (hR.1 a ha).1 ht
theorem arr_at (hR : Rel w st H) {a : Nat} (h64 : 64 ≤ a) (ha : a < mNx st) (ht : 100 ≤ mTag st a) : H[wR w a]? = some (arrV (wC w (mTag st a)) (mLen st a) (avv w st (mTag st a) a)) := by
  obtain ⟨cell, h1, -, -, -, h2⟩ := (hR.1 a ha).1 ht
  rw [h1, h2 h64]
theorem not_st {v : VmData} (h : v.isStatics = false) (z : Nat) : v ≠ .statics z := fun e => by
  rw [e] at h
  exact absurd (show true = false from h) (by decide)
theorem arr_of {s : State} {cell : Cell} {cA : ClassId} {n : Nat} {f : Nat → Value} {ty : FieldType} (e : cell.cls = cA) (v : cell.vm ≠ .unknown ∧ cell.vm.isStatics = false) (h : s.isArrayOf (arrV cA n f) ty) : s.isArrayOf cell ty := ⟨fun z => not_st v.2 z, by rw [e]; exact h.2⟩
theorem arr_is {w : Wd} {s : State} {cell : Cell} {a : Nat} (hf : SF w s) (hR : Rel w st H) (e : cell.cls = wC w (kcl a (mTag st a))) (v : cell.vm ≠ .unknown ∧ cell.vm.isStatics = false) (h1 : 100 ≤ mTag st a) (h2 : mTag st a < 108) : s.isArrayOf cell (ety (mTag st a)) := by
  by_cases h : a = 54
  · subst h
    have t : mTag st 54 = 102 := by rcases hR.2.2.2.2.2.2.2.2.2 with h | h <;> omega
    have h9 := hf.2.2.2.2.2.2.2.1.2.2 0 (fun _ => .null)
    rw [t]
    exact arr_of (cA := wC w 108) (by rw [e]; rfl) v h9
  · refine arr_of (cA := wC w (mTag st a)) (n := 0) (f := fun _ => .null) ?_ v ((hf.2.2.2.1 (mTag st a) h1 h2).1 0 (fun _ => .null))
    rw [e]; exact congrArg (wC w) (show kcl a (mTag st a) = mTag st a from if_neg h)
theorem ok_arr {w : Wd} {H : Heap} {q a t : Nat} {n : Nat} {f : Nat → Value} (h64 : 64 ≤ a) (h : H[q]? = some (arrV (wC w t) n f)) : ∃ cell : Cell, H[q]? = some cell ∧ cell.cls = wC w (kcl a t) ∧ cell.slots = (arrV (wC w t) n f).slots ∧ (cell.vm ≠ .unknown ∧ cell.vm.isStatics = false) ∧ (64 ≤ a → cell = arrV (wC w t) n f) := ⟨_, h, (congrArg (wC w) (show kcl a t = t from if_neg (by omega))).symm, rfl, ⟨(fun h => by cases h), rfl⟩, fun _ => rfl⟩
theorem arr_in {i : Int32} {n : Nat} {cI : ClassId} {f : Nat → Value} (h0 : 0 ≤ i) (h1 : i.toNatClampNeg < n) : ¬ (i < 0 ∨ (arrV cI n f).slots.size ≤ i.toNatClampNeg) := by
  rw [arrV_size]
  rintro (h | h)
  · rw [Int32.lt_iff_toInt_lt] at h
    rw [Int32.le_iff_toInt_le] at h0
    omega
  · omega
theorem arr_put {st' : Mem} {f0 : Mem} {H1 : Heap} (hR : Rel w st H) (hS : va_S (zA w st0 (ks k).heap) (ks k).heap H locs) (hg : Go k w st0 f0 st) {a j : Nat} {v : Value} (h64 : 64 ≤ a) (ha : a < mNx st) (ht : 100 ≤ mTag st a)
    (g1 : H1[wR w a]? = some ((arrV (wC w (mTag st a)) (mLen st a) (avv w st (mTag st a) a)).setSlot j v)) (g2 : H1.size = H.size) (g3 : ∀ q, q ≠ wR w a → H1[q]? = H[q]?)
    (e1 : mNx st' = mNx st) (e2 : ∀ b, mTag st' b = mTag st b) (e3 : ∀ b, mLen st' b = mLen st b) (e4 : avv w st' (mTag st a) a j = v) (e5 : ∀ g, g ≠ j → avv w st' (mTag st a) a g = avv w st (mTag st a) a g)
    (e6 : ∀ b j, b ≠ a → mI st' b j = mI st b j ∧ mJ st' b j = mJ st b j ∧ mA st' b j = mA st b j) : Rel w st' H1 ∧ va_S (zA w st0 (ks k).heap) (ks k).heap H1 (locs ++ [⟨wR w a, j⟩]) := by
  refine ⟨hR.put h64 ha g2 g3 e1 ⟨fun _ => ?_, fun _ h => ?_⟩ (fun b hb ok => ok.congr (e2 b) (e3 b) (fun j => (e6 b j hb).1) (fun j => (e6 b j hb).2.1) (fun j => (e6 b j hb).2.2)) (fun x _ => e2 x), hS.put g2 g3 (zA_in hg h64 (by omega))⟩
  · refine ok_arr h64 ?_
    rw [g1, e2, e3, arrV_store]
    congr 2
    funext g
    by_cases h : g = j
    · subst h; rw [e4]; simp [updV]
    · rw [e5 g h]; simp [updV, h]
  · rw [e2] at h; omega
theorem ety_ref {t : Nat} (h : 104 ≤ t) (h2 : t < 108) : (ety t).isReference = true := by
  have : t = 104 ∨ t = 105 ∨ t = 106 ∨ t = 107 := by omega
  rcases this with rfl | rfl | rfl | rfl <;> rfl
theorem r_iaload {o : Rf} {i : Int32} {F : Int32 → Option (β × Mem)} (d : decode cc pc = .ok (.iaload, 1)) (h : (aI st o i).bind F = some fin) (K : ∀ x, aI st o i = some x → F x = some fin → G (cc, own, nm, lev, ret, mx) st0 tr fin (pc + 1) env (vi x :: stk) st) : G (cc, own, nm, lev, ret, mx) st0 tr fin pc env (vi i :: vr o :: stk) st := by
  obtain ⟨x, e, h⟩ := bind_at h
  have K := K x e h
  cases o with
  | none => cases e
  | some a =>
    unfold aI at e
    simp only at e
    split at e
    · rename_i c
      obtain ⟨c1, c2, c3, c4⟩ := c
      cases e
      refine ⟨K.1, fun k w C hg H locs ls hR hS hl => ?_⟩
      obtain ⟨cell, hA, a1, a2, a3, -⟩ := arr_rd hR c1 (by omega)
      have h9 := arr_is C.f hR a1 a3 (by omega) (by omega)
      rw [show ety (mTag st a) = .int by rw [c2]; rfl] at h9
      refine W.iald C.x C.b hA h9 a3.1 (by rw [a2]; exact arr_in c3 c4) (by rw [a2]; exact arrV_read _ _ c4) rfl rfl d ?_
      have e9 : avv w st (mTag st a) a i.toNatClampNeg = evV w (vi (mI st a i.toNatClampNeg)) := by rw [c2]; rfl
      rw [e9]
      exact K.2 k w C hg H locs ls hR hS hl
    · cases e
theorem r_laload {o : Rf} {i : Int32} {F : Int64 → Option (β × Mem)} (d : decode cc pc = .ok (.laload, 1)) (h : (aJ st o i).bind F = some fin) (K : ∀ x, aJ st o i = some x → F x = some fin → G (cc, own, nm, lev, ret, mx) st0 tr fin (pc + 1) env (vj x :: stk) st) : G (cc, own, nm, lev, ret, mx) st0 tr fin pc env (vi i :: vr o :: stk) st := by
  obtain ⟨x, e, h⟩ := bind_at h
  have K := K x e h
  cases o with
  | none => cases e
  | some a =>
    unfold aJ at e
    simp only at e
    split at e
    · rename_i c
      obtain ⟨c1, c2, c3, c4⟩ := c
      cases e
      refine ⟨K.1, fun k w C hg H locs ls hR hS hl => ?_⟩
      obtain ⟨cell, hA, a1, a2, a3, -⟩ := arr_rd hR c1 (by omega)
      have h9 := arr_is C.f hR a1 a3 (by omega) (by omega)
      rw [show ety (mTag st a) = .long by rw [c2]; rfl] at h9
      refine W.lald C.x C.b hA h9 a3.1 (by rw [a2]; exact arr_in c3 c4) (by rw [a2]; exact arrV_read _ _ c4) rfl rfl d ?_
      have e9 : avv w st (mTag st a) a i.toNatClampNeg = evV w (vj (mJ st a i.toNatClampNeg)) := by rw [c2]; rfl
      rw [e9]
      exact K.2 k w C hg H locs ls hR hS hl
    · cases e
theorem r_baload {o : Rf} {i : Int32} {F : Int32 → Option (β × Mem)} (d : decode cc pc = .ok (.baload, 1)) (h : (aB st o i).bind F = some fin) (K : ∀ x, aB st o i = some x → F x = some fin → G (cc, own, nm, lev, ret, mx) st0 tr fin (pc + 1) env (vi x :: stk) st) : G (cc, own, nm, lev, ret, mx) st0 tr fin pc env (vi i :: vr o :: stk) st := by
  obtain ⟨x, e, h⟩ := bind_at h
  have K := K x e h
  cases o with
  | none => cases e
  | some a =>
    unfold aB at e
    simp only at e
    split at e
    · rename_i c
      obtain ⟨c1, c2, c3, c4⟩ := c
      cases e
      refine ⟨K.1, fun k w C hg H locs ls hR hS hl => ?_⟩
      obtain ⟨cell, hA, a1, a2, a3, -⟩ := arr_rd hR c1 (by omega)
      have h9 := arr_is C.f hR a1 a3 (by omega) (by omega)
      have e9 : avv w st (mTag st a) a i.toNatClampNeg = evV w (vi (mI st a i.toNatClampNeg)) := by rcases c2 with c2 | c2 <;> rw [c2] <;> rfl
      have K := K.2 k w C hg H locs ls hR hS hl
      rcases c2 with c2 | c2
      · rw [show ety (mTag st a) = .byte by rw [c2]; rfl] at h9
        refine W.bald C.x C.b hA h9 a3.1 (by rw [a2]; exact arr_in c3 c4) (by rw [a2]; exact arrV_read _ _ c4) rfl rfl d ?_
        rw [e9]
        exact K
      · rw [show ety (mTag st a) = .boolean by rw [c2]; rfl] at h9
        refine W.zald C.x C.b hA h9 a3.1 (by rw [a2]; exact arr_in c3 c4) (by rw [a2]; exact arrV_read _ _ c4) rfl rfl d ?_
        rw [e9]
        exact K
    · cases e
theorem r_aaload {o : Rf} {i : Int32} {F : Rf → Option (β × Mem)} (d : decode cc pc = .ok (.aaload, 1)) (h : (aA st o i).bind F = some fin) (K : ∀ x, aA st o i = some x → F x = some fin → G (cc, own, nm, lev, ret, mx) st0 tr fin (pc + 1) env (vr x :: stk) st) : G (cc, own, nm, lev, ret, mx) st0 tr fin pc env (vi i :: vr o :: stk) st := by
  obtain ⟨x, e, h⟩ := bind_at h
  have K := K x e h
  cases o with
  | none => cases e
  | some a =>
    unfold aA at e
    simp only at e
    split at e
    · rename_i c
      obtain ⟨c1, c2, c2', c3, c4⟩ := c
      cases e
      refine ⟨K.1, fun k w C hg H locs ls hR hS hl => ?_⟩
      obtain ⟨cell, hA, a1, a2, a3, -⟩ := arr_rd hR c1 (by omega)
      have h9 := arr_is C.f hR a1 a3 (by omega) (by omega)
      refine W.aald C.x C.b hA h9 (ety_ref c2 c2') a3.1 (by rw [a2]; exact arr_in c3 c4) (by rw [a2]; exact arrV_read _ _ c4) rfl rfl d ?_
      have e9 : avv w st (mTag st a) a i.toNatClampNeg = evV w (vr (mA st a i.toNatClampNeg)) := by
        unfold avv
        rw [if_neg (by omega), if_pos c2]
        rfl
      rw [e9]
      exact K.2 k w C hg H locs ls hR hS hl
    · cases e
theorem r_alen {o : Rf} {F : Int32 → Option (β × Mem)} (d : decode cc pc = .ok (.arraylength, 1)) (h : (aN st o).bind F = some fin) (K : ∀ x, aN st o = some x → F x = some fin → G (cc, own, nm, lev, ret, mx) st0 tr fin (pc + 1) env (vi x :: stk) st) : G (cc, own, nm, lev, ret, mx) st0 tr fin pc env (vr o :: stk) st := by
  obtain ⟨x, e, h⟩ := bind_at h
  have K := K x e h
  cases o with
  | none => cases e
  | some a =>
    unfold aN at e
    simp only at e
    split at e
    · rename_i c
      obtain ⟨c1, c2, c3⟩ := c
      cases e
      refine ⟨K.1, fun k w C hg H locs ls hR hS hl => ?_⟩
      obtain ⟨cell, hA, a1, a2, a3, -⟩ := arr_rd hR c1 (by omega)
      have h9 := arr_is C.f hR a1 a3 (by omega) (by omega)
      exact W.alen C.x C.b hA h9 (by rw [a2, arrV_size]) rfl rfl d (K.2 k w C hg H locs ls hR hS hl)
    · cases e
theorem r_iastore {o : Rf} {i x : Int32} {F : Mem → Option (β × Mem)} (d : decode cc pc = .ok (.iastore, 1)) (h : (uI st o i x).bind F = some fin) (K : ∀ st', uI st o i x = some st' → F st' = some fin → G (cc, own, nm, lev, ret, mx) st0 tr fin (pc + 1) env stk st') : G (cc, own, nm, lev, ret, mx) st0 tr fin pc env (vi x :: vi i :: vr o :: stk) st := by
  obtain ⟨st', e, h⟩ := bind_at h
  have K := K st' e h
  cases o with
  | none => cases e
  | some a =>
    unfold uI at e
    simp only at e
    split at e
    · rename_i c
      obtain ⟨c0, c1, c2, c3, c4⟩ := c
      cases e
      refine ⟨K.1, fun k w C hg H locs ls hR hS hl => ?_⟩
      have hA := arr_at hR c0 c1 (by omega)
      have h9 := (C.f.2.2.2.1 (mTag st a) (by omega) (by omega)).1 (mLen st a) (avv w st (mTag st a) a)
      rw [show ety (mTag st a) = .int by rw [c2]; rfl] at h9
      refine W.iast C.x C.b hA h9 (fun q => by cases q) (arr_in c3 c4) rfl rfl d fun H1 g1 g2 g3 => ?_
      obtain ⟨hR1, hS1⟩ := arr_put (st' := mSI st a i.toNatClampNeg x) hR hS hg c0 c1 (by omega) g1 g2 g3 rfl (fun _ => rfl) (fun _ => rfl) (by simp [avv, c2, mSI, mI, up2]) (fun g hg => by simp [avv, c2, mSI, mI, up2, hg]) (fun b j hb => ⟨by simp [mSI, mI, up2, hb], rfl, rfl⟩)
      exact K.2 k w C hg H1 _ ls hR1 hS1 hl
    · cases e
theorem r_lastore {o : Rf} {i : Int32} {x : Int64} {F : Mem → Option (β × Mem)} (d : decode cc pc = .ok (.lastore, 1)) (h : (uJ st o i x).bind F = some fin) (K : ∀ st', uJ st o i x = some st' → F st' = some fin → G (cc, own, nm, lev, ret, mx) st0 tr fin (pc + 1) env stk st') : G (cc, own, nm, lev, ret, mx) st0 tr fin pc env (vj x :: vi i :: vr o :: stk) st := by
  obtain ⟨st', e, h⟩ := bind_at h
  have K := K st' e h
  cases o with
  | none => cases e
  | some a =>
    unfold uJ at e
    simp only at e
    split at e
    · rename_i c
      obtain ⟨c0, c1, c2, c3, c4⟩ := c
      cases e
      refine ⟨K.1, fun k w C hg H locs ls hR hS hl => ?_⟩
      have hA := arr_at hR c0 c1 (by omega)
      have h9 := (C.f.2.2.2.1 (mTag st a) (by omega) (by omega)).1 (mLen st a) (avv w st (mTag st a) a)
      rw [show ety (mTag st a) = .long by rw [c2]; rfl] at h9
      refine W.last C.x C.b hA h9 (fun q => by cases q) (arr_in c3 c4) rfl rfl d fun H1 g1 g2 g3 => ?_
      obtain ⟨hR1, hS1⟩ := arr_put (st' := mSJ st a i.toNatClampNeg x) hR hS hg c0 c1 (by omega) g1 g2 g3 rfl (fun _ => rfl) (fun _ => rfl) (by simp [avv, c2, mSJ, mJ, up2]) (fun g hg => by simp [avv, c2, mSJ, mJ, up2, hg]) (fun b j hb => ⟨rfl, by simp [mSJ, mJ, up2, hb], rfl⟩)
      exact K.2 k w C hg H1 _ ls hR1 hS1 hl
    · cases e
theorem r_bastore {o : Rf} {i x : Int32} {F : Mem → Option (β × Mem)} (d : decode cc pc = .ok (.bastore, 1)) (h : (uB st o i x).bind F = some fin) (K : ∀ st', uB st o i x = some st' → F st' = some fin → G (cc, own, nm, lev, ret, mx) st0 tr fin (pc + 1) env stk st') : G (cc, own, nm, lev, ret, mx) st0 tr fin pc env (vi x :: vi i :: vr o :: stk) st := by
  obtain ⟨st', e, h⟩ := bind_at h
  have K := K st' e h
  cases o with
  | none => cases e
  | some a =>
    unfold uB at e
    simp only at e
    split at e
    · rename_i c
      obtain ⟨c0, c1, c2, c3, c4⟩ := c
      cases e
      refine ⟨K.1, fun k w C hg H locs ls hR hS hl => ?_⟩
      have hA := arr_at hR c0 c1 (by omega)
      have h9 := (C.f.2.2.2.1 (mTag st a) (by omega) (by omega)).1 (mLen st a) (avv w st (mTag st a) a)
      rcases c2 with c2 | c2
      · rw [show ety (mTag st a) = .byte by rw [c2]; rfl] at h9
        rw [if_pos c2] at K
        refine W.bast C.x C.b hA h9 (fun q => by cases q) (arr_in c3 c4) rfl rfl d fun H1 g1 g2 g3 => ?_
        obtain ⟨hR1, hS1⟩ := arr_put (st' := mSI st a i.toNatClampNeg x.toInt8.toInt32) hR hS hg c0 c1 (by omega) g1 g2 g3 rfl (fun _ => rfl) (fun _ => rfl) (by simp [avv, c2, mSI, mI, up2]; rfl) (fun g hg => by simp [avv, c2, mSI, mI, up2, hg]) (fun b j hb => ⟨by simp [mSI, mI, up2, hb], rfl, rfl⟩)
        exact K.2 k w C hg H1 _ ls hR1 hS1 hl
      · rw [show ety (mTag st a) = .boolean by rw [c2]; rfl] at h9
        rw [if_neg (by omega)] at K
        refine W.zast C.x C.b hA h9 (fun q => by cases q) (arr_in c3 c4) rfl rfl d fun H1 g1 g2 g3 => ?_
        obtain ⟨hR1, hS1⟩ := arr_put (st' := mSI st a i.toNatClampNeg (nz x)) hR hS hg c0 c1 (by omega) g1 g2 g3 rfl (fun _ => rfl) (fun _ => rfl) (by simp [avv, c2, mSI, mI, up2]; rfl) (fun g hg => by simp [avv, c2, mSI, mI, up2, hg]) (fun b j hb => ⟨by simp [mSI, mI, up2, hb], rfl, rfl⟩)
        exact K.2 k w C hg H1 _ ls hR1 hS1 hl
    · cases e
theorem r_aastore {o x : Rf} {i : Int32} {F : Mem → Option (β × Mem)} (d : decode cc pc = .ok (.aastore, 1)) (h : (uA st o i x).bind F = some fin) (K : ∀ st', uA st o i x = some st' → F st' = some fin → G (cc, own, nm, lev, ret, mx) st0 tr fin (pc + 1) env stk st') : G (cc, own, nm, lev, ret, mx) st0 tr fin pc env (vr x :: vi i :: vr o :: stk) st := by
  obtain ⟨st', e, h⟩ := bind_at h
  have K := K st' e h
  cases o with
  | none => cases e
  | some a =>
    cases x with
    | none => cases e
    | some b =>
      unfold uA at e
      simp only at e
      split at e
      · rename_i c
        obtain ⟨c0, c1, c3, c4, c5, c6⟩ := c
        cases e
        refine ⟨K.1, fun k w C hg H locs ls hR hS hl => ?_⟩
        obtain ⟨d1, d2, d3, d4⟩ := asg_dom c6
        have hA := arr_at hR c0 c1 (by omega)
        obtain ⟨cell, q1, q2, q3, -⟩ := (hR.1 b c5).2 d3 (by omega)
        have hB := cls_at C.f d4 d3
        obtain ⟨kB, hkB, hkindB⟩ := hB.2
        have hra := (C.f.2.2.2.1 (mTag st a) (by omega) (by omega)).2
        have key : ∃ (kA : Class) (comp : ClassId) (en : String) (kcomp : Class), (ks k).vm.classes[wC w (mTag st a)]? = some kA ∧ kA.kind = .array comp (.object en) ∧ (ks k).vm.classes[comp]? = some kcomp ∧ (ks k).vm.assignable cell.cls comp = true := by
          rcases asg_cast c6 with ⟨e1, e2⟩ | ⟨en, e1, e2⟩
          · rw [e1] at hra
            obtain ⟨kA, comp, f1, f2, f3, f4⟩ := hra
            have hc := cls_at C.f (u := 2) (by decide) (by decide)
            have : comp = w.1.1 2 := Option.some.inj (f3.symm.trans hc.1)
            subst this
            obtain ⟨k2, hk2, -⟩ := hc.2
            exact ⟨kA, _, _, k2, by rw [e1]; exact f1, f2, hk2, by rw [q2, e2]; exact va_assign hc⟩
          · rw [e1] at hra
            obtain ⟨kA, comp, f1, f2, f3, f4⟩ := hra
            obtain ⟨c0', t0', g1, g2, g3⟩ := Cond.castable_spec (va_Nw.use (A := ka k) rfl (C.nw e2 rfl))
            cases hB.1.symm.trans g1
            cases f3.symm.trans g2
            obtain ⟨kcomp, hkc⟩ : ∃ kcomp, (ks k).vm.classes[comp]? = some kcomp := by
              obtain ⟨k3, hk3, -⟩ := Vm.findClass_spec f3
              exact ⟨k3, hk3⟩
            exact ⟨kA, comp, en, kcomp, f1, f2, hkc, by rw [q2]; exact g3⟩
        obtain ⟨kA, comp, en, kcomp, f1, f2, f3, f4⟩ := key
        refine W.aast C.x C.b hA (fun q h => by cases h) (fun h => by cases h) f1 f2 rfl f3 ⟨fun h => ?_, by rw [arrV_size]; exact c4⟩ q1 (fun q => not_st q3.2 q) (by rw [q2]; exact hkB) f4 rfl rfl d fun H1 g1 g2 g3 => ?_
        · rw [Int32.lt_iff_toInt_lt] at h
          rw [Int32.le_iff_toInt_le] at c3
          omega
        · obtain ⟨hR1, hS1⟩ := arr_put (st' := mSA st a i.toNatClampNeg (some b)) hR hS hg c0 c1 (by omega) g1 g2 g3 rfl (fun _ => rfl) (fun _ => rfl) (by unfold avv; rw [if_neg (by omega), if_pos (by omega)]; simp [mSA, mA, up2, rfV]) (fun g hg => by unfold avv; rw [if_neg (by omega), if_pos (by omega), if_neg (by omega), if_pos (by omega)]; simp [mSA, mA, up2, hg]) (fun b j hb => ⟨rfl, rfl, by simp [mSA, mA, up2, hb]⟩)
          exact K.2 k w C hg H1 _ ls hR1 hS1 hl
      · cases e
end Arrays
