/-! ===== System.arraycopy, getClass ===== -/
def cpOK (st : Mem) (t a sp n : Nat) : Bool := (List.range n).all fun i =>
  if t = 100 then fits .byte (.int (mI st a (sp + i))) else if t = 102 ∨ t = 103 then true else if t = 104 ∨ t = 105 then (match mA st a (sp + i) with
    | none => true
    | some b => decide (b < mNx st) && asg t (mTag st b)) else false
def mCopy (st : Mem) (t a b sp dp n : Nat) : Mem := if t = 103 then mRowJ st b (va_cpy (mJ st a) (mJ st b) sp dp n) else if 104 ≤ t then mRowA st b (va_cpy (mA st a) (mA st b) sp dp n) else mRow st b (va_cpy (mI st a) (mI st b) sp dp n)
def cpy (st : Mem) (x : Rf) (sp : Int32) (y : Rf) (dp n : Int32) : Option Mem := match x, y with
  | some a, some b => if 64 ≤ b ∧ a < mNx st ∧ b < mNx st ∧ a ≠ b ∧ mTag st a = mTag st b ∧ 100 ≤ mTag st b ∧ mTag st b < 106 ∧ 0 ≤ sp ∧ 0 ≤ dp ∧ 0 ≤ n ∧ sp.toNatClampNeg + n.toNatClampNeg ≤ mLen st a ∧ dp.toNatClampNeg + n.toNatClampNeg ≤ mLen st b ∧ cpOK st (mTag st b) a sp.toNatClampNeg n.toNatClampNeg = true then some (mCopy st (mTag st b) a b sp.toNatClampNeg dp.toNatClampNeg n.toNatClampNeg) else none
  | _, _ => none
def gcl (st : Mem) (x : Rf) : Option Rf := match x with
  | some a => if a < mNx st ∧ mTag st a = 104 then some (some 53) else none
  | none => none
theorem copied_of {c d e : Cell} {sp dp n : Int32} (h : c.slots = d.slots) : copied c e sp dp n = copied d e sp dp n := by
  unfold copied Cell.stretch
  rw [h]
section Copy
variable {cc : ByteArray} {own nm : String} {lev : Nat} {ret : Option FieldType} {mx : Nat} {st0 st : Mem} {β : Type} {tr : β → Rs} {fin : β × Mem} {pc idx : Nat} {env : List (Nat × Ev)} {stk : List Ev}
theorem i32_nn {z : Int32} (hz : 0 ≤ z) : z.toInt = (z.toNatClampNeg : Int) := by
  have hz0 : (0 : Int) ≤ z.toInt := by simpa using Int32.le_iff_toInt_le.mp hz
  show z.toInt = ((z.toInt.toNat : Nat) : Int)
  omega
theorem i32_nlt {z : Int32} (hz : 0 ≤ z) : ¬ z < 0 := fun h => by
  rw [Int32.lt_iff_toInt_lt] at h
  rw [Int32.le_iff_toInt_le] at hz
  omega
theorem mCopy_av {w : Wd} {t a b sp dp n : Nat} (h : 100 ≤ t) (h2 : t < 106) : avv w (mCopy st t a b sp dp n) t b = va_cpy (avv w st t a) (avv w st t b) sp dp n := by
  funext j
  have : t = 100 ∨ t = 101 ∨ t = 102 ∨ t = 103 ∨ t = 104 ∨ t = 105 := by omega
  have eI : ∀ f : Nat → Int32, up1 st.2.2.1 b f b j = f j := fun f => congrFun (if_pos rfl) j
  have eJ : ∀ f : Nat → Int64, up1 st.2.2.2.1 b f b j = f j := fun f => congrFun (if_pos rfl) j
  have eA : ∀ f : Nat → Rf, up1 st.2.2.2.2.1 b f b j = f j := fun f => congrFun (if_pos rfl) j
  rcases this with rfl | rfl | rfl | rfl | rfl | rfl
  · show Value.int (up1 st.2.2.1 b (va_cpy (mI st a) (mI st b) sp dp n) b j) = _
    rw [eI]; unfold va_cpy; split <;> rfl
  · show Value.int (up1 st.2.2.1 b (va_cpy (mI st a) (mI st b) sp dp n) b j) = _
    rw [eI]; unfold va_cpy; split <;> rfl
  · show Value.int (up1 st.2.2.1 b (va_cpy (mI st a) (mI st b) sp dp n) b j) = _
    rw [eI]; unfold va_cpy; split <;> rfl
  · show Value.long (up1 st.2.2.2.1 b (va_cpy (mJ st a) (mJ st b) sp dp n) b j) = _
    rw [eJ]; unfold va_cpy; split <;> rfl
  · show rfV w (up1 st.2.2.2.2.1 b (va_cpy (mA st a) (mA st b) sp dp n) b j) = _
    rw [eA]; unfold va_cpy; split <;> rfl
  · show rfV w (up1 st.2.2.2.2.1 b (va_cpy (mA st a) (mA st b) sp dp n) b j) = _
    rw [eA]; unfold va_cpy; split <;> rfl
theorem mCopy_other {t a b sp dp n c j : Nat} (h : c ≠ b) : mI (mCopy st t a b sp dp n) c j = mI st c j ∧ mJ (mCopy st t a b sp dp n) c j = mJ st c j ∧ mA (mCopy st t a b sp dp n) c j = mA st c j := by
  unfold mCopy
  split
  · simp [mRowJ, mI, mJ, mA, up1, h]
  · split
    · simp [mRowA, mI, mJ, mA, up1, h]
    · simp [mRow, mI, mJ, mA, up1, h]
theorem mCopy_same {t a b sp dp n : Nat} : mNx (mCopy st t a b sp dp n) = mNx st ∧ (∀ c, mTag (mCopy st t a b sp dp n) c = mTag st c) ∧ (∀ c, mLen (mCopy st t a b sp dp n) c = mLen st c) ∧ mNs (mCopy st t a b sp dp n) = mNs st := by
  unfold mCopy
  split
  · exact ⟨rfl, fun _ => rfl, fun _ => rfl, rfl⟩
  · split <;> exact ⟨rfl, fun _ => rfl, fun _ => rfl, rfl⟩
theorem r_cpy {x y : Rf} {sp dp n : Int32} {F : Mem → Option (β × Mem)} (d : decode cc pc = .ok (.invokestatic idx, 3)) (q : Cond.methodLink own idx arraycopyName ∈ lw_all) (hlev : 2 ≤ lev) (hr : (stk.map evc).sum ≤ 20) (h : (cpy st x sp y dp n).bind F = some fin) (K : ∀ st', cpy st x sp y dp n = some st' → F st' = some fin → G (cc, own, nm, lev, ret, mx) st0 tr fin (pc + 3) env stk st') : G (cc, own, nm, lev, ret, mx) st0 tr fin pc env (vi n :: vi dp :: vr y :: vi sp :: vr x :: stk) st := by
  obtain ⟨st', e, h⟩ := bind_at h
  have K := K st' e h
  cases x with
  | none => cases e
  | some a =>
    cases y with
    | none => cases e
    | some b =>
      unfold cpy at e
      simp only at e
      split at e
      · rename_i ct
        obtain ⟨c0, c1, c2, c3, c4, c5, c6, c7, c8, c9, c10, c11, c12⟩ := ct
        cases e
        obtain ⟨s1, s2, s3, s4⟩ := mCopy_same (st := st) (t := mTag st b) (a := a) (b := b) (sp := sp.toNatClampNeg) (dp := dp.toNatClampNeg) (n := n.toNatClampNeg)
        refine ⟨⟨by rw [← s1]; exact K.1.1, by rw [← s4]; exact K.1.2.1, fun x hx => (K.1.2.2 x (by rw [s1]; exact hx)).trans (s2 x)⟩, fun k w C hg H locs ls hR hS hl T hT X => ?_⟩
        obtain ⟨cs0, hA, z1, z2, z3, -⟩ := arr_rd hR c1 (by omega)
        have hB := arr_at hR c0 c2 (by omega)
        have zi := arr_is C.f hR z1 z3 (by omega) (by omega)
        rw [c4] at z2 zi
        obtain ⟨hAr, hRA⟩ := C.f.2.2.2.1 (mTag st b) c5 (by omega)
        obtain ⟨-, k0, hk0, cm0, hkk0⟩ := zi
        obtain ⟨-, k1, hk1, cm1, hkk1⟩ := hAr (mLen st b) (avv w st (mTag st b) b)
        have h3 : lev ≤ (kR k).frames := C.fr
        have h4 : 100 * lev ≤ (kR k).locals := C.lo
        have hw : nativeFrameWords "java/lang/System" "arraycopy" 5 ≤ 60 := by decide
        have hsum : ((skV w stk).map fun v => v.category).sum ≤ 20 := by rw [rest_sum]; exact hr
        obtain ⟨vm', X', step⟩ := X.arraycopy C.x C.o (C.wd q) (C.wd q659) (C.wd q658) (C.wd q104) (src := wR w a) (dst := wR w b) (cs := cs0) (cd := arrV (wC w (mTag st b)) (mLen st b) (avv w st (mTag st b) b)) (srcPos := sp) (destPos := dp) (n := n) (by rw [hT]; exact hA) (by rw [hT]; exact hB)
          (fun z => not_st z3.2 z) (fun _ h => by cases h) z3.1 (fun h => by cases h) hk0 hk1 hkk0 hkk1 (by simp) (i32_nlt c7) (i32_nlt c8) (i32_nlt c9)
          (by rw [i32_nn c7, i32_nn c9, z2, arrV_size]; omega) (by rw [i32_nn c8, i32_nn c9, arrV_size]; omega)
          (fun vm₁ hal i hi => by
            have e : cs0.slots.getD (sp.toNatClampNeg + i) .null = avv w st (mTag st b) a (sp.toNatClampNeg + i) := by
              rw [z2, Array.getD_eq_getD_getElem?, arrV_read _ _ (by omega)]
              rfl
            rw [e]
            have hck := List.all_eq_true.mp c12 i (List.mem_range.mpr hi)
            have ht : mTag st b = 100 ∨ mTag st b = 101 ∨ mTag st b = 102 ∨ mTag st b = 103 ∨ mTag st b = 104 ∨ mTag st b = 105 := by omega
            have href : mTag st b = 104 ∨ mTag st b = 105 → fits (ety (mTag st b)) (avv w st (mTag st b) a (sp.toNatClampNeg + i)) = true ∧ (T.setVm vm₁).takes cm1 (avv w st (mTag st b) a (sp.toNatClampNeg + i)) := by
              intro ht2
              have e1 : avv w st (mTag st b) a (sp.toNatClampNeg + i) = rfV w (mA st a (sp.toNatClampNeg + i)) := by
                unfold avv
                rw [if_neg (by omega), if_pos (by omega)]
              have ety1 : isRefTy (ety (mTag st b)) = true := by rcases ht2 with ht2 | ht2 <;> rw [ht2] <;> rfl
              rw [e1]
              refine ⟨(rf_fits ety1 w _).2, ?_⟩
              cases hy : mA st a (sp.toNatClampNeg + i) with
              | none => exact trivial
              | some y =>
                rw [if_neg (by omega), if_neg (by omega), if_pos ht2, hy] at hck
                simp only [Bool.and_eq_true, decide_eq_true_eq] at hck
                obtain ⟨hk1', hk2'⟩ := hck
                obtain ⟨d1, d2, d3, d4⟩ := asg_dom hk2'
                obtain ⟨cell, q1, q2, q3, -⟩ := (hR.1 y hk1').2 d3 (by omega)
                have hB' := cls_at C.f d4 d3
                obtain ⟨kB, hkB, -⟩ := hB'.2
                rcases asg_cast hk2' with ⟨e8, -⟩ | ⟨en, e8, e9⟩
                · omega
                · rw [e8] at hRA
                  obtain ⟨kA, comp, r1, r2, r3, -⟩ := hRA
                  cases hk1.symm.trans r1
                  rw [r2] at hkk1
                  injection hkk1 with e7a e7b
                  subst e7a
                  obtain ⟨c0', t0', g1, g2, g3⟩ := Cond.castable_spec (va_Nw.use (A := ka k) rfl (C.nw e9 rfl))
                  cases hB'.1.symm.trans g1
                  cases r3.symm.trans g2
                  obtain ⟨kE, hkE, -⟩ := Vm.findClass_spec r3
                  obtain ⟨kC', hkC', -⟩ := hal.2.2 _ _ hkB
                  obtain ⟨kE', hkE', -⟩ := hal.2.2 _ _ hkE
                  refine ⟨cell, (show T.heap[wR w y]? = some cell by rw [hT]; exact q1), (fun q => not_st q3.2 q), ⟨kC', by rw [q2]; exact hkC'⟩, ⟨kE', hkE'⟩, ?_⟩
                  show vm₁.assignable _ _ = true
                  rw [hal.assignable, q2]
                  exact g3
            rcases ht with ht | ht | ht | ht | ht | ht
            · rw [if_pos ht] at hck
              rw [ht] at *
              exact ⟨hck, trivial⟩
            · rw [if_neg (by omega), if_neg (by omega), if_neg (by omega)] at hck
              cases hck
            · rw [ht]; exact ⟨rfl, trivial⟩
            · rw [ht]; exact ⟨rfl, trivial⟩
            · exact href (Or.inl ht)
            · exact href (Or.inr ht))
          (g := F0 (km k) pc ls (.int n :: .int dp :: .ref (wR w b) :: .int sp :: .ref (wR w a) :: skV w stk)) rfl hl.1 (rest := skV w stk) rfl (by rw [C.b]; exact d) (by omega) (by show 2 * 0 + _ + _ ≤ _; omega)
        have e1 : copied cs0 (arrV (wC w (mTag st b)) (mLen st b) (avv w st (mTag st b) b)) sp dp n = arrV (wC w (mTag st b)) (mLen st b) (va_cpy (avv w st (mTag st b) a) (avv w st (mTag st b) b) sp.toNatClampNeg dp.toNatClampNeg n.toNatClampNeg) := (copied_of z2).trans (va_copied (fun z => z) _ _ _ _ c10)
        rw [e1] at X' step
        have hlt : wR w b < H.size := hR.2.2.2.2.2.2.2.1 b c2 (by omega)
        have hheap : ((T.setVm vm').setCell (wR w b) (arrV (wC w (mTag st b)) (mLen st b) (va_cpy (avv w st (mTag st b) a) (avv w st (mTag st b) b) sp.toNatClampNeg dp.toNatClampNeg n.toNatClampNeg))).heap = H.setIfInBounds (wR w b) (arrV (wC w (mTag st b)) (mLen st b) (va_cpy (avv w st (mTag st b) a) (avv w st (mTag st b) b) sp.toNatClampNeg dp.toNatClampNeg n.toNatClampNeg)) := by rw [← hT]; rfl
        generalize hH1 : H.setIfInBounds (wR w b) (arrV (wC w (mTag st b)) (mLen st b) (va_cpy (avv w st (mTag st b) a) (avv w st (mTag st b) b) sp.toNatClampNeg dp.toNatClampNeg n.toNatClampNeg)) = H1 at hheap
        have oq : ∀ q : Nat, q ≠ wR w b → H1[q]? = H[q]? := fun q hq => by rw [← hH1]; simp [Array.getElem?_setIfInBounds, Ne.symm hq]
        have ob : H1[wR w b]? = some (arrV (wC w (mTag st b)) (mLen st b) (va_cpy (avv w st (mTag st b) a) (avv w st (mTag st b) b) sp.toNatClampNeg dp.toNatClampNeg n.toNatClampNeg)) := by rw [← hH1]; simp [Array.getElem?_setIfInBounds, hlt]
        have oz : H1.size = H.size := by rw [← hH1]; simp
        have hR1 : Rel w (mCopy st (mTag st b) a b sp.toNatClampNeg dp.toNatClampNeg n.toNatClampNeg) H1 := by
          refine hR.put c0 c2 oz oq s1 ⟨fun _ => ?_, fun _ h => ?_⟩ (fun c hc ok => ok.congr (s2 c) (s3 c) (fun j => (mCopy_other hc).1) (fun j => (mCopy_other hc).2.1) (fun j => (mCopy_other hc).2.2)) (fun x _ => s2 x)
          · refine ok_arr c0 ?_
            rw [ob, s2, s3, mCopy_av c5 c6]
          · rw [s2] at h; omega
        have hS1 : va_S (zA w st0 (ks k).heap) (ks k).heap H1 (locs ++ (cs0.stretch sp.toNatClampNeg n.toNatClampNeg).zipIdx.map fun q => (⟨wR w b, dp.toNatClampNeg + q.2⟩ : Loc)) := by
          refine ⟨by rw [oz]; exact hS.1, fun q g1 g2 => ?_, fun q hq => ?_⟩
          · rw [oq q (fun e => g2 (by rw [e]; exact zA_in hg c0 (by omega)))]
            exact hS.2.1 q g1 g2
          · rcases List.mem_append.mp hq with h | h
            · exact hS.2.2 q h
            · obtain ⟨z, -, hz⟩ := List.mem_map.mp h
              rw [← hz]
              exact zA_in hg c0 (by omega)
        have KK := K.2 k w C ⟨⟨by rw [s1]; exact hg.1.1, by rw [s4]; exact hg.1.2.1, fun x hx => (s2 x).trans (hg.1.2.2 x hx)⟩, hg.2⟩ H1 _ ls hR1 hS1 hl
        rw [s1, s4] at KK
        obtain ⟨t, a1, b1⟩ := KK _ hheap X'
        exact ⟨t, step t a1, b1⟩
      · cases e
theorem r_gcl {x : Rf} {F : Rf → Option (β × Mem)} (d : decode cc pc = .ok (.invokevirtual idx, 3)) (q : Cond.methodLink own idx ⟨"java/lang/Object", "getClass", "()Ljava/lang/Class;"⟩ ∈ lw_all) (hlev : 2 ≤ lev) (hr : (stk.map evc).sum ≤ 20) (h : (gcl st x).bind F = some fin) (K : ∀ z, gcl st x = some z → F z = some fin → G (cc, own, nm, lev, ret, mx) st0 tr fin (pc + 3) env (vr z :: stk) st) : G (cc, own, nm, lev, ret, mx) st0 tr fin pc env (vr x :: stk) st := by
  obtain ⟨z, e, h⟩ := bind_at h
  have K := K z e h
  cases x with
  | none => cases e
  | some a =>
    unfold gcl at e
    simp only at e
    split at e
    · rename_i ct
      cases e
      refine ⟨K.1, fun k w C hg H locs ls hR hS hl => ?_⟩
      obtain ⟨cell, hA, a1, a2, a3, -⟩ := arr_rd hR ct.1 (by omega)
      have hra := (C.f.2.2.2.1 (mTag st a) (by omega) (by omega)).2
      rw [ct.2] at hra
      obtain ⟨kA, comp, f1, f2, f3, f4⟩ := hra
      have h3 : lev ≤ (kR k).frames := C.fr
      have h4 : 100 * lev ≤ (kR k).locals := C.lo
      have hsum : ((skV w stk).map fun v => v.category).sum ≤ 20 := by rw [rest_sum]; exact hr
      exact va_getC C.x C.b (C.m.trans (hl.1.trans C.m).symm) C.o (C.wd q) (va_Nw.use rfl (C.nw q2359 rfl)) (C.wd q2358) (C.wd q1198) (C.wd q1221) C.f.2.2.2.2.2.2.2.2.1 ⟨cell, hA, a3.2, by rw [a1, show kcl a (mTag st a) = 104 from (if_neg (fun e => by subst e; rcases hR.2.2.2.2.2.2.2.2.2 with h | h <;> omega)).trans ct.2]; exact f4⟩ (by omega) (by show ((skV w stk).map fun v => v.category).sum + 14 ≤ _; omega) d (K.2 k w C hg H locs ls hR hS hl)
    · cases e
end Copy
