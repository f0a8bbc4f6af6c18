/-! ===== new objects and arrays ===== -/
theorem defaultRef {ty : FieldType} (h : isRefTy ty = true) : defaultValue ty = .null := by cases ty <;> first | (cases h; done) | rfl
theorem arr_word {t : Nat} (h : 100 ≤ t) (h2 : t < 104) : Cond.arrayClass (ety t) ∈ lw_all := by
  have : t = 100 ∨ t = 101 ∨ t = 102 ∨ t = 103 := by omega
  rcases this with rfl | rfl | rfl | rfl
  · exact q225
  · exact q397
  · exact q226
  · exact q227
theorem over_word {t : Nat} (h : 104 ≤ t) (h2 : t < 107) : ∃ nm, ety t = .object nm ∧ Cond.arrayOver (.object nm) ∈ lw_tbl := by
  have : t = 104 ∨ t = 105 ∨ t = 106 := by omega
  rcases this with rfl | rfl | rfl
  · exact ⟨_, rfl, q1226⟩
  · exact ⟨_, rfl, q143⟩
  · exact ⟨_, rfl, q314⟩
theorem ety_bytes {t n : Nat} (h : 100 ≤ t) (h2 : t < 108) (hn : n ≤ 100000) : n * componentBytes (ety t) ≤ 536870912 := by
  have h3 : componentBytes (ety t) ≤ 8 := by
    have : t = 100 ∨ t = 101 ∨ t = 102 ∨ t = 103 ∨ t = 104 ∨ t = 105 ∨ t = 106 ∨ t = 107 := by omega
    rcases this with rfl | rfl | rfl | rfl | rfl | rfl | rfl | rfl <;> decide
  exact Nat.le_trans (Nat.mul_le_mul hn h3) (by decide)
theorem avv_new {w : Wd} {st : Mem} {t n s : Nat} (h : 100 ≤ t) (h2 : t < 108) : avv w (mNew st t n s) t (mNx st) = fun _ => defaultValue (ety t) := by
  funext j
  unfold avv
  rw [mNew_I, mNew_J, mNew_A]
  have : t = 100 ∨ t = 101 ∨ t = 102 ∨ t = 103 ∨ t = 104 ∨ t = 105 ∨ t = 106 ∨ t = 107 := by omega
  rcases this with rfl | rfl | rfl | rfl | rfl | rfl | rfl | rfl <;> rfl
section NewRows
variable {cc : ByteArray} {own nm : String} {lev : Nat} {ret : Option FieldType} {mx : Nat} {st0 st : Mem} {β : Type} {tr : β → Rs} {fin : β × Mem} {pc idx : Nat} {env : List (Nat × Ev)} {stk : List Ev}
/-- the world behind a new cell -/
theorem new_core {t n s : Nat} {cell : Cell} {k : CT} {w : Wd} {H : Heap} {locs : List Loc} {ls : Array Slot} {pc' : Nat} {stk' : List Ev} (K : G (cc, own, nm, lev, ret, mx) st0 tr fin pc' env (vr (some (mNx st)) :: stk') (mNew st t n s)) (C : Cx k w cc own nm lev ret mx) (hg : Go k w st0 fin.2 st) (hR : Rel w st H) (hS : va_S (zA w st0 (ks k).heap) (ks k).heap H locs) (hl : lv_has ls (kc k).maxLocals (enV w env))
    (hc : okCell w (mNew st t n s) (H.push cell) (mNx st)) : mNx st - mNx st0 + 1 ≤ (kR k).cells ∧ mNs st - mNs st0 + s ≤ (kR k).slots ∧ WW k (H.push cell) locs (mNx st - mNx st0 + 1) (mNs st - mNs st0 + s) (Zq k w st0 tr fin) (F0 (km k) pc' ls (.ref H.size :: skV w stk')) := by
  have z : (H.push cell).size = H.size + 1 := Array.size_push ..
  have o1 : ∀ q : Nat, q < H.size → (H.push cell)[q]? = H[q]? := fun q hq => by rw [Array.getElem?_push, if_neg (Nat.ne_of_lt hq)]
  have hle : mLe st (mNew st t n s) := ⟨Nat.le_succ _, Nat.le_add_right _ _, fun x hx => if_neg (Nat.ne_of_lt hx)⟩
  have e0 : wR w (mNx st) = H.size := by have := hR.2.2.2.2.1 0; simpa using this
  have k1 := K.1
  have g1 := hg.1.1
  have g2 := hg.1.2.1
  have g3 := hg.2.1
  have g4 := hg.2.2.1
  have n1 : mNx (mNew st t n s) = mNx st + 1 := rfl
  have n2 : mNs (mNew st t n s) = mNs st + s := rfl
  have k2 := k1.1
  have k3 := k1.2.1
  refine ⟨by omega, by omega, ?_⟩
  have h := K.2 k w C (go_le hg hle) (H.push cell) locs ls (hR.push z o1 rfl hc (fun b hb ok => mNew_old hb ok) (mNew_53 hR)) (S_push hS z o1) hl
  rw [n1, n2, show mNx st + 1 - mNx st0 = mNx st - mNx st0 + 1 by omega, show mNs st + s - mNs st0 = mNs st - mNs st0 + s by omega] at h
  have e1 : skV w (vr (some (mNx st)) :: stk') = .ref H.size :: skV w stk' := by
    show Value.ref (wR w (mNx st)) :: skV w stk' = _
    rw [e0]
  rw [e1] at h
  exact h
theorem r_new {t : Nat} {Cn : String} {F : Rf → Mem → Option (β × Mem)} (d : decode cc pc = .ok (.new idx, 3)) (q : Cond.classLink own idx Cn ∈ lw_all) (hC : cnm t = Cn) (h : bd (nO st t) F = some fin) (K : ∀ x st', nO st t = some (x, st') → F x st' = some fin → G (cc, own, nm, lev, ret, mx) st0 tr fin (pc + 3) env (vr x :: stk) st') : G (cc, own, nm, lev, ret, mx) st0 tr fin pc env stk st := by
  obtain ⟨x, st', e, h⟩ := bd_at h
  have K := K x st' e h
  unfold nO at e
  split at e
  · rename_i ct
    cases e
    subst hC
    refine ⟨(show mLe st (mNew st t 0 (nsl t)) from ⟨Nat.le_succ _, Nat.le_add_right _ _, fun x hx => if_neg (Nat.ne_of_lt hx)⟩).tr K.1, fun k w C hg H locs ls hR hS hl => ?_⟩
    obtain ⟨q1, q2⟩ := tag_inst t ct.1 ct.2
    have hcls := cls_at C.f ct.2 ct.1
    obtain ⟨kC, hkC, hkind⟩ := hcls.2
    have hns : kC.instanceTypes.size = nsl t := by
      obtain ⟨c9, k9, hc9, hk9, -, -, -, hn9⟩ := Cond.instantiable_spec (C.wd q1)
      cases hcls.1.symm.trans hc9
      cases hkC.symm.trans hk9
      exact hn9
    have hc : okCell w (mNew st t 0 (nsl t)) (H.push (blank (w.1.1 t) kC)) (mNx st) := by
      have e0 : wR w (mNx st) = H.size := by have := hR.2.2.2.2.1 0; simpa using this
      refine ⟨fun h => ?_, fun _ _ => ?_⟩
      · rw [mNew_tag] at h; omega
      · rw [mNew_tag]
        refine ⟨blank (w.1.1 t) kC, by rw [e0, Array.getElem?_push_size], rfl, ⟨(fun h => by cases h), rfl⟩, fun _ => ⟨rfl, rfl⟩, fun _ => rfl, by rw [← hns]; simp [blank], fun j f hj h0 => ?_⟩
        obtain ⟨qq, cf, kf, fi, fd, kC', hq, hlt, hT, hi, hsl, hst, hfc, hkC', hkind', hlay⟩ := fld (args := ka k) C.f hj h0 C.ws
        have hlays : (Cond.lays qq.1 (fdecl f).1 (fdecl f).2.1 (fdecl f).2.2).before (ka k) (ks k) = true ∨ (Cond.laysFinal qq.1 (fdecl f).1 (fdecl f).2.1 (fdecl f).2.2).before (ka k) (ks k) = true := by
          have := u_lays C.ws (hcl_in _ qq hq) hlt
          rw [hT] at this
          exact this
        have h3 := (u_facts hfc hkC hlays hi).2.2
        have hft : ∀ ty, parseFieldDescriptor (fdecl f).2.2 = some ty → fd.type = ty := fun ty hp => (State.fieldFound?_type hi hp).2
        have hb := k2_blank (cC := w.1.1 t) h3
        rw [← hsl, hb]
        congr 1
        unfold fv
        rw [mNew_I, mNew_J, mNew_A]
        by_cases h1 : fty f = 1
        · rw [if_pos h1, hft _ (fty_1 h1)]; rfl
        · rw [if_neg h1]
          by_cases h2 : fty f = 2
          · obtain ⟨ty, p1, p2⟩ := fty_2 h2
            rw [if_pos h2, hft _ p1, defaultRef p2]; rfl
          · rw [if_neg h2]
            by_cases h5 : fty f = 0
            · rw [hft _ (fty_0 h5)]; rfl
            · by_cases h6 : fty f = 3
              · rw [hft _ (fty_3 h6)]; rfl
              · by_cases h7 : fty f = 4
                · rw [hft _ (fty_4 h7)]; rfl
                · exact absurd (ft_all hj h0) (by omega)
    obtain ⟨n1, n2, n3⟩ := new_core K C hg hR hS hl hc
    refine W.newc C.x C.b C.o (C.wd q) (C.wd q1) (C.wd q2) rfl d n1 n2 fun cC kC' f1 f2 f3 f4 => ?_
    cases hcls.1.symm.trans f1
    cases hkC.symm.trans f2
    exact n3
  · cases e
theorem r_newarray {t : Nat} {aty : ArrayType} {n : Int32} {F : Rf → Mem → Option (β × Mem)} (d : decode cc pc = .ok (.newarray aty, 2)) (ht : newarray.typeOf aty = ety t ∧ t < 104) (h : bd (nA st t n) F = some fin) (K : ∀ x st', nA st t n = some (x, st') → F x st' = some fin → G (cc, own, nm, lev, ret, mx) st0 tr fin (pc + 2) env (vr x :: stk) st') : G (cc, own, nm, lev, ret, mx) st0 tr fin pc env (vi n :: stk) st := by
  obtain ⟨x, st', e, h⟩ := bd_at h
  have K := K x st' e h
  unfold nA at e
  split at e
  · rename_i ct
    obtain ⟨c1, c2, c3, c4⟩ := ct
    cases e
    refine ⟨(show mLe st (mNew st t n.toNatClampNeg n.toNatClampNeg) from ⟨Nat.le_succ _, Nat.le_add_right _ _, fun x hx => if_neg (Nat.ne_of_lt hx)⟩).tr K.1, fun k w C hg H locs ls hR hS hl => ?_⟩
    have hRA := (C.f.2.2.2.1 t c1 (by omega)).2
    have hfind : (ks k).vm.findClass ("[" ++ (ety t).toString) = some (wC w t) := by
      have : t = 100 ∨ t = 101 ∨ t = 102 ∨ t = 103 := by omega
      rcases this with rfl | rfl | rfl | rfl <;> exact hRA
    have hc : okCell w (mNew st t n.toNatClampNeg n.toNatClampNeg) (H.push { cls := wC w t, slots := Array.replicate n.toNatClampNeg (defaultValue (ety t)), vm := .none }) (mNx st) := by
      have e0 : wR w (mNx st) = H.size := by have := hR.2.2.2.2.1 0; simpa using this
      refine ⟨fun _ => ?_, fun _ h => ?_⟩
      · refine ok_arr hR.2.2.2.2.2.1 ?_
        rw [mNew_tag, mNew_len, e0, Array.getElem?_push_size, avv_new c1 (by omega), arrV_new]
      · rw [mNew_tag] at h; omega
    obtain ⟨n1, n2, n3⟩ := new_core K C hg hR hS hl hc
    have h0 : ¬ n < 0 := fun h => by
      rw [Int32.lt_iff_toInt_lt] at h
      rw [Int32.le_iff_toInt_le] at c3
      omega
    refine W.newa C.x C.b (by rw [ht.1]; exact C.wd (arr_word c1 ht.2)) rfl d rfl h0 (by rw [ht.1]; exact ety_bytes c1 (by omega) c4) n1 n2 fun cA kA comp f1 f2 f3 => ?_
    rw [ht.1] at f1 ⊢
    cases hfind.symm.trans f1
    exact n3
  · cases e
theorem r_anewarray {t : Nat} {n : Int32} {Cn : String} {F : Rf → Mem → Option (β × Mem)} (d : decode cc pc = .ok (.anewarray idx, 3)) (q : Cond.classLink own idx Cn ∈ lw_all) (ht : ety t = .object Cn ∧ 104 ≤ t) (h : bd (nA st t n) F = some fin) (K : ∀ x st', nA st t n = some (x, st') → F x st' = some fin → G (cc, own, nm, lev, ret, mx) st0 tr fin (pc + 3) env (vr x :: stk) st') : G (cc, own, nm, lev, ret, mx) st0 tr fin pc env (vi n :: stk) st := by
  obtain ⟨x, st', e, h⟩ := bd_at h
  have K := K x st' e h
  unfold nA at e
  split at e
  · rename_i ct
    obtain ⟨c1, c2, c3, c4⟩ := ct
    cases e
    refine ⟨(show mLe st (mNew st t n.toNatClampNeg n.toNatClampNeg) from ⟨Nat.le_succ _, Nat.le_add_right _ _, fun x hx => if_neg (Nat.ne_of_lt hx)⟩).tr K.1, fun k w C hg H locs ls hR hS hl => ?_⟩
    have hRA := (C.f.2.2.2.1 t c1 (by omega)).2
    rw [ht.1] at hRA
    obtain ⟨kA0, comp0, f1', f2', f3', f4'⟩ := hRA
    obtain ⟨nm0, hov1, hov2⟩ := over_word ht.2 c2
    rw [ht.1] at hov1
    cases hov1
    have hc : okCell w (mNew st t n.toNatClampNeg n.toNatClampNeg) (H.push { cls := wC w t, slots := Array.replicate n.toNatClampNeg .null, vm := .none }) (mNx st) := by
      have e0 : wR w (mNx st) = H.size := by have := hR.2.2.2.2.1 0; simpa using this
      refine ⟨fun _ => ?_, fun _ h => ?_⟩
      · refine ok_arr hR.2.2.2.2.2.1 ?_
        rw [mNew_tag, mNew_len, e0, Array.getElem?_push_size, avv_new c1 (by omega), arrV_new, ht.1]; rfl
      · rw [mNew_tag] at h; omega
    obtain ⟨n1, n2, n3⟩ := new_core K C hg hR hS hl hc
    have h0 : ¬ n < 0 := fun h => by
      rw [Int32.lt_iff_toInt_lt] at h
      rw [Int32.le_iff_toInt_le] at c3
      omega
    refine W.anew C.x C.b C.o (C.wd q) (va_AO.use (C.nw hov2 rfl)) rfl d rfl h0 (by have := ety_bytes c1 (by omega) c4; rw [ht.1] at this; exact this) n1 n2 fun cA kA comp f1 f2 f3 f4 => ?_
    cases f4'.symm.trans f1
    exact n3
  · cases e
end NewRows
