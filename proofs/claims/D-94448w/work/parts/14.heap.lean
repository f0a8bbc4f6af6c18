/-! ===== rows that read and write the heap ===== -/
def tabB : Bool := (List.range 22).all fun t => match hcl[t]? with
  | some q => (List.range (fl t).length).all fun j => match (fl t)[j]? with
    | some f => f == 0 || (decide (j < q.2.2) && decide (q.2.1 j = ((fdecl f).1, (fdecl f).2.1, (fdecl f).2.2, ffin f)))
    | none => true
  | none => false
theorem tabB_ok : tabB = true := by decide +kernel
theorem fl_ge {t : Nat} (h : 22 ≤ t) : fl t = [] := by
  unfold fl
  rw [List.getD_eq_getElem?_getD, List.getElem?_eq_none (by simpa [flL] using h)]
  rfl
theorem fl_lt {t j f : Nat} (h : (fl t)[j]? = some f) : t < 22 := by
  rcases Nat.lt_or_ge t 22 with q | q
  · exact q
  · rw [fl_ge q] at h; cases h
theorem fl_pos {t j f : Nat} (h : (fl t)[j]? = some f) : 0 < t := by
  rcases Nat.eq_zero_or_pos t with q | q
  · subst q; cases h
  · exact q
theorem tab_at {t j f : Nat} (h : (fl t)[j]? = some f) (hf : f ≠ 0) : ∃ q : vw_C, hcl[t]? = some q ∧ j < q.2.2 ∧ q.2.1 j = ((fdecl f).1, (fdecl f).2.1, (fdecl f).2.2, ffin f) := by
  have h1 := List.all_eq_true.mp tabB_ok t (List.mem_range.mpr (fl_lt h))
  cases hq : hcl[t]? with
  | none => rw [hq] at h1; cases h1
  | some q =>
    rw [hq] at h1
    have h2 := List.all_eq_true.mp h1 j (List.mem_range.mpr (List.getElem?_eq_some_iff.mp h).1)
    simp only [h, Bool.or_eq_true, beq_iff_eq, hf, false_or, Bool.and_eq_true, decide_eq_true_eq] at h2
    exact ⟨q, rfl, h2.1, h2.2⟩
/-- each field's descriptor is of its kind -/
def isRefTy (ty : FieldType) : Bool := match ty with
  | .object _ => true
  | .array _ => true
  | _ => false
def kindB : Bool := (List.range 164).all fun f => match fty f with
  | 0 => decide (parseFieldDescriptor (fdecl f).2.2 = some .int)
  | 1 => decide (parseFieldDescriptor (fdecl f).2.2 = some .long)
  | 2 => match parseFieldDescriptor (fdecl f).2.2 with
    | some ty => isRefTy ty
    | none => false
  | 3 => decide (parseFieldDescriptor (fdecl f).2.2 = some .boolean)
  | 4 => decide (parseFieldDescriptor (fdecl f).2.2 = some .byte)
  | _ => true
theorem kindB_ok : kindB = true := by decide +kernel
theorem fty_lt {f : Nat} (h : fty f < 9) : f < 164 := by
  rcases Nat.lt_or_ge f 164 with q | q
  · exact q
  · unfold fty at h
    rw [List.getD_eq_getElem?_getD, List.getElem?_eq_none (by rw [show ftL.length = 164 from rfl]; exact q)] at h
    exact absurd h (by decide)
theorem fty_0 {f : Nat} (h : fty f = 0) : parseFieldDescriptor (fdecl f).2.2 = some .int := by
  have h1 := List.all_eq_true.mp kindB_ok f (List.mem_range.mpr (fty_lt (by omega)))
  simpa [h] using h1
theorem fty_1 {f : Nat} (h : fty f = 1) : parseFieldDescriptor (fdecl f).2.2 = some .long := by
  have h1 := List.all_eq_true.mp kindB_ok f (List.mem_range.mpr (fty_lt (by omega)))
  simpa [h] using h1
theorem fty_3 {f : Nat} (h : fty f = 3) : parseFieldDescriptor (fdecl f).2.2 = some .boolean := by
  have h1 := List.all_eq_true.mp kindB_ok f (List.mem_range.mpr (fty_lt (by omega)))
  simpa [h] using h1
theorem fty_4 {f : Nat} (h : fty f = 4) : parseFieldDescriptor (fdecl f).2.2 = some .byte := by
  have h1 := List.all_eq_true.mp kindB_ok f (List.mem_range.mpr (fty_lt (by omega)))
  simpa [h] using h1
theorem fty_2 {f : Nat} (h : fty f = 2) : ∃ ty, parseFieldDescriptor (fdecl f).2.2 = some ty ∧ isRefTy ty = true := by
  have h1 := List.all_eq_true.mp kindB_ok f (List.mem_range.mpr (fty_lt (by omega)))
  rw [h] at h1
  cases hp : parseFieldDescriptor (fdecl f).2.2 with
  | none => simp [hp] at h1
  | some ty => simp only [hp] at h1; exact ⟨ty, rfl, h1⟩
theorem fty_ne0 {f : Nat} (h : fty f < 9) : f ≠ 0 := by
  intro e; subst e; exact absurd h (by decide)
theorem rf_fits {ty : FieldType} (h : isRefTy ty = true) (w : Wd) (r : Rf) : narrow ty (rfV w r) = rfV w r ∧ fits ty (rfV w r) = true := by
  cases r <;> cases ty <;> first | (cases h; done) | exact ⟨rfl, rfl⟩
/-! cells under change -/
theorem okCell.congr {w : Wd} {st st' : Mem} {H : Heap} {b : Nat} (h : okCell w st H b) (ht : mTag st' b = mTag st b) (hn : mLen st' b = mLen st b) (hi : ∀ j, mI st' b j = mI st b j) (hj : ∀ j, mJ st' b j = mJ st b j) (ha : ∀ j, mA st' b j = mA st b j) : okCell w st' H b := by
  unfold okCell
  rw [ht, hn]
  have e1 : avv w st' (mTag st b) b = avv w st (mTag st b) b := by funext j; simp only [avv, hi, hj, ha]
  have e2 : ∀ f, fv w st' b f = fv w st b f := fun f => by simp only [fv, hi, hj, ha]
  rw [e1]
  refine ⟨h.1, fun h1 h2 => ?_⟩
  obtain ⟨cell, q1, q2, q3, q4, q5, q0, q6⟩ := h.2 h1 h2
  exact ⟨cell, q1, q2, q3, q4, q5, q0, fun kk f e1 e3 => by rw [e2]; exact q6 kk f e1 e3⟩
theorem okCell.kept {w : Wd} {st : Mem} {H H1 : Heap} {b : Nat} (h : okCell w st H b) (e : H1[wR w b]? = H[wR w b]?) : okCell w st H1 b := by
  refine ⟨fun h1 => by rw [e]; exact h.1 h1, fun h1 h2 => ?_⟩
  obtain ⟨cell, q1, q⟩ := h.2 h1 h2
  exact ⟨cell, by rw [e]; exact q1, q⟩
theorem Rel.put {w : Wd} {st st' : Mem} {H H1 : Heap} {a : Nat} (hR : Rel w st H) (h64 : 64 ≤ a) (ha : a < mNx st) (e2 : H1.size = H.size) (e3 : ∀ q : Nat, q ≠ wR w a → H1[q]? = H[q]?) (hn : mNx st' = mNx st) (hc : okCell w st' H1 a)
    (hk : ∀ b, b ≠ a → okCell w st H b → okCell w st' H b) (h53 : ∀ x, x < 64 → mTag st' x = mTag st x) : Rel w st' H1 := by
  obtain ⟨r1, r2, r3, r4, r5, r6, r7, r8, r9⟩ := hR
  refine ⟨fun b hb => ?_, by rw [hn]; exact r2, by rw [hn]; exact r3, fun q hq => ?_, by rw [hn, e2]; exact r5, by rw [hn]; exact r6, by rw [e2]; exact r7, by rw [hn, e2]; exact r8, by rw [h53 53 (by decide), h53 54 (by decide)]; exact r9⟩
  · rw [hn] at hb
    by_cases hab : b = a
    · subst hab; exact hc
    · by_cases h3 : b = 53
      · have t0 : mTag st' b = 0 := by rw [h3, h53 53 (by decide)]; exact r9.1
        exact ⟨fun h => by omega, fun h _ => by omega⟩
      · exact (hk b hab (r1 b hb)).kept (e3 _ fun q => hab (r2 a b h64 ha hb h3 q.symm).symm)
  · rw [e3 q fun e => ?_]
    · exact r4 q hq
    · have := r3 a h64 ha
      omega
theorem up2_ne {α : Type} {f : Nat → Nat → α} {a k b j : Nat} {v : α} (h : b ≠ a) : up2 f a k v b j = f b j := if_neg h
theorem up2_eq {α : Type} {f : Nat → Nat → α} {a k j : Nat} {v : α} : up2 f a k v a j = if j = k then v else f a j := if_pos rfl
def ftB : Bool := (List.range 22).all fun t => (fl t).all fun f => f == 0 || decide (fty f < 5)
theorem ftB_ok : ftB = true := by decide +kernel
theorem ft_all {t j f : Nat} (h : (fl t)[j]? = some f) (h0 : f ≠ 0) : fty f < 5 := by
  have h1 := List.all_eq_true.mp ftB_ok t (List.mem_range.mpr (fl_lt h))
  have h2 := List.all_eq_true.mp h1 f (List.mem_of_getElem? h)
  simpa [h0] using h2
section Heap1
variable {k : CT} {w : Wd} {cc : ByteArray} {own nm : String} {lev : Nat} {ret : Option FieldType} {mx : Nat} {st0 st : Mem} {β : Type} {tr : β → Rs} {fin : β × Mem} {pc : Nat} {env : List (Nat × Ev)} {stk : List Ev}
theorem zA_in {f : Mem} (hg : Go k w st0 f st) {a : Nat} (h : 64 ≤ a) (ht : mTag st a ≠ 0) : zA w st0 (ks k).heap (wR w a) := by
  rcases Nat.lt_or_ge a (mNx st0) with q | q
  · exact Or.inl ⟨a, h, q, by rw [← hg.1.2.2 a q]; exact ht, rfl⟩
  · right
    have := hg.2.2.2.2 (a - mNx st0)
    rw [Nat.add_sub_cancel' q] at this
    omega
/-- a field of an object: what the tables say -/
theorem fld {s : State} {args : Array Value} (hf : SF w s) {t j f : Nat} (hj : (fl t)[j]? = some f) (h0 : f ≠ 0) (hw : ∀ c ∈ lw_all, c.before args s = true) :
    ∃ (q : vw_C) (cf : ClassId) (kf : Class) (fi : Nat) (fd : Field) (kC : Class), hcl[t]? = some q ∧ j < q.2.2 ∧ q.2.1 j = ((fdecl f).1, (fdecl f).2.1, (fdecl f).2.2, ffin f) ∧ s.fieldFound? (fdecl f).1 (fdecl f).2.1 (fdecl f).2.2 = some (cf, kf, fi, fd) ∧ fd.slot = w.1.2 t j ∧ fd.isStatic = false ∧
      s.vm.findClass q.1 = some (w.1.1 t) ∧ s.vm.classes[w.1.1 t]? = some kC ∧ kC.kind = .ordinary ∧ (u_lay q.1 q.2.1 j).before args s = true := by
  obtain ⟨q, hq, hlt, hT⟩ := tab_at hj h0
  obtain ⟨hS, hfc, kC, hkC, hkind⟩ := hf.2.2.1.1 t q hq
  obtain ⟨cf, kf, fi, fd, hi, hsl⟩ := hS j hlt
  have hlay := hw _ (hcl_in t q hq _ (u_in_lay hlt))
  have hst := (u_facts hfc hkC (u_lays hw (hcl_in t q hq) hlt) hi).1
  rw [hT] at hi
  exact ⟨q, cf, kf, fi, fd, kC, hq, hlt, hT, hi, hsl, hst, hfc, hkC, hkind, hlay⟩
end Heap1
