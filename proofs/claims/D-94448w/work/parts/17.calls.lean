/-! ===== contracts, calls, returns ===== -/
theorem SF.moved {w : Wd} {s U : State} (h : SF w s) (hW : s.WarmedH U.vm) : SF w U := by
  obtain ⟨h1, h2, h3, h4, h5, h6, h7, ⟨h8, ⟨rF, h8f⟩, h8a⟩, h9, s0, t1, t2, t3⟩ := h
  refine ⟨fun c hc => word_at hW (good_of_word (List.mem_filter.mp hc).2) (h1 c hc), fun c hc hn => ?_, va_K.moved hW.alike h3, fun t a b => ?_, fun c hc => ?_, fun i q hq => (h6 i q hq).warm hW, va_Z.moved hW.alike h7, ⟨va_Z.moved hW.alike h8, ⟨rF, va_Z.moved hW.alike h8f⟩, arrOfT_moved hW.alike h8a⟩, va_Mi.moved hW.alike h9, s0, t1.trans hW, t2, t3⟩
  · have h := h2 c hc hn
    unfold nestW at hn
    split at hn
    · exact va_Nw.warmF hW h
    · exact va_Nw.warmM hW h
    · exact va_Nw.warmC hW h
    · exact va_Nw.warmD hW h
    · exact va_AO.moved hW.alike h
    · cases hn
  · have h := va_K.moved hW.alike (D := w.1) (cl := []) (tys := [(wC w t, ety t)]) (u := s) (U := U) ⟨fun c q hq => by simp at hq, fun j q hq => by
      match j, hq with
      | 0, hq => cases hq; exact h4 t a b⟩
    exact h.2 0 _ rfl
  · refine word_at hW (Or.inl ?_) (h5 c hc)
    simp only [lw_ex, List.mem_cons, List.not_mem_nil, or_false] at hc
    rcases hc with rfl | rfl | rfl <;> rfl
def lvA : Nat → List Ev → List (Nat × Ev)
  | _, [] => []
  | i, v :: vs => (i, v) :: lvA (if evc v = 2 then i + 2 else i + 1) vs
theorem lvA_en (w : Wd) (l : List Ev) : ∀ i, lv_args i (skV w l) = enV w (lvA i l) := by
  induction l with
  | nil => intro i; rfl
  | cons v l ih =>
    intro i
    show (i, evV w v) :: lv_args (if (evV w v).category = 2 then i + 2 else i + 1) (skV w l) = (i, evV w v) :: enV w (lvA _ l)
    rw [evV_cat, ih]
theorem lg_len (w : Wd) (l : List Ev) : (lg_sl (skV w l)).length = (l.map evc).sum := by
  induction l with
  | nil => rfl
  | cons v l ih =>
    have e : lg_sl (skV w (v :: l)) = (if (evV w v).category = 2 then [Slot.val (evV w v), Slot.second] else [Slot.val (evV w v)]) ++ lg_sl (skV w l) := rfl
    rw [e, List.length_append, ih, evV_cat, List.map_cons, List.sum_cons]
    rcases v with x | x | x <;> rfl
/-- the method's code is among the words -/
def CodeOf (y : MethodName) : Prop := plainName y.cls = true ∧ ((∃ b n r, n ≤ 60 ∧ Cond.code y b n r ∈ lw_all) ∨ (∃ b n r hh, n ≤ 60 ∧ Cond.codeWith y b n r hh ∈ lw_all))
/-- A CONTRACT: called with av at memory st, y comes to fin; at any level of room from lev on -/
def Con (y : MethodName) (lev : Nat) (av : List Ev) (st : Mem) {β : Type} (tr : β → Rs) (fin : β × Mem) : Prop :=
  mLe st fin.2 ∧ CodeOf y ∧ ∀ (k : CT) (w : Wd), (kp k).tables.exec = Jvm.exec → (ks k).methodNamed? y = some (km k) → (ks k).vm.method? (km k) = some (kh k) → (kh k).code = some (kc k) → ka k = (skV w av).toArray → SF w (ks k) → (ke k).platform.stackTraces = false → lev ≤ (kR k).frames → 100 * lev ≤ (kR k).locals →
    mNx fin.2 ≤ mNx st + (kR k).cells → mNs fin.2 ≤ mNs st + (kR k).slots → Rel w st (ks k).heap → WW k (ks k).heap [] 0 0 (Zq k w st tr fin) (entryFrame (km k) (ka k) (kc k).maxLocals)
theorem CodeOf.at {y : MethodName} (h : CodeOf y) {w : Wd} {s : State} {m : MethodId} (hf : SF w s) (hn : s.methodNamed? y = some m) : ∃ meth c, s.vm.method? m = some meth ∧ meth.code = some c ∧ c.maxLocals ≤ 60 ∧ meth.locks = false ∧ parseMethodDescriptor y.desc = some meth.sig := by
  rcases h.2 with ⟨b, n, r, hn60, hw⟩ | ⟨b, n, r, hh, hn60, hw⟩
  · obtain ⟨meth, c, h1, h2, -, h4, -, h6, -, h8⟩ := Cond.code_spec hn (hf.1 _ hw)
    exact ⟨meth, c, h1, h2, by omega, h6, h8⟩
  · obtain ⟨m', meth, c, h0, h1, h2, -, h4, -, -, h6, h8⟩ := Cond.codeWith_spec (hf.1 _ hw)
    cases hn.symm.trans h0
    exact ⟨meth, c, h1, h2, by omega, h6, h8⟩
theorem Con.mk {y : MethodName} {lev : Nat} {av : List Ev} {st : Mem} {β : Type} {tr : β → Rs} {fin : β × Mem} {cc : ByteArray} {n : Nat} {own nm : String} {ret : Option FieldType} {env : List (Nat × Ev)} (hcode : Cond.code y cc n ret ∈ lw_all) (hy : plainName y.cls = true) (ho : y.cls = own) (hnm : y.name = nm) (hno : hcHs own nm = []) (hs : (av.map evc).sum ≤ n ∧ n ≤ 60) (he : lvA 0 av = env)
    (hG : G (cc, own, nm, lev, ret, n) st tr fin 0 env [] st) : Con y lev av st tr fin := by
  refine ⟨hG.1, ⟨hy, Or.inl ⟨cc, n, ret, hs.2, hcode⟩⟩, fun k w hx hn hm hc ha hf htr hfr hlo hcl hsl hR => ?_⟩
  obtain ⟨meth, c, h1, h2, h3, h4, h5, h6, h7, h8⟩ := Cond.code_spec hn (hf.1 _ hcode)
  cases hm.symm.trans h1
  cases hc.symm.trans h2
  have C : Cx k w cc own nm lev ret n := ⟨hx, h3, by rw [← ho]; exact findClass_of_methodNamed hn, hf, h6, h5, hfr, hlo, by rw [← hnm]; exact (name_of_methodNamed hn hm).1, h4, by rw [hno]; simpa using h7, htr⟩
  have hg : Go k w st fin.2 st := ⟨mLe.rf _, hcl, hsl, hR.2.2.2.2.2.2.1, hR.2.2.2.2.1⟩
  have hl := lv_entry (skV w av) (n := n) (by rw [lg_len]; exact hs.1)
  rw [lvA_en, he] at hl
  have K := hG.2 k w C hg (ks k).heap [] _ hR va_S.rf (by rw [h4]; exact hl)
  rw [Nat.sub_self, Nat.sub_self] at K
  rw [ha, h4, lg_entry_eq]
  exact K
/-- the same, for a method with handlers -/
theorem Con.mkW {y : MethodName} {lev : Nat} {av : List Ev} {st : Mem} {β : Type} {tr : β → Rs} {fin : β × Mem} {cc : ByteArray} {n : Nat} {own nm : String} {ret : Option FieldType} {env : List (Nat × Ev)} {hh : List (Nat × Nat × Nat × Nat)} (hcode : Cond.codeWith y cc n ret hh ∈ lw_all) (hy : plainName y.cls = true) (ho : y.cls = own) (hnm : y.name = nm) (hno : hcHs own nm = hh) (hs : (av.map evc).sum ≤ n ∧ n ≤ 60) (he : lvA 0 av = env)
    (hG : G (cc, own, nm, lev, ret, n) st tr fin 0 env [] st) : Con y lev av st tr fin := by
  refine ⟨hG.1, ⟨hy, Or.inr ⟨cc, n, ret, hh, hs.2, hcode⟩⟩, fun k w hx hn hm hc ha hf htr hfr hlo hcl hsl hR => ?_⟩
  obtain ⟨m', meth, c, h0, h1, h2, h3, h4, h9, h5, h6, h8⟩ := Cond.codeWith_spec (hf.1 _ hcode)
  cases hn.symm.trans h0
  cases hm.symm.trans h1
  cases hc.symm.trans h2
  have C : Cx k w cc own nm lev ret n := ⟨hx, h3, by rw [← ho]; exact findClass_of_methodNamed hn, hf, h6, h5, hfr, hlo, by rw [← hnm]; exact (name_of_methodNamed hn hm).1, h4, by rw [hno]; exact h9, htr⟩
  have hg : Go k w st fin.2 st := ⟨mLe.rf _, hcl, hsl, hR.2.2.2.2.2.2.1, hR.2.2.2.2.1⟩
  have hl := lv_entry (skV w av) (n := n) (by rw [lg_len]; exact hs.1)
  rw [lvA_en, he] at hl
  have K := hG.2 k w C hg (ks k).heap [] _ hR va_S.rf (by rw [h4]; exact hl)
  rw [Nat.sub_self, Nat.sub_self] at K
  rw [ha, h4, lg_entry_eq]
  exact K
abbrev St (k : CT) (T : State) (locs : List Loc) (cells slots : Nat) : Prop := Stand (kp k) (kl k) (ke k) (kR k) (ks k) (km k) (ka k) (kb k) (kh k) (kc k) T locs cells slots
section Calls1
variable {cc : ByteArray} {own nm : String} {lev : Nat} {ret : Option FieldType} {mx : Nat} {st0 st : Mem} {β : Type} {tr : β → Rs} {fin : β × Mem} {pc : Nat} {env : List (Nat × Ev)} {stk : List Ev}
/-- an invocation: the instruction at pc, the stack stk being the arguments over rest, invokes y with av -/
def Link (μ : MD) (pc : Nat) (y : MethodName) (av rest stk : List Ev) (st : Mem) : Prop :=
  ∀ (k : CT) (w : Wd), Cx k w μ.1 μ.2.1 μ.2.2.1 μ.2.2.2.1 μ.2.2.2.2.1 μ.2.2.2.2.2 → ∀ (T : State) (locs : List Loc) (cells slots : Nat) (ls : Array Slot), Rel w st T.heap → St k T locs cells slots →
    ∃ (vm₁ : Vm) (mk : MethodId), St k (T.setVm vm₁) locs cells slots ∧ (ks k).methodNamed? y = some mk ∧ (∃ i, decode (kc k).code pc = .ok (i, 3)) ∧
      ∀ target, (∀ acts, Steps (kp k).tables (ke k) (kb k) (doInvoke (ke k) ((T.setVm vm₁).setTop (F0 (km k) pc ls (skV w rest))) acts mk (skV w av).toArray).1 target) → Steps (kp k).tables (ke k) (kb k) (T.setTop (F0 (km k) pc ls (skV w stk))) target
theorem go_le {k : CT} {w : Wd} {f : Mem} {st' : Mem} (hg : Go k w st0 f st) (h : mLe st st') : Go k w st0 f st' := ⟨hg.1.tr h, hg.2⟩
theorem rest_sum (w : Wd) (l : List Ev) : ((skV w l).map fun v => v.category).sum = (l.map evc).sum := by
  induction l with
  | nil => rfl
  | cons v l ih =>
    show (evV w v).category + ((skV w l).map fun v => v.category).sum = evc v + (l.map evc).sum
    rw [ih, evV_cat]
/-- what a call comes to: the callee's end, seen from the caller's frame -/
theorem call_core {y : MethodName} {lev' : Nat} {av rest : List Ev} {γ : Type} {tr' : γ → Rs} {fin' : γ × Mem} (L : Link (cc, own, nm, lev, ret, mx) pc y av rest stk st) (hc : Con y lev' av st tr' fin') (hlv : lev' + 1 ≤ lev) (hr : (rest.map evc).sum ≤ 20) (hfin : mLe fin'.2 fin.2)
    {k : CT} {w : Wd} (C : Cx k w cc own nm lev ret mx) (hg : Go k w st0 fin.2 st) {H : Heap} {locs : List Loc} {ls : Array Slot} (hR : Rel w st H) (hS : va_S (zA w st0 (ks k).heap) (ks k).heap H locs) (hl : lv_has ls (kc k).maxLocals (enV w env)) {T : State} (hT : T.heap = H) (X : St k T locs (mNx st - mNx st0) (mNs st - mNs st0)) :
    ∃ (T' : State) (locs' : List Loc), St k T' locs' (mNx fin'.2 - mNx st0) (mNs fin'.2 - mNs st0) ∧ Rel w fin'.2 T'.heap ∧ va_S (zA w st0 (ks k).heap) (ks k).heap T'.heap locs' ∧
      match tr' fin'.1 with
      | .inl v => ∀ target, Steps (kp k).tables (ke k) (kb k) (T'.setTop (F0 (km k) (pc + 3) ls (skV w (v.toList ++ rest)))) target → Steps (kp k).tables (ke k) (kb k) (T.setTop (F0 (km k) pc ls (skV w stk))) target
      | .inr a => ∀ target, Steps (kp k).tables (ke k) (kb k) ((T'.setTop (F0 (km k) pc ls (skV w rest))).pushFrame (.throwing (wR w a))) target → Steps (kp k).tables (ke k) (kb k) (T.setTop (F0 (km k) pc ls (skV w stk))) target := by
  subst hT
  obtain ⟨vm₁, mk, X₁, hn, ⟨i, hd⟩, hst⟩ := L k w C T locs _ _ ls hR X
  obtain ⟨methk, ck, hmk, hck, hmax, hlk, hsig⟩ := hc.2.1.at C.f hn
  have hn₁ : (T.setVm vm₁).methodNamed? y = some mk := X₁.named hn
  have hmk₁ : (T.setVm vm₁).vm.method? mk = some methk := by
    have := X₁.warmed.alike.method? (m := mk)
    rw [this]; exact hmk
  have hpk : (T.setVm vm₁).plainMethod mk := State.plainMethod.of_name fun kk hkk => by
    obtain ⟨k2, hk2, hnm2⟩ := className_of_methodNamed hn₁
    cases hkk.symm.trans hk2
    rw [hnm2]; exact hc.2.1.1
  have hle := hc.1
  have hsize : (F0 (km k) pc ls (skV w rest)).locals.size = (kc k).maxLocals := hl.1
  have hb1 : (F0 (km k) pc ls (skV w rest)).monitorRoom = 0 := rfl
  have hb2 : ((F0 (km k) pc ls (skV w rest)).stack.map fun v => v.category).sum ≤ 20 := by
    show ((skV w rest).map fun v => v.category).sum ≤ 20
    rw [rest_sum]; exact hr
  have hfr := C.fr
  have hlo := C.lo
  have g1 := hg.1
  have g2 := hg.2.1
  have g3 := hg.2.2.1
  obtain ⟨Y₀, hin⟩ := X₁.into (g := F0 (km k) pc ls (skV w rest)) rfl hsize hd (skV w av).toArray (R' := { frames := lev', cells := mNx fin'.2 - mNx st, slots := mNs fin'.2 - mNs st, locals := 100 * lev' }) hmk₁ hck hlk hpk (by show lev' + 1 ≤ _; omega) (by
      show 2 * (F0 (km k) pc ls (skV w rest)).monitorRoom + _ + _ + 100 * lev' ≤ _
      rw [hb1]; omega) (by
      show _ + (mNx fin'.2 - mNx st) ≤ _
      have := hfin.1; have := hle.1; have := g1.1; omega) (by
      show _ + (mNs fin'.2 - mNs st) ≤ _
      have := hfin.2.1; have := hle.2.1; have := g1.2.1; omega)
  have key := hc.2.2 (kp k, kl k, ke k, { frames := lev', cells := mNx fin'.2 - mNx st, slots := mNs fin'.2 - mNs st, locals := 100 * lev' }, (T.setVm vm₁).calling (F0 (km k) pc ls (skV w rest)) mk (skV w av).toArray, mk, (skV w av).toArray, .java (F0 (km k) pc ls (skV w rest)) :: kb k, methk, ck) w C.x hn₁ hmk₁ hck rfl (C.f.moved X₁.warmed) C.nt (Nat.le_refl _) (Nat.le_refl _) (by have := hle.1; show mNx fin'.2 ≤ mNx st + (mNx fin'.2 - mNx st); omega) (by have := hle.2.1; show mNs fin'.2 ≤ mNs st + (mNs fin'.2 - mNs st); omega) hR
  obtain ⟨t, hsteps, o, hrun, hend, hwarm, ⟨Lc, hsame, hLc⟩, ho, hRt, hFt⟩ := key (((T.setVm vm₁).setTop (F0 (km k) pc ls (skV w rest))).pushFrame (.java (entryFrame mk (skV w av).toArray ck.maxLocals))) rfl Y₀
  have hweak : Steps (kp k).tables (ke k) (kb k) (((T.setVm vm₁).setTop (F0 (km k) pc ls (skV w rest))).pushFrame (.java (entryFrame mk (skV w av).toArray ck.maxLocals)) |>.setTop (entryFrame mk (skV w av).toArray ck.maxLocals)) t := Steps.weaken (mid := [.java (F0 (km k) pc ls (skV w rest))]) hsteps
  have hgo : ∀ target, Steps (kp k).tables (ke k) (kb k) t target → Steps (kp k).tables (ke k) (kb k) (T.setTop (F0 (km k) pc ls (skV w stk))) target := fun target ht => hst target fun acts => by
    rw [hin acts]
    exact hweak.trans ht
  have hA : ∀ q, zA w st T.heap q → zA w st0 (ks k).heap q := by
    rintro q (⟨a, h64, ha, ht, rfl⟩ | hq)
    · exact zA_in hg h64 ht
    · exact Or.inr (Nat.le_trans hS.1 hq)
  have hS2 : va_S (zA w st0 (ks k).heap) (ks k).heap t.heap (locs ++ Lc) := by
    refine ⟨Nat.le_trans hS.1 hFt.1, fun q h1 h2 => ?_, fun q hq => ?_⟩
    · exact (hFt.2 q (Nat.lt_of_lt_of_le h1 hS.1) (fun h3 => h2 (hA q h3))).trans (hS.2.1 q h1 h2)
    · rcases List.mem_append.mp hq with h | h
      · exact hS.2.2 q h
      · exact hA _ (hLc q h)
  have ec : mNx st - mNx st0 + (mNx fin'.2 - mNx st) = mNx fin'.2 - mNx st0 := by have := hle.1; have := g1.1; omega
  have es : mNs st - mNs st0 + (mNs fin'.2 - mNs st) = mNs fin'.2 - mNs st0 := by have := hle.2.1; have := g1.2.1; omega
  have hsame' : ((T.setVm vm₁).calling (F0 (km k) pc ls (skV w rest)) mk (skV w av).toArray).sameButNew ({ t with vm := ((T.setVm vm₁).calling (F0 (km k) pc ls (skV w rest)) mk (skV w av).toArray).vm } : State) Lc (mNx fin'.2 - mNx st) (mNs fin'.2 - mNs st) := hsame
  cases hv : tr' fin'.1 with
  | inl v =>
    rw [hv] at ho
    subst ho
    obtain ⟨T', X', hW', -, ht⟩ := X₁.outOf (g := F0 (km k) pc ls (skV w rest)) rfl hd hend hwarm hsame'
    rw [ec, es] at X'
    have hh : T'.heap = t.heap := by rw [ht]; rfl
    refine ⟨T', locs ++ Lc, X', by rw [hh]; exact hRt, by rw [hh]; exact hS2, ?_⟩
    intro target h
    refine hgo target ?_
    rw [ht]
    have e9 : (v.map (evV w)).toList ++ skV w rest = skV w (v.toList ++ rest) := by cases v <;> rfl
    have e8 : ({ (F0 (km k) pc ls (skV w rest)) with pc := (F0 (km k) pc ls (skV w rest)).pc + 3, stack := (v.map (evV w)).toList ++ (F0 (km k) pc ls (skV w rest)).stack } : JFrame) = F0 (km k) (pc + 3) ls (skV w (v.toList ++ rest)) := by
      show F0 (km k) (pc + 3) ls ((v.map (evV w)).toList ++ skV w rest) = _
      rw [e9]
    rw [e8]
    exact h
  | inr a =>
    rw [hv] at ho
    subst ho
    obtain ⟨T', X', hW', -, ht⟩ := X₁.outOfThrown (g := F0 (km k) pc ls (skV w rest)) rfl hend hwarm hsame'
    rw [ec, es] at X'
    have hh : T'.heap = t.heap := by rw [ht]; rfl
    refine ⟨T', locs ++ Lc, X', by rw [hh]; exact hRt, by rw [hh]; exact hS2, ?_⟩
    intro target h
    refine hgo target ?_
    rw [ht]
    exact h
end Calls1
