/-! ===== how a method is reached; rows of calls ===== -/
def Ad (y : MethodName) (n : Nat) : Prop := (y.cls ≠ "java/lang/invoke/MethodHandle" ∧ y.cls ≠ "java/lang/invoke/VarHandle") ∧ (parseMethodDescriptor y.desc).map (fun d => d.parameters.length) = some n
theorem Ad.len {y : MethodName} {n : Nat} (h : Ad y n) {sig : MethodDescriptor} (hs : parseMethodDescriptor y.desc = some sig) : n = sig.parameters.length := by
  have := h.2
  rw [hs] at this
  exact (Option.some.inj this).symm
/-- the instruction at pc invokes a method that comes to fin' -/
def Inv (μ : MD) (pc lev' : Nat) (av rest : List Ev) (st : Mem) {γ : Type} (tr' : γ → Rs) (fin' : γ × Mem) : Prop := ∃ y, Link μ pc y av rest (av.reverse ++ rest) st ∧ Con y lev' av st tr' fin'
def VCon (x : MethodName) (lev : Nat) (av : List Ev) (st : Mem) {γ : Type} (tr : γ → Rs) (fin : γ × Mem) : Prop :=
  ∃ (a : Nat) (as : List Ev) (y : MethodName), av = vr (some a) :: as ∧ a < mNx st ∧ 0 < mTag st a ∧ mTag st a < 22 ∧ (Cond.selects (cnm (mTag st a)) x y ∈ lw_all ∨ Cond.selects (cnm (mTag st a)) x y ∈ lw_ex) ∧ Cond.instanceMethod y ∈ lw_all ∧ Con y lev av st tr fin
/-- the method that a call names: of a class that can be made; or found in a superclass; or abstract -/
def XDecl (x : MethodName) : Prop := (∃ n, Cond.instanceMethod x ∈ lw_all ∧ CodeOf x ∧ Cond.instantiable x.cls n ∈ lw_all) ∨
  ∃ owner, Cond.sameMethod x.cls owner x.name x.desc ∈ lw_all ∧ (owner ≠ "java/lang/invoke/MethodHandle" ∧ owner ≠ "java/lang/invoke/VarHandle") ∧ ((Cond.instanceMethod ⟨owner, x.name, x.desc⟩ ∈ lw_all ∧ CodeOf ⟨owner, x.name, x.desc⟩) ∨ Cond.declares ⟨owner, x.name, x.desc⟩ ∈ lw_tbl)
def nn {α : Type} (o : Rf) (x : Option α) : Option α := match o with
  | some _ => x
  | none => none
theorem skV_rev (w : Wd) (l r : List Ev) : skV w (l.reverse ++ r) = (skV w l).reverse ++ skV w r := by simp [skV]
section Links
variable {cc : ByteArray} {own nm : String} {lev lev' : Nat} {ret : Option FieldType} {mx : Nat} {st0 st : Mem} {β : Type} {tr : β → Rs} {fin : β × Mem} {pc idx : Nat} {env : List (Nat × Ev)} {stk : List Ev} {y x : MethodName} {av as rest : List Ev} {γ : Type} {tr' : γ → Rs} {fx : Option (γ × Mem)}
theorem Cx.any {k : CT} {w : Wd} {c : Cond} {A : Array Value} (C : Cx k w cc own nm lev ret mx) (h : c ∈ lw_all) : c.before A (ks k) = true := word_at (State.WarmedH.refl (ks k)) (good_of_word (List.mem_filter.mp h).2) (C.f.1 c h)
theorem codeOf_named {w : Wd} {s : State} (h : CodeOf y) (hf : SF w s) : ∃ m, s.methodNamed? y = some m := by
  rcases h.2 with ⟨b, n, r, -, hw⟩ | ⟨b, n, r, hh, -, hw⟩
  · exact Cond.code_named (hf.1 _ hw)
  · obtain ⟨m', meth, c, h0, -⟩ := Cond.codeWith_spec (hf.1 _ hw)
    exact ⟨m', h0⟩
theorem lkS (d : decode cc pc = .ok (.invokestatic idx, 3)) (q1 : Cond.methodLink own idx y ∈ lw_all) (q2 : Cond.static y ∈ lw_all) (q3 : Cond.initialized y.cls ∈ lw_all) (hc : ∀ fin', fx = some fin' → Con y lev' av st tr' fin') (ha : Ad y av.length) : ∀ fin', fx = some fin' → Inv (cc, own, nm, lev, ret, mx) pc lev' av rest st tr' fin' := by
  intro fin' e
  have hcon := hc fin' e
  refine ⟨y, fun k w C T locs cells slots ls hR X => ?_, hcon⟩
  obtain ⟨mk, hn⟩ := codeOf_named hcon.2.1 C.f
  obtain ⟨meth, c, hm, -, -, -, hsig⟩ := hcon.2.1.at C.f hn
  obtain ⟨kP, hkP, -⟩ := className_of_methodNamed hn
  have hini := Cond.initialized_spec (findClass_of_methodNamed hn) hkP (C.wd q3)
  have hst := Cond.static_spec hn hm (C.wd q2)
  obtain ⟨vm₁, X₁, hs⟩ := X.invokestatic C.x C.o (C.wd q1) hn hm hst hkP hini ha.1 (g := F0 (km k) pc ls (skV w (av.reverse ++ rest))) rfl (argsL := skV w av) (rest := skV w rest) (by rw [← ha.len hsig]; simp [skV]) (skV_rev w av rest) (by rw [C.b]; exact d)
  exact ⟨vm₁, mk, X₁, hn, ⟨_, by rw [C.b]; exact d⟩, hs⟩
theorem lkSN {host : String} (d : decode cc pc = .ok (.invokestatic idx, 3)) (q1 : Cond.methodLinkNest own idx y host ∈ lw_tbl) (q2 : Cond.static y ∈ lw_all) (q3 : Cond.initialized y.cls ∈ lw_all) (hc : ∀ fin', fx = some fin' → Con y lev' av st tr' fin') (ha : Ad y av.length) : ∀ fin', fx = some fin' → Inv (cc, own, nm, lev, ret, mx) pc lev' av rest st tr' fin' := by
  intro fin' e
  have hcon := hc fin' e
  refine ⟨y, fun k w C T locs cells slots ls hR X => ?_, hcon⟩
  obtain ⟨mk, hn⟩ := codeOf_named hcon.2.1 C.f
  obtain ⟨meth, c, hm, -, -, -, hsig⟩ := hcon.2.1.at C.f hn
  obtain ⟨kP, hkP, -⟩ := className_of_methodNamed hn
  have hini := Cond.initialized_spec (findClass_of_methodNamed hn) hkP (C.wd q3)
  have hst := Cond.static_spec hn hm (C.wd q2)
  obtain ⟨vm₁, X₁, hs⟩ := X.invokestaticNest C.x C.o (va_Nw.use rfl (C.nw q1 rfl)) hn hm hst hkP hini ha.1 (g := F0 (km k) pc ls (skV w (av.reverse ++ rest))) rfl (argsL := skV w av) (rest := skV w rest) (by rw [← ha.len hsig]; simp [skV]) (skV_rev w av rest) (by rw [C.b]; exact d)
  exact ⟨vm₁, mk, X₁, hn, ⟨_, by rw [C.b]; exact d⟩, hs⟩
theorem skV_recv (w : Wd) (a : Nat) (as rest : List Ev) : skV w ((vr (some a) :: as).reverse ++ rest) = (skV w as).reverse ++ Value.ref (wR w a) :: skV w rest := by
  simp [skV, evV, rfV]
theorem lkI {r : Rf} {b : ByteArray} {n : Nat} (d : decode cc pc = .ok (.invokespecial idx, 3)) (q1 : Cond.methodLink own idx y ∈ lw_all) (q2 : Cond.instanceMethod y ∈ lw_all) (q3 : Cond.code y b n none ∈ lw_all) (hi : y.name = "<init>") (hc : ∀ fin', fx = some fin' → Con y lev' (vr r :: as) st tr' fin') (ha : Ad y as.length) : ∀ fin', nn r fx = some fin' → Inv (cc, own, nm, lev, ret, mx) pc lev' (vr r :: as) rest st tr' fin' := by
  intro fin' e
  cases r with
  | none => cases e
  | some a =>
    have hcon := hc fin' e
    refine ⟨y, fun k w C T locs cells slots ls hR X => ?_, hcon⟩
    have hpl : (ke k).platform.magicAccessors = ({} : Platform).magicAccessors := by rw [X.admits.platform]
    obtain ⟨mk, methM, cM, kP, vm₁, hnamed, -, -, -, -, -, -, -, hW₁, hs⟩ := Steps.initColdArgs (e := ke k) X.here C.x X.warmed hpl C.o hi ha.1 (C.wd q1) (C.wd q2) (C.wd q3) (f := F0 (km k) pc ls (skV w ((vr (some a) :: as).reverse ++ rest))) rfl (argsL := skV w as) (rest := skV w rest) (fun sig h => by rw [← ha.len h]; simp [skV]) (skV_recv w a as rest) (by rw [C.b]; exact d)
    exact ⟨vm₁, mk, X.noted hW₁, hnamed, ⟨_, by rw [C.b]; exact d⟩, hs⟩
theorem lkIN {r : Rf} {b : ByteArray} {n : Nat} {host : String} (d : decode cc pc = .ok (.invokespecial idx, 3)) (q1 : Cond.methodLinkNest own idx y host ∈ lw_tbl) (q2 : Cond.instanceMethod y ∈ lw_all) (q3 : Cond.code y b n none ∈ lw_all) (hi : y.name = "<init>") (hc : ∀ fin', fx = some fin' → Con y lev' (vr r :: as) st tr' fin') (ha : Ad y as.length) : ∀ fin', nn r fx = some fin' → Inv (cc, own, nm, lev, ret, mx) pc lev' (vr r :: as) rest st tr' fin' := by
  intro fin' e
  cases r with
  | none => cases e
  | some a =>
    have hcon := hc fin' e
    refine ⟨y, fun k w C T locs cells slots ls hR X => ?_, hcon⟩
    have hpl : (ke k).platform.magicAccessors = ({} : Platform).magicAccessors := by rw [X.admits.platform]
    obtain ⟨mk, methM, cM, kP, vm₁, hnamed, -, -, -, -, -, -, -, hW₁, hs⟩ := Steps.initColdArgsNest (e := ke k) X.here C.x X.warmed hpl C.o hi ha.1 (va_Nw.use (A := ka k) rfl (C.nw q1 rfl)) (C.wd q2) (C.wd q3) (f := F0 (km k) pc ls (skV w ((vr (some a) :: as).reverse ++ rest))) rfl (argsL := skV w as) (rest := skV w rest) (fun sig h => by rw [← ha.len h]; simp [skV]) (skV_recv w a as rest) (by rw [C.b]; exact d)
    exact ⟨vm₁, mk, X.noted hW₁, hnamed, ⟨_, by rw [C.b]; exact d⟩, hs⟩
theorem lkV (d : decode cc pc = .ok (.invokevirtual idx, 3)) (q1 : Cond.methodLink own idx x ∈ lw_all) (hx : XDecl x) {r : Rf} (hc : ∀ fin', fx = some fin' → VCon x lev' (vr r :: as) st tr' fin') (ha : Ad x as.length) : ∀ fin', fx = some fin' → Inv (cc, own, nm, lev, ret, mx) pc lev' (vr r :: as) rest st tr' fin' := by
  intro fin' e
  obtain ⟨a, as', y, hav, hlt, ht0, ht, hsel, hinst, hcon⟩ := hc fin' e
  have hr : r = some a := by have := List.cons.inj hav; simpa using this.1
  have hs' : as = as' := (List.cons.inj hav).2
  subst hr
  subst hs'
  refine ⟨y, fun k w C T locs cells slots ls hR X => ?_, hcon⟩
  obtain ⟨cell, c1, c2, c3, -⟩ := (hR.1 a hlt).2 ht0 (by omega)
  have hcls := (cls_at C.f ht ht0).1
  have hsel' : (Cond.selects (cnm (mTag st a)) x y).before (ka k) (ks k) = true := by
    rcases hsel with h | h
    · exact C.wd h
    · refine word_at (State.WarmedH.refl (ks k)) (Or.inl ?_) (C.f.2.2.2.2.1 _ h)
      rfl
  obtain ⟨mk, methM, hnamed, hmethM, -, habM⟩ := Cond.instanceMethod_spec (C.wd hinst)
  obtain ⟨c2', r2, m2, q1', q2', q3', q4', kP, hkP, hkPi⟩ := Cond.selects_spec hsel'
  cases hcls.symm.trans q1'
  cases hnamed.symm.trans q3'
  have hobj : ∀ z, cell.vm ≠ .statics z := fun z => not_st c3.2 z
  rcases hx with ⟨n, hix, hcx, hins⟩ | ⟨owner, hsame, hmh, hdecl⟩
  · obtain ⟨r0, rm, hn0, hrm, hst0, -⟩ := Cond.instanceMethod_spec (C.wd hix)
    obtain ⟨rm', cx, hrm', -, -, -, hsig⟩ := hcx.at C.f hn0
    cases hrm.symm.trans hrm'
    obtain ⟨c9, k9, hc9, hk9, -, hniab, -, -⟩ := Cond.instantiable_spec (C.wd hins)
    have hni : k9.isInterface = false := (Bool.or_eq_false_iff.mp hniab).1
    have hcls0 : r0.cls = c9 := Option.some.inj ((findClass_of_methodNamed hn0).symm.trans hc9)
    have e2 : r2 = r0 := Option.some.inj (q2'.symm.trans (State.methodFound?_of_named hn0 ha.1))
    rw [e2] at q4'
    have hselP : selectMethod (ke k).platform (ks k).vm cell.cls r0 = .method mk := by rw [Launch.admits_selectMethod X.admits, c2]; exact q4'
    obtain ⟨vm₁, X₁, hs⟩ := X.invokevirtual C.x C.o (C.wd q1) hn0 hrm hst0 (kr := k9) (by rw [hcls0]; exact hk9) hni ha.1 (a := wR w a) (cell := cell) c1 hobj hselP hmethM habM hkP hkPi (g := F0 (km k) pc ls (skV w ((vr (some a) :: as).reverse ++ rest))) rfl (argsL := skV w as) (rest := skV w rest) (by rw [← ha.len hsig]; simp [skV]) (skV_recv w a as rest) (by rw [C.b]; exact d)
    exact ⟨vm₁, mk, X₁, hnamed, ⟨_, by rw [C.b]; exact d⟩, hs⟩
  · have hd0 : va_Decl (ks k) ⟨owner, x.name, x.desc⟩ := by
      rcases hdecl with ⟨h1, h2⟩ | h
      · obtain ⟨r0, rm, hn0, hrm, hst0, -⟩ := Cond.instanceMethod_spec (C.wd h1)
        obtain ⟨rm', cx, hrm', -, -, -, hsig⟩ := h2.at C.f hn0
        cases hrm.symm.trans hrm'
        exact ⟨r0, rm, hn0, hrm, hst0, hsig⟩
      · exact va_Decl.abs (C.nw h rfl)
    obtain ⟨r0, rm, hn0, hrm, hst0, hsig⟩ := hd0
    obtain ⟨cn, ck, r1, hcn, hck, hni, hf, hn1⟩ := Cond.sameMethod_found (C.wd hsame)
    have e1 : r1 = r0 := Option.some.inj (hn1.symm.trans hn0)
    have e2 : r2 = r0 := (Option.some.inj (q2'.symm.trans hf)).trans e1
    rw [e2] at q4'
    have hselP : selectMethod (ke k).platform (ks k).vm cell.cls r0 = .method mk := by rw [Launch.admits_selectMethod X.admits, c2]; exact q4'
    obtain ⟨vm₁, X₁, hs⟩ := X.invokevirtualUp C.x C.o (C.wd q1) (C.wd hsame) hmh hn0 hrm hst0 (a := wR w a) (cell := cell) c1 hobj hselP hmethM habM hkP hkPi (g := F0 (km k) pc ls (skV w ((vr (some a) :: as).reverse ++ rest))) rfl (argsL := skV w as) (rest := skV w rest) (by rw [← ha.len hsig]; simp [skV]) (skV_recv w a as rest) (by rw [C.b]; exact d)
    exact ⟨vm₁, mk, X₁, hnamed, ⟨_, by rw [C.b]; exact d⟩, hs⟩
/-- a receiver of one of some classes, all of which select y -/
theorem vc_of {r : Rf} {ts : List Nat} (hts : ∀ t ∈ ts, 0 < t ∧ t < 22 ∧ (Cond.selects (cnm t) x y ∈ lw_all ∨ Cond.selects (cnm t) x y ∈ lw_ex)) (q : Cond.instanceMethod y ∈ lw_all) (hc : ∀ fin', fx = some fin' → Con y lev' (vr r :: as) st tr' fin') : ∀ fin', iv st r ts fx = some fin' → VCon x lev' (vr r :: as) st tr' fin' := by
  intro fin' e
  cases r with
  | none => cases e
  | some a =>
    unfold iv at e
    simp only at e
    split at e
    · rename_i c
      have hm : mTag st a ∈ ts := by simpa using c.2
      obtain ⟨h1, h2, h3⟩ := hts _ hm
      exact ⟨a, as, y, rfl, c.1, h1, h2, h3, q, hc fin' e⟩
    · cases e
theorem bd_at {α δ : Type} {u : Option (α × Mem)} {F : α → Mem → Option δ} {z : δ} (h : bd u F = some z) : ∃ v st', u = some (v, st') ∧ F v st' = some z := by
  cases u with
  | none => cases h
  | some q => exact ⟨q.1, q.2, rfl, h⟩
/-- a call that returns -/
theorem r_call {δ : Type} {tr' : δ → Rs} {fx : Option (δ × Mem)} {v : δ} {st' : Mem} {o : Option Ev} (hc : ∀ fin', fx = some fin' → Inv (cc, own, nm, lev, ret, mx) pc lev' av rest st tr' fin') (hlv : lev' + 1 ≤ lev) (hr : (rest.map evc).sum ≤ 20) (hst : av.reverse ++ rest = stk) (e : fx = some (v, st')) (ht : tr' v = .inl o)
    (K : G (cc, own, nm, lev, ret, mx) st0 tr fin (pc + 3) env (o.toList ++ rest) st') : G (cc, own, nm, lev, ret, mx) st0 tr fin pc env stk st := by
  obtain ⟨y, L, hcon⟩ := hc _ e
  subst hst
  refine ⟨hcon.1.tr K.1, fun k w C hg H locs ls hR hS hl T hT X => ?_⟩
  obtain ⟨T', locs', X', hR', hS', hgo⟩ := call_core L hcon hlv hr K.1 C hg hR hS hl hT X
  rw [ht] at hgo
  obtain ⟨t, h1, h2⟩ := K.2 k w C (go_le hg hcon.1) T'.heap locs' ls hR' hS' hl T' rfl X'
  exact ⟨t, hgo t h1, h2⟩
theorem r_callI {fx : Option (Int32 × Mem)} {F : Int32 → Mem → Option (β × Mem)} (hc : ∀ fin', fx = some fin' → Inv (cc, own, nm, lev, ret, mx) pc lev' av rest st trI fin') (hlv : lev' + 1 ≤ lev) (hr : (rest.map evc).sum ≤ 20) (hst : av.reverse ++ rest = stk) (h : bd fx F = some fin) (K : ∀ x st', fx = some (x, st') → F x st' = some fin → G (cc, own, nm, lev, ret, mx) st0 tr fin (pc + 3) env (vi x :: rest) st') : G (cc, own, nm, lev, ret, mx) st0 tr fin pc env stk st := by
  obtain ⟨v, st', e, h⟩ := bd_at h
  exact r_call hc hlv hr hst e rfl (K v st' e h)
theorem r_callJ {fx : Option (Int64 × Mem)} {F : Int64 → Mem → Option (β × Mem)} (hc : ∀ fin', fx = some fin' → Inv (cc, own, nm, lev, ret, mx) pc lev' av rest st trJ fin') (hlv : lev' + 1 ≤ lev) (hr : (rest.map evc).sum ≤ 20) (hst : av.reverse ++ rest = stk) (h : bd fx F = some fin) (K : ∀ x st', fx = some (x, st') → F x st' = some fin → G (cc, own, nm, lev, ret, mx) st0 tr fin (pc + 3) env (vj x :: rest) st') : G (cc, own, nm, lev, ret, mx) st0 tr fin pc env stk st := by
  obtain ⟨v, st', e, h⟩ := bd_at h
  exact r_call hc hlv hr hst e rfl (K v st' e h)
theorem r_callA {fx : Option (Rf × Mem)} {F : Rf → Mem → Option (β × Mem)} (hc : ∀ fin', fx = some fin' → Inv (cc, own, nm, lev, ret, mx) pc lev' av rest st trA fin') (hlv : lev' + 1 ≤ lev) (hr : (rest.map evc).sum ≤ 20) (hst : av.reverse ++ rest = stk) (h : bd fx F = some fin) (K : ∀ x st', fx = some (x, st') → F x st' = some fin → G (cc, own, nm, lev, ret, mx) st0 tr fin (pc + 3) env (vr x :: rest) st') : G (cc, own, nm, lev, ret, mx) st0 tr fin pc env stk st := by
  obtain ⟨v, st', e, h⟩ := bd_at h
  exact r_call hc hlv hr hst e rfl (K v st' e h)
theorem r_callV {fx : Option (Unit × Mem)} {F : Unit → Mem → Option (β × Mem)} (hc : ∀ fin', fx = some fin' → Inv (cc, own, nm, lev, ret, mx) pc lev' av rest st trV fin') (hlv : lev' + 1 ≤ lev) (hr : (rest.map evc).sum ≤ 20) (hst : av.reverse ++ rest = stk) (h : bd fx F = some fin) (K : ∀ x st', fx = some (x, st') → F x st' = some fin → G (cc, own, nm, lev, ret, mx) st0 tr fin (pc + 3) env rest st') : G (cc, own, nm, lev, ret, mx) st0 tr fin pc env stk st := by
  obtain ⟨v, st', e, h⟩ := bd_at h
  exact r_call hc hlv hr hst e rfl (K v st' e h)
/-! returns -/
theorem ret_core {k : CT} {w : Wd} {H : Heap} {locs : List Loc} {T : State} {fs : List Frame} {v : Option Value} (hS : va_S (zA w st0 (ks k).heap) (ks k).heap H locs) (hR : Rel w fin.2 H) (ho : rsO w (tr fin.1) = .returned v) (hT : T.heap = H) (h1 : (T.setFrames fs).status = .running) (h2 : Ended (T.setFrames fs) (kb k) (.returned v)) (h3 : (ks k).WarmedH (T.setFrames fs).vm) (h4 : (ks k).sameButNew ({ T.setFrames fs with vm := (ks k).vm } : State) locs (mNx fin.2 - mNx st0) (mNs fin.2 - mNs st0)) : Zq k w st0 tr fin (T.setFrames fs) :=
  ⟨_, h1, h2, h3, ⟨locs, h4, hS.2.2⟩, ho.symm, by subst hT; exact hR, hS.F hT⟩
theorem r_ireturn {v v' : Int32} {r : β} {ty : FieldType} (d : decode cc pc = .ok (.ireturn, 1)) (hn : narrow ty (.int v) = .int v') (hb : tr r = .inl (some (vi v'))) (h : some (r, st) = some fin) : G (cc, own, nm, lev, some ty, mx) st0 tr fin pc env [vi v] st := by
  cases h
  refine ⟨mLe.rf _, fun k w C hg H locs ls hR hS hl T hT X => ?_⟩
  have hr : (kh k).sig.returnType = some ty := C.r
  obtain ⟨fs, hret, hrun, hended, hW, hframe⟩ := X.leave (v := some (.int v')) (fun h => by rw [hr] at h; cases h) C.l
  have hmeth' : T.vm.method? (km k) = some (kh k) := X.method'
  have hexec := C.x
  have hbb := C.b
  refine ⟨T.setFrames fs, ?_, ret_core hS hR (by rw [hb]; rfl) hT hrun hended hW hframe⟩
  show Steps (kp k).tables (ke k) (kb k) (T.setTop (F0 (km k) pc ls [.int v])) _
  jvm_step X.here [X.here.top, hexec, hbb, d, hmeth', hr, hn]
  (try refine ⟨rfl, ?_⟩); (try refine ⟨rfl, ?_⟩)
  first | (intro acts; rw [hret _ acts rfl rfl rfl]) | rw [hret _ _ rfl rfl rfl]
  exact Steps.refl _
theorem r_lreturn {v : Int64} {r : β} (d : decode cc pc = .ok (.lreturn, 1)) (hb : tr r = .inl (some (vj v))) (h : some (r, st) = some fin) : G (cc, own, nm, lev, some .long, mx) st0 tr fin pc env [vj v] st := by
  cases h
  refine ⟨mLe.rf _, fun k w C hg H locs ls hR hS hl T hT X => ?_⟩
  have hr : (kh k).sig.returnType = some .long := C.r
  obtain ⟨fs, hret, hrun, hended, hW, hframe⟩ := X.leave (v := some (.long v)) (fun h => by rw [hr] at h; cases h) C.l
  have hmeth' : T.vm.method? (km k) = some (kh k) := X.method'
  have hexec := C.x
  have hbb := C.b
  refine ⟨T.setFrames fs, ?_, ret_core hS hR (by rw [hb]; rfl) hT hrun hended hW hframe⟩
  show Steps (kp k).tables (ke k) (kb k) (T.setTop (F0 (km k) pc ls [.long v])) _
  jvm_step X.here [X.here.top, hexec, hbb, d, hmeth', hr, narrow]
  (try refine ⟨rfl, ?_⟩); (try refine ⟨rfl, ?_⟩)
  first | (intro acts; rw [hret _ acts rfl rfl rfl]) | rw [hret _ _ rfl rfl rfl]
  exact Steps.refl _
theorem r_return_ {r : β} (d : decode cc pc = .ok (.return_, 1)) (hb : tr r = .inl none) (h : some (r, st) = some fin) : G (cc, own, nm, lev, none, mx) st0 tr fin pc env [] st := by
  cases h
  refine ⟨mLe.rf _, fun k w C hg H locs ls hR hS hl T hT X => ?_⟩
  have hr : (kh k).sig.returnType = none := C.r
  obtain ⟨fs, hret, hrun, hended, hW, hframe⟩ := X.leave (v := none) (fun h => rfl) C.l
  have hmeth' : T.vm.method? (km k) = some (kh k) := X.method'
  have hexec := C.x
  have hbb := C.b
  refine ⟨T.setFrames fs, ?_, ret_core hS hR (by rw [hb]; rfl) hT hrun hended hW hframe⟩
  show Steps (kp k).tables (ke k) (kb k) (T.setTop (F0 (km k) pc ls [])) _
  jvm_step X.here [X.here.top, hexec, hbb, d, hmeth', hr, narrow]
  (try refine ⟨rfl, ?_⟩); (try refine ⟨rfl, ?_⟩)
  first | (intro acts; rw [hret _ acts rfl rfl rfl]) | rw [hret _ _ rfl rfl rfl]
  exact Steps.refl _
theorem r_areturn {v : Rf} {r : β} {ty : FieldType} (d : decode cc pc = .ok (.areturn, 1)) (hty : isRefTy ty = true) (hb : tr r = .inl (some (vr v))) (h : some (r, st) = some fin) : G (cc, own, nm, lev, some ty, mx) st0 tr fin pc env [vr v] st := by
  cases h
  refine ⟨mLe.rf _, fun k w C hg H locs ls hR hS hl T hT X => ?_⟩
  have hr : (kh k).sig.returnType = some ty := C.r
  have hn := (rf_fits hty w v).1
  obtain ⟨fs, hret, hrun, hended, hW, hframe⟩ := X.leave (v := some (rfV w v)) (fun h => by rw [hr] at h; cases h) C.l
  have hmeth' : T.vm.method? (km k) = some (kh k) := X.method'
  have hexec := C.x
  have hbb := C.b
  refine ⟨T.setFrames fs, ?_, ret_core hS hR (by rw [hb]; rfl) hT hrun hended hW hframe⟩
  have hir : ty.isReference = true := by cases ty <;> first | (cases hty; done) | rfl
  cases v with
  | none =>
    have hn : narrow ty .null = .null := hn
    have hret : ∀ (f : JFrame) (acts : List Action), f.method = km k → f.locked = none → f.entered = [] → (doReturn (ke k) (T.setTop f) acts (some .null)).1 = T.setFrames fs := hret
    show Steps (kp k).tables (ke k) (kb k) (T.setTop (F0 (km k) pc ls [.null])) _
    jvm_step X.here [X.here.top, hexec, hbb, d, hmeth', hr, hn]
    refine ⟨rfl, hir, fun acts => ?_⟩
    rw [hret _ acts rfl rfl rfl]
    exact Steps.refl _
  | some a =>
    have hn : narrow ty (.ref (wR w a)) = .ref (wR w a) := hn
    have hret : ∀ (f : JFrame) (acts : List Action), f.method = km k → f.locked = none → f.entered = [] → (doReturn (ke k) (T.setTop f) acts (some (.ref (wR w a)))).1 = T.setFrames fs := hret
    show Steps (kp k).tables (ke k) (kb k) (T.setTop (F0 (km k) pc ls [.ref (wR w a)])) _
    jvm_step X.here [X.here.top, hexec, hbb, d, hmeth', hr, hn]
    refine ⟨rfl, hir, fun acts => ?_⟩
    rw [hret _ acts rfl rfl rfl]
    exact Steps.refl _
end Links
theorem vt_nil {P : Nat → Prop} : ∀ t ∈ ([] : List Nat), P t := fun _ h => by cases h
theorem vt_cons {P : Nat → Prop} {a : Nat} {l : List Nat} (h : P a) (hl : ∀ t ∈ l, P t) : ∀ t ∈ a :: l, P t := fun t ht => by
  rcases List.mem_cons.mp ht with e | e
  · rw [e]; exact h
  · exact hl t e
def nby (x : Int32) : Int32 := vp_nar .byte x
def nch (x : Int32) : Int32 := vp_nar .char x
theorem Con.up {y : MethodName} {l l' : Nat} {av : List Ev} {st : Mem} {β : Type} {tr : β → Rs} {fin : β × Mem} (h : l ≤ l') (c : Con y l av st tr fin) : Con y l' av st tr fin :=
  ⟨c.1, c.2.1, fun k w h1 h2 h3 h4 h5 h6 h0 h7 h8 h9 h10 h11 => c.2.2 k w h1 h2 h3 h4 h5 h6 h0 (Nat.le_trans h h7) (by omega) h9 h10 h11⟩
