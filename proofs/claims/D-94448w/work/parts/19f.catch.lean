/-! ===== catching; super calls; a class as a constant ===== -/
theorem go_cold {f : JFrame} {a : Addr} {x : ExceptionTableEntry} {t : List ExceptionTableEntry} {c : ClassId} {vm' : Vm} {e : Env} {s : State} {Q : Handler → Pre} {E : CtlPost} {d : Bool} {acts : List Action} (hx : covers x f.pc = true) (h0 : x.catchType ≠ 0)
    (hg : (Jvm.resolveClass f.method.cls x.catchType).Gives e.toSetting s.vm (.ok c) vm') (hr : vm'.classReady f.method.cls x.catchType c) (hsz : vm'.classes.size ≤ s.vm.classes.size) :
    wp (findHandler.go f a (x :: t)) Q E e d acts s ↔ wp (findHandler.go f a (x :: t)) Q E e d acts (s.setVm vm') := by
  obtain ⟨ha, ht⟩ := hg.op (op := VmOp.resolveClass f.method.cls x.catchType) rfl
  simp only [covers] at hx
  obtain ⟨k, hkd, hres⟩ := hr
  simp [findHandler.go, hx, h0, ha, ht, hsz, resolveClass_memo e hkd hres, VmOp.dirties, VmOp.acts]
  exact Iff.rfl
theorem caught_cold {tb : Tables} {e : Env} {T target : State} {g : JFrame} {c : Code} {below : List Frame} {a : Addr} {vm' : Vm} {pc : Nat} (h : At T g.method c below)
    (hfind : ∀ (Q : Handler → Pre) (E : CtlPost) (d : Bool) (acts : List Action), wp (findHandler g a) Q E e d acts ((T.setTop g).pushFrame (.throwing a)) ↔ Q (.found pc) d acts (((T.setTop g).pushFrame (.throwing a)).setVm vm'))
    (hrest : Steps tb e below ((T.setVm vm').setTop { g with pc := pc, stack := [.ref a] }) target) : Steps tb e below ((T.setTop g).pushFrame (.throwing a)) target := by
  obtain ⟨hgo, hw⟩ := h.throwing a
  refine Steps.head hgo hw ?_
  have hcatch : ∀ r, (stepThrowing e ((T.setTop g).pushFrame (.throwing a)) a (.java g :: r)).Is ((((T.setTop g).pushFrame (.throwing a)).setVm vm').setFrames (.java { g with pc := pc, stack := [.ref a] } :: r)) [] := by
    intro r
    simp only [stepThrowing, searchFrame, vmDo]
    generalize hr : Sem.go _ e false [] ((T.setTop g).pushFrame (.throwing a)) = res
    obtain ⟨as, rfl, ha⟩ := Sem.eq_ok_of hr (a := Handler.found pc) (s' := ((T.setTop g).pushFrame (.throwing a)).setVm vm') (acts' := []) (by simp [hfind _ _ _ _])
    exact ⟨rfl, ha⟩
  rw [stepThread_throwing (frames_entered h.top _), (hcatch _).1]
  obtain ⟨g₀, hg⟩ := Option.isSome_iff_exists.mp h.top
  obtain ⟨r, hr⟩ := State.topJava?_eq_some.mp hg
  have hr' : (T.setVm vm').frames = .java g₀ :: r := hr
  rw [State.setTop_of_frames _ hr'] at hrest
  have e1 : (((T.setTop g).pushFrame (.throwing a)).setVm vm').setFrames (.java { g with pc := pc, stack := [.ref a] } :: T.frames.tail) = (T.setVm vm').setFrames (.java { g with pc := pc, stack := [.ref a] } :: r) := by
    rw [State.pushFrame, State.setTop_of_frames _ hr, hr]
    show ((((T.setFrames _).setFrames _).setVm vm').setFrames _) = _
    rw [State.setFrames_setFrames]
    show (((T.setVm vm').setFrames _).setFrames _) = _
    rw [State.setFrames_setFrames]
    rfl
  rw [e1]
  exact hrest
section Catch
variable {cc : ByteArray} {own nm : String} {lev lev' : Nat} {ret : Option FieldType} {mx : Nat} {st0 st : Mem} {β : Type} {tr : β → Rs} {fin : β × Mem} {pc idx : Nat} {env : List (Nat × Ev)} {stk av rest : List Ev}
theorem r_caught {δ' : Type} {tr' : δ' → Rs} {fx : Option (δ' × Mem)} {v : δ'} {st' : Mem} {a t ps pe tgt ci : Nat} {Cn : String} {env' : List (Nat × Ev)} (ks' : List Nat) (hp : evPick env ks' = env') (hc : ∀ fin', fx = some fin' → Inv (cc, own, nm, lev, ret, mx) pc lev' av rest st tr' fin') (hlv : lev' + 1 ≤ lev) (hr : (rest.map evc).sum ≤ 20) (hst : av.reverse ++ rest = stk) (e : fx = some (v, st')) (ht : tr' v = .inr a)
    (hh : hcHs own nm = [(ps, pe, tgt, ci)]) (hcov : (ps ≤ pc ∧ pc < pe) ∧ ci ≠ 0) (q : Cond.classLink own ci Cn ∈ lw_all) (hCn : cnm t = Cn ∧ 0 < t ∧ t < 22) (htag : mTag st' a = t) (hlt : a < mNx st') (K : G (cc, own, nm, lev, ret, mx) st0 tr fin tgt env' [vr (some a)] st') : G (cc, own, nm, lev, ret, mx) st0 tr fin pc env stk st := by
  obtain ⟨y, L, hcon⟩ := hc _ e
  subst hst
  have K := r_sub ks' hp K
  refine ⟨hcon.1.tr K.1, fun k w C hg H locs ls hR hS hl T hT X => ?_⟩
  obtain ⟨T', locs', X', hR', hS', hgo⟩ := call_core L hcon hlv hr K.1 C hg hR hS hl hT X
  rw [ht] at hgo
  have htab := C.t
  rw [hh] at htab
  obtain ⟨x, hx1, hx2⟩ := List.map_eq_singleton_iff.mp htab
  have x1 : x.startPc = ps := congrArg (fun z => z.1) hx2
  have x2 : x.endPc = pe := congrArg (fun z => z.2.1) hx2
  have x3 : x.handlerPc = tgt := congrArg (fun z => z.2.2.1) hx2
  have x4 : x.catchType = ci := congrArg (fun z => z.2.2.2) hx2
  have hpl : (ke k).platform.magicAccessors = ({} : Platform).magicAccessors := by rw [X.admits.platform]
  obtain ⟨c1, hfc, hcl⟩ := Cond.classLink_spec C.o (C.wd q) (ke k).platform hpl
  obtain ⟨hg₁, hwarm₁, hready₁⟩ := State.classEntry (e := ke k) X'.warmed hcl
  have hsz : (T'.vm.noted (km k).cls ci (.cls c1)).classes.size ≤ T'.vm.classes.size := by no_record
  generalize T'.vm.noted (km k).cls ci (.cls c1) = vm₁ at hg₁ hwarm₁ hready₁ hsz
  obtain ⟨hC1, hC2, hC3⟩ := hCn
  have hcls := cls_at C.f hC3 hC2
  rw [hC1] at hcls
  have ec : c1 = w.1.1 t := Option.some.inj (hfc.symm.trans hcls.1)
  have htag' : mTag ((v, st') : δ' × Mem).2 a = t := htag
  obtain ⟨cell, d1, d2, d3, -⟩ := (hR'.1 a hlt).2 (by rw [htag']; exact hC2) (by rw [htag']; omega)
  rw [htag'] at d2
  obtain ⟨kC, hkC, hkind⟩ := hcls.2
  obtain ⟨kC', hkC', -⟩ := hwarm₁.alike.2.2 _ _ hkC
  have hfind : ∀ (Q : Handler → Pre) (E : CtlPost) (d : Bool) (acts : List Action), wp (findHandler (F0 (km k) pc ls (skV w rest)) (wR w a)) Q E (ke k) d acts ((T'.setTop (F0 (km k) pc ls (skV w rest))).pushFrame (.throwing (wR w a))) ↔ Q (.found tgt) d acts (((T'.setTop (F0 (km k) pc ls (skV w rest))).pushFrame (.throwing (wR w a))).setVm vm₁) := by
    intro Q E d acts
    have hm' : ((T'.setTop (F0 (km k) pc ls (skV w rest))).pushFrame (.throwing (wR w a))).vm.method? (F0 (km k) pc ls (skV w rest)).method = some (kh k) := by
      rw [Stand.throwing_vm]; exact X'.method'
    rw [W.findHandler_eq hm' X'.code, hx1]
    have hcv : covers x (F0 (km k) pc ls (skV w rest)).pc = true := by
      show (decide (x.startPc ≤ pc) && decide (pc < x.endPc)) = true
      rw [x1, x2]
      simp [hcov.1.1, hcov.1.2]
    have h0 : x.catchType ≠ 0 := by rw [x4]; exact hcov.2
    rw [go_cold (c := c1) (vm' := vm₁) hcv h0 (by rw [Stand.throwing_vm, x4]; exact hg₁) (by rw [x4]; exact hready₁) (by rw [Stand.throwing_vm]; exact hsz)]
    have has : vm₁.assignable cell.cls c1 = true := by
      rw [hwarm₁.alike.assignable, d2, ec]
      exact va_assign hcls
    rw [W.findHandler_go_class (c := c1) (cell := cell) hcv h0 (by rw [x4]; exact hready₁) (by
        show ((T'.setTop (F0 (km k) pc ls (skV w rest))).pushFrame (.throwing (wR w a))).heap[wR w a]? = some cell
        rw [Stand.throwing_heap]; exact d1) (fun z => not_st d3.2 z) ⟨kC', by rw [d2]; exact hkC'⟩ ⟨kC', by rw [ec]; exact hkC'⟩]
    refine (Eq.to_iff (if_pos (show (((T'.setTop (F0 (km k) pc ls (skV w rest))).pushFrame (.throwing (wR w a))).setVm vm₁).vm.assignable cell.cls c1 = true from has))).trans ?_
    rw [x3]
  obtain ⟨t', h1, h2⟩ := K.2 k w C (go_le hg hcon.1) T'.heap locs' ls hR' hS' hl (T'.setVm vm₁) rfl (X'.noted hwarm₁)
  exact ⟨t', hgo t' (caught_cold (g := F0 (km k) pc ls (skV w rest)) X'.here hfind h1), h2⟩
theorem bc_at {α δ : Type} {u : Option ((α ⊕ Nat) × Mem)} {g : Nat → Mem → Option δ} {F : α → Mem → Option δ} {z : δ} (h : bc u g F = some z) : (∃ v st', u = some (.inl v, st') ∧ F v st' = some z) ∨ ∃ a st', u = some (.inr a, st') ∧ g a st' = some z := by
  rcases u with _ | ⟨v | a, st'⟩
  · cases h
  · exact Or.inl ⟨v, st', rfl, h⟩
  · exact Or.inr ⟨a, st', rfl, h⟩
/-- what a handler's guard asks -/
def hg {δ : Type} (st : Mem) (a t : Nat) (x : Option δ) : Option δ := if mTag st a = t ∧ a < mNx st then x else none
theorem r_callIC {fx : Option ((Int32 ⊕ Nat) × Mem)} {Kh : Nat → Mem → Option (β × Mem)} {F : Int32 → Mem → Option (β × Mem)} {t ps pe tgt ci : Nat} {Cn : String} {env' : List (Nat × Ev)} (ks' : List Nat) (hp : evPick env ks' = env') (hc : ∀ fin', fx = some fin' → Inv (cc, own, nm, lev, ret, mx) pc lev' av rest st trIx fin') (hlv : lev' + 1 ≤ lev) (hr : (rest.map evc).sum ≤ 20) (hst : av.reverse ++ rest = stk)
    (hh : hcHs own nm = [(ps, pe, tgt, ci)]) (hcov : (ps ≤ pc ∧ pc < pe) ∧ ci ≠ 0) (q : Cond.classLink own ci Cn ∈ lw_all) (hCn : cnm t = Cn ∧ 0 < t ∧ t < 22) (h : bc fx (fun a st' => hg st' a t (Kh a st')) F = some fin) (kh : ∀ a st', fx = some (.inr a, st') → Kh a st' = some fin → G (cc, own, nm, lev, ret, mx) st0 tr fin tgt env' [vr (some a)] st')
    (K : ∀ x st', fx = some (.inl x, st') → F x st' = some fin → G (cc, own, nm, lev, ret, mx) st0 tr fin (pc + 3) env (vi x :: rest) st') : G (cc, own, nm, lev, ret, mx) st0 tr fin pc env stk st := by
  rcases bc_at h with ⟨v, st', e, h⟩ | ⟨a, st', e, h⟩
  · exact r_call hc hlv hr hst e rfl (K v st' e h)
  · unfold hg at h
    split at h
    · rename_i ct
      exact r_caught ks' hp hc hlv hr hst e rfl hh hcov q hCn ct.1 ct.2 (kh a st' e h)
    · cases h
theorem r_callAC {fx : Option ((Rf ⊕ Nat) × Mem)} {Kh : Nat → Mem → Option (β × Mem)} {F : Rf → Mem → Option (β × Mem)} {t ps pe tgt ci : Nat} {Cn : String} {env' : List (Nat × Ev)} (ks' : List Nat) (hp : evPick env ks' = env') (hc : ∀ fin', fx = some fin' → Inv (cc, own, nm, lev, ret, mx) pc lev' av rest st trAx fin') (hlv : lev' + 1 ≤ lev) (hr : (rest.map evc).sum ≤ 20) (hst : av.reverse ++ rest = stk)
    (hh : hcHs own nm = [(ps, pe, tgt, ci)]) (hcov : (ps ≤ pc ∧ pc < pe) ∧ ci ≠ 0) (q : Cond.classLink own ci Cn ∈ lw_all) (hCn : cnm t = Cn ∧ 0 < t ∧ t < 22) (h : bc fx (fun a st' => hg st' a t (Kh a st')) F = some fin) (kh : ∀ a st', fx = some (.inr a, st') → Kh a st' = some fin → G (cc, own, nm, lev, ret, mx) st0 tr fin tgt env' [vr (some a)] st')
    (K : ∀ x st', fx = some (.inl x, st') → F x st' = some fin → G (cc, own, nm, lev, ret, mx) st0 tr fin (pc + 3) env (vr x :: rest) st') : G (cc, own, nm, lev, ret, mx) st0 tr fin pc env stk st := by
  rcases bc_at h with ⟨v, st', e, h⟩ | ⟨a, st', e, h⟩
  · exact r_call hc hlv hr hst e rfl (K v st' e h)
  · unfold hg at h
    split at h
    · rename_i ct
      exact r_caught ks' hp hc hlv hr hst e rfl hh hcov q hCn ct.1 ct.2 (kh a st' e h)
    · cases h
/-- super.m(..) -/
theorem lkP {r : Rf} {y : MethodName} {as : List Ev} {ts : List Nat} {γ : Type} {tr' : γ → Rs} {fx : Option (γ × Mem)} (d : decode cc pc = .ok (.invokespecial idx, 3)) (q1 : Cond.methodLink own idx y ∈ lw_all) (q2 : Cond.sameMethod y.cls y.cls y.name y.desc ∈ lw_all) (q3 : Cond.superclass own y.cls ∈ lw_all) (q4 : Cond.instanceMethod y ∈ lw_all) (hno : y.name ≠ "<init>") (hts : ∀ t ∈ ts, 0 < t ∧ t < 22) (hc : ∀ fin', fx = some fin' → Con y lev' (vr r :: as) st tr' fin') (ha : Ad y as.length) : ∀ fin', iv st r ts fx = some fin' → Inv (cc, own, nm, lev, ret, mx) pc lev' (vr r :: as) rest st tr' fin' := by
  intro fin' e
  cases r with
  | none => cases e
  | some a =>
    unfold iv at e
    simp only at e
    split at e
    · rename_i ct
      have hm : mTag st a ∈ ts := by simpa using ct.2
      obtain ⟨t1, t2⟩ := hts _ hm
      have hcon := hc fin' e
      refine ⟨y, fun k w C T locs cells slots ls hR X => ?_, hcon⟩
      obtain ⟨mk, methM, hnamed, hmethM, hstM, habM⟩ := Cond.instanceMethod_spec (C.wd q4)
      obtain ⟨methM', cM, hmethM', -, -, -, hsigM⟩ := hcon.2.1.at C.f hnamed
      cases hmethM.symm.trans hmethM'
      obtain ⟨ps, dk, kp', hps, hdk, hkp, hsuper, -, -, hnid⟩ := Cond.superclass_spec C.o (C.wd q3)
      have hn : (ks k).methodNamed? ⟨y.cls, y.name, y.desc⟩ = some mk := hnamed
      have hpm : ps = mk.cls := Option.some.inj (hps.symm.trans (findClass_of_methodNamed hnamed))
      have hsub : (ks k).vm.isSubclass ps mk.cls = true := by rw [hpm]; simp [Vm.isSubclass, Vm.isSubclassAux]
      obtain ⟨cell, c1, c2, c3, -⟩ := (hR.1 a ct.1).2 t1 (by omega)
      obtain ⟨kB, hkB, -⟩ := (cls_at C.f t2 t1).2
      obtain ⟨vm₁, X₁, hs⟩ := X.invokespecialUp C.x C.o (C.wd q1) (C.wd q2) hn hmethM hstM habM hno hdk hnid hps hsuper hsub (a := wR w a) (cell := cell) c1 (fun z => not_st c3.2 z) (by rw [c2]; exact hkB) (g := F0 (km k) pc ls (skV w ((vr (some a) :: as).reverse ++ rest))) rfl (argsL := skV w as) (rest := skV w rest) (by rw [← ha.len hsigM]; simp [skV]) (skV_recv w a as rest) (by rw [C.b]; exact d)
      exact ⟨vm₁, mk, X₁, hnamed, ⟨_, by rw [C.b]; exact d⟩, fun target h => hs target (by rw [doInvoke_state]; have := h []; exact this)⟩
    · cases e
theorem r_ldcM (d : decode cc pc = .ok (.ldc idx, 2)) (q : Cond.classLink own idx "[Ljava/lang/Object;" ∈ lw_all) (K : G (cc, own, nm, lev, ret, mx) st0 tr fin (pc + 2) env (vr (some 53) :: stk) st) : G (cc, own, nm, lev, ret, mx) st0 tr fin pc env stk st :=
  G.lift (fun k w C H locs ls cells slots Q hl K => va_ldcM C.x C.b C.o (C.wd q) C.f.2.2.2.2.2.2.2.2.1 d K) K
end Catch
