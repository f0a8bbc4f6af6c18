/-! ===== an exception's constructor; arrays of arrays ===== -/
def exi (t : Nat) (st : Mem) (r : Rf) : Option Mem := match r with
  | some a => if 64 ≤ a ∧ a < mNx st ∧ mTag st a = t ∧ mA st a 163 = none then some st else none
  | none => none
def mkRows (a m : Nat) : Nat → Nat → Mem → Mem
  | 0, _, st => st
  | k + 1, i, st => mkRows a m k (i + 1) (mSA (mNew st 103 m m) a i (some (mNx st)))
def nAA (st : Mem) (n m : Int32) : Option (Rf × Mem) := if 0 ≤ n ∧ n.toNatClampNeg ≤ 100 ∧ 0 ≤ m ∧ m.toNatClampNeg ≤ 1000 then some (some (mNx st), mkRows (mNx st) m.toNatClampNeg n.toNatClampNeg 0 (mNew st 107 n.toNatClampNeg n.toNatClampNeg)) else none
def mmaxI (x y : Int32) : Int32 := if x < y then y else x
def mminI (x y : Int32) : Int32 := if y < x then y else x
def mabsL (x : Int64) : Int64 := if 0 < x then x else -x
section Rest
variable {cc : ByteArray} {own nm : String} {lev : Nat} {ret : Option FieldType} {mx : Nat} {st0 st : Mem} {β : Type} {tr : β → Rs} {fin : β × Mem} {pc idx : Nat} {env : List (Nat × Ev)} {stk : List Ev}
theorem exw : ∀ c ∈ Bundle.throwableAtoms, (c = Cond.laysStatic "java/lang/Throwable" "UNASSIGNED_STACK" "[Ljava/lang/StackTraceElement;" ∨ c = Cond.laysStatic "java/lang/Throwable" "SUPPRESSED_SENTINEL" "Ljava/util/List;") ∨ c ∈ lw_all := by
  intro c hc
  simp only [Bundle.throwableAtoms, List.mem_cons, List.not_mem_nil, or_false] at hc
  rcases hc with h | h | h | h | h | h | h | h | h | h | h | h | h | h | h | h | h | h | h | h | h | h | h | h
  · exact Or.inr (h ▸ q105)
  · exact Or.inr (h ▸ q804)
  · exact Or.inr (h ▸ q813)
  · exact Or.inr (h ▸ q816)
  · exact Or.inr (h ▸ q819)
  · exact Or.inr (h ▸ q821)
  · exact Or.inr (h ▸ q805)
  · exact Or.inr (h ▸ q806)
  · exact Or.inr (h ▸ q134)
  · exact Or.inr (h ▸ q135)
  · exact Or.inr (h ▸ q807)
  · exact Or.inr (h ▸ q812)
  · exact Or.inr (h ▸ q817)
  · exact Or.inr (h ▸ q834)
  · exact Or.inr (h ▸ q794)
  · exact Or.inr (h ▸ q835)
  · exact Or.inr (h ▸ q796)
  · exact Or.inr (h ▸ q836)
  · exact Or.inr (h ▸ q798)
  · exact Or.inr (h ▸ q808)
  · exact Or.inl (Or.inl h)
  · exact Or.inr (h ▸ q810)
  · exact Or.inl (Or.inr h)
  · exact Or.inr (h ▸ q800)
/-- a static's place, in a state whose old cells are those of the start -/
theorem lays_moved {s0 s : State} {O n d : String} {args : Array Value} (hvm : s0.vm.Alike s.vm) (hold : ∀ q : Nat, q < s0.heap.size → s.heap[q]? = s0.heap[q]?) (h : (Cond.laysStatic O n d).before #[] s0 = true) : (Cond.laysStatic O n d).before args s = true := by
  obtain ⟨c, k, i, f, a, cell, h1, h2, h3, h4, h5, h6, h7, h8, h9⟩ := Cond.laysStatic_spec h
  obtain ⟨k', hi', he⟩ := State.fieldFound?_setVm hvm h2
  have hi' : s.fieldFound? O n d = some (c, k', i, f) := hi'
  have hfc : s.vm.findClass O = some c := by rw [hvm.findClass]; exact h1
  have hcell : s.heap[a]? = some cell := by rw [hold a (Array.getElem?_eq_some_iff.mp h5).1]; exact h5
  have hs : k'.statics = some a := by rw [he]; exact h4
  have ht : k'.staticTypes[f.slot]? = some f.type := by rw [he]; exact h9
  simp [Cond.before, Cond.holds, Cond.value, hfc, hi', hs, hcell, h3, h6, h7, h8, ht]
theorem old_kept {k : CT} {w : Wd} {H : Heap} {locs : List Loc} {f : Mem} (hg : Go k w st0 f st) (hR : Rel w st H) (hS : va_S (zA w st0 (ks k).heap) (ks k).heap H locs) {q : Nat} (hq : q < (wH w).size) : (ks k).heap[q]? = (wH w)[q]? := by
  have h1 := hg.2.2.2.1
  have h2 : ¬ zA w st0 (ks k).heap q := by
    rintro (⟨a, h64, ha, -, e⟩ | h)
    · have := hR.2.2.1 a h64 (Nat.lt_of_lt_of_le ha hg.1.1)
      omega
    · omega
  rw [← hS.2.1 q (by omega) h2]
  exact hR.2.2.2.1 q hq
/-- the constructors on the way from y to Throwable -/
theorem ch_exc {args : Array Value} {s : State} (h1 : ∀ c ∈ lw_all, c.before args s = true) (h2 : ∀ c ∈ lw_tbl, nestW c = true → c.before args s = true) : ∀ c ∈ Bundle.chain0Atoms "java/lang/Exception" [], c.before args s = true := by
  intro c hc
  simp only [Bundle.chain0Atoms, Bundle.passAtoms, List.mem_cons, List.not_mem_nil, or_false] at hc
  rcases hc with h | h | h | h | h
  · rw [h]; exact h1 _ q826
  · rw [h]; exact h1 _ q827
  · rw [h]; exact h1 _ q828
  · rw [h]; exact h1 _ q805
  · rw [h]; exact h2 _ q789 rfl
theorem ch_nse {args : Array Value} {s : State} (h1 : ∀ c ∈ lw_all, c.before args s = true) (h2 : ∀ c ∈ lw_tbl, nestW c = true → c.before args s = true) : ∀ c ∈ Bundle.chain0Atoms "java/util/NoSuchElementException" ["java/lang/RuntimeException", "java/lang/Exception"], c.before args s = true := by
  intro c hc
  simp only [Bundle.chain0Atoms, Bundle.passAtoms, List.mem_append, List.mem_cons, List.not_mem_nil, or_false] at hc
  rcases hc with (h | h | h | h | h) | (h | h | h | h | h) | h | h | h | h | h
  · rw [h]; exact h1 _ q1639
  · rw [h]; exact h1 _ q1640
  · rw [h]; exact h1 _ q1641
  · rw [h]; exact h1 _ q1642
  · rw [h]; exact h2 _ q1630 rfl
  · rw [h]; exact h1 _ q1642
  · rw [h]; exact h1 _ q1643
  · rw [h]; exact h1 _ q1644
  · rw [h]; exact h1 _ q826
  · rw [h]; exact h2 _ q787 rfl
  · rw [h]; exact h1 _ q826
  · rw [h]; exact h1 _ q827
  · rw [h]; exact h1 _ q828
  · rw [h]; exact h1 _ q805
  · rw [h]; exact h2 _ q789 rfl
/-- no kept field of the class is one that the constructor writes -/
def exNm (t : Nat) : Bool := (fl t).all fun f => f == 0 || (decide ((fdecl f).2.1 ≠ "cause") && decide ((fdecl f).2.1 ≠ "stackTrace") && decide ((fdecl f).2.1 ≠ "suppressedExceptions") && (parseFieldDescriptor (fdecl f).2.2).isSome)
theorem exi_core {t : Nat} {Xn : String} {names : List String} {k : CT} {w : Wd} {H : Heap} {locs : List Loc} {ls : Array Slot} {f0 : Mem} {a : Nat} {Q : State → Prop} (C : Cx k w cc own nm lev ret mx) (hg : Go k w st0 f0 st) (hR : Rel w st H) (hS : va_S (zA w st0 (ks k).heap) (ks k).heap H locs) (hl : lv_has ls (kc k).maxLocals (enV w env))
    (d : decode cc pc = .ok (.invokespecial idx, 3)) (q : Cond.methodLink own idx ⟨Xn, "<init>", "()V"⟩ ∈ lw_all) (hXn : Bundle.fit Xn = true) (hns : ∀ n ∈ names, Bundle.fit n = true) (hlen : names.length ≤ 2) (hin : Cond.instanceMethod ⟨Xn, "<init>", "()V"⟩ ∈ lw_all) (hcod : Cond.code ⟨Xn, "<init>", "()V"⟩ Bundle.five 1 none ∈ lw_all)
    (hch : ∀ (args : Array Value) (s : State), (∀ c ∈ lw_all, c.before args s = true) → (∀ c ∈ lw_tbl, nestW c = true → c.before args s = true) → ∀ c ∈ Bundle.chain0Atoms Xn names, c.before args s = true)
    (hs0 : Cond.selects (cnm t) Bundle.tFill0 Bundle.tFill0 ∈ lw_all) (hsF : Cond.selects (cnm t) Bundle.tFill Bundle.tFill ∈ lw_all) (hlC : Cond.lays (cnm t) Bundle.tN "cause" "Ljava/lang/Throwable;" ∈ lw_all) (hlS : Cond.lays (cnm t) Bundle.tN "stackTrace" Bundle.steD ∈ lw_all) (hlP : Cond.lays (cnm t) Bundle.tN "suppressedExceptions" Bundle.listD ∈ lw_all)
    (ht : 0 < t ∧ t < 22) (hfB : (fl t).contains 163 = true) (hex : exNm t = true) (h64 : 64 ≤ a) (ha : a < mNx st) (htag : mTag st a = t) (hnull : mA st a 163 = none) (hlev : 6 ≤ lev) (hr : (stk.map evc).sum ≤ 20) {cells slots : Nat}
    (K : ∀ (H1 : Heap) (locs1 : List Loc), Rel w st H1 → va_S (zA w st0 (ks k).heap) (ks k).heap H1 locs1 → WW k H1 locs1 cells slots Q (F0 (km k) (pc + 3) ls (skV w stk))) : WW k H locs cells slots Q (F0 (km k) pc ls (.ref (wR w a) :: skV w stk)) := by
  intro T hT X
  subst hT
  have howns : (ke k).platform.frameOwnsMonitors = true := by rw [X.admits.platform]
  have hfin : (ke k).platform.finalization = false := by rw [X.admits.platform]
  have hpl : (ke k).platform.magicAccessors = ({} : Platform).magicAccessors := by rw [X.admits.platform]
  obtain ⟨s0, w1, w2, w3⟩ := C.f.2.2.2.2.2.2.2.2.2
  have hold : ∀ q : Nat, q < s0.heap.size → (ks k).heap[q]? = s0.heap[q]? := fun q hq => by rw [w2] at hq ⊢; exact old_kept hg hR hS hq
  have hL1 := w3 _ List.mem_cons_self
  have hL2 := w3 _ (List.mem_cons_of_mem _ List.mem_cons_self)
  have hL3 := w3 _ (List.mem_cons_of_mem _ (List.mem_cons_of_mem _ List.mem_cons_self))
  have hL4 := w3 _ (List.mem_cons_of_mem _ (List.mem_cons_of_mem _ (List.mem_cons_of_mem _ List.mem_cons_self)))
  have hnw : ∀ c ∈ lw_tbl, nestW c = true → c.before (ka k) (ks k) = true := fun c hc hn => by
    have h := C.nw hc hn
    unfold nestW at hn
    split at hn
    · exact va_Nw.use rfl h
    · exact va_Nw.use rfl h
    · exact va_Nw.use rfl h
    · exact va_Nw.use rfl h
    · exact va_AO.use h
    · cases hn
  have atoms : ∀ c ∈ Bundle.throwableAtoms, c.before (ka k) (ks k) = true := by
    intro c hc
    rcases exw c hc with (h | h) | h
    · rw [h]; exact lays_moved w1.alike hold hL1
    · rw [h]; exact lays_moved w1.alike hold hL2
    · exact C.wd h
  obtain ⟨T0, Z, L, LZ, Y⟩ := ThrowableC.of_atoms (args := ka k) howns hfin hpl atoms
  obtain ⟨P1, Ps, hPl, L1, hL, hP1m, hlink1, hlink⟩ := Bundle.chain0 (args := ka k) hpl Y.init0 names Xn hXn hns (hch _ _ C.ws hnw)
  have hcls := cls_at C.f ht.2 ht.1
  obtain ⟨kC, hkC, hkind⟩ := hcls.2
  obtain ⟨cell, c1, c2, c33, c34, c55, c0, c6⟩ := (hR.1 a ha).2 (by omega) (by omega)
  obtain ⟨c3, c4⟩ := c34 h64
  have c5 := c55 h64
  rw [htag] at c2 c0 c6
  have hsel0 : selectMethod (ke k).platform (ks k).vm cell.cls T0.fill0 = .method T0.fill0 := by
    obtain ⟨c2', r2, m2, q1, q2, q3, q4, -⟩ := Cond.selects_spec (C.wd hs0)
    cases hcls.1.symm.trans q1
    have e1 : r2 = T0.fill0 := Option.some.inj (q2.symm.trans (State.methodFound?_of_named Y.fill0 (by decide)))
    have e2 : m2 = T0.fill0 := Option.some.inj (q3.symm.trans Y.fill0)
    rw [Launch.admits_selectMethod X.admits, c2, ← e1]; rw [q4, e2, e1]
  have hselF : selectMethod (ke k).platform (ks k).vm cell.cls T0.fill = .method T0.fill := by
    obtain ⟨c2', r2, m2, q1, q2, q3, q4, -⟩ := Cond.selects_spec (C.wd hsF)
    cases hcls.1.symm.trans q1
    have e1 : r2 = T0.fill := Option.some.inj (q2.symm.trans (State.methodFound?_of_named Y.fill (by decide)))
    have e2 : m2 = T0.fill := Option.some.inj (q3.symm.trans Y.fill)
    rw [Launch.admits_selectMethod X.admits, c2, ← e1]; rw [q4, e2, e1]
  -- the statics' cell
  obtain ⟨cs, kS, iS, fS, aS, cellS, s1, s2, s3, s4, s5, s6, s7, s8, s9⟩ := Cond.laysStatic_spec hL1
  obtain ⟨cs', kS', iS', fS', aS', cellS', s1', s2', s3', s4', s5', s6', s7', s8', s9'⟩ := Cond.laysStatic_spec hL2
  obtain ⟨u0, hu0⟩ := Cond.staticRefV s2 s3 s4 s5 s6 hL3
  obtain ⟨sen, hsen⟩ := Cond.staticRefV s2' s3' s4' s5' s6' hL4
  obtain ⟨kU, hU1, hU2⟩ := State.fieldFound?_setVm w1.alike s2
  obtain ⟨kV, hV1, hV2⟩ := State.fieldFound?_setVm w1.alike s2'
  have eU := Option.some.inj (Y.unassigned.symm.trans (show (ks k).fieldFound? _ _ _ = some (cs, kU, iS, fS) from hU1))
  have eV := Option.some.inj (Y.sentinel.symm.trans (show (ks k).fieldFound? _ _ _ = some (cs', kV, iS', fS') from hV1))
  have eU1 : T0.kT = kU := congrArg (fun z => z.2.1) eU
  have eU2 : T0.fUnassigned = fS := congrArg (fun z => z.2.2.2) eU
  have eV1 : T0.kT = kV := congrArg (fun z => z.2.1) eV
  have eV2 : T0.fSentinel = fS' := congrArg (fun z => z.2.2.2) eV
  have ea : T0.aS = aS := Option.some.inj (L.statics.symm.trans (by rw [eU1, hU2]; exact s4))
  have ea' : T0.aS = aS' := Option.some.inj (L.statics.symm.trans (by rw [eV1, hV2]; exact s4'))
  have ec : cellS' = cellS := by
    rw [← ea', ea] at s5'
    exact Option.some.inj (s5'.symm.trans s5)
  have hlt : T0.aS < (wH w).size := by rw [ea, ← w2]; exact (Array.getElem?_eq_some_iff.mp s5).1
  have hcellS : T.heap[T0.aS]? = some cellS := by rw [hR.2.2.2.1 _ hlt, ← w2, ea]; exact s5
  have hneS : T0.aS ≠ wR w a := Nat.ne_of_lt (Nat.lt_of_lt_of_le hlt (hR.2.2.1 a h64 ha))
  have hknS : cellS.vm ≠ .unknown := fun e => by rw [e] at s6; cases s6
  have hns : kC.instanceTypes.size = nsl t := by
    obtain ⟨c9, k9, hc9, hk9, -, -, -, hn9⟩ := Cond.instantiable_spec (C.wd (tag_inst t ht.1 ht.2).1)
    cases hcls.1.symm.trans hc9
    cases hkC.symm.trans hk9
    exact hn9
  have hsz : cell.slots.size = kC.instanceTypes.size := by rw [c0, hns]
  have tk : ∀ {fd : Field} {v : Value}, kC.instanceTypes[fd.slot]? = some fd.type → fits fd.type v = true → Takes (ks k) cell fd v := by
    intro fd v h1 h2
    have h3 := Takes.of_laid (s := ks k) hkC hkind h1 h2
    refine ⟨by rw [hsz]; exact (Array.getElem?_eq_some_iff.mp h1).1, ?_⟩
    rw [c2, c3]
    exact h3.2
  have tyC := (Cond.laysAt hcls.1 hkC Y.cause (C.wd hlC)).1
  have tyS := (Cond.laysAt hcls.1 hkC Y.stack (C.wd hlS)).1
  have tyP := (Cond.laysAt hcls.1 hkC Y.supp (C.wd hlP)).1
  have lC : T0.fCause.slot < cell.slots.size := by rw [hsz]; exact (Array.getElem?_eq_some_iff.mp tyC).1
  have lS : T0.fStack.slot < cell.slots.size := by rw [hsz]; exact (Array.getElem?_eq_some_iff.mp tyS).1
  have lP : T0.fSupp.slot < cell.slots.size := by rw [hsz]; exact (Array.getElem?_eq_some_iff.mp tyP).1
  -- no kept field is touched
  have keep : ∀ (j f : Nat), (fl t)[j]? = some f → f ≠ 0 → ∃ cf kf fi fd, (ks k).fieldFound? (fdecl f).1 (fdecl f).2.1 (fdecl f).2.2 = some (cf, kf, fi, fd) ∧ fd.slot = w.1.2 t j ∧ T0.fCause.slot ≠ w.1.2 t j ∧ T0.fStack.slot ≠ w.1.2 t j ∧ T0.fSupp.slot ≠ w.1.2 t j := by
    intro j f hj h0
    obtain ⟨qq, cf, kf, fi, fd, kC', hq, hlt, hT, hi, hsl, hst, hfc, hkC', hkind', hlay⟩ := fld (args := ka k) C.f hj h0 C.ws
    have hqn : qq.1 = cnm t := by
      have h1 := cnm_ok t ht.2 ht.1
      rw [hq] at h1
      exact Option.some.inj h1
    have hlays : (Cond.lays (cnm t) (fdecl f).1 (fdecl f).2.1 (fdecl f).2.2).before (ka k) (ks k) = true ∨ (Cond.laysFinal (cnm t) (fdecl f).1 (fdecl f).2.1 (fdecl f).2.2).before (ka k) (ks k) = true := by
      have := u_lays C.ws (hcl_in _ qq hq) hlt
      rw [hT, hqn] at this
      exact this
    have hx := List.all_eq_true.mp hex f (List.mem_of_getElem? hj)
    simp only [Bool.or_eq_true, beq_iff_eq, h0, false_or, Bool.and_eq_true, decide_eq_true_eq] at hx
    obtain ⟨⟨⟨x1, x2⟩, x3⟩, x4⟩ := hx
    obtain ⟨ty, hty⟩ := Option.isSome_iff_exists.mp x4
    have hn := (State.fieldFound?_type hi hty).1
    refine ⟨cf, kf, fi, fd, hi, hsl, ?_, ?_, ?_⟩
    · rw [← hsl]; exact u_apart (Or.inl (C.wd hlC)) hlays Y.cause hi (by rw [hn, Y.causeName]; exact Ne.symm x1)
    · rw [← hsl]; exact u_apart (Or.inl (C.wd hlS)) hlays Y.stack hi (by rw [hn, Y.stackName]; exact Ne.symm x2)
    · rw [← hsl]; exact u_apart (Or.inl (C.wd hlP)) hlays Y.supp hi (by rw [hn, Y.suppName]; exact Ne.symm x3)
  obtain ⟨ci198, i198, fB, hk198, hg198, ha198, hsB, -, hnB, htB, hffB⟩ := Cond.ownField (t := .object "java/lang/Object") Y.found L.cls (by decide +kernel) (C.wd q803) (C.wd q802) (ke k).platform hpl
  obtain ⟨jB, hjB⟩ := contains_at hfB
  obtain ⟨cfB, kfB, fiB, fdB, hiB, hslB, b1, b2, b3⟩ := keep jB 163 hjB (by decide)
  have eB : fdB = fB := congrArg (fun z => z.2.2.2) (Option.some.inj ((show (ks k).fieldFound? "java/lang/Throwable" "backtrace" "Ljava/lang/Object;" = some (cfB, kfB, fiB, fdB) from hiB).symm.trans hffB))
  have hvB : cell.slots[fB.slot]? = some .null := by
    rw [← eB, hslB, c6 jB 163 hjB (by decide)]
    show some (rfV w (mA st a 163)) = _
    rw [hnull]
    rfl
  have hb : T0.fCause.slot ≠ fB.slot ∧ T0.fStack.slot ≠ fB.slot ∧ T0.fSupp.slot ≠ fB.slot := by rw [← eB, hslB]; exact ⟨b1, b2, b3⟩
  have hskip : SkipFacts T0 (ke k).platform (ks k) (fun u => u) u0 ((preparedCellV T0.toThrowableT cell (wR w a) u0 sen).withEntry T.cur) :=
    ⟨{ ci198 := ci198, i198 := i198, fBack := fB }, ⟨hk198, hg198, ha198, hsB⟩, by
      simpa [preparedCellV, Cell.setSlot, Cell.withEntry, Array.getElem?_setIfInBounds, hb.1, hb.2.1, hb.2.2] using hvB, fun _ _ => rfl⟩
  obtain ⟨mk, methM, cM, kP, vm₁, hnamed, -, -, -, -, -, -, -, hW₁, st1⟩ := Steps.initColdArgs (e := ke k) X.here C.x X.warmed hpl C.o (t := ⟨Xn, "<init>", "()V"⟩) rfl (Bundle.fit_spec hXn).2 (C.wd q) (C.wd hin) (C.wd hcod) (f := F0 (km k) pc ls (.ref (wR w a) :: skV w stk)) rfl (argsL := []) (rest := skV w stk) (fun sig h => by
      have : sig = ⟨[], none⟩ := by
        have h' : parseMethodDescriptor "()V" = some ⟨[], none⟩ := by decide +kernel
        exact Option.some.inj (h.symm.trans h')
      rw [this]; rfl) rfl (by rw [C.b]; exact d)
  have hmk : mk = P1.m := Option.some.inj (hnamed.symm.trans hP1m)
  subst hmk
  have X₁ := X.noted hW₁
  have h3 : lev ≤ (kR k).frames := C.fr
  have h4 : 100 * lev ≤ (kR k).locals := C.lo
  have hsum : ((skV w stk).map fun v => v.category).sum ≤ 20 := by rw [rest_sum]; exact hr
  obtain ⟨vm₂, X₂, st2⟩ := X₁.ctorPlainOffV C.x (g := F0 (km k) pc ls (skV w stk)) rfl hl.1 T0 L Z LZ (P1 :: Ps)
    (fun P hP => by rcases List.mem_cons.mp hP with rfl | hP; exact L1; exact hL P hP) ⟨hlink1, hlink⟩ (u0 := u0) (sen := sen) (self := wR w a) (cell := cell) (cellS := cellS)
    c1 (fun z h => by rw [c3] at h; cases h) (fun h => by rw [c3] at h; cases h) c4 c5 hsel0 hselF hcellS hneS hknS (by rw [eU2]; exact hu0) (by rw [eV2, ← ec]; exact hsen)
    (tk tyC (by rw [Y.causeType]; rfl)) (tk tyS (by rw [Y.stackType]; exact fits_refV_array _ u0)) (tk tyP (by rw [Y.suppType]; exact fits_refV_object _ sen)) Y.objLocals hskip C.nt [] (by rw [C.b]; exact d)
    (by simp only [List.length_cons, hPl]; omega) (by simp only [List.length_cons, hPl]; show 2 * 0 + ((skV w stk).map fun v => v.category).sum + _ ≤ _; omega)
  have hlt' : wR w a < ((T.setVm vm₁).setVm vm₂).heap.size := (Array.getElem?_eq_some_iff.mp c1).1
  have hU := heapAt_setCell_self (s := (T.setVm vm₁).setVm vm₂) ((preparedCellV T0.toThrowableT cell (wR w a) u0 sen).setSlot T0.fStack.slot u0.v) hlt'
  have hR1 : Rel w st ((((T.setVm vm₁).setVm vm₂).setCell (wR w a) ((preparedCellV T0.toThrowableT cell (wR w a) u0 sen).setSlot T0.fStack.slot u0.v))).heap := by
    refine hR.put h64 ha (by simp [State.setCell, State.setVm]) (fun q hq => ?_) rfl ⟨fun h => by omega, fun _ _ => ?_⟩ (fun b hb ok => ok) (fun _ _ => rfl)
    · simp [State.setCell, State.setVm, Array.getElem?_setIfInBounds, Ne.symm hq]
    · rw [htag]
      refine ⟨_, hU, c2, c33, c34, c55, by rw [← c0]; simp [preparedCellV, Cell.setSlot], fun j f hj h0 => ?_⟩
      obtain ⟨-, -, -, -, -, -, n1, n2, n3⟩ := keep j f hj h0
      rw [← c6 j f hj h0]
      simp [preparedCellV, Cell.setSlot, Array.getElem?_setIfInBounds, n1, n2, n3]
  have hz : zA w st0 (ks k).heap (wR w a) := zA_in hg h64 (by omega)
  have hS1 : va_S (zA w st0 (ks k).heap) (ks k).heap ((((T.setVm vm₁).setVm vm₂).setCell (wR w a) ((preparedCellV T0.toThrowableT cell (wR w a) u0 sen).setSlot T0.fStack.slot u0.v))).heap (locs ++ [⟨wR w a, T0.fCause.slot⟩, ⟨wR w a, T0.fStack.slot⟩, ⟨wR w a, T0.fSupp.slot⟩, ⟨wR w a, T0.fStack.slot⟩]) := by
    refine ⟨by simpa [State.setCell, State.setVm] using hS.1, fun q hq hnA => ?_, fun l hl' => ?_⟩
    · rw [← hS.2.1 q hq hnA]
      have hqa : wR w a ≠ q := fun e => hnA (e ▸ hz)
      simp [State.setCell, State.setVm, Array.getElem?_setIfInBounds, hqa]
    · rcases List.mem_append.mp hl' with h1 | h1
      · exact hS.2.2 l h1
      · have hb' : l.base = wR w a := by
          simp only [List.mem_cons, List.not_mem_nil, or_false] at h1
          rcases h1 with rfl | rfl | rfl | rfl <;> rfl
        rw [hb']; exact hz
  obtain ⟨tt, hst, hQ⟩ := K _ _ hR1 hS1 _ rfl X₂
  exact ⟨tt, st1 _ (fun acts => by
    rw [doInvoke_state]
    exact st2 _ hst), hQ⟩
theorem r_exi {t : Nat} {r : Rf} {y : MethodName} {F : Mem → Option (β × Mem)} (d : decode cc pc = .ok (.invokespecial idx, 3)) (q : Cond.methodLink own idx y ∈ lw_all) (hy : (y = ⟨"java/lang/Exception", "<init>", "()V"⟩ ∧ t = 6) ∨ (y = ⟨"java/util/NoSuchElementException", "<init>", "()V"⟩ ∧ t = 21)) (hlev : 6 ≤ lev) (hr : (stk.map evc).sum ≤ 20) (h : (exi t st r).bind F = some fin) (K : ∀ st', exi t st r = some st' → F st' = some fin → G (cc, own, nm, lev, ret, mx) st0 tr fin (pc + 3) env stk st') : G (cc, own, nm, lev, ret, mx) st0 tr fin pc env (vr r :: stk) st := by
  cases r with
  | none => cases h
  | some a =>
    cases e : exi t st (some a) with
    | none => rw [e] at h; cases h
    | some st' =>
      rw [e] at h
      have K := K st' e h
      simp only [exi] at e
      split at e
      · rename_i ct
        cases e
        obtain ⟨h64, ha, htag, hnull⟩ := ct
        refine ⟨K.1, fun k w C hg H locs ls hR hS hl => ?_⟩
        have K2 : ∀ (H1 : Heap) (locs1 : List Loc), Rel w st H1 → va_S (zA w st0 (ks k).heap) (ks k).heap H1 locs1 → _ := fun H1 locs1 hR1 hS1 => K.2 k w C hg H1 locs1 ls hR1 hS1 hl
        rcases hy with ⟨rfl, rfl⟩ | ⟨rfl, rfl⟩
        · exact exi_core (t := 6) (names := []) C hg hR hS hl d q (by decide +kernel) (by simp) (by decide) q826 q827 (fun _ _ => ch_exc) q791 q792 q793 q795 q797 (by decide) (by decide +kernel) (by decide +kernel) h64 ha htag hnull hlev hr K2
        · exact exi_core (t := 21) (names := ["java/lang/RuntimeException", "java/lang/Exception"]) C hg hR hS hl d q (by decide +kernel) (by decide +kernel) (by decide) q1639 q1640 (fun _ _ => ch_nse) q1632 q815 q1633 q1634 q1635 (by decide) (by decide +kernel) (by decide +kernel) h64 ha htag hnull hlev hr K2
      · cases e
/-- one row more: a fresh cell, and its address into the outer one -/
def mrS (base : Nat) (ci : Cell) : Nat → Nat → State → State
  | 0, _, S => S
  | k + 1, i, S => mrS base ci k (i + 1) ((S.pushCell ci).setCell base (((S.heap[base]?).getD ci).setSlot i (.ref S.heap.size)))
theorem mrS_setTop (base : Nat) (ci : Cell) (f : JFrame) : ∀ (k i : Nat) (S : State), mrS base ci k i (S.setTop f) = (mrS base ci k i S).setTop f
  | 0, _, _ => rfl
  | k + 1, i, S => by
    unfold mrS
    rw [← mrS_setTop base ci f k (i + 1)]
    simp only [State.heap_setTop, State.pushCell_setTop, State.setCell_setTop]
def longs (c : ClassId) (m : Nat) : Cell := { cls := c, slots := Array.replicate m (.long 0), vm := .none }
section MultiWp
variable {E : CtlPost} {e : Env} {d : Bool} {acts : List Action} {s : State}
theorem wp_arr {c comp : ClassId} {k : Class} {ty : FieldType} {len : Nat} (hk : s.vm.classes[c]? = some k) (hkind : k.kind = .array comp ty) (hv : fits ty (defaultValue ty) = true) (hd : (defaultValue ty).isDefault = true) {x : Value} (hx : x = defaultValue ty)
    (h1 : ¬ len > e.platform.arrayLengthLimit) (h2 : ¬ len * componentBytes ty > e.platform.maxHeapBytes) (h3 : s.heap.size < e.platform.maxCells) (h4 : s.slotsUsed + len ≤ e.platform.maxSlots) {Q : Addr → Pre}
    (hq : Q s.heap.size d acts (s.pushCell { cls := c, slots := Array.replicate len x, vm := .none })) : wp (Jvm.newArray c len x) Q E e d acts s := by
  subst hx
  have f1 : ∀ i v, (Array.replicate len (defaultValue ty))[i]? = some v → s.fitsSlot c .none i v = true := by
    intro i v h
    rw [Array.getElem?_replicate] at h
    split at h
    · cases h
      simp [State.fitsSlot, State.slotType?, hk, hkind, hv]
    · cases h
  have f2 : allocActs (Array.replicate len (defaultValue ty)) s.heap.size acts = acts := by
    unfold allocActs
    rw [if_pos]
    rw [Array.all_replicate]
    split <;> simp [hd]
  simp only [Jvm.newArray, Jvm.arrayFits, wp_bind', W.ask, W.ite, h1, if_false, wp_pure', W.theClass, hk, hkind, h2, W.alloc, W.stop, Option.some.injEq, exists_eq_left', Array.size_replicate, f2]
  rw [if_neg (by omega)]
  exact ⟨h3, h4, f1, hq⟩
/-- the loop over the rows -/
def mInv (base n m : Nat) (cA comp : ClassId) (kA kc : Class) (e : Env) (U : State) (rest : List Nat) (S : State) : Prop :=
  ∃ i k, rest = List.range' i k ∧ i + k = n ∧ mrS base (longs comp m) k i S = U ∧ S.vm.classes[cA]? = some kA ∧ S.vm.classes[comp]? = some kc ∧ S.heap.size + k ≤ e.platform.maxCells ∧ S.slotsUsed + k * m ≤ e.platform.maxSlots ∧
    ∃ co : Cell, S.heap[base]? = some co ∧ co.cls = cA ∧ co.vm = .none ∧ co.slots.size = n
theorem wp_multi {cA comp cc : ClassId} {kA kc : Class} {n m : Int32} (hA : s.vm.classes[cA]? = some kA) (kA1 : kA.kind = .array comp (.array .long)) (hC : s.vm.classes[comp]? = some kc) (kc1 : kc.kind = .array cc .long) (hn : ¬ n < 0) (hm : ¬ m < 0)
    (l1 : ¬ n.toNatClampNeg > e.platform.arrayLengthLimit) (l2 : ¬ n.toNatClampNeg * 4 > e.platform.maxHeapBytes) (l3 : ¬ m.toNatClampNeg > e.platform.arrayLengthLimit) (l4 : ¬ m.toNatClampNeg * 8 > e.platform.maxHeapBytes)
    (r1 : s.heap.size + 1 + n.toNatClampNeg ≤ e.platform.maxCells) (r2 : s.slotsUsed + n.toNatClampNeg + n.toNatClampNeg * m.toNatClampNeg ≤ e.platform.maxSlots) {Q : Addr → Pre}
    (hq : ∀ d' acts', Q s.heap.size d' acts' (mrS s.heap.size (longs comp m.toNatClampNeg) n.toNatClampNeg 0 (s.pushCell { cls := cA, slots := Array.replicate n.toNatClampNeg .null, vm := .none }))) : wp (multianewarray.make cA [n, m]) Q E e d acts s := by
  have hno : ([m].find? (· < 0)) = none := by simp [hm]
  rw [multianewarray.make]
  simp only [wp_bind', W.ite, hn, if_false, wp_pure', W.theClass, hA, kA1, Option.some.injEq, exists_eq_left']
  refine wp_arr hA kA1 rfl rfl rfl l1 l2 (by omega) (by have := Nat.zero_le (n.toNatClampNeg * m.toNatClampNeg); omega) ?_
  simp only [hno]
  rw [ite_self, wp_bind', Std.Legacy.Range.forIn_eq_forIn_range']
  have hsz : ([:n.toNatClampNeg] : Std.Legacy.Range).size = n.toNatClampNeg := by simp [Std.Legacy.Range.size]
  rw [hsz]
  generalize hU : mrS s.heap.size (longs comp m.toNatClampNeg) n.toNatClampNeg 0 (s.pushCell { cls := cA, slots := Array.replicate n.toNatClampNeg .null, vm := .none }) = U at hq
  refine wp_forIn_inv (mInv s.heap.size n.toNatClampNeg m.toNatClampNeg cA comp kA kc e U) _ _ ⟨0, n.toNatClampNeg, rfl, Nat.zero_add _, hU, hA, hC, ?_, ?_, _, State.heap_pushCell_size _ _, rfl, rfl, Array.size_replicate ..⟩ ?_ ?_
  · simp only [State.pushCell, Array.size_push]; omega
  · simp [State.pushCell]; omega
  · rintro x rest S d' acts' Q' ⟨i, k, hr, hik, hu, a1, a2, a3, a4, co, b1, b2, b3, b4⟩ next
    cases k with
    | zero => cases hr
    | succ k =>
      rw [List.range'_succ] at hr
      obtain ⟨rfl, hr⟩ := List.cons.inj hr
      have hmul : (k + 1) * m.toNatClampNeg = k * m.toNatClampNeg + m.toNatClampNeg := Nat.succ_mul _ _
      have hb : s.heap.size < S.heap.size := (Array.getElem?_eq_some_iff.mp b1).1
      simp only [wp_bind']
      rw [multianewarray.make]
      simp only [wp_bind', W.ite, hm, if_false, wp_pure', W.theClass, a2, kc1, Option.some.injEq, exists_eq_left']
      refine wp_arr a2 kc1 rfl rfl rfl l3 l4 (by omega) (by omega) ?_
      simp only [wp_bind', W.writeLoc, wp_pure']
      refine ⟨co, by rw [State.heap_pushCell_of_lt (h := hb)]; exact b1, by rw [b3]; simp, by omega, ?_, next _ _ _ ⟨x + 1, k, hr, by omega, ?_, a1, a2, ?_, ?_, co.setSlot x (.ref S.heap.size), ?_, b2, b3, by simpa [Cell.setSlot] using b4⟩⟩
      · rw [b2, b3]
        simp [State.fitsSlot, State.slotType?, a1, kA1, fits]
      · rw [← hu, mrS, b1]
        rfl
      · simp [State.setCell]; omega
      · simp [State.setCell]; omega
      · exact State.heap_setCell_self (by rw [State.heap_pushCell_of_lt (h := hb)]; exact b1)
  · rintro S d' acts' ⟨i, k, hr, hik, hu, -⟩
    cases k with
    | succ k => cases hr
    | zero =>
      simp only [wp_pure']
      have : S = U := hu
      rw [this]
      exact hq _ _
end MultiWp
theorem rows_core {k : CT} {w : Wd} {f0 : Mem} {a n m : Nat} (C : Cx k w cc own nm lev ret mx) : ∀ (j i : Nat) (S : State) (st : Mem) (locs : List Loc) (cells slots : Nat), Go k w st0 f0 st → Stand (kp k) (kl k) (ke k) (kR k) (ks k) (km k) (ka k) (kb k) (kh k) (kc k) S locs cells slots → Rel w st S.heap → va_S (zA w st0 (ks k).heap) (ks k).heap S.heap locs →
    64 ≤ a → a < mNx st → mTag st a = 107 → mLen st a = n → i + j = n →
    ∃ locs1, Stand (kp k) (kl k) (ke k) (kR k) (ks k) (km k) (ka k) (kb k) (kh k) (kc k) (mrS (wR w a) (longs (wC w 103) m) j i S) locs1 (cells + j) (slots + j * m) ∧ Rel w (mkRows a m j i st) (mrS (wR w a) (longs (wC w 103) m) j i S).heap ∧ va_S (zA w st0 (ks k).heap) (ks k).heap (mrS (wR w a) (longs (wC w 103) m) j i S).heap locs1 := by
  intro j
  induction j with
  | zero => intro i S st locs cells slots hg X hR hS _ _ _ _ _; exact ⟨locs, by simpa [mrS] using X, hR, hS⟩
  | succ j ih =>
    intro i S st locs cells slots hg X hR hS h64 ha htag hlen hij
    have e0 : wR w (mNx st) = S.heap.size := by have := hR.2.2.2.2.1 0; simpa using this
    have z : (S.heap.push (longs (wC w 103) m)).size = S.heap.size + 1 := Array.size_push ..
    have o1 : ∀ q : Nat, q < S.heap.size → (S.heap.push (longs (wC w 103) m))[q]? = S.heap[q]? := fun q hq => by rw [Array.getElem?_push, if_neg (Nat.ne_of_lt hq)]
    have hc : okCell w (mNew st 103 m m) (S.heap.push (longs (wC w 103) m)) (mNx st) := by
      refine ⟨fun _ => ?_, fun _ h => ?_⟩
      · refine ok_arr hR.2.2.2.2.2.1 ?_
        rw [mNew_tag, mNew_len, e0, Array.getElem?_push_size, avv_new (by decide) (by decide)]
        unfold longs
        rw [arrV_new]
        rfl
      · rw [mNew_tag] at h; omega
    have hle : mLe st (mNew st 103 m m) := ⟨Nat.le_succ _, Nat.le_add_right _ _, fun x hx => if_neg (Nat.ne_of_lt hx)⟩
    have hR1 : Rel w (mNew st 103 m m) (S.pushCell (longs (wC w 103) m)).heap := hR.push z o1 rfl hc (fun b hb ok => mNew_old hb ok) (mNew_53 hR)
    have hS1 : va_S (zA w st0 (ks k).heap) (ks k).heap (S.pushCell (longs (wC w 103) m)).heap locs := S_push hS z o1
    have X1 := X.pushed (longs (wC w 103) m)
    have hne : a ≠ mNx st := by omega
    have t1 : mTag (mNew st 103 m m) a = 107 := (if_neg hne).trans htag
    have l1 : mLen (mNew st 103 m m) a = n := (if_neg hne).trans hlen
    have hA := arr_at hR h64 ha (by omega)
    have hA1 : (S.pushCell (longs (wC w 103) m)).heap[wR w a]? = S.heap[wR w a]? := o1 _ (Array.getElem?_eq_some_iff.mp hA).1
    have ha1 : a < mNx (mNew st 103 m m) := Nat.lt_succ_of_lt ha
    have hA2 := arr_at hR1 h64 ha1 (by omega)
    have eco : (S.heap[wR w a]?).getD (longs (wC w 103) m) = arrV (wC w (mTag (mNew st 103 m m) a)) (mLen (mNew st 103 m m) a) (avv w (mNew st 103 m m) (mTag (mNew st 103 m m) a) a) := by rw [← hA1, hA2]; rfl
    have X2 := X1.stored hA2 i (.ref S.heap.size)
    have hl : wR w a < (S.pushCell (longs (wC w 103) m)).heap.size := (Array.getElem?_eq_some_iff.mp hA2).1
    have P := arr_put (st' := mSA (mNew st 103 m m) a i (some (mNx st))) (H1 := ((S.pushCell (longs (wC w 103) m)).setCell (wR w a) ((arrV (wC w (mTag (mNew st 103 m m) a)) (mLen (mNew st 103 m m) a) (avv w (mNew st 103 m m) (mTag (mNew st 103 m m) a) a)).setSlot i (.ref S.heap.size))).heap) hR1 hS1 (go_le hg hle) (a := a) (j := i) (v := .ref S.heap.size) h64 ha1 (by omega)
      (State.heap_setCell_self hA2) (by simp [State.setCell]) (fun q hq => State.heap_setCell_other (Ne.symm hq)) rfl (fun _ => rfl) (fun _ => rfl)
      (by rw [t1]; show rfV w (up2 _ a i (some (mNx st)) a i) = _; rw [← e0]; simp [up2, up1, rfV])
      (fun g hg' => by rw [t1]; show rfV w (up2 _ a i (some (mNx st)) a g) = rfV w (mA (mNew st 103 m m) a g); congr 1; simp [up2, up1, hg', mA])
      (fun b g hb => ⟨rfl, rfl, by show up2 _ a i (some (mNx st)) b g = _; simp [up2, up1, hb, mA]⟩)
    have hsz : (longs (wC w 103) m).slots.size = m := by simp [longs]
    rw [hsz] at X2
    obtain ⟨locs1, Y1, Y2, Y3⟩ := ih (i + 1) _ (mSA (mNew st 103 m m) a i (some (mNx st))) _ (cells + 1) (slots + m) (go_le hg (show mLe st (mSA (mNew st 103 m m) a i (some (mNx st))) from hle)) X2 P.1 P.2 h64 ha1 t1 l1 (by omega)
    have es : slots + m + j * m = slots + (j + 1) * m := by rw [Nat.succ_mul]; omega
    have ec : cells + 1 + j = cells + (j + 1) := by omega
    rw [es, ec] at Y1
    unfold mrS mkRows
    rw [eco]
    exact ⟨locs1, Y1, Y2, Y3⟩
theorem mkRows_nx (a m : Nat) : ∀ (j i : Nat) (st : Mem), mNx (mkRows a m j i st) = mNx st + j ∧ mNs (mkRows a m j i st) = mNs st + j * m
  | 0, _, _ => ⟨rfl, by simp [mkRows]⟩
  | j + 1, i, st => by
    unfold mkRows
    obtain ⟨h1, h2⟩ := mkRows_nx a m j (i + 1) (mSA (mNew st 103 m m) a i (some (mNx st)))
    rw [h1, h2]
    refine ⟨show mNx st + 1 + j = _ by omega, ?_⟩
    show mNs st + m + j * m = _
    rw [Nat.succ_mul]; omega
theorem mkRows_tag (a m : Nat) : ∀ (j i : Nat) (st : Mem) (x : Nat), x < mNx st → mTag (mkRows a m j i st) x = mTag st x
  | 0, _, _, _, _ => rfl
  | j + 1, i, st, x, hx => by
    unfold mkRows
    exact (mkRows_tag a m j (i + 1) (mSA (mNew st 103 m m) a i (some (mNx st))) x (Nat.lt_succ_of_lt hx)).trans (if_neg (Nat.ne_of_lt hx))
/-- the class of the long arrays' array -/
theorem over_JJ {w : Wd} {s : State} (hf : SF w s) : ∃ (kA kc : Class) (cc : ClassId), s.vm.classes[wC w 107]? = some kA ∧ kA.kind = .array (wC w 103) (.array .long) ∧ s.vm.classes[wC w 103]? = some kc ∧ kc.kind = .array cc .long ∧ s.vm.findClass "[[J" = some (wC w 107) := by
  obtain ⟨s0, w1, w2, w3⟩ := hf.2.2.2.2.2.2.2.2.2
  have h := w3 _ (List.mem_cons_of_mem _ (List.mem_cons_of_mem _ (List.mem_cons_of_mem _ (List.mem_cons_of_mem _ List.mem_cons_self))))
  have f7 : s.vm.findClass "[[J" = some (wC w 107) := (hf.2.2.2.1 107 (by decide) (by decide)).2
  have f3 : s.vm.findClass "[J" = some (wC w 103) := (hf.2.2.2.1 103 (by decide) (by decide)).2
  have g7 : s0.vm.findClass "[[J" = some (wC w 107) := by rw [← w1.alike.findClass]; exact f7
  have g3 : s0.vm.findClass "[J" = some (wC w 103) := by rw [← w1.alike.findClass]; exact f3
  obtain ⟨c0, kc, cc, hc0, hkc, hkind⟩ := Cond.arrayClass_spec (hf.1 _ q227)
  have ec : c0 = wC w 103 := Option.some.inj (hc0.symm.trans f3)
  subst ec
  have en : (FieldType.array .long).toString = "[J" := by decide +kernel
  have en2 : "[" ++ (FieldType.array .long).toString = "[[J" := by decide +kernel
  simp only [Cond.before, Cond.holds, Cond.value, beq_iff_eq, en, g3, Option.bind_some, Option.bind_eq_some_iff, Option.map_eq_some_iff] at h
  obtain ⟨c, hi, k0, hk0, hb⟩ := h
  obtain ⟨hlt, hp, -⟩ := Array.findIdx?_eq_some_iff_getElem.mp hi
  rw [(Array.getElem?_eq_some_iff.mp hk0).2] at hp
  cases hkd : k0.kind with
  | array component ty =>
    rw [hkd] at hb hp
    simp only [Bool.and_eq_true, decide_eq_true_eq, beq_iff_eq] at hb hp
    obtain ⟨hb1, hb2⟩ := hb
    have ecc : c = wC w 107 := Option.some.inj (hb2.symm.trans g7)
    subst ecc
    obtain ⟨kA, hkA, heA⟩ := w1.alike.2.2 _ _ hk0
    exact ⟨kA, kc, cc, hkA, by rw [heA]; show k0.kind = _; rw [hkd, hb1, hp], hkc, hkind, f7⟩
  | _ => rw [hkd] at hb; simp at hb
theorem r_multi {n m : Int32} {F : Rf → Mem → Option (β × Mem)} (d : decode cc pc = .ok (.multianewarray idx 2, 4)) (q : Cond.classLink own idx "[[J" ∈ lw_all) (h : bd (nAA st n m) F = some fin) (K : ∀ x st', nAA st n m = some (x, st') → F x st' = some fin → G (cc, own, nm, lev, ret, mx) st0 tr fin (pc + 4) env (vr x :: stk) st') : G (cc, own, nm, lev, ret, mx) st0 tr fin pc env (vi m :: vi n :: stk) st := by
  obtain ⟨x, st', e, h⟩ := bd_at h
  have K := K x st' e h
  unfold nAA at e
  split at e
  · rename_i ct
    obtain ⟨c1, c2, c3, c4⟩ := ct
    cases e
    obtain ⟨n1, n2⟩ := mkRows_nx (mNx st) m.toNatClampNeg n.toNatClampNeg 0 (mNew st 107 n.toNatClampNeg n.toNatClampNeg)
    have n1' : mNx (mNew st 107 n.toNatClampNeg n.toNatClampNeg) = mNx st + 1 := rfl
    have n2' : mNs (mNew st 107 n.toNatClampNeg n.toNatClampNeg) = mNs st + n.toNatClampNeg := rfl
    have hle : mLe st (mkRows (mNx st) m.toNatClampNeg n.toNatClampNeg 0 (mNew st 107 n.toNatClampNeg n.toNatClampNeg)) := ⟨by rw [n1, n1']; omega, by rw [n2, n2']; omega, fun x hx => (mkRows_tag (mNx st) m.toNatClampNeg n.toNatClampNeg 0 (mNew st 107 n.toNatClampNeg n.toNatClampNeg) x (Nat.lt_succ_of_lt hx)).trans (if_neg (Nat.ne_of_lt hx))⟩
    refine ⟨hle.tr K.1, fun k w C hg H locs ls hR hS hl => ?_⟩
    have k2 := K.1.1
    have k3 := K.1.2.1
    rw [n1, n1'] at k2
    rw [n2, n2'] at k3
    have g1 := hg.1.1
    have g2 := hg.1.2.1
    have g3 := hg.2.1
    have g4 := hg.2.2.1
    have hn : ¬ n < 0 := fun h => by
      rw [Int32.lt_iff_toInt_lt] at h
      rw [Int32.le_iff_toInt_le] at c1
      omega
    have hm : ¬ m < 0 := fun h => by
      rw [Int32.lt_iff_toInt_lt] at h
      rw [Int32.le_iff_toInt_le] at c3
      omega
    intro T hT X
    subst hT
    have hpl : (ke k).platform.magicAccessors = ({} : Platform).magicAccessors := by rw [X.admits.platform]
    obtain ⟨kA, kc', cc', hkA, hkA1, hkC, hkC1, hfA⟩ := over_JJ C.f
    obtain ⟨c0, hfc0, hcl⟩ := Cond.classLink_spec C.o (C.wd q) (ke k).platform hpl
    cases hfA.symm.trans hfc0
    obtain ⟨hg₁, hwarm₁, hready₁⟩ := State.classEntry (e := ke k) X.warmed hcl
    generalize T.vm.noted (km k).cls idx (.cls (wC w 107)) = vm₁ at hg₁ hwarm₁ hready₁
    have hal : (ks k).vm.Alike vm₁ := hwarm₁.alike
    obtain ⟨kA₁, hkA₁, heA⟩ := hal.2.2 _ _ hkA
    obtain ⟨kC₁, hkC₁, heC⟩ := hal.2.2 _ _ hkC
    have hA2 : kA₁.kind = .array (wC w 103) (.array .long) := by rw [heA]; exact hkA1
    have hC2 : kC₁.kind = .array cc' .long := by rw [heC]; exact hkC1
    have X₁ := X.noted hwarm₁
    obtain ⟨hr1, hr2⟩ := X.roomAbove (a := 1 + n.toNatClampNeg) (b := n.toNatClampNeg + n.toNatClampNeg * m.toNatClampNeg) (by omega) (by omega)
    -- the world behind
    have e0 : wR w (mNx st) = T.heap.size := by have := hR.2.2.2.2.1 0; simpa using this
    have z : (T.heap.push { cls := wC w 107, slots := Array.replicate n.toNatClampNeg .null, vm := .none }).size = T.heap.size + 1 := Array.size_push ..
    have o1 : ∀ q : Nat, q < T.heap.size → (T.heap.push { cls := wC w 107, slots := Array.replicate n.toNatClampNeg .null, vm := .none })[q]? = T.heap[q]? := fun q hq => by rw [Array.getElem?_push, if_neg (Nat.ne_of_lt hq)]
    have hc : okCell w (mNew st 107 n.toNatClampNeg n.toNatClampNeg) (T.heap.push { cls := wC w 107, slots := Array.replicate n.toNatClampNeg .null, vm := .none }) (mNx st) := by
      refine ⟨fun _ => ?_, fun _ h => ?_⟩
      · refine ok_arr hR.2.2.2.2.2.1 ?_
        rw [mNew_tag, mNew_len, e0, Array.getElem?_push_size, avv_new (by decide) (by decide), arrV_new]
        rfl
      · rw [mNew_tag] at h; omega
    have hR1 : Rel w (mNew st 107 n.toNatClampNeg n.toNatClampNeg) ((T.setVm vm₁).pushCell { cls := wC w 107, slots := Array.replicate n.toNatClampNeg .null, vm := .none }).heap := hR.push z o1 rfl hc (fun b hb ok => mNew_old hb ok) (mNew_53 hR)
    have hS1 : va_S (zA w st0 (ks k).heap) (ks k).heap ((T.setVm vm₁).pushCell { cls := wC w 107, slots := Array.replicate n.toNatClampNeg .null, vm := .none }).heap locs := S_push hS z o1
    have X2 := X₁.pushed { cls := wC w 107, slots := Array.replicate n.toNatClampNeg .null, vm := .none }
    have h64 := hR.2.2.2.2.2.1
    obtain ⟨locs1, X3, hR3, hS3⟩ := rows_core (a := mNx st) (n := n.toNatClampNeg) (m := m.toNatClampNeg) C n.toNatClampNeg 0 _ (mNew st 107 n.toNatClampNeg n.toNatClampNeg) locs _ _ (go_le hg ⟨Nat.le_succ _, Nat.le_add_right _ _, fun x hx => if_neg (Nat.ne_of_lt hx)⟩) X2 hR1 hS1 h64 (Nat.lt_succ_self _) mNew_tag mNew_len (Nat.zero_add _)
    have esz : (Array.replicate n.toNatClampNeg Value.null).size = n.toNatClampNeg := Array.size_replicate ..
    have hfinal := K.2 k w C (go_le hg hle) _ locs1 ls hR3 hS3 hl _ rfl (by
      rw [n1, n2, n1', n2', show mNx st + 1 + n.toNatClampNeg - mNx st0 = mNx st - mNx st0 + 1 + n.toNatClampNeg by omega, show mNs st + n.toNatClampNeg + n.toNatClampNeg * m.toNatClampNeg - mNs st0 = mNs st - mNs st0 + n.toNatClampNeg + n.toNatClampNeg * m.toNatClampNeg by omega]
      simpa only [esz] using X3)
    obtain ⟨t, hst, hQ⟩ := hfinal
    refine ⟨t, ?_, hQ⟩
    have l1 : ¬ n.toNatClampNeg > (ke k).platform.arrayLengthLimit := by rw [Launch.admits_arrayLengthLimit X.admits]; omega
    have l2 : ¬ n.toNatClampNeg * 4 > (ke k).platform.maxHeapBytes := by rw [Launch.admits_maxHeapBytes X.admits]; omega
    have l3 : ¬ m.toNatClampNeg > (ke k).platform.arrayLengthLimit := by rw [Launch.admits_arrayLengthLimit X.admits]; omega
    have l4 : ¬ m.toNatClampNeg * 8 > (ke k).platform.maxHeapBytes := by rw [Launch.admits_maxHeapBytes X.admits]; omega
    have hdg : decode (kc k).code (F0 (km k) pc ls (skV w (vi m :: vi n :: stk))).pc = .ok (.multianewarray idx 2, 4) := by rw [C.b]; exact d
    have hexec := C.x
    generalize hG : F0 (km k) pc ls (skV w (vi m :: vi n :: stk)) = g at hdg ⊢
    have hgm : g.method = km k := by rw [← hG]
    have hgs : g.stack = .int m :: .int n :: skV w stk := by rw [← hG]; rfl
    have hgf : ({ g with pc := g.pc + 4, stack := .ref T.heap.size :: skV w stk } : JFrame) = F0 (km k) (pc + 4) ls (skV w (vr (some (mNx st)) :: stk)) := by
      rw [← hG]
      show F0 (km k) (pc + 4) ls (.ref T.heap.size :: skV w stk) = F0 (km k) (pc + 4) ls (.ref (wR w (mNx st)) :: skV w stk)
      rw [e0]
    rw [← hgm] at hg₁
    rw [← hgf, e0] at hst
    have Xh := X.here
    rw [← hgm] at Xh
    jvm_step Xh [hexec, hdg]
    simp only [multianewarray.sem, wp_bind', W.resolveClassAt_links (State.method?_setTop g Xh.top) hg₁]
    rw [W.popN, if_neg (by decide)]
    refine ⟨g, State.topJava?_setTop' (s := T.setVm vm₁) g Xh.top, [.int n, .int m], skV w stk, rfl, hgs, ?_⟩
    simp only [List.mapM_cons, List.mapM_nil, wp_bind', wp_pure']
    refine wp_multi (kA := kA₁) (kc := kC₁) (comp := wC w 103) (cc := cc') hkA₁ hA2 hkC₁ hC2 hn hm l1 l2 l3 l4 (by show T.heap.size + 1 + _ ≤ _; omega) (by show T.slotsUsed + _ + _ ≤ _; omega) (fun d' acts' => ?_)
    have eS : ((T.setTop g).setVm vm₁).setTop { g with stack := skV w stk } = (T.setVm vm₁).setTop { g with stack := skV w stk } := by
      show ((T.setVm vm₁).setTop g).setTop _ = _
      rw [State.setTop_setTop]
    rw [eS, State.pushCell_setTop, mrS_setTop]
    have Xt := X3.here.top
    rw [show wR w (mNx st) = (T.setVm vm₁).heap.size from e0] at Xt
    simp only [wp_bind', W.mark, W.pushRef, State.topJava?_setTop' _ Xt, Option.some.injEq, exists_eq_left', State.setTop_setTop, State.heap_setTop]
    intro acts
    simp [jvm, Xt]
    exact hst
  · cases e
theorem r_mmaxI {x y : Int32} (d : decode cc pc = .ok (.invokestatic idx, 3)) (q : Cond.methodLink own idx Lib.Math.max.name ∈ lw_all) (hlev : 2 ≤ lev) (hr : (stk.map evc).sum ≤ 20) (K : G (cc, own, nm, lev, ret, mx) st0 tr fin (pc + 3) env (vi (mmaxI x y) :: stk) st) : G (cc, own, nm, lev, ret, mx) st0 tr fin pc env (vi y :: vi x :: stk) st := by
  refine ⟨K.1, fun k w C hg H locs ls hR hS hl => ?_⟩
  have h3 : lev ≤ (kR k).frames := C.fr
  have h4 : 100 * lev ≤ (kR k).locals := C.lo
  have hsum : ((skV w stk).map fun v => v.category).sum ≤ 20 := by rw [rest_sum]; exact hr
  have k1 := K.1.1
  have k2 := K.1.2.1
  have g1 := hg.2.1
  have g2 := hg.2.2.1
  exact va_mmax C.x C.b hl.1.symm C.o (C.wd q) (C.wd q535) (C.wd q97) (C.wd q536) (by omega) (by show ((skV w stk).map fun v => v.category).sum + 13 ≤ _; omega) (by omega) (by omega) d (K.2 k w C hg H locs ls hR hS hl)
theorem r_mminI {x y : Int32} (d : decode cc pc = .ok (.invokestatic idx, 3)) (q : Cond.methodLink own idx Lib.Math.min.name ∈ lw_all) (hlev : 2 ≤ lev) (hr : (stk.map evc).sum ≤ 20) (K : G (cc, own, nm, lev, ret, mx) st0 tr fin (pc + 3) env (vi (mminI x y) :: stk) st) : G (cc, own, nm, lev, ret, mx) st0 tr fin pc env (vi y :: vi x :: stk) st := by
  refine ⟨K.1, fun k w C hg H locs ls hR hS hl => ?_⟩
  have h3 : lev ≤ (kR k).frames := C.fr
  have h4 : 100 * lev ≤ (kR k).locals := C.lo
  have hsum : ((skV w stk).map fun v => v.category).sum ≤ 20 := by rw [rest_sum]; exact hr
  have k1 := K.1.1
  have k2 := K.1.2.1
  have g1 := hg.2.1
  have g2 := hg.2.2.1
  exact va_mmin C.x C.b hl.1.symm C.o (C.wd q) (C.wd q538) (C.wd q97) (C.wd q539) (by omega) (by show ((skV w stk).map fun v => v.category).sum + 13 ≤ _; omega) (by omega) (by omega) d (K.2 k w C hg H locs ls hR hS hl)
theorem r_mabsL {x : Int64} (d : decode cc pc = .ok (.invokestatic idx, 3)) (q : Cond.methodLink own idx Lib.MathLoose.abs_long.x ∈ lw_all) (hlev : 2 ≤ lev) (hr : (stk.map evc).sum ≤ 20) (K : G (cc, own, nm, lev, ret, mx) st0 tr fin (pc + 3) env (vj (mabsL x) :: stk) st) : G (cc, own, nm, lev, ret, mx) st0 tr fin pc env (vj x :: stk) st := by
  refine ⟨K.1, fun k w C hg H locs ls hR hS hl => ?_⟩
  have h3 : lev ≤ (kR k).frames := C.fr
  have h4 : 100 * lev ≤ (kR k).locals := C.lo
  have hsum : ((skV w stk).map fun v => v.category).sum ≤ 20 := by rw [rest_sum]; exact hr
  have k1 := K.1.1
  have k2 := K.1.2.1
  have g1 := hg.2.1
  have g2 := hg.2.2.1
  exact va_mabs_long C.x C.b hl.1.symm C.o (C.wd q) (C.wd q1670) (C.wd q97) (C.wd q1671) (by omega) (by show ((skV w stk).map fun v => v.category).sum + 13 ≤ _; omega) (by omega) (by omega) d (K.2 k w C hg H locs ls hR hS hl)
end Rest
