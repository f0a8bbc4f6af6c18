/-! ===== the heap as the memory has it ===== -/
abbrev Wd : Type := va_G × (Nat → ClassId) × Heap × (Nat → Nat)
def wC (w : Wd) (t : Nat) : ClassId := w.2.1 t
def wH (w : Wd) : Heap := w.2.2.1
def wR (w : Wd) (a : Nat) : Nat := w.2.2.2 a
def rfV (w : Wd) (r : Rf) : Value := match r with
  | none => .null
  | some a => .ref (wR w a)
def evV (w : Wd) (v : Ev) : Value := match v with
  | .inl x => .int x
  | .inr (.inl x) => .long x
  | .inr (.inr r) => rfV w r
theorem rfV_cat (w : Wd) (r : Rf) : (rfV w r).category = 1 := by cases r <;> rfl
theorem evV_cat (w : Wd) (v : Ev) : (evV w v).category = evc v := by
  rcases v with x | x | r
  · rfl
  · rfl
  · exact rfV_cat w r
def skV (w : Wd) (l : List Ev) : List Value := l.map (evV w)
def enV (w : Wd) (l : List (Nat × Ev)) : List (Nat × Value) := l.map (fun q => (q.1, evV w q.2))
/-- a field's value; an array's element -/
def fv (w : Wd) (st : Mem) (a f : Nat) : Value := if fty f = 1 then .long (mJ st a f) else if fty f = 2 then rfV w (mA st a f) else .int (mI st a f)
def avv (w : Wd) (st : Mem) (t a j : Nat) : Value := if t = 103 then .long (mJ st a j) else if 104 ≤ t then rfV w (mA st a j) else .int (mI st a j)
def ety (t : Nat) : FieldType := if t = 100 then .byte else if t = 101 then .boolean else if t = 102 then .int else if t = 103 then .long else if t = 104 then .object "java/lang/Object" else if t = 105 then .object "HouseClaps$Cond" else if t = 106 then .object "HouseClaps$House" else .array .long
/-- the script at 54 is of a class of its own -/
def kcl (a t : Nat) : Nat := if a = 54 then 108 else t
def okCell (w : Wd) (st : Mem) (H : Heap) (a : Nat) : Prop :=
  (100 ≤ mTag st a → ∃ cell : Cell, H[wR w a]? = some cell ∧ cell.cls = wC w (kcl a (mTag st a)) ∧ cell.slots = (arrV (wC w (mTag st a)) (mLen st a) (avv w st (mTag st a) a)).slots ∧ (cell.vm ≠ .unknown ∧ cell.vm.isStatics = false) ∧ (64 ≤ a → cell = arrV (wC w (mTag st a)) (mLen st a) (avv w st (mTag st a) a))) ∧
  (0 < mTag st a → mTag st a < 100 → ∃ cell : Cell, H[wR w a]? = some cell ∧ cell.cls = w.1.1 (mTag st a) ∧ (cell.vm ≠ .unknown ∧ cell.vm.isStatics = false) ∧ (64 ≤ a → cell.vm = .none ∧ cell.monitor.owner = none) ∧ (64 ≤ a → cell.monitor.count = 0) ∧ cell.slots.size = nsl (mTag st a) ∧
    ∀ (k f : Nat), (fl (mTag st a))[k]? = some f → f ≠ 0 → cell.slots[w.1.2 (mTag st a) k]? = some (fv w st a f))
def Rel (w : Wd) (st : Mem) (H : Heap) : Prop :=
  (∀ a, a < mNx st → okCell w st H a) ∧ (∀ a b, 64 ≤ a → a < mNx st → b < mNx st → b ≠ 53 → wR w a = wR w b → a = b) ∧ (∀ a, 64 ≤ a → a < mNx st → (wH w).size ≤ wR w a) ∧
  (∀ q : Nat, q < (wH w).size → H[q]? = (wH w)[q]?) ∧ (∀ k, wR w (mNx st + k) = H.size + k) ∧ 64 ≤ mNx st ∧ (wH w).size ≤ H.size ∧ (∀ b, b < mNx st → b ≠ 53 → wR w b < H.size) ∧ mTag st 53 = 0 ∧ (mTag st 54 = 0 ∨ mTag st 54 = 102)
/-- the words that ride in no list of the kit's -/
def nestW (c : Cond) : Bool := match c with
  | .fieldLinkNest .. => true
  | .methodLinkNest .. => true
  | .castable .. => true
  | .declares .. => true
  | .arrayOver (.object _) => true
  | _ => false
/-- 'selects' of private methods on objects of a subclass: shown at the law's start -/
def lw_ex : List Cond := [.selects "HouseClaps$HouseReader" ⟨"HouseClaps$Reader", "byteAt", "(I)I"⟩ ⟨"HouseClaps$Reader", "byteAt", "(I)I"⟩, .selects "HouseClaps$CueReader" ⟨"HouseClaps$Reader", "byteAt", "(I)I"⟩ ⟨"HouseClaps$Reader", "byteAt", "(I)I"⟩, .selects "java/lang/StringBuilder" ⟨"java/lang/AbstractStringBuilder", "ensureCapacityInternal", "(I)V"⟩ ⟨"java/lang/AbstractStringBuilder", "ensureCapacityInternal", "(I)V"⟩]
/-- the statics that an exception's constructor reads -/
def exL : List Cond := [.laysStatic "java/lang/Throwable" "UNASSIGNED_STACK" "[Ljava/lang/StackTraceElement;", .laysStatic "java/lang/Throwable" "SUPPRESSED_SENTINEL" "Ljava/util/List;", .isRef (.static "java/lang/Throwable" "UNASSIGNED_STACK" "[Ljava/lang/StackTraceElement;"), .isRef (.static "java/lang/Throwable" "SUPPRESSED_SENTINEL" "Ljava/util/List;"), .arrayOver (.array .long)]
def ST (w : Wd) (s : State) : Prop := ∃ s0 : State, s0.WarmedH s.vm ∧ s0.heap = wH w ∧ ∀ c ∈ exL, c.before #[] s0 = true
/-- what holds of the tables all through a run -/
def SF (w : Wd) (s : State) : Prop :=
  (∀ c ∈ lw_all, c.before #[] s = true) ∧ (∀ c ∈ lw_tbl, nestW c = true → c.before #[] s = true) ∧ va_K w.1 hcl [] s ∧
  (∀ t, 100 ≤ t → t < 108 → ArrOfT s (wC w t) (ety t) ∧ va_RA s (wC w t) (ety t)) ∧ (∀ c ∈ lw_ex, c.before #[] s = true) ∧
  (∀ (i : Nat) (q : String × Nat × String), strL[i]? = some q → vk_R q.1 q.2.1 q.2.2 (wR w (2 * i)) s) ∧
  va_Z "java/lang/String" "COMPACT_STRINGS" "Z" (.int 1) (fun q => (wH w).size ≤ q) s (wH w) ∧
  (va_Z "java/util/ArrayList" "DEFAULTCAPACITY_EMPTY_ELEMENTDATA" "[Ljava/lang/Object;" (.ref (wR w 52)) (fun q => (wH w).size ≤ q) s (wH w) ∧
    (∃ r : Rf, va_Z "jdk/internal/util/Preconditions" "SIOOBE_FORMATTER" "Ljava/util/function/BiFunction;" (rfV w r) (fun q => (wH w).size ≤ q) s (wH w)) ∧ ArrOfT s (wC w 108) .int) ∧ va_Mi "[Ljava/lang/Object;" (wR w 53) s ∧ ST w s
abbrev CT : Type := Program × Launch × Env × Room × State × MethodId × Array Value × List Frame × Method × Code
abbrev kp (k : CT) : Program := k.1
abbrev kl (k : CT) : Launch := k.2.1
abbrev ke (k : CT) : Env := k.2.2.1
abbrev kR (k : CT) : Room := k.2.2.2.1
abbrev ks (k : CT) : State := k.2.2.2.2.1
abbrev km (k : CT) : MethodId := k.2.2.2.2.2.1
abbrev ka (k : CT) : Array Value := k.2.2.2.2.2.2.1
abbrev kb (k : CT) : List Frame := k.2.2.2.2.2.2.2.1
abbrev kh (k : CT) : Method := k.2.2.2.2.2.2.2.2.1
abbrev kc (k : CT) : Code := k.2.2.2.2.2.2.2.2.2
abbrev WW (k : CT) (H : Heap) (locs : List Loc) (cells slots : Nat) (Q : State → Prop) (g : JFrame) : Prop := W (kp k) (kl k) (ke k) (kR k) (ks k) (km k) (ka k) (kb k) (kh k) (kc k) H locs cells slots Q g
def zA (w : Wd) (st0 : Mem) (H0 : Heap) : Nat → Prop := fun q => (∃ a, 64 ≤ a ∧ a < mNx st0 ∧ mTag st0 a ≠ 0 ∧ wR w a = q) ∨ H0.size ≤ q
def mLe (a b : Mem) : Prop := mNx a ≤ mNx b ∧ mNs a ≤ mNs b ∧ ∀ x, x < mNx a → mTag b x = mTag a x
theorem mLe.rf (a : Mem) : mLe a a := ⟨Nat.le_refl _, Nat.le_refl _, fun _ _ => rfl⟩
theorem mLe.tr {a b c : Mem} (h : mLe a b) (h2 : mLe b c) : mLe a c := ⟨Nat.le_trans h.1 h2.1, Nat.le_trans h.2.1 h2.2.1, fun x hx => (h2.2.2 x (Nat.lt_of_lt_of_le hx h.1)).trans (h.2.2 x hx)⟩
abbrev Rs : Type := Option Ev ⊕ Nat
def rsO (w : Wd) (r : Rs) : Outcome := match r with
  | .inl v => .returned (v.map (evV w))
  | .inr a => .threw (wR w a)
def trI (x : Int32) : Rs := .inl (some (vi x))
def trJ (x : Int64) : Rs := .inl (some (vj x))
def trA (x : Rf) : Rs := .inl (some (vr x))
def trV (_ : Unit) : Rs := .inl none
def trIx (x : Int32 ⊕ Nat) : Rs := match x with
  | .inl v => trI v
  | .inr e => .inr e
def trAx (x : Rf ⊕ Nat) : Rs := match x with
  | .inl v => trA v
  | .inr e => .inr e
def trVx (x : Unit ⊕ Nat) : Rs := match x with
  | .inl v => trV v
  | .inr e => .inr e
/-- the end of a method: it has answered as fin says, the heap is as fin's memory has it, nothing else was written -/
def Zq (k : CT) (w : Wd) (st0 : Mem) {β : Type} (tr : β → Rs) (fin : β × Mem) : State → Prop := fun t =>
  ∃ o, t.status = .running ∧ Ended t (kb k) o ∧ (ks k).WarmedH t.vm ∧ (∃ L, (ks k).sameButNew ({ t with vm := (ks k).vm } : State) L (mNx fin.2 - mNx st0) (mNs fin.2 - mNs st0) ∧ ∀ q ∈ L, zA w st0 (ks k).heap q.base) ∧
    o = rsO w (tr fin.1) ∧ Rel w fin.2 t.heap ∧ va_F (zA w st0 (ks k).heap) (ks k) t
/-- the room is enough, and new cells come where the addresses say -/
def Go (k : CT) (w : Wd) (st0 f st : Mem) : Prop := mLe st0 st ∧ mNx f ≤ mNx st0 + (kR k).cells ∧ mNs f ≤ mNs st0 + (kR k).slots ∧ (wH w).size ≤ (ks k).heap.size ∧ ∀ j, wR w (mNx st0 + j) = (ks k).heap.size + j
/-- the handlers of the methods that have some -/
def hcHs (own nm : String) : List (Nat × Nat × Nat × Nat) := if own = "HouseClaps" ∧ nm = "house" then [(10, 57, 58, 123)] else if own = "HouseClaps" ∧ nm = "cues" then [(10, 40, 41, 123)] else if own = "HouseClapsLaw" ∧ nm ≠ "law" then [(0, 10, 13, 13)] else []
/-- what a method's walk stands on -/
def Cx (k : CT) (w : Wd) (cc : ByteArray) (own nm : String) (lev : Nat) (ret : Option FieldType) (mx : Nat) : Prop :=
  (kp k).tables.exec = Jvm.exec ∧ (kc k).code = cc ∧ (ks k).vm.findClass own = some (km k).cls ∧ SF w (ks k) ∧ (kh k).locks = false ∧ (kh k).sig.returnType = ret ∧ lev ≤ (kR k).frames ∧ 100 * lev ≤ (kR k).locals ∧ (kh k).name = nm ∧ (kc k).maxLocals = mx ∧ (kc k).exceptionTable.toList.map (fun h => (h.startPc, h.endPc, h.handlerPc, h.catchType)) = hcHs own nm ∧ (ke k).platform.stackTraces = false
abbrev MD : Type := ByteArray × String × String × Nat × Option FieldType × Nat
/-- THE WALK'S GOAL in a method (code, class, name, level, answer, locals) at pc, with locals env, operand stack stk, memory st: it comes to the end fin -/
def G (μ : MD) (st0 : Mem) {β : Type} (tr : β → Rs) (fin : β × Mem) (pc : Nat) (env : List (Nat × Ev)) (stk : List Ev) (st : Mem) : Prop :=
  mLe st fin.2 ∧ ∀ (k : CT) (w : Wd), Cx k w μ.1 μ.2.1 μ.2.2.1 μ.2.2.2.1 μ.2.2.2.2.1 μ.2.2.2.2.2 → Go k w st0 fin.2 st → ∀ (H : Heap) (locs : List Loc) (ls : Array Slot), Rel w st H → va_S (zA w st0 (ks k).heap) (ks k).heap H locs →
    lv_has ls (kc k).maxLocals (enV w env) → WW k H locs (mNx st - mNx st0) (mNs st - mNs st0) (Zq k w st0 tr fin) (F0 (km k) pc ls (skV w stk))
section Rows
variable {k : CT} {w : Wd} {cc : ByteArray} {own nm : String} {lev : Nat} {ret : Option FieldType} {mx : Nat} {st0 st : Mem} {β : Type} {tr : β → Rs} {fin : β × Mem} {pc : Nat} {env : List (Nat × Ev)} {stk : List Ev}
theorem Cx.x (C : Cx k w cc own nm lev ret mx) : (kp k).tables.exec = Jvm.exec := C.1
theorem Cx.b (C : Cx k w cc own nm lev ret mx) : (kc k).code = cc := C.2.1
theorem Cx.o (C : Cx k w cc own nm lev ret mx) : (ks k).vm.findClass own = some (km k).cls := C.2.2.1
theorem Cx.f (C : Cx k w cc own nm lev ret mx) : SF w (ks k) := C.2.2.2.1
theorem Cx.l (C : Cx k w cc own nm lev ret mx) : (kh k).locks = false := C.2.2.2.2.1
theorem Cx.r (C : Cx k w cc own nm lev ret mx) : (kh k).sig.returnType = ret := C.2.2.2.2.2.1
theorem Cx.fr (C : Cx k w cc own nm lev ret mx) : lev ≤ (kR k).frames := C.2.2.2.2.2.2.1
theorem Cx.lo (C : Cx k w cc own nm lev ret mx) : 100 * lev ≤ (kR k).locals := C.2.2.2.2.2.2.2.1
theorem Cx.n (C : Cx k w cc own nm lev ret mx) : (kh k).name = nm := C.2.2.2.2.2.2.2.2.1
theorem Cx.m (C : Cx k w cc own nm lev ret mx) : (kc k).maxLocals = mx := C.2.2.2.2.2.2.2.2.2.1
theorem Cx.t (C : Cx k w cc own nm lev ret mx) : (kc k).exceptionTable.toList.map (fun h => (h.startPc, h.endPc, h.handlerPc, h.catchType)) = hcHs own nm := C.2.2.2.2.2.2.2.2.2.2.1
theorem Cx.nt (C : Cx k w cc own nm lev ret mx) : (ke k).platform.stackTraces = false := C.2.2.2.2.2.2.2.2.2.2.2
/-- a word of the tables, in this method's state -/
theorem Cx.wd {c : Cond} (C : Cx k w cc own nm lev ret mx) (h : c ∈ lw_all) : c.before (ka k) (ks k) = true := word_at (State.WarmedH.refl (ks k)) (good_of_word (List.mem_filter.mp h).2) (C.f.1 c h)
theorem Cx.nw {c : Cond} (C : Cx k w cc own nm lev ret mx) (h : c ∈ lw_tbl) (hn : nestW c = true) : va_Nw c (ks k) := C.f.2.1 c h hn
/-- a row that touches neither heap nor locals -/
theorem G.lift {pc' : Nat} {stk' : List Ev} (hs : ∀ (k : CT) (w : Wd), Cx k w cc own nm lev ret mx → ∀ (H : Heap) (locs : List Loc) (ls : Array Slot) (cells slots : Nat) (Q : State → Prop), lv_has ls (kc k).maxLocals (enV w env) → WW k H locs cells slots Q (F0 (km k) pc' ls (skV w stk')) → WW k H locs cells slots Q (F0 (km k) pc ls (skV w stk)))
    (K : G (cc, own, nm, lev, ret, mx) st0 tr fin pc' env stk' st) : G (cc, own, nm, lev, ret, mx) st0 tr fin pc env stk st :=
  ⟨K.1, fun k w C h1 H locs ls hR hS hl => hs k w C H locs ls _ _ _ hl (K.2 k w C h1 H locs ls hR hS hl)⟩
theorem G.liftE {pc' : Nat} {env' : List (Nat × Ev)} {stk' : List Ev} (hs : ∀ (k : CT) (w : Wd), Cx k w cc own nm lev ret mx → ∀ (H : Heap) (locs : List Loc) (ls : Array Slot) (cells slots : Nat) (Q : State → Prop), lv_has ls (kc k).maxLocals (enV w env) → (∀ ls' : Array Slot, lv_has ls' (kc k).maxLocals (enV w env') → WW k H locs cells slots Q (F0 (km k) pc' ls' (skV w stk'))) → WW k H locs cells slots Q (F0 (km k) pc ls (skV w stk)))
    (K : G (cc, own, nm, lev, ret, mx) st0 tr fin pc' env' stk' st) : G (cc, own, nm, lev, ret, mx) st0 tr fin pc env stk st :=
  ⟨K.1, fun k w C h1 H locs ls hR hS hl => hs k w C H locs ls _ _ _ hl (fun ls' hl' => K.2 k w C h1 H locs ls' hR hS hl')⟩
def evPick (l : List (Nat × Ev)) (ks : List Nat) : List (Nat × Ev) := ks.filterMap (fun k => l[k]?)
theorem r_sub {env' : List (Nat × Ev)} (ks : List Nat) (h : evPick env ks = env') (K : G (cc, own, nm, lev, ret, mx) st0 tr fin pc env' stk st) : G (cc, own, nm, lev, ret, mx) st0 tr fin pc env stk st := by
  refine ⟨K.1, fun k w C h1 H locs ls hR hS hl => K.2 k w C h1 H locs ls hR hS ⟨hl.1, hl.2.1, fun q hq => hl.2.2 q ?_⟩⟩
  obtain ⟨q', hq', rfl⟩ := List.mem_map.mp hq
  rw [← h] at hq'
  obtain ⟨i, -, hi⟩ := List.mem_filterMap.mp hq'
  exact List.mem_map.mpr ⟨q', List.mem_of_getElem? hi, rfl⟩
theorem enV_at {i j : Nat} {v : Ev} {ls : Array Slot} {n : Nat} (hl : lv_has ls n (enV w env)) (h : env[j]? = some (i, v)) : ls[i]? = some (.val (evV w v)) :=
  hl.2.2 (i, evV w v) (List.mem_map.mpr ⟨(i, v), List.mem_of_getElem? h, rfl⟩)
/-- a name for a value -/
theorem r_nameI {e : Int32} {F : Int32 → Option (β × Mem)} (h : (some e).bind F = some fin) (K : ∀ x, x = e → F x = some fin → G (cc, own, nm, lev, ret, mx) st0 tr fin pc env (vi x :: stk) st) : G (cc, own, nm, lev, ret, mx) st0 tr fin pc env (vi e :: stk) st := K e rfl h
theorem r_nameJ {e : Int64} {F : Int64 → Option (β × Mem)} (h : (some e).bind F = some fin) (K : ∀ x, x = e → F x = some fin → G (cc, own, nm, lev, ret, mx) st0 tr fin pc env (vj x :: stk) st) : G (cc, own, nm, lev, ret, mx) st0 tr fin pc env (vj e :: stk) st := K e rfl h
end Rows
