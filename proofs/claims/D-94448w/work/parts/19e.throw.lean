/-! ===== exceptions ===== -/
section Throw
variable {cc : ByteArray} {own nm : String} {lev lev' : Nat} {ret : Option FieldType} {mx : Nat} {st0 st : Mem} {β : Type} {pc idx : Nat} {env : List (Nat × Ev)} {stk av rest : List Ev}
theorem noCover {k : CT} {w : Wd} (C : Cx k w cc own nm lev ret mx) (h : hcHs own nm = []) (pc : Nat) : ∀ x ∈ (kc k).exceptionTable.toList, covers x pc = false := by
  have ht := C.t
  rw [h] at ht
  have : (kc k).exceptionTable.toList = [] := by simpa using ht
  intro x hx
  rw [this] at hx
  cases hx
theorem thr_core {tr : β → Rs} {fin : β × Mem} {k : CT} {w : Wd} {H : Heap} {locs : List Loc} {T : State} {fs : List Frame} {a : Nat} (hS : va_S (zA w st0 (ks k).heap) (ks k).heap H locs) (hR : Rel w fin.2 H) (ho : tr fin.1 = .inr a) (hT : T.heap = H) (h1 : (T.setFrames fs).status = .running) (h2 : Ended (T.setFrames fs) (kb k) (.threw (wR w a))) (h3 : (ks k).WarmedH (T.setFrames fs).vm) (h4 : (ks k).sameButNew ({ T.setFrames fs with vm := (ks k).vm } : State) locs (mNx fin.2 - mNx st0) (mNs fin.2 - mNs st0)) : Zq k w st0 tr fin (T.setFrames fs) :=
  ⟨_, h1, h2, h3, ⟨locs, h4, hS.2.2⟩, by rw [ho]; rfl, by subst hT; exact hR, hS.F hT⟩
theorem r_athrow {δ : Type} {tr : δ ⊕ Nat → Rs} {fin : (δ ⊕ Nat) × Mem} {x : Rf} (d : decode cc pc = .ok (.athrow, 1)) (hno : hcHs own nm = []) (ht : ∀ a, tr (.inr a) = .inr a) (h : thr x st = some fin) : G (cc, own, nm, lev, ret, mx) st0 tr fin pc env (vr x :: stk) st := by
  cases x with
  | none => cases h
  | some a =>
    unfold thr at h
    simp only at h
    split at h
    · cases h
      refine ⟨mLe.rf _, fun k w C hg H locs ls hR hS hl T hT X => ?_⟩
      obtain ⟨s1, s2, s3, s4, s5⟩ := X.athrowLeaves C.x (g := F0 (km k) pc ls (.ref (wR w a) :: skV w stk)) rfl rfl rfl (noCover C hno pc) (a := wR w a) (rest := skV w stk) rfl (by rw [C.b]; exact d) C.l
      exact ⟨_, s1, thr_core hS hR (ht a) hT s2 s3 s4 s5⟩
    · cases h
theorem bt_at {α δ : Type} {u : Option ((α ⊕ Nat) × Mem)} {F : α → Mem → Option ((δ ⊕ Nat) × Mem)} {z : (δ ⊕ Nat) × Mem} (h : bt u F = some z) : (∃ v st', u = some (.inl v, st') ∧ F v st' = some z) ∨ ∃ a st', u = some (.inr a, st') ∧ z = (.inr a, st') := by
  rcases u with _ | ⟨v | a, st'⟩
  · cases h
  · exact Or.inl ⟨v, st', rfl, h⟩
  · exact Or.inr ⟨a, st', rfl, (Option.some.inj h).symm⟩
/-- a call that throws, in a method that catches nothing -/
theorem r_thrown {δ δ' : Type} {tr : δ ⊕ Nat → Rs} {tr' : δ' → Rs} {fx : Option (δ' × Mem)} {v : δ'} {st' : Mem} {a : Nat} (hc : ∀ fin', fx = some fin' → Inv (cc, own, nm, lev, ret, mx) pc lev' av rest st tr' fin') (hlv : lev' + 1 ≤ lev) (hr : (rest.map evc).sum ≤ 20) (hst : av.reverse ++ rest = stk) (e : fx = some (v, st')) (ht : tr' v = .inr a) (htr : ∀ a, tr (.inr a) = .inr a) (hno : hcHs own nm = []) : G (cc, own, nm, lev, ret, mx) st0 tr (.inr a, st') pc env stk st := by
  obtain ⟨y, L, hcon⟩ := hc _ e
  subst hst
  refine ⟨hcon.1, fun k w C hg H locs ls hR hS hl T hT X => ?_⟩
  obtain ⟨T', locs', X', hR', hS', hgo⟩ := call_core (fin := ((.inr a : δ ⊕ Nat), st')) L hcon hlv hr (mLe.rf _) C hg hR hS hl hT X
  rw [ht] at hgo
  obtain ⟨s1, s2, s3, s4, s5⟩ := X'.leaveThrown (wR w a) (g := F0 (km k) pc ls (skV w rest)) rfl rfl rfl (noCover C hno pc) C.l
  exact ⟨_, hgo _ s1, thr_core hS' hR' (htr a) rfl s2 s3 s4 s5⟩
theorem r_callIx {δ : Type} {tr : δ ⊕ Nat → Rs} {fin : (δ ⊕ Nat) × Mem} {fx : Option ((Int32 ⊕ Nat) × Mem)} {F : Int32 → Mem → Option ((δ ⊕ Nat) × Mem)} (hc : ∀ fin', fx = some fin' → Inv (cc, own, nm, lev, ret, mx) pc lev' av rest st trIx fin') (hlv : lev' + 1 ≤ lev) (hr : (rest.map evc).sum ≤ 20) (hst : av.reverse ++ rest = stk) (hno : hcHs own nm = []) (htr : ∀ a, tr (.inr a) = .inr a) (h : bt fx F = some fin) (K : ∀ x st', fx = some (.inl x, st') → F x st' = some fin → G (cc, own, nm, lev, ret, mx) st0 tr fin (pc + 3) env (vi x :: rest) st') : G (cc, own, nm, lev, ret, mx) st0 tr fin pc env stk st := by
  rcases bt_at h with ⟨v, st', e, h⟩ | ⟨a, st', e, rfl⟩
  · exact r_call hc hlv hr hst e rfl (K v st' e h)
  · exact r_thrown hc hlv hr hst e rfl htr hno
theorem r_callAx {δ : Type} {tr : δ ⊕ Nat → Rs} {fin : (δ ⊕ Nat) × Mem} {fx : Option ((Rf ⊕ Nat) × Mem)} {F : Rf → Mem → Option ((δ ⊕ Nat) × Mem)} (hc : ∀ fin', fx = some fin' → Inv (cc, own, nm, lev, ret, mx) pc lev' av rest st trAx fin') (hlv : lev' + 1 ≤ lev) (hr : (rest.map evc).sum ≤ 20) (hst : av.reverse ++ rest = stk) (hno : hcHs own nm = []) (htr : ∀ a, tr (.inr a) = .inr a) (h : bt fx F = some fin) (K : ∀ x st', fx = some (.inl x, st') → F x st' = some fin → G (cc, own, nm, lev, ret, mx) st0 tr fin (pc + 3) env (vr x :: rest) st') : G (cc, own, nm, lev, ret, mx) st0 tr fin pc env stk st := by
  rcases bt_at h with ⟨v, st', e, h⟩ | ⟨a, st', e, rfl⟩
  · exact r_call hc hlv hr hst e rfl (K v st' e h)
  · exact r_thrown hc hlv hr hst e rfl htr hno
theorem r_callVx {δ : Type} {tr : δ ⊕ Nat → Rs} {fin : (δ ⊕ Nat) × Mem} {fx : Option ((Unit ⊕ Nat) × Mem)} {F : Unit → Mem → Option ((δ ⊕ Nat) × Mem)} (hc : ∀ fin', fx = some fin' → Inv (cc, own, nm, lev, ret, mx) pc lev' av rest st trVx fin') (hlv : lev' + 1 ≤ lev) (hr : (rest.map evc).sum ≤ 20) (hst : av.reverse ++ rest = stk) (hno : hcHs own nm = []) (htr : ∀ a, tr (.inr a) = .inr a) (h : bt fx F = some fin) (K : ∀ x st', fx = some (.inl x, st') → F x st' = some fin → G (cc, own, nm, lev, ret, mx) st0 tr fin (pc + 3) env rest st') : G (cc, own, nm, lev, ret, mx) st0 tr fin pc env stk st := by
  rcases bt_at h with ⟨v, st', e, h⟩ | ⟨a, st', e, rfl⟩
  · exact r_call hc hlv hr hst e rfl (K v st' e h)
  · exact r_thrown hc hlv hr hst e rfl htr hno
end Throw
