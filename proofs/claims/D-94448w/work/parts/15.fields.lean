/-! ===== getfield, putfield ===== -/
theorem contains_at {l : List Nat} {f : Nat} (h : l.contains f = true) : ∃ j : Nat, l[j]? = some f := by
  have h1 : f ∈ l := by simpa using h
  obtain ⟨j, hj, e⟩ := List.getElem_of_mem h1
  exact ⟨j, by rw [List.getElem?_eq_getElem hj, e]⟩
section Fields
variable {k : CT} {w : Wd} {cc : ByteArray} {own nm : String} {lev : Nat} {ret : Option FieldType} {mx : Nat} {st0 st : Mem} {β : Type} {tr : β → Rs} {fin : β × Mem} {pc : Nat} {env : List (Nat × Ev)} {stk : List Ev}
variable {H : Heap} {locs : List Loc} {cells slots : Nat} {Q : State → Prop} {ls : Array Slot} {rest : List Value}
theorem Cx.ws (C : Cx k w cc own nm lev ret mx) : ∀ c ∈ lw_all, c.before (ka k) (ks k) = true := fun _ h => C.wd h
/-- how a field is reached: by a link of its own class or of a nest mate's -/
def FLk (k : CT) (own : String) (idx : Nat) (ref name desc : String) : Prop := (Cond.fieldLink own idx ref name desc).before (ka k) (ks k) = true ∨ ∃ host, (Cond.fieldLinkNest own idx ref name desc host).before (ka k) (ks k) = true
theorem FLk.l {idx : Nat} {ref name desc : String} (C : Cx k w cc own nm lev ret mx) (q : Cond.fieldLink own idx ref name desc ∈ lw_all) : FLk k own idx ref name desc := Or.inl (C.wd q)
theorem FLk.n {idx : Nat} {ref name desc host : String} (C : Cx k w cc own nm lev ret mx) (q : Cond.fieldLinkNest own idx ref name desc host ∈ lw_tbl) : FLk k own idx ref name desc := Or.inr ⟨host, va_Nw.use rfl (C.nw q rfl)⟩
theorem gfld (C : Cx k w cc own nm lev ret mx) (hR : Rel w st H) {a f : Nat} (ha : a < mNx st) (hc : (fl (mTag st a)).contains f = true) (hf : fty f < 9) {idx : Nat} {ref decl name desc : String} (hd : fdecl f = (decl, name, desc)) (hl : FLk k own idx ref name desc)
    (hs : ∀ x, (ks k).fieldFound? decl name desc = some x → (ks k).fieldFound? ref name desc = some x) (d : decode cc pc = .ok (.getfield idx, 3)) (K : WW k H locs cells slots Q (F0 (km k) (pc + 3) ls (fv w st a f :: rest))) : WW k H locs cells slots Q (F0 (km k) pc ls (.ref (wR w a) :: rest)) := by
  obtain ⟨j, hj⟩ := contains_at hc
  have h0 := fty_ne0 hf
  obtain ⟨q, cf, kf, fi, fd, kC, hq, hlt, hT, hi, hsl, hst, hfc, hkC, hkind, hlay⟩ := fld (args := ka k) C.f hj h0 C.ws
  have ht := fl_lt hj
  obtain ⟨cell, c1, c2, c3, c4, c5, c0, c6⟩ := (hR.1 a ha).2 (fl_pos hj) (by omega)
  rw [hd] at hi
  have e : cell.slots[fd.slot]? = some (fv w st a f) := by rw [hsl]; exact c6 j f hj h0
  rcases hl with hl | ⟨host, hl⟩
  · exact W.getf C.x C.b C.o hl (hs _ hi) hst c1 c3.1 e rfl rfl d K
  · exact va_Wgetf C.x C.b C.o hl (hs _ hi) hst c1 c3.1 e rfl rfl d K
theorem pfld (C : Cx k w cc own nm lev ret mx) {st' : Mem} {f0 : Mem} (hR : Rel w st H) (hS : va_S (zA w st0 (ks k).heap) (ks k).heap H locs) (hg : Go k w st0 f0 st) {a f : Nat} (h64 : 64 ≤ a) (ha : a < mNx st) (hc : (fl (mTag st a)).contains f = true) (hf : fty f < 9) {idx : Nat} {ref decl name desc : String} (hd : fdecl f = (decl, name, desc))
    (hl : FLk k own idx ref name desc) (hs : ∀ x, (ks k).fieldFound? decl name desc = some x → (ks k).fieldFound? ref name desc = some x) (hfin : ffin f = false ∨ (decl = own ∧ nm = "<init>" ∧ (Cond.fieldLink own idx ref name desc).before (ka k) (ks k) = true)) {ty : FieldType} {v : Value} (hp : parseFieldDescriptor (fdecl f).2.2 = some ty) (hn : narrow ty v = v ∧ fits ty v = true)
    (e1 : mNx st' = mNx st) (e2 : ∀ b, mTag st' b = mTag st b) (e3 : ∀ b, mLen st' b = mLen st b) (e4 : fv w st' a f = v) (e5 : ∀ g, g ≠ f → fv w st' a g = fv w st a g) (e6 : ∀ b j, b ≠ a → mI st' b j = mI st b j ∧ mJ st' b j = mJ st b j ∧ mA st' b j = mA st b j)
    (d : decode cc pc = .ok (.putfield idx, 3)) (K : ∀ (H1 : Heap) (locs1 : List Loc), Rel w st' H1 → va_S (zA w st0 (ks k).heap) (ks k).heap H1 locs1 → WW k H1 locs1 cells slots Q (F0 (km k) (pc + 3) ls rest)) : WW k H locs cells slots Q (F0 (km k) pc ls (v :: .ref (wR w a) :: rest)) := by
  obtain ⟨j, hj⟩ := contains_at hc
  have h0 := fty_ne0 hf
  obtain ⟨q, cf, kf, fi, fd, kC, hq, hlt, hT, hi, hsl, hst, hfc, hkC, hkind, hlay⟩ := fld (args := ka k) C.f hj h0 C.ws
  have ht := fl_lt hj
  obtain ⟨cell, c1, c2, c3, c4, c5, c0, c6⟩ := (hR.1 a ha).2 (fl_pos hj) (by omega)
  obtain ⟨ty0, hty⟩ := hcl_ty (mTag st a) q hq
  have hap := va_apart (own := own) C.ws (hcl_in _ q hq) ty0 hty (hcl_nm _ q hq) C.f.2.2.1 hq
  have hlt2 : fd.slot < cell.slots.size := by rw [hsl]; exact k2_hasslot (c6 j f hj h0)
  have hi' := hi
  rw [hd] at hi'
  have fin1 : ∀ H1 : Heap, H1[wR w a]? = some (cell.setSlot fd.slot v) → H1.size = H.size → (∀ q, q ≠ wR w a → H1[q]? = H[q]?) → WW k H1 (locs ++ [⟨wR w a, fd.slot⟩]) cells slots Q (F0 (km k) (pc + 3) ls rest) := by
    intro H1 g1 g2 g3
    refine K H1 _ (hR.put h64 ha g2 g3 e1 ⟨fun h => ?_, fun _ _ => ?_⟩ (fun b hb ok => ok.congr (e2 b) (e3 b) (fun j => (e6 b j hb).1) (fun j => (e6 b j hb).2.1) (fun j => (e6 b j hb).2.2)) (fun x _ => e2 x)) (hS.put g2 g3 (zA_in hg h64 (Nat.ne_of_gt (fl_pos hj))))
    · rw [e2] at h; omega
    · rw [e2]
      refine ⟨_, g1, c2, c3, c4, c5, by rw [← c0]; simp [Cell.setSlot], fun j' g hj' hg0 => ?_⟩
      by_cases hjj : j' = j
      · subst hjj
        have : g = f := Option.some.inj (hj'.symm.trans hj)
        subst this
        rw [← hsl, e4]
        exact Cell.slots_setSlot_self _ hlt2
      · obtain ⟨q', hq', hlt', hT'⟩ := tab_at hj' hg0
        cases hq.symm.trans hq'
        have hne : g ≠ f := by
          intro e
          subst e
          exact hcl_nm _ q hq j' hlt' j hlt hjj (by rw [hT, hT'])
        rw [e5 g hne, hsl, slot_ne _ _ (hap j j' hlt hlt' (fun e => hjj e.symm))]
        exact c6 j' g hj' hg0
  have hlays : (Cond.lays q.1 (fdecl f).1 (fdecl f).2.1 (fdecl f).2.2).before (ka k) (ks k) = true ∨ (Cond.laysFinal q.1 (fdecl f).1 (fdecl f).2.1 (fdecl f).2.2).before (ka k) (ks k) = true := by
    have := u_lays C.ws (hcl_in _ q hq) hlt
    rw [hT] at this
    exact this
  rcases hfin with hff | ⟨hown, hnm, hlk⟩
  · unfold u_lay at hlay
    rw [hT, if_neg (by rw [hff]; exact Bool.false_ne_true)] at hlay
    have h6 := u_store hfc hkC hkind hlay hi hp hn.1 hn.2
    rcases hl with hl | ⟨host, hl⟩
    · exact W.putK C.x C.b (f := fd) ⟨C.o, hl, ⟨_, _, _, hs _ hi'⟩, hst⟩ (by rw [c2]; exact h6) c1 (c4 h64).1 hlt2 rfl rfl d fin1
    · exact va_WputK C.x C.b C.o hl (hs _ hi') hst (by rw [c2]; exact h6) c1 (c4 h64).1 hlt2 rfl rfl d fin1
  · by_cases hff : ffin f = false
    · unfold u_lay at hlay
      rw [hT, if_neg (by rw [hff]; exact Bool.false_ne_true)] at hlay
      have h6 := u_store hfc hkC hkind hlay hi hp hn.1 hn.2
      exact W.putK C.x C.b (f := fd) ⟨C.o, hlk, ⟨_, _, _, hs _ hi'⟩, hst⟩ (by rw [c2]; exact h6) c1 (c4 h64).1 hlt2 rfl rfl d fin1
    · have hff : ffin f = true := by cases h : ffin f <;> simp_all
      unfold u_lay at hlay
      rw [hT, if_pos hff] at hlay
      have hcf : (km k).cls = cf := by
        obtain ⟨_, _, c', _, _, _, -, -, hf', -, -, -, hown2, -⟩ := Cond.laysFinal_spec hlay
        have e1 : c' = cf := by have := hi.symm.trans hf'; simp at this; exact this.1.symm
        rw [hd] at hown2
        rw [show ((decl, name, desc) : String × String × String).1 = own from hown] at hown2
        rw [← e1]; exact Option.some.inj (C.o.symm.trans hown2)
      have h6 := u_fits hfc hkC hkind (Or.inr hlay) hi hp hn.1 hn.2
      exact W.putFinK C.x C.b C.o hlk (hs _ hi') hst hcf (by rw [C.n]; exact hnm) (by rw [c2]; exact h6) c1 (c4 h64).1 hlt2 rfl rfl d fin1
/-- the field is the one that its class declares -/
def Same (ref decl name desc : String) : Prop := ∀ (s : State) (args : Array Value), (∀ c ∈ lw_all, c.before args s = true) → ∀ x, s.fieldFound? decl name desc = some x → s.fieldFound? ref name desc = some x
theorem same_rf {d n s : String} : Same d d n s := fun _ _ _ _ h => h
theorem r_same {ref decl name desc : String} (q : Cond.sameField ref decl name desc ∈ lw_all) : Same ref decl name desc := fun s args hw x h => u_same (hw _ q) x h
theorem gI_spec {o : Rf} {f : Nat} {x : Int32} (h : gI st o f = some x) : ∃ a, o = some a ∧ a < mNx st ∧ (fl (mTag st a)).contains f = true ∧ (fty f = 0 ∨ fty f = 3 ∨ fty f = 4) ∧ x = mI st a f := by
  cases o with
  | none => cases h
  | some a =>
    unfold gI at h
    simp only at h
    split at h
    · rename_i c; exact ⟨a, rfl, c.1, c.2.1, c.2.2, (Option.some.inj h).symm⟩
    · cases h
theorem gJ_spec {o : Rf} {f : Nat} {x : Int64} (h : gJ st o f = some x) : ∃ a, o = some a ∧ a < mNx st ∧ (fl (mTag st a)).contains f = true ∧ fty f = 1 ∧ x = mJ st a f := by
  cases o with
  | none => cases h
  | some a =>
    unfold gJ at h
    simp only at h
    split at h
    · rename_i c; exact ⟨a, rfl, c.1, c.2.1, c.2.2, (Option.some.inj h).symm⟩
    · cases h
theorem gA_spec {o : Rf} {f : Nat} {x : Rf} (h : gA st o f = some x) : ∃ a, o = some a ∧ a < mNx st ∧ (fl (mTag st a)).contains f = true ∧ fty f = 2 ∧ x = mA st a f := by
  cases o with
  | none => cases h
  | some a =>
    unfold gA at h
    simp only at h
    split at h
    · rename_i c; exact ⟨a, rfl, c.1, c.2.1, c.2.2, (Option.some.inj h).symm⟩
    · cases h
theorem bind_at {α γ : Type} {x : Option α} {F : α → Option γ} {y : γ} (h : x.bind F = some y) : ∃ v, x = some v ∧ F v = some y := by
  cases x with
  | none => cases h
  | some v => exact ⟨v, rfl, h⟩
theorem r_gI {f idx : Nat} {ref decl name desc : String} {o : Rf} {F : Int32 → Option (β × Mem)} (d : decode cc pc = .ok (.getfield idx, 3)) (q : Cond.fieldLink own idx ref name desc ∈ lw_all) (hd : fdecl f = (decl, name, desc)) (hs : Same ref decl name desc) (h : (gI st o f).bind F = some fin) (K : ∀ x, gI st o f = some x → F x = some fin → G (cc, own, nm, lev, ret, mx) st0 tr fin (pc + 3) env (vi x :: stk) st) : G (cc, own, nm, lev, ret, mx) st0 tr fin pc env (vr o :: stk) st := by
  obtain ⟨x, e, h⟩ := bind_at h
  obtain ⟨a, rfl, ha, hc, hf, rfl⟩ := gI_spec e
  have K := K _ e h
  refine ⟨K.1, fun k w C hg H locs ls hR hS hl => ?_⟩
  refine gfld C hR ha hc (by rcases hf with h | h | h <;> rw [h] <;> decide) hd (FLk.l C q) (hs _ _ C.ws) d ?_
  have e9 : fv w st a f = evV w (vi (mI st a f)) := by unfold fv; rcases hf with h | h | h <;> rw [h] <;> rfl
  rw [e9]
  exact K.2 k w C hg H locs ls hR hS hl
theorem r_gIN {f idx : Nat} {ref decl name desc host : String} {o : Rf} {F : Int32 → Option (β × Mem)} (d : decode cc pc = .ok (.getfield idx, 3)) (q : Cond.fieldLinkNest own idx ref name desc host ∈ lw_tbl) (hd : fdecl f = (decl, name, desc)) (hs : Same ref decl name desc) (h : (gI st o f).bind F = some fin) (K : ∀ x, gI st o f = some x → F x = some fin → G (cc, own, nm, lev, ret, mx) st0 tr fin (pc + 3) env (vi x :: stk) st) : G (cc, own, nm, lev, ret, mx) st0 tr fin pc env (vr o :: stk) st := by
  obtain ⟨x, e, h⟩ := bind_at h
  obtain ⟨a, rfl, ha, hc, hf, rfl⟩ := gI_spec e
  have K := K _ e h
  refine ⟨K.1, fun k w C hg H locs ls hR hS hl => ?_⟩
  refine gfld C hR ha hc (by rcases hf with h | h | h <;> rw [h] <;> decide) hd (FLk.n C q) (hs _ _ C.ws) d ?_
  have e9 : fv w st a f = evV w (vi (mI st a f)) := by unfold fv; rcases hf with h | h | h <;> rw [h] <;> rfl
  rw [e9]
  exact K.2 k w C hg H locs ls hR hS hl
theorem r_gJ {f idx : Nat} {ref decl name desc : String} {o : Rf} {F : Int64 → Option (β × Mem)} (d : decode cc pc = .ok (.getfield idx, 3)) (q : Cond.fieldLink own idx ref name desc ∈ lw_all) (hd : fdecl f = (decl, name, desc)) (hs : Same ref decl name desc) (h : (gJ st o f).bind F = some fin) (K : ∀ x, gJ st o f = some x → F x = some fin → G (cc, own, nm, lev, ret, mx) st0 tr fin (pc + 3) env (vj x :: stk) st) : G (cc, own, nm, lev, ret, mx) st0 tr fin pc env (vr o :: stk) st := by
  obtain ⟨x, e, h⟩ := bind_at h
  obtain ⟨a, rfl, ha, hc, hf, rfl⟩ := gJ_spec e
  have K := K _ e h
  refine ⟨K.1, fun k w C hg H locs ls hR hS hl => ?_⟩
  refine gfld C hR ha hc (by rw [hf]; decide) hd (FLk.l C q) (hs _ _ C.ws) d ?_
  have e9 : fv w st a f = evV w (vj (mJ st a f)) := by unfold fv; rw [hf]; rfl
  rw [e9]
  exact K.2 k w C hg H locs ls hR hS hl
theorem r_gJN {f idx : Nat} {ref decl name desc host : String} {o : Rf} {F : Int64 → Option (β × Mem)} (d : decode cc pc = .ok (.getfield idx, 3)) (q : Cond.fieldLinkNest own idx ref name desc host ∈ lw_tbl) (hd : fdecl f = (decl, name, desc)) (hs : Same ref decl name desc) (h : (gJ st o f).bind F = some fin) (K : ∀ x, gJ st o f = some x → F x = some fin → G (cc, own, nm, lev, ret, mx) st0 tr fin (pc + 3) env (vj x :: stk) st) : G (cc, own, nm, lev, ret, mx) st0 tr fin pc env (vr o :: stk) st := by
  obtain ⟨x, e, h⟩ := bind_at h
  obtain ⟨a, rfl, ha, hc, hf, rfl⟩ := gJ_spec e
  have K := K _ e h
  refine ⟨K.1, fun k w C hg H locs ls hR hS hl => ?_⟩
  refine gfld C hR ha hc (by rw [hf]; decide) hd (FLk.n C q) (hs _ _ C.ws) d ?_
  have e9 : fv w st a f = evV w (vj (mJ st a f)) := by unfold fv; rw [hf]; rfl
  rw [e9]
  exact K.2 k w C hg H locs ls hR hS hl
theorem r_gA {f idx : Nat} {ref decl name desc : String} {o : Rf} {F : Rf → Option (β × Mem)} (d : decode cc pc = .ok (.getfield idx, 3)) (q : Cond.fieldLink own idx ref name desc ∈ lw_all) (hd : fdecl f = (decl, name, desc)) (hs : Same ref decl name desc) (h : (gA st o f).bind F = some fin) (K : ∀ x, gA st o f = some x → F x = some fin → G (cc, own, nm, lev, ret, mx) st0 tr fin (pc + 3) env (vr x :: stk) st) : G (cc, own, nm, lev, ret, mx) st0 tr fin pc env (vr o :: stk) st := by
  obtain ⟨x, e, h⟩ := bind_at h
  obtain ⟨a, rfl, ha, hc, hf, rfl⟩ := gA_spec e
  have K := K _ e h
  refine ⟨K.1, fun k w C hg H locs ls hR hS hl => ?_⟩
  refine gfld C hR ha hc (by rw [hf]; decide) hd (FLk.l C q) (hs _ _ C.ws) d ?_
  have e9 : fv w st a f = evV w (vr (mA st a f)) := by unfold fv; rw [hf]; rfl
  rw [e9]
  exact K.2 k w C hg H locs ls hR hS hl
theorem r_gAN {f idx : Nat} {ref decl name desc host : String} {o : Rf} {F : Rf → Option (β × Mem)} (d : decode cc pc = .ok (.getfield idx, 3)) (q : Cond.fieldLinkNest own idx ref name desc host ∈ lw_tbl) (hd : fdecl f = (decl, name, desc)) (hs : Same ref decl name desc) (h : (gA st o f).bind F = some fin) (K : ∀ x, gA st o f = some x → F x = some fin → G (cc, own, nm, lev, ret, mx) st0 tr fin (pc + 3) env (vr x :: stk) st) : G (cc, own, nm, lev, ret, mx) st0 tr fin pc env (vr o :: stk) st := by
  obtain ⟨x, e, h⟩ := bind_at h
  obtain ⟨a, rfl, ha, hc, hf, rfl⟩ := gA_spec e
  have K := K _ e h
  refine ⟨K.1, fun k w C hg H locs ls hR hS hl => ?_⟩
  refine gfld C hR ha hc (by rw [hf]; decide) hd (FLk.n C q) (hs _ _ C.ws) d ?_
  have e9 : fv w st a f = evV w (vr (mA st a f)) := by unfold fv; rw [hf]; rfl
  rw [e9]
  exact K.2 k w C hg H locs ls hR hS hl
theorem pI_spec {o : Rf} {f : Nat} {x : Int32} {st' : Mem} (h : pI st o f x = some st') : ∃ a, o = some a ∧ 64 ≤ a ∧ a < mNx st ∧ (fl (mTag st a)).contains f = true ∧ (fty f = 0 ∨ (fty f = 3 ∧ (x = 0 ∨ x = 1)) ∨ (fty f = 4 ∧ x = 0)) ∧ st' = mSI st a f x := by
  cases o with
  | none => cases h
  | some a =>
    unfold pI at h
    simp only at h
    split at h
    · rename_i c; exact ⟨a, rfl, c.1, c.2.1, c.2.2.1, c.2.2.2, (Option.some.inj h).symm⟩
    · cases h
theorem r_pI {f idx : Nat} {ref decl name desc : String} {o : Rf} {x : Int32} {F : Mem → Option (β × Mem)} (d : decode cc pc = .ok (.putfield idx, 3)) (q : Cond.fieldLink own idx ref name desc ∈ lw_all) (hd : fdecl f = (decl, name, desc)) (hs : Same ref decl name desc) (hfin : ffin f = false) (h : (pI st o f x).bind F = some fin) (K : ∀ st', pI st o f x = some st' → F st' = some fin → G (cc, own, nm, lev, ret, mx) st0 tr fin (pc + 3) env stk st') : G (cc, own, nm, lev, ret, mx) st0 tr fin pc env (vi x :: vr o :: stk) st := by
  obtain ⟨st', e, h⟩ := bind_at h
  obtain ⟨a, rfl, h64, ha, hc, hf, rfl⟩ := pI_spec e
  have hlt : fty f < 9 := by rcases hf with h | h | h <;> omega
  have hk2 : fty f ≠ 1 ∧ fty f ≠ 2 := by rcases hf with h | h | h <;> omega
  obtain ⟨ty, hp, hn⟩ : ∃ ty, parseFieldDescriptor (fdecl f).2.2 = some ty ∧ narrow ty (.int x) = .int x ∧ fits ty (.int x) = true := by
    rcases hf with hq | ⟨hq, h2⟩ | ⟨hq, h2⟩
    · exact ⟨_, fty_0 hq, rfl, rfl⟩
    · rcases h2 with h2 | h2
      · exact ⟨_, fty_3 hq, by rw [h2]; decide, by rw [h2]; decide⟩
      · exact ⟨_, fty_3 hq, by rw [h2]; decide, by rw [h2]; decide⟩
    · exact ⟨_, fty_4 hq, by rw [h2]; decide, by rw [h2]; decide⟩
  have K := K _ e h
  refine ⟨K.1, fun k w C hg H locs ls hR hS hl => ?_⟩
  refine pfld (st' := mSI st a f x) C hR hS hg h64 ha hc hlt hd (FLk.l C q) (hs _ _ C.ws) (Or.inl hfin) hp hn rfl (fun _ => rfl) (fun _ => rfl) (by simp [fv, hk2.1, hk2.2, mSI, mI, up2, evV]) (fun g hg => by simp [fv, mSI, mI, mJ, mA, up2, hg]) (fun b j hb => ⟨by simp [mSI, mI, mJ, mA, up2, hb], by simp [mSI, mI, mJ, mA, up2, hb], by simp [mSI, mI, mJ, mA, up2, hb]⟩) d ?_
  exact fun H1 locs1 hR1 hS1 => K.2 k w C hg H1 locs1 ls hR1 hS1 hl
theorem r_pIN {f idx : Nat} {ref decl name desc host : String} {o : Rf} {x : Int32} {F : Mem → Option (β × Mem)} (d : decode cc pc = .ok (.putfield idx, 3)) (q : Cond.fieldLinkNest own idx ref name desc host ∈ lw_tbl) (hd : fdecl f = (decl, name, desc)) (hs : Same ref decl name desc) (hfin : ffin f = false) (h : (pI st o f x).bind F = some fin) (K : ∀ st', pI st o f x = some st' → F st' = some fin → G (cc, own, nm, lev, ret, mx) st0 tr fin (pc + 3) env stk st') : G (cc, own, nm, lev, ret, mx) st0 tr fin pc env (vi x :: vr o :: stk) st := by
  obtain ⟨st', e, h⟩ := bind_at h
  obtain ⟨a, rfl, h64, ha, hc, hf, rfl⟩ := pI_spec e
  have hlt : fty f < 9 := by rcases hf with h | h | h <;> omega
  have hk2 : fty f ≠ 1 ∧ fty f ≠ 2 := by rcases hf with h | h | h <;> omega
  obtain ⟨ty, hp, hn⟩ : ∃ ty, parseFieldDescriptor (fdecl f).2.2 = some ty ∧ narrow ty (.int x) = .int x ∧ fits ty (.int x) = true := by
    rcases hf with hq | ⟨hq, h2⟩ | ⟨hq, h2⟩
    · exact ⟨_, fty_0 hq, rfl, rfl⟩
    · rcases h2 with h2 | h2
      · exact ⟨_, fty_3 hq, by rw [h2]; decide, by rw [h2]; decide⟩
      · exact ⟨_, fty_3 hq, by rw [h2]; decide, by rw [h2]; decide⟩
    · exact ⟨_, fty_4 hq, by rw [h2]; decide, by rw [h2]; decide⟩
  have K := K _ e h
  refine ⟨K.1, fun k w C hg H locs ls hR hS hl => ?_⟩
  refine pfld (st' := mSI st a f x) C hR hS hg h64 ha hc hlt hd (FLk.n C q) (hs _ _ C.ws) (Or.inl hfin) hp hn rfl (fun _ => rfl) (fun _ => rfl) (by simp [fv, hk2.1, hk2.2, mSI, mI, up2, evV]) (fun g hg => by simp [fv, mSI, mI, mJ, mA, up2, hg]) (fun b j hb => ⟨by simp [mSI, mI, mJ, mA, up2, hb], by simp [mSI, mI, mJ, mA, up2, hb], by simp [mSI, mI, mJ, mA, up2, hb]⟩) d ?_
  exact fun H1 locs1 hR1 hS1 => K.2 k w C hg H1 locs1 ls hR1 hS1 hl
theorem r_pIF {f idx : Nat} {ref decl name desc : String} {o : Rf} {x : Int32} {F : Mem → Option (β × Mem)} (d : decode cc pc = .ok (.putfield idx, 3)) (q : Cond.fieldLink own idx ref name desc ∈ lw_all) (hd : fdecl f = (decl, name, desc)) (hs : Same ref decl name desc) (hfin : decl = own ∧ nm = "<init>") (h : (pI st o f x).bind F = some fin) (K : ∀ st', pI st o f x = some st' → F st' = some fin → G (cc, own, nm, lev, ret, mx) st0 tr fin (pc + 3) env stk st') : G (cc, own, nm, lev, ret, mx) st0 tr fin pc env (vi x :: vr o :: stk) st := by
  obtain ⟨st', e, h⟩ := bind_at h
  obtain ⟨a, rfl, h64, ha, hc, hf, rfl⟩ := pI_spec e
  have hlt : fty f < 9 := by rcases hf with h | h | h <;> omega
  have hk2 : fty f ≠ 1 ∧ fty f ≠ 2 := by rcases hf with h | h | h <;> omega
  obtain ⟨ty, hp, hn⟩ : ∃ ty, parseFieldDescriptor (fdecl f).2.2 = some ty ∧ narrow ty (.int x) = .int x ∧ fits ty (.int x) = true := by
    rcases hf with hq | ⟨hq, h2⟩ | ⟨hq, h2⟩
    · exact ⟨_, fty_0 hq, rfl, rfl⟩
    · rcases h2 with h2 | h2
      · exact ⟨_, fty_3 hq, by rw [h2]; decide, by rw [h2]; decide⟩
      · exact ⟨_, fty_3 hq, by rw [h2]; decide, by rw [h2]; decide⟩
    · exact ⟨_, fty_4 hq, by rw [h2]; decide, by rw [h2]; decide⟩
  have K := K _ e h
  refine ⟨K.1, fun k w C hg H locs ls hR hS hl => ?_⟩
  refine pfld (st' := mSI st a f x) C hR hS hg h64 ha hc hlt hd (FLk.l C q) (hs _ _ C.ws) (Or.inr ⟨hfin.1, hfin.2, C.wd q⟩) hp hn rfl (fun _ => rfl) (fun _ => rfl) (by simp [fv, hk2.1, hk2.2, mSI, mI, up2, evV]) (fun g hg => by simp [fv, mSI, mI, mJ, mA, up2, hg]) (fun b j hb => ⟨by simp [mSI, mI, mJ, mA, up2, hb], by simp [mSI, mI, mJ, mA, up2, hb], by simp [mSI, mI, mJ, mA, up2, hb]⟩) d ?_
  exact fun H1 locs1 hR1 hS1 => K.2 k w C hg H1 locs1 ls hR1 hS1 hl
theorem pJ_spec {o : Rf} {f : Nat} {x : Int64} {st' : Mem} (h : pJ st o f x = some st') : ∃ a, o = some a ∧ 64 ≤ a ∧ a < mNx st ∧ (fl (mTag st a)).contains f = true ∧ fty f = 1 ∧ st' = mSJ st a f x := by
  cases o with
  | none => cases h
  | some a =>
    unfold pJ at h
    simp only at h
    split at h
    · rename_i c; exact ⟨a, rfl, c.1, c.2.1, c.2.2.1, c.2.2.2, (Option.some.inj h).symm⟩
    · cases h
theorem r_pJ {f idx : Nat} {ref decl name desc : String} {o : Rf} {x : Int64} {F : Mem → Option (β × Mem)} (d : decode cc pc = .ok (.putfield idx, 3)) (q : Cond.fieldLink own idx ref name desc ∈ lw_all) (hd : fdecl f = (decl, name, desc)) (hs : Same ref decl name desc) (hfin : ffin f = false) (h : (pJ st o f x).bind F = some fin) (K : ∀ st', pJ st o f x = some st' → F st' = some fin → G (cc, own, nm, lev, ret, mx) st0 tr fin (pc + 3) env stk st') : G (cc, own, nm, lev, ret, mx) st0 tr fin pc env (vj x :: vr o :: stk) st := by
  obtain ⟨st', e, h⟩ := bind_at h
  obtain ⟨a, rfl, h64, ha, hc, hf, rfl⟩ := pJ_spec e
  have hlt : fty f < 9 := by omega
  obtain ⟨ty, hp, hn⟩ : ∃ ty, parseFieldDescriptor (fdecl f).2.2 = some ty ∧ narrow ty (.long x) = .long x ∧ fits ty (.long x) = true := ⟨_, fty_1 hf, rfl, rfl⟩
  have K := K _ e h
  refine ⟨K.1, fun k w C hg H locs ls hR hS hl => ?_⟩
  refine pfld (st' := mSJ st a f x) C hR hS hg h64 ha hc hlt hd (FLk.l C q) (hs _ _ C.ws) (Or.inl hfin) hp hn rfl (fun _ => rfl) (fun _ => rfl) (by simp [fv, hf, mSJ, mJ, up2, evV]) (fun g hg => by simp [fv, mSJ, mI, mJ, mA, up2, hg]) (fun b j hb => ⟨by simp [mSJ, mI, mJ, mA, up2, hb], by simp [mSJ, mI, mJ, mA, up2, hb], by simp [mSJ, mI, mJ, mA, up2, hb]⟩) d ?_
  exact fun H1 locs1 hR1 hS1 => K.2 k w C hg H1 locs1 ls hR1 hS1 hl
theorem r_pJN {f idx : Nat} {ref decl name desc host : String} {o : Rf} {x : Int64} {F : Mem → Option (β × Mem)} (d : decode cc pc = .ok (.putfield idx, 3)) (q : Cond.fieldLinkNest own idx ref name desc host ∈ lw_tbl) (hd : fdecl f = (decl, name, desc)) (hs : Same ref decl name desc) (hfin : ffin f = false) (h : (pJ st o f x).bind F = some fin) (K : ∀ st', pJ st o f x = some st' → F st' = some fin → G (cc, own, nm, lev, ret, mx) st0 tr fin (pc + 3) env stk st') : G (cc, own, nm, lev, ret, mx) st0 tr fin pc env (vj x :: vr o :: stk) st := by
  obtain ⟨st', e, h⟩ := bind_at h
  obtain ⟨a, rfl, h64, ha, hc, hf, rfl⟩ := pJ_spec e
  have hlt : fty f < 9 := by omega
  obtain ⟨ty, hp, hn⟩ : ∃ ty, parseFieldDescriptor (fdecl f).2.2 = some ty ∧ narrow ty (.long x) = .long x ∧ fits ty (.long x) = true := ⟨_, fty_1 hf, rfl, rfl⟩
  have K := K _ e h
  refine ⟨K.1, fun k w C hg H locs ls hR hS hl => ?_⟩
  refine pfld (st' := mSJ st a f x) C hR hS hg h64 ha hc hlt hd (FLk.n C q) (hs _ _ C.ws) (Or.inl hfin) hp hn rfl (fun _ => rfl) (fun _ => rfl) (by simp [fv, hf, mSJ, mJ, up2, evV]) (fun g hg => by simp [fv, mSJ, mI, mJ, mA, up2, hg]) (fun b j hb => ⟨by simp [mSJ, mI, mJ, mA, up2, hb], by simp [mSJ, mI, mJ, mA, up2, hb], by simp [mSJ, mI, mJ, mA, up2, hb]⟩) d ?_
  exact fun H1 locs1 hR1 hS1 => K.2 k w C hg H1 locs1 ls hR1 hS1 hl
theorem r_pJF {f idx : Nat} {ref decl name desc : String} {o : Rf} {x : Int64} {F : Mem → Option (β × Mem)} (d : decode cc pc = .ok (.putfield idx, 3)) (q : Cond.fieldLink own idx ref name desc ∈ lw_all) (hd : fdecl f = (decl, name, desc)) (hs : Same ref decl name desc) (hfin : decl = own ∧ nm = "<init>") (h : (pJ st o f x).bind F = some fin) (K : ∀ st', pJ st o f x = some st' → F st' = some fin → G (cc, own, nm, lev, ret, mx) st0 tr fin (pc + 3) env stk st') : G (cc, own, nm, lev, ret, mx) st0 tr fin pc env (vj x :: vr o :: stk) st := by
  obtain ⟨st', e, h⟩ := bind_at h
  obtain ⟨a, rfl, h64, ha, hc, hf, rfl⟩ := pJ_spec e
  have hlt : fty f < 9 := by omega
  obtain ⟨ty, hp, hn⟩ : ∃ ty, parseFieldDescriptor (fdecl f).2.2 = some ty ∧ narrow ty (.long x) = .long x ∧ fits ty (.long x) = true := ⟨_, fty_1 hf, rfl, rfl⟩
  have K := K _ e h
  refine ⟨K.1, fun k w C hg H locs ls hR hS hl => ?_⟩
  refine pfld (st' := mSJ st a f x) C hR hS hg h64 ha hc hlt hd (FLk.l C q) (hs _ _ C.ws) (Or.inr ⟨hfin.1, hfin.2, C.wd q⟩) hp hn rfl (fun _ => rfl) (fun _ => rfl) (by simp [fv, hf, mSJ, mJ, up2, evV]) (fun g hg => by simp [fv, mSJ, mI, mJ, mA, up2, hg]) (fun b j hb => ⟨by simp [mSJ, mI, mJ, mA, up2, hb], by simp [mSJ, mI, mJ, mA, up2, hb], by simp [mSJ, mI, mJ, mA, up2, hb]⟩) d ?_
  exact fun H1 locs1 hR1 hS1 => K.2 k w C hg H1 locs1 ls hR1 hS1 hl
theorem pA_spec {o : Rf} {f : Nat} {x : Rf} {st' : Mem} (h : pA st o f x = some st') : ∃ a, o = some a ∧ 64 ≤ a ∧ a < mNx st ∧ (fl (mTag st a)).contains f = true ∧ fty f = 2 ∧ st' = mSA st a f x := by
  cases o with
  | none => cases h
  | some a =>
    unfold pA at h
    simp only at h
    split at h
    · rename_i c; exact ⟨a, rfl, c.1, c.2.1, c.2.2.1, c.2.2.2, (Option.some.inj h).symm⟩
    · cases h
theorem r_pA {f idx : Nat} {ref decl name desc : String} {o : Rf} {x : Rf} {F : Mem → Option (β × Mem)} (d : decode cc pc = .ok (.putfield idx, 3)) (q : Cond.fieldLink own idx ref name desc ∈ lw_all) (hd : fdecl f = (decl, name, desc)) (hs : Same ref decl name desc) (hfin : ffin f = false) (h : (pA st o f x).bind F = some fin) (K : ∀ st', pA st o f x = some st' → F st' = some fin → G (cc, own, nm, lev, ret, mx) st0 tr fin (pc + 3) env stk st') : G (cc, own, nm, lev, ret, mx) st0 tr fin pc env (vr x :: vr o :: stk) st := by
  obtain ⟨st', e, h⟩ := bind_at h
  obtain ⟨a, rfl, h64, ha, hc, hf, rfl⟩ := pA_spec e
  have hlt : fty f < 9 := by omega
  have K := K _ e h
  refine ⟨K.1, fun k w C hg H locs ls hR hS hl => ?_⟩
  obtain ⟨ty, hp, hn⟩ : ∃ ty, parseFieldDescriptor (fdecl f).2.2 = some ty ∧ narrow ty (rfV w x) = rfV w x ∧ fits ty (rfV w x) = true := by
    obtain ⟨ty, h1, h2⟩ := fty_2 hf
    exact ⟨ty, h1, rf_fits h2 w x⟩
  refine pfld (st' := mSA st a f x) C hR hS hg h64 ha hc hlt hd (FLk.l C q) (hs _ _ C.ws) (Or.inl hfin) hp hn rfl (fun _ => rfl) (fun _ => rfl) (by simp [fv, hf, mSA, mA, up2, evV]) (fun g hg => by simp [fv, mSA, mI, mJ, mA, up2, hg]) (fun b j hb => ⟨by simp [mSA, mI, mJ, mA, up2, hb], by simp [mSA, mI, mJ, mA, up2, hb], by simp [mSA, mI, mJ, mA, up2, hb]⟩) d ?_
  exact fun H1 locs1 hR1 hS1 => K.2 k w C hg H1 locs1 ls hR1 hS1 hl
theorem r_pAN {f idx : Nat} {ref decl name desc host : String} {o : Rf} {x : Rf} {F : Mem → Option (β × Mem)} (d : decode cc pc = .ok (.putfield idx, 3)) (q : Cond.fieldLinkNest own idx ref name desc host ∈ lw_tbl) (hd : fdecl f = (decl, name, desc)) (hs : Same ref decl name desc) (hfin : ffin f = false) (h : (pA st o f x).bind F = some fin) (K : ∀ st', pA st o f x = some st' → F st' = some fin → G (cc, own, nm, lev, ret, mx) st0 tr fin (pc + 3) env stk st') : G (cc, own, nm, lev, ret, mx) st0 tr fin pc env (vr x :: vr o :: stk) st := by
  obtain ⟨st', e, h⟩ := bind_at h
  obtain ⟨a, rfl, h64, ha, hc, hf, rfl⟩ := pA_spec e
  have hlt : fty f < 9 := by omega
  have K := K _ e h
  refine ⟨K.1, fun k w C hg H locs ls hR hS hl => ?_⟩
  obtain ⟨ty, hp, hn⟩ : ∃ ty, parseFieldDescriptor (fdecl f).2.2 = some ty ∧ narrow ty (rfV w x) = rfV w x ∧ fits ty (rfV w x) = true := by
    obtain ⟨ty, h1, h2⟩ := fty_2 hf
    exact ⟨ty, h1, rf_fits h2 w x⟩
  refine pfld (st' := mSA st a f x) C hR hS hg h64 ha hc hlt hd (FLk.n C q) (hs _ _ C.ws) (Or.inl hfin) hp hn rfl (fun _ => rfl) (fun _ => rfl) (by simp [fv, hf, mSA, mA, up2, evV]) (fun g hg => by simp [fv, mSA, mI, mJ, mA, up2, hg]) (fun b j hb => ⟨by simp [mSA, mI, mJ, mA, up2, hb], by simp [mSA, mI, mJ, mA, up2, hb], by simp [mSA, mI, mJ, mA, up2, hb]⟩) d ?_
  exact fun H1 locs1 hR1 hS1 => K.2 k w C hg H1 locs1 ls hR1 hS1 hl
theorem r_pAF {f idx : Nat} {ref decl name desc : String} {o : Rf} {x : Rf} {F : Mem → Option (β × Mem)} (d : decode cc pc = .ok (.putfield idx, 3)) (q : Cond.fieldLink own idx ref name desc ∈ lw_all) (hd : fdecl f = (decl, name, desc)) (hs : Same ref decl name desc) (hfin : decl = own ∧ nm = "<init>") (h : (pA st o f x).bind F = some fin) (K : ∀ st', pA st o f x = some st' → F st' = some fin → G (cc, own, nm, lev, ret, mx) st0 tr fin (pc + 3) env stk st') : G (cc, own, nm, lev, ret, mx) st0 tr fin pc env (vr x :: vr o :: stk) st := by
  obtain ⟨st', e, h⟩ := bind_at h
  obtain ⟨a, rfl, h64, ha, hc, hf, rfl⟩ := pA_spec e
  have hlt : fty f < 9 := by omega
  have K := K _ e h
  refine ⟨K.1, fun k w C hg H locs ls hR hS hl => ?_⟩
  obtain ⟨ty, hp, hn⟩ : ∃ ty, parseFieldDescriptor (fdecl f).2.2 = some ty ∧ narrow ty (rfV w x) = rfV w x ∧ fits ty (rfV w x) = true := by
    obtain ⟨ty, h1, h2⟩ := fty_2 hf
    exact ⟨ty, h1, rf_fits h2 w x⟩
  refine pfld (st' := mSA st a f x) C hR hS hg h64 ha hc hlt hd (FLk.l C q) (hs _ _ C.ws) (Or.inr ⟨hfin.1, hfin.2, C.wd q⟩) hp hn rfl (fun _ => rfl) (fun _ => rfl) (by simp [fv, hf, mSA, mA, up2, evV]) (fun g hg => by simp [fv, mSA, mI, mJ, mA, up2, hg]) (fun b j hb => ⟨by simp [mSA, mI, mJ, mA, up2, hb], by simp [mSA, mI, mJ, mA, up2, hb], by simp [mSA, mI, mJ, mA, up2, hb]⟩) d ?_
  exact fun H1 locs1 hR1 hS1 => K.2 k w C hg H1 locs1 ls hR1 hS1 hl
end Fields
