/-! ===== constants, statics, comparisons, casts ===== -/
/-- what a cast asks of the tag: 1 Cue, 2 ArrayList, 3 String, 4 Object[] -/
def ckT (c t : Nat) : Bool := (c == 1 && (t == 14 || t == 15 || t == 16 || t == 17)) || (c == 2 && t == 18) || (c == 3 && t == 19) || (c == 4 && t == 104)
def ckN (c : Nat) : String := if c = 1 then "HouseClaps$Cue" else if c = 2 then "java/util/ArrayList" else if c = 3 then "java/lang/String" else "[Ljava/lang/Object;"
def ck (st : Mem) (o : Rf) (c : Nat) : Option Rf := match o with
  | none => some none
  | some a => if a < mNx st ∧ ckT c (mTag st a) = true then some (some a) else none
def io (st : Mem) (o : Rf) (c : Nat) : Option Int32 := match o with
  | none => none
  | some a => if a < mNx st ∧ c ≠ 4 ∧ ckT c (mTag st a) = true then some 1 else none
theorem ckT_x {c t : Nat} (h : ckT c t = true) (hc : c ≠ 1) : t = (if c = 2 then 18 else if c = 3 then 19 else 104) := by
  simp only [ckT, Bool.or_eq_true, Bool.and_eq_true, beq_iff_eq, or_assoc] at h
  rcases h with h | h | h | h
  · exact absurd h.1 hc
  · rw [h.1, h.2]; rfl
  · rw [h.1, h.2]; rfl
  · rw [h.1, h.2]; rfl
section Refs
variable {cc : ByteArray} {own nm : String} {lev : Nat} {ret : Option FieldType} {mx : Nat} {st0 st : Mem} {β : Type} {tr : β → Rs} {fin : β × Mem} {pc idx : Nat} {env : List (Nat × Ev)} {stk : List Ev}
theorem r_ldcS {tx : String} (d : decode cc pc = .ok (.ldc idx, 2)) (i : Nat) (hi : strL[i]? = some (own, idx, tx)) (K : G (cc, own, nm, lev, ret, mx) st0 tr fin (pc + 2) env (vr (some (2 * i)) :: stk) st) : G (cc, own, nm, lev, ret, mx) st0 tr fin pc env stk st :=
  G.lift (fun k w C H locs ls cells slots Q hl K => va_ldcS C.x C.b C.o (C.f.2.2.2.2.2.1 i _ hi) d K) K
theorem gs_core {C n d0 : String} {v : Value} {k : CT} {w : Wd} {H : Heap} {locs : List Loc} {cells slots : Nat} {Q : State → Prop} {ls : Array Slot} {rest : List Value} (Cc : Cx k w cc own nm lev ret mx) (hZ : va_Z C n d0 v (fun q => (wH w).size ≤ q) (ks k) (wH w)) (hR : Rel w st H) (q : Cond.fieldLink own idx C n d0 ∈ lw_all) (d : decode cc pc = .ok (.getstatic idx, 3)) (K : WW k H locs cells slots Q (F0 (km k) (pc + 3) ls (v :: rest))) : WW k H locs cells slots Q (F0 (km k) pc ls rest) := by
  obtain ⟨cf, kf, fi, f, a, cell, h1, h2, h3, h4, h5, h6, h7, h8⟩ := hZ
  exact W.gets Cc.x Cc.b Cc.o (Cc.wd q) h1 h2 h3 h4 (by rw [hR.2.2.2.1 a (Nat.lt_of_not_le h8)]; exact h5) (fun e => by rw [e] at h6; cases h6) h7 rfl d K
theorem r_gs_COMPACT_STRINGS (d : decode cc pc = .ok (.getstatic idx, 3)) (q : Cond.fieldLink own idx "java/lang/String" "COMPACT_STRINGS" "Z" ∈ lw_all) (K : G (cc, own, nm, lev, ret, mx) st0 tr fin (pc + 3) env (vi 1 :: stk) st) : G (cc, own, nm, lev, ret, mx) st0 tr fin pc env stk st :=
  ⟨K.1, fun k w C hg H locs ls hR hS hl => gs_core C C.f.2.2.2.2.2.2.1 hR q d (K.2 k w C hg H locs ls hR hS hl)⟩
theorem r_gs_empty (d : decode cc pc = .ok (.getstatic idx, 3)) (q : Cond.fieldLink own idx "java/util/ArrayList" "DEFAULTCAPACITY_EMPTY_ELEMENTDATA" "[Ljava/lang/Object;" ∈ lw_all) (K : G (cc, own, nm, lev, ret, mx) st0 tr fin (pc + 3) env (vr (some 52) :: stk) st) : G (cc, own, nm, lev, ret, mx) st0 tr fin pc env stk st :=
  ⟨K.1, fun k w C hg H locs ls hR hS hl => gs_core C C.f.2.2.2.2.2.2.2.1.1 hR q d (K.2 k w C hg H locs ls hR hS hl)⟩
/-- the formatter of a String's faults: a reference or null, whatever it is -/
theorem r_gs_fmt (d : decode cc pc = .ok (.getstatic idx, 3)) (q : Cond.fieldLink own idx "jdk/internal/util/Preconditions" "SIOOBE_FORMATTER" "Ljava/util/function/BiFunction;" ∈ lw_all) (K : ∀ r : Rf, G (cc, own, nm, lev, ret, mx) st0 tr fin (pc + 3) env (vr r :: stk) st) : G (cc, own, nm, lev, ret, mx) st0 tr fin pc env stk st :=
  ⟨(K none).1, fun k w C hg H locs ls hR hS hl => by
    obtain ⟨r, hz⟩ := C.f.2.2.2.2.2.2.2.1.2.1
    exact gs_core C hz hR q d ((K r).2 k w C hg H locs ls hR hS hl)⟩
theorem rfV_va (w : Wd) (r : Rf) : rfV w r = va_rf (r.map (wR w)) := by cases r <;> rfl
theorem eqR_at {γ : Type} {x y : Rf} {A B : Option γ} {z : γ} (h : eqR st x y A B = some z) : (x = y ∧ A = some z ∨ x ≠ y ∧ B = some z) ∧ ∀ a b, x = some a → y = some b → a < mNx st ∧ b < mNx st ∧ ((64 ≤ a ∧ b ≠ 53) ∨ (64 ≤ b ∧ a ≠ 53) ∨ a = b) := by
  cases x with
  | none =>
    cases y with
    | none => exact ⟨Or.inl ⟨rfl, h⟩, fun a b h => by cases h⟩
    | some b => exact ⟨Or.inr ⟨by simp, h⟩, fun a b h => by cases h⟩
  | some a =>
    cases y with
    | none => exact ⟨Or.inr ⟨by simp, h⟩, fun a b _ h => by cases h⟩
    | some b =>
      unfold eqR at h
      simp only at h
      split at h
      · rename_i c
        refine ⟨?_, fun a' b' h1 h2 => by cases h1; cases h2; exact c⟩
        split at h
        · rename_i e; exact Or.inl ⟨by rw [e], h⟩
        · rename_i e; exact Or.inr ⟨by simpa using e, h⟩
      · cases h
theorem eqR_inj {γ : Type} {x y : Rf} {A B : Option γ} {z : γ} (h : eqR st x y A B = some z) {w : Wd} {H : Heap} (hR : Rel w st H) : x.map (wR w) = y.map (wR w) ↔ x = y := by
  refine ⟨fun e => ?_, fun e => by rw [e]⟩
  cases x with
  | none => cases y with
    | none => rfl
    | some b => simp at e
  | some a => cases y with
    | none => simp at e
    | some b =>
      obtain ⟨h1, h2, h3⟩ := (eqR_at h).2 a b rfl rfl
      have e : wR w a = wR w b := by simpa using e
      rcases h3 with h3 | h3 | h3
      · rw [hR.2.1 a b h3.1 h1 h2 h3.2 e]
      · rw [hR.2.1 b a h3.1 h2 h1 h3.2 e.symm]
      · rw [h3]
theorem r_acmp_eq {x y : Rf} {off : Int} {tgt : Nat} {A B : Option (β × Mem)} (d : decode cc pc = .ok (.if_acmp .eq off, 3)) (ht : (pc : Int) + off = (tgt : Int)) (h : eqR st x y A B = some fin) (kt : x = y → A = some fin → G (cc, own, nm, lev, ret, mx) st0 tr fin tgt env stk st) (kf : ¬ x = y → B = some fin → G (cc, own, nm, lev, ret, mx) st0 tr fin (pc + 3) env stk st) : G (cc, own, nm, lev, ret, mx) st0 tr fin pc env (vr y :: vr x :: stk) st := by
  rcases (eqR_at h).1 with ⟨e, h1⟩ | ⟨e, h1⟩
  · have K := kt e h1
    refine ⟨K.1, fun k w C hg H locs ls hR hS hl => ?_⟩
    show WW k H locs _ _ _ (F0 (km k) pc ls (rfV w y :: rfV w x :: skV w stk))
    rw [rfV_va, rfV_va]
    exact lv_acmp_eq C.x C.b d ht (fun _ => K.2 k w C hg H locs ls hR hS hl) (fun n => absurd ((eqR_inj h hR).mpr e) n)
  · have K := kf e h1
    refine ⟨K.1, fun k w C hg H locs ls hR hS hl => ?_⟩
    show WW k H locs _ _ _ (F0 (km k) pc ls (rfV w y :: rfV w x :: skV w stk))
    rw [rfV_va, rfV_va]
    exact lv_acmp_eq C.x C.b d ht (fun n => absurd ((eqR_inj h hR).mp n) e) (fun _ => K.2 k w C hg H locs ls hR hS hl)
theorem r_acmp_ne {x y : Rf} {off : Int} {tgt : Nat} {A B : Option (β × Mem)} (d : decode cc pc = .ok (.if_acmp .ne off, 3)) (ht : (pc : Int) + off = (tgt : Int)) (h : eqR st x y A B = some fin) (kt : ¬ x = y → B = some fin → G (cc, own, nm, lev, ret, mx) st0 tr fin tgt env stk st) (kf : x = y → A = some fin → G (cc, own, nm, lev, ret, mx) st0 tr fin (pc + 3) env stk st) : G (cc, own, nm, lev, ret, mx) st0 tr fin pc env (vr y :: vr x :: stk) st := by
  rcases (eqR_at h).1 with ⟨e, h1⟩ | ⟨e, h1⟩
  · have K := kf e h1
    refine ⟨K.1, fun k w C hg H locs ls hR hS hl => ?_⟩
    show WW k H locs _ _ _ (F0 (km k) pc ls (rfV w y :: rfV w x :: skV w stk))
    rw [rfV_va, rfV_va]
    exact lv_acmp_ne C.x C.b d ht (fun n => absurd ((eqR_inj h hR).mpr e) n) (fun _ => K.2 k w C hg H locs ls hR hS hl)
  · have K := kt e h1
    refine ⟨K.1, fun k w C hg H locs ls hR hS hl => ?_⟩
    show WW k H locs _ _ _ (F0 (km k) pc ls (rfV w y :: rfV w x :: skV w stk))
    rw [rfV_va, rfV_va]
    exact lv_acmp_ne C.x C.b d ht (fun _ => K.2 k w C hg H locs ls hR hS hl) (fun n => absurd ((eqR_inj h hR).mp n) e)
theorem ck_cue {t : Nat} (h : ckT 1 t = true) : 0 < t ∧ t < 22 ∧ Cond.castable (cnm t) "HouseClaps$Cue" ∈ lw_tbl := by
  simp only [ckT, Bool.or_eq_true, Bool.and_eq_true, beq_iff_eq, or_assoc] at h
  have h : t = 14 ∨ t = 15 ∨ t = 16 ∨ t = 17 := by omega
  rcases h with rfl | rfl | rfl | rfl
  · exact ⟨by decide, by decide, q2327⟩
  · exact ⟨by decide, by decide, q2324⟩
  · exact ⟨by decide, by decide, q2326⟩
  · exact ⟨by decide, by decide, q2325⟩
/-- an object's cell, as a receiver -/
theorem obj_at {w : Wd} {H : Heap} {k : CT} (C : Cx k w cc own nm lev ret mx) (hR : Rel w st H) {a : Nat} (ha : a < mNx st) (h0 : 0 < mTag st a) (h1 : mTag st a < 22) : ∃ cell : Cell, H[wR w a]? = some cell ∧ cell.vm.isStatics = false ∧ (ks k).vm.findClass (cnm (mTag st a)) = some cell.cls := by
  obtain ⟨cell, c1, c2, c3, -⟩ := (hR.1 a ha).2 h0 (by omega)
  exact ⟨cell, c1, c3.2, by rw [c2]; exact (cls_at C.f h1 h0).1⟩
theorem r_cast {x : Rf} {c : Nat} {Cn : String} {F : Rf → Option (β × Mem)} (d : decode cc pc = .ok (.checkcast idx, 3)) (q : Cond.classLink own idx Cn ∈ lw_all) (hC : ckN c = Cn ∧ 0 < c ∧ c < 4) (h : (ck st x c).bind F = some fin) (K : ∀ z, ck st x c = some z → F z = some fin → G (cc, own, nm, lev, ret, mx) st0 tr fin (pc + 3) env (vr z :: stk) st) : G (cc, own, nm, lev, ret, mx) st0 tr fin pc env (vr x :: stk) st := by
  obtain ⟨z, e, h⟩ := bind_at h
  have K := K z e h
  cases x with
  | none =>
    cases e
    exact G.lift (fun k w C H locs ls cells slots Q hl K => lv_castN C.x C.b d K) K
  | some a =>
    unfold ck at e
    simp only at e
    split at e
    · rename_i ct
      cases e
      obtain ⟨hC1, hC2, hC3⟩ := hC
      subst hC1
      refine ⟨K.1, fun k w C hg H locs ls hR hS hl => ?_⟩
      have KK := K.2 k w C hg H locs ls hR hS hl
      have hcs : c = 1 ∨ c = 2 ∨ c = 3 := by omega
      rcases hcs with rfl | rfl | rfl
      · obtain ⟨h1, h2, h3⟩ := ck_cue ct.2
        exact va_castY C.x C.b C.o (C.wd q) (C.nw h3 rfl) (obj_at C hR ct.1 h1 h2) d KK
      · have ht : mTag st a = 18 := ckT_x ct.2 (by decide)
        have ho := obj_at C hR ct.1 (by omega) (by omega)
        rw [ht] at ho
        exact va_castS C.x C.b C.o (C.wd q) (cls_at C.f (u := 18) (by decide) (by decide)) ho d KK
      · have ht : mTag st a = 19 := ckT_x ct.2 (by decide)
        have ho := obj_at C hR ct.1 (by omega) (by omega)
        rw [ht] at ho
        exact va_castS C.x C.b C.o (C.wd q) (cls_at C.f (u := 19) (by decide) (by decide)) ho d KK
    · cases e
theorem r_inst {x : Rf} {c : Nat} {Cn : String} {F : Int32 → Option (β × Mem)} (d : decode cc pc = .ok (.instanceof idx, 3)) (q : Cond.classLink own idx Cn ∈ lw_all) (hC : ckN c = Cn ∧ 0 < c ∧ c < 5) (h : (io st x c).bind F = some fin) (K : ∀ z, io st x c = some z → F z = some fin → G (cc, own, nm, lev, ret, mx) st0 tr fin (pc + 3) env (vi z :: stk) st) : G (cc, own, nm, lev, ret, mx) st0 tr fin pc env (vr x :: stk) st := by
  obtain ⟨z, e, h⟩ := bind_at h
  have K := K z e h
  cases x with
  | none => cases e
  | some a =>
    unfold io at e
    simp only at e
    split at e
    · rename_i ct
      cases e
      obtain ⟨hC1, hC2, hC3⟩ := hC
      subst hC1
      refine ⟨K.1, fun k w C hg H locs ls hR hS hl => ?_⟩
      have KK := K.2 k w C hg H locs ls hR hS hl
      obtain ⟨c1, c2, c3⟩ := ct
      have hcs : c = 1 ∨ c = 2 ∨ c = 3 := by omega
      rcases hcs with rfl | rfl | rfl
      · obtain ⟨h1, h2, h3⟩ := ck_cue c3
        exact va_instY C.x C.b C.o (C.wd q) (C.nw h3 rfl) (obj_at C hR c1 h1 h2) d KK
      · have ht : mTag st a = 18 := ckT_x c3 (by decide)
        have ho := obj_at C hR c1 (by omega) (by omega)
        rw [ht] at ho
        exact va_instS C.x C.b C.o (C.wd q) (cls_at C.f (u := 18) (by decide) (by decide)) ho d KK
      · have ht : mTag st a = 19 := ckT_x c3 (by decide)
        have ho := obj_at C hR c1 (by omega) (by omega)
        rw [ht] at ho
        exact va_instS C.x C.b C.o (C.wd q) (cls_at C.f (u := 19) (by decide) (by decide)) ho d KK
    · cases e
end Refs
