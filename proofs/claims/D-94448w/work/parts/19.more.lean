/-! ===== switches ===== -/
def swNe (x : Int32) (l : List Int32) : Prop := ∀ v ∈ l, ¬ x = v
theorem sw_nil {x : Int32} : swNe x [] := fun _ h => by cases h
theorem sw_cons {x v : Int32} {l : List Int32} (h : ¬ x = v) (t : swNe x l) : swNe x (v :: l) := fun u hu => by
  rcases List.mem_cons.mp hu with e | e
  · rw [e]; exact h
  · exact t u e
section More
variable {cc : ByteArray} {own nm : String} {lev : Nat} {ret : Option FieldType} {mx : Nat} {st0 st : Mem} {β : Type} {tr : β → Rs} {fin : β × Mem} {pc : Nat} {env : List (Nat × Ev)} {stk : List Ev}
theorem r_sw {x v : Int32} {A B : Option (β × Mem)} {P : Prop} (h : (if x = v then A else B) = some fin) (kt : x = v → A = some fin → P) (kf : ¬ x = v → B = some fin → P) : P := by
  by_cases c : x = v
  · rw [if_pos c] at h; exact kt c h
  · rw [if_neg c] at h; exact kf c h
theorem r_swIn {x v : Int32} {dflt lo hi off : Int} {offs : Array Int} {len tgt : Nat} (d : decode cc pc = .ok (.tableswitch dflt lo hi offs, len)) (e : x = v) (h1 : ¬ v.toInt < lo) (h2 : ¬ hi < v.toInt) (ho : offs[(v.toInt - lo).toNat]? = some off) (ht : (pc : Int) + off = (tgt : Int)) (K : G (cc, own, nm, lev, ret, mx) st0 tr fin tgt env stk st) : G (cc, own, nm, lev, ret, mx) st0 tr fin pc env (vi x :: stk) st := by
  subst e
  exact G.lift (fun k w C H locs ls cells slots Q hl K => lv_tableIn C.x C.b d h1 h2 ho ht K) K
theorem r_swOut {x : Int32} {dflt lo hi : Int} {offs : Array Int} {len tgt : Nat} {l : List Int32} (d : decode cc pc = .ok (.tableswitch dflt lo hi offs, len)) (hne : swNe x l) (hl : (List.range (hi - lo + 1).toNat).map (fun (i : Nat) => Int32.ofInt (lo + (i : Int))) = l) (ht : (pc : Int) + dflt = (tgt : Int)) (K : G (cc, own, nm, lev, ret, mx) st0 tr fin tgt env stk st) : G (cc, own, nm, lev, ret, mx) st0 tr fin pc env (vi x :: stk) st := by
  refine G.lift (fun k w C H locs ls cells slots Q hh K => lv_tableOut C.x C.b d ?_ ht K) K
  rcases Int.lt_or_le x.toInt lo with h1 | h1
  · exact Or.inl h1
  · rcases Int.lt_or_le hi x.toInt with h2 | h2
    · exact Or.inr h2
    · refine absurd ?_ (hne (Int32.ofInt (lo + ((x.toInt - lo).toNat : Int))) ?_)
      · rw [show lo + ((x.toInt - lo).toNat : Int) = x.toInt by omega]
        simp
      · rw [← hl]
        exact List.mem_map.mpr ⟨(x.toInt - lo).toNat, List.mem_range.mpr (by omega), rfl⟩
theorem r_objInit {idx : Nat} {r : Rf} (d : decode cc pc = .ok (.invokespecial idx, 3)) (q : Cond.methodLink own idx Lib.objectInit ∈ lw_all) (hlev : 1 ≤ lev) (h2 : (stk.map evc).sum ≤ 20) {F : Option (β × Mem)} (h : nn r F = some fin) (K : F = some fin → G (cc, own, nm, lev, ret, mx) st0 tr fin (pc + 3) env stk st) : G (cc, own, nm, lev, ret, mx) st0 tr fin pc env (vr r :: stk) st := by
  cases r with
  | none => cases h
  | some a =>
    have K := K h
    refine ⟨K.1, fun k w C hg H locs ls hR hS hl => ?_⟩
    have h3 : lev ≤ (kR k).frames := C.fr
    have h4 : 100 * lev ≤ (kR k).locals := C.lo
    refine W.objInit C.x C.b C.o (C.wd q) (C.wd q134) (C.wd q135) rfl hl.1 rfl d (by omega) ?_ (K.2 k w C hg H locs ls hR hS hl)
    show 2 * 0 + ((skV w stk).map fun v => v.category).sum + 12 ≤ _
    rw [rest_sum]
    omega
end More
