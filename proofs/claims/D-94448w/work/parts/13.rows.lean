section Rows1
variable {cc : ByteArray} {own nm : String} {lev : Nat} {ret : Option FieldType} {mx : Nat} {st0 st : Mem} {β : Type} {tr : β → Rs} {fin : β × Mem} {pc : Nat} {env : List (Nat × Ev)} {stk : List Ev}
theorem r_iconst  {n : Int} {v : Int32} (d : decode cc pc = .ok (.iconst n, 1)) (hv : Int32.ofInt n = v) (K : G (cc, own, nm, lev, ret, mx) st0 tr fin (pc + 1) env (vi v :: stk) st) : G (cc, own, nm, lev, ret, mx) st0 tr fin pc env stk st := G.lift (fun k w C H locs ls cells slots Q hl K => lv_iconst C.x C.b d hv K) K
theorem r_bipush  {n : Int} {v : Int32} (d : decode cc pc = .ok (.bipush n, 2)) (hv : (Int8.ofInt n).toInt32 = v) (K : G (cc, own, nm, lev, ret, mx) st0 tr fin (pc + 2) env (vi v :: stk) st) : G (cc, own, nm, lev, ret, mx) st0 tr fin pc env stk st := G.lift (fun k w C H locs ls cells slots Q hl K => lv_bipush C.x C.b d hv K) K
theorem r_sipush  {n : Int} {v : Int32} (d : decode cc pc = .ok (.sipush n, 3)) (hv : (Int16.ofInt n).toInt32 = v) (K : G (cc, own, nm, lev, ret, mx) st0 tr fin (pc + 3) env (vi v :: stk) st) : G (cc, own, nm, lev, ret, mx) st0 tr fin pc env stk st := G.lift (fun k w C H locs ls cells slots Q hl K => lv_sipush C.x C.b d hv K) K
theorem r_lconst  {n : Fin 2} {v : Int64} (d : decode cc pc = .ok (.lconst n, 1)) (hv : Int64.ofNat (n : Nat) = v) (K : G (cc, own, nm, lev, ret, mx) st0 tr fin (pc + 1) env (vj v :: stk) st) : G (cc, own, nm, lev, ret, mx) st0 tr fin pc env stk st := G.lift (fun k w C H locs ls cells slots Q hl K => lv_lconst C.x C.b d hv K) K
theorem r_ldc  {i : Nat} {v : Int32} (d : decode cc pc = .ok (.ldc i, 2)) (q : Cond.constant own i v ∈ lw_all) (K : G (cc, own, nm, lev, ret, mx) st0 tr fin (pc + 2) env (vi v :: stk) st) : G (cc, own, nm, lev, ret, mx) st0 tr fin pc env stk st := G.lift (fun k w C H locs ls cells slots Q hl K => lv_ldc C.x C.b C.o (C.wd q) d K) K
theorem r_ldc_w  {i : Nat} {v : Int32} (d : decode cc pc = .ok (.ldc_w i, 3)) (q : Cond.constant own i v ∈ lw_all) (K : G (cc, own, nm, lev, ret, mx) st0 tr fin (pc + 3) env (vi v :: stk) st) : G (cc, own, nm, lev, ret, mx) st0 tr fin pc env stk st := G.lift (fun k w C H locs ls cells slots Q hl K => lv_ldcw C.x C.b C.o (C.wd q) d K) K
theorem r_ldc2  {i : Nat} {v : Int64} (d : decode cc pc = .ok (.ldc2_w i, 3)) (q : Cond.constantLong own i v ∈ lw_all) (K : G (cc, own, nm, lev, ret, mx) st0 tr fin (pc + 3) env (vj v :: stk) st) : G (cc, own, nm, lev, ret, mx) st0 tr fin pc env stk st := G.lift (fun k w C H locs ls cells slots Q hl K => lv_ldc2 C.x C.b C.o (C.wd q) d K) K
theorem r_null  (d : decode cc pc = .ok (.aconst_null, 1)) (K : G (cc, own, nm, lev, ret, mx) st0 tr fin (pc + 1) env (vr none :: stk) st) : G (cc, own, nm, lev, ret, mx) st0 tr fin pc env stk st := G.lift (fun k w C H locs ls cells slots Q hl K => lv_null C.x C.b d K) K
theorem r_iload_n  {n : Fin 4} {i : Nat} {x : Int32} (d : decode cc pc = .ok (.iload_n n, 1)) (j : Nat) (hi : (n : Nat) = i) (hl : env[j]? = some (i, vi x)) (K : G (cc, own, nm, lev, ret, mx) st0 tr fin (pc + 1) env (vi x :: stk) st) : G (cc, own, nm, lev, ret, mx) st0 tr fin pc env stk st := G.lift (fun k w C H locs ls cells slots Q hh K => lv_iload_n C.x C.b d hi (enV_at hh hl) K) K
theorem r_iload  {i : Nat} {x : Int32} (d : decode cc pc = .ok (.iload i, 2)) (j : Nat) (hl : env[j]? = some (i, vi x)) (K : G (cc, own, nm, lev, ret, mx) st0 tr fin (pc + 2) env (vi x :: stk) st) : G (cc, own, nm, lev, ret, mx) st0 tr fin pc env stk st := G.lift (fun k w C H locs ls cells slots Q hh K => lv_iload C.x C.b d (enV_at hh hl) K) K
theorem r_lload_n  {n : Fin 4} {i : Nat} {x : Int64} (d : decode cc pc = .ok (.lload_n n, 1)) (j : Nat) (hi : (n : Nat) = i) (hl : env[j]? = some (i, vj x)) (K : G (cc, own, nm, lev, ret, mx) st0 tr fin (pc + 1) env (vj x :: stk) st) : G (cc, own, nm, lev, ret, mx) st0 tr fin pc env stk st := G.lift (fun k w C H locs ls cells slots Q hh K => lv_lload_n C.x C.b d hi (enV_at hh hl) K) K
theorem r_lload  {i : Nat} {x : Int64} (d : decode cc pc = .ok (.lload i, 2)) (j : Nat) (hl : env[j]? = some (i, vj x)) (K : G (cc, own, nm, lev, ret, mx) st0 tr fin (pc + 2) env (vj x :: stk) st) : G (cc, own, nm, lev, ret, mx) st0 tr fin pc env stk st := G.lift (fun k w C H locs ls cells slots Q hh K => lv_lload C.x C.b d (enV_at hh hl) K) K
theorem r_aload_n  {n : Fin 4} {i : Nat} {x : Rf} (d : decode cc pc = .ok (.aload_n n, 1)) (j : Nat) (hi : (n : Nat) = i) (hl : env[j]? = some (i, vr x)) (K : G (cc, own, nm, lev, ret, mx) st0 tr fin (pc + 1) env (vr x :: stk) st) : G (cc, own, nm, lev, ret, mx) st0 tr fin pc env stk st := by
  cases x with
  | none => exact G.lift (fun k w C H locs ls cells slots Q hh K => lv_aload_nN C.x C.b d hi (enV_at hh hl) K) K
  | some a => exact G.lift (fun k w C H locs ls cells slots Q hh K => lv_aload_n C.x C.b d hi (enV_at hh hl) K) K
theorem r_aload  {i : Nat} {x : Rf} (d : decode cc pc = .ok (.aload i, 2)) (j : Nat) (hl : env[j]? = some (i, vr x)) (K : G (cc, own, nm, lev, ret, mx) st0 tr fin (pc + 2) env (vr x :: stk) st) : G (cc, own, nm, lev, ret, mx) st0 tr fin pc env stk st := by
  cases x with
  | none => exact G.lift (fun k w C H locs ls cells slots Q hh K => lv_aloadN C.x C.b d (enV_at hh hl) K) K
  | some a => exact G.lift (fun k w C H locs ls cells slots Q hh K => lv_aload C.x C.b d (enV_at hh hl) K) K
def flt1 (i : Nat) (q : Nat × Ev) : Bool := !(q.1 == i) && !(q.1 + 1 == i && evc q.2 == 2)
def flt2 (i : Nat) (q : Nat × Ev) : Bool := !(q.1 == i) && (!(q.1 == i + 1) && !(q.1 + 1 == i && evc q.2 == 2))
theorem enV_flt1 {w : Wd} (i : Nat) (x : Ev) (l : List (Nat × Ev)) : (i, evV w x) :: (enV w l).filter (fun q => !(q.1 == i) && !(q.1 + 1 == i && q.2.category == 2)) = enV w ((i, x) :: l.filter (flt1 i)) := by
  unfold enV
  rw [List.filter_map, List.map_cons]
  congr 2
  apply List.filter_congr
  intro q _
  simp [Function.comp, evV_cat, flt1]
theorem enV_flt2 {w : Wd} (i : Nat) (x : Ev) (l : List (Nat × Ev)) : (i, evV w x) :: (enV w l).filter (fun q => !(q.1 == i) && (!(q.1 == i + 1) && !(q.1 + 1 == i && q.2.category == 2))) = enV w ((i, x) :: l.filter (flt2 i)) := by
  unfold enV
  rw [List.filter_map, List.map_cons]
  congr 2
  apply List.filter_congr
  intro q _
  simp [Function.comp, evV_cat, flt2]
theorem r_istore_n  {n : Fin 4} {i : Nat} {x : Int32} {env' : List (Nat × Ev)} (d : decode cc pc = .ok (.istore_n n, 1)) (hi : (n : Nat) = i) (hn : i < mx) (he : (i, vi x) :: env.filter (flt1 i) = env') (K : G (cc, own, nm, lev, ret, mx) st0 tr fin (pc + 1) env' stk st) : G (cc, own, nm, lev, ret, mx) st0 tr fin pc env (vi x :: stk) st :=
  G.liftE (fun k w C H locs ls cells slots Q hh K => lv_istore_n C.x C.b d hi hh (by rw [C.m]; exact hn) ((enV_flt1 i (vi x) env).trans (congrArg _ he)) K) K
theorem r_istore  {i : Nat} {x : Int32} {env' : List (Nat × Ev)} (d : decode cc pc = .ok (.istore i, 2)) (hn : i < mx) (he : (i, vi x) :: env.filter (flt1 i) = env') (K : G (cc, own, nm, lev, ret, mx) st0 tr fin (pc + 2) env' stk st) : G (cc, own, nm, lev, ret, mx) st0 tr fin pc env (vi x :: stk) st :=
  G.liftE (fun k w C H locs ls cells slots Q hh K => lv_istore C.x C.b d hh (by rw [C.m]; exact hn) ((enV_flt1 i (vi x) env).trans (congrArg _ he)) K) K
theorem r_lstore_n  {n : Fin 4} {i : Nat} {x : Int64} {env' : List (Nat × Ev)} (d : decode cc pc = .ok (.lstore_n n, 1)) (hi : (n : Nat) = i) (hn : i + 1 < mx) (he : (i, vj x) :: env.filter (flt2 i) = env') (K : G (cc, own, nm, lev, ret, mx) st0 tr fin (pc + 1) env' stk st) : G (cc, own, nm, lev, ret, mx) st0 tr fin pc env (vj x :: stk) st :=
  G.liftE (fun k w C H locs ls cells slots Q hh K => lv_lstore_n C.x C.b d hi hh (by rw [C.m]; exact hn) ((enV_flt2 i (vj x) env).trans (congrArg _ he)) K) K
theorem r_lstore  {i : Nat} {x : Int64} {env' : List (Nat × Ev)} (d : decode cc pc = .ok (.lstore i, 2)) (hn : i + 1 < mx) (he : (i, vj x) :: env.filter (flt2 i) = env') (K : G (cc, own, nm, lev, ret, mx) st0 tr fin (pc + 2) env' stk st) : G (cc, own, nm, lev, ret, mx) st0 tr fin pc env (vj x :: stk) st :=
  G.liftE (fun k w C H locs ls cells slots Q hh K => lv_lstore C.x C.b d hh (by rw [C.m]; exact hn) ((enV_flt2 i (vj x) env).trans (congrArg _ he)) K) K
theorem r_astore_n  {n : Fin 4} {i : Nat} {x : Rf} {env' : List (Nat × Ev)} (d : decode cc pc = .ok (.astore_n n, 1)) (hi : (n : Nat) = i) (hn : i < mx) (he : (i, vr x) :: env.filter (flt1 i) = env') (K : G (cc, own, nm, lev, ret, mx) st0 tr fin (pc + 1) env' stk st) : G (cc, own, nm, lev, ret, mx) st0 tr fin pc env (vr x :: stk) st := by
  cases x with
  | none => exact G.liftE (fun k w C H locs ls cells slots Q hh K => lv_astore_nN C.x C.b d hi hh (by rw [C.m]; exact hn) ((enV_flt1 i (vr none) env).trans (congrArg _ he)) K) K
  | some a => exact G.liftE (fun k w C H locs ls cells slots Q hh K => lv_astore_n C.x C.b d hi hh (by rw [C.m]; exact hn) ((enV_flt1 i (vr (some a)) env).trans (congrArg _ he)) K) K
theorem r_astore  {i : Nat} {x : Rf} {env' : List (Nat × Ev)} (d : decode cc pc = .ok (.astore i, 2)) (hn : i < mx) (he : (i, vr x) :: env.filter (flt1 i) = env') (K : G (cc, own, nm, lev, ret, mx) st0 tr fin (pc + 2) env' stk st) : G (cc, own, nm, lev, ret, mx) st0 tr fin pc env (vr x :: stk) st := by
  cases x with
  | none => exact G.liftE (fun k w C H locs ls cells slots Q hh K => lv_astoreN C.x C.b d hh (by rw [C.m]; exact hn) ((enV_flt1 i (vr none) env).trans (congrArg _ he)) K) K
  | some a => exact G.liftE (fun k w C H locs ls cells slots Q hh K => lv_astore C.x C.b d hh (by rw [C.m]; exact hn) ((enV_flt1 i (vr (some a)) env).trans (congrArg _ he)) K) K
theorem r_iinc  {i : Nat} {n : Int} {x cst : Int32} {env' : List (Nat × Ev)} (d : decode cc pc = .ok (.iinc i n, 3)) (j : Nat) (hj : env[j]? = some (i, vi x)) (hv : Int32.ofInt n = cst) (hn : i < mx) (he : (i, vi (x + cst)) :: env.filter (flt1 i) = env') (K : G (cc, own, nm, lev, ret, mx) st0 tr fin (pc + 3) env' stk st) : G (cc, own, nm, lev, ret, mx) st0 tr fin pc env stk st :=
  G.liftE (fun k w C H locs ls cells slots Q hh K => lv_iinc (k := j) C.x C.b d hh (x := x) (v := x + cst) (by simp [enV, hj, evV]) (by rw [hv]) (by rw [C.m]; exact hn) ((enV_flt1 i (vi (x + cst)) env).trans (congrArg _ he)) K) K
theorem r_iadd  {x y : Int32} (d : decode cc pc = .ok (.iadd, 1)) (K : G (cc, own, nm, lev, ret, mx) st0 tr fin (pc + 1) env (vi (x + y) :: stk) st) : G (cc, own, nm, lev, ret, mx) st0 tr fin pc env (vi y :: vi x :: stk) st := G.lift (fun k w C H locs ls cells slots Q hl K => lv_iadd C.x C.b d K) K
theorem r_isub  {x y : Int32} (d : decode cc pc = .ok (.isub, 1)) (K : G (cc, own, nm, lev, ret, mx) st0 tr fin (pc + 1) env (vi (x - y) :: stk) st) : G (cc, own, nm, lev, ret, mx) st0 tr fin pc env (vi y :: vi x :: stk) st := G.lift (fun k w C H locs ls cells slots Q hl K => lv_isub C.x C.b d K) K
theorem r_imul  {x y : Int32} (d : decode cc pc = .ok (.imul, 1)) (K : G (cc, own, nm, lev, ret, mx) st0 tr fin (pc + 1) env (vi (x * y) :: stk) st) : G (cc, own, nm, lev, ret, mx) st0 tr fin pc env (vi y :: vi x :: stk) st := G.lift (fun k w C H locs ls cells slots Q hl K => lv_imul C.x C.b d K) K
theorem r_iand  {x y : Int32} (d : decode cc pc = .ok (.iand, 1)) (K : G (cc, own, nm, lev, ret, mx) st0 tr fin (pc + 1) env (vi (x &&& y) :: stk) st) : G (cc, own, nm, lev, ret, mx) st0 tr fin pc env (vi y :: vi x :: stk) st := G.lift (fun k w C H locs ls cells slots Q hl K => lv_iand C.x C.b d K) K
theorem r_ior  {x y : Int32} (d : decode cc pc = .ok (.ior, 1)) (K : G (cc, own, nm, lev, ret, mx) st0 tr fin (pc + 1) env (vi (x ||| y) :: stk) st) : G (cc, own, nm, lev, ret, mx) st0 tr fin pc env (vi y :: vi x :: stk) st := G.lift (fun k w C H locs ls cells slots Q hl K => lv_ior C.x C.b d K) K
theorem r_ixor  {x y : Int32} (d : decode cc pc = .ok (.ixor, 1)) (K : G (cc, own, nm, lev, ret, mx) st0 tr fin (pc + 1) env (vi (x ^^^ y) :: stk) st) : G (cc, own, nm, lev, ret, mx) st0 tr fin pc env (vi y :: vi x :: stk) st := G.lift (fun k w C H locs ls cells slots Q hl K => lv_ixor C.x C.b d K) K
theorem r_ishl  {x y : Int32} (d : decode cc pc = .ok (.ishl, 1)) (K : G (cc, own, nm, lev, ret, mx) st0 tr fin (pc + 1) env (vi (shlI x y) :: stk) st) : G (cc, own, nm, lev, ret, mx) st0 tr fin pc env (vi y :: vi x :: stk) st := G.lift (fun k w C H locs ls cells slots Q hl K => lv_ishl C.x C.b d K) K
theorem r_ishr  {x y : Int32} (d : decode cc pc = .ok (.ishr, 1)) (K : G (cc, own, nm, lev, ret, mx) st0 tr fin (pc + 1) env (vi (shrI x y) :: stk) st) : G (cc, own, nm, lev, ret, mx) st0 tr fin pc env (vi y :: vi x :: stk) st := G.lift (fun k w C H locs ls cells slots Q hl K => lv_ishr C.x C.b d K) K
theorem r_iushr  {x y : Int32} (d : decode cc pc = .ok (.iushr, 1)) (K : G (cc, own, nm, lev, ret, mx) st0 tr fin (pc + 1) env (vi (ushrI x y) :: stk) st) : G (cc, own, nm, lev, ret, mx) st0 tr fin pc env (vi y :: vi x :: stk) st := G.lift (fun k w C H locs ls cells slots Q hl K => lv_iushr C.x C.b d rfl K) K
theorem r_ladd  {x y : Int64} (d : decode cc pc = .ok (.ladd, 1)) (K : G (cc, own, nm, lev, ret, mx) st0 tr fin (pc + 1) env (vj (x + y) :: stk) st) : G (cc, own, nm, lev, ret, mx) st0 tr fin pc env (vj y :: vj x :: stk) st := G.lift (fun k w C H locs ls cells slots Q hl K => lv_ladd C.x C.b d K) K
theorem r_lsub  {x y : Int64} (d : decode cc pc = .ok (.lsub, 1)) (K : G (cc, own, nm, lev, ret, mx) st0 tr fin (pc + 1) env (vj (x - y) :: stk) st) : G (cc, own, nm, lev, ret, mx) st0 tr fin pc env (vj y :: vj x :: stk) st := G.lift (fun k w C H locs ls cells slots Q hl K => lv_lsub C.x C.b d K) K
theorem r_lmul  {x y : Int64} (d : decode cc pc = .ok (.lmul, 1)) (K : G (cc, own, nm, lev, ret, mx) st0 tr fin (pc + 1) env (vj (x * y) :: stk) st) : G (cc, own, nm, lev, ret, mx) st0 tr fin pc env (vj y :: vj x :: stk) st := G.lift (fun k w C H locs ls cells slots Q hl K => lv_lmul C.x C.b d K) K
theorem r_land  {x y : Int64} (d : decode cc pc = .ok (.land, 1)) (K : G (cc, own, nm, lev, ret, mx) st0 tr fin (pc + 1) env (vj (x &&& y) :: stk) st) : G (cc, own, nm, lev, ret, mx) st0 tr fin pc env (vj y :: vj x :: stk) st := G.lift (fun k w C H locs ls cells slots Q hl K => lv_land C.x C.b d K) K
theorem r_lor  {x y : Int64} (d : decode cc pc = .ok (.lor, 1)) (K : G (cc, own, nm, lev, ret, mx) st0 tr fin (pc + 1) env (vj (x ||| y) :: stk) st) : G (cc, own, nm, lev, ret, mx) st0 tr fin pc env (vj y :: vj x :: stk) st := G.lift (fun k w C H locs ls cells slots Q hl K => lv_lor C.x C.b d K) K
theorem r_lxor  {x y : Int64} (d : decode cc pc = .ok (.lxor, 1)) (K : G (cc, own, nm, lev, ret, mx) st0 tr fin (pc + 1) env (vj (x ^^^ y) :: stk) st) : G (cc, own, nm, lev, ret, mx) st0 tr fin pc env (vj y :: vj x :: stk) st := G.lift (fun k w C H locs ls cells slots Q hl K => lv_lxor C.x C.b d K) K
theorem r_lshl  {x : Int64} {y : Int32} (d : decode cc pc = .ok (.lshl, 1)) (K : G (cc, own, nm, lev, ret, mx) st0 tr fin (pc + 1) env (vj (shlL x y) :: stk) st) : G (cc, own, nm, lev, ret, mx) st0 tr fin pc env (vi y :: vj x :: stk) st := G.lift (fun k w C H locs ls cells slots Q hl K => lv_lshl C.x C.b d rfl K) K
theorem r_lshr  {x : Int64} {y : Int32} (d : decode cc pc = .ok (.lshr, 1)) (K : G (cc, own, nm, lev, ret, mx) st0 tr fin (pc + 1) env (vj (shrL x y) :: stk) st) : G (cc, own, nm, lev, ret, mx) st0 tr fin pc env (vi y :: vj x :: stk) st := G.lift (fun k w C H locs ls cells slots Q hl K => lv_lshr C.x C.b d rfl K) K
theorem r_lushr  {x : Int64} {y : Int32} (d : decode cc pc = .ok (.lushr, 1)) (K : G (cc, own, nm, lev, ret, mx) st0 tr fin (pc + 1) env (vj (ushrL x y) :: stk) st) : G (cc, own, nm, lev, ret, mx) st0 tr fin pc env (vi y :: vj x :: stk) st := G.lift (fun k w C H locs ls cells slots Q hl K => lv_lushr C.x C.b d rfl K) K
theorem r_ineg  {x : Int32} (d : decode cc pc = .ok (.ineg, 1)) (K : G (cc, own, nm, lev, ret, mx) st0 tr fin (pc + 1) env (vi (-x) :: stk) st) : G (cc, own, nm, lev, ret, mx) st0 tr fin pc env (vi x :: stk) st := G.lift (fun k w C H locs ls cells slots Q hl K => lv_ineg C.x C.b d K) K
theorem r_lneg  {x : Int64} (d : decode cc pc = .ok (.lneg, 1)) (K : G (cc, own, nm, lev, ret, mx) st0 tr fin (pc + 1) env (vj (-x) :: stk) st) : G (cc, own, nm, lev, ret, mx) st0 tr fin pc env (vj x :: stk) st := G.lift (fun k w C H locs ls cells slots Q hl K => lv_lneg C.x C.b d K) K
theorem r_i2l  {x : Int32} (d : decode cc pc = .ok (.i2l, 1)) (K : G (cc, own, nm, lev, ret, mx) st0 tr fin (pc + 1) env (vj (Int32.toInt64 x) :: stk) st) : G (cc, own, nm, lev, ret, mx) st0 tr fin pc env (vi x :: stk) st := G.lift (fun k w C H locs ls cells slots Q hl K => lv_i2l C.x C.b d rfl K) K
theorem r_l2i  {x : Int64} (d : decode cc pc = .ok (.l2i, 1)) (K : G (cc, own, nm, lev, ret, mx) st0 tr fin (pc + 1) env (vi (Int64.toInt32 x) :: stk) st) : G (cc, own, nm, lev, ret, mx) st0 tr fin pc env (vj x :: stk) st := G.lift (fun k w C H locs ls cells slots Q hl K => lv_l2i C.x C.b d rfl K) K
theorem r_i2b  {x : Int32} (d : decode cc pc = .ok (.i2b, 1)) (K : G (cc, own, nm, lev, ret, mx) st0 tr fin (pc + 1) env (vi (i2bv x) :: stk) st) : G (cc, own, nm, lev, ret, mx) st0 tr fin pc env (vi x :: stk) st := G.lift (fun k w C H locs ls cells slots Q hl K => lv_i2b C.x C.b d rfl K) K
theorem r_i2c  {x : Int32} (d : decode cc pc = .ok (.i2c, 1)) (K : G (cc, own, nm, lev, ret, mx) st0 tr fin (pc + 1) env (vi (i2cv x) :: stk) st) : G (cc, own, nm, lev, ret, mx) st0 tr fin pc env (vi x :: stk) st := G.lift (fun k w C H locs ls cells slots Q hl K => lv_i2c C.x C.b d rfl K) K
theorem r_idiv  {x y : Int32} {F : Int32 → Option (β × Mem)} (d : decode cc pc = .ok (.idiv, 1)) (h : (dvI x y).bind F = some fin) (K : ∀ z, dvI x y = some z → F z = some fin → G (cc, own, nm, lev, ret, mx) st0 tr fin (pc + 1) env (vi z :: stk) st) : G (cc, own, nm, lev, ret, mx) st0 tr fin pc env (vi y :: vi x :: stk) st := by
  by_cases hy : y = 0
  · simp [dvI, hy] at h
  · rw [show dvI x y = some _ from if_neg hy] at h
    exact G.lift (fun k w C H locs ls cells slots Q hl K => lv_idiv C.x C.b d hy K) (K _ (if_neg hy) h)
theorem r_irem  {x y : Int32} {F : Int32 → Option (β × Mem)} (d : decode cc pc = .ok (.irem, 1)) (h : (rmI x y).bind F = some fin) (K : ∀ z, rmI x y = some z → F z = some fin → G (cc, own, nm, lev, ret, mx) st0 tr fin (pc + 1) env (vi z :: stk) st) : G (cc, own, nm, lev, ret, mx) st0 tr fin pc env (vi y :: vi x :: stk) st := by
  by_cases hy : y = 0
  · simp [rmI, hy] at h
  · rw [show rmI x y = some _ from if_neg hy] at h
    exact G.lift (fun k w C H locs ls cells slots Q hl K => lv_irem C.x C.b d hy K) (K _ (if_neg hy) h)
theorem r_ldiv  {x y : Int64} {F : Int64 → Option (β × Mem)} (d : decode cc pc = .ok (.ldiv, 1)) (h : (dvL x y).bind F = some fin) (K : ∀ z, dvL x y = some z → F z = some fin → G (cc, own, nm, lev, ret, mx) st0 tr fin (pc + 1) env (vj z :: stk) st) : G (cc, own, nm, lev, ret, mx) st0 tr fin pc env (vj y :: vj x :: stk) st := by
  by_cases hy : y = 0
  · simp [dvL, hy] at h
  · rw [show dvL x y = some _ from if_neg hy] at h
    exact G.lift (fun k w C H locs ls cells slots Q hl K => lv_ldiv C.x C.b d hy K) (K _ (if_neg hy) h)
theorem r_lrem  {x y : Int64} {F : Int64 → Option (β × Mem)} (d : decode cc pc = .ok (.lrem, 1)) (h : (rmL x y).bind F = some fin) (K : ∀ z, rmL x y = some z → F z = some fin → G (cc, own, nm, lev, ret, mx) st0 tr fin (pc + 1) env (vj z :: stk) st) : G (cc, own, nm, lev, ret, mx) st0 tr fin pc env (vj y :: vj x :: stk) st := by
  by_cases hy : y = 0
  · simp [rmL, hy] at h
  · rw [show rmL x y = some _ from if_neg hy] at h
    exact G.lift (fun k w C H locs ls cells slots Q hl K => lv_lrem C.x C.b d hy K) (K _ (if_neg hy) h)
theorem r_dup  {v : Ev} (d : decode cc pc = .ok (.dup, 1)) (hv : evc v = 1) (K : G (cc, own, nm, lev, ret, mx) st0 tr fin (pc + 1) env (v :: v :: stk) st) : G (cc, own, nm, lev, ret, mx) st0 tr fin pc env (v :: stk) st := G.lift (fun k w C H locs ls cells slots Q hl K => lv_dup C.x C.b d ((evV_cat w v).trans hv) K) K
theorem r_pop  {v : Ev} (d : decode cc pc = .ok (.pop, 1)) (hv : evc v = 1) (K : G (cc, own, nm, lev, ret, mx) st0 tr fin (pc + 1) env stk st) : G (cc, own, nm, lev, ret, mx) st0 tr fin pc env (v :: stk) st := G.lift (fun k w C H locs ls cells slots Q hl K => lv_pop C.x C.b d ((evV_cat w v).trans hv) K) K
theorem r_dup_x1  {v u : Ev} (d : decode cc pc = .ok (.dup_x1, 1)) (hv : evc v = 1) (hu : evc u = 1) (K : G (cc, own, nm, lev, ret, mx) st0 tr fin (pc + 1) env (v :: u :: v :: stk) st) : G (cc, own, nm, lev, ret, mx) st0 tr fin pc env (v :: u :: stk) st := G.lift (fun k w C H locs ls cells slots Q hl K => lv_dup_x1 C.x C.b d ((evV_cat w v).trans hv) ((evV_cat w u).trans hu) K) K
theorem r_dup2_11  {v u : Ev} (d : decode cc pc = .ok (.dup2, 1)) (hv : evc v = 1) (hu : evc u = 1) (K : G (cc, own, nm, lev, ret, mx) st0 tr fin (pc + 1) env (v :: u :: v :: u :: stk) st) : G (cc, own, nm, lev, ret, mx) st0 tr fin pc env (v :: u :: stk) st := G.lift (fun k w C H locs ls cells slots Q hl K => lv_dup2_11 C.x C.b d ((evV_cat w v).trans hv) ((evV_cat w u).trans hu) K) K
theorem r_dup2_2  {v : Ev} (d : decode cc pc = .ok (.dup2, 1)) (hv : evc v = 2) (K : G (cc, own, nm, lev, ret, mx) st0 tr fin (pc + 1) env (v :: v :: stk) st) : G (cc, own, nm, lev, ret, mx) st0 tr fin pc env (v :: stk) st := G.lift (fun k w C H locs ls cells slots Q hl K => lv_dup2_2 C.x C.b d ((evV_cat w v).trans hv) K) K
theorem r_goto  {off : Int} {tgt : Nat} (d : decode cc pc = .ok (.goto off, 3)) (ht : (pc : Int) + off = (tgt : Int)) (K : G (cc, own, nm, lev, ret, mx) st0 tr fin tgt env stk st) : G (cc, own, nm, lev, ret, mx) st0 tr fin pc env stk st := G.lift (fun k w C H locs ls cells slots Q hl K => lv_goto C.x C.b d ht K) K
theorem r_icmp_eq  {x y : Int32} {off : Int} {tgt : Nat} {A B : Option (β × Mem)} (d : decode cc pc = .ok (.if_icmp .eq off, 3)) (ht : (pc : Int) + off = (tgt : Int)) (h : (if x = y then A else B) = some fin) (kt : x = y → A = some fin → G (cc, own, nm, lev, ret, mx) st0 tr fin tgt env stk st) (kf : ¬ (x = y) → B = some fin → G (cc, own, nm, lev, ret, mx) st0 tr fin (pc + 3) env stk st) : G (cc, own, nm, lev, ret, mx) st0 tr fin pc env (vi y :: vi x :: stk) st := by
  by_cases c : x = y
  · rw [if_pos c] at h
    exact G.lift (fun k w C H locs ls cells slots Q hl K => lv_icmp_eq C.x C.b d ht (fun _ => K) (fun n => absurd c n)) (kt c h)
  · rw [if_neg c] at h
    exact G.lift (fun k w C H locs ls cells slots Q hl K => lv_icmp_eq C.x C.b d ht (fun n => absurd n c) (fun _ => K)) (kf c h)
theorem r_if_eq  {x : Int32} {off : Int} {tgt : Nat} {A B : Option (β × Mem)} (d : decode cc pc = .ok (.ifCond .eq off, 3)) (ht : (pc : Int) + off = (tgt : Int)) (h : (if x = 0 then A else B) = some fin) (kt : x = 0 → A = some fin → G (cc, own, nm, lev, ret, mx) st0 tr fin tgt env stk st) (kf : ¬ (x = 0) → B = some fin → G (cc, own, nm, lev, ret, mx) st0 tr fin (pc + 3) env stk st) : G (cc, own, nm, lev, ret, mx) st0 tr fin pc env (vi x :: stk) st := by
  by_cases c : x = 0
  · rw [if_pos c] at h
    exact G.lift (fun k w C H locs ls cells slots Q hl K => lv_if_eq C.x C.b d ht (fun _ => K) (fun n => absurd c n)) (kt c h)
  · rw [if_neg c] at h
    exact G.lift (fun k w C H locs ls cells slots Q hl K => lv_if_eq C.x C.b d ht (fun n => absurd n c) (fun _ => K)) (kf c h)
theorem r_icmp_ne  {x y : Int32} {off : Int} {tgt : Nat} {A B : Option (β × Mem)} (d : decode cc pc = .ok (.if_icmp .ne off, 3)) (ht : (pc : Int) + off = (tgt : Int)) (h : (if ¬ x = y then A else B) = some fin) (kt : ¬ x = y → A = some fin → G (cc, own, nm, lev, ret, mx) st0 tr fin tgt env stk st) (kf : ¬ (¬ x = y) → B = some fin → G (cc, own, nm, lev, ret, mx) st0 tr fin (pc + 3) env stk st) : G (cc, own, nm, lev, ret, mx) st0 tr fin pc env (vi y :: vi x :: stk) st := by
  by_cases c : ¬ x = y
  · rw [if_pos c] at h
    exact G.lift (fun k w C H locs ls cells slots Q hl K => lv_icmp_ne C.x C.b d ht (fun _ => K) (fun n => absurd n c)) (kt c h)
  · rw [if_neg c] at h
    exact G.lift (fun k w C H locs ls cells slots Q hl K => lv_icmp_ne C.x C.b d ht (fun n => absurd n c) (fun _ => K)) (kf c h)
theorem r_if_ne  {x : Int32} {off : Int} {tgt : Nat} {A B : Option (β × Mem)} (d : decode cc pc = .ok (.ifCond .ne off, 3)) (ht : (pc : Int) + off = (tgt : Int)) (h : (if ¬ x = 0 then A else B) = some fin) (kt : ¬ x = 0 → A = some fin → G (cc, own, nm, lev, ret, mx) st0 tr fin tgt env stk st) (kf : ¬ (¬ x = 0) → B = some fin → G (cc, own, nm, lev, ret, mx) st0 tr fin (pc + 3) env stk st) : G (cc, own, nm, lev, ret, mx) st0 tr fin pc env (vi x :: stk) st := by
  by_cases c : ¬ x = 0
  · rw [if_pos c] at h
    exact G.lift (fun k w C H locs ls cells slots Q hl K => lv_if_ne C.x C.b d ht (fun _ => K) (fun n => absurd n c)) (kt c h)
  · rw [if_neg c] at h
    exact G.lift (fun k w C H locs ls cells slots Q hl K => lv_if_ne C.x C.b d ht (fun n => absurd n c) (fun _ => K)) (kf c h)
theorem r_icmp_lt  {x y : Int32} {off : Int} {tgt : Nat} {A B : Option (β × Mem)} (d : decode cc pc = .ok (.if_icmp .lt off, 3)) (ht : (pc : Int) + off = (tgt : Int)) (h : (if x < y then A else B) = some fin) (kt : x < y → A = some fin → G (cc, own, nm, lev, ret, mx) st0 tr fin tgt env stk st) (kf : ¬ (x < y) → B = some fin → G (cc, own, nm, lev, ret, mx) st0 tr fin (pc + 3) env stk st) : G (cc, own, nm, lev, ret, mx) st0 tr fin pc env (vi y :: vi x :: stk) st := by
  by_cases c : x < y
  · rw [if_pos c] at h
    exact G.lift (fun k w C H locs ls cells slots Q hl K => lv_icmp_lt C.x C.b d ht (fun _ => K) (fun n => absurd c n)) (kt c h)
  · rw [if_neg c] at h
    exact G.lift (fun k w C H locs ls cells slots Q hl K => lv_icmp_lt C.x C.b d ht (fun n => absurd n c) (fun _ => K)) (kf c h)
theorem r_if_lt  {x : Int32} {off : Int} {tgt : Nat} {A B : Option (β × Mem)} (d : decode cc pc = .ok (.ifCond .lt off, 3)) (ht : (pc : Int) + off = (tgt : Int)) (h : (if x < 0 then A else B) = some fin) (kt : x < 0 → A = some fin → G (cc, own, nm, lev, ret, mx) st0 tr fin tgt env stk st) (kf : ¬ (x < 0) → B = some fin → G (cc, own, nm, lev, ret, mx) st0 tr fin (pc + 3) env stk st) : G (cc, own, nm, lev, ret, mx) st0 tr fin pc env (vi x :: stk) st := by
  by_cases c : x < 0
  · rw [if_pos c] at h
    exact G.lift (fun k w C H locs ls cells slots Q hl K => lv_if_lt C.x C.b d ht (fun _ => K) (fun n => absurd c n)) (kt c h)
  · rw [if_neg c] at h
    exact G.lift (fun k w C H locs ls cells slots Q hl K => lv_if_lt C.x C.b d ht (fun n => absurd n c) (fun _ => K)) (kf c h)
theorem r_icmp_ge  {x y : Int32} {off : Int} {tgt : Nat} {A B : Option (β × Mem)} (d : decode cc pc = .ok (.if_icmp .ge off, 3)) (ht : (pc : Int) + off = (tgt : Int)) (h : (if y ≤ x then A else B) = some fin) (kt : y ≤ x → A = some fin → G (cc, own, nm, lev, ret, mx) st0 tr fin tgt env stk st) (kf : ¬ (y ≤ x) → B = some fin → G (cc, own, nm, lev, ret, mx) st0 tr fin (pc + 3) env stk st) : G (cc, own, nm, lev, ret, mx) st0 tr fin pc env (vi y :: vi x :: stk) st := by
  by_cases c : y ≤ x
  · rw [if_pos c] at h
    exact G.lift (fun k w C H locs ls cells slots Q hl K => lv_icmp_ge C.x C.b d ht (fun _ => K) (fun n => absurd c n)) (kt c h)
  · rw [if_neg c] at h
    exact G.lift (fun k w C H locs ls cells slots Q hl K => lv_icmp_ge C.x C.b d ht (fun n => absurd n c) (fun _ => K)) (kf c h)
theorem r_if_ge  {x : Int32} {off : Int} {tgt : Nat} {A B : Option (β × Mem)} (d : decode cc pc = .ok (.ifCond .ge off, 3)) (ht : (pc : Int) + off = (tgt : Int)) (h : (if 0 ≤ x then A else B) = some fin) (kt : 0 ≤ x → A = some fin → G (cc, own, nm, lev, ret, mx) st0 tr fin tgt env stk st) (kf : ¬ (0 ≤ x) → B = some fin → G (cc, own, nm, lev, ret, mx) st0 tr fin (pc + 3) env stk st) : G (cc, own, nm, lev, ret, mx) st0 tr fin pc env (vi x :: stk) st := by
  by_cases c : 0 ≤ x
  · rw [if_pos c] at h
    exact G.lift (fun k w C H locs ls cells slots Q hl K => lv_if_ge C.x C.b d ht (fun _ => K) (fun n => absurd c n)) (kt c h)
  · rw [if_neg c] at h
    exact G.lift (fun k w C H locs ls cells slots Q hl K => lv_if_ge C.x C.b d ht (fun n => absurd n c) (fun _ => K)) (kf c h)
theorem r_icmp_gt  {x y : Int32} {off : Int} {tgt : Nat} {A B : Option (β × Mem)} (d : decode cc pc = .ok (.if_icmp .gt off, 3)) (ht : (pc : Int) + off = (tgt : Int)) (h : (if y < x then A else B) = some fin) (kt : y < x → A = some fin → G (cc, own, nm, lev, ret, mx) st0 tr fin tgt env stk st) (kf : ¬ (y < x) → B = some fin → G (cc, own, nm, lev, ret, mx) st0 tr fin (pc + 3) env stk st) : G (cc, own, nm, lev, ret, mx) st0 tr fin pc env (vi y :: vi x :: stk) st := by
  by_cases c : y < x
  · rw [if_pos c] at h
    exact G.lift (fun k w C H locs ls cells slots Q hl K => lv_icmp_gt C.x C.b d ht (fun _ => K) (fun n => absurd c n)) (kt c h)
  · rw [if_neg c] at h
    exact G.lift (fun k w C H locs ls cells slots Q hl K => lv_icmp_gt C.x C.b d ht (fun n => absurd n c) (fun _ => K)) (kf c h)
theorem r_if_gt  {x : Int32} {off : Int} {tgt : Nat} {A B : Option (β × Mem)} (d : decode cc pc = .ok (.ifCond .gt off, 3)) (ht : (pc : Int) + off = (tgt : Int)) (h : (if 0 < x then A else B) = some fin) (kt : 0 < x → A = some fin → G (cc, own, nm, lev, ret, mx) st0 tr fin tgt env stk st) (kf : ¬ (0 < x) → B = some fin → G (cc, own, nm, lev, ret, mx) st0 tr fin (pc + 3) env stk st) : G (cc, own, nm, lev, ret, mx) st0 tr fin pc env (vi x :: stk) st := by
  by_cases c : 0 < x
  · rw [if_pos c] at h
    exact G.lift (fun k w C H locs ls cells slots Q hl K => lv_if_gt C.x C.b d ht (fun _ => K) (fun n => absurd c n)) (kt c h)
  · rw [if_neg c] at h
    exact G.lift (fun k w C H locs ls cells slots Q hl K => lv_if_gt C.x C.b d ht (fun n => absurd n c) (fun _ => K)) (kf c h)
theorem r_icmp_le  {x y : Int32} {off : Int} {tgt : Nat} {A B : Option (β × Mem)} (d : decode cc pc = .ok (.if_icmp .le off, 3)) (ht : (pc : Int) + off = (tgt : Int)) (h : (if x ≤ y then A else B) = some fin) (kt : x ≤ y → A = some fin → G (cc, own, nm, lev, ret, mx) st0 tr fin tgt env stk st) (kf : ¬ (x ≤ y) → B = some fin → G (cc, own, nm, lev, ret, mx) st0 tr fin (pc + 3) env stk st) : G (cc, own, nm, lev, ret, mx) st0 tr fin pc env (vi y :: vi x :: stk) st := by
  by_cases c : x ≤ y
  · rw [if_pos c] at h
    exact G.lift (fun k w C H locs ls cells slots Q hl K => lv_icmp_le C.x C.b d ht (fun _ => K) (fun n => absurd c n)) (kt c h)
  · rw [if_neg c] at h
    exact G.lift (fun k w C H locs ls cells slots Q hl K => lv_icmp_le C.x C.b d ht (fun n => absurd n c) (fun _ => K)) (kf c h)
theorem r_if_le  {x : Int32} {off : Int} {tgt : Nat} {A B : Option (β × Mem)} (d : decode cc pc = .ok (.ifCond .le off, 3)) (ht : (pc : Int) + off = (tgt : Int)) (h : (if x ≤ 0 then A else B) = some fin) (kt : x ≤ 0 → A = some fin → G (cc, own, nm, lev, ret, mx) st0 tr fin tgt env stk st) (kf : ¬ (x ≤ 0) → B = some fin → G (cc, own, nm, lev, ret, mx) st0 tr fin (pc + 3) env stk st) : G (cc, own, nm, lev, ret, mx) st0 tr fin pc env (vi x :: stk) st := by
  by_cases c : x ≤ 0
  · rw [if_pos c] at h
    exact G.lift (fun k w C H locs ls cells slots Q hl K => lv_if_le C.x C.b d ht (fun _ => K) (fun n => absurd c n)) (kt c h)
  · rw [if_neg c] at h
    exact G.lift (fun k w C H locs ls cells slots Q hl K => lv_if_le C.x C.b d ht (fun n => absurd n c) (fun _ => K)) (kf c h)
theorem lcmp_eq (x y : Int64) : lg_cmp x y = 0 ↔ x = y := by
  unfold lg_cmp
  by_cases h : y < x
  · rw [if_pos h]
    refine ⟨fun e => absurd e (by decide), fun e => ?_⟩
    subst e
    exact absurd (Int64.lt_iff_toInt_lt.mp h) (Int.lt_irrefl _)
  · rw [if_neg h]
    by_cases h2 : x = y
    · rw [if_pos h2]; exact ⟨fun _ => h2, fun _ => rfl⟩
    · rw [if_neg h2]; exact ⟨fun e => absurd e (by decide), fun e => absurd e h2⟩
theorem lcmp_gt (x y : Int64) : 0 < lg_cmp x y ↔ y < x := by
  unfold lg_cmp
  by_cases h : y < x
  · rw [if_pos h]; exact ⟨fun _ => h, fun _ => by decide⟩
  · rw [if_neg h]
    by_cases h2 : x = y
    · rw [if_pos h2]; exact ⟨fun e => absurd e (by decide), fun e => absurd e h⟩
    · rw [if_neg h2]; exact ⟨fun e => absurd e (by decide), fun e => absurd e h⟩
theorem lcmp_lt (x y : Int64) : lg_cmp x y < 0 ↔ x < y := by
  unfold lg_cmp
  by_cases h : y < x
  · rw [if_pos h]
    refine ⟨fun e => absurd e (by decide), fun e => ?_⟩
    have h1 := Int64.lt_iff_toInt_lt.mp h
    have h2 := Int64.lt_iff_toInt_lt.mp e
    omega
  · rw [if_neg h]
    by_cases h2 : x = y
    · rw [if_pos h2]
      refine ⟨fun e => absurd e (by decide), fun e => ?_⟩
      subst h2
      exact absurd e h
    · rw [if_neg h2]
      refine ⟨fun _ => ?_, fun _ => by decide⟩
      rw [Int64.lt_iff_toInt_lt] at h ⊢
      have h3 : x.toInt ≠ y.toInt := fun e => h2 (Int64.toInt_inj.mp e)
      omega
theorem lcmp_ge (x y : Int64) : 0 ≤ lg_cmp x y ↔ y ≤ x := by
  have h := lcmp_lt x y
  rw [Int32.lt_iff_toInt_lt, Int64.lt_iff_toInt_lt] at h
  rw [Int32.le_iff_toInt_le, Int64.le_iff_toInt_le]
  constructor
  · intro h1
    rcases Int.lt_or_le x.toInt y.toInt with h2 | h2
    · have := h.mpr h2; omega
    · exact h2
  · intro h1
    rcases Int.lt_or_le (lg_cmp x y).toInt (0 : Int32).toInt with h2 | h2
    · have := h.mp h2; omega
    · exact h2
theorem lcmp_le (x y : Int64) : lg_cmp x y ≤ 0 ↔ x ≤ y := by
  have h := lcmp_gt x y
  rw [Int32.lt_iff_toInt_lt, Int64.lt_iff_toInt_lt] at h
  rw [Int32.le_iff_toInt_le, Int64.le_iff_toInt_le]
  constructor
  · intro h1
    rcases Int.lt_or_le y.toInt x.toInt with h2 | h2
    · have := h.mpr h2; omega
    · exact h2
  · intro h1
    rcases Int.lt_or_le (0 : Int32).toInt (lg_cmp x y).toInt with h2 | h2
    · have := h.mp h2; omega
    · exact h2
theorem r_lcmp_eq  {x y : Int64} {off : Int} {tgt : Nat} {A B : Option (β × Mem)} (d : decode cc pc = .ok (.lcmp, 1)) (d2 : decode cc (pc + 1) = .ok (.ifCond .eq off, 3)) (ht : ((pc + 1 : Nat) : Int) + off = (tgt : Int)) (h : (if x = y then A else B) = some fin) (kt : x = y → A = some fin → G (cc, own, nm, lev, ret, mx) st0 tr fin tgt env stk st) (kf : ¬ (x = y) → B = some fin → G (cc, own, nm, lev, ret, mx) st0 tr fin (pc + 1 + 3) env stk st) : G (cc, own, nm, lev, ret, mx) st0 tr fin pc env (vj y :: vj x :: stk) st := by
  by_cases c : x = y
  · rw [if_pos c] at h
    exact G.lift (fun k w C H locs ls cells slots Q hl K => W.lcmp C.x C.b d (lv_if_eq C.x C.b d2 ht (fun _ => K) (fun n => absurd ((lcmp_eq x y).mpr c) n))) (kt c h)
  · rw [if_neg c] at h
    exact G.lift (fun k w C H locs ls cells slots Q hl K => W.lcmp C.x C.b d (lv_if_eq C.x C.b d2 ht (fun n => absurd ((lcmp_eq x y).mp n) c) (fun _ => K))) (kf c h)
theorem r_lcmp_ne  {x y : Int64} {off : Int} {tgt : Nat} {A B : Option (β × Mem)} (d : decode cc pc = .ok (.lcmp, 1)) (d2 : decode cc (pc + 1) = .ok (.ifCond .ne off, 3)) (ht : ((pc + 1 : Nat) : Int) + off = (tgt : Int)) (h : (if ¬ x = y then A else B) = some fin) (kt : ¬ x = y → A = some fin → G (cc, own, nm, lev, ret, mx) st0 tr fin tgt env stk st) (kf : ¬ (¬ x = y) → B = some fin → G (cc, own, nm, lev, ret, mx) st0 tr fin (pc + 1 + 3) env stk st) : G (cc, own, nm, lev, ret, mx) st0 tr fin pc env (vj y :: vj x :: stk) st := by
  by_cases c : ¬ x = y
  · rw [if_pos c] at h
    exact G.lift (fun k w C H locs ls cells slots Q hl K => W.lcmp C.x C.b d (lv_if_ne C.x C.b d2 ht (fun _ => K) (fun n => absurd ((lcmp_eq x y).mp n) c))) (kt c h)
  · rw [if_neg c] at h
    exact G.lift (fun k w C H locs ls cells slots Q hl K => W.lcmp C.x C.b d (lv_if_ne C.x C.b d2 ht (fun n => absurd ((not_congr (lcmp_eq x y)).mp n) c) (fun _ => K))) (kf c h)
theorem r_lcmp_lt  {x y : Int64} {off : Int} {tgt : Nat} {A B : Option (β × Mem)} (d : decode cc pc = .ok (.lcmp, 1)) (d2 : decode cc (pc + 1) = .ok (.ifCond .lt off, 3)) (ht : ((pc + 1 : Nat) : Int) + off = (tgt : Int)) (h : (if x < y then A else B) = some fin) (kt : x < y → A = some fin → G (cc, own, nm, lev, ret, mx) st0 tr fin tgt env stk st) (kf : ¬ (x < y) → B = some fin → G (cc, own, nm, lev, ret, mx) st0 tr fin (pc + 1 + 3) env stk st) : G (cc, own, nm, lev, ret, mx) st0 tr fin pc env (vj y :: vj x :: stk) st := by
  by_cases c : x < y
  · rw [if_pos c] at h
    exact G.lift (fun k w C H locs ls cells slots Q hl K => W.lcmp C.x C.b d (lv_if_lt C.x C.b d2 ht (fun _ => K) (fun n => absurd ((lcmp_lt x y).mpr c) n))) (kt c h)
  · rw [if_neg c] at h
    exact G.lift (fun k w C H locs ls cells slots Q hl K => W.lcmp C.x C.b d (lv_if_lt C.x C.b d2 ht (fun n => absurd ((lcmp_lt x y).mp n) c) (fun _ => K))) (kf c h)
theorem r_lcmp_gt  {x y : Int64} {off : Int} {tgt : Nat} {A B : Option (β × Mem)} (d : decode cc pc = .ok (.lcmp, 1)) (d2 : decode cc (pc + 1) = .ok (.ifCond .gt off, 3)) (ht : ((pc + 1 : Nat) : Int) + off = (tgt : Int)) (h : (if y < x then A else B) = some fin) (kt : y < x → A = some fin → G (cc, own, nm, lev, ret, mx) st0 tr fin tgt env stk st) (kf : ¬ (y < x) → B = some fin → G (cc, own, nm, lev, ret, mx) st0 tr fin (pc + 1 + 3) env stk st) : G (cc, own, nm, lev, ret, mx) st0 tr fin pc env (vj y :: vj x :: stk) st := by
  by_cases c : y < x
  · rw [if_pos c] at h
    exact G.lift (fun k w C H locs ls cells slots Q hl K => W.lcmp C.x C.b d (lv_if_gt C.x C.b d2 ht (fun _ => K) (fun n => absurd ((lcmp_gt x y).mpr c) n))) (kt c h)
  · rw [if_neg c] at h
    exact G.lift (fun k w C H locs ls cells slots Q hl K => W.lcmp C.x C.b d (lv_if_gt C.x C.b d2 ht (fun n => absurd ((lcmp_gt x y).mp n) c) (fun _ => K))) (kf c h)
theorem r_lcmp_ge  {x y : Int64} {off : Int} {tgt : Nat} {A B : Option (β × Mem)} (d : decode cc pc = .ok (.lcmp, 1)) (d2 : decode cc (pc + 1) = .ok (.ifCond .ge off, 3)) (ht : ((pc + 1 : Nat) : Int) + off = (tgt : Int)) (h : (if y ≤ x then A else B) = some fin) (kt : y ≤ x → A = some fin → G (cc, own, nm, lev, ret, mx) st0 tr fin tgt env stk st) (kf : ¬ (y ≤ x) → B = some fin → G (cc, own, nm, lev, ret, mx) st0 tr fin (pc + 1 + 3) env stk st) : G (cc, own, nm, lev, ret, mx) st0 tr fin pc env (vj y :: vj x :: stk) st := by
  by_cases c : y ≤ x
  · rw [if_pos c] at h
    exact G.lift (fun k w C H locs ls cells slots Q hl K => W.lcmp C.x C.b d (lv_if_ge C.x C.b d2 ht (fun _ => K) (fun n => absurd ((lcmp_ge x y).mpr c) n))) (kt c h)
  · rw [if_neg c] at h
    exact G.lift (fun k w C H locs ls cells slots Q hl K => W.lcmp C.x C.b d (lv_if_ge C.x C.b d2 ht (fun n => absurd ((lcmp_ge x y).mp n) c) (fun _ => K))) (kf c h)
theorem r_lcmp_le  {x y : Int64} {off : Int} {tgt : Nat} {A B : Option (β × Mem)} (d : decode cc pc = .ok (.lcmp, 1)) (d2 : decode cc (pc + 1) = .ok (.ifCond .le off, 3)) (ht : ((pc + 1 : Nat) : Int) + off = (tgt : Int)) (h : (if x ≤ y then A else B) = some fin) (kt : x ≤ y → A = some fin → G (cc, own, nm, lev, ret, mx) st0 tr fin tgt env stk st) (kf : ¬ (x ≤ y) → B = some fin → G (cc, own, nm, lev, ret, mx) st0 tr fin (pc + 1 + 3) env stk st) : G (cc, own, nm, lev, ret, mx) st0 tr fin pc env (vj y :: vj x :: stk) st := by
  by_cases c : x ≤ y
  · rw [if_pos c] at h
    exact G.lift (fun k w C H locs ls cells slots Q hl K => W.lcmp C.x C.b d (lv_if_le C.x C.b d2 ht (fun _ => K) (fun n => absurd ((lcmp_le x y).mpr c) n))) (kt c h)
  · rw [if_neg c] at h
    exact G.lift (fun k w C H locs ls cells slots Q hl K => W.lcmp C.x C.b d (lv_if_le C.x C.b d2 ht (fun n => absurd ((lcmp_le x y).mp n) c) (fun _ => K))) (kf c h)
theorem r_ifnull  {x : Rf} {off : Int} {tgt : Nat} {A B : Option (β × Mem)} (d : decode cc pc = .ok (.ifnull off, 3)) (ht : (pc : Int) + off = (tgt : Int)) (h : (if x = none then A else B) = some fin) (kt : x = none → A = some fin → G (cc, own, nm, lev, ret, mx) st0 tr fin tgt env stk st) (kf : ¬ (x = none) → B = some fin → G (cc, own, nm, lev, ret, mx) st0 tr fin (pc + 3) env stk st) : G (cc, own, nm, lev, ret, mx) st0 tr fin pc env (vr x :: stk) st := by
  cases x with
  | none => exact G.lift (fun k w C H locs ls cells slots Q hl K => lv_ifnullN C.x C.b d ht K) (kt rfl (by simpa using h))
  | some a => exact G.lift (fun k w C H locs ls cells slots Q hl K => lv_ifnull C.x C.b d K) (kf (by simp) (by simpa using h))
theorem r_ifnonnull  {x : Rf} {off : Int} {tgt : Nat} {A B : Option (β × Mem)} (d : decode cc pc = .ok (.ifnonnull off, 3)) (ht : (pc : Int) + off = (tgt : Int)) (h : (if ¬ x = none then A else B) = some fin) (kt : ¬ x = none → A = some fin → G (cc, own, nm, lev, ret, mx) st0 tr fin tgt env stk st) (kf : ¬ (¬ x = none) → B = some fin → G (cc, own, nm, lev, ret, mx) st0 tr fin (pc + 3) env stk st) : G (cc, own, nm, lev, ret, mx) st0 tr fin pc env (vr x :: stk) st := by
  cases x with
  | none => exact G.lift (fun k w C H locs ls cells slots Q hl K => lv_ifnonnullN C.x C.b d K) (kf (by simp) (by simpa using h))
  | some a => exact G.lift (fun k w C H locs ls cells slots Q hl K => lv_ifnonnull C.x C.b d ht K) (kt (by simp) (by simpa using h))
end Rows1
