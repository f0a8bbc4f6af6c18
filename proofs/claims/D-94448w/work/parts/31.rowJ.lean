set_option maxRecDepth 100000
theorem sJ0_checkLength {a0 : Int32} {a1 : Int32} {st : Mem} {fin : Unit × Mem} (h : fJ0_checkLength a0 a1 st = some fin) : Con yJ0_checkLength 6 [vi a0, vi a1] st trV fin := by
  refine Con.mk (cc := cJ0_checkLength) (n := 2) (own := "java/util/Arrays") (nm := "checkLength") (ret := none) (env := [(0, vi a0), (1, vi a1)]) q737 rfl rfl rfl (by decide) ⟨Nat.le_of_ble_eq_true rfl, by decide⟩ rfl ?_
  unfold fJ0_checkLength at h
  refine r_iload_n (pc := 0) dJ0_checkLength_0 1 rfl rfl ?_
  refine r_iload_n (pc := 1) dJ0_checkLength_1 0 rfl rfl ?_
  refine r_icmp_ge (pc := 2) (tgt := 37) dJ0_checkLength_2 (by decide) h (fun e2 h => ?_) (fun e2 h => ?_)
  · exact r_return_ (pc := 37) dJ0_checkLength_37 rfl h
  · cases h
theorem sJ0_copyOf {a0 : Rf} {a1 : Int32} {st : Mem} {fin : Rf × Mem} (h : fJ0_copyOf a0 a1 st = some fin) : Con yJ0_copyOf 6 [vr a0, vi a1] st trA fin := by
  refine Con.mk (cc := cJ0_copyOf) (n := 3) (own := "java/util/Arrays") (nm := "copyOf") (ret := (some (.array .byte))) (env := [(0, vr a0), (1, vi a1)]) q648 rfl rfl rfl (by decide) ⟨Nat.le_of_ble_eq_true rfl, by decide⟩ rfl ?_
  unfold fJ0_copyOf at h
  refine r_iload_n (pc := 0) dJ0_copyOf_0 1 rfl rfl ?_
  refine r_aload_n (pc := 1) dJ0_copyOf_1 0 rfl rfl ?_
  refine r_alen (pc := 2) dJ0_copyOf_2 h (fun x2 e2 h => ?_)
  refine r_icmp_ne (pc := 3) (tgt := 14) dJ0_copyOf_3 (by decide) h (fun e3 h => ?_) (fun e3 h => ?_)
  · refine r_iload_n (pc := 14) dJ0_copyOf_14 1 rfl rfl ?_
    refine r_newarray (pc := 15) dJ0_copyOf_15 ⟨rfl, by decide⟩ h (fun x15 st e15 h => ?_)
    refine r_astore_n (pc := 17) (env' := [(2, vr x15), (0, vr a0), (1, vi a1)]) dJ0_copyOf_17 rfl (by decide) rfl ?_
    refine r_aload_n (pc := 18) dJ0_copyOf_18 1 rfl rfl ?_
    refine r_iconst (pc := 19) (v := 0) dJ0_copyOf_19 (by decide) ?_
    refine r_aload_n (pc := 20) dJ0_copyOf_20 0 rfl rfl ?_
    refine r_iconst (pc := 21) (v := 0) dJ0_copyOf_21 (by decide) ?_
    refine r_aload_n (pc := 22) dJ0_copyOf_22 1 rfl rfl ?_
    refine r_alen (pc := 23) dJ0_copyOf_23 h (fun x23 e23 h => ?_)
    refine r_iload_n (pc := 24) dJ0_copyOf_24 2 rfl rfl ?_
    refine r_mminI (pc := 25) dJ0_copyOf_25 q656 (by decide) (Nat.le_of_ble_eq_true rfl) ?_
    refine r_cpy (pc := 28) dJ0_copyOf_28 q657 (by decide) (Nat.le_of_ble_eq_true rfl) h (fun st e28 h => ?_)
    refine r_aload_n (pc := 31) dJ0_copyOf_31 0 rfl rfl ?_
    exact r_areturn (pc := 32) dJ0_copyOf_32 rfl rfl h
  · refine r_aload_n (pc := 6) dJ0_copyOf_6 0 rfl rfl ?_
    cases h
theorem sJ0_copyOf_3 {a0 : Rf} {a1 : Int32} {a2 : Rf} {st : Mem} {fin : Rf × Mem} (h : fJ0_copyOf_3 a0 a1 a2 st = some fin) : Con yJ0_copyOf_3 6 [vr a0, vi a1, vr a2] st trA fin := by
  refine Con.mk (cc := cJ0_copyOf_3) (n := 4) (own := "java/util/Arrays") (nm := "copyOf") (ret := (some (.array (.object "java/lang/Object")))) (env := [(0, vr a0), (1, vi a1), (2, vr a2)]) q1224 rfl rfl rfl (by decide) ⟨Nat.le_of_ble_eq_true rfl, by decide⟩ rfl ?_
  unfold fJ0_copyOf_3 at h
  refine r_aload_n (pc := 0) dJ0_copyOf_3_0 2 rfl rfl ?_
  refine r_ldcM (pc := 1) dJ0_copyOf_3_1 q1225 ?_
  refine r_acmp_ne (pc := 3) (tgt := 13) dJ0_copyOf_3_3 (by decide) h (fun e3 h => ?_) (fun e3 h => ?_)
  · refine r_aload_n (pc := 13) dJ0_copyOf_3_13 2 rfl rfl ?_
    cases h
  · refine r_iload_n (pc := 6) dJ0_copyOf_3_6 1 rfl rfl ?_
    refine r_anewarray (pc := 7) dJ0_copyOf_3_7 q1227 ⟨rfl, by decide⟩ h (fun x7 st e7 h => ?_)
    refine r_goto (pc := 10) (tgt := 24) dJ0_copyOf_3_10 (by decide) ?_
    refine r_astore_n (pc := 24) (env' := [(3, vr x7), (0, vr a0), (1, vi a1), (2, vr a2)]) dJ0_copyOf_3_24 rfl (by decide) rfl ?_
    refine r_aload_n (pc := 25) dJ0_copyOf_3_25 1 rfl rfl ?_
    refine r_iconst (pc := 26) (v := 0) dJ0_copyOf_3_26 (by decide) ?_
    refine r_aload_n (pc := 27) dJ0_copyOf_3_27 0 rfl rfl ?_
    refine r_iconst (pc := 28) (v := 0) dJ0_copyOf_3_28 (by decide) ?_
    refine r_aload_n (pc := 29) dJ0_copyOf_3_29 1 rfl rfl ?_
    refine r_alen (pc := 30) dJ0_copyOf_3_30 h (fun x30 e30 h => ?_)
    refine r_iload_n (pc := 31) dJ0_copyOf_3_31 2 rfl rfl ?_
    refine r_mminI (pc := 32) dJ0_copyOf_3_32 q656 (by decide) (Nat.le_of_ble_eq_true rfl) ?_
    refine r_cpy (pc := 35) dJ0_copyOf_3_35 q657 (by decide) (Nat.le_of_ble_eq_true rfl) h (fun st e35 h => ?_)
    refine r_aload_n (pc := 38) dJ0_copyOf_3_38 0 rfl rfl ?_
    exact r_areturn (pc := 39) dJ0_copyOf_3_39 rfl rfl h
theorem sJ0_fill_5B {st0 : Mem} {fin : Unit × Mem} {kk5 : Rf → Int32 → Int32 → Int32 → Mem → Option (Unit × Mem)} (hk5 : ∀ (v0 : Rf) (v1 : Int32) (v2 : Int32) (v3 : Int32) (st : Mem), kk5 v0 v1 v2 v3 st = some fin → G (cJ0_fill, "java/util/Arrays", "fill", 6, none, 4) st0 trV fin 5 [(0, vr v0), (1, vi v1), (2, vi v2), (3, vi v3)] [] st) (v0 : Rf) (v1 : Int32) (v2 : Int32) (v3 : Int32) (st : Mem) (h : bJ0_fill_5B kk5 v0 v1 v2 v3 st = some fin) : G (cJ0_fill, "java/util/Arrays", "fill", 6, none, 4) st0 trV fin 5 [(0, vr v0), (1, vi v1), (2, vi v2), (3, vi v3)] [] st := by
  unfold bJ0_fill_5B at h
  refine r_iload_n (pc := 5) dJ0_fill_5 2 rfl rfl ?_
  refine r_iload_n (pc := 6) dJ0_fill_6 3 rfl rfl ?_
  refine r_icmp_ge (pc := 7) (tgt := 20) dJ0_fill_7 (by decide) h (fun e7 h => ?_) (fun e7 h => ?_)
  · exact r_return_ (pc := 20) dJ0_fill_20 rfl h
  · refine r_aload_n (pc := 10) dJ0_fill_10 0 rfl rfl ?_
    refine r_iload_n (pc := 11) dJ0_fill_11 2 rfl rfl ?_
    refine r_iload_n (pc := 12) dJ0_fill_12 1 rfl rfl ?_
    refine r_iastore (pc := 13) dJ0_fill_13 h (fun st e13 h => ?_)
    refine r_iinc (pc := 14) (env' := [(2, vi (v2 + 1)), (0, vr v0), (1, vi v1), (3, vi v3)]) (cst := 1) dJ0_fill_14 2 rfl (by decide) (by decide) rfl ?_
    refine r_goto (pc := 17) (tgt := 5) dJ0_fill_17 (by decide) ?_
    exact r_sub (env' := [(0, vr v0), (1, vi v1), (2, vi (v2 + 1)), (3, vi v3)]) [1, 2, 0, 3] rfl (hk5 _ _ _ _ _ h)
theorem sJ0_fill_5 {st0 : Mem} {fin : Unit × Mem} (n : Nat) : ∀ (v0 : Rf) (v1 : Int32) (v2 : Int32) (v3 : Int32) (st : Mem), bJ0_fill_5 n v0 v1 v2 v3 st = some fin → G (cJ0_fill, "java/util/Arrays", "fill", 6, none, 4) st0 trV fin 5 [(0, vr v0), (1, vi v1), (2, vi v2), (3, vi v3)] [] st := by
  induction n with
  | zero => intro v0 v1 v2 v3 st h; cases h
  | succ n ih => intro v0 v1 v2 v3 st h; exact sJ0_fill_5B  ih v0 v1 v2 v3 st h
theorem sJ0_fill {a0 : Rf} {a1 : Int32} {st : Mem} {fin : Unit × Mem} (h : fJ0_fill a0 a1 st = some fin) : Con yJ0_fill 6 [vr a0, vi a1] st trV fin := by
  refine Con.mk (cc := cJ0_fill) (n := 4) (own := "java/util/Arrays") (nm := "fill") (ret := none) (env := [(0, vr a0), (1, vi a1)]) q148 rfl rfl rfl (by decide) ⟨Nat.le_of_ble_eq_true rfl, by decide⟩ rfl ?_
  unfold fJ0_fill at h
  refine r_iconst (pc := 0) (v := 0) dJ0_fill_0 (by decide) ?_
  refine r_istore_n (pc := 1) (env' := [(2, vi (0 : Int32)), (0, vr a0), (1, vi a1)]) dJ0_fill_1 rfl (by decide) rfl ?_
  refine r_aload_n (pc := 2) dJ0_fill_2 1 rfl rfl ?_
  refine r_alen (pc := 3) dJ0_fill_3 h (fun x3 e3 h => ?_)
  refine r_istore_n (pc := 4) (env' := [(3, vi x3), (2, vi (0 : Int32)), (0, vr a0), (1, vi a1)]) dJ0_fill_4 rfl (by decide) rfl ?_
  exact r_sub (env' := [(0, vr a0), (1, vi a1), (2, vi (0 : Int32)), (3, vi x3)]) [2, 3, 1, 0] rfl (sJ0_fill_5 hcFuel _ _ _ _ _ h)
theorem sJ10_getValue {a0 : Rf} {st : Mem} {fin : Rf × Mem} (h : fJ10_getValue a0 st = some fin) : Con yJ10_getValue 6 [vr a0] st trA fin := by
  refine Con.mk (cc := cJ10_getValue) (n := 1) (own := "java/lang/AbstractStringBuilder") (nm := "getValue") (ret := (some (.array .byte))) (env := [(0, vr a0)]) q719 rfl rfl rfl (by decide) ⟨Nat.le_of_ble_eq_true rfl, by decide⟩ rfl ?_
  unfold fJ10_getValue at h
  refine r_aload_n (pc := 0) dJ10_getValue_0 0 rfl rfl ?_
  refine r_gA (pc := 1) dJ10_getValue_1 q609 fd_159 same_rf h (fun x1 e1 h => ?_)
  exact r_areturn (pc := 4) dJ10_getValue_4 rfl rfl h
theorem sJ10_init {a0 : Rf} {a1 : Int32} {st : Mem} {fin : Unit × Mem} (h : fJ10_init a0 a1 st = some fin) : Con yJ10_init 6 [vr a0, vi a1] st trV fin := by
  refine Con.mk (cc := cJ10_init) (n := 2) (own := "java/lang/AbstractStringBuilder") (nm := "<init>") (ret := none) (env := [(0, vr a0), (1, vi a1)]) q599 rfl rfl rfl (by decide) ⟨Nat.le_of_ble_eq_true rfl, by decide⟩ rfl ?_
  unfold fJ10_init at h
  refine r_aload_n (pc := 0) dJ10_init_0 0 rfl rfl ?_
  refine r_objInit (pc := 1) dJ10_init_1 q600 (by decide) (Nat.le_of_ble_eq_true rfl) h (fun h => ?_)
  refine r_gs_COMPACT_STRINGS (pc := 4) dJ10_init_4 q601 ?_
  refine r_if_eq (pc := 7) (tgt := 25) dJ10_init_7 (by decide) h (fun e7 h => ?_) (fun e7 h => ?_)
  · refine r_aload_n (pc := 25) dJ10_init_25 0 rfl rfl ?_
    refine r_iload_n (pc := 26) dJ10_init_26 1 rfl rfl ?_
    cases h
  · refine r_aload_n (pc := 10) dJ10_init_10 0 rfl rfl ?_
    refine r_iload_n (pc := 11) dJ10_init_11 1 rfl rfl ?_
    refine r_newarray (pc := 12) dJ10_init_12 ⟨rfl, by decide⟩ h (fun x12 st e12 h => ?_)
    refine r_pA (pc := 14) dJ10_init_14 q609 fd_159 same_rf rfl h (fun st e14 h => ?_)
    refine r_aload_n (pc := 17) dJ10_init_17 0 rfl rfl ?_
    refine r_iconst (pc := 18) (v := 0) dJ10_init_18 (by decide) ?_
    refine r_pI (pc := 19) dJ10_init_19 q610 fd_160 same_rf rfl h (fun st e19 h => ?_)
    refine r_goto (pc := 22) (tgt := 38) dJ10_init_22 (by decide) ?_
    exact r_return_ (pc := 38) dJ10_init_38 rfl h
theorem sJ10_isLatin1_17 {st0 : Mem} {fin : Int32 × Mem} (st : Mem) (h : bJ10_isLatin1_17  st = some fin) : G (cJ10_isLatin1, "java/lang/AbstractStringBuilder", "isLatin1", 6, (some .boolean), 1) st0 trI fin 17 [] [] st := by
  unfold bJ10_isLatin1_17 at h
  refine r_iconst (pc := 17) (v := 0) dJ10_isLatin1_17 (by decide) ?_
  exact r_ireturn (pc := 18) dJ10_isLatin1_18 rfl rfl h
theorem sJ10_isLatin1 {a0 : Rf} {st : Mem} {fin : Int32 × Mem} (h : fJ10_isLatin1 a0 st = some fin) : Con yJ10_isLatin1 6 [vr a0] st trI fin := by
  refine Con.mk (cc := cJ10_isLatin1) (n := 1) (own := "java/lang/AbstractStringBuilder") (nm := "isLatin1") (ret := (some .boolean)) (env := [(0, vr a0)]) q664 rfl rfl rfl (by decide) ⟨Nat.le_of_ble_eq_true rfl, by decide⟩ rfl ?_
  unfold fJ10_isLatin1 at h
  refine r_gs_COMPACT_STRINGS (pc := 0) dJ10_isLatin1_0 q601 ?_
  refine r_if_eq (pc := 3) (tgt := 17) dJ10_isLatin1_3 (by decide) h (fun e3 h => ?_) (fun e3 h => ?_)
  · exact r_sub (env' := []) [] rfl (sJ10_isLatin1_17 _ h)
  · refine r_aload_n (pc := 6) dJ10_isLatin1_6 0 rfl rfl ?_
    refine r_gI (pc := 7) dJ10_isLatin1_7 q610 fd_160 same_rf h (fun x7 e7 h => ?_)
    refine r_if_ne (pc := 10) (tgt := 17) dJ10_isLatin1_10 (by decide) h (fun e10 h => ?_) (fun e10 h => ?_)
    · exact r_sub (env' := []) [] rfl (sJ10_isLatin1_17 _ h)
    · refine r_iconst (pc := 13) (v := 1) dJ10_isLatin1_13 (by decide) ?_
      refine r_goto (pc := 14) (tgt := 18) dJ10_isLatin1_14 (by decide) ?_
      exact r_ireturn (pc := 18) dJ10_isLatin1_18 rfl rfl h
theorem sJ10_length {a0 : Rf} {st : Mem} {fin : Int32 × Mem} (h : fJ10_length a0 st = some fin) : Con yJ10_length 6 [vr a0] st trI fin := by
  refine Con.mk (cc := cJ10_length) (n := 1) (own := "java/lang/AbstractStringBuilder") (nm := "length") (ret := (some .int)) (env := [(0, vr a0)]) q727 rfl rfl rfl (by decide) ⟨Nat.le_of_ble_eq_true rfl, by decide⟩ rfl ?_
  unfold fJ10_length at h
  refine r_aload_n (pc := 0) dJ10_length_0 0 rfl rfl ?_
  refine r_gI (pc := 1) dJ10_length_1 q612 fd_162 same_rf h (fun x1 e1 h => ?_)
  exact r_ireturn (pc := 4) dJ10_length_4 rfl rfl h
theorem sJ12_newLength_21 {st0 : Mem} {fin : Int32 × Mem} (v0 : Int32) (v1 : Int32) (st : Mem) (h : bJ12_newLength_21 v0 v1 st = some fin) : G (cJ12_newLength, "jdk/internal/util/ArraysSupport", "newLength", 6, (some .int), 4) st0 trI fin 21 [(0, vi v0), (1, vi v1)] [] st := by
  unfold bJ12_newLength_21 at h
  refine r_iload_n (pc := 21) dJ12_newLength_21 0 rfl rfl ?_
  refine r_iload_n (pc := 22) dJ12_newLength_22 1 rfl rfl ?_
  cases h
theorem sJ12_newLength {a0 : Int32} {a1 : Int32} {a2 : Int32} {st : Mem} {fin : Int32 × Mem} (h : fJ12_newLength a0 a1 a2 st = some fin) : Con yJ12_newLength 6 [vi a0, vi a1, vi a2] st trI fin := by
  refine Con.mk (cc := cJ12_newLength) (n := 4) (own := "jdk/internal/util/ArraysSupport") (nm := "newLength") (ret := (some .int)) (env := [(0, vi a0), (1, vi a1), (2, vi a2)]) q639 rfl rfl rfl (by decide) ⟨Nat.le_of_ble_eq_true rfl, by decide⟩ rfl ?_
  unfold fJ12_newLength at h
  refine r_iload_n (pc := 0) dJ12_newLength_0 0 rfl rfl ?_
  refine r_iload_n (pc := 1) dJ12_newLength_1 1 rfl rfl ?_
  refine r_iload_n (pc := 2) dJ12_newLength_2 2 rfl rfl ?_
  refine r_mmaxI (pc := 3) dJ12_newLength_3 q640 (by decide) (Nat.le_of_ble_eq_true rfl) ?_
  refine r_iadd (pc := 6) dJ12_newLength_6 ?_
  refine r_nameI h (fun y7 e7 h => ?_)
  refine r_istore_n (pc := 7) (env' := [(3, vi y7), (0, vi a0), (1, vi a1), (2, vi a2)]) dJ12_newLength_7 rfl (by decide) rfl ?_
  refine r_iconst (pc := 8) (v := 0) dJ12_newLength_8 (by decide) ?_
  refine r_iload_n (pc := 9) dJ12_newLength_9 0 rfl rfl ?_
  refine r_icmp_ge (pc := 10) (tgt := 21) dJ12_newLength_10 (by decide) h (fun e10 h => ?_) (fun e10 h => ?_)
  · exact r_sub (env' := [(0, vi a0), (1, vi a1)]) [1, 2] rfl (sJ12_newLength_21 _ _ _ h)
  · refine r_iload_n (pc := 13) dJ12_newLength_13 0 rfl rfl ?_
    refine r_ldc (pc := 14) dJ12_newLength_14 q641 ?_
    refine r_icmp_gt (pc := 16) (tgt := 21) dJ12_newLength_16 (by decide) h (fun e16 h => ?_) (fun e16 h => ?_)
    · exact r_sub (env' := [(0, vi a0), (1, vi a1)]) [1, 2] rfl (sJ12_newLength_21 _ _ _ h)
    · refine r_iload_n (pc := 19) dJ12_newLength_19 0 rfl rfl ?_
      exact r_ireturn (pc := 20) dJ12_newLength_20 rfl rfl h
theorem sJ18_bitCount {a0 : Int64} {st : Mem} {fin : Int32 × Mem} (h : fJ18_bitCount a0 st = some fin) : Con yJ18_bitCount 6 [vj a0] st trI fin := by
  refine Con.mk (cc := cJ18_bitCount) (n := 2) (own := "java/lang/Long") (nm := "bitCount") (ret := (some .int)) (env := [(0, vj a0)]) q1352 rfl rfl rfl (by decide) ⟨Nat.le_of_ble_eq_true rfl, by decide⟩ rfl ?_
  unfold fJ18_bitCount at h
  refine r_lload_n (pc := 0) dJ18_bitCount_0 0 rfl rfl ?_
  refine r_lload_n (pc := 1) dJ18_bitCount_1 0 rfl rfl ?_
  refine r_iconst (pc := 2) (v := 1) dJ18_bitCount_2 (by decide) ?_
  refine r_lushr (pc := 3) dJ18_bitCount_3 ?_
  refine r_ldc2 (pc := 4) dJ18_bitCount_4 q1353 ?_
  refine r_land (pc := 7) dJ18_bitCount_7 ?_
  refine r_lsub (pc := 8) dJ18_bitCount_8 ?_
  refine r_nameJ h (fun y9 e9 h => ?_)
  refine r_lstore_n (pc := 9) (env' := [(0, vj y9)]) dJ18_bitCount_9 rfl (by decide) rfl ?_
  refine r_lload_n (pc := 10) dJ18_bitCount_10 0 rfl rfl ?_
  refine r_ldc2 (pc := 11) dJ18_bitCount_11 q1354 ?_
  refine r_land (pc := 14) dJ18_bitCount_14 ?_
  refine r_lload_n (pc := 15) dJ18_bitCount_15 0 rfl rfl ?_
  refine r_iconst (pc := 16) (v := 2) dJ18_bitCount_16 (by decide) ?_
  refine r_lushr (pc := 17) dJ18_bitCount_17 ?_
  refine r_ldc2 (pc := 18) dJ18_bitCount_18 q1354 ?_
  refine r_land (pc := 21) dJ18_bitCount_21 ?_
  refine r_ladd (pc := 22) dJ18_bitCount_22 ?_
  refine r_nameJ h (fun y23 e23 h => ?_)
  refine r_lstore_n (pc := 23) (env' := [(0, vj y23)]) dJ18_bitCount_23 rfl (by decide) rfl ?_
  refine r_lload_n (pc := 24) dJ18_bitCount_24 0 rfl rfl ?_
  refine r_lload_n (pc := 25) dJ18_bitCount_25 0 rfl rfl ?_
  refine r_iconst (pc := 26) (v := 4) dJ18_bitCount_26 (by decide) ?_
  refine r_lushr (pc := 27) dJ18_bitCount_27 ?_
  refine r_ladd (pc := 28) dJ18_bitCount_28 ?_
  refine r_ldc2 (pc := 29) dJ18_bitCount_29 q1355 ?_
  refine r_land (pc := 32) dJ18_bitCount_32 ?_
  refine r_nameJ h (fun y33 e33 h => ?_)
  refine r_lstore_n (pc := 33) (env' := [(0, vj y33)]) dJ18_bitCount_33 rfl (by decide) rfl ?_
  refine r_lload_n (pc := 34) dJ18_bitCount_34 0 rfl rfl ?_
  refine r_lload_n (pc := 35) dJ18_bitCount_35 0 rfl rfl ?_
  refine r_bipush (pc := 36) (v := 8) dJ18_bitCount_36 (by decide) ?_
  refine r_lushr (pc := 38) dJ18_bitCount_38 ?_
  refine r_ladd (pc := 39) dJ18_bitCount_39 ?_
  refine r_nameJ h (fun y40 e40 h => ?_)
  refine r_lstore_n (pc := 40) (env' := [(0, vj y40)]) dJ18_bitCount_40 rfl (by decide) rfl ?_
  refine r_lload_n (pc := 41) dJ18_bitCount_41 0 rfl rfl ?_
  refine r_lload_n (pc := 42) dJ18_bitCount_42 0 rfl rfl ?_
  refine r_bipush (pc := 43) (v := 16) dJ18_bitCount_43 (by decide) ?_
  refine r_lushr (pc := 45) dJ18_bitCount_45 ?_
  refine r_ladd (pc := 46) dJ18_bitCount_46 ?_
  refine r_nameJ h (fun y47 e47 h => ?_)
  refine r_lstore_n (pc := 47) (env' := [(0, vj y47)]) dJ18_bitCount_47 rfl (by decide) rfl ?_
  refine r_lload_n (pc := 48) dJ18_bitCount_48 0 rfl rfl ?_
  refine r_lload_n (pc := 49) dJ18_bitCount_49 0 rfl rfl ?_
  refine r_bipush (pc := 50) (v := 32) dJ18_bitCount_50 (by decide) ?_
  refine r_lushr (pc := 52) dJ18_bitCount_52 ?_
  refine r_ladd (pc := 53) dJ18_bitCount_53 ?_
  refine r_nameJ h (fun y54 e54 h => ?_)
  refine r_lstore_n (pc := 54) (env' := [(0, vj y54)]) dJ18_bitCount_54 rfl (by decide) rfl ?_
  refine r_lload_n (pc := 55) dJ18_bitCount_55 0 rfl rfl ?_
  refine r_l2i (pc := 56) dJ18_bitCount_56 ?_
  refine r_bipush (pc := 57) (v := 127) dJ18_bitCount_57 (by decide) ?_
  refine r_iand (pc := 59) dJ18_bitCount_59 ?_
  exact r_ireturn (pc := 60) dJ18_bitCount_60 rfl rfl h
theorem sJ19_bitCount {a0 : Int32} {st : Mem} {fin : Int32 × Mem} (h : fJ19_bitCount a0 st = some fin) : Con yJ19_bitCount 6 [vi a0] st trI fin := by
  refine Con.mk (cc := cJ19_bitCount) (n := 1) (own := "java/lang/Integer") (nm := "bitCount") (ret := (some .int)) (env := [(0, vi a0)]) q1487 rfl rfl rfl (by decide) ⟨Nat.le_of_ble_eq_true rfl, by decide⟩ rfl ?_
  unfold fJ19_bitCount at h
  refine r_iload_n (pc := 0) dJ19_bitCount_0 0 rfl rfl ?_
  refine r_iload_n (pc := 1) dJ19_bitCount_1 0 rfl rfl ?_
  refine r_iconst (pc := 2) (v := 1) dJ19_bitCount_2 (by decide) ?_
  refine r_iushr (pc := 3) dJ19_bitCount_3 ?_
  refine r_ldc_w (pc := 4) dJ19_bitCount_4 q1488 ?_
  refine r_iand (pc := 7) dJ19_bitCount_7 ?_
  refine r_isub (pc := 8) dJ19_bitCount_8 ?_
  refine r_nameI h (fun y9 e9 h => ?_)
  refine r_istore_n (pc := 9) (env' := [(0, vi y9)]) dJ19_bitCount_9 rfl (by decide) rfl ?_
  refine r_iload_n (pc := 10) dJ19_bitCount_10 0 rfl rfl ?_
  refine r_ldc_w (pc := 11) dJ19_bitCount_11 q1489 ?_
  refine r_iand (pc := 14) dJ19_bitCount_14 ?_
  refine r_iload_n (pc := 15) dJ19_bitCount_15 0 rfl rfl ?_
  refine r_iconst (pc := 16) (v := 2) dJ19_bitCount_16 (by decide) ?_
  refine r_iushr (pc := 17) dJ19_bitCount_17 ?_
  refine r_ldc_w (pc := 18) dJ19_bitCount_18 q1489 ?_
  refine r_iand (pc := 21) dJ19_bitCount_21 ?_
  refine r_iadd (pc := 22) dJ19_bitCount_22 ?_
  refine r_nameI h (fun y23 e23 h => ?_)
  refine r_istore_n (pc := 23) (env' := [(0, vi y23)]) dJ19_bitCount_23 rfl (by decide) rfl ?_
  refine r_iload_n (pc := 24) dJ19_bitCount_24 0 rfl rfl ?_
  refine r_iload_n (pc := 25) dJ19_bitCount_25 0 rfl rfl ?_
  refine r_iconst (pc := 26) (v := 4) dJ19_bitCount_26 (by decide) ?_
  refine r_iushr (pc := 27) dJ19_bitCount_27 ?_
  refine r_iadd (pc := 28) dJ19_bitCount_28 ?_
  refine r_ldc_w (pc := 29) dJ19_bitCount_29 q1490 ?_
  refine r_iand (pc := 32) dJ19_bitCount_32 ?_
  refine r_nameI h (fun y33 e33 h => ?_)
  refine r_istore_n (pc := 33) (env' := [(0, vi y33)]) dJ19_bitCount_33 rfl (by decide) rfl ?_
  refine r_iload_n (pc := 34) dJ19_bitCount_34 0 rfl rfl ?_
  refine r_iload_n (pc := 35) dJ19_bitCount_35 0 rfl rfl ?_
  refine r_bipush (pc := 36) (v := 8) dJ19_bitCount_36 (by decide) ?_
  refine r_iushr (pc := 38) dJ19_bitCount_38 ?_
  refine r_iadd (pc := 39) dJ19_bitCount_39 ?_
  refine r_nameI h (fun y40 e40 h => ?_)
  refine r_istore_n (pc := 40) (env' := [(0, vi y40)]) dJ19_bitCount_40 rfl (by decide) rfl ?_
  refine r_iload_n (pc := 41) dJ19_bitCount_41 0 rfl rfl ?_
  refine r_iload_n (pc := 42) dJ19_bitCount_42 0 rfl rfl ?_
  refine r_bipush (pc := 43) (v := 16) dJ19_bitCount_43 (by decide) ?_
  refine r_iushr (pc := 45) dJ19_bitCount_45 ?_
  refine r_iadd (pc := 46) dJ19_bitCount_46 ?_
  refine r_nameI h (fun y47 e47 h => ?_)
  refine r_istore_n (pc := 47) (env' := [(0, vi y47)]) dJ19_bitCount_47 rfl (by decide) rfl ?_
  refine r_iload_n (pc := 48) dJ19_bitCount_48 0 rfl rfl ?_
  refine r_bipush (pc := 49) (v := 63) dJ19_bitCount_49 (by decide) ?_
  refine r_iand (pc := 51) dJ19_bitCount_51 ?_
  exact r_ireturn (pc := 52) dJ19_bitCount_52 rfl rfl h
theorem sJ1_init {a0 : Rf} {st : Mem} {fin : Unit × Mem} (h : fJ1_init a0 st = some fin) : Con yJ1_init 6 [vr a0] st trV fin := by
  refine Con.mk (cc := cJ1_init) (n := 1) (own := "java/util/AbstractCollection") (nm := "<init>") (ret := none) (env := [(0, vr a0)]) q238 rfl rfl rfl (by decide) ⟨Nat.le_of_ble_eq_true rfl, by decide⟩ rfl ?_
  unfold fJ1_init at h
  refine r_aload_n (pc := 0) dJ1_init_0 0 rfl rfl ?_
  refine r_objInit (pc := 1) dJ1_init_1 q239 (by decide) (Nat.le_of_ble_eq_true rfl) h (fun h => ?_)
  exact r_return_ (pc := 4) dJ1_init_4 rfl h
theorem sJ3_elementData {a0 : Rf} {a1 : Int32} {st : Mem} {fin : Rf × Mem} (h : fJ3_elementData a0 a1 st = some fin) : Con yJ3_elementData 6 [vr a0, vi a1] st trA fin := by
  refine Con.mk (cc := cJ3_elementData) (n := 2) (own := "java/util/ArrayList") (nm := "elementData") (ret := (some (.object "java/lang/Object"))) (env := [(0, vr a0), (1, vi a1)]) q1265 rfl rfl rfl (by decide) ⟨Nat.le_of_ble_eq_true rfl, by decide⟩ rfl ?_
  unfold fJ3_elementData at h
  refine r_aload_n (pc := 0) dJ3_elementData_0 0 rfl rfl ?_
  refine r_gA (pc := 1) dJ3_elementData_1 q242 fd_153 same_rf h (fun x1 e1 h => ?_)
  refine r_iload_n (pc := 4) dJ3_elementData_4 1 rfl rfl ?_
  refine r_aaload (pc := 5) dJ3_elementData_5 h (fun x5 e5 h => ?_)
  exact r_areturn (pc := 6) dJ3_elementData_6 rfl rfl h
theorem sJ3_size {a0 : Rf} {st : Mem} {fin : Int32 × Mem} (h : fJ3_size a0 st = some fin) : Con yJ3_size 6 [vr a0] st trI fin := by
  refine Con.mk (cc := cJ3_size) (n := 1) (own := "java/util/ArrayList") (nm := "size") (ret := (some .int)) (env := [(0, vr a0)]) q1117 rfl rfl rfl (by decide) ⟨Nat.le_of_ble_eq_true rfl, by decide⟩ rfl ?_
  unfold fJ3_size at h
  refine r_aload_n (pc := 0) dJ3_size_0 0 rfl rfl ?_
  refine r_gI (pc := 1) dJ3_size_1 q243 fd_154 same_rf h (fun x1 e1 h => ?_)
  exact r_ireturn (pc := 4) dJ3_size_4 rfl rfl h
theorem sJ4_coder {a0 : Rf} {st : Mem} {fin : Int32 × Mem} (h : fJ4_coder a0 st = some fin) : Con yJ4_coder 6 [vr a0] st trI fin := by
  refine Con.mk (cc := cJ4_coder) (n := 1) (own := "java/lang/String") (nm := "coder") (ret := (some .byte)) (env := [(0, vr a0)]) q527 rfl rfl rfl (by decide) ⟨Nat.le_of_ble_eq_true rfl, by decide⟩ rfl ?_
  unfold fJ4_coder at h
  refine r_gs_COMPACT_STRINGS (pc := 0) dJ4_coder_0 q518 ?_
  refine r_if_eq (pc := 3) (tgt := 13) dJ4_coder_3 (by decide) h (fun e3 h => ?_) (fun e3 h => ?_)
  · refine r_iconst (pc := 13) (v := 1) dJ4_coder_13 (by decide) ?_
    exact r_ireturn (pc := 14) dJ4_coder_14 rfl rfl h
  · refine r_aload_n (pc := 6) dJ4_coder_6 0 rfl rfl ?_
    refine r_gI (pc := 7) dJ4_coder_7 q749 fd_156 same_rf h (fun x7 e7 h => ?_)
    refine r_goto (pc := 10) (tgt := 14) dJ4_coder_10 (by decide) ?_
    exact r_ireturn (pc := 14) dJ4_coder_14 rfl rfl h
theorem sJ4_isLatin1_17 {st0 : Mem} {fin : Int32 × Mem} (st : Mem) (h : bJ4_isLatin1_17  st = some fin) : G (cJ4_isLatin1, "java/lang/String", "isLatin1", 6, (some .boolean), 1) st0 trI fin 17 [] [] st := by
  unfold bJ4_isLatin1_17 at h
  refine r_iconst (pc := 17) (v := 0) dJ4_isLatin1_17 (by decide) ?_
  exact r_ireturn (pc := 18) dJ4_isLatin1_18 rfl rfl h
theorem sJ4_isLatin1 {a0 : Rf} {st : Mem} {fin : Int32 × Mem} (h : fJ4_isLatin1 a0 st = some fin) : Con yJ4_isLatin1 6 [vr a0] st trI fin := by
  refine Con.mk (cc := cJ4_isLatin1) (n := 1) (own := "java/lang/String") (nm := "isLatin1") (ret := (some .boolean)) (env := [(0, vr a0)]) q517 rfl rfl rfl (by decide) ⟨Nat.le_of_ble_eq_true rfl, by decide⟩ rfl ?_
  unfold fJ4_isLatin1 at h
  refine r_gs_COMPACT_STRINGS (pc := 0) dJ4_isLatin1_0 q518 ?_
  refine r_if_eq (pc := 3) (tgt := 17) dJ4_isLatin1_3 (by decide) h (fun e3 h => ?_) (fun e3 h => ?_)
  · exact r_sub (env' := []) [] rfl (sJ4_isLatin1_17 _ h)
  · refine r_aload_n (pc := 6) dJ4_isLatin1_6 0 rfl rfl ?_
    refine r_gI (pc := 7) dJ4_isLatin1_7 q749 fd_156 same_rf h (fun x7 e7 h => ?_)
    refine r_if_ne (pc := 10) (tgt := 17) dJ4_isLatin1_10 (by decide) h (fun e10 h => ?_) (fun e10 h => ?_)
    · exact r_sub (env' := []) [] rfl (sJ4_isLatin1_17 _ h)
    · refine r_iconst (pc := 13) (v := 1) dJ4_isLatin1_13 (by decide) ?_
      refine r_goto (pc := 14) (tgt := 18) dJ4_isLatin1_14 (by decide) ?_
      exact r_ireturn (pc := 18) dJ4_isLatin1_18 rfl rfl h
theorem sJ5_canEncode_15 {st0 : Mem} {fin : Int32 × Mem} (st : Mem) (h : bJ5_canEncode_15  st = some fin) : G (cJ5_canEncode, "java/lang/StringLatin1", "canEncode", 6, (some .boolean), 1) st0 trI fin 15 [] [] st := by
  unfold bJ5_canEncode_15 at h
  refine r_iconst (pc := 15) (v := 0) dJ5_canEncode_15 (by decide) ?_
  exact r_ireturn (pc := 16) dJ5_canEncode_16 rfl rfl h
theorem sJ5_canEncode {a0 : Int32} {st : Mem} {fin : Int32 × Mem} (h : fJ5_canEncode a0 st = some fin) : Con yJ5_canEncode 6 [vi a0] st trI fin := by
  refine Con.mk (cc := cJ5_canEncode) (n := 1) (own := "java/lang/StringLatin1") (nm := "canEncode") (ret := (some .boolean)) (env := [(0, vi a0)]) q533 rfl rfl rfl (by decide) ⟨Nat.le_of_ble_eq_true rfl, by decide⟩ rfl ?_
  unfold fJ5_canEncode at h
  refine r_iload_n (pc := 0) dJ5_canEncode_0 0 rfl rfl ?_
  refine r_if_lt (pc := 1) (tgt := 15) dJ5_canEncode_1 (by decide) h (fun e1 h => ?_) (fun e1 h => ?_)
  · exact r_sub (env' := []) [] rfl (sJ5_canEncode_15 _ h)
  · refine r_iload_n (pc := 4) dJ5_canEncode_4 0 rfl rfl ?_
    refine r_sipush (pc := 5) (v := 255) dJ5_canEncode_5 (by decide) ?_
    refine r_icmp_gt (pc := 8) (tgt := 15) dJ5_canEncode_8 (by decide) h (fun e8 h => ?_) (fun e8 h => ?_)
    · exact r_sub (env' := []) [] rfl (sJ5_canEncode_15 _ h)
    · refine r_iconst (pc := 11) (v := 1) dJ5_canEncode_11 (by decide) ?_
      refine r_goto (pc := 12) (tgt := 16) dJ5_canEncode_12 (by decide) ?_
      exact r_ireturn (pc := 16) dJ5_canEncode_16 rfl rfl h
theorem sJ5_canEncode_2 {a0 : Int32} {st : Mem} {fin : Int32 × Mem} (h : fJ5_canEncode_2 a0 st = some fin) : Con yJ5_canEncode_2 6 [vi a0] st trI fin := by
  refine Con.mk (cc := cJ5_canEncode_2) (n := 1) (own := "java/lang/StringLatin1") (nm := "canEncode") (ret := (some .boolean)) (env := [(0, vi a0)]) q667 rfl rfl rfl (by decide) ⟨Nat.le_of_ble_eq_true rfl, by decide⟩ rfl ?_
  unfold fJ5_canEncode_2 at h
  refine r_iload_n (pc := 0) dJ5_canEncode_2_0 0 rfl rfl ?_
  refine r_sipush (pc := 1) (v := 255) dJ5_canEncode_2_1 (by decide) ?_
  refine r_icmp_gt (pc := 4) (tgt := 11) dJ5_canEncode_2_4 (by decide) h (fun e4 h => ?_) (fun e4 h => ?_)
  · refine r_iconst (pc := 11) (v := 0) dJ5_canEncode_2_11 (by decide) ?_
    exact r_ireturn (pc := 12) dJ5_canEncode_2_12 rfl rfl h
  · refine r_iconst (pc := 7) (v := 1) dJ5_canEncode_2_7 (by decide) ?_
    refine r_goto (pc := 8) (tgt := 12) dJ5_canEncode_2_8 (by decide) ?_
    exact r_ireturn (pc := 12) dJ5_canEncode_2_12 rfl rfl h
theorem sJ5_equals_9B {st0 : Mem} {fin : Int32 × Mem} {kk9 : Rf → Rf → Int32 → Mem → Option (Int32 × Mem)} (hk9 : ∀ (v0 : Rf) (v1 : Rf) (v2 : Int32) (st : Mem), kk9 v0 v1 v2 st = some fin → G (cJ5_equals, "java/lang/StringLatin1", "equals", 6, (some .boolean), 3) st0 trI fin 9 [(0, vr v0), (1, vr v1), (2, vi v2)] [] st) (v0 : Rf) (v1 : Rf) (v2 : Int32) (st : Mem) (h : bJ5_equals_9B kk9 v0 v1 v2 st = some fin) : G (cJ5_equals, "java/lang/StringLatin1", "equals", 6, (some .boolean), 3) st0 trI fin 9 [(0, vr v0), (1, vr v1), (2, vi v2)] [] st := by
  unfold bJ5_equals_9B at h
  refine r_iload_n (pc := 9) dJ5_equals_9 2 rfl rfl ?_
  refine r_aload_n (pc := 10) dJ5_equals_10 0 rfl rfl ?_
  refine r_alen (pc := 11) dJ5_equals_11 h (fun x11 e11 h => ?_)
  refine r_icmp_ge (pc := 12) (tgt := 32) dJ5_equals_12 (by decide) h (fun e12 h => ?_) (fun e12 h => ?_)
  · refine r_iconst (pc := 32) (v := 1) dJ5_equals_32 (by decide) ?_
    exact r_ireturn (pc := 33) dJ5_equals_33 rfl rfl h
  · refine r_aload_n (pc := 15) dJ5_equals_15 0 rfl rfl ?_
    refine r_iload_n (pc := 16) dJ5_equals_16 2 rfl rfl ?_
    refine r_baload (pc := 17) dJ5_equals_17 h (fun x17 e17 h => ?_)
    refine r_aload_n (pc := 18) dJ5_equals_18 1 rfl rfl ?_
    refine r_iload_n (pc := 19) dJ5_equals_19 2 rfl rfl ?_
    refine r_baload (pc := 20) dJ5_equals_20 h (fun x20 e20 h => ?_)
    refine r_icmp_eq (pc := 21) (tgt := 26) dJ5_equals_21 (by decide) h (fun e21 h => ?_) (fun e21 h => ?_)
    · refine r_iinc (pc := 26) (env' := [(2, vi (v2 + 1)), (0, vr v0), (1, vr v1)]) (cst := 1) dJ5_equals_26 2 rfl (by decide) (by decide) rfl ?_
      refine r_goto (pc := 29) (tgt := 9) dJ5_equals_29 (by decide) ?_
      exact r_sub (env' := [(0, vr v0), (1, vr v1), (2, vi (v2 + 1))]) [1, 2, 0] rfl (hk9 _ _ _ _ h)
    · refine r_iconst (pc := 24) (v := 0) dJ5_equals_24 (by decide) ?_
      exact r_ireturn (pc := 25) dJ5_equals_25 rfl rfl h
theorem sJ5_equals_9 {st0 : Mem} {fin : Int32 × Mem} (n : Nat) : ∀ (v0 : Rf) (v1 : Rf) (v2 : Int32) (st : Mem), bJ5_equals_9 n v0 v1 v2 st = some fin → G (cJ5_equals, "java/lang/StringLatin1", "equals", 6, (some .boolean), 3) st0 trI fin 9 [(0, vr v0), (1, vr v1), (2, vi v2)] [] st := by
  induction n with
  | zero => intro v0 v1 v2 st h; cases h
  | succ n ih => intro v0 v1 v2 st h; exact sJ5_equals_9B  ih v0 v1 v2 st h
theorem sJ5_equals {a0 : Rf} {a1 : Rf} {st : Mem} {fin : Int32 × Mem} (h : fJ5_equals a0 a1 st = some fin) : Con yJ5_equals 6 [vr a0, vr a1] st trI fin := by
  refine Con.mk (cc := cJ5_equals) (n := 3) (own := "java/lang/StringLatin1") (nm := "equals") (ret := (some .boolean)) (env := [(0, vr a0), (1, vr a1)]) q773 rfl rfl rfl (by decide) ⟨Nat.le_of_ble_eq_true rfl, by decide⟩ rfl ?_
  unfold fJ5_equals at h
  refine r_aload_n (pc := 0) dJ5_equals_0 0 rfl rfl ?_
  refine r_alen (pc := 1) dJ5_equals_1 h (fun x1 e1 h => ?_)
  refine r_aload_n (pc := 2) dJ5_equals_2 1 rfl rfl ?_
  refine r_alen (pc := 3) dJ5_equals_3 h (fun x3 e3 h => ?_)
  refine r_icmp_ne (pc := 4) (tgt := 34) dJ5_equals_4 (by decide) h (fun e4 h => ?_) (fun e4 h => ?_)
  · refine r_iconst (pc := 34) (v := 0) dJ5_equals_34 (by decide) ?_
    exact r_ireturn (pc := 35) dJ5_equals_35 rfl rfl h
  · refine r_iconst (pc := 7) (v := 0) dJ5_equals_7 (by decide) ?_
    refine r_istore_n (pc := 8) (env' := [(2, vi (0 : Int32)), (0, vr a0), (1, vr a1)]) dJ5_equals_8 rfl (by decide) rfl ?_
    exact r_sub (env' := [(0, vr a0), (1, vr a1), (2, vi (0 : Int32))]) [1, 2, 0] rfl (sJ5_equals_9 hcFuel _ _ _ _ h)
theorem sJ5_indexOfChar_7B {st0 : Mem} {fin : Int32 × Mem} {kk7 : Rf → Int32 → Int32 → Int32 → Mem → Option (Int32 × Mem)} (hk7 : ∀ (v0 : Rf) (v3 : Int32) (v4 : Int32) (v5 : Int32) (st : Mem), kk7 v0 v3 v4 v5 st = some fin → G (cJ5_indexOfChar, "java/lang/StringLatin1", "indexOfChar", 6, (some .int), 6) st0 trI fin 7 [(0, vr v0), (3, vi v3), (4, vi v4), (5, vi v5)] [] st) (v0 : Rf) (v3 : Int32) (v4 : Int32) (v5 : Int32) (st : Mem) (h : bJ5_indexOfChar_7B kk7 v0 v3 v4 v5 st = some fin) : G (cJ5_indexOfChar, "java/lang/StringLatin1", "indexOfChar", 6, (some .int), 6) st0 trI fin 7 [(0, vr v0), (3, vi v3), (4, vi v4), (5, vi v5)] [] st := by
  unfold bJ5_indexOfChar_7B at h
  refine r_iload (pc := 7) dJ5_indexOfChar_7 3 rfl ?_
  refine r_iload_n (pc := 9) dJ5_indexOfChar_9 1 rfl rfl ?_
  refine r_icmp_ge (pc := 10) (tgt := 31) dJ5_indexOfChar_10 (by decide) h (fun e10 h => ?_) (fun e10 h => ?_)
  · refine r_iconst (pc := 31) (v := (-1)) dJ5_indexOfChar_31 (by decide) ?_
    exact r_ireturn (pc := 32) dJ5_indexOfChar_32 rfl rfl h
  · refine r_aload_n (pc := 13) dJ5_indexOfChar_13 0 rfl rfl ?_
    refine r_iload (pc := 14) dJ5_indexOfChar_14 3 rfl ?_
    refine r_baload (pc := 16) dJ5_indexOfChar_16 h (fun x16 e16 h => ?_)
    refine r_iload (pc := 17) dJ5_indexOfChar_17 2 rfl ?_
    refine r_icmp_ne (pc := 19) (tgt := 25) dJ5_indexOfChar_19 (by decide) h (fun e19 h => ?_) (fun e19 h => ?_)
    · refine r_iinc (pc := 25) (env' := [(5, vi (v5 + 1)), (0, vr v0), (3, vi v3), (4, vi v4)]) (cst := 1) dJ5_indexOfChar_25 3 rfl (by decide) (by decide) rfl ?_
      refine r_goto (pc := 28) (tgt := 7) dJ5_indexOfChar_28 (by decide) ?_
      exact r_sub (env' := [(0, vr v0), (3, vi v3), (4, vi v4), (5, vi (v5 + 1))]) [1, 2, 3, 0] rfl (hk7 _ _ _ _ _ h)
    · refine r_iload (pc := 22) dJ5_indexOfChar_22 3 rfl ?_
      exact r_ireturn (pc := 24) dJ5_indexOfChar_24 rfl rfl h
theorem sJ5_indexOfChar_7 {st0 : Mem} {fin : Int32 × Mem} (n : Nat) : ∀ (v0 : Rf) (v3 : Int32) (v4 : Int32) (v5 : Int32) (st : Mem), bJ5_indexOfChar_7 n v0 v3 v4 v5 st = some fin → G (cJ5_indexOfChar, "java/lang/StringLatin1", "indexOfChar", 6, (some .int), 6) st0 trI fin 7 [(0, vr v0), (3, vi v3), (4, vi v4), (5, vi v5)] [] st := by
  induction n with
  | zero => intro v0 v3 v4 v5 st h; cases h
  | succ n ih => intro v0 v3 v4 v5 st h; exact sJ5_indexOfChar_7B  ih v0 v3 v4 v5 st h
theorem sJ5_indexOfChar {a0 : Rf} {a1 : Int32} {a2 : Int32} {a3 : Int32} {st : Mem} {fin : Int32 × Mem} (h : fJ5_indexOfChar a0 a1 a2 a3 st = some fin) : Con yJ5_indexOfChar 6 [vr a0, vi a1, vi a2, vi a3] st trI fin := by
  refine Con.mk (cc := cJ5_indexOfChar) (n := 6) (own := "java/lang/StringLatin1") (nm := "indexOfChar") (ret := (some .int)) (env := [(0, vr a0), (1, vi a1), (2, vi a2), (3, vi a3)]) q542 rfl rfl rfl (by decide) ⟨Nat.le_of_ble_eq_true rfl, by decide⟩ rfl ?_
  unfold fJ5_indexOfChar at h
  refine r_iload_n (pc := 0) dJ5_indexOfChar_0 1 rfl rfl ?_
  refine r_i2b (pc := 1) dJ5_indexOfChar_1 ?_
  refine r_istore (pc := 2) (env' := [(4, vi (i2bv a1)), (0, vr a0), (1, vi a1), (2, vi a2), (3, vi a3)]) dJ5_indexOfChar_2 (by decide) rfl ?_
  refine r_iload_n (pc := 4) dJ5_indexOfChar_4 3 rfl rfl ?_
  refine r_istore (pc := 5) (env' := [(5, vi a2), (4, vi (i2bv a1)), (0, vr a0), (1, vi a1), (2, vi a2), (3, vi a3)]) dJ5_indexOfChar_5 (by decide) rfl ?_
  exact r_sub (env' := [(0, vr a0), (3, vi a3), (4, vi (i2bv a1)), (5, vi a2)]) [2, 5, 1, 0] rfl (sJ5_indexOfChar_7 hcFuel _ _ _ _ _ h)
theorem sJ8_checkIndex_9 {st0 : Mem} {fin : Int32 × Mem} (v0 : Int32) (v1 : Int32) (v2 : Rf) (st : Mem) (h : bJ8_checkIndex_9 v0 v1 v2 st = some fin) : G (cJ8_checkIndex, "jdk/internal/util/Preconditions", "checkIndex", 6, (some .int), 3) st0 trI fin 9 [(0, vi v0), (1, vi v1), (2, vr v2)] [] st := by
  unfold bJ8_checkIndex_9 at h
  refine r_aload_n (pc := 9) dJ8_checkIndex_9 2 rfl rfl ?_
  refine r_iload_n (pc := 10) dJ8_checkIndex_10 0 rfl rfl ?_
  refine r_iload_n (pc := 11) dJ8_checkIndex_11 1 rfl rfl ?_
  cases h
theorem sJ8_checkIndex {a0 : Int32} {a1 : Int32} {a2 : Rf} {st : Mem} {fin : Int32 × Mem} (h : fJ8_checkIndex a0 a1 a2 st = some fin) : Con yJ8_checkIndex 6 [vi a0, vi a1, vr a2] st trI fin := by
  refine Con.mk (cc := cJ8_checkIndex) (n := 3) (own := "jdk/internal/util/Preconditions") (nm := "checkIndex") (ret := (some .int)) (env := [(0, vi a0), (1, vi a1), (2, vr a2)]) q701 rfl rfl rfl (by decide) ⟨Nat.le_of_ble_eq_true rfl, by decide⟩ rfl ?_
  unfold fJ8_checkIndex at h
  refine r_iload_n (pc := 0) dJ8_checkIndex_0 0 rfl rfl ?_
  refine r_if_lt (pc := 1) (tgt := 9) dJ8_checkIndex_1 (by decide) h (fun e1 h => ?_) (fun e1 h => ?_)
  · exact sJ8_checkIndex_9 _ _ _ _ h
  · refine r_iload_n (pc := 4) dJ8_checkIndex_4 0 rfl rfl ?_
    refine r_iload_n (pc := 5) dJ8_checkIndex_5 1 rfl rfl ?_
    refine r_icmp_lt (pc := 6) (tgt := 16) dJ8_checkIndex_6 (by decide) h (fun e6 h => ?_) (fun e6 h => ?_)
    · refine r_iload_n (pc := 16) dJ8_checkIndex_16 0 rfl rfl ?_
      exact r_ireturn (pc := 17) dJ8_checkIndex_17 rfl rfl h
    · exact sJ8_checkIndex_9 _ _ _ _ h
theorem sJ0_copyOfRangeByte {a0 : Rf} {a1 : Int32} {a2 : Int32} {st : Mem} {fin : Rf × Mem} (h : fJ0_copyOfRangeByte a0 a1 a2 st = some fin) : Con yJ0_copyOfRangeByte 8 [vr a0, vi a1, vi a2] st trA fin := by
  refine Con.mk (cc := cJ0_copyOfRangeByte) (n := 5) (own := "java/util/Arrays") (nm := "copyOfRangeByte") (ret := (some (.array .byte))) (env := [(0, vr a0), (1, vi a1), (2, vi a2)]) q734 rfl rfl rfl (by decide) ⟨Nat.le_of_ble_eq_true rfl, by decide⟩ rfl ?_
  unfold fJ0_copyOfRangeByte at h
  refine r_iload_n (pc := 0) dJ0_copyOfRangeByte_0 1 rfl rfl ?_
  refine r_iload_n (pc := 1) dJ0_copyOfRangeByte_1 2 rfl rfl ?_
  refine r_callV (pc := 2) (rest := []) (lkS dJ0_copyOfRangeByte_2 q735 q736 q87 (fun _ => sJ0_checkLength) ad_J0_checkLength) (by decide) (Nat.le_of_ble_eq_true rfl) rfl h (fun u2 st e2 h => ?_)
  refine r_iload_n (pc := 5) dJ0_copyOfRangeByte_5 2 rfl rfl ?_
  refine r_iload_n (pc := 6) dJ0_copyOfRangeByte_6 1 rfl rfl ?_
  refine r_isub (pc := 7) dJ0_copyOfRangeByte_7 ?_
  refine r_istore_n (pc := 8) (env' := [(3, vi (a2 - a1)), (0, vr a0), (1, vi a1), (2, vi a2)]) dJ0_copyOfRangeByte_8 rfl (by decide) rfl ?_
  refine r_iload_n (pc := 9) dJ0_copyOfRangeByte_9 0 rfl rfl ?_
  refine r_newarray (pc := 10) dJ0_copyOfRangeByte_10 ⟨rfl, by decide⟩ h (fun x10 st e10 h => ?_)
  refine r_astore (pc := 12) (env' := [(4, vr x10), (3, vi (a2 - a1)), (0, vr a0), (1, vi a1), (2, vi a2)]) dJ0_copyOfRangeByte_12 (by decide) rfl ?_
  refine r_aload_n (pc := 14) dJ0_copyOfRangeByte_14 2 rfl rfl ?_
  refine r_iload_n (pc := 15) dJ0_copyOfRangeByte_15 3 rfl rfl ?_
  refine r_aload (pc := 16) dJ0_copyOfRangeByte_16 0 rfl ?_
  refine r_iconst (pc := 18) (v := 0) dJ0_copyOfRangeByte_18 (by decide) ?_
  refine r_aload_n (pc := 19) dJ0_copyOfRangeByte_19 2 rfl rfl ?_
  refine r_alen (pc := 20) dJ0_copyOfRangeByte_20 h (fun x20 e20 h => ?_)
  refine r_iload_n (pc := 21) dJ0_copyOfRangeByte_21 3 rfl rfl ?_
  refine r_isub (pc := 22) dJ0_copyOfRangeByte_22 ?_
  refine r_iload_n (pc := 23) dJ0_copyOfRangeByte_23 1 rfl rfl ?_
  refine r_mminI (pc := 24) dJ0_copyOfRangeByte_24 q656 (by decide) (Nat.le_of_ble_eq_true rfl) ?_
  refine r_cpy (pc := 27) dJ0_copyOfRangeByte_27 q657 (by decide) (Nat.le_of_ble_eq_true rfl) h (fun st e27 h => ?_)
  refine r_aload (pc := 30) dJ0_copyOfRangeByte_30 0 rfl ?_
  exact r_areturn (pc := 32) dJ0_copyOfRangeByte_32 rfl rfl h
theorem sJ0_copyOf_2 {a0 : Rf} {a1 : Int32} {st : Mem} {fin : Rf × Mem} (h : fJ0_copyOf_2 a0 a1 st = some fin) : Con yJ0_copyOf_2 8 [vr a0, vi a1] st trA fin := by
  refine Con.mk (cc := cJ0_copyOf_2) (n := 2) (own := "java/util/Arrays") (nm := "copyOf") (ret := (some (.array (.object "java/lang/Object")))) (env := [(0, vr a0), (1, vi a1)]) q1196 rfl rfl rfl (by decide) ⟨Nat.le_of_ble_eq_true rfl, by decide⟩ rfl ?_
  unfold fJ0_copyOf_2 at h
  refine r_aload_n (pc := 0) dJ0_copyOf_2_0 0 rfl rfl ?_
  refine r_iload_n (pc := 1) dJ0_copyOf_2_1 1 rfl rfl ?_
  refine r_aload_n (pc := 2) dJ0_copyOf_2_2 0 rfl rfl ?_
  refine r_gcl (pc := 3) dJ0_copyOf_2_3 q1197 (by decide) (Nat.le_of_ble_eq_true rfl) h (fun x3 e3 h => ?_)
  refine r_callA (pc := 6) (rest := []) (lkS dJ0_copyOf_2_6 q1222 q1223 q87 (fun _ => sJ0_copyOf_3) ad_J0_copyOf_3) (by decide) (Nat.le_of_ble_eq_true rfl) rfl h (fun x6 st e6 h => ?_)
  exact r_areturn (pc := 9) dJ0_copyOf_2_9 rfl rfl h
theorem sJ10_ensureCapacityInternal {a0 : Rf} {a1 : Int32} {st : Mem} {fin : Unit × Mem} (h : fJ10_ensureCapacityInternal a0 a1 st = some fin) : Con yJ10_ensureCapacityInternal 8 [vr a0, vi a1] st trV fin := by
  refine Con.mk (cc := cJ10_ensureCapacityInternal) (n := 3) (own := "java/lang/AbstractStringBuilder") (nm := "ensureCapacityInternal") (ret := none) (env := [(0, vr a0), (1, vi a1)]) q632 rfl rfl rfl (by decide) ⟨Nat.le_of_ble_eq_true rfl, by decide⟩ rfl ?_
  unfold fJ10_ensureCapacityInternal at h
  refine r_aload_n (pc := 0) dJ10_ensureCapacityInternal_0 0 rfl rfl ?_
  refine r_gA (pc := 1) dJ10_ensureCapacityInternal_1 q609 fd_159 same_rf h (fun x1 e1 h => ?_)
  refine r_alen (pc := 4) dJ10_ensureCapacityInternal_4 h (fun x4 e4 h => ?_)
  refine r_aload_n (pc := 5) dJ10_ensureCapacityInternal_5 0 rfl rfl ?_
  refine r_gI (pc := 6) dJ10_ensureCapacityInternal_6 q610 fd_160 same_rf h (fun x6 e6 h => ?_)
  refine r_ishr (pc := 9) dJ10_ensureCapacityInternal_9 ?_
  refine r_istore_n (pc := 10) (env' := [(2, vi (shrI x4 x6)), (0, vr a0), (1, vi a1)]) dJ10_ensureCapacityInternal_10 rfl (by decide) rfl ?_
  refine r_iload_n (pc := 11) dJ10_ensureCapacityInternal_11 2 rfl rfl ?_
  refine r_iload_n (pc := 12) dJ10_ensureCapacityInternal_12 0 rfl rfl ?_
  refine r_isub (pc := 13) dJ10_ensureCapacityInternal_13 ?_
  refine r_if_le (pc := 14) (tgt := 38) dJ10_ensureCapacityInternal_14 (by decide) h (fun e14 h => ?_) (fun e14 h => ?_)
  · exact r_return_ (pc := 38) dJ10_ensureCapacityInternal_38 rfl h
  · refine r_aload_n (pc := 17) dJ10_ensureCapacityInternal_17 1 rfl rfl ?_
    refine r_aload_n (pc := 18) dJ10_ensureCapacityInternal_18 1 rfl rfl ?_
    refine r_gA (pc := 19) dJ10_ensureCapacityInternal_19 q609 fd_159 same_rf h (fun x19 e19 h => ?_)
    refine r_aload_n (pc := 22) dJ10_ensureCapacityInternal_22 1 rfl rfl ?_
    refine r_iload_n (pc := 23) dJ10_ensureCapacityInternal_23 2 rfl rfl ?_
    cases h
theorem sJ11_init {a0 : Rf} {st : Mem} {fin : Unit × Mem} (h : fJ11_init a0 st = some fin) : Con yJ11_init 8 [vr a0] st trV fin := by
  refine Con.mk (cc := cJ11_init) (n := 1) (own := "java/lang/StringBuilder") (nm := "<init>") (ret := none) (env := [(0, vr a0)]) q596 rfl rfl rfl (by decide) ⟨Nat.le_of_ble_eq_true rfl, by decide⟩ rfl ?_
  unfold fJ11_init at h
  refine r_aload_n (pc := 0) dJ11_init_0 0 rfl rfl ?_
  refine r_bipush (pc := 1) (v := 16) dJ11_init_1 (by decide) ?_
  refine r_callV (pc := 3) (rest := []) (lkI dJ11_init_3 q597 q598 q599 rfl (fun _ => sJ10_init) ad_J10_init) (by decide) (Nat.le_of_ble_eq_true rfl) rfl h (fun u3 st e3 h => ?_)
  exact r_return_ (pc := 6) dJ11_init_6 rfl h
theorem sJ11_length {a0 : Rf} {st : Mem} {fin : Int32 × Mem} (h : fJ11_length a0 st = some fin) : Con yJ11_length 8 [vr a0] st trI fin := by
  refine Con.mk (cc := cJ11_length) (n := 1) (own := "java/lang/StringBuilder") (nm := "length") (ret := (some .int)) (env := [(0, vr a0)]) q725 rfl rfl rfl (by decide) ⟨Nat.le_of_ble_eq_true rfl, by decide⟩ rfl ?_
  unfold fJ11_length at h
  refine r_aload_n (pc := 0) dJ11_length_0 0 rfl rfl ?_
  refine r_callI (pc := 1) (rest := []) (lkP dJ11_length_1 q726 q722 q621 q721 (by decide) (by decide) (fun _ => sJ10_length) ad_J10_length) (by decide) (Nat.le_of_ble_eq_true rfl) rfl h (fun x1 st e1 h => ?_)
  exact r_ireturn (pc := 4) dJ11_length_4 rfl rfl h
theorem sJ17_checkIndex {a0 : Int32} {a1 : Int32} {st : Mem} {fin : Int32 × Mem} (h : fJ17_checkIndex a0 a1 st = some fin) : Con yJ17_checkIndex 8 [vi a0, vi a1] st trI fin := by
  refine Con.mk (cc := cJ17_checkIndex) (n := 2) (own := "java/util/Objects") (nm := "checkIndex") (ret := (some .int)) (env := [(0, vi a0), (1, vi a1)]) q1260 rfl rfl rfl (by decide) ⟨Nat.le_of_ble_eq_true rfl, by decide⟩ rfl ?_
  unfold fJ17_checkIndex at h
  refine r_iload_n (pc := 0) dJ17_checkIndex_0 0 rfl rfl ?_
  refine r_iload_n (pc := 1) dJ17_checkIndex_1 1 rfl rfl ?_
  refine r_null (pc := 2) dJ17_checkIndex_2 ?_
  refine r_callI (pc := 3) (rest := []) (lkS dJ17_checkIndex_3 q1261 q700 q99 (fun _ => sJ8_checkIndex) ad_J8_checkIndex) (by decide) (Nat.le_of_ble_eq_true rfl) rfl h (fun x3 st e3 h => ?_)
  exact r_ireturn (pc := 6) dJ17_checkIndex_6 rfl rfl h
theorem sJ2_init {a0 : Rf} {st : Mem} {fin : Unit × Mem} (h : fJ2_init a0 st = some fin) : Con yJ2_init 8 [vr a0] st trV fin := by
  refine Con.mk (cc := cJ2_init) (n := 1) (own := "java/util/AbstractList") (nm := "<init>") (ret := none) (env := [(0, vr a0)]) q235 rfl rfl rfl (by decide) ⟨Nat.le_of_ble_eq_true rfl, by decide⟩ rfl ?_
  unfold fJ2_init at h
  refine r_aload_n (pc := 0) dJ2_init_0 0 rfl rfl ?_
  refine r_callV (pc := 1) (rest := []) (lkI dJ2_init_1 q236 q237 q238 rfl (fun _ => sJ1_init) ad_J1_init) (by decide) (Nat.le_of_ble_eq_true rfl) rfl h (fun u1 st e1 h => ?_)
  refine r_aload_n (pc := 4) dJ2_init_4 0 rfl rfl ?_
  refine r_iconst (pc := 5) (v := 0) dJ2_init_5 (by decide) ?_
  refine r_pI (pc := 6) dJ2_init_6 q244 fd_152 same_rf rfl h (fun st e6 h => ?_)
  exact r_return_ (pc := 9) dJ2_init_9 rfl h
theorem sJ4_checkIndex {a0 : Int32} {a1 : Int32} {st : Mem} {fin : Unit × Mem} (h : fJ4_checkIndex a0 a1 st = some fin) : Con yJ4_checkIndex 8 [vi a0, vi a1] st trV fin := by
  refine Con.mk (cc := cJ4_checkIndex) (n := 2) (own := "java/lang/String") (nm := "checkIndex") (ret := none) (env := [(0, vi a0), (1, vi a1)]) q698 rfl rfl rfl (by decide) ⟨Nat.le_of_ble_eq_true rfl, by decide⟩ rfl ?_
  unfold fJ4_checkIndex at h
  refine r_iload_n (pc := 0) dJ4_checkIndex_0 0 rfl rfl ?_
  refine r_iload_n (pc := 1) dJ4_checkIndex_1 1 rfl rfl ?_
  refine r_gs_fmt (pc := 2) dJ4_checkIndex_2 q561 (fun rF => ?_)
  refine r_callI (pc := 5) (rest := []) (lkS dJ4_checkIndex_5 q699 q700 q99 (fun _ => sJ8_checkIndex) ad_J8_checkIndex) (by decide) (Nat.le_of_ble_eq_true rfl) rfl h (fun x5 st e5 h => ?_)
  refine r_pop (pc := 8) dJ4_checkIndex_8 rfl ?_
  exact r_return_ (pc := 9) dJ4_checkIndex_9 rfl h
theorem sJ4_equals_54 {st0 : Mem} {fin : Int32 × Mem} (st : Mem) (h : bJ4_equals_54  st = some fin) : G (cJ4_equals, "java/lang/String", "equals", 8, (some .boolean), 3) st0 trI fin 54 [] [] st := by
  unfold bJ4_equals_54 at h
  refine r_iconst (pc := 54) (v := 0) dJ4_equals_54 (by decide) ?_
  exact r_ireturn (pc := 55) dJ4_equals_55 rfl rfl h
theorem sJ4_equals_36 {st0 : Mem} {fin : Int32 × Mem} (v0 : Rf) (v2 : Rf) (st : Mem) (h : bJ4_equals_36 v0 v2 st = some fin) : G (cJ4_equals, "java/lang/String", "equals", 8, (some .boolean), 3) st0 trI fin 36 [(0, vr v0), (2, vr v2)] [] st := by
  unfold bJ4_equals_36 at h
  refine r_aload_n (pc := 36) dJ4_equals_36 0 rfl rfl ?_
  refine r_gA (pc := 37) dJ4_equals_37 q748 fd_155 same_rf h (fun x37 e37 h => ?_)
  refine r_aload_n (pc := 40) dJ4_equals_40 1 rfl rfl ?_
  refine r_gA (pc := 41) dJ4_equals_41 q748 fd_155 same_rf h (fun x41 e41 h => ?_)
  refine r_callI (pc := 44) (rest := []) (lkS dJ4_equals_44 q771 q772 q96 (fun _ => sJ5_equals) ad_J5_equals) (by decide) (Nat.le_of_ble_eq_true rfl) rfl h (fun x44 st e44 h => ?_)
  refine r_if_eq (pc := 47) (tgt := 54) dJ4_equals_47 (by decide) h (fun e47 h => ?_) (fun e47 h => ?_)
  · exact r_sub (env' := []) [] rfl (sJ4_equals_54 _ h)
  · refine r_iconst (pc := 50) (v := 1) dJ4_equals_50 (by decide) ?_
    refine r_goto (pc := 51) (tgt := 55) dJ4_equals_51 (by decide) ?_
    exact r_ireturn (pc := 55) dJ4_equals_55 rfl rfl h
theorem sJ4_equals {a0 : Rf} {a1 : Rf} {st : Mem} {fin : Int32 × Mem} (h : fJ4_equals a0 a1 st = some fin) : Con yJ4_equals 8 [vr a0, vr a1] st trI fin := by
  refine Con.mk (cc := cJ4_equals) (n := 3) (own := "java/lang/String") (nm := "equals") (ret := (some .boolean)) (env := [(0, vr a0), (1, vr a1)]) q769 rfl rfl rfl (by decide) ⟨Nat.le_of_ble_eq_true rfl, by decide⟩ rfl ?_
  unfold fJ4_equals at h
  refine r_aload_n (pc := 0) dJ4_equals_0 0 rfl rfl ?_
  refine r_aload_n (pc := 1) dJ4_equals_1 1 rfl rfl ?_
  refine r_acmp_ne (pc := 2) (tgt := 7) dJ4_equals_2 (by decide) h (fun e2 h => ?_) (fun e2 h => ?_)
  · refine r_aload_n (pc := 7) dJ4_equals_7 1 rfl rfl ?_
    refine r_inst (pc := 8) dJ4_equals_8 q770 ⟨rfl, by decide, by decide⟩ h (fun x8 e8 h => ?_)
    refine r_if_eq (pc := 11) (tgt := 54) dJ4_equals_11 (by decide) h (fun e11 h => ?_) (fun e11 h => ?_)
    · exact r_sub (env' := []) [] rfl (sJ4_equals_54 _ h)
    · refine r_aload_n (pc := 14) dJ4_equals_14 1 rfl rfl ?_
      refine r_cast (pc := 15) dJ4_equals_15 q770 ⟨rfl, by decide, by decide⟩ h (fun x15 e15 h => ?_)
      refine r_astore_n (pc := 18) (env' := [(2, vr x15), (0, vr a0), (1, vr a1)]) dJ4_equals_18 rfl (by decide) rfl ?_
      refine r_gs_COMPACT_STRINGS (pc := 19) dJ4_equals_19 q518 ?_
      refine r_if_eq (pc := 22) (tgt := 36) dJ4_equals_22 (by decide) h (fun e22 h => ?_) (fun e22 h => ?_)
      · exact r_sub (env' := [(0, vr a0), (2, vr x15)]) [1, 0] rfl (sJ4_equals_36 _ _ _ h)
      · refine r_aload_n (pc := 25) dJ4_equals_25 1 rfl rfl ?_
        refine r_gI (pc := 26) dJ4_equals_26 q749 fd_156 same_rf h (fun x26 e26 h => ?_)
        refine r_aload_n (pc := 29) dJ4_equals_29 0 rfl rfl ?_
        refine r_gI (pc := 30) dJ4_equals_30 q749 fd_156 same_rf h (fun x30 e30 h => ?_)
        refine r_icmp_ne (pc := 33) (tgt := 54) dJ4_equals_33 (by decide) h (fun e33 h => ?_) (fun e33 h => ?_)
        · exact r_sub (env' := []) [] rfl (sJ4_equals_54 _ h)
        · exact r_sub (env' := [(0, vr a0), (2, vr x15)]) [1, 0] rfl (sJ4_equals_36 _ _ _ h)
  · refine r_iconst (pc := 5) (v := 1) dJ4_equals_5 (by decide) ?_
    exact r_ireturn (pc := 6) dJ4_equals_6 rfl rfl h
theorem sJ4_length {a0 : Rf} {st : Mem} {fin : Int32 × Mem} (h : fJ4_length a0 st = some fin) : Con yJ4_length 8 [vr a0] st trI fin := by
  refine Con.mk (cc := cJ4_length) (n := 1) (own := "java/lang/String") (nm := "length") (ret := (some .int)) (env := [(0, vr a0)]) q523 rfl rfl rfl (by decide) ⟨Nat.le_of_ble_eq_true rfl, by decide⟩ rfl ?_
  unfold fJ4_length at h
  refine r_aload_n (pc := 0) dJ4_length_0 0 rfl rfl ?_
  refine r_gA (pc := 1) dJ4_length_1 q748 fd_155 same_rf h (fun x1 e1 h => ?_)
  refine r_alen (pc := 4) dJ4_length_4 h (fun x4 e4 h => ?_)
  refine r_aload_n (pc := 5) dJ4_length_5 0 rfl rfl ?_
  refine r_callI (pc := 6) (rest := [vi x4]) (lkV dJ4_length_6 q524 xd_J4_coder (vc_of vt_J4_coder q525 (fun _ => sJ4_coder)) adx_J4_coder) (by decide) (Nat.le_of_ble_eq_true rfl) rfl h (fun x6 st e6 h => ?_)
  refine r_ishr (pc := 9) dJ4_length_9 ?_
  exact r_ireturn (pc := 10) dJ4_length_10 rfl rfl h
theorem sJ5_indexOf {a0 : Rf} {a1 : Int32} {a2 : Int32} {a3 : Int32} {st : Mem} {fin : Int32 × Mem} (h : fJ5_indexOf a0 a1 a2 a3 st = some fin) : Con yJ5_indexOf 8 [vr a0, vi a1, vi a2, vi a3] st trI fin := by
  refine Con.mk (cc := cJ5_indexOf) (n := 4) (own := "java/lang/StringLatin1") (nm := "indexOf") (ret := (some .int)) (env := [(0, vr a0), (1, vi a1), (2, vi a2), (3, vi a3)]) q530 rfl rfl rfl (by decide) ⟨Nat.le_of_ble_eq_true rfl, by decide⟩ rfl ?_
  unfold fJ5_indexOf at h
  refine r_iload_n (pc := 0) dJ5_indexOf_0 1 rfl rfl ?_
  refine r_callI (pc := 1) (rest := []) (lkS dJ5_indexOf_1 q531 q532 q96 (fun _ => sJ5_canEncode) ad_J5_canEncode) (by decide) (Nat.le_of_ble_eq_true rfl) rfl h (fun x1 st e1 h => ?_)
  refine r_if_ne (pc := 4) (tgt := 9) dJ5_indexOf_4 (by decide) h (fun e4 h => ?_) (fun e4 h => ?_)
  · refine r_iload_n (pc := 9) dJ5_indexOf_9 2 rfl rfl ?_
    refine r_iconst (pc := 10) (v := 0) dJ5_indexOf_10 (by decide) ?_
    refine r_mmaxI (pc := 11) dJ5_indexOf_11 q534 (by decide) (Nat.le_of_ble_eq_true rfl) ?_
    refine r_istore_n (pc := 14) (env' := [(2, vi (mmaxI a2 (0 : Int32))), (0, vr a0), (1, vi a1), (3, vi a3)]) dJ5_indexOf_14 rfl (by decide) rfl ?_
    refine r_iload_n (pc := 15) dJ5_indexOf_15 3 rfl rfl ?_
    refine r_aload_n (pc := 16) dJ5_indexOf_16 1 rfl rfl ?_
    refine r_alen (pc := 17) dJ5_indexOf_17 h (fun x17 e17 h => ?_)
    refine r_mminI (pc := 18) dJ5_indexOf_18 q537 (by decide) (Nat.le_of_ble_eq_true rfl) ?_
    refine r_istore_n (pc := 21) (env' := [(3, vi (mminI a3 x17)), (2, vi (mmaxI a2 (0 : Int32))), (0, vr a0), (1, vi a1)]) dJ5_indexOf_21 rfl (by decide) rfl ?_
    refine r_iload_n (pc := 22) dJ5_indexOf_22 1 rfl rfl ?_
    refine r_iload_n (pc := 23) dJ5_indexOf_23 0 rfl rfl ?_
    refine r_icmp_lt (pc := 24) (tgt := 29) dJ5_indexOf_24 (by decide) h (fun e24 h => ?_) (fun e24 h => ?_)
    · refine r_aload_n (pc := 29) dJ5_indexOf_29 2 rfl rfl ?_
      refine r_iload_n (pc := 30) dJ5_indexOf_30 3 rfl rfl ?_
      refine r_iload_n (pc := 31) dJ5_indexOf_31 1 rfl rfl ?_
      refine r_iload_n (pc := 32) dJ5_indexOf_32 0 rfl rfl ?_
      refine r_callI (pc := 33) (rest := []) (lkS dJ5_indexOf_33 q540 q541 q96 (fun _ => sJ5_indexOfChar) ad_J5_indexOfChar) (by decide) (Nat.le_of_ble_eq_true rfl) rfl h (fun x33 st e33 h => ?_)
      exact r_ireturn (pc := 36) dJ5_indexOf_36 rfl rfl h
    · refine r_iconst (pc := 27) (v := (-1)) dJ5_indexOf_27 (by decide) ?_
      exact r_ireturn (pc := 28) dJ5_indexOf_28 rfl rfl h
  · refine r_iconst (pc := 7) (v := (-1)) dJ5_indexOf_7 (by decide) ?_
    exact r_ireturn (pc := 8) dJ5_indexOf_8 rfl rfl h
theorem sJ0_copyOfRange_10 {st0 : Mem} {fin : Rf × Mem} (v0 : Rf) (v1 : Int32) (v2 : Int32) (st : Mem) (h : bJ0_copyOfRange_10 v0 v1 v2 st = some fin) : G (cJ0_copyOfRange, "java/util/Arrays", "copyOfRange", 10, (some (.array .byte)), 3) st0 trA fin 10 [(0, vr v0), (1, vi v1), (2, vi v2)] [] st := by
  unfold bJ0_copyOfRange_10 at h
  refine r_aload_n (pc := 10) dJ0_copyOfRange_10 0 rfl rfl ?_
  refine r_iload_n (pc := 11) dJ0_copyOfRange_11 1 rfl rfl ?_
  refine r_iload_n (pc := 12) dJ0_copyOfRange_12 2 rfl rfl ?_
  refine r_callA (pc := 13) (rest := []) (lkS dJ0_copyOfRange_13 q732 q733 q87 (fun _ => sJ0_copyOfRangeByte) ad_J0_copyOfRangeByte) (by decide) (Nat.le_of_ble_eq_true rfl) rfl h (fun x13 st e13 h => ?_)
  exact r_areturn (pc := 16) dJ0_copyOfRange_16 rfl rfl h
theorem sJ0_copyOfRange {a0 : Rf} {a1 : Int32} {a2 : Int32} {st : Mem} {fin : Rf × Mem} (h : fJ0_copyOfRange a0 a1 a2 st = some fin) : Con yJ0_copyOfRange 10 [vr a0, vi a1, vi a2] st trA fin := by
  refine Con.mk (cc := cJ0_copyOfRange) (n := 3) (own := "java/util/Arrays") (nm := "copyOfRange") (ret := (some (.array .byte))) (env := [(0, vr a0), (1, vi a1), (2, vi a2)]) q731 rfl rfl rfl (by decide) ⟨Nat.le_of_ble_eq_true rfl, by decide⟩ rfl ?_
  unfold fJ0_copyOfRange at h
  refine r_iload_n (pc := 0) dJ0_copyOfRange_0 1 rfl rfl ?_
  refine r_if_ne (pc := 1) (tgt := 10) dJ0_copyOfRange_1 (by decide) h (fun e1 h => ?_) (fun e1 h => ?_)
  · exact sJ0_copyOfRange_10 _ _ _ _ h
  · refine r_iload_n (pc := 4) dJ0_copyOfRange_4 2 rfl rfl ?_
    refine r_aload_n (pc := 5) dJ0_copyOfRange_5 0 rfl rfl ?_
    refine r_alen (pc := 6) dJ0_copyOfRange_6 h (fun x6 e6 h => ?_)
    refine r_icmp_eq (pc := 7) (tgt := 17) dJ0_copyOfRange_7 (by decide) h (fun e7 h => ?_) (fun e7 h => ?_)
    · refine r_aload_n (pc := 17) dJ0_copyOfRange_17 0 rfl rfl ?_
      cases h
    · exact sJ0_copyOfRange_10 _ _ _ _ h
theorem sJ10_append_56 {st0 : Mem} {fin : Rf × Mem} (v0 : Rf) (v1 : Int32) (st : Mem) (h : bJ10_append_56 v0 v1 st = some fin) : G (cJ10_append, "java/lang/AbstractStringBuilder", "append", 10, (some (.object "java/lang/AbstractStringBuilder")), 2) st0 trA fin 56 [(0, vr v0), (1, vi v1)] [] st := by
  unfold bJ10_append_56 at h
  refine r_aload_n (pc := 56) dJ10_append_56 0 rfl rfl ?_
  refine r_gA (pc := 57) dJ10_append_57 q609 fd_159 same_rf h (fun x57 e57 h => ?_)
  refine r_aload_n (pc := 60) dJ10_append_60 0 rfl rfl ?_
  refine r_dup (pc := 61) dJ10_append_61 rfl ?_
  refine r_gI (pc := 62) dJ10_append_62 q612 fd_162 same_rf h (fun x62 e62 h => ?_)
  refine r_dup_x1 (pc := 65) dJ10_append_65 rfl rfl ?_
  refine r_iconst (pc := 66) (v := 1) dJ10_append_66 (by decide) ?_
  refine r_iadd (pc := 67) dJ10_append_67 ?_
  refine r_pI (pc := 68) dJ10_append_68 q612 fd_162 same_rf rfl h (fun st e68 h => ?_)
  refine r_iload_n (pc := 71) dJ10_append_71 1 rfl rfl ?_
  cases h
theorem sJ10_append_45 {st0 : Mem} {fin : Rf × Mem} (v0 : Rf) (v1 : Int32) (st : Mem) (h : bJ10_append_45 v0 v1 st = some fin) : G (cJ10_append, "java/lang/AbstractStringBuilder", "append", 10, (some (.object "java/lang/AbstractStringBuilder")), 2) st0 trA fin 45 [(0, vr v0), (1, vi v1)] [] st := by
  unfold bJ10_append_45 at h
  refine r_aload_n (pc := 45) dJ10_append_45 0 rfl rfl ?_
  refine r_callI (pc := 46) (rest := []) (lkV dJ10_append_46 q660 xd_J10_isLatin1 (vc_of vt_J10_isLatin1 q661 (fun _ => sJ10_isLatin1)) adx_J10_isLatin1) (by decide) (Nat.le_of_ble_eq_true rfl) rfl h (fun x46 st e46 h => ?_)
  refine r_if_eq (pc := 49) (tgt := 56) dJ10_append_49 (by decide) h (fun e49 h => ?_) (fun e49 h => ?_)
  · exact sJ10_append_56 _ _ _ h
  · refine r_aload_n (pc := 52) dJ10_append_52 0 rfl rfl ?_
    cases h
theorem sJ10_append {a0 : Rf} {a1 : Int32} {st : Mem} {fin : Rf × Mem} (h : fJ10_append a0 a1 st = some fin) : Con yJ10_append 10 [vr a0, vi a1] st trA fin := by
  refine Con.mk (cc := cJ10_append) (n := 2) (own := "java/lang/AbstractStringBuilder") (nm := "append") (ret := (some (.object "java/lang/AbstractStringBuilder"))) (env := [(0, vr a0), (1, vi a1)]) q628 rfl rfl rfl (by decide) ⟨Nat.le_of_ble_eq_true rfl, by decide⟩ rfl ?_
  unfold fJ10_append at h
  refine r_aload_n (pc := 0) dJ10_append_0 0 rfl rfl ?_
  refine r_aload_n (pc := 1) dJ10_append_1 0 rfl rfl ?_
  refine r_gI (pc := 2) dJ10_append_2 q612 fd_162 same_rf h (fun x2 e2 h => ?_)
  refine r_iconst (pc := 5) (v := 1) dJ10_append_5 (by decide) ?_
  refine r_iadd (pc := 6) dJ10_append_6 ?_
  refine r_callV (pc := 7) (rest := []) (lkV dJ10_append_7 q629 xd_J10_ensureCapacityInternal (vc_of vt_J10_ensureCapacityInternal q631 (fun _ => sJ10_ensureCapacityInternal)) adx_J10_ensureCapacityInternal) (by decide) (Nat.le_of_ble_eq_true rfl) rfl h (fun u7 st e7 h => ?_)
  refine r_aload_n (pc := 10) dJ10_append_10 0 rfl rfl ?_
  refine r_callI (pc := 11) (rest := []) (lkV dJ10_append_11 q660 xd_J10_isLatin1 (vc_of vt_J10_isLatin1 q661 (fun _ => sJ10_isLatin1)) adx_J10_isLatin1) (by decide) (Nat.le_of_ble_eq_true rfl) rfl h (fun x11 st e11 h => ?_)
  refine r_if_eq (pc := 14) (tgt := 45) dJ10_append_14 (by decide) h (fun e14 h => ?_) (fun e14 h => ?_)
  · exact sJ10_append_45 _ _ _ h
  · refine r_iload_n (pc := 17) dJ10_append_17 1 rfl rfl ?_
    refine r_callI (pc := 18) (rest := []) (lkS dJ10_append_18 q665 q666 q96 (fun _ => sJ5_canEncode_2) ad_J5_canEncode_2) (by decide) (Nat.le_of_ble_eq_true rfl) rfl h (fun x18 st e18 h => ?_)
    refine r_if_eq (pc := 21) (tgt := 45) dJ10_append_21 (by decide) h (fun e21 h => ?_) (fun e21 h => ?_)
    · exact sJ10_append_45 _ _ _ h
    · refine r_aload_n (pc := 24) dJ10_append_24 0 rfl rfl ?_
      refine r_gA (pc := 25) dJ10_append_25 q609 fd_159 same_rf h (fun x25 e25 h => ?_)
      refine r_aload_n (pc := 28) dJ10_append_28 0 rfl rfl ?_
      refine r_dup (pc := 29) dJ10_append_29 rfl ?_
      refine r_gI (pc := 30) dJ10_append_30 q612 fd_162 same_rf h (fun x30 e30 h => ?_)
      refine r_dup_x1 (pc := 33) dJ10_append_33 rfl rfl ?_
      refine r_iconst (pc := 34) (v := 1) dJ10_append_34 (by decide) ?_
      refine r_iadd (pc := 35) dJ10_append_35 ?_
      refine r_pI (pc := 36) dJ10_append_36 q612 fd_162 same_rf rfl h (fun st e36 h => ?_)
      refine r_iload_n (pc := 39) dJ10_append_39 1 rfl rfl ?_
      refine r_i2b (pc := 40) dJ10_append_40 ?_
      refine r_bastore (pc := 41) dJ10_append_41 h (fun st e41 h => ?_)
      refine r_goto (pc := 42) (tgt := 75) dJ10_append_42 (by decide) ?_
      refine r_aload_n (pc := 75) dJ10_append_75 0 rfl rfl ?_
      exact r_areturn (pc := 76) dJ10_append_76 rfl rfl h
theorem sJ3_get {a0 : Rf} {a1 : Int32} {st : Mem} {fin : Rf × Mem} (h : fJ3_get a0 a1 st = some fin) : Con yJ3_get 10 [vr a0, vi a1] st trA fin := by
  refine Con.mk (cc := cJ3_get) (n := 2) (own := "java/util/ArrayList") (nm := "get") (ret := (some (.object "java/lang/Object"))) (env := [(0, vr a0), (1, vi a1)]) q1257 rfl rfl rfl (by decide) ⟨Nat.le_of_ble_eq_true rfl, by decide⟩ rfl ?_
  unfold fJ3_get at h
  refine r_iload_n (pc := 0) dJ3_get_0 1 rfl rfl ?_
  refine r_aload_n (pc := 1) dJ3_get_1 0 rfl rfl ?_
  refine r_gI (pc := 2) dJ3_get_2 q243 fd_154 same_rf h (fun x2 e2 h => ?_)
  refine r_callI (pc := 5) (rest := []) (lkS dJ3_get_5 q1258 q1259 q125 (fun _ => sJ17_checkIndex) ad_J17_checkIndex) (by decide) (Nat.le_of_ble_eq_true rfl) rfl h (fun x5 st e5 h => ?_)
  refine r_pop (pc := 8) dJ3_get_8 rfl ?_
  refine r_aload_n (pc := 9) dJ3_get_9 0 rfl rfl ?_
  refine r_iload_n (pc := 10) dJ3_get_10 1 rfl rfl ?_
  refine r_callA (pc := 11) (rest := []) (lkV dJ3_get_11 q1262 xd_J3_elementData (vc_of vt_J3_elementData q1263 (fun _ => sJ3_elementData)) adx_J3_elementData) (by decide) (Nat.le_of_ble_eq_true rfl) rfl h (fun x11 st e11 h => ?_)
  exact r_areturn (pc := 14) dJ3_get_14 rfl rfl h
theorem sJ3_grow_2_20 {st0 : Mem} {fin : Rf × Mem} (v0 : Rf) (v1 : Int32) (v2 : Int32) (st : Mem) (h : bJ3_grow_2_20 v0 v1 v2 st = some fin) : G (cJ3_grow_2, "java/util/ArrayList", "grow", 10, (some (.array (.object "java/lang/Object"))), 4) st0 trA fin 20 [(0, vr v0), (1, vi v1), (2, vi v2)] [] st := by
  unfold bJ3_grow_2_20 at h
  refine r_iload_n (pc := 20) dJ3_grow_2_20 2 rfl rfl ?_
  refine r_iload_n (pc := 21) dJ3_grow_2_21 1 rfl rfl ?_
  refine r_iload_n (pc := 22) dJ3_grow_2_22 2 rfl rfl ?_
  refine r_isub (pc := 23) dJ3_grow_2_23 ?_
  refine r_iload_n (pc := 24) dJ3_grow_2_24 2 rfl rfl ?_
  refine r_iconst (pc := 25) (v := 1) dJ3_grow_2_25 (by decide) ?_
  refine r_ishr (pc := 26) dJ3_grow_2_26 ?_
  refine r_callI (pc := 27) (rest := []) (lkS dJ3_grow_2_27 q1193 q638 q103 (fun _ => sJ12_newLength) ad_J12_newLength) (by decide) (Nat.le_of_ble_eq_true rfl) rfl h (fun x27 st e27 h => ?_)
  refine r_istore_n (pc := 30) (env' := [(3, vi x27), (0, vr v0), (1, vi v1), (2, vi v2)]) dJ3_grow_2_30 rfl (by decide) rfl ?_
  refine r_aload_n (pc := 31) dJ3_grow_2_31 1 rfl rfl ?_
  refine r_aload_n (pc := 32) dJ3_grow_2_32 1 rfl rfl ?_
  refine r_gA (pc := 33) dJ3_grow_2_33 q242 fd_153 same_rf h (fun x33 e33 h => ?_)
  refine r_iload_n (pc := 36) dJ3_grow_2_36 0 rfl rfl ?_
  refine r_callA (pc := 37) (rest := [vr v0]) (lkS dJ3_grow_2_37 q1194 q1195 q87 (fun _ => sJ0_copyOf_2) ad_J0_copyOf_2) (by decide) (Nat.le_of_ble_eq_true rfl) rfl h (fun x37 st e37 h => ?_)
  refine r_dup_x1 (pc := 40) dJ3_grow_2_40 rfl rfl ?_
  refine r_pA (pc := 41) dJ3_grow_2_41 q242 fd_153 same_rf rfl h (fun st e41 h => ?_)
  exact r_areturn (pc := 44) dJ3_grow_2_44 rfl rfl h
theorem sJ3_grow_2 {a0 : Rf} {a1 : Int32} {st : Mem} {fin : Rf × Mem} (h : fJ3_grow_2 a0 a1 st = some fin) : Con yJ3_grow_2 10 [vr a0, vi a1] st trA fin := by
  refine Con.mk (cc := cJ3_grow_2) (n := 4) (own := "java/util/ArrayList") (nm := "grow") (ret := (some (.array (.object "java/lang/Object")))) (env := [(0, vr a0), (1, vi a1)]) q1192 rfl rfl rfl (by decide) ⟨Nat.le_of_ble_eq_true rfl, by decide⟩ rfl ?_
  unfold fJ3_grow_2 at h
  refine r_aload_n (pc := 0) dJ3_grow_2_0 0 rfl rfl ?_
  refine r_gA (pc := 1) dJ3_grow_2_1 q242 fd_153 same_rf h (fun x1 e1 h => ?_)
  refine r_alen (pc := 4) dJ3_grow_2_4 h (fun x4 e4 h => ?_)
  refine r_istore_n (pc := 5) (env' := [(2, vi x4), (0, vr a0), (1, vi a1)]) dJ3_grow_2_5 rfl (by decide) rfl ?_
  refine r_iload_n (pc := 6) dJ3_grow_2_6 0 rfl rfl ?_
  refine r_if_gt (pc := 7) (tgt := 20) dJ3_grow_2_7 (by decide) h (fun e7 h => ?_) (fun e7 h => ?_)
  · exact r_sub (env' := [(0, vr a0), (1, vi a1), (2, vi x4)]) [1, 2, 0] rfl (sJ3_grow_2_20 _ _ _ _ h)
  · refine r_aload_n (pc := 10) dJ3_grow_2_10 1 rfl rfl ?_
    refine r_gA (pc := 11) dJ3_grow_2_11 q242 fd_153 same_rf h (fun x11 e11 h => ?_)
    refine r_gs_empty (pc := 14) dJ3_grow_2_14 q240 ?_
    refine r_acmp_eq (pc := 17) (tgt := 45) dJ3_grow_2_17 (by decide) h (fun e17 h => ?_) (fun e17 h => ?_)
    · refine r_aload_n (pc := 45) dJ3_grow_2_45 1 rfl rfl ?_
      refine r_bipush (pc := 46) (v := 10) dJ3_grow_2_46 (by decide) ?_
      refine r_iload_n (pc := 48) dJ3_grow_2_48 2 rfl rfl ?_
      refine r_mmaxI (pc := 49) dJ3_grow_2_49 q1228 (by decide) (Nat.le_of_ble_eq_true rfl) ?_
      refine r_anewarray (pc := 52) dJ3_grow_2_52 q1229 ⟨rfl, by decide⟩ h (fun x52 st e52 h => ?_)
      refine r_dup_x1 (pc := 55) dJ3_grow_2_55 rfl rfl ?_
      refine r_pA (pc := 56) dJ3_grow_2_56 q242 fd_153 same_rf rfl h (fun st e56 h => ?_)
      exact r_areturn (pc := 59) dJ3_grow_2_59 rfl rfl h
    · exact r_sub (env' := [(0, vr a0), (1, vi a1), (2, vi x4)]) [1, 2, 0] rfl (sJ3_grow_2_20 _ _ _ _ h)
theorem sJ3_init {a0 : Rf} {st : Mem} {fin : Unit × Mem} (h : fJ3_init a0 st = some fin) : Con yJ3_init 10 [vr a0] st trV fin := by
  refine Con.mk (cc := cJ3_init) (n := 1) (own := "java/util/ArrayList") (nm := "<init>") (ret := none) (env := [(0, vr a0)]) q232 rfl rfl rfl (by decide) ⟨Nat.le_of_ble_eq_true rfl, by decide⟩ rfl ?_
  unfold fJ3_init at h
  refine r_aload_n (pc := 0) dJ3_init_0 0 rfl rfl ?_
  refine r_callV (pc := 1) (rest := []) (lkI dJ3_init_1 q233 q234 q235 rfl (fun _ => sJ2_init) ad_J2_init) (by decide) (Nat.le_of_ble_eq_true rfl) rfl h (fun u1 st e1 h => ?_)
  refine r_aload_n (pc := 4) dJ3_init_4 0 rfl rfl ?_
  refine r_gs_empty (pc := 5) dJ3_init_5 q240 ?_
  refine r_pA (pc := 8) dJ3_init_8 q242 fd_153 same_rf rfl h (fun st e8 h => ?_)
  exact r_return_ (pc := 11) dJ3_init_11 rfl h
theorem sJ3_set {a0 : Rf} {a1 : Int32} {a2 : Rf} {st : Mem} {fin : Rf × Mem} (h : fJ3_set a0 a1 a2 st = some fin) : Con yJ3_set 10 [vr a0, vi a1, vr a2] st trA fin := by
  refine Con.mk (cc := cJ3_set) (n := 4) (own := "java/util/ArrayList") (nm := "set") (ret := (some (.object "java/lang/Object"))) (env := [(0, vr a0), (1, vi a1), (2, vr a2)]) q1607 rfl rfl rfl (by decide) ⟨Nat.le_of_ble_eq_true rfl, by decide⟩ rfl ?_
  unfold fJ3_set at h
  refine r_iload_n (pc := 0) dJ3_set_0 1 rfl rfl ?_
  refine r_aload_n (pc := 1) dJ3_set_1 0 rfl rfl ?_
  refine r_gI (pc := 2) dJ3_set_2 q243 fd_154 same_rf h (fun x2 e2 h => ?_)
  refine r_callI (pc := 5) (rest := []) (lkS dJ3_set_5 q1258 q1259 q125 (fun _ => sJ17_checkIndex) ad_J17_checkIndex) (by decide) (Nat.le_of_ble_eq_true rfl) rfl h (fun x5 st e5 h => ?_)
  refine r_pop (pc := 8) dJ3_set_8 rfl ?_
  refine r_aload_n (pc := 9) dJ3_set_9 0 rfl rfl ?_
  refine r_iload_n (pc := 10) dJ3_set_10 1 rfl rfl ?_
  refine r_callA (pc := 11) (rest := []) (lkV dJ3_set_11 q1262 xd_J3_elementData (vc_of vt_J3_elementData q1263 (fun _ => sJ3_elementData)) adx_J3_elementData) (by decide) (Nat.le_of_ble_eq_true rfl) rfl h (fun x11 st e11 h => ?_)
  refine r_astore_n (pc := 14) (env' := [(3, vr x11), (0, vr a0), (1, vi a1), (2, vr a2)]) dJ3_set_14 rfl (by decide) rfl ?_
  refine r_aload_n (pc := 15) dJ3_set_15 1 rfl rfl ?_
  refine r_gA (pc := 16) dJ3_set_16 q242 fd_153 same_rf h (fun x16 e16 h => ?_)
  refine r_iload_n (pc := 19) dJ3_set_19 2 rfl rfl ?_
  refine r_aload_n (pc := 20) dJ3_set_20 3 rfl rfl ?_
  refine r_aastore (pc := 21) dJ3_set_21 h (fun st e21 h => ?_)
  refine r_aload_n (pc := 22) dJ3_set_22 0 rfl rfl ?_
  exact r_areturn (pc := 23) dJ3_set_23 rfl rfl h
theorem sJ4_indexOf_2 {a0 : Rf} {a1 : Int32} {a2 : Int32} {st : Mem} {fin : Int32 × Mem} (h : fJ4_indexOf_2 a0 a1 a2 st = some fin) : Con yJ4_indexOf_2 10 [vr a0, vi a1, vi a2] st trI fin := by
  refine Con.mk (cc := cJ4_indexOf_2) (n := 3) (own := "java/lang/String") (nm := "indexOf") (ret := (some .int)) (env := [(0, vr a0), (1, vi a1), (2, vi a2)]) q513 rfl rfl rfl (by decide) ⟨Nat.le_of_ble_eq_true rfl, by decide⟩ rfl ?_
  unfold fJ4_indexOf_2 at h
  refine r_aload_n (pc := 0) dJ4_indexOf_2_0 0 rfl rfl ?_
  refine r_callI (pc := 1) (rest := []) (lkV dJ4_indexOf_2_1 q514 xd_J4_isLatin1 (vc_of vt_J4_isLatin1 q515 (fun _ => sJ4_isLatin1)) adx_J4_isLatin1) (by decide) (Nat.le_of_ble_eq_true rfl) rfl h (fun x1 st e1 h => ?_)
  refine r_if_eq (pc := 4) (tgt := 23) dJ4_indexOf_2_4 (by decide) h (fun e4 h => ?_) (fun e4 h => ?_)
  · refine r_aload_n (pc := 23) dJ4_indexOf_2_23 0 rfl rfl ?_
    refine r_gA (pc := 24) dJ4_indexOf_2_24 q748 fd_155 same_rf h (fun x24 e24 h => ?_)
    refine r_iload_n (pc := 27) dJ4_indexOf_2_27 1 rfl rfl ?_
    refine r_iload_n (pc := 28) dJ4_indexOf_2_28 2 rfl rfl ?_
    refine r_aload_n (pc := 29) dJ4_indexOf_2_29 0 rfl rfl ?_
    refine r_callI (pc := 30) (rest := [vi a2, vi a1, vr x24]) (lkV dJ4_indexOf_2_30 q520 xd_J4_length (vc_of vt_J4_length q521 (fun _ => sJ4_length)) adx_J4_length) (by decide) (Nat.le_of_ble_eq_true rfl) rfl h (fun x30 st e30 h => ?_)
    cases h
  · refine r_aload_n (pc := 7) dJ4_indexOf_2_7 0 rfl rfl ?_
    refine r_gA (pc := 8) dJ4_indexOf_2_8 q748 fd_155 same_rf h (fun x8 e8 h => ?_)
    refine r_iload_n (pc := 11) dJ4_indexOf_2_11 1 rfl rfl ?_
    refine r_iload_n (pc := 12) dJ4_indexOf_2_12 2 rfl rfl ?_
    refine r_aload_n (pc := 13) dJ4_indexOf_2_13 0 rfl rfl ?_
    refine r_callI (pc := 14) (rest := [vi a2, vi a1, vr x8]) (lkV dJ4_indexOf_2_14 q520 xd_J4_length (vc_of vt_J4_length q521 (fun _ => sJ4_length)) adx_J4_length) (by decide) (Nat.le_of_ble_eq_true rfl) rfl h (fun x14 st e14 h => ?_)
    refine r_callI (pc := 17) (rest := []) (lkS dJ4_indexOf_2_17 q528 q529 q96 (fun _ => sJ5_indexOf) ad_J5_indexOf) (by decide) (Nat.le_of_ble_eq_true rfl) rfl h (fun x17 st e17 h => ?_)
    refine r_goto (pc := 20) (tgt := 36) dJ4_indexOf_2_20 (by decide) ?_
    exact r_ireturn (pc := 36) dJ4_indexOf_2_36 rfl rfl h
theorem sJ5_charAt {a0 : Rf} {a1 : Int32} {st : Mem} {fin : Int32 × Mem} (h : fJ5_charAt a0 a1 st = some fin) : Con yJ5_charAt 10 [vr a0, vi a1] st trI fin := by
  refine Con.mk (cc := cJ5_charAt) (n := 2) (own := "java/lang/StringLatin1") (nm := "charAt") (ret := (some .char)) (env := [(0, vr a0), (1, vi a1)]) q856 rfl rfl rfl (by decide) ⟨Nat.le_of_ble_eq_true rfl, by decide⟩ rfl ?_
  unfold fJ5_charAt at h
  refine r_iload_n (pc := 0) dJ5_charAt_0 1 rfl rfl ?_
  refine r_aload_n (pc := 1) dJ5_charAt_1 0 rfl rfl ?_
  refine r_alen (pc := 2) dJ5_charAt_2 h (fun x2 e2 h => ?_)
  refine r_callV (pc := 3) (rest := []) (lkS dJ5_charAt_3 q857 q697 q95 (fun _ => sJ4_checkIndex) ad_J4_checkIndex) (by decide) (Nat.le_of_ble_eq_true rfl) rfl h (fun u3 st e3 h => ?_)
  refine r_aload_n (pc := 6) dJ5_charAt_6 0 rfl rfl ?_
  refine r_iload_n (pc := 7) dJ5_charAt_7 1 rfl rfl ?_
  refine r_baload (pc := 8) dJ5_charAt_8 h (fun x8 e8 h => ?_)
  refine r_sipush (pc := 9) (v := 255) dJ5_charAt_9 (by decide) ?_
  refine r_iand (pc := 12) dJ5_charAt_12 ?_
  refine r_i2c (pc := 13) dJ5_charAt_13 ?_
  exact r_ireturn (pc := 14) dJ5_charAt_14 rfl rfl h
theorem sJ11_append {a0 : Rf} {a1 : Int32} {st : Mem} {fin : Rf × Mem} (h : fJ11_append a0 a1 st = some fin) : Con yJ11_append 12 [vr a0, vi a1] st trA fin := by
  refine Con.mk (cc := cJ11_append) (n := 2) (own := "java/lang/StringBuilder") (nm := "append") (ret := (some (.object "java/lang/StringBuilder"))) (env := [(0, vr a0), (1, vi a1)]) q625 rfl rfl rfl (by decide) ⟨Nat.le_of_ble_eq_true rfl, by decide⟩ rfl ?_
  unfold fJ11_append at h
  refine r_aload_n (pc := 0) dJ11_append_0 0 rfl rfl ?_
  refine r_iload_n (pc := 1) dJ11_append_1 1 rfl rfl ?_
  refine r_callA (pc := 2) (rest := []) (lkP dJ11_append_2 q626 q2309 q621 q627 (by decide) (by decide) (fun _ => sJ10_append) ad_J10_append) (by decide) (Nat.le_of_ble_eq_true rfl) rfl h (fun x2 st e2 h => ?_)
  refine r_pop (pc := 5) dJ11_append_5 rfl ?_
  refine r_aload_n (pc := 6) dJ11_append_6 0 rfl rfl ?_
  exact r_areturn (pc := 7) dJ11_append_7 rfl rfl h
theorem sJ3_grow {a0 : Rf} {st : Mem} {fin : Rf × Mem} (h : fJ3_grow a0 st = some fin) : Con yJ3_grow 12 [vr a0] st trA fin := by
  refine Con.mk (cc := cJ3_grow) (n := 1) (own := "java/util/ArrayList") (nm := "grow") (ret := (some (.array (.object "java/lang/Object")))) (env := [(0, vr a0)]) q1188 rfl rfl rfl (by decide) ⟨Nat.le_of_ble_eq_true rfl, by decide⟩ rfl ?_
  unfold fJ3_grow at h
  refine r_aload_n (pc := 0) dJ3_grow_0 0 rfl rfl ?_
  refine r_aload_n (pc := 1) dJ3_grow_1 0 rfl rfl ?_
  refine r_gI (pc := 2) dJ3_grow_2 q243 fd_154 same_rf h (fun x2 e2 h => ?_)
  refine r_iconst (pc := 5) (v := 1) dJ3_grow_5 (by decide) ?_
  refine r_iadd (pc := 6) dJ3_grow_6 ?_
  refine r_callA (pc := 7) (rest := []) (lkV dJ3_grow_7 q1189 xd_J3_grow (vc_of vt_J3_grow q1191 (fun _ => sJ3_grow_2)) adx_J3_grow) (by decide) (Nat.le_of_ble_eq_true rfl) rfl h (fun x7 st e7 h => ?_)
  exact r_areturn (pc := 10) dJ3_grow_10 rfl rfl h
theorem sJ4_charAt {a0 : Rf} {a1 : Int32} {st : Mem} {fin : Int32 × Mem} (h : fJ4_charAt a0 a1 st = some fin) : Con yJ4_charAt 12 [vr a0, vi a1] st trI fin := by
  refine Con.mk (cc := cJ4_charAt) (n := 2) (own := "java/lang/String") (nm := "charAt") (ret := (some .char)) (env := [(0, vr a0), (1, vi a1)]) q853 rfl rfl rfl (by decide) ⟨Nat.le_of_ble_eq_true rfl, by decide⟩ rfl ?_
  unfold fJ4_charAt at h
  refine r_aload_n (pc := 0) dJ4_charAt_0 0 rfl rfl ?_
  refine r_callI (pc := 1) (rest := []) (lkV dJ4_charAt_1 q514 xd_J4_isLatin1 (vc_of vt_J4_isLatin1 q515 (fun _ => sJ4_isLatin1)) adx_J4_isLatin1) (by decide) (Nat.le_of_ble_eq_true rfl) rfl h (fun x1 st e1 h => ?_)
  refine r_if_eq (pc := 4) (tgt := 16) dJ4_charAt_4 (by decide) h (fun e4 h => ?_) (fun e4 h => ?_)
  · refine r_aload_n (pc := 16) dJ4_charAt_16 0 rfl rfl ?_
    refine r_gA (pc := 17) dJ4_charAt_17 q748 fd_155 same_rf h (fun x17 e17 h => ?_)
    refine r_iload_n (pc := 20) dJ4_charAt_20 1 rfl rfl ?_
    cases h
  · refine r_aload_n (pc := 7) dJ4_charAt_7 0 rfl rfl ?_
    refine r_gA (pc := 8) dJ4_charAt_8 q748 fd_155 same_rf h (fun x8 e8 h => ?_)
    refine r_iload_n (pc := 11) dJ4_charAt_11 1 rfl rfl ?_
    refine r_callI (pc := 12) (rest := []) (lkS dJ4_charAt_12 q854 q855 q96 (fun _ => sJ5_charAt) ad_J5_charAt) (by decide) (Nat.le_of_ble_eq_true rfl) rfl h (fun x12 st e12 h => ?_)
    exact r_ireturn (pc := 15) dJ4_charAt_15 rfl rfl h
theorem sJ4_indexOf {a0 : Rf} {a1 : Int32} {st : Mem} {fin : Int32 × Mem} (h : fJ4_indexOf a0 a1 st = some fin) : Con yJ4_indexOf 12 [vr a0, vi a1] st trI fin := by
  refine Con.mk (cc := cJ4_indexOf) (n := 2) (own := "java/lang/String") (nm := "indexOf") (ret := (some .int)) (env := [(0, vr a0), (1, vi a1)]) q509 rfl rfl rfl (by decide) ⟨Nat.le_of_ble_eq_true rfl, by decide⟩ rfl ?_
  unfold fJ4_indexOf at h
  refine r_aload_n (pc := 0) dJ4_indexOf_0 0 rfl rfl ?_
  refine r_iload_n (pc := 1) dJ4_indexOf_1 1 rfl rfl ?_
  refine r_iconst (pc := 2) (v := 0) dJ4_indexOf_2 (by decide) ?_
  refine r_callI (pc := 3) (rest := []) (lkV dJ4_indexOf_3 q510 xd_J4_indexOf (vc_of vt_J4_indexOf q511 (fun _ => sJ4_indexOf_2)) adx_J4_indexOf) (by decide) (Nat.le_of_ble_eq_true rfl) rfl h (fun x3 st e3 h => ?_)
  exact r_ireturn (pc := 6) dJ4_indexOf_6 rfl rfl h
theorem sJ4_init_2_79 {st0 : Mem} {fin : Unit × Mem} (v0 : Rf) (v3 : Rf) (v4 : Int32) (st : Mem) (h : bJ4_init_2_79 v0 v3 v4 st = some fin) : G (cJ4_init_2, "java/lang/String", "<init>", 12, none, 5) st0 trV fin 79 [(0, vr v0), (3, vr v3), (4, vi v4)] [] st := by
  unfold bJ4_init_2_79 at h
  refine r_aload_n (pc := 79) dJ4_init_2_79 0 rfl rfl ?_
  refine r_iconst (pc := 80) (v := 1) dJ4_init_2_80 (by decide) ?_
  refine r_pIF (pc := 81) dJ4_init_2_81 q749 fd_156 same_rf ⟨rfl, rfl⟩ h (fun st e81 h => ?_)
  refine r_aload_n (pc := 84) dJ4_init_2_84 0 rfl rfl ?_
  refine r_aload_n (pc := 85) dJ4_init_2_85 1 rfl rfl ?_
  refine r_iconst (pc := 86) (v := 0) dJ4_init_2_86 (by decide) ?_
  refine r_iload (pc := 87) dJ4_init_2_87 2 rfl ?_
  refine r_iconst (pc := 89) (v := 1) dJ4_init_2_89 (by decide) ?_
  refine r_ishl (pc := 90) dJ4_init_2_90 ?_
  refine r_callA (pc := 91) (rest := [vr v0]) (lkS dJ4_init_2_91 q729 q730 q87 (fun _ => sJ0_copyOfRange) ad_J0_copyOfRange) (by decide) (Nat.le_of_ble_eq_true rfl) rfl h (fun x91 st e91 h => ?_)
  refine r_pAF (pc := 94) dJ4_init_2_94 q748 fd_155 same_rf ⟨rfl, rfl⟩ h (fun st e94 h => ?_)
  exact r_return_ (pc := 97) dJ4_init_2_97 rfl h
theorem sJ4_init_2 {a0 : Rf} {a1 : Rf} {a2 : Rf} {st : Mem} {fin : Unit × Mem} (h : fJ4_init_2 a0 a1 a2 st = some fin) : Con yJ4_init_2 12 [vr a0, vr a1, vr a2] st trV fin := by
  refine Con.mk (cc := cJ4_init_2) (n := 5) (own := "java/lang/String") (nm := "<init>") (ret := none) (env := [(0, vr a0), (1, vr a1), (2, vr a2)]) q713 rfl rfl rfl (by decide) ⟨Nat.le_of_ble_eq_true rfl, by decide⟩ rfl ?_
  unfold fJ4_init_2 at h
  refine r_aload_n (pc := 0) dJ4_init_2_0 0 rfl rfl ?_
  refine r_objInit (pc := 1) dJ4_init_2_1 q714 (by decide) (Nat.le_of_ble_eq_true rfl) h (fun h => ?_)
  refine r_aload_n (pc := 4) dJ4_init_2_4 1 rfl rfl ?_
  refine r_callA (pc := 5) (rest := []) (lkV dJ4_init_2_5 q715 xd_J10_getValue (vc_of vt_J10_getValue q716 (fun _ => sJ10_getValue)) adx_J10_getValue) (by decide) (Nat.le_of_ble_eq_true rfl) rfl h (fun x5 st e5 h => ?_)
  refine r_astore_n (pc := 8) (env' := [(3, vr x5), (0, vr a0), (1, vr a1), (2, vr a2)]) dJ4_init_2_8 rfl (by decide) rfl ?_
  refine r_aload_n (pc := 9) dJ4_init_2_9 2 rfl rfl ?_
  refine r_callI (pc := 10) (rest := []) (lkV dJ4_init_2_10 q720 xd_J10_length (vc_of vt_J10_length q724 (fun _ => sJ11_length)) adx_J10_length) (by decide) (Nat.le_of_ble_eq_true rfl) rfl h (fun x10 st e10 h => ?_)
  refine r_istore (pc := 13) (env' := [(4, vi x10), (3, vr x5), (0, vr a0), (1, vr a1), (2, vr a2)]) dJ4_init_2_13 (by decide) rfl ?_
  refine r_aload_n (pc := 15) dJ4_init_2_15 3 rfl rfl ?_
  refine r_callI (pc := 16) (rest := []) (lkV dJ4_init_2_16 q728 xd_J10_isLatin1 (vc_of vt_J10_isLatin1 q661 (fun _ => sJ10_isLatin1)) adx_J10_isLatin1) (by decide) (Nat.le_of_ble_eq_true rfl) rfl h (fun x16 st e16 h => ?_)
  refine r_if_eq (pc := 19) (tgt := 41) dJ4_init_2_19 (by decide) h (fun e19 h => ?_) (fun e19 h => ?_)
  · refine r_gs_COMPACT_STRINGS (pc := 41) dJ4_init_2_41 q518 ?_
    refine r_if_eq (pc := 44) (tgt := 79) dJ4_init_2_44 (by decide) h (fun e44 h => ?_) (fun e44 h => ?_)
    · exact r_sub (env' := [(0, vr a0), (3, vr x5), (4, vi x10)]) [2, 1, 0] rfl (sJ4_init_2_79 _ _ _ _ h)
    · refine r_aload_n (pc := 47) dJ4_init_2_47 3 rfl rfl ?_
      refine r_gI (pc := 48) dJ4_init_2_48 q611 fd_161 same_rf h (fun x48 e48 h => ?_)
      refine r_if_eq (pc := 51) (tgt := 79) dJ4_init_2_51 (by decide) h (fun e51 h => ?_) (fun e51 h => ?_)
      · exact r_sub (env' := [(0, vr a0), (3, vr x5), (4, vi x10)]) [2, 1, 0] rfl (sJ4_init_2_79 _ _ _ _ h)
      · refine r_aload_n (pc := 54) dJ4_init_2_54 2 rfl rfl ?_
        refine r_aload_n (pc := 55) dJ4_init_2_55 1 rfl rfl ?_
        refine r_iconst (pc := 56) (v := 0) dJ4_init_2_56 (by decide) ?_
        refine r_iload (pc := 57) dJ4_init_2_57 0 rfl ?_
        cases h
  · refine r_aload_n (pc := 22) dJ4_init_2_22 2 rfl rfl ?_
    refine r_iconst (pc := 23) (v := 0) dJ4_init_2_23 (by decide) ?_
    refine r_pIF (pc := 24) dJ4_init_2_24 q749 fd_156 same_rf ⟨rfl, rfl⟩ h (fun st e24 h => ?_)
    refine r_aload_n (pc := 27) dJ4_init_2_27 2 rfl rfl ?_
    refine r_aload_n (pc := 28) dJ4_init_2_28 1 rfl rfl ?_
    refine r_iconst (pc := 29) (v := 0) dJ4_init_2_29 (by decide) ?_
    refine r_iload (pc := 30) dJ4_init_2_30 0 rfl ?_
    refine r_callA (pc := 32) (rest := [vr a0]) (lkS dJ4_init_2_32 q729 q730 q87 (fun _ => sJ0_copyOfRange) ad_J0_copyOfRange) (by decide) (Nat.le_of_ble_eq_true rfl) rfl h (fun x32 st e32 h => ?_)
    refine r_pAF (pc := 35) dJ4_init_2_35 q748 fd_155 same_rf ⟨rfl, rfl⟩ h (fun st e35 h => ?_)
    refine r_goto (pc := 38) (tgt := 97) dJ4_init_2_38 (by decide) ?_
    exact r_return_ (pc := 97) dJ4_init_2_97 rfl h
theorem sJ3_add_2_11 {st0 : Mem} {fin : Unit × Mem} (v0 : Rf) (v1 : Rf) (v2 : Rf) (v3 : Int32) (st : Mem) (h : bJ3_add_2_11 v0 v1 v2 v3 st = some fin) : G (cJ3_add_2, "java/util/ArrayList", "add", 14, none, 4) st0 trV fin 11 [(0, vr v0), (1, vr v1), (2, vr v2), (3, vi v3)] [] st := by
  unfold bJ3_add_2_11 at h
  refine r_aload_n (pc := 11) dJ3_add_2_11 2 rfl rfl ?_
  refine r_iload_n (pc := 12) dJ3_add_2_12 3 rfl rfl ?_
  refine r_aload_n (pc := 13) dJ3_add_2_13 1 rfl rfl ?_
  refine r_aastore (pc := 14) dJ3_add_2_14 h (fun st e14 h => ?_)
  refine r_aload_n (pc := 15) dJ3_add_2_15 0 rfl rfl ?_
  refine r_iload_n (pc := 16) dJ3_add_2_16 3 rfl rfl ?_
  refine r_iconst (pc := 17) (v := 1) dJ3_add_2_17 (by decide) ?_
  refine r_iadd (pc := 18) dJ3_add_2_18 ?_
  refine r_pI (pc := 19) dJ3_add_2_19 q243 fd_154 same_rf rfl h (fun st e19 h => ?_)
  exact r_return_ (pc := 22) dJ3_add_2_22 rfl h
theorem sJ3_add_2 {a0 : Rf} {a1 : Rf} {a2 : Rf} {a3 : Int32} {st : Mem} {fin : Unit × Mem} (h : fJ3_add_2 a0 a1 a2 a3 st = some fin) : Con yJ3_add_2 14 [vr a0, vr a1, vr a2, vi a3] st trV fin := by
  refine Con.mk (cc := cJ3_add_2) (n := 4) (own := "java/util/ArrayList") (nm := "add") (ret := none) (env := [(0, vr a0), (1, vr a1), (2, vr a2), (3, vi a3)]) q1184 rfl rfl rfl (by decide) ⟨Nat.le_of_ble_eq_true rfl, by decide⟩ rfl ?_
  unfold fJ3_add_2 at h
  refine r_iload_n (pc := 0) dJ3_add_2_0 3 rfl rfl ?_
  refine r_aload_n (pc := 1) dJ3_add_2_1 2 rfl rfl ?_
  refine r_alen (pc := 2) dJ3_add_2_2 h (fun x2 e2 h => ?_)
  refine r_icmp_ne (pc := 3) (tgt := 11) dJ3_add_2_3 (by decide) h (fun e3 h => ?_) (fun e3 h => ?_)
  · exact sJ3_add_2_11 _ _ _ _ _ h
  · refine r_aload_n (pc := 6) dJ3_add_2_6 0 rfl rfl ?_
    refine r_callA (pc := 7) (rest := []) (lkV dJ3_add_2_7 q1185 xd_J3_grow_2 (vc_of vt_J3_grow_2 q1187 (fun _ => sJ3_grow)) adx_J3_grow_2) (by decide) (Nat.le_of_ble_eq_true rfl) rfl h (fun x7 st e7 h => ?_)
    refine r_astore_n (pc := 10) (env' := [(2, vr x7), (0, vr a0), (1, vr a1), (3, vi a3)]) dJ3_add_2_10 rfl (by decide) rfl ?_
    exact r_sub (env' := [(0, vr a0), (1, vr a1), (2, vr x7), (3, vi a3)]) [1, 2, 0, 3] rfl (sJ3_add_2_11 _ _ _ _ _ h)
theorem sJ4_init {a0 : Rf} {a1 : Rf} {st : Mem} {fin : Unit × Mem} (h : fJ4_init a0 a1 st = some fin) : Con yJ4_init 14 [vr a0, vr a1] st trV fin := by
  refine Con.mk (cc := cJ4_init) (n := 2) (own := "java/lang/String") (nm := "<init>") (ret := none) (env := [(0, vr a0), (1, vr a1)]) q710 rfl rfl rfl (by decide) ⟨Nat.le_of_ble_eq_true rfl, by decide⟩ rfl ?_
  unfold fJ4_init at h
  refine r_aload_n (pc := 0) dJ4_init_0 0 rfl rfl ?_
  refine r_aload_n (pc := 1) dJ4_init_1 1 rfl rfl ?_
  refine r_null (pc := 2) dJ4_init_2 ?_
  refine r_callV (pc := 3) (rest := []) (lkI dJ4_init_3 q711 q712 q713 rfl (fun _ => sJ4_init_2) ad_J4_init_2) (by decide) (Nat.le_of_ble_eq_true rfl) rfl h (fun u3 st e3 h => ?_)
  exact r_return_ (pc := 6) dJ4_init_6 rfl h
theorem sJ11_toString {a0 : Rf} {st : Mem} {fin : Rf × Mem} (h : fJ11_toString a0 st = some fin) : Con yJ11_toString 16 [vr a0] st trA fin := by
  refine Con.mk (cc := cJ11_toString) (n := 1) (own := "java/lang/StringBuilder") (nm := "toString") (ret := (some (.object "java/lang/String"))) (env := [(0, vr a0)]) q705 rfl rfl rfl (by decide) ⟨Nat.le_of_ble_eq_true rfl, by decide⟩ rfl ?_
  unfold fJ11_toString at h
  refine r_new (pc := 0) dJ11_toString_0 q706 rfl h (fun x0 st e0 h => ?_)
  refine r_dup (pc := 3) dJ11_toString_3 rfl ?_
  refine r_aload_n (pc := 4) dJ11_toString_4 0 rfl rfl ?_
  refine r_callV (pc := 5) (rest := [vr x0]) (lkI dJ11_toString_5 q708 q709 q710 rfl (fun _ => sJ4_init) ad_J4_init) (by decide) (Nat.le_of_ble_eq_true rfl) rfl h (fun u5 st e5 h => ?_)
  exact r_areturn (pc := 8) dJ11_toString_8 rfl rfl h
theorem sJ3_add {a0 : Rf} {a1 : Rf} {st : Mem} {fin : Int32 × Mem} (h : fJ3_add a0 a1 st = some fin) : Con yJ3_add 16 [vr a0, vr a1] st trI fin := by
  refine Con.mk (cc := cJ3_add) (n := 2) (own := "java/util/ArrayList") (nm := "add") (ret := (some .boolean)) (env := [(0, vr a0), (1, vr a1)]) q1180 rfl rfl rfl (by decide) ⟨Nat.le_of_ble_eq_true rfl, by decide⟩ rfl ?_
  unfold fJ3_add at h
  refine r_aload_n (pc := 0) dJ3_add_0 0 rfl rfl ?_
  refine r_dup (pc := 1) dJ3_add_1 rfl ?_
  refine r_gI (pc := 2) dJ3_add_2 q245 fd_152 (r_same q246) h (fun x2 e2 h => ?_)
  refine r_iconst (pc := 5) (v := 1) dJ3_add_5 (by decide) ?_
  refine r_iadd (pc := 6) dJ3_add_6 ?_
  refine r_pI (pc := 7) dJ3_add_7 q245 fd_152 (r_same q246) rfl h (fun st e7 h => ?_)
  refine r_aload_n (pc := 10) dJ3_add_10 0 rfl rfl ?_
  refine r_aload_n (pc := 11) dJ3_add_11 1 rfl rfl ?_
  refine r_aload_n (pc := 12) dJ3_add_12 0 rfl rfl ?_
  refine r_gA (pc := 13) dJ3_add_13 q242 fd_153 same_rf h (fun x13 e13 h => ?_)
  refine r_aload_n (pc := 16) dJ3_add_16 0 rfl rfl ?_
  refine r_gI (pc := 17) dJ3_add_17 q243 fd_154 same_rf h (fun x17 e17 h => ?_)
  refine r_callV (pc := 20) (rest := []) (lkV dJ3_add_20 q1181 xd_J3_add (vc_of vt_J3_add q1183 (fun _ => sJ3_add_2)) adx_J3_add) (by decide) (Nat.le_of_ble_eq_true rfl) rfl h (fun u20 st e20 h => ?_)
  refine r_iconst (pc := 23) (v := 1) dJ3_add_23 (by decide) ?_
  exact r_ireturn (pc := 24) dJ3_add_24 rfl rfl h
