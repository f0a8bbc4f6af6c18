set_option maxRecDepth 100000
theorem sX12_value {a0 : Rf} {a1 : Rf} {a2 : Int32} {st : Mem} {fin : Int32 × Mem} (h : fX12_value a0 a1 a2 st = some fin) : Con yX12_value 6 [vr a0, vr a1, vi a2] st trI fin := by
  refine Con.mk (cc := cX12_value) (n := 3) (own := "HouseClaps$Self") (nm := "value") (ret := (some .int)) (env := [(0, vr a0), (1, vr a1), (2, vi a2)]) q1358 rfl rfl rfl (by decide) ⟨Nat.le_of_ble_eq_true rfl, by decide⟩ rfl ?_
  unfold fX12_value at h
  refine r_aload_n (pc := 0) dX12_value_0 1 rfl rfl ?_
  refine r_gAN (pc := 1) dX12_value_1 q274 fd_48 same_rf h (fun x1 e1 h => ?_)
  refine r_iload_n (pc := 4) dX12_value_4 2 rfl rfl ?_
  refine r_iaload (pc := 5) dX12_value_5 h (fun x5 e5 h => ?_)
  exact r_ireturn (pc := 6) dX12_value_6 rfl rfl h
theorem sX13_value {a0 : Rf} {a1 : Rf} {a2 : Int32} {st : Mem} {fin : Int32 × Mem} (h : fX13_value a0 a1 a2 st = some fin) : Con yX13_value 6 [vr a0, vr a1, vi a2] st trI fin := by
  refine Con.mk (cc := cX13_value) (n := 3) (own := "HouseClaps$Held") (nm := "value") (ret := (some .int)) (env := [(0, vr a0), (1, vr a1), (2, vi a2)]) q1341 rfl rfl rfl (by decide) ⟨Nat.le_of_ble_eq_true rfl, by decide⟩ rfl ?_
  unfold fX13_value at h
  refine r_aload_n (pc := 0) dX13_value_0 1 rfl rfl ?_
  refine r_gAN (pc := 1) dX13_value_1 q278 fd_50 same_rf h (fun x1 e1 h => ?_)
  refine r_iload_n (pc := 4) dX13_value_4 2 rfl rfl ?_
  refine r_iaload (pc := 5) dX13_value_5 h (fun x5 e5 h => ?_)
  exact r_ireturn (pc := 6) dX13_value_6 rfl rfl h
theorem sX18_init {a0 : Rf} {a1 : Int32} {st : Mem} {fin : Unit × Mem} (h : fX18_init a0 a1 st = some fin) : Con yX18_init 6 [vr a0, vi a1] st trV fin := by
  refine Con.mk (cc := cX18_init) (n := 2) (own := "HouseClaps$Cue") (nm := "<init>") (ret := none) (env := [(0, vr a0), (1, vi a1)]) q1136 rfl rfl rfl (by decide) ⟨Nat.le_of_ble_eq_true rfl, by decide⟩ rfl ?_
  unfold fX18_init at h
  refine r_aload_n (pc := 0) dX18_init_0 0 rfl rfl ?_
  refine r_objInit (pc := 1) dX18_init_1 q1137 (by decide) (Nat.le_of_ble_eq_true rfl) h (fun h => ?_)
  refine r_aload_n (pc := 4) dX18_init_4 0 rfl rfl ?_
  refine r_iload_n (pc := 5) dX18_init_5 1 rfl rfl ?_
  refine r_pIF (pc := 6) dX18_init_6 q1138 fd_150 same_rf ⟨rfl, rfl⟩ h (fun st e6 h => ?_)
  exact r_return_ (pc := 9) dX18_init_9 rfl h
theorem sX18_seat {a0 : Rf} {st : Mem} {fin : Int32 × Mem} (h : fX18_seat a0 st = some fin) : Con yX18_seat 6 [vr a0] st trI fin := by
  refine Con.mk (cc := cX18_seat) (n := 1) (own := "HouseClaps$Cue") (nm := "seat") (ret := (some .int)) (env := [(0, vr a0)]) q1661 rfl rfl rfl (by decide) ⟨Nat.le_of_ble_eq_true rfl, by decide⟩ rfl ?_
  unfold fX18_seat at h
  refine r_iconst (pc := 0) (v := (-1)) dX18_seat_0 (by decide) ?_
  exact r_ireturn (pc := 1) dX18_seat_1 rfl rfl h
theorem sX19_does {a0 : Rf} {a1 : Rf} {st : Mem} {fin : Unit × Mem} (h : fX19_does a0 a1 st = some fin) : Con yX19_does 6 [vr a0, vr a1] st trV fin := by
  refine Con.mk (cc := cX19_does) (n := 2) (own := "HouseClaps$Still") (nm := "does") (ret := none) (env := [(0, vr a0), (1, vr a1)]) q1293 rfl rfl rfl (by decide) ⟨Nat.le_of_ble_eq_true rfl, by decide⟩ rfl ?_
  unfold fX19_does at h
  refine r_aload_n (pc := 0) dX19_does_0 1 rfl rfl ?_
  refine r_iconst (pc := 1) (v := 1) dX19_does_1 (by decide) ?_
  refine r_pIN (pc := 2) dX19_does_2 q271 fd_46 same_rf rfl h (fun st e2 h => ?_)
  exact r_return_ (pc := 5) dX19_does_5 rfl h
theorem sX19_what {a0 : Rf} {st : Mem} {fin : Int32 × Mem} (h : fX19_what a0 st = some fin) : Con yX19_what 6 [vr a0] st trI fin := by
  refine Con.mk (cc := cX19_what) (n := 1) (own := "HouseClaps$Still") (nm := "what") (ret := (some .int)) (env := [(0, vr a0)]) q1449 rfl rfl rfl (by decide) ⟨Nat.le_of_ble_eq_true rfl, by decide⟩ rfl ?_
  unfold fX19_what at h
  refine r_iconst (pc := 0) (v := 3) dX19_what_0 (by decide) ?_
  exact r_ireturn (pc := 1) dX19_what_1 rfl rfl h
theorem sX1_areLike_2B {st0 : Mem} {fin : Int32 × Mem} {kk2 : Rf → Int32 → Int32 → Int32 → Mem → Option (Int32 × Mem)} (hk2 : ∀ (v0 : Rf) (v1 : Int32) (v2 : Int32) (v3 : Int32) (st : Mem), kk2 v0 v1 v2 v3 st = some fin → G (cX1_areLike, "HouseClaps", "areLike", 6, (some .boolean), 4) st0 trI fin 2 [(0, vr v0), (1, vi v1), (2, vi v2), (3, vi v3)] [] st) (v0 : Rf) (v1 : Int32) (v2 : Int32) (v3 : Int32) (st : Mem) (h : bX1_areLike_2B kk2 v0 v1 v2 v3 st = some fin) : G (cX1_areLike, "HouseClaps", "areLike", 6, (some .boolean), 4) st0 trI fin 2 [(0, vr v0), (1, vi v1), (2, vi v2), (3, vi v3)] [] st := by
  unfold bX1_areLike_2B at h
  refine r_iload_n (pc := 2) dX1_areLike_2 3 rfl rfl ?_
  refine r_iconst (pc := 3) (v := 4) dX1_areLike_3 (by decide) ?_
  refine r_icmp_ge (pc := 4) (tgt := 39) dX1_areLike_4 (by decide) h (fun e4 h => ?_) (fun e4 h => ?_)
  · refine r_iconst (pc := 39) (v := 1) dX1_areLike_39 (by decide) ?_
    exact r_ireturn (pc := 40) dX1_areLike_40 rfl rfl h
  · refine r_aload_n (pc := 7) dX1_areLike_7 0 rfl rfl ?_
    refine r_gA (pc := 8) dX1_areLike_8 q324 fd_10 same_rf h (fun x8 e8 h => ?_)
    refine r_iconst (pc := 11) (v := 4) dX1_areLike_11 (by decide) ?_
    refine r_iload_n (pc := 12) dX1_areLike_12 1 rfl rfl ?_
    refine r_imul (pc := 13) dX1_areLike_13 ?_
    refine r_iload_n (pc := 14) dX1_areLike_14 3 rfl rfl ?_
    refine r_iadd (pc := 15) dX1_areLike_15 ?_
    refine r_laload (pc := 16) dX1_areLike_16 h (fun x16 e16 h => ?_)
    refine r_aload_n (pc := 17) dX1_areLike_17 0 rfl rfl ?_
    refine r_gA (pc := 18) dX1_areLike_18 q324 fd_10 same_rf h (fun x18 e18 h => ?_)
    refine r_iconst (pc := 21) (v := 4) dX1_areLike_21 (by decide) ?_
    refine r_iload_n (pc := 22) dX1_areLike_22 2 rfl rfl ?_
    refine r_imul (pc := 23) dX1_areLike_23 ?_
    refine r_iload_n (pc := 24) dX1_areLike_24 3 rfl rfl ?_
    refine r_iadd (pc := 25) dX1_areLike_25 ?_
    refine r_laload (pc := 26) dX1_areLike_26 h (fun x26 e26 h => ?_)
    refine r_lcmp_eq (pc := 27) (tgt := 33) dX1_areLike_27 dX1_areLike_28 (by decide) h (fun e28 h => ?_) (fun e28 h => ?_)
    · refine r_iinc (pc := 33) (env' := [(3, vi (v3 + 1)), (0, vr v0), (1, vi v1), (2, vi v2)]) (cst := 1) dX1_areLike_33 3 rfl (by decide) (by decide) rfl ?_
      refine r_goto (pc := 36) (tgt := 2) dX1_areLike_36 (by decide) ?_
      exact r_sub (env' := [(0, vr v0), (1, vi v1), (2, vi v2), (3, vi (v3 + 1))]) [1, 2, 3, 0] rfl (hk2 _ _ _ _ _ h)
    · refine r_iconst (pc := 31) (v := 0) dX1_areLike_31 (by decide) ?_
      exact r_ireturn (pc := 32) dX1_areLike_32 rfl rfl h
theorem sX1_areLike_2 {st0 : Mem} {fin : Int32 × Mem} (n : Nat) : ∀ (v0 : Rf) (v1 : Int32) (v2 : Int32) (v3 : Int32) (st : Mem), bX1_areLike_2 n v0 v1 v2 v3 st = some fin → G (cX1_areLike, "HouseClaps", "areLike", 6, (some .boolean), 4) st0 trI fin 2 [(0, vr v0), (1, vi v1), (2, vi v2), (3, vi v3)] [] st := by
  induction n with
  | zero => intro v0 v1 v2 v3 st h; cases h
  | succ n ih => intro v0 v1 v2 v3 st h; exact sX1_areLike_2B  ih v0 v1 v2 v3 st h
theorem sX1_areLike {a0 : Rf} {a1 : Int32} {a2 : Int32} {st : Mem} {fin : Int32 × Mem} (h : fX1_areLike a0 a1 a2 st = some fin) : Con yX1_areLike 6 [vr a0, vi a1, vi a2] st trI fin := by
  refine Con.mk (cc := cX1_areLike) (n := 4) (own := "HouseClaps") (nm := "areLike") (ret := (some .boolean)) (env := [(0, vr a0), (1, vi a1), (2, vi a2)]) q1453 rfl rfl rfl (by decide) ⟨Nat.le_of_ble_eq_true rfl, by decide⟩ rfl ?_
  unfold fX1_areLike at h
  refine r_iconst (pc := 0) (v := 0) dX1_areLike_0 (by decide) ?_
  refine r_istore_n (pc := 1) (env' := [(3, vi (0 : Int32)), (0, vr a0), (1, vi a1), (2, vi a2)]) dX1_areLike_1 rfl (by decide) rfl ?_
  exact r_sub (env' := [(0, vr a0), (1, vi a1), (2, vi a2), (3, vi (0 : Int32))]) [1, 2, 3, 0] rfl (sX1_areLike_2 hcFuel _ _ _ _ _ h)
theorem sX1_arranged {a0 : Rf} {st : Mem} {fin : Int32 × Mem} (h : fX1_arranged a0 st = some fin) : Con yX1_arranged 6 [vr a0] st trI fin := by
  refine Con.mk (cc := cX1_arranged) (n := 1) (own := "HouseClaps") (nm := "arranged") (ret := (some .int)) (env := [(0, vr a0)]) q1598 rfl rfl rfl (by decide) ⟨Nat.le_of_ble_eq_true rfl, by decide⟩ rfl ?_
  unfold fX1_arranged at h
  refine r_aload_n (pc := 0) dX1_arranged_0 0 rfl rfl ?_
  refine r_gI (pc := 1) dX1_arranged_1 q337 fd_23 same_rf h (fun x1 e1 h => ?_)
  exact r_ireturn (pc := 4) dX1_arranged_4 rfl rfl h
theorem sX1_beganAt {a0 : Rf} {a1 : Int32} {st : Mem} {fin : Int32 × Mem} (h : fX1_beganAt a0 a1 st = some fin) : Con yX1_beganAt 6 [vr a0, vi a1] st trI fin := by
  refine Con.mk (cc := cX1_beganAt) (n := 2) (own := "HouseClaps") (nm := "beganAt") (ret := (some .int)) (env := [(0, vr a0), (1, vi a1)]) q1544 rfl rfl rfl (by decide) ⟨Nat.le_of_ble_eq_true rfl, by decide⟩ rfl ?_
  unfold fX1_beganAt at h
  refine r_iload_n (pc := 0) dX1_beganAt_0 1 rfl rfl ?_
  refine r_if_ne (pc := 1) (tgt := 11) dX1_beganAt_1 (by decide) h (fun e1 h => ?_) (fun e1 h => ?_)
  · refine r_iload_n (pc := 11) dX1_beganAt_11 1 rfl rfl ?_
    refine r_iconst (pc := 12) (v := 1) dX1_beganAt_12 (by decide) ?_
    refine r_icmp_ne (pc := 13) (tgt := 23) dX1_beganAt_13 (by decide) h (fun e13 h => ?_) (fun e13 h => ?_)
    · refine r_iconst (pc := 23) (v := (-1)) dX1_beganAt_23 (by decide) ?_
      exact r_ireturn (pc := 24) dX1_beganAt_24 rfl rfl h
    · refine r_aload_n (pc := 16) dX1_beganAt_16 0 rfl rfl ?_
      refine r_gI (pc := 17) dX1_beganAt_17 q335 fd_21 same_rf h (fun x17 e17 h => ?_)
      refine r_goto (pc := 20) (tgt := 24) dX1_beganAt_20 (by decide) ?_
      exact r_ireturn (pc := 24) dX1_beganAt_24 rfl rfl h
  · refine r_aload_n (pc := 4) dX1_beganAt_4 0 rfl rfl ?_
    refine r_gI (pc := 5) dX1_beganAt_5 q334 fd_20 same_rf h (fun x5 e5 h => ?_)
    refine r_goto (pc := 8) (tgt := 24) dX1_beganAt_8 (by decide) ?_
    exact r_ireturn (pc := 24) dX1_beganAt_24 rfl rfl h
theorem sX1_bought {a0 : Rf} {st : Mem} {fin : Int32 × Mem} (h : fX1_bought a0 st = some fin) : Con yX1_bought 6 [vr a0] st trI fin := by
  refine Con.mk (cc := cX1_bought) (n := 1) (own := "HouseClaps") (nm := "bought") (ret := (some .int)) (env := [(0, vr a0)]) q1502 rfl rfl rfl (by decide) ⟨Nat.le_of_ble_eq_true rfl, by decide⟩ rfl ?_
  unfold fX1_bought at h
  refine r_aload_n (pc := 0) dX1_bought_0 0 rfl rfl ?_
  refine r_gI (pc := 1) dX1_bought_1 q326 fd_12 same_rf h (fun x1 e1 h => ?_)
  exact r_ireturn (pc := 4) dX1_bought_4 rfl rfl h
theorem sX1_byteAt {a0 : Rf} {a1 : Int32} {st : Mem} {fin : Int32 × Mem} (h : fX1_byteAt a0 a1 st = some fin) : Con yX1_byteAt 6 [vr a0, vi a1] st trI fin := by
  refine Con.mk (cc := cX1_byteAt) (n := 2) (own := "HouseClaps") (nm := "byteAt") (ret := (some .int)) (env := [(0, vr a0), (1, vi a1)]) q1477 rfl rfl rfl (by decide) ⟨Nat.le_of_ble_eq_true rfl, by decide⟩ rfl ?_
  unfold fX1_byteAt at h
  refine r_aload_n (pc := 0) dX1_byteAt_0 0 rfl rfl ?_
  refine r_gA (pc := 1) dX1_byteAt_1 q315 fd_1 same_rf h (fun x1 e1 h => ?_)
  refine r_iload_n (pc := 4) dX1_byteAt_4 1 rfl rfl ?_
  refine r_baload (pc := 5) dX1_byteAt_5 h (fun x5 e5 h => ?_)
  refine r_sipush (pc := 6) (v := 255) dX1_byteAt_6 (by decide) ?_
  refine r_iand (pc := 9) dX1_byteAt_9 ?_
  exact r_ireturn (pc := 10) dX1_byteAt_10 rfl rfl h
theorem sX1_come_3B {st0 : Mem} {fin : Unit × Mem} {kk3 : Rf → Int32 → Int32 → Mem → Option (Unit × Mem)} (hk3 : ∀ (v0 : Rf) (v1 : Int32) (v2 : Int32) (st : Mem), kk3 v0 v1 v2 st = some fin → G (cX1_come, "HouseClaps", "come", 6, none, 3) st0 trV fin 3 [(0, vr v0), (1, vi v1), (2, vi v2)] [] st) (v0 : Rf) (v1 : Int32) (v2 : Int32) (st : Mem) (h : bX1_come_3B kk3 v0 v1 v2 st = some fin) : G (cX1_come, "HouseClaps", "come", 6, none, 3) st0 trV fin 3 [(0, vr v0), (1, vi v1), (2, vi v2)] [] st := by
  unfold bX1_come_3B at h
  refine r_iload_n (pc := 3) dX1_come_3 2 rfl rfl ?_
  refine r_if_lt (pc := 4) (tgt := 36) dX1_come_4 (by decide) h (fun e4 h => ?_) (fun e4 h => ?_)
  · exact r_return_ (pc := 36) dX1_come_36 rfl h
  · refine r_aload_n (pc := 7) dX1_come_7 0 rfl rfl ?_
    refine r_gA (pc := 8) dX1_come_8 q315 fd_1 same_rf h (fun x8 e8 h => ?_)
    refine r_aload_n (pc := 11) dX1_come_11 0 rfl rfl ?_
    refine r_gI (pc := 12) dX1_come_12 q316 fd_2 same_rf h (fun x12 e12 h => ?_)
    refine r_iload_n (pc := 15) dX1_come_15 1 rfl rfl ?_
    refine r_iload_n (pc := 16) dX1_come_16 2 rfl rfl ?_
    refine r_ishr (pc := 17) dX1_come_17 ?_
    refine r_i2b (pc := 18) dX1_come_18 ?_
    refine r_bastore (pc := 19) dX1_come_19 h (fun st e19 h => ?_)
    refine r_aload_n (pc := 20) dX1_come_20 0 rfl rfl ?_
    refine r_dup (pc := 21) dX1_come_21 rfl ?_
    refine r_gI (pc := 22) dX1_come_22 q316 fd_2 same_rf h (fun x22 e22 h => ?_)
    refine r_iconst (pc := 25) (v := 1) dX1_come_25 (by decide) ?_
    refine r_iadd (pc := 26) dX1_come_26 ?_
    refine r_pI (pc := 27) dX1_come_27 q316 fd_2 same_rf rfl h (fun st e27 h => ?_)
    refine r_iinc (pc := 30) (env' := [(2, vi (v2 + (-8))), (0, vr v0), (1, vi v1)]) (cst := (-8)) dX1_come_30 2 rfl (by decide) (by decide) rfl ?_
    refine r_goto (pc := 33) (tgt := 3) dX1_come_33 (by decide) ?_
    exact r_sub (env' := [(0, vr v0), (1, vi v1), (2, vi (v2 + (-8)))]) [1, 2, 0] rfl (hk3 _ _ _ _ h)
theorem sX1_come_3 {st0 : Mem} {fin : Unit × Mem} (n : Nat) : ∀ (v0 : Rf) (v1 : Int32) (v2 : Int32) (st : Mem), bX1_come_3 n v0 v1 v2 st = some fin → G (cX1_come, "HouseClaps", "come", 6, none, 3) st0 trV fin 3 [(0, vr v0), (1, vi v1), (2, vi v2)] [] st := by
  induction n with
  | zero => intro v0 v1 v2 st h; cases h
  | succ n ih => intro v0 v1 v2 st h; exact sX1_come_3B  ih v0 v1 v2 st h
theorem sX1_come {a0 : Rf} {a1 : Int32} {st : Mem} {fin : Unit × Mem} (h : fX1_come a0 a1 st = some fin) : Con yX1_come 6 [vr a0, vi a1] st trV fin := by
  refine Con.mk (cc := cX1_come) (n := 3) (own := "HouseClaps") (nm := "come") (ret := none) (env := [(0, vr a0), (1, vi a1)]) q405 rfl rfl rfl (by decide) ⟨Nat.le_of_ble_eq_true rfl, by decide⟩ rfl ?_
  unfold fX1_come at h
  refine r_bipush (pc := 0) (v := 24) dX1_come_0 (by decide) ?_
  refine r_istore_n (pc := 2) (env' := [(2, vi (24 : Int32)), (0, vr a0), (1, vi a1)]) dX1_come_2 rfl (by decide) rfl ?_
  exact r_sub (env' := [(0, vr a0), (1, vi a1), (2, vi (24 : Int32))]) [1, 2, 0] rfl (sX1_come_3 hcFuel _ _ _ _ h)
theorem sX1_draw {a0 : Rf} {a1 : Int32} {st : Mem} {fin : Int32 × Mem} (h : fX1_draw a0 a1 st = some fin) : Con yX1_draw 6 [vr a0, vi a1] st trI fin := by
  refine Con.mk (cc := cX1_draw) (n := 2) (own := "HouseClaps") (nm := "draw") (ret := (some .int)) (env := [(0, vr a0), (1, vi a1)]) q1585 rfl rfl rfl (by decide) ⟨Nat.le_of_ble_eq_true rfl, by decide⟩ rfl ?_
  unfold fX1_draw at h
  refine r_aload_n (pc := 0) dX1_draw_0 0 rfl rfl ?_
  refine r_aload_n (pc := 1) dX1_draw_1 0 rfl rfl ?_
  refine r_gI (pc := 2) dX1_draw_2 q336 fd_22 same_rf h (fun x2 e2 h => ?_)
  refine r_ldc_w (pc := 5) dX1_draw_5 q1586 ?_
  refine r_imul (pc := 8) dX1_draw_8 ?_
  refine r_sipush (pc := 9) (v := 12345) dX1_draw_9 (by decide) ?_
  refine r_iadd (pc := 12) dX1_draw_12 ?_
  refine r_pI (pc := 13) dX1_draw_13 q336 fd_22 same_rf rfl h (fun st e13 h => ?_)
  refine r_aload_n (pc := 16) dX1_draw_16 0 rfl rfl ?_
  refine r_gI (pc := 17) dX1_draw_17 q336 fd_22 same_rf h (fun x17 e17 h => ?_)
  refine r_bipush (pc := 20) (v := 8) dX1_draw_20 (by decide) ?_
  refine r_iushr (pc := 22) dX1_draw_22 ?_
  refine r_iload_n (pc := 23) dX1_draw_23 1 rfl rfl ?_
  refine r_irem (pc := 24) dX1_draw_24 h (fun x24 e24 h => ?_)
  exact r_ireturn (pc := 25) dX1_draw_25 rfl rfl h
theorem sX1_end {a0 : Rf} {a1 : Int32} {st : Mem} {fin : Int32 × Mem} (h : fX1_end a0 a1 st = some fin) : Con yX1_end 6 [vr a0, vi a1] st trI fin := by
  refine Con.mk (cc := cX1_end) (n := 2) (own := "HouseClaps") (nm := "end") (ret := (some .boolean)) (env := [(0, vr a0), (1, vi a1)]) q409 rfl rfl rfl (by decide) ⟨Nat.le_of_ble_eq_true rfl, by decide⟩ rfl ?_
  unfold fX1_end at h
  refine r_iload_n (pc := 0) dX1_end_0 1 rfl rfl ?_
  refine r_if_lt (pc := 1) (tgt := 12) dX1_end_1 (by decide) h (fun e1 h => ?_) (fun e1 h => ?_)
  · refine r_iconst (pc := 12) (v := 0) dX1_end_12 (by decide) ?_
    exact r_ireturn (pc := 13) dX1_end_13 rfl rfl h
  · refine r_iload_n (pc := 4) dX1_end_4 1 rfl rfl ?_
    refine r_aload_n (pc := 5) dX1_end_5 0 rfl rfl ?_
    refine r_gI (pc := 6) dX1_end_6 q316 fd_2 same_rf h (fun x6 e6 h => ?_)
    refine r_icmp_le (pc := 9) (tgt := 14) dX1_end_9 (by decide) h (fun e9 h => ?_) (fun e9 h => ?_)
    · refine r_aload_n (pc := 14) dX1_end_14 0 rfl rfl ?_
      refine r_iload_n (pc := 15) dX1_end_15 1 rfl rfl ?_
      refine r_pI (pc := 16) dX1_end_16 q316 fd_2 same_rf rfl h (fun st e16 h => ?_)
      refine r_iconst (pc := 19) (v := 1) dX1_end_19 (by decide) ?_
      exact r_ireturn (pc := 20) dX1_end_20 rfl rfl h
    · refine r_iconst (pc := 12) (v := 0) dX1_end_12 (by decide) ?_
      exact r_ireturn (pc := 13) dX1_end_13 rfl rfl h
theorem sX1_factorial_4B {st0 : Mem} {fin : Int64 × Mem} {kk4 : Int32 → Int64 → Int32 → Mem → Option (Int64 × Mem)} (hk4 : ∀ (v0 : Int32) (v1 : Int64) (v3 : Int32) (st : Mem), kk4 v0 v1 v3 st = some fin → G (cX1_factorial, "HouseClaps", "factorial", 6, (some .long), 4) st0 trJ fin 4 [(0, vi v0), (1, vj v1), (3, vi v3)] [] st) (v0 : Int32) (v1 : Int64) (v3 : Int32) (st : Mem) (h : bX1_factorial_4B kk4 v0 v1 v3 st = some fin) : G (cX1_factorial, "HouseClaps", "factorial", 6, (some .long), 4) st0 trJ fin 4 [(0, vi v0), (1, vj v1), (3, vi v3)] [] st := by
  unfold bX1_factorial_4B at h
  refine r_iload_n (pc := 4) dX1_factorial_4 2 rfl rfl ?_
  refine r_iload_n (pc := 5) dX1_factorial_5 0 rfl rfl ?_
  refine r_icmp_gt (pc := 6) (tgt := 20) dX1_factorial_6 (by decide) h (fun e6 h => ?_) (fun e6 h => ?_)
  · refine r_lload_n (pc := 20) dX1_factorial_20 1 rfl rfl ?_
    exact r_lreturn (pc := 21) dX1_factorial_21 rfl h
  · refine r_lload_n (pc := 9) dX1_factorial_9 1 rfl rfl ?_
    refine r_iload_n (pc := 10) dX1_factorial_10 2 rfl rfl ?_
    refine r_i2l (pc := 11) dX1_factorial_11 ?_
    refine r_lmul (pc := 12) dX1_factorial_12 ?_
    refine r_nameJ h (fun y13 e13 h => ?_)
    refine r_lstore_n (pc := 13) (env' := [(1, vj y13), (0, vi v0), (3, vi v3)]) dX1_factorial_13 rfl (by decide) rfl ?_
    refine r_iinc (pc := 14) (env' := [(3, vi (v3 + 1)), (1, vj y13), (0, vi v0)]) (cst := 1) dX1_factorial_14 2 rfl (by decide) (by decide) rfl ?_
    refine r_goto (pc := 17) (tgt := 4) dX1_factorial_17 (by decide) ?_
    exact r_sub (env' := [(0, vi v0), (1, vj y13), (3, vi (v3 + 1))]) [2, 1, 0] rfl (hk4 _ _ _ _ h)
theorem sX1_factorial_4 {st0 : Mem} {fin : Int64 × Mem} (n : Nat) : ∀ (v0 : Int32) (v1 : Int64) (v3 : Int32) (st : Mem), bX1_factorial_4 n v0 v1 v3 st = some fin → G (cX1_factorial, "HouseClaps", "factorial", 6, (some .long), 4) st0 trJ fin 4 [(0, vi v0), (1, vj v1), (3, vi v3)] [] st := by
  induction n with
  | zero => intro v0 v1 v3 st h; cases h
  | succ n ih => intro v0 v1 v3 st h; exact sX1_factorial_4B  ih v0 v1 v3 st h
theorem sX1_factorial {a0 : Int32} {st : Mem} {fin : Int64 × Mem} (h : fX1_factorial a0 st = some fin) : Con yX1_factorial 6 [vi a0] st trJ fin := by
  refine Con.mk (cc := cX1_factorial) (n := 4) (own := "HouseClaps") (nm := "factorial") (ret := (some .long)) (env := [(0, vi a0)]) q1521 rfl rfl rfl (by decide) ⟨Nat.le_of_ble_eq_true rfl, by decide⟩ rfl ?_
  unfold fX1_factorial at h
  refine r_lconst (pc := 0) (v := 1) dX1_factorial_0 (by decide) ?_
  refine r_lstore_n (pc := 1) (env' := [(1, vj (1 : Int64)), (0, vi a0)]) dX1_factorial_1 rfl (by decide) rfl ?_
  refine r_iconst (pc := 2) (v := 2) dX1_factorial_2 (by decide) ?_
  refine r_istore_n (pc := 3) (env' := [(3, vi (2 : Int32)), (1, vj (1 : Int64)), (0, vi a0)]) dX1_factorial_3 rfl (by decide) rfl ?_
  exact r_sub (env' := [(0, vi a0), (1, vj (1 : Int64)), (3, vi (2 : Int32))]) [2, 1, 0] rfl (sX1_factorial_4 hcFuel _ _ _ _ h)
theorem sX1_fault {a0 : Rf} {st : Mem} {fin : Int32 × Mem} (h : fX1_fault a0 st = some fin) : Con yX1_fault 6 [vr a0] st trI fin := by
  refine Con.mk (cc := cX1_fault) (n := 1) (own := "HouseClaps") (nm := "fault") (ret := (some .int)) (env := [(0, vr a0)]) q1050 rfl rfl rfl (by decide) ⟨Nat.le_of_ble_eq_true rfl, by decide⟩ rfl ?_
  unfold fX1_fault at h
  refine r_aload_n (pc := 0) dX1_fault_0 0 rfl rfl ?_
  refine r_gI (pc := 1) dX1_fault_1 q317 fd_3 same_rf h (fun x1 e1 h => ?_)
  exact r_ireturn (pc := 4) dX1_fault_4 rfl rfl h
theorem sX1_has {a0 : Int32} {a1 : Int32} {st : Mem} {fin : Int32 × Mem} (h : fX1_has a0 a1 st = some fin) : Con yX1_has 6 [vi a0, vi a1] st trI fin := by
  refine Con.mk (cc := cX1_has) (n := 2) (own := "HouseClaps") (nm := "has") (ret := (some .boolean)) (env := [(0, vi a0), (1, vi a1)]) q1018 rfl rfl rfl (by decide) ⟨Nat.le_of_ble_eq_true rfl, by decide⟩ rfl ?_
  unfold fX1_has at h
  refine r_iload_n (pc := 0) dX1_has_0 0 rfl rfl ?_
  refine r_iload_n (pc := 1) dX1_has_1 1 rfl rfl ?_
  refine r_ishr (pc := 2) dX1_has_2 ?_
  refine r_iconst (pc := 3) (v := 1) dX1_has_3 (by decide) ?_
  refine r_iand (pc := 4) dX1_has_4 ?_
  refine r_iconst (pc := 5) (v := 1) dX1_has_5 (by decide) ?_
  refine r_icmp_ne (pc := 6) (tgt := 13) dX1_has_6 (by decide) h (fun e6 h => ?_) (fun e6 h => ?_)
  · refine r_iconst (pc := 13) (v := 0) dX1_has_13 (by decide) ?_
    exact r_ireturn (pc := 14) dX1_has_14 rfl rfl h
  · refine r_iconst (pc := 9) (v := 1) dX1_has_9 (by decide) ?_
    refine r_goto (pc := 10) (tgt := 14) dX1_has_10 (by decide) ?_
    exact r_ireturn (pc := 14) dX1_has_14 rfl rfl h
theorem sX1_has_2 {a0 : Int64} {a2 : Int32} {st : Mem} {fin : Int32 × Mem} (h : fX1_has_2 a0 a2 st = some fin) : Con yX1_has_2 6 [vj a0, vi a2] st trI fin := by
  refine Con.mk (cc := cX1_has_2) (n := 3) (own := "HouseClaps") (nm := "has") (ret := (some .boolean)) (env := [(0, vj a0), (2, vi a2)]) q1305 rfl rfl rfl (by decide) ⟨Nat.le_of_ble_eq_true rfl, by decide⟩ rfl ?_
  unfold fX1_has_2 at h
  refine r_lload_n (pc := 0) dX1_has_2_0 0 rfl rfl ?_
  refine r_iload_n (pc := 1) dX1_has_2_1 1 rfl rfl ?_
  refine r_lshr (pc := 2) dX1_has_2_2 ?_
  refine r_lconst (pc := 3) (v := 1) dX1_has_2_3 (by decide) ?_
  refine r_land (pc := 4) dX1_has_2_4 ?_
  refine r_lconst (pc := 5) (v := 1) dX1_has_2_5 (by decide) ?_
  refine r_lcmp_ne (pc := 6) (tgt := 14) dX1_has_2_6 dX1_has_2_7 (by decide) h (fun e7 h => ?_) (fun e7 h => ?_)
  · refine r_iconst (pc := 14) (v := 0) dX1_has_2_14 (by decide) ?_
    exact r_ireturn (pc := 15) dX1_has_2_15 rfl rfl h
  · refine r_iconst (pc := 10) (v := 1) dX1_has_2_10 (by decide) ?_
    refine r_goto (pc := 11) (tgt := 15) dX1_has_2_11 (by decide) ?_
    exact r_ireturn (pc := 15) dX1_has_2_15 rfl rfl h
theorem sX1_isBare_22 {st0 : Mem} {fin : Int32 × Mem} {kk6 : Rf → Int32 → Int32 → Mem → Option (Int32 × Mem)} (hk6 : ∀ (v0 : Rf) (v1 : Int32) (v2 : Int32) (st : Mem), kk6 v0 v1 v2 st = some fin → G (cX1_isBare, "HouseClaps", "isBare", 6, (some .boolean), 3) st0 trI fin 6 [(0, vr v0), (1, vi v1), (2, vi v2)] [] st) (v0 : Rf) (v1 : Int32) (v2 : Int32) (st : Mem) (h : bX1_isBare_22 kk6 v0 v1 v2 st = some fin) : G (cX1_isBare, "HouseClaps", "isBare", 6, (some .boolean), 3) st0 trI fin 22 [(0, vr v0), (1, vi v1), (2, vi v2)] [] st := by
  unfold bX1_isBare_22 at h
  refine r_iload_n (pc := 22) dX1_isBare_22 2 rfl rfl ?_
  refine r_if_ne (pc := 23) (tgt := 28) dX1_isBare_23 (by decide) h (fun e23 h => ?_) (fun e23 h => ?_)
  · refine r_iload_n (pc := 28) dX1_isBare_28 2 rfl rfl ?_
    refine r_iconst (pc := 29) (v := 1) dX1_isBare_29 (by decide) ?_
    refine r_isub (pc := 30) dX1_isBare_30 ?_
    refine r_iload_n (pc := 31) dX1_isBare_31 1 rfl rfl ?_
    refine r_iand (pc := 32) dX1_isBare_32 ?_
    refine r_nameI h (fun y33 e33 h => ?_)
    refine r_istore_n (pc := 33) (env' := [(2, vi y33), (0, vr v0), (1, vi v1)]) dX1_isBare_33 rfl (by decide) rfl ?_
    refine r_goto (pc := 34) (tgt := 6) dX1_isBare_34 (by decide) ?_
    exact r_sub (env' := [(0, vr v0), (1, vi v1), (2, vi y33)]) [1, 2, 0] rfl (hk6 _ _ _ _ h)
  · refine r_iconst (pc := 26) (v := 1) dX1_isBare_26 (by decide) ?_
    exact r_ireturn (pc := 27) dX1_isBare_27 rfl rfl h
theorem sX1_isBare_6B {st0 : Mem} {fin : Int32 × Mem} {kk6 : Rf → Int32 → Int32 → Mem → Option (Int32 × Mem)} (hk6 : ∀ (v0 : Rf) (v1 : Int32) (v2 : Int32) (st : Mem), kk6 v0 v1 v2 st = some fin → G (cX1_isBare, "HouseClaps", "isBare", 6, (some .boolean), 3) st0 trI fin 6 [(0, vr v0), (1, vi v1), (2, vi v2)] [] st) (v0 : Rf) (v1 : Int32) (v2 : Int32) (st : Mem) (h : bX1_isBare_6B kk6 v0 v1 v2 st = some fin) : G (cX1_isBare, "HouseClaps", "isBare", 6, (some .boolean), 3) st0 trI fin 6 [(0, vr v0), (1, vi v1), (2, vi v2)] [] st := by
  unfold bX1_isBare_6B at h
  refine r_iload_n (pc := 6) dX1_isBare_6 2 rfl rfl ?_
  refine r_iload_n (pc := 7) dX1_isBare_7 1 rfl rfl ?_
  refine r_icmp_eq (pc := 8) (tgt := 22) dX1_isBare_8 (by decide) h (fun e8 h => ?_) (fun e8 h => ?_)
  · exact sX1_isBare_22 hk6 _ _ _ _ h
  · refine r_aload_n (pc := 11) dX1_isBare_11 0 rfl rfl ?_
    refine r_gA (pc := 12) dX1_isBare_12 q327 fd_13 same_rf h (fun x12 e12 h => ?_)
    refine r_iload_n (pc := 15) dX1_isBare_15 2 rfl rfl ?_
    refine r_baload (pc := 16) dX1_isBare_16 h (fun x16 e16 h => ?_)
    refine r_if_eq (pc := 17) (tgt := 22) dX1_isBare_17 (by decide) h (fun e17 h => ?_) (fun e17 h => ?_)
    · exact sX1_isBare_22 hk6 _ _ _ _ h
    · refine r_iconst (pc := 20) (v := 0) dX1_isBare_20 (by decide) ?_
      exact r_ireturn (pc := 21) dX1_isBare_21 rfl rfl h
theorem sX1_isBare_6 {st0 : Mem} {fin : Int32 × Mem} (n : Nat) : ∀ (v0 : Rf) (v1 : Int32) (v2 : Int32) (st : Mem), bX1_isBare_6 n v0 v1 v2 st = some fin → G (cX1_isBare, "HouseClaps", "isBare", 6, (some .boolean), 3) st0 trI fin 6 [(0, vr v0), (1, vi v1), (2, vi v2)] [] st := by
  induction n with
  | zero => intro v0 v1 v2 st h; cases h
  | succ n ih => intro v0 v1 v2 st h; exact sX1_isBare_6B  ih v0 v1 v2 st h
theorem sX1_isBare {a0 : Rf} {a1 : Int32} {st : Mem} {fin : Int32 × Mem} (h : fX1_isBare a0 a1 st = some fin) : Con yX1_isBare 6 [vr a0, vi a1] st trI fin := by
  refine Con.mk (cc := cX1_isBare) (n := 3) (own := "HouseClaps") (nm := "isBare") (ret := (some .boolean)) (env := [(0, vr a0), (1, vi a1)]) q1514 rfl rfl rfl (by decide) ⟨Nat.le_of_ble_eq_true rfl, by decide⟩ rfl ?_
  unfold fX1_isBare at h
  refine r_iload_n (pc := 0) dX1_isBare_0 1 rfl rfl ?_
  refine r_iconst (pc := 1) (v := 1) dX1_isBare_1 (by decide) ?_
  refine r_isub (pc := 2) dX1_isBare_2 ?_
  refine r_iload_n (pc := 3) dX1_isBare_3 1 rfl rfl ?_
  refine r_iand (pc := 4) dX1_isBare_4 ?_
  refine r_nameI h (fun y5 e5 h => ?_)
  refine r_istore_n (pc := 5) (env' := [(2, vi y5), (0, vr a0), (1, vi a1)]) dX1_isBare_5 rfl (by decide) rfl ?_
  exact r_sub (env' := [(0, vr a0), (1, vi a1), (2, vi y5)]) [1, 2, 0] rfl (sX1_isBare_6 hcFuel _ _ _ _ h)
theorem sX1_isIn_14 {st0 : Mem} {fin : Int32 × Mem} (st : Mem) (h : bX1_isIn_14  st = some fin) : G (cX1_isIn, "HouseClaps", "isIn", 6, (some .boolean), 3) st0 trI fin 14 [] [] st := by
  unfold bX1_isIn_14 at h
  refine r_iconst (pc := 14) (v := 0) dX1_isIn_14 (by decide) ?_
  exact r_ireturn (pc := 15) dX1_isIn_15 rfl rfl h
theorem sX1_isIn {a0 : Int32} {a1 : Int32} {a2 : Int32} {st : Mem} {fin : Int32 × Mem} (h : fX1_isIn a0 a1 a2 st = some fin) : Con yX1_isIn 6 [vi a0, vi a1, vi a2] st trI fin := by
  refine Con.mk (cc := cX1_isIn) (n := 3) (own := "HouseClaps") (nm := "isIn") (ret := (some .boolean)) (env := [(0, vi a0), (1, vi a1), (2, vi a2)]) q929 rfl rfl rfl (by decide) ⟨Nat.le_of_ble_eq_true rfl, by decide⟩ rfl ?_
  unfold fX1_isIn at h
  refine r_iload_n (pc := 0) dX1_isIn_0 0 rfl rfl ?_
  refine r_iload_n (pc := 1) dX1_isIn_1 1 rfl rfl ?_
  refine r_icmp_lt (pc := 2) (tgt := 14) dX1_isIn_2 (by decide) h (fun e2 h => ?_) (fun e2 h => ?_)
  · exact r_sub (env' := []) [] rfl (sX1_isIn_14 _ h)
  · refine r_iload_n (pc := 5) dX1_isIn_5 0 rfl rfl ?_
    refine r_iload_n (pc := 6) dX1_isIn_6 2 rfl rfl ?_
    refine r_icmp_gt (pc := 7) (tgt := 14) dX1_isIn_7 (by decide) h (fun e7 h => ?_) (fun e7 h => ?_)
    · exact r_sub (env' := []) [] rfl (sX1_isIn_14 _ h)
    · refine r_iconst (pc := 10) (v := 1) dX1_isIn_10 (by decide) ?_
      refine r_goto (pc := 11) (tgt := 15) dX1_isIn_11 (by decide) ?_
      exact r_ireturn (pc := 15) dX1_isIn_15 rfl rfl h
theorem sX1_need {a0 : Int32} {st : Mem} {fin : (Unit ⊕ Nat) × Mem} (h : fX1_need a0 st = some fin) : Con yX1_need 6 [vi a0] st trVx fin := by
  refine Con.mk (cc := cX1_need) (n := 1) (own := "HouseClaps") (nm := "need") (ret := none) (env := [(0, vi a0)]) q1626 rfl rfl rfl (by decide) ⟨Nat.le_of_ble_eq_true rfl, by decide⟩ rfl ?_
  unfold fX1_need at h
  refine r_iload_n (pc := 0) dX1_need_0 0 rfl rfl ?_
  refine r_if_ne (pc := 1) (tgt := 12) dX1_need_1 (by decide) h (fun e1 h => ?_) (fun e1 h => ?_)
  · exact r_return_ (pc := 12) dX1_need_12 rfl h
  · refine r_new (pc := 4) dX1_need_4 q1627 rfl h (fun x4 st e4 h => ?_)
    refine r_dup (pc := 7) dX1_need_7 rfl ?_
    refine r_exi (pc := 8) dX1_need_8 q1638 (Or.inr ⟨rfl, rfl⟩) (by decide) (Nat.le_of_ble_eq_true rfl) h (fun st e8 h => ?_)
    exact r_athrow (pc := 11) dX1_need_11 (by decide) (fun _ => rfl) h
theorem sX1_take {a0 : Rf} {st : Mem} {fin : Int32 × Mem} (h : fX1_take a0 st = some fin) : Con yX1_take 6 [vr a0] st trI fin := by
  refine Con.mk (cc := cX1_take) (n := 2) (own := "HouseClaps") (nm := "take") (ret := (some .int)) (env := [(0, vr a0)]) q418 rfl rfl rfl (by decide) ⟨Nat.le_of_ble_eq_true rfl, by decide⟩ rfl ?_
  unfold fX1_take at h
  refine r_aload_n (pc := 0) dX1_take_0 0 rfl rfl ?_
  refine r_gI (pc := 1) dX1_take_1 q316 fd_2 same_rf h (fun x1 e1 h => ?_)
  refine r_istore_n (pc := 4) (env' := [(1, vi x1), (0, vr a0)]) dX1_take_4 rfl (by decide) rfl ?_
  refine r_aload_n (pc := 5) dX1_take_5 1 rfl rfl ?_
  refine r_iconst (pc := 6) (v := 0) dX1_take_6 (by decide) ?_
  refine r_pI (pc := 7) dX1_take_7 q316 fd_2 same_rf rfl h (fun st e7 h => ?_)
  refine r_iload_n (pc := 10) dX1_take_10 0 rfl rfl ?_
  exact r_ireturn (pc := 11) dX1_take_11 rfl rfl h
theorem sX1_with {a0 : Int64} {a2 : Int32} {a3 : Int32} {st : Mem} {fin : Int64 × Mem} (h : fX1_with a0 a2 a3 st = some fin) : Con yX1_with 6 [vj a0, vi a2, vi a3] st trJ fin := by
  refine Con.mk (cc := cX1_with) (n := 4) (own := "HouseClaps") (nm := "with") (ret := (some .long)) (env := [(0, vj a0), (2, vi a2), (3, vi a3)]) q1066 rfl rfl rfl (by decide) ⟨Nat.le_of_ble_eq_true rfl, by decide⟩ rfl ?_
  unfold fX1_with at h
  refine r_iload_n (pc := 0) dX1_with_0 2 rfl rfl ?_
  refine r_iconst (pc := 1) (v := 1) dX1_with_1 (by decide) ?_
  refine r_icmp_ne (pc := 2) (tgt := 13) dX1_with_2 (by decide) h (fun e2 h => ?_) (fun e2 h => ?_)
  · refine r_lload_n (pc := 13) dX1_with_13 0 rfl rfl ?_
    refine r_lconst (pc := 14) (v := 1) dX1_with_14 (by decide) ?_
    refine r_iload_n (pc := 15) dX1_with_15 1 rfl rfl ?_
    refine r_lshl (pc := 16) dX1_with_16 ?_
    refine r_ldc2 (pc := 17) dX1_with_17 q1067 ?_
    refine r_lxor (pc := 20) dX1_with_20 ?_
    refine r_land (pc := 21) dX1_with_21 ?_
    exact r_lreturn (pc := 22) dX1_with_22 rfl h
  · refine r_lload_n (pc := 5) dX1_with_5 0 rfl rfl ?_
    refine r_lconst (pc := 6) (v := 1) dX1_with_6 (by decide) ?_
    refine r_iload_n (pc := 7) dX1_with_7 1 rfl rfl ?_
    refine r_lshl (pc := 8) dX1_with_8 ?_
    refine r_lor (pc := 9) dX1_with_9 ?_
    refine r_goto (pc := 10) (tgt := 22) dX1_with_10 (by decide) ?_
    exact r_lreturn (pc := 22) dX1_with_22 rfl h
theorem sX20_does {a0 : Rf} {a1 : Rf} {st : Mem} {fin : Unit × Mem} (h : fX20_does a0 a1 st = some fin) : Con yX20_does 6 [vr a0, vr a1] st trV fin := by
  refine Con.mk (cc := cX20_does) (n := 2) (own := "HouseClaps$Free") (nm := "does") (ret := none) (env := [(0, vr a0), (1, vr a1)]) q1272 rfl rfl rfl (by decide) ⟨Nat.le_of_ble_eq_true rfl, by decide⟩ rfl ?_
  unfold fX20_does at h
  refine r_aload_n (pc := 0) dX20_does_0 1 rfl rfl ?_
  refine r_dup (pc := 1) dX20_does_1 rfl ?_
  refine r_gJN (pc := 2) dX20_does_2 q263 fd_42 same_rf h (fun x2 e2 h => ?_)
  refine r_lconst (pc := 5) (v := 1) dX20_does_5 (by decide) ?_
  refine r_aload_n (pc := 6) dX20_does_6 0 rfl rfl ?_
  refine r_gI (pc := 7) dX20_does_7 q1157 fd_151 same_rf h (fun x7 e7 h => ?_)
  refine r_lshl (pc := 10) dX20_does_10 ?_
  refine r_ldc2 (pc := 11) dX20_does_11 q1273 ?_
  refine r_lxor (pc := 14) dX20_does_14 ?_
  refine r_land (pc := 15) dX20_does_15 ?_
  refine r_pJN (pc := 16) dX20_does_16 q263 fd_42 same_rf rfl h (fun st e16 h => ?_)
  refine r_aload_n (pc := 19) dX20_does_19 1 rfl rfl ?_
  refine r_dup (pc := 20) dX20_does_20 rfl ?_
  refine r_gJN (pc := 21) dX20_does_21 q266 fd_43 same_rf h (fun x21 e21 h => ?_)
  refine r_lconst (pc := 24) (v := 1) dX20_does_24 (by decide) ?_
  refine r_aload_n (pc := 25) dX20_does_25 0 rfl rfl ?_
  refine r_gI (pc := 26) dX20_does_26 q1157 fd_151 same_rf h (fun x26 e26 h => ?_)
  refine r_lshl (pc := 29) dX20_does_29 ?_
  refine r_ldc2 (pc := 30) dX20_does_30 q1273 ?_
  refine r_lxor (pc := 33) dX20_does_33 ?_
  refine r_land (pc := 34) dX20_does_34 ?_
  refine r_pJN (pc := 35) dX20_does_35 q266 fd_43 same_rf rfl h (fun st e35 h => ?_)
  exact r_return_ (pc := 38) dX20_does_38 rfl h
theorem sX20_seat {a0 : Rf} {st : Mem} {fin : Int32 × Mem} (h : fX20_seat a0 st = some fin) : Con yX20_seat 6 [vr a0] st trI fin := by
  refine Con.mk (cc := cX20_seat) (n := 1) (own := "HouseClaps$Free") (nm := "seat") (ret := (some .int)) (env := [(0, vr a0)]) q1283 rfl rfl rfl (by decide) ⟨Nat.le_of_ble_eq_true rfl, by decide⟩ rfl ?_
  unfold fX20_seat at h
  refine r_aload_n (pc := 0) dX20_seat_0 0 rfl rfl ?_
  refine r_gI (pc := 1) dX20_seat_1 q1157 fd_151 same_rf h (fun x1 e1 h => ?_)
  exact r_ireturn (pc := 4) dX20_seat_4 rfl rfl h
theorem sX20_what {a0 : Rf} {st : Mem} {fin : Int32 × Mem} (h : fX20_what a0 st = some fin) : Con yX20_what 6 [vr a0] st trI fin := by
  refine Con.mk (cc := cX20_what) (n := 1) (own := "HouseClaps$Free") (nm := "what") (ret := (some .int)) (env := [(0, vr a0)]) q1440 rfl rfl rfl (by decide) ⟨Nat.le_of_ble_eq_true rfl, by decide⟩ rfl ?_
  unfold fX20_what at h
  refine r_iconst (pc := 0) (v := 2) dX20_what_0 (by decide) ?_
  exact r_ireturn (pc := 1) dX20_what_1 rfl rfl h
theorem sX21_what {a0 : Rf} {st : Mem} {fin : Int32 × Mem} (h : fX21_what a0 st = some fin) : Con yX21_what 6 [vr a0] st trI fin := by
  refine Con.mk (cc := cX21_what) (n := 1) (own := "HouseClaps$Pay") (nm := "what") (ret := (some .int)) (env := [(0, vr a0)]) q1446 rfl rfl rfl (by decide) ⟨Nat.le_of_ble_eq_true rfl, by decide⟩ rfl ?_
  unfold fX21_what at h
  refine r_iconst (pc := 0) (v := 0) dX21_what_0 (by decide) ?_
  exact r_ireturn (pc := 1) dX21_what_1 rfl rfl h
theorem sX22_what {a0 : Rf} {st : Mem} {fin : Int32 × Mem} (h : fX22_what a0 st = some fin) : Con yX22_what 6 [vr a0] st trI fin := by
  refine Con.mk (cc := cX22_what) (n := 1) (own := "HouseClaps$Hiss") (nm := "what") (ret := (some .int)) (env := [(0, vr a0)]) q1443 rfl rfl rfl (by decide) ⟨Nat.le_of_ble_eq_true rfl, by decide⟩ rfl ?_
  unfold fX22_what at h
  refine r_iconst (pc := 0) (v := 1) dX22_what_0 (by decide) ?_
  exact r_ireturn (pc := 1) dX22_what_1 rfl rfl h
theorem sX2_row {a0 : Rf} {a1 : Int32} {st : Mem} {fin : Int32 × Mem} (h : fX2_row a0 a1 st = some fin) : Con yX2_row 6 [vr a0, vi a1] st trI fin := by
  refine Con.mk (cc := cX2_row) (n := 2) (own := "HouseClaps$House") (nm := "row") (ret := (some .int)) (env := [(0, vr a0), (1, vi a1)]) q1302 rfl rfl rfl (by decide) ⟨Nat.le_of_ble_eq_true rfl, by decide⟩ rfl ?_
  unfold fX2_row at h
  refine r_iload_n (pc := 0) dX2_row_0 1 rfl rfl ?_
  refine r_aload_n (pc := 1) dX2_row_1 0 rfl rfl ?_
  refine r_gI (pc := 2) dX2_row_2 q153 fd_29 same_rf h (fun x2 e2 h => ?_)
  refine r_idiv (pc := 5) dX2_row_5 h (fun x5 e5 h => ?_)
  exact r_ireturn (pc := 6) dX2_row_6 rfl rfl h
theorem sX2_size {a0 : Rf} {st : Mem} {fin : Int32 × Mem} (h : fX2_size a0 st = some fin) : Con yX2_size 6 [vr a0] st trI fin := by
  refine Con.mk (cc := cX2_size) (n := 1) (own := "HouseClaps$House") (nm := "size") (ret := (some .int)) (env := [(0, vr a0)]) q1041 rfl rfl rfl (by decide) ⟨Nat.le_of_ble_eq_true rfl, by decide⟩ rfl ?_
  unfold fX2_size at h
  refine r_aload_n (pc := 0) dX2_size_0 0 rfl rfl ?_
  refine r_gI (pc := 1) dX2_size_1 q149 fd_28 same_rf h (fun x1 e1 h => ?_)
  refine r_aload_n (pc := 4) dX2_size_4 0 rfl rfl ?_
  refine r_gI (pc := 5) dX2_size_5 q153 fd_29 same_rf h (fun x5 e5 h => ?_)
  refine r_imul (pc := 8) dX2_size_8 ?_
  exact r_ireturn (pc := 9) dX2_size_9 rfl rfl h
theorem sX2_swap {a0 : Rf} {a1 : Int32} {a2 : Int32} {st : Mem} {fin : Unit × Mem} (h : fX2_swap a0 a1 a2 st = some fin) : Con yX2_swap 6 [vr a0, vi a1, vi a2] st trV fin := by
  refine Con.mk (cc := cX2_swap) (n := 4) (own := "HouseClaps$House") (nm := "swap") (ret := none) (env := [(0, vr a0), (1, vi a1), (2, vi a2)]) q1563 rfl rfl rfl (by decide) ⟨Nat.le_of_ble_eq_true rfl, by decide⟩ rfl ?_
  unfold fX2_swap at h
  refine r_aload_n (pc := 0) dX2_swap_0 0 rfl rfl ?_
  refine r_gA (pc := 1) dX2_swap_1 q173 fd_34 same_rf h (fun x1 e1 h => ?_)
  refine r_iload_n (pc := 4) dX2_swap_4 1 rfl rfl ?_
  refine r_iaload (pc := 5) dX2_swap_5 h (fun x5 e5 h => ?_)
  refine r_istore_n (pc := 6) (env' := [(3, vi x5), (0, vr a0), (1, vi a1), (2, vi a2)]) dX2_swap_6 rfl (by decide) rfl ?_
  refine r_aload_n (pc := 7) dX2_swap_7 1 rfl rfl ?_
  refine r_gA (pc := 8) dX2_swap_8 q173 fd_34 same_rf h (fun x8 e8 h => ?_)
  refine r_iload_n (pc := 11) dX2_swap_11 2 rfl rfl ?_
  refine r_aload_n (pc := 12) dX2_swap_12 1 rfl rfl ?_
  refine r_gA (pc := 13) dX2_swap_13 q173 fd_34 same_rf h (fun x13 e13 h => ?_)
  refine r_iload_n (pc := 16) dX2_swap_16 3 rfl rfl ?_
  refine r_iaload (pc := 17) dX2_swap_17 h (fun x17 e17 h => ?_)
  refine r_iastore (pc := 18) dX2_swap_18 h (fun st e18 h => ?_)
  refine r_aload_n (pc := 19) dX2_swap_19 1 rfl rfl ?_
  refine r_gA (pc := 20) dX2_swap_20 q173 fd_34 same_rf h (fun x20 e20 h => ?_)
  refine r_iload_n (pc := 23) dX2_swap_23 3 rfl rfl ?_
  refine r_iload_n (pc := 24) dX2_swap_24 0 rfl rfl ?_
  refine r_iastore (pc := 25) dX2_swap_25 h (fun st e25 h => ?_)
  exact r_return_ (pc := 26) dX2_swap_26 rfl h
theorem sX3_asked {a0 : Rf} {st : Mem} {fin : Rf × Mem} (h : fX3_asked a0 st = some fin) : Con yX3_asked 6 [vr a0] st trA fin := by
  refine Con.mk (cc := cX3_asked) (n := 1) (own := "HouseClaps$Night") (nm := "asked") (ret := (some (.object "HouseClaps$Night"))) (env := [(0, vr a0)]) q1396 rfl rfl rfl (by decide) ⟨Nat.le_of_ble_eq_true rfl, by decide⟩ rfl ?_
  unfold fX3_asked at h
  refine r_aload_n (pc := 0) dX3_asked_0 0 rfl rfl ?_
  refine r_gA (pc := 1) dX3_asked_1 q275 fd_49 same_rf h (fun x1 e1 h => ?_)
  refine r_iconst (pc := 4) (v := 0) dX3_asked_4 (by decide) ?_
  refine r_aload_n (pc := 5) dX3_asked_5 0 rfl rfl ?_
  refine r_gA (pc := 6) dX3_asked_6 q273 fd_48 same_rf h (fun x6 e6 h => ?_)
  refine r_iconst (pc := 9) (v := 0) dX3_asked_9 (by decide) ?_
  refine r_bipush (pc := 10) (v := 64) dX3_asked_10 (by decide) ?_
  refine r_cpy (pc := 12) dX3_asked_12 q1318 (by decide) (Nat.le_of_ble_eq_true rfl) h (fun st e12 h => ?_)
  refine r_aload_n (pc := 15) dX3_asked_15 0 rfl rfl ?_
  refine r_gA (pc := 16) dX3_asked_16 q279 fd_51 same_rf h (fun x16 e16 h => ?_)
  refine r_iconst (pc := 19) (v := 0) dX3_asked_19 (by decide) ?_
  refine r_aload_n (pc := 20) dX3_asked_20 0 rfl rfl ?_
  refine r_gA (pc := 21) dX3_asked_21 q277 fd_50 same_rf h (fun x21 e21 h => ?_)
  refine r_iconst (pc := 24) (v := 0) dX3_asked_24 (by decide) ?_
  refine r_bipush (pc := 25) (v := 64) dX3_asked_25 (by decide) ?_
  refine r_cpy (pc := 27) dX3_asked_27 q1318 (by decide) (Nat.le_of_ble_eq_true rfl) h (fun st e27 h => ?_)
  refine r_aload_n (pc := 30) dX3_asked_30 0 rfl rfl ?_
  refine r_gA (pc := 31) dX3_asked_31 q282 fd_53 same_rf h (fun x31 e31 h => ?_)
  refine r_iconst (pc := 34) (v := 0) dX3_asked_34 (by decide) ?_
  refine r_aload_n (pc := 35) dX3_asked_35 0 rfl rfl ?_
  refine r_gA (pc := 36) dX3_asked_36 q281 fd_52 same_rf h (fun x36 e36 h => ?_)
  refine r_iconst (pc := 39) (v := 0) dX3_asked_39 (by decide) ?_
  refine r_iconst (pc := 40) (v := 3) dX3_asked_40 (by decide) ?_
  refine r_cpy (pc := 41) dX3_asked_41 q1318 (by decide) (Nat.le_of_ble_eq_true rfl) h (fun st e41 h => ?_)
  refine r_aload_n (pc := 44) dX3_asked_44 0 rfl rfl ?_
  refine r_lconst (pc := 45) (v := 0) dX3_asked_45 (by decide) ?_
  refine r_pJ (pc := 46) dX3_asked_46 q284 fd_54 same_rf rfl h (fun st e46 h => ?_)
  refine r_aload_n (pc := 49) dX3_asked_49 0 rfl rfl ?_
  exact r_areturn (pc := 50) dX3_asked_50 rfl rfl h
theorem sX3_init {a0 : Rf} {st : Mem} {fin : Unit × Mem} (h : fX3_init a0 st = some fin) : Con yX3_init 6 [vr a0] st trV fin := by
  refine Con.mk (cc := cX3_init) (n := 1) (own := "HouseClaps$Night") (nm := "<init>") (ret := none) (env := [(0, vr a0)]) q258 rfl rfl rfl (by decide) ⟨Nat.le_of_ble_eq_true rfl, by decide⟩ rfl ?_
  unfold fX3_init at h
  refine r_aload_n (pc := 0) dX3_init_0 0 rfl rfl ?_
  refine r_objInit (pc := 1) dX3_init_1 q259 (by decide) (Nat.le_of_ble_eq_true rfl) h (fun h => ?_)
  refine r_aload_n (pc := 4) dX3_init_4 0 rfl rfl ?_
  refine r_bipush (pc := 5) (v := 64) dX3_init_5 (by decide) ?_
  refine r_newarray (pc := 7) dX3_init_7 ⟨rfl, by decide⟩ h (fun x7 st e7 h => ?_)
  refine r_pA (pc := 9) dX3_init_9 q273 fd_48 same_rf rfl h (fun st e9 h => ?_)
  refine r_aload_n (pc := 12) dX3_init_12 0 rfl rfl ?_
  refine r_bipush (pc := 13) (v := 64) dX3_init_13 (by decide) ?_
  refine r_newarray (pc := 15) dX3_init_15 ⟨rfl, by decide⟩ h (fun x15 st e15 h => ?_)
  refine r_pA (pc := 17) dX3_init_17 q275 fd_49 same_rf rfl h (fun st e17 h => ?_)
  refine r_aload_n (pc := 20) dX3_init_20 0 rfl rfl ?_
  refine r_bipush (pc := 21) (v := 64) dX3_init_21 (by decide) ?_
  refine r_newarray (pc := 23) dX3_init_23 ⟨rfl, by decide⟩ h (fun x23 st e23 h => ?_)
  refine r_pA (pc := 25) dX3_init_25 q277 fd_50 same_rf rfl h (fun st e25 h => ?_)
  refine r_aload_n (pc := 28) dX3_init_28 0 rfl rfl ?_
  refine r_bipush (pc := 29) (v := 64) dX3_init_29 (by decide) ?_
  refine r_newarray (pc := 31) dX3_init_31 ⟨rfl, by decide⟩ h (fun x31 st e31 h => ?_)
  refine r_pA (pc := 33) dX3_init_33 q279 fd_51 same_rf rfl h (fun st e33 h => ?_)
  refine r_aload_n (pc := 36) dX3_init_36 0 rfl rfl ?_
  refine r_iconst (pc := 37) (v := 3) dX3_init_37 (by decide) ?_
  refine r_newarray (pc := 38) dX3_init_38 ⟨rfl, by decide⟩ h (fun x38 st e38 h => ?_)
  refine r_pAF (pc := 40) dX3_init_40 q281 fd_52 same_rf ⟨rfl, rfl⟩ h (fun st e40 h => ?_)
  refine r_aload_n (pc := 43) dX3_init_43 0 rfl rfl ?_
  refine r_iconst (pc := 44) (v := 3) dX3_init_44 (by decide) ?_
  refine r_newarray (pc := 45) dX3_init_45 ⟨rfl, by decide⟩ h (fun x45 st e45 h => ?_)
  refine r_pAF (pc := 47) dX3_init_47 q282 fd_53 same_rf ⟨rfl, rfl⟩ h (fun st e47 h => ?_)
  exact r_return_ (pc := 50) dX3_init_50 rfl h
theorem sX5_byteAt {a0 : Rf} {a1 : Int32} {st : Mem} {fin : Int32 × Mem} (h : fX5_byteAt a0 a1 st = some fin) : Con yX5_byteAt 6 [vr a0, vi a1] st trI fin := by
  refine Con.mk (cc := cX5_byteAt) (n := 2) (own := "HouseClaps$Reader") (nm := "byteAt") (ret := (some .int)) (env := [(0, vr a0), (1, vi a1)]) q498 rfl rfl rfl (by decide) ⟨Nat.le_of_ble_eq_true rfl, by decide⟩ rfl ?_
  unfold fX5_byteAt at h
  refine r_iload_n (pc := 0) dX5_byteAt_0 1 rfl rfl ?_
  refine r_aload_n (pc := 1) dX5_byteAt_1 0 rfl rfl ?_
  refine r_gI (pc := 2) dX5_byteAt_2 q438 fd_125 same_rf h (fun x2 e2 h => ?_)
  refine r_icmp_ge (pc := 5) (tgt := 21) dX5_byteAt_5 (by decide) h (fun e5 h => ?_) (fun e5 h => ?_)
  · refine r_iconst (pc := 21) (v := 0) dX5_byteAt_21 (by decide) ?_
    exact r_ireturn (pc := 22) dX5_byteAt_22 rfl rfl h
  · refine r_aload_n (pc := 8) dX5_byteAt_8 0 rfl rfl ?_
    refine r_gA (pc := 9) dX5_byteAt_9 q437 fd_124 same_rf h (fun x9 e9 h => ?_)
    refine r_iload_n (pc := 12) dX5_byteAt_12 1 rfl rfl ?_
    refine r_baload (pc := 13) dX5_byteAt_13 h (fun x13 e13 h => ?_)
    refine r_sipush (pc := 14) (v := 255) dX5_byteAt_14 (by decide) ?_
    refine r_iand (pc := 17) dX5_byteAt_17 ?_
    refine r_goto (pc := 18) (tgt := 22) dX5_byteAt_18 (by decide) ?_
    exact r_ireturn (pc := 22) dX5_byteAt_22 rfl rfl h
theorem sX5_init {a0 : Rf} {a1 : Rf} {a2 : Int32} {a3 : Int32} {st : Mem} {fin : Unit × Mem} (h : fX5_init a0 a1 a2 a3 st = some fin) : Con yX5_init 6 [vr a0, vr a1, vi a2, vi a3] st trV fin := by
  refine Con.mk (cc := cX5_init) (n := 4) (own := "HouseClaps$Reader") (nm := "<init>") (ret := none) (env := [(0, vr a0), (1, vr a1), (2, vi a2), (3, vi a3)]) q426 rfl rfl rfl (by decide) ⟨Nat.le_of_ble_eq_true rfl, by decide⟩ rfl ?_
  unfold fX5_init at h
  refine r_aload_n (pc := 0) dX5_init_0 0 rfl rfl ?_
  refine r_objInit (pc := 1) dX5_init_1 q427 (by decide) (Nat.le_of_ble_eq_true rfl) h (fun h => ?_)
  refine r_aload_n (pc := 4) dX5_init_4 0 rfl rfl ?_
  refine r_ldcS (pc := 5) dX5_init_5 24 rfl ?_
  refine r_pA (pc := 7) dX5_init_7 q451 fd_132 same_rf rfl h (fun st e7 h => ?_)
  refine r_aload_n (pc := 10) dX5_init_10 0 rfl rfl ?_
  refine r_aload_n (pc := 11) dX5_init_11 1 rfl rfl ?_
  refine r_pAF (pc := 12) dX5_init_12 q437 fd_124 same_rf ⟨rfl, rfl⟩ h (fun st e12 h => ?_)
  refine r_aload_n (pc := 15) dX5_init_15 0 rfl rfl ?_
  refine r_iload_n (pc := 16) dX5_init_16 2 rfl rfl ?_
  refine r_pIF (pc := 17) dX5_init_17 q438 fd_125 same_rf ⟨rfl, rfl⟩ h (fun st e17 h => ?_)
  refine r_aload_n (pc := 20) dX5_init_20 0 rfl rfl ?_
  refine r_iload_n (pc := 21) dX5_init_21 3 rfl rfl ?_
  refine r_pIF (pc := 22) dX5_init_22 q439 fd_126 same_rf ⟨rfl, rfl⟩ h (fun st e22 h => ?_)
  exact r_return_ (pc := 25) dX5_init_25 rfl h
theorem sX5_isDigit_16 {st0 : Mem} {fin : Int32 × Mem} (st : Mem) (h : bX5_isDigit_16  st = some fin) : G (cX5_isDigit, "HouseClaps$Reader", "isDigit", 6, (some .boolean), 1) st0 trI fin 16 [] [] st := by
  unfold bX5_isDigit_16 at h
  refine r_iconst (pc := 16) (v := 0) dX5_isDigit_16 (by decide) ?_
  exact r_ireturn (pc := 17) dX5_isDigit_17 rfl rfl h
theorem sX5_isDigit {a0 : Int32} {st : Mem} {fin : Int32 × Mem} (h : fX5_isDigit a0 st = some fin) : Con yX5_isDigit 6 [vi a0] st trI fin := by
  refine Con.mk (cc := cX5_isDigit) (n := 1) (own := "HouseClaps$Reader") (nm := "isDigit") (ret := (some .boolean)) (env := [(0, vi a0)]) q504 rfl rfl rfl (by decide) ⟨Nat.le_of_ble_eq_true rfl, by decide⟩ rfl ?_
  unfold fX5_isDigit at h
  refine r_iload_n (pc := 0) dX5_isDigit_0 0 rfl rfl ?_
  refine r_bipush (pc := 1) (v := 48) dX5_isDigit_1 (by decide) ?_
  refine r_icmp_lt (pc := 3) (tgt := 16) dX5_isDigit_3 (by decide) h (fun e3 h => ?_) (fun e3 h => ?_)
  · exact r_sub (env' := []) [] rfl (sX5_isDigit_16 _ h)
  · refine r_iload_n (pc := 6) dX5_isDigit_6 0 rfl rfl ?_
    refine r_bipush (pc := 7) (v := 57) dX5_isDigit_7 (by decide) ?_
    refine r_icmp_gt (pc := 9) (tgt := 16) dX5_isDigit_9 (by decide) h (fun e9 h => ?_) (fun e9 h => ?_)
    · exact r_sub (env' := []) [] rfl (sX5_isDigit_16 _ h)
    · refine r_iconst (pc := 12) (v := 1) dX5_isDigit_12 (by decide) ?_
      refine r_goto (pc := 13) (tgt := 17) dX5_isDigit_13 (by decide) ?_
      exact r_ireturn (pc := 17) dX5_isDigit_17 rfl rfl h
theorem sX5_isLetter_16 {st0 : Mem} {fin : Int32 × Mem} (st : Mem) (h : bX5_isLetter_16  st = some fin) : G (cX5_isLetter, "HouseClaps$Reader", "isLetter", 6, (some .boolean), 1) st0 trI fin 16 [] [] st := by
  unfold bX5_isLetter_16 at h
  refine r_iconst (pc := 16) (v := 0) dX5_isLetter_16 (by decide) ?_
  exact r_ireturn (pc := 17) dX5_isLetter_17 rfl rfl h
theorem sX5_isLetter {a0 : Int32} {st : Mem} {fin : Int32 × Mem} (h : fX5_isLetter a0 st = some fin) : Con yX5_isLetter 6 [vi a0] st trI fin := by
  refine Con.mk (cc := cX5_isLetter) (n := 1) (own := "HouseClaps$Reader") (nm := "isLetter") (ret := (some .boolean)) (env := [(0, vi a0)]) q501 rfl rfl rfl (by decide) ⟨Nat.le_of_ble_eq_true rfl, by decide⟩ rfl ?_
  unfold fX5_isLetter at h
  refine r_iload_n (pc := 0) dX5_isLetter_0 0 rfl rfl ?_
  refine r_bipush (pc := 1) (v := 97) dX5_isLetter_1 (by decide) ?_
  refine r_icmp_lt (pc := 3) (tgt := 16) dX5_isLetter_3 (by decide) h (fun e3 h => ?_) (fun e3 h => ?_)
  · exact r_sub (env' := []) [] rfl (sX5_isLetter_16 _ h)
  · refine r_iload_n (pc := 6) dX5_isLetter_6 0 rfl rfl ?_
    refine r_bipush (pc := 7) (v := 122) dX5_isLetter_7 (by decide) ?_
    refine r_icmp_gt (pc := 9) (tgt := 16) dX5_isLetter_9 (by decide) h (fun e9 h => ?_) (fun e9 h => ?_)
    · exact r_sub (env' := []) [] rfl (sX5_isLetter_16 _ h)
    · refine r_iconst (pc := 12) (v := 1) dX5_isLetter_12 (by decide) ?_
      refine r_goto (pc := 13) (tgt := 17) dX5_isLetter_13 (by decide) ?_
      exact r_ireturn (pc := 17) dX5_isLetter_17 rfl rfl h
theorem sX5_isSign_20 {st0 : Mem} {fin : Int32 × Mem} (st : Mem) (h : bX5_isSign_20  st = some fin) : G (cX5_isSign, "HouseClaps$Reader", "isSign", 6, (some .boolean), 2) st0 trI fin 20 [] [] st := by
  unfold bX5_isSign_20 at h
  refine r_iconst (pc := 20) (v := 0) dX5_isSign_20 (by decide) ?_
  exact r_ireturn (pc := 21) dX5_isSign_21 rfl rfl h
theorem sX5_isSign {a0 : Rf} {a1 : Int32} {st : Mem} {fin : Int32 × Mem} (h : fX5_isSign a0 a1 st = some fin) : Con yX5_isSign 6 [vr a0, vi a1] st trI fin := by
  refine Con.mk (cc := cX5_isSign) (n := 2) (own := "HouseClaps$Reader") (nm := "isSign") (ret := (some .boolean)) (env := [(0, vr a0), (1, vi a1)]) q883 rfl rfl rfl (by decide) ⟨Nat.le_of_ble_eq_true rfl, by decide⟩ rfl ?_
  unfold fX5_isSign at h
  refine r_aload_n (pc := 0) dX5_isSign_0 0 rfl rfl ?_
  refine r_gI (pc := 1) dX5_isSign_1 q445 fd_128 same_rf h (fun x1 e1 h => ?_)
  refine r_iconst (pc := 4) (v := 4) dX5_isSign_4 (by decide) ?_
  refine r_icmp_ne (pc := 5) (tgt := 20) dX5_isSign_5 (by decide) h (fun e5 h => ?_) (fun e5 h => ?_)
  · exact r_sub (env' := []) [] rfl (sX5_isSign_20 _ h)
  · refine r_aload_n (pc := 8) dX5_isSign_8 0 rfl rfl ?_
    refine r_gI (pc := 9) dX5_isSign_9 q448 fd_131 same_rf h (fun x9 e9 h => ?_)
    refine r_iload_n (pc := 12) dX5_isSign_12 1 rfl rfl ?_
    refine r_icmp_ne (pc := 13) (tgt := 20) dX5_isSign_13 (by decide) h (fun e13 h => ?_) (fun e13 h => ?_)
    · exact r_sub (env' := []) [] rfl (sX5_isSign_20 _ h)
    · refine r_iconst (pc := 16) (v := 1) dX5_isSign_16 (by decide) ?_
      refine r_goto (pc := 17) (tgt := 21) dX5_isSign_17 (by decide) ?_
      exact r_ireturn (pc := 21) dX5_isSign_21 rfl rfl h
theorem sX7_init {a0 : Rf} {a1 : Int32} {a2 : Int32} {st : Mem} {fin : Unit × Mem} (h : fX7_init a0 a1 a2 st = some fin) : Con yX7_init 6 [vr a0, vi a1, vi a2] st trV fin := by
  refine Con.mk (cc := cX7_init) (n := 3) (own := "HouseClaps$Fault") (nm := "<init>") (ret := none) (env := [(0, vr a0), (1, vi a1), (2, vi a2)]) q824 rfl rfl rfl (by decide) ⟨Nat.le_of_ble_eq_true rfl, by decide⟩ rfl ?_
  unfold fX7_init at h
  refine r_aload_n (pc := 0) dX7_init_0 0 rfl rfl ?_
  refine r_exi (pc := 1) dX7_init_1 q825 (Or.inl ⟨rfl, rfl⟩) (by decide) (Nat.le_of_ble_eq_true rfl) h (fun st e1 h => ?_)
  refine r_aload_n (pc := 4) dX7_init_4 0 rfl rfl ?_
  refine r_iload_n (pc := 5) dX7_init_5 1 rfl rfl ?_
  refine r_pIF (pc := 6) dX7_init_6 q829 fd_139 same_rf ⟨rfl, rfl⟩ h (fun st e6 h => ?_)
  refine r_aload_n (pc := 9) dX7_init_9 0 rfl rfl ?_
  refine r_iload_n (pc := 10) dX7_init_10 2 rfl rfl ?_
  refine r_pIF (pc := 11) dX7_init_11 q831 fd_140 same_rf ⟨rfl, rfl⟩ h (fun st e11 h => ?_)
  exact r_return_ (pc := 14) dX7_init_14 rfl h
theorem sX8_init {a0 : Rf} {st : Mem} {fin : Unit × Mem} (h : fX8_init a0 st = some fin) : Con yX8_init 6 [vr a0] st trV fin := by
  refine Con.mk (cc := cX8_init) (n := 1) (own := "HouseClaps$Cond") (nm := "<init>") (ret := none) (env := [(0, vr a0)]) q904 rfl rfl rfl (by decide) ⟨Nat.le_of_ble_eq_true rfl, by decide⟩ rfl ?_
  unfold fX8_init at h
  refine r_aload_n (pc := 0) dX8_init_0 0 rfl rfl ?_
  refine r_objInit (pc := 1) dX8_init_1 q905 (by decide) (Nat.le_of_ble_eq_true rfl) h (fun h => ?_)
  exact r_return_ (pc := 4) dX8_init_4 rfl h
theorem sX15_holds_28 {st0 : Mem} {fin : Int32 × Mem} {rc : Rf → Rf → Int32 → Mem → Option (Int32 × Mem)} {lr : Nat} (hlr : 0 ≤ lr) (hrc : ∀ (a n : Rf) (s : Int32) (st : Mem) (fin : Int32 × Mem), rc a n s st = some fin → VCon ⟨"HouseClaps$Cond", "holds", "(LHouseClaps$Night;I)Z"⟩ lr [vr a, vr n, vi s] st trI fin) (st : Mem) (h : bX15_holds_28 rc  st = some fin) : G (cX15_holds, "HouseClaps$And", "holds", (lr + 1), (some .boolean), 3) st0 trI fin 28 [] [] st := by
  unfold bX15_holds_28 at h
  refine r_iconst (pc := 28) (v := 0) dX15_holds_28 (by decide) ?_
  exact r_ireturn (pc := 29) dX15_holds_29 rfl rfl h
theorem sX15_holds {rc : Rf → Rf → Int32 → Mem → Option (Int32 × Mem)} {lr : Nat} (hlr : 0 ≤ lr) (hrc : ∀ (a n : Rf) (s : Int32) (st : Mem) (fin : Int32 × Mem), rc a n s st = some fin → VCon ⟨"HouseClaps$Cond", "holds", "(LHouseClaps$Night;I)Z"⟩ lr [vr a, vr n, vi s] st trI fin) {a0 : Rf} {a1 : Rf} {a2 : Int32} {st : Mem} {fin : Int32 × Mem} (h : fX15_holds rc a0 a1 a2 st = some fin) : Con yX15_holds (lr + 1) [vr a0, vr a1, vi a2] st trI fin := by
  refine Con.mk (cc := cX15_holds) (n := 3) (own := "HouseClaps$And") (nm := "holds") (ret := (some .boolean)) (env := [(0, vr a0), (1, vr a1), (2, vi a2)]) q1332 rfl rfl rfl (by decide) ⟨Nat.le_of_ble_eq_true rfl, by decide⟩ rfl ?_
  unfold fX15_holds at h
  refine r_aload_n (pc := 0) dX15_holds_0 0 rfl rfl ?_
  refine r_gA (pc := 1) dX15_holds_1 q982 fd_146 (r_same q983) h (fun x1 e1 h => ?_)
  refine r_aload_n (pc := 4) dX15_holds_4 1 rfl rfl ?_
  refine r_iload_n (pc := 5) dX15_holds_5 2 rfl rfl ?_
  refine r_callI (pc := 6) (rest := []) (lkV dX15_holds_6 q1333 xd_X8_holds (fun _ => hrc _ _ _ _ _) adx_X8_holds) (by omega) (Nat.le_of_ble_eq_true rfl) rfl h (fun x6 st e6 h => ?_)
  refine r_if_eq (pc := 9) (tgt := 28) dX15_holds_9 (by decide) h (fun e9 h => ?_) (fun e9 h => ?_)
  · exact r_sub (env' := []) [] rfl (sX15_holds_28 hlr hrc _ h)
  · refine r_aload_n (pc := 12) dX15_holds_12 0 rfl rfl ?_
    refine r_gA (pc := 13) dX15_holds_13 q989 fd_147 (r_same q990) h (fun x13 e13 h => ?_)
    refine r_aload_n (pc := 16) dX15_holds_16 1 rfl rfl ?_
    refine r_iload_n (pc := 17) dX15_holds_17 2 rfl rfl ?_
    refine r_callI (pc := 18) (rest := []) (lkV dX15_holds_18 q1333 xd_X8_holds (fun _ => hrc _ _ _ _ _) adx_X8_holds) (by omega) (Nat.le_of_ble_eq_true rfl) rfl h (fun x18 st e18 h => ?_)
    refine r_if_eq (pc := 21) (tgt := 28) dX15_holds_21 (by decide) h (fun e21 h => ?_) (fun e21 h => ?_)
    · exact r_sub (env' := []) [] rfl (sX15_holds_28 hlr hrc _ h)
    · refine r_iconst (pc := 24) (v := 1) dX15_holds_24 (by decide) ?_
      refine r_goto (pc := 25) (tgt := 29) dX15_holds_25 (by decide) ?_
      exact r_ireturn (pc := 29) dX15_holds_29 rfl rfl h
theorem sX16_holds_24 {st0 : Mem} {fin : Int32 × Mem} {rc : Rf → Rf → Int32 → Mem → Option (Int32 × Mem)} {lr : Nat} (hlr : 0 ≤ lr) (hrc : ∀ (a n : Rf) (s : Int32) (st : Mem) (fin : Int32 × Mem), rc a n s st = some fin → VCon ⟨"HouseClaps$Cond", "holds", "(LHouseClaps$Night;I)Z"⟩ lr [vr a, vr n, vi s] st trI fin) (st : Mem) (h : bX16_holds_24 rc  st = some fin) : G (cX16_holds, "HouseClaps$Or", "holds", (lr + 1), (some .boolean), 3) st0 trI fin 24 [] [] st := by
  unfold bX16_holds_24 at h
  refine r_iconst (pc := 24) (v := 1) dX16_holds_24 (by decide) ?_
  refine r_goto (pc := 25) (tgt := 29) dX16_holds_25 (by decide) ?_
  exact r_ireturn (pc := 29) dX16_holds_29 rfl rfl h
theorem sX16_holds {rc : Rf → Rf → Int32 → Mem → Option (Int32 × Mem)} {lr : Nat} (hlr : 0 ≤ lr) (hrc : ∀ (a n : Rf) (s : Int32) (st : Mem) (fin : Int32 × Mem), rc a n s st = some fin → VCon ⟨"HouseClaps$Cond", "holds", "(LHouseClaps$Night;I)Z"⟩ lr [vr a, vr n, vi s] st trI fin) {a0 : Rf} {a1 : Rf} {a2 : Int32} {st : Mem} {fin : Int32 × Mem} (h : fX16_holds rc a0 a1 a2 st = some fin) : Con yX16_holds (lr + 1) [vr a0, vr a1, vi a2] st trI fin := by
  refine Con.mk (cc := cX16_holds) (n := 3) (own := "HouseClaps$Or") (nm := "holds") (ret := (some .boolean)) (env := [(0, vr a0), (1, vr a1), (2, vi a2)]) q1363 rfl rfl rfl (by decide) ⟨Nat.le_of_ble_eq_true rfl, by decide⟩ rfl ?_
  unfold fX16_holds at h
  refine r_aload_n (pc := 0) dX16_holds_0 0 rfl rfl ?_
  refine r_gA (pc := 1) dX16_holds_1 q984 fd_146 (r_same q985) h (fun x1 e1 h => ?_)
  refine r_aload_n (pc := 4) dX16_holds_4 1 rfl rfl ?_
  refine r_iload_n (pc := 5) dX16_holds_5 2 rfl rfl ?_
  refine r_callI (pc := 6) (rest := []) (lkV dX16_holds_6 q1364 xd_X8_holds (fun _ => hrc _ _ _ _ _) adx_X8_holds) (by omega) (Nat.le_of_ble_eq_true rfl) rfl h (fun x6 st e6 h => ?_)
  refine r_if_ne (pc := 9) (tgt := 24) dX16_holds_9 (by decide) h (fun e9 h => ?_) (fun e9 h => ?_)
  · exact r_sub (env' := []) [] rfl (sX16_holds_24 hlr hrc _ h)
  · refine r_aload_n (pc := 12) dX16_holds_12 0 rfl rfl ?_
    refine r_gA (pc := 13) dX16_holds_13 q987 fd_147 (r_same q988) h (fun x13 e13 h => ?_)
    refine r_aload_n (pc := 16) dX16_holds_16 1 rfl rfl ?_
    refine r_iload_n (pc := 17) dX16_holds_17 2 rfl rfl ?_
    refine r_callI (pc := 18) (rest := []) (lkV dX16_holds_18 q1364 xd_X8_holds (fun _ => hrc _ _ _ _ _) adx_X8_holds) (by omega) (Nat.le_of_ble_eq_true rfl) rfl h (fun x18 st e18 h => ?_)
    refine r_if_eq (pc := 21) (tgt := 28) dX16_holds_21 (by decide) h (fun e21 h => ?_) (fun e21 h => ?_)
    · refine r_iconst (pc := 28) (v := 0) dX16_holds_28 (by decide) ?_
      exact r_ireturn (pc := 29) dX16_holds_29 rfl rfl h
    · exact r_sub (env' := []) [] rfl (sX16_holds_24 hlr hrc _ h)
theorem sX9_holds {rc : Rf → Rf → Int32 → Mem → Option (Int32 × Mem)} {lr : Nat} (hlr : 0 ≤ lr) (hrc : ∀ (a n : Rf) (s : Int32) (st : Mem) (fin : Int32 × Mem), rc a n s st = some fin → VCon ⟨"HouseClaps$Cond", "holds", "(LHouseClaps$Night;I)Z"⟩ lr [vr a, vr n, vi s] st trI fin) {a0 : Rf} {a1 : Rf} {a2 : Int32} {st : Mem} {fin : Int32 × Mem} (h : fX9_holds rc a0 a1 a2 st = some fin) : Con yX9_holds (lr + 1) [vr a0, vr a1, vi a2] st trI fin := by
  refine Con.mk (cc := cX9_holds) (n := 3) (own := "HouseClaps$Not") (nm := "holds") (ret := (some .boolean)) (env := [(0, vr a0), (1, vr a1), (2, vi a2)]) q1360 rfl rfl rfl (by decide) ⟨Nat.le_of_ble_eq_true rfl, by decide⟩ rfl ?_
  unfold fX9_holds at h
  refine r_aload_n (pc := 0) dX9_holds_0 0 rfl rfl ?_
  refine r_gA (pc := 1) dX9_holds_1 q906 fd_141 same_rf h (fun x1 e1 h => ?_)
  refine r_aload_n (pc := 4) dX9_holds_4 1 rfl rfl ?_
  refine r_iload_n (pc := 5) dX9_holds_5 2 rfl rfl ?_
  refine r_callI (pc := 6) (rest := []) (lkV dX9_holds_6 q1361 xd_X8_holds (fun _ => hrc _ _ _ _ _) adx_X8_holds) (by omega) (Nat.le_of_ble_eq_true rfl) rfl h (fun x6 st e6 h => ?_)
  refine r_if_ne (pc := 9) (tgt := 16) dX9_holds_9 (by decide) h (fun e9 h => ?_) (fun e9 h => ?_)
  · refine r_iconst (pc := 16) (v := 0) dX9_holds_16 (by decide) ?_
    exact r_ireturn (pc := 17) dX9_holds_17 rfl rfl h
  · refine r_iconst (pc := 12) (v := 1) dX9_holds_12 (by decide) ?_
    refine r_goto (pc := 13) (tgt := 17) dX9_holds_13 (by decide) ?_
    exact r_ireturn (pc := 17) dX9_holds_17 rfl rfl h
theorem sX10_init {a0 : Rf} {a1 : Int32} {a2 : Int32} {st : Mem} {fin : Unit × Mem} (h : fX10_init a0 a1 a2 st = some fin) : Con yX10_init 8 [vr a0, vi a1, vi a2] st trV fin := by
  refine Con.mk (cc := cX10_init) (n := 3) (own := "HouseClaps$Compare") (nm := "<init>") (ret := none) (env := [(0, vr a0), (1, vi a1), (2, vi a2)]) q938 rfl rfl rfl (by decide) ⟨Nat.le_of_ble_eq_true rfl, by decide⟩ rfl ?_
  unfold fX10_init at h
  refine r_aload_n (pc := 0) dX10_init_0 0 rfl rfl ?_
  refine r_callV (pc := 1) (rest := []) (lkIN dX10_init_1 q939 q903 q904 rfl (fun _ => sX8_init) ad_X8_init) (by decide) (Nat.le_of_ble_eq_true rfl) rfl h (fun u1 st e1 h => ?_)
  refine r_aload_n (pc := 4) dX10_init_4 0 rfl rfl ?_
  refine r_iload_n (pc := 5) dX10_init_5 1 rfl rfl ?_
  refine r_pIF (pc := 6) dX10_init_6 q942 fd_142 same_rf ⟨rfl, rfl⟩ h (fun st e6 h => ?_)
  refine r_aload_n (pc := 9) dX10_init_9 0 rfl rfl ?_
  refine r_iload_n (pc := 10) dX10_init_10 2 rfl rfl ?_
  refine r_pIF (pc := 11) dX10_init_11 q943 fd_143 same_rf ⟨rfl, rfl⟩ h (fun st e11 h => ?_)
  exact r_return_ (pc := 14) dX10_init_14 rfl h
theorem sX14_init {a0 : Rf} {a1 : Rf} {a2 : Rf} {st : Mem} {fin : Unit × Mem} (h : fX14_init a0 a1 a2 st = some fin) : Con yX14_init 8 [vr a0, vr a1, vr a2] st trV fin := by
  refine Con.mk (cc := cX14_init) (n := 3) (own := "HouseClaps$Two") (nm := "<init>") (ret := none) (env := [(0, vr a0), (1, vr a1), (2, vr a2)]) q979 rfl rfl rfl (by decide) ⟨Nat.le_of_ble_eq_true rfl, by decide⟩ rfl ?_
  unfold fX14_init at h
  refine r_aload_n (pc := 0) dX14_init_0 0 rfl rfl ?_
  refine r_callV (pc := 1) (rest := []) (lkIN dX14_init_1 q980 q903 q904 rfl (fun _ => sX8_init) ad_X8_init) (by decide) (Nat.le_of_ble_eq_true rfl) rfl h (fun u1 st e1 h => ?_)
  refine r_aload_n (pc := 4) dX14_init_4 0 rfl rfl ?_
  refine r_aload_n (pc := 5) dX14_init_5 1 rfl rfl ?_
  refine r_pAF (pc := 6) dX14_init_6 q981 fd_146 same_rf ⟨rfl, rfl⟩ h (fun st e6 h => ?_)
  refine r_aload_n (pc := 9) dX14_init_9 0 rfl rfl ?_
  refine r_aload_n (pc := 10) dX14_init_10 2 rfl rfl ?_
  refine r_pAF (pc := 11) dX14_init_11 q986 fd_147 same_rf ⟨rfl, rfl⟩ h (fun st e11 h => ?_)
  exact r_return_ (pc := 14) dX14_init_14 rfl h
theorem sX19_init {a0 : Rf} {a1 : Int32} {st : Mem} {fin : Unit × Mem} (h : fX19_init a0 a1 st = some fin) : Con yX19_init 8 [vr a0, vi a1] st trV fin := by
  refine Con.mk (cc := cX19_init) (n := 2) (own := "HouseClaps$Still") (nm := "<init>") (ret := none) (env := [(0, vr a0), (1, vi a1)]) q1133 rfl rfl rfl (by decide) ⟨Nat.le_of_ble_eq_true rfl, by decide⟩ rfl ?_
  unfold fX19_init at h
  refine r_aload_n (pc := 0) dX19_init_0 0 rfl rfl ?_
  refine r_iload_n (pc := 1) dX19_init_1 1 rfl rfl ?_
  refine r_callV (pc := 2) (rest := []) (lkI dX19_init_2 q1134 q1135 q1136 rfl (fun _ => sX18_init) ad_X18_init) (by decide) (Nat.le_of_ble_eq_true rfl) rfl h (fun u2 st e2 h => ?_)
  exact r_return_ (pc := 5) dX19_init_5 rfl h
theorem sX1_feed {a0 : Rf} {a1 : Int32} {a2 : Int32} {a3 : Int32} {a4 : Int32} {a5 : Int32} {st : Mem} {fin : Int32 × Mem} (h : fX1_feed a0 a1 a2 a3 a4 a5 st = some fin) : Con yX1_feed 8 [vr a0, vi a1, vi a2, vi a3, vi a4, vi a5] st trI fin := by
  refine Con.mk (cc := cX1_feed) (n := 6) (own := "HouseClaps") (nm := "feed") (ret := (some .int)) (env := [(0, vr a0), (1, vi a1), (2, vi a2), (3, vi a3), (4, vi a4), (5, vi a5)]) q401 rfl rfl rfl (by decide) ⟨Nat.le_of_ble_eq_true rfl, by decide⟩ rfl ?_
  unfold fX1_feed at h
  refine r_aload_n (pc := 0) dX1_feed_0 0 rfl rfl ?_
  refine r_gI (pc := 1) dX1_feed_1 q316 fd_2 same_rf h (fun x1 e1 h => ?_)
  refine r_bipush (pc := 4) (v := 20) dX1_feed_4 (by decide) ?_
  refine r_iadd (pc := 6) dX1_feed_6 ?_
  refine r_sipush (pc := 7) (v := 940) dX1_feed_7 (by decide) ?_
  refine r_icmp_le (pc := 10) (tgt := 15) dX1_feed_10 (by decide) h (fun e10 h => ?_) (fun e10 h => ?_)
  · refine r_aload_n (pc := 15) dX1_feed_15 0 rfl rfl ?_
    refine r_iload_n (pc := 16) dX1_feed_16 1 rfl rfl ?_
    refine r_callV (pc := 17) (rest := []) (lkV dX1_feed_17 q402 xd_X1_come (vc_of vt_X1_come q404 (fun _ => sX1_come)) adx_X1_come) (by decide) (Nat.le_of_ble_eq_true rfl) rfl h (fun u17 st e17 h => ?_)
    refine r_aload_n (pc := 20) dX1_feed_20 0 rfl rfl ?_
    refine r_iload_n (pc := 21) dX1_feed_21 2 rfl rfl ?_
    refine r_callV (pc := 22) (rest := []) (lkV dX1_feed_22 q402 xd_X1_come (vc_of vt_X1_come q404 (fun _ => sX1_come)) adx_X1_come) (by decide) (Nat.le_of_ble_eq_true rfl) rfl h (fun u22 st e22 h => ?_)
    refine r_aload_n (pc := 25) dX1_feed_25 0 rfl rfl ?_
    refine r_iload_n (pc := 26) dX1_feed_26 3 rfl rfl ?_
    refine r_callV (pc := 27) (rest := []) (lkV dX1_feed_27 q402 xd_X1_come (vc_of vt_X1_come q404 (fun _ => sX1_come)) adx_X1_come) (by decide) (Nat.le_of_ble_eq_true rfl) rfl h (fun u27 st e27 h => ?_)
    refine r_aload_n (pc := 30) dX1_feed_30 0 rfl rfl ?_
    refine r_iload (pc := 31) dX1_feed_31 4 rfl ?_
    refine r_callV (pc := 33) (rest := []) (lkV dX1_feed_33 q402 xd_X1_come (vc_of vt_X1_come q404 (fun _ => sX1_come)) adx_X1_come) (by decide) (Nat.le_of_ble_eq_true rfl) rfl h (fun u33 st e33 h => ?_)
    refine r_aload_n (pc := 36) dX1_feed_36 0 rfl rfl ?_
    refine r_iload (pc := 37) dX1_feed_37 5 rfl ?_
    refine r_callV (pc := 39) (rest := []) (lkV dX1_feed_39 q402 xd_X1_come (vc_of vt_X1_come q404 (fun _ => sX1_come)) adx_X1_come) (by decide) (Nat.le_of_ble_eq_true rfl) rfl h (fun u39 st e39 h => ?_)
    refine r_aload_n (pc := 42) dX1_feed_42 0 rfl rfl ?_
    refine r_gI (pc := 43) dX1_feed_43 q316 fd_2 same_rf h (fun x43 e43 h => ?_)
    exact r_ireturn (pc := 46) dX1_feed_46 rfl rfl h
  · refine r_iconst (pc := 13) (v := (-1)) dX1_feed_13 (by decide) ?_
    exact r_ireturn (pc := 14) dX1_feed_14 rfl rfl h
theorem sX1_handsOf_33 {st0 : Mem} {fin : Int64 × Mem} {kk5 : Rf → Int32 → Int64 → Int32 → Mem → Option (Int64 × Mem)} (hk5 : ∀ (v0 : Rf) (v1 : Int32) (v2 : Int64) (v4 : Int32) (st : Mem), kk5 v0 v1 v2 v4 st = some fin → G (cX1_handsOf, "HouseClaps", "handsOf", 8, (some .long), 5) st0 trJ fin 5 [(0, vr v0), (1, vi v1), (2, vj v2), (4, vi v4)] [] st) (v0 : Rf) (v1 : Int32) (v2 : Int64) (v4 : Int32) (st : Mem) (h : bX1_handsOf_33 kk5 v0 v1 v2 v4 st = some fin) : G (cX1_handsOf, "HouseClaps", "handsOf", 8, (some .long), 5) st0 trJ fin 33 [(0, vr v0), (1, vi v1), (2, vj v2), (4, vi v4)] [] st := by
  unfold bX1_handsOf_33 at h
  refine r_iinc (pc := 33) (env' := [(4, vi (v4 + 1)), (0, vr v0), (1, vi v1), (2, vj v2)]) (cst := 1) dX1_handsOf_33 3 rfl (by decide) (by decide) rfl ?_
  refine r_goto (pc := 36) (tgt := 5) dX1_handsOf_36 (by decide) ?_
  exact r_sub (env' := [(0, vr v0), (1, vi v1), (2, vj v2), (4, vi (v4 + 1))]) [1, 2, 3, 0] rfl (hk5 _ _ _ _ _ h)
theorem sX1_handsOf_5B {st0 : Mem} {fin : Int64 × Mem} {kk5 : Rf → Int32 → Int64 → Int32 → Mem → Option (Int64 × Mem)} (hk5 : ∀ (v0 : Rf) (v1 : Int32) (v2 : Int64) (v4 : Int32) (st : Mem), kk5 v0 v1 v2 v4 st = some fin → G (cX1_handsOf, "HouseClaps", "handsOf", 8, (some .long), 5) st0 trJ fin 5 [(0, vr v0), (1, vi v1), (2, vj v2), (4, vi v4)] [] st) (v0 : Rf) (v1 : Int32) (v2 : Int64) (v4 : Int32) (st : Mem) (h : bX1_handsOf_5B kk5 v0 v1 v2 v4 st = some fin) : G (cX1_handsOf, "HouseClaps", "handsOf", 8, (some .long), 5) st0 trJ fin 5 [(0, vr v0), (1, vi v1), (2, vj v2), (4, vi v4)] [] st := by
  unfold bX1_handsOf_5B at h
  refine r_iload (pc := 5) dX1_handsOf_5 3 rfl ?_
  refine r_bipush (pc := 7) (v := 8) dX1_handsOf_7 (by decide) ?_
  refine r_icmp_ge (pc := 9) (tgt := 39) dX1_handsOf_9 (by decide) h (fun e9 h => ?_) (fun e9 h => ?_)
  · refine r_lload_n (pc := 39) dX1_handsOf_39 2 rfl rfl ?_
    exact r_lreturn (pc := 40) dX1_handsOf_40 rfl h
  · refine r_iload_n (pc := 12) dX1_handsOf_12 1 rfl rfl ?_
    refine r_iload (pc := 13) dX1_handsOf_13 3 rfl ?_
    refine r_callI (pc := 15) (rest := []) (lkS dX1_handsOf_15 q1483 q1017 q85 (fun _ => sX1_has) ad_X1_has) (by decide) (Nat.le_of_ble_eq_true rfl) rfl h (fun x15 st e15 h => ?_)
    refine r_if_eq (pc := 18) (tgt := 33) dX1_handsOf_18 (by decide) h (fun e18 h => ?_) (fun e18 h => ?_)
    · exact sX1_handsOf_33 hk5 _ _ _ _ _ h
    · refine r_lload_n (pc := 21) dX1_handsOf_21 2 rfl rfl ?_
      refine r_lconst (pc := 22) (v := 1) dX1_handsOf_22 (by decide) ?_
      refine r_aload_n (pc := 23) dX1_handsOf_23 0 rfl rfl ?_
      refine r_gA (pc := 24) dX1_handsOf_24 q325 fd_11 same_rf h (fun x24 e24 h => ?_)
      refine r_iload (pc := 27) dX1_handsOf_27 3 rfl ?_
      refine r_iaload (pc := 29) dX1_handsOf_29 h (fun x29 e29 h => ?_)
      refine r_lshl (pc := 30) dX1_handsOf_30 ?_
      refine r_lor (pc := 31) dX1_handsOf_31 ?_
      refine r_nameJ h (fun y32 e32 h => ?_)
      refine r_lstore_n (pc := 32) (env' := [(2, vj y32), (0, vr v0), (1, vi v1), (4, vi v4)]) dX1_handsOf_32 rfl (by decide) rfl ?_
      exact r_sub (env' := [(0, vr v0), (1, vi v1), (2, vj y32), (4, vi v4)]) [1, 2, 0, 3] rfl (sX1_handsOf_33 hk5 _ _ _ _ _ h)
theorem sX1_handsOf_5 {st0 : Mem} {fin : Int64 × Mem} (n : Nat) : ∀ (v0 : Rf) (v1 : Int32) (v2 : Int64) (v4 : Int32) (st : Mem), bX1_handsOf_5 n v0 v1 v2 v4 st = some fin → G (cX1_handsOf, "HouseClaps", "handsOf", 8, (some .long), 5) st0 trJ fin 5 [(0, vr v0), (1, vi v1), (2, vj v2), (4, vi v4)] [] st := by
  induction n with
  | zero => intro v0 v1 v2 v4 st h; cases h
  | succ n ih => intro v0 v1 v2 v4 st h; exact sX1_handsOf_5B  ih v0 v1 v2 v4 st h
theorem sX1_handsOf {a0 : Rf} {a1 : Int32} {st : Mem} {fin : Int64 × Mem} (h : fX1_handsOf a0 a1 st = some fin) : Con yX1_handsOf 8 [vr a0, vi a1] st trJ fin := by
  refine Con.mk (cc := cX1_handsOf) (n := 5) (own := "HouseClaps") (nm := "handsOf") (ret := (some .long)) (env := [(0, vr a0), (1, vi a1)]) q1494 rfl rfl rfl (by decide) ⟨Nat.le_of_ble_eq_true rfl, by decide⟩ rfl ?_
  unfold fX1_handsOf at h
  refine r_lconst (pc := 0) (v := 0) dX1_handsOf_0 (by decide) ?_
  refine r_lstore_n (pc := 1) (env' := [(2, vj (0 : Int64)), (0, vr a0), (1, vi a1)]) dX1_handsOf_1 rfl (by decide) rfl ?_
  refine r_iconst (pc := 2) (v := 0) dX1_handsOf_2 (by decide) ?_
  refine r_istore (pc := 3) (env' := [(4, vi (0 : Int32)), (2, vj (0 : Int64)), (0, vr a0), (1, vi a1)]) dX1_handsOf_3 (by decide) rfl ?_
  exact r_sub (env' := [(0, vr a0), (1, vi a1), (2, vj (0 : Int64)), (4, vi (0 : Int32))]) [2, 3, 1, 0] rfl (sX1_handsOf_5 hcFuel _ _ _ _ _ h)
theorem sX1_isLikeSketch_52 {st0 : Mem} {fin : Int32 × Mem} {kk2 : Rf → Rf → Int32 → Mem → Option (Int32 × Mem)} (hk2 : ∀ (v0 : Rf) (v1 : Rf) (v2 : Int32) (st : Mem), kk2 v0 v1 v2 st = some fin → G (cX1_isLikeSketch, "HouseClaps", "isLikeSketch", 8, (some .boolean), 3) st0 trI fin 2 [(0, vr v0), (1, vr v1), (2, vi v2)] [] st) (v0 : Rf) (v1 : Rf) (v2 : Int32) (st : Mem) (h : bX1_isLikeSketch_52 kk2 v0 v1 v2 st = some fin) : G (cX1_isLikeSketch, "HouseClaps", "isLikeSketch", 8, (some .boolean), 3) st0 trI fin 52 [(0, vr v0), (1, vr v1), (2, vi v2)] [] st := by
  unfold bX1_isLikeSketch_52 at h
  refine r_iinc (pc := 52) (env' := [(2, vi (v2 + 1)), (0, vr v0), (1, vr v1)]) (cst := 1) dX1_isLikeSketch_52 2 rfl (by decide) (by decide) rfl ?_
  refine r_goto (pc := 55) (tgt := 2) dX1_isLikeSketch_55 (by decide) ?_
  exact r_sub (env' := [(0, vr v0), (1, vr v1), (2, vi (v2 + 1))]) [1, 2, 0] rfl (hk2 _ _ _ _ h)
theorem sX1_isLikeSketch_2B {st0 : Mem} {fin : Int32 × Mem} {kk2 : Rf → Rf → Int32 → Mem → Option (Int32 × Mem)} (hk2 : ∀ (v0 : Rf) (v1 : Rf) (v2 : Int32) (st : Mem), kk2 v0 v1 v2 st = some fin → G (cX1_isLikeSketch, "HouseClaps", "isLikeSketch", 8, (some .boolean), 3) st0 trI fin 2 [(0, vr v0), (1, vr v1), (2, vi v2)] [] st) (v0 : Rf) (v1 : Rf) (v2 : Int32) (st : Mem) (h : bX1_isLikeSketch_2B kk2 v0 v1 v2 st = some fin) : G (cX1_isLikeSketch, "HouseClaps", "isLikeSketch", 8, (some .boolean), 3) st0 trI fin 2 [(0, vr v0), (1, vr v1), (2, vi v2)] [] st := by
  unfold bX1_isLikeSketch_2B at h
  refine r_iload_n (pc := 2) dX1_isLikeSketch_2 2 rfl rfl ?_
  refine r_aload_n (pc := 3) dX1_isLikeSketch_3 0 rfl rfl ?_
  refine r_gA (pc := 4) dX1_isLikeSketch_4 q318 fd_4 same_rf h (fun x4 e4 h => ?_)
  refine r_callI (pc := 7) (rest := [vi v2]) (lkV dX1_isLikeSketch_7 q1535 xd_X2_size (vc_of vt_X2_size q1039 (fun _ => sX2_size)) adx_X2_size) (by decide) (Nat.le_of_ble_eq_true rfl) rfl h (fun x7 st e7 h => ?_)
  refine r_icmp_ge (pc := 10) (tgt := 58) dX1_isLikeSketch_10 (by decide) h (fun e10 h => ?_) (fun e10 h => ?_)
  · refine r_iconst (pc := 58) (v := 1) dX1_isLikeSketch_58 (by decide) ?_
    exact r_ireturn (pc := 59) dX1_isLikeSketch_59 rfl rfl h
  · refine r_aload_n (pc := 13) dX1_isLikeSketch_13 0 rfl rfl ?_
    refine r_gA (pc := 14) dX1_isLikeSketch_14 q318 fd_4 same_rf h (fun x14 e14 h => ?_)
    refine r_gAN (pc := 17) dX1_isLikeSketch_17 q176 fd_34 same_rf h (fun x17 e17 h => ?_)
    refine r_iload_n (pc := 20) dX1_isLikeSketch_20 2 rfl rfl ?_
    refine r_iaload (pc := 21) dX1_isLikeSketch_21 h (fun x21 e21 h => ?_)
    refine r_bipush (pc := 22) (v := 9) dX1_isLikeSketch_22 (by decide) ?_
    refine r_icmp_eq (pc := 24) (tgt := 52) dX1_isLikeSketch_24 (by decide) h (fun e24 h => ?_) (fun e24 h => ?_)
    · exact sX1_isLikeSketch_52 hk2 _ _ _ _ h
    · refine r_aload_n (pc := 27) dX1_isLikeSketch_27 0 rfl rfl ?_
      refine r_iload_n (pc := 28) dX1_isLikeSketch_28 2 rfl rfl ?_
      refine r_callI (pc := 29) (rest := []) (lkV dX1_isLikeSketch_29 q1474 xd_X1_byteAt (vc_of vt_X1_byteAt q1476 (fun _ => sX1_byteAt)) adx_X1_byteAt) (by decide) (Nat.le_of_ble_eq_true rfl) rfl h (fun x29 st e29 h => ?_)
      refine r_iconst (pc := 32) (v := 3) dX1_isLikeSketch_32 (by decide) ?_
      refine r_icmp_eq (pc := 33) (tgt := 52) dX1_isLikeSketch_33 (by decide) h (fun e33 h => ?_) (fun e33 h => ?_)
      · exact sX1_isLikeSketch_52 hk2 _ _ _ _ h
      · refine r_aload_n (pc := 36) dX1_isLikeSketch_36 0 rfl rfl ?_
        refine r_iload_n (pc := 37) dX1_isLikeSketch_37 2 rfl rfl ?_
        refine r_callI (pc := 38) (rest := []) (lkV dX1_isLikeSketch_38 q1474 xd_X1_byteAt (vc_of vt_X1_byteAt q1476 (fun _ => sX1_byteAt)) adx_X1_byteAt) (by decide) (Nat.le_of_ble_eq_true rfl) rfl h (fun x38 st e38 h => ?_)
        refine r_aload_n (pc := 41) dX1_isLikeSketch_41 1 rfl rfl ?_
        refine r_gAN (pc := 42) dX1_isLikeSketch_42 q276 fd_49 same_rf h (fun x42 e42 h => ?_)
        refine r_iload_n (pc := 45) dX1_isLikeSketch_45 2 rfl rfl ?_
        refine r_iaload (pc := 46) dX1_isLikeSketch_46 h (fun x46 e46 h => ?_)
        refine r_icmp_eq (pc := 47) (tgt := 52) dX1_isLikeSketch_47 (by decide) h (fun e47 h => ?_) (fun e47 h => ?_)
        · exact sX1_isLikeSketch_52 hk2 _ _ _ _ h
        · refine r_iconst (pc := 50) (v := 0) dX1_isLikeSketch_50 (by decide) ?_
          exact r_ireturn (pc := 51) dX1_isLikeSketch_51 rfl rfl h
theorem sX1_isLikeSketch_2 {st0 : Mem} {fin : Int32 × Mem} (n : Nat) : ∀ (v0 : Rf) (v1 : Rf) (v2 : Int32) (st : Mem), bX1_isLikeSketch_2 n v0 v1 v2 st = some fin → G (cX1_isLikeSketch, "HouseClaps", "isLikeSketch", 8, (some .boolean), 3) st0 trI fin 2 [(0, vr v0), (1, vr v1), (2, vi v2)] [] st := by
  induction n with
  | zero => intro v0 v1 v2 st h; cases h
  | succ n ih => intro v0 v1 v2 st h; exact sX1_isLikeSketch_2B  ih v0 v1 v2 st h
theorem sX1_isLikeSketch {a0 : Rf} {a1 : Rf} {st : Mem} {fin : Int32 × Mem} (h : fX1_isLikeSketch a0 a1 st = some fin) : Con yX1_isLikeSketch 8 [vr a0, vr a1] st trI fin := by
  refine Con.mk (cc := cX1_isLikeSketch) (n := 3) (own := "HouseClaps") (nm := "isLikeSketch") (ret := (some .boolean)) (env := [(0, vr a0), (1, vr a1)]) q1540 rfl rfl rfl (by decide) ⟨Nat.le_of_ble_eq_true rfl, by decide⟩ rfl ?_
  unfold fX1_isLikeSketch at h
  refine r_iconst (pc := 0) (v := 0) dX1_isLikeSketch_0 (by decide) ?_
  refine r_istore_n (pc := 1) (env' := [(2, vi (0 : Int32)), (0, vr a0), (1, vr a1)]) dX1_isLikeSketch_1 rfl (by decide) rfl ?_
  exact r_sub (env' := [(0, vr a0), (1, vr a1), (2, vi (0 : Int32))]) [1, 2, 0] rfl (sX1_isLikeSketch_2 hcFuel _ _ _ _ h)
theorem sX1_isMoment {a0 : Int32} {st : Mem} {fin : Int32 × Mem} (h : fX1_isMoment a0 st = some fin) : Con yX1_isMoment 8 [vi a0] st trI fin := by
  refine Con.mk (cc := cX1_isMoment) (n := 1) (own := "HouseClaps") (nm := "isMoment") (ret := (some .boolean)) (env := [(0, vi a0)]) q1240 rfl rfl rfl (by decide) ⟨Nat.le_of_ble_eq_true rfl, by decide⟩ rfl ?_
  unfold fX1_isMoment at h
  refine r_iload_n (pc := 0) dX1_isMoment_0 0 rfl rfl ?_
  refine r_iconst (pc := 1) (v := 0) dX1_isMoment_1 (by decide) ?_
  refine r_sipush (pc := 2) (v := 600) dX1_isMoment_2 (by decide) ?_
  refine r_callI (pc := 5) (rest := []) (lkS dX1_isMoment_5 q1055 q928 q85 (fun _ => sX1_isIn) ad_X1_isIn) (by decide) (Nat.le_of_ble_eq_true rfl) rfl h (fun x5 st e5 h => ?_)
  exact r_ireturn (pc := 8) dX1_isMoment_8 rfl rfl h
theorem sX1_law_45 {st0 : Mem} {fin : Int32 × Mem} (v0 : Rf) (v1 : Int32) (v2 : Int32) (k0 : Rf) (st : Mem) (h : bX1_law_45 v0 v1 v2 k0 st = some fin) : G (cX1_law, "HouseClaps", "law", 8, (some .int), 4) st0 trI fin 45 [(0, vr v0), (1, vi v1), (2, vi v2)] [vr k0] st := by
  unfold bX1_law_45 at h
  refine r_astore_n (pc := 45) (env' := [(3, vr k0), (0, vr v0), (1, vi v1), (2, vi v2)]) dX1_law_45 rfl (by decide) rfl ?_
  refine r_aload_n (pc := 46) dX1_law_46 0 rfl rfl ?_
  refine r_ifnonnull (pc := 47) (tgt := 54) dX1_law_47 (by decide) h (fun e47 h => ?_) (fun e47 h => ?_)
  · refine r_aload_n (pc := 54) dX1_law_54 1 rfl rfl ?_
    refine r_gA (pc := 55) dX1_law_55 q318 fd_4 same_rf h (fun x55 e55 h => ?_)
    refine r_gAN (pc := 58) dX1_law_58 q194 fd_39 same_rf h (fun x58 e58 h => ?_)
    refine r_bipush (pc := 61) (v := 6) dX1_law_61 (by decide) ?_
    refine r_iload_n (pc := 63) dX1_law_63 3 rfl rfl ?_
    refine r_imul (pc := 64) dX1_law_64 ?_
    refine r_iload_n (pc := 65) dX1_law_65 2 rfl rfl ?_
    refine r_iadd (pc := 66) dX1_law_66 ?_
    refine r_iaload (pc := 67) dX1_law_67 h (fun x67 e67 h => ?_)
    exact r_ireturn (pc := 68) dX1_law_68 rfl rfl h
  · refine r_iconst (pc := 50) (v := (-1)) dX1_law_50 (by decide) ?_
    refine r_goto (pc := 51) (tgt := 68) dX1_law_51 (by decide) ?_
    exact r_ireturn (pc := 68) dX1_law_68 rfl rfl h
theorem sX1_law {a0 : Rf} {a1 : Int32} {a2 : Int32} {st : Mem} {fin : Int32 × Mem} (h : fX1_law a0 a1 a2 st = some fin) : Con yX1_law 8 [vr a0, vi a1, vi a2] st trI fin := by
  refine Con.mk (cc := cX1_law) (n := 4) (own := "HouseClaps") (nm := "law") (ret := (some .int)) (env := [(0, vr a0), (1, vi a1), (2, vi a2)]) q1054 rfl rfl rfl (by decide) ⟨Nat.le_of_ble_eq_true rfl, by decide⟩ rfl ?_
  unfold fX1_law at h
  refine r_iload_n (pc := 0) dX1_law_0 1 rfl rfl ?_
  refine r_iconst (pc := 1) (v := 0) dX1_law_1 (by decide) ?_
  refine r_iconst (pc := 2) (v := 5) dX1_law_2 (by decide) ?_
  refine r_callI (pc := 3) (rest := []) (lkS dX1_law_3 q1055 q928 q85 (fun _ => sX1_isIn) ad_X1_isIn) (by decide) (Nat.le_of_ble_eq_true rfl) rfl h (fun x3 st e3 h => ?_)
  refine r_if_eq (pc := 6) (tgt := 18) dX1_law_6 (by decide) h (fun e6 h => ?_) (fun e6 h => ?_)
  · refine r_iconst (pc := 18) (v := (-1)) dX1_law_18 (by decide) ?_
    exact r_ireturn (pc := 19) dX1_law_19 rfl rfl h
  · refine r_iload_n (pc := 9) dX1_law_9 2 rfl rfl ?_
    refine r_iconst (pc := 10) (v := 0) dX1_law_10 (by decide) ?_
    refine r_iconst (pc := 11) (v := 1) dX1_law_11 (by decide) ?_
    refine r_callI (pc := 12) (rest := []) (lkS dX1_law_12 q1055 q928 q85 (fun _ => sX1_isIn) ad_X1_isIn) (by decide) (Nat.le_of_ble_eq_true rfl) rfl h (fun x12 st e12 h => ?_)
    refine r_if_ne (pc := 15) (tgt := 20) dX1_law_15 (by decide) h (fun e15 h => ?_) (fun e15 h => ?_)
    · refine r_iload_n (pc := 20) dX1_law_20 2 rfl rfl ?_
      refine r_if_ne (pc := 21) (tgt := 36) dX1_law_21 (by decide) h (fun e21 h => ?_) (fun e21 h => ?_)
      · refine r_aload_n (pc := 36) dX1_law_36 0 rfl rfl ?_
        refine r_gA (pc := 37) dX1_law_37 q318 fd_4 same_rf h (fun x37 e37 h => ?_)
        refine r_gAN (pc := 40) dX1_law_40 q191 fd_38 same_rf h (fun x40 e40 h => ?_)
        refine r_iload_n (pc := 43) dX1_law_43 1 rfl rfl ?_
        refine r_aaload (pc := 44) dX1_law_44 h (fun x44 e44 h => ?_)
        exact sX1_law_45 _ _ _ _ _ h
      · refine r_aload_n (pc := 24) dX1_law_24 0 rfl rfl ?_
        refine r_gA (pc := 25) dX1_law_25 q318 fd_4 same_rf h (fun x25 e25 h => ?_)
        refine r_gAN (pc := 28) dX1_law_28 q187 fd_37 same_rf h (fun x28 e28 h => ?_)
        refine r_iload_n (pc := 31) dX1_law_31 1 rfl rfl ?_
        refine r_aaload (pc := 32) dX1_law_32 h (fun x32 e32 h => ?_)
        refine r_goto (pc := 33) (tgt := 45) dX1_law_33 (by decide) ?_
        exact sX1_law_45 _ _ _ _ _ h
    · refine r_iconst (pc := 18) (v := (-1)) dX1_law_18 (by decide) ?_
      exact r_ireturn (pc := 19) dX1_law_19 rfl rfl h
theorem sX1_priceOf_42 {st0 : Mem} {fin : Int32 × Mem} {kk4 : Rf → Int32 → Int32 → Int32 → Mem → Option (Int32 × Mem)} (hk4 : ∀ (v0 : Rf) (v1 : Int32) (v2 : Int32) (v3 : Int32) (st : Mem), kk4 v0 v1 v2 v3 st = some fin → G (cX1_priceOf, "HouseClaps", "priceOf", 8, (some .int), 4) st0 trI fin 4 [(0, vr v0), (1, vi v1), (2, vi v2), (3, vi v3)] [] st) (v0 : Rf) (v1 : Int32) (v2 : Int32) (v3 : Int32) (st : Mem) (h : bX1_priceOf_42 kk4 v0 v1 v2 v3 st = some fin) : G (cX1_priceOf, "HouseClaps", "priceOf", 8, (some .int), 4) st0 trI fin 42 [(0, vr v0), (1, vi v1), (2, vi v2), (3, vi v3)] [] st := by
  unfold bX1_priceOf_42 at h
  refine r_iinc (pc := 42) (env' := [(3, vi (v3 + 1)), (0, vr v0), (1, vi v1), (2, vi v2)]) (cst := 1) dX1_priceOf_42 3 rfl (by decide) (by decide) rfl ?_
  refine r_goto (pc := 45) (tgt := 4) dX1_priceOf_45 (by decide) ?_
  exact r_sub (env' := [(0, vr v0), (1, vi v1), (2, vi v2), (3, vi (v3 + 1))]) [1, 2, 3, 0] rfl (hk4 _ _ _ _ _ h)
theorem sX1_priceOf_4B {st0 : Mem} {fin : Int32 × Mem} {kk4 : Rf → Int32 → Int32 → Int32 → Mem → Option (Int32 × Mem)} (hk4 : ∀ (v0 : Rf) (v1 : Int32) (v2 : Int32) (v3 : Int32) (st : Mem), kk4 v0 v1 v2 v3 st = some fin → G (cX1_priceOf, "HouseClaps", "priceOf", 8, (some .int), 4) st0 trI fin 4 [(0, vr v0), (1, vi v1), (2, vi v2), (3, vi v3)] [] st) (v0 : Rf) (v1 : Int32) (v2 : Int32) (v3 : Int32) (st : Mem) (h : bX1_priceOf_4B kk4 v0 v1 v2 v3 st = some fin) : G (cX1_priceOf, "HouseClaps", "priceOf", 8, (some .int), 4) st0 trI fin 4 [(0, vr v0), (1, vi v1), (2, vi v2), (3, vi v3)] [] st := by
  unfold bX1_priceOf_4B at h
  refine r_iload_n (pc := 4) dX1_priceOf_4 3 rfl rfl ?_
  refine r_bipush (pc := 5) (v := 8) dX1_priceOf_5 (by decide) ?_
  refine r_icmp_ge (pc := 7) (tgt := 48) dX1_priceOf_7 (by decide) h (fun e7 h => ?_) (fun e7 h => ?_)
  · refine r_iload_n (pc := 48) dX1_priceOf_48 2 rfl rfl ?_
    exact r_ireturn (pc := 49) dX1_priceOf_49 rfl rfl h
  · refine r_iload_n (pc := 10) dX1_priceOf_10 1 rfl rfl ?_
    refine r_iload_n (pc := 11) dX1_priceOf_11 3 rfl rfl ?_
    refine r_callI (pc := 12) (rest := []) (lkS dX1_priceOf_12 q1483 q1017 q85 (fun _ => sX1_has) ad_X1_has) (by decide) (Nat.le_of_ble_eq_true rfl) rfl h (fun x12 st e12 h => ?_)
    refine r_if_eq (pc := 15) (tgt := 42) dX1_priceOf_15 (by decide) h (fun e15 h => ?_) (fun e15 h => ?_)
    · exact sX1_priceOf_42 hk4 _ _ _ _ _ h
    · refine r_iload_n (pc := 18) dX1_priceOf_18 2 rfl rfl ?_
      refine r_aload_n (pc := 19) dX1_priceOf_19 0 rfl rfl ?_
      refine r_gA (pc := 20) dX1_priceOf_20 q318 fd_4 same_rf h (fun x20 e20 h => ?_)
      refine r_gAN (pc := 23) dX1_priceOf_23 q179 fd_35 same_rf h (fun x23 e23 h => ?_)
      refine r_aload_n (pc := 26) dX1_priceOf_26 0 rfl rfl ?_
      refine r_gA (pc := 27) dX1_priceOf_27 q318 fd_4 same_rf h (fun x27 e27 h => ?_)
      refine r_aload_n (pc := 30) dX1_priceOf_30 0 rfl rfl ?_
      refine r_gA (pc := 31) dX1_priceOf_31 q325 fd_11 same_rf h (fun x31 e31 h => ?_)
      refine r_iload_n (pc := 34) dX1_priceOf_34 3 rfl rfl ?_
      refine r_iaload (pc := 35) dX1_priceOf_35 h (fun x35 e35 h => ?_)
      refine r_callI (pc := 36) (rest := [vr x23, vi v2]) (lkV dX1_priceOf_36 q1484 xd_X2_row (vc_of vt_X2_row q1300 (fun _ => sX2_row)) adx_X2_row) (by decide) (Nat.le_of_ble_eq_true rfl) rfl h (fun x36 st e36 h => ?_)
      refine r_iaload (pc := 39) dX1_priceOf_39 h (fun x39 e39 h => ?_)
      refine r_iadd (pc := 40) dX1_priceOf_40 ?_
      refine r_istore_n (pc := 41) (env' := [(2, vi (v2 + x39)), (0, vr v0), (1, vi v1), (3, vi v3)]) dX1_priceOf_41 rfl (by decide) rfl ?_
      exact r_sub (env' := [(0, vr v0), (1, vi v1), (2, vi (v2 + x39)), (3, vi v3)]) [1, 2, 0, 3] rfl (sX1_priceOf_42 hk4 _ _ _ _ _ h)
theorem sX1_priceOf_4 {st0 : Mem} {fin : Int32 × Mem} (n : Nat) : ∀ (v0 : Rf) (v1 : Int32) (v2 : Int32) (v3 : Int32) (st : Mem), bX1_priceOf_4 n v0 v1 v2 v3 st = some fin → G (cX1_priceOf, "HouseClaps", "priceOf", 8, (some .int), 4) st0 trI fin 4 [(0, vr v0), (1, vi v1), (2, vi v2), (3, vi v3)] [] st := by
  induction n with
  | zero => intro v0 v1 v2 v3 st h; cases h
  | succ n ih => intro v0 v1 v2 v3 st h; exact sX1_priceOf_4B  ih v0 v1 v2 v3 st h
theorem sX1_priceOf {a0 : Rf} {a1 : Int32} {st : Mem} {fin : Int32 × Mem} (h : fX1_priceOf a0 a1 st = some fin) : Con yX1_priceOf 8 [vr a0, vi a1] st trI fin := by
  refine Con.mk (cc := cX1_priceOf) (n := 4) (own := "HouseClaps") (nm := "priceOf") (ret := (some .int)) (env := [(0, vr a0), (1, vi a1)]) q1482 rfl rfl rfl (by decide) ⟨Nat.le_of_ble_eq_true rfl, by decide⟩ rfl ?_
  unfold fX1_priceOf at h
  refine r_iconst (pc := 0) (v := 0) dX1_priceOf_0 (by decide) ?_
  refine r_istore_n (pc := 1) (env' := [(2, vi (0 : Int32)), (0, vr a0), (1, vi a1)]) dX1_priceOf_1 rfl (by decide) rfl ?_
  refine r_iconst (pc := 2) (v := 0) dX1_priceOf_2 (by decide) ?_
  refine r_istore_n (pc := 3) (env' := [(3, vi (0 : Int32)), (2, vi (0 : Int32)), (0, vr a0), (1, vi a1)]) dX1_priceOf_3 rfl (by decide) rfl ?_
  exact r_sub (env' := [(0, vr a0), (1, vi a1), (2, vi (0 : Int32)), (3, vi (0 : Int32))]) [2, 3, 1, 0] rfl (sX1_priceOf_4 hcFuel _ _ _ _ _ h)
theorem sX1_side {a0 : Rf} {a1 : Int32} {st : Mem} {fin : Int32 × Mem} (h : fX1_side a0 a1 st = some fin) : Con yX1_side 8 [vr a0, vi a1] st trI fin := by
  refine Con.mk (cc := cX1_side) (n := 2) (own := "HouseClaps") (nm := "side") (ret := (some .int)) (env := [(0, vr a0), (1, vi a1)]) q1530 rfl rfl rfl (by decide) ⟨Nat.le_of_ble_eq_true rfl, by decide⟩ rfl ?_
  unfold fX1_side at h
  refine r_iload_n (pc := 0) dX1_side_0 1 rfl rfl ?_
  refine r_iconst (pc := 1) (v := 0) dX1_side_1 (by decide) ?_
  refine r_iconst (pc := 2) (v := 2) dX1_side_2 (by decide) ?_
  refine r_callI (pc := 3) (rest := []) (lkS dX1_side_3 q1055 q928 q85 (fun _ => sX1_isIn) ad_X1_isIn) (by decide) (Nat.le_of_ble_eq_true rfl) rfl h (fun x3 st e3 h => ?_)
  refine r_if_eq (pc := 6) (tgt := 18) dX1_side_6 (by decide) h (fun e6 h => ?_) (fun e6 h => ?_)
  · refine r_iconst (pc := 18) (v := (-1)) dX1_side_18 (by decide) ?_
    exact r_ireturn (pc := 19) dX1_side_19 rfl rfl h
  · refine r_aload_n (pc := 9) dX1_side_9 0 rfl rfl ?_
    refine r_gA (pc := 10) dX1_side_10 q333 fd_19 same_rf h (fun x10 e10 h => ?_)
    refine r_iload_n (pc := 13) dX1_side_13 1 rfl rfl ?_
    refine r_iaload (pc := 14) dX1_side_14 h (fun x14 e14 h => ?_)
    refine r_goto (pc := 15) (tgt := 19) dX1_side_15 (by decide) ?_
    exact r_ireturn (pc := 19) dX1_side_19 rfl rfl h
theorem sX1_worthOf_87 {st0 : Mem} {fin : (Int32 ⊕ Nat) × Mem} (v3 : Int64) (k0 : Int64) (st : Mem) (h : bX1_worthOf_87 v3 k0 st = some fin) : G (cX1_worthOf, "HouseClaps", "worthOf", 8, (some .int), 9) st0 trIx fin 87 [(3, vj v3)] [vj k0] st := by
  unfold bX1_worthOf_87 at h
  refine r_lload_n (pc := 87) dX1_worthOf_87 0 rfl rfl ?_
  refine r_ldiv (pc := 88) dX1_worthOf_88 h (fun x88 e88 h => ?_)
  refine r_l2i (pc := 89) dX1_worthOf_89 ?_
  exact r_ireturn (pc := 90) dX1_worthOf_90 rfl rfl h
theorem sX1_worthOf_47B {st0 : Mem} {fin : (Int32 ⊕ Nat) × Mem} {kk47 : Rf → Int32 → Int32 → Int64 → Int64 → Mem → Option ((Int32 ⊕ Nat) × Mem)} (hk47 : ∀ (v0 : Rf) (v1 : Int32) (v2 : Int32) (v3 : Int64) (v5 : Int64) (st : Mem), kk47 v0 v1 v2 v3 v5 st = some fin → G (cX1_worthOf, "HouseClaps", "worthOf", 8, (some .int), 9) st0 trIx fin 47 [(0, vr v0), (1, vi v1), (2, vi v2), (3, vj v3), (5, vj v5)] [] st) (v0 : Rf) (v1 : Int32) (v2 : Int32) (v3 : Int64) (v5 : Int64) (st : Mem) (h : bX1_worthOf_47B kk47 v0 v1 v2 v3 v5 st = some fin) : G (cX1_worthOf, "HouseClaps", "worthOf", 8, (some .int), 9) st0 trIx fin 47 [(0, vr v0), (1, vi v1), (2, vi v2), (3, vj v3), (5, vj v5)] [] st := by
  unfold bX1_worthOf_47B at h
  refine r_lload (pc := 47) dX1_worthOf_47 4 rfl ?_
  refine r_lconst (pc := 49) (v := 0) dX1_worthOf_49 (by decide) ?_
  refine r_lcmp_le (pc := 50) (tgt := 70) dX1_worthOf_50 dX1_worthOf_51 (by decide) h (fun e51 h => ?_) (fun e51 h => ?_)
  · refine r_iload_n (pc := 70) dX1_worthOf_70 2 rfl rfl ?_
    refine r_if_ne (pc := 71) (tgt := 83) dX1_worthOf_71 (by decide) h (fun e71 h => ?_) (fun e71 h => ?_)
    · refine r_aload_n (pc := 83) dX1_worthOf_83 0 rfl rfl ?_
      refine r_gJ (pc := 84) dX1_worthOf_84 q331 fd_17 same_rf h (fun x84 e84 h => ?_)
      exact r_sub (env' := [(3, vj v3)]) [3] rfl (sX1_worthOf_87 _ _ _ h)
    · refine r_aload_n (pc := 74) dX1_worthOf_74 0 rfl rfl ?_
      refine r_gA (pc := 75) dX1_worthOf_75 q329 fd_15 same_rf h (fun x75 e75 h => ?_)
      refine r_iload_n (pc := 78) dX1_worthOf_78 1 rfl rfl ?_
      refine r_laload (pc := 79) dX1_worthOf_79 h (fun x79 e79 h => ?_)
      refine r_goto (pc := 80) (tgt := 87) dX1_worthOf_80 (by decide) ?_
      exact r_sub (env' := [(3, vj v3)]) [3] rfl (sX1_worthOf_87 _ _ _ h)
  · refine r_lload_n (pc := 54) dX1_worthOf_54 3 rfl rfl ?_
    refine r_lload (pc := 55) dX1_worthOf_55 4 rfl ?_
    refine r_lrem (pc := 57) dX1_worthOf_57 h (fun x57 e57 h => ?_)
    refine r_lstore (pc := 58) (env' := [(7, vj x57), (0, vr v0), (1, vi v1), (2, vi v2), (3, vj v3), (5, vj v5)]) dX1_worthOf_58 (by decide) rfl ?_
    refine r_lload (pc := 60) dX1_worthOf_60 5 rfl ?_
    refine r_lstore_n (pc := 62) (env' := [(3, vj v5), (7, vj x57), (0, vr v0), (1, vi v1), (2, vi v2), (5, vj v5)]) dX1_worthOf_62 rfl (by decide) rfl ?_
    refine r_lload (pc := 63) dX1_worthOf_63 1 rfl ?_
    refine r_lstore (pc := 65) (env' := [(5, vj x57), (3, vj v5), (7, vj x57), (0, vr v0), (1, vi v1), (2, vi v2)]) dX1_worthOf_65 (by decide) rfl ?_
    refine r_goto (pc := 67) (tgt := 47) dX1_worthOf_67 (by decide) ?_
    exact r_sub (env' := [(0, vr v0), (1, vi v1), (2, vi v2), (3, vj v5), (5, vj x57)]) [3, 4, 5, 1, 0] rfl (hk47 _ _ _ _ _ _ h)
theorem sX1_worthOf_47 {st0 : Mem} {fin : (Int32 ⊕ Nat) × Mem} (n : Nat) : ∀ (v0 : Rf) (v1 : Int32) (v2 : Int32) (v3 : Int64) (v5 : Int64) (st : Mem), bX1_worthOf_47 n v0 v1 v2 v3 v5 st = some fin → G (cX1_worthOf, "HouseClaps", "worthOf", 8, (some .int), 9) st0 trIx fin 47 [(0, vr v0), (1, vi v1), (2, vi v2), (3, vj v3), (5, vj v5)] [] st := by
  induction n with
  | zero => intro v0 v1 v2 v3 v5 st h; cases h
  | succ n ih => intro v0 v1 v2 v3 v5 st h; exact sX1_worthOf_47B  ih v0 v1 v2 v3 v5 st h
theorem sX1_worthOf_28 {st0 : Mem} {fin : (Int32 ⊕ Nat) × Mem} (v0 : Rf) (v1 : Int32) (v2 : Int32) (k0 : Int32) (st : Mem) (h : bX1_worthOf_28 v0 v1 v2 k0 st = some fin) : G (cX1_worthOf, "HouseClaps", "worthOf", 8, (some .int), 9) st0 trIx fin 28 [(0, vr v0), (1, vi v1), (2, vi v2)] [vi k0] st := by
  unfold bX1_worthOf_28 at h
  refine r_callVx (pc := 28) (rest := []) (lkS dX1_worthOf_28 q1624 q1625 q85 (fun _ => sX1_need) ad_X1_need) (by decide) (Nat.le_of_ble_eq_true rfl) rfl (by decide) (fun _ => rfl) h (fun u28 st e28 h => ?_)
  refine r_aload_n (pc := 31) dX1_worthOf_31 0 rfl rfl ?_
  refine r_gJ (pc := 32) dX1_worthOf_32 q331 fd_17 same_rf h (fun x32 e32 h => ?_)
  refine r_lstore_n (pc := 35) (env' := [(3, vj x32), (0, vr v0), (1, vi v1), (2, vi v2)]) dX1_worthOf_35 rfl (by decide) rfl ?_
  refine r_aload_n (pc := 36) dX1_worthOf_36 1 rfl rfl ?_
  refine r_gA (pc := 37) dX1_worthOf_37 q329 fd_15 same_rf h (fun x37 e37 h => ?_)
  refine r_iload_n (pc := 40) dX1_worthOf_40 2 rfl rfl ?_
  refine r_laload (pc := 41) dX1_worthOf_41 h (fun x41 e41 h => ?_)
  refine r_mabsL (pc := 42) dX1_worthOf_42 q1669 (by decide) (Nat.le_of_ble_eq_true rfl) ?_
  refine r_lstore (pc := 45) (env' := [(5, vj (mabsL x41)), (3, vj x32), (0, vr v0), (1, vi v1), (2, vi v2)]) dX1_worthOf_45 (by decide) rfl ?_
  exact r_sub (env' := [(0, vr v0), (1, vi v1), (2, vi v2), (3, vj x32), (5, vj (mabsL x41))]) [2, 3, 4, 1, 0] rfl (sX1_worthOf_47 hcFuel _ _ _ _ _ _ h)
theorem sX1_worthOf_27 {st0 : Mem} {fin : (Int32 ⊕ Nat) × Mem} (v0 : Rf) (v1 : Int32) (v2 : Int32) (st : Mem) (h : bX1_worthOf_27 v0 v1 v2 st = some fin) : G (cX1_worthOf, "HouseClaps", "worthOf", 8, (some .int), 9) st0 trIx fin 27 [(0, vr v0), (1, vi v1), (2, vi v2)] [] st := by
  unfold bX1_worthOf_27 at h
  refine r_iconst (pc := 27) (v := 0) dX1_worthOf_27 (by decide) ?_
  exact sX1_worthOf_28 _ _ _ _ _ h
theorem sX1_worthOf {a0 : Rf} {a1 : Int32} {a2 : Int32} {st : Mem} {fin : (Int32 ⊕ Nat) × Mem} (h : fX1_worthOf a0 a1 a2 st = some fin) : Con yX1_worthOf 8 [vr a0, vi a1, vi a2] st trIx fin := by
  refine Con.mk (cc := cX1_worthOf) (n := 9) (own := "HouseClaps") (nm := "worthOf") (ret := (some .int)) (env := [(0, vr a0), (1, vi a1), (2, vi a2)]) q1668 rfl rfl rfl (by decide) ⟨Nat.le_of_ble_eq_true rfl, by decide⟩ rfl ?_
  unfold fX1_worthOf at h
  refine r_iload_n (pc := 0) dX1_worthOf_0 1 rfl rfl ?_
  refine r_iconst (pc := 1) (v := 0) dX1_worthOf_1 (by decide) ?_
  refine r_aload_n (pc := 2) dX1_worthOf_2 0 rfl rfl ?_
  refine r_gI (pc := 3) dX1_worthOf_3 q330 fd_16 same_rf h (fun x3 e3 h => ?_)
  refine r_iconst (pc := 6) (v := 1) dX1_worthOf_6 (by decide) ?_
  refine r_isub (pc := 7) dX1_worthOf_7 ?_
  refine r_callI (pc := 8) (rest := []) (lkS dX1_worthOf_8 q1055 q928 q85 (fun _ => sX1_isIn) ad_X1_isIn) (by decide) (Nat.le_of_ble_eq_true rfl) rfl h (fun x8 st e8 h => ?_)
  refine r_if_eq (pc := 11) (tgt := 27) dX1_worthOf_11 (by decide) h (fun e11 h => ?_) (fun e11 h => ?_)
  · exact sX1_worthOf_27 _ _ _ _ h
  · refine r_iload_n (pc := 14) dX1_worthOf_14 2 rfl rfl ?_
    refine r_iconst (pc := 15) (v := 0) dX1_worthOf_15 (by decide) ?_
    refine r_iconst (pc := 16) (v := 1) dX1_worthOf_16 (by decide) ?_
    refine r_callI (pc := 17) (rest := []) (lkS dX1_worthOf_17 q1055 q928 q85 (fun _ => sX1_isIn) ad_X1_isIn) (by decide) (Nat.le_of_ble_eq_true rfl) rfl h (fun x17 st e17 h => ?_)
    refine r_if_eq (pc := 20) (tgt := 27) dX1_worthOf_20 (by decide) h (fun e20 h => ?_) (fun e20 h => ?_)
    · exact sX1_worthOf_27 _ _ _ _ h
    · refine r_iconst (pc := 23) (v := 1) dX1_worthOf_23 (by decide) ?_
      refine r_goto (pc := 24) (tgt := 28) dX1_worthOf_24 (by decide) ?_
      exact sX1_worthOf_28 _ _ _ _ _ h
theorem sX20_init {a0 : Rf} {a1 : Int32} {a2 : Int32} {st : Mem} {fin : Unit × Mem} (h : fX20_init a0 a1 a2 st = some fin) : Con yX20_init 8 [vr a0, vi a1, vi a2] st trV fin := by
  refine Con.mk (cc := cX20_init) (n := 3) (own := "HouseClaps$Free") (nm := "<init>") (ret := none) (env := [(0, vr a0), (1, vi a1), (2, vi a2)]) q1155 rfl rfl rfl (by decide) ⟨Nat.le_of_ble_eq_true rfl, by decide⟩ rfl ?_
  unfold fX20_init at h
  refine r_aload_n (pc := 0) dX20_init_0 0 rfl rfl ?_
  refine r_iload_n (pc := 1) dX20_init_1 1 rfl rfl ?_
  refine r_callV (pc := 2) (rest := []) (lkI dX20_init_2 q1156 q1135 q1136 rfl (fun _ => sX18_init) ad_X18_init) (by decide) (Nat.le_of_ble_eq_true rfl) rfl h (fun u2 st e2 h => ?_)
  refine r_aload_n (pc := 5) dX20_init_5 0 rfl rfl ?_
  refine r_iload_n (pc := 6) dX20_init_6 2 rfl rfl ?_
  refine r_pIF (pc := 7) dX20_init_7 q1157 fd_151 same_rf ⟨rfl, rfl⟩ h (fun st e7 h => ?_)
  exact r_return_ (pc := 10) dX20_init_10 rfl h
theorem sX21_does {a0 : Rf} {a1 : Rf} {st : Mem} {fin : Unit × Mem} (h : fX21_does a0 a1 st = some fin) : Con yX21_does 8 [vr a0, vr a1] st trV fin := by
  refine Con.mk (cc := cX21_does) (n := 2) (own := "HouseClaps$Pay") (nm := "does") (ret := none) (env := [(0, vr a0), (1, vr a1)]) q1286 rfl rfl rfl (by decide) ⟨Nat.le_of_ble_eq_true rfl, by decide⟩ rfl ?_
  unfold fX21_does at h
  refine r_aload_n (pc := 0) dX21_does_0 0 rfl rfl ?_
  refine r_aload_n (pc := 1) dX21_does_1 1 rfl rfl ?_
  refine r_callV (pc := 2) (rest := []) (lkP dX21_does_2 q1287 q2323 q1161 q1271 (by decide) (by decide) (fun _ => sX20_does) ad_X20_does) (by decide) (Nat.le_of_ble_eq_true rfl) rfl h (fun u2 st e2 h => ?_)
  refine r_aload_n (pc := 5) dX21_does_5 1 rfl rfl ?_
  refine r_dup (pc := 6) dX21_does_6 rfl ?_
  refine r_gJN (pc := 7) dX21_does_7 q262 fd_42 same_rf h (fun x7 e7 h => ?_)
  refine r_lconst (pc := 10) (v := 1) dX21_does_10 (by decide) ?_
  refine r_aload_n (pc := 11) dX21_does_11 0 rfl rfl ?_
  refine r_callI (pc := 12) (rest := [vj (1 : Int64), vj x7, vr a1]) (lkV dX21_does_12 q1288 xd_X21_seat (vc_of vt_X21_seat q1282 (fun _ => sX20_seat)) adx_X21_seat) (by decide) (Nat.le_of_ble_eq_true rfl) rfl h (fun x12 st e12 h => ?_)
  refine r_lshl (pc := 15) dX21_does_15 ?_
  refine r_lor (pc := 16) dX21_does_16 ?_
  refine r_pJN (pc := 17) dX21_does_17 q262 fd_42 same_rf rfl h (fun st e17 h => ?_)
  exact r_return_ (pc := 20) dX21_does_20 rfl h
theorem sX22_does {a0 : Rf} {a1 : Rf} {st : Mem} {fin : Unit × Mem} (h : fX22_does a0 a1 st = some fin) : Con yX22_does 8 [vr a0, vr a1] st trV fin := by
  refine Con.mk (cc := cX22_does) (n := 2) (own := "HouseClaps$Hiss") (nm := "does") (ret := none) (env := [(0, vr a0), (1, vr a1)]) q1276 rfl rfl rfl (by decide) ⟨Nat.le_of_ble_eq_true rfl, by decide⟩ rfl ?_
  unfold fX22_does at h
  refine r_aload_n (pc := 0) dX22_does_0 0 rfl rfl ?_
  refine r_aload_n (pc := 1) dX22_does_1 1 rfl rfl ?_
  refine r_callV (pc := 2) (rest := []) (lkP dX22_does_2 q1277 q2323 q1170 q1271 (by decide) (by decide) (fun _ => sX20_does) ad_X20_does) (by decide) (Nat.le_of_ble_eq_true rfl) rfl h (fun u2 st e2 h => ?_)
  refine r_aload_n (pc := 5) dX22_does_5 1 rfl rfl ?_
  refine r_dup (pc := 6) dX22_does_6 rfl ?_
  refine r_gJN (pc := 7) dX22_does_7 q265 fd_43 same_rf h (fun x7 e7 h => ?_)
  refine r_lconst (pc := 10) (v := 1) dX22_does_10 (by decide) ?_
  refine r_aload_n (pc := 11) dX22_does_11 0 rfl rfl ?_
  refine r_callI (pc := 12) (rest := [vj (1 : Int64), vj x7, vr a1]) (lkV dX22_does_12 q1278 xd_X22_seat (vc_of vt_X22_seat q1282 (fun _ => sX20_seat)) adx_X22_seat) (by decide) (Nat.le_of_ble_eq_true rfl) rfl h (fun x12 st e12 h => ?_)
  refine r_lshl (pc := 15) dX22_does_15 ?_
  refine r_lor (pc := 16) dX22_does_16 ?_
  refine r_pJN (pc := 17) dX22_does_17 q265 fd_43 same_rf rfl h (fun st e17 h => ?_)
  exact r_return_ (pc := 20) dX22_does_20 rfl h
theorem sX2_init {a0 : Rf} {st : Mem} {fin : Unit × Mem} (h : fX2_init a0 st = some fin) : Con yX2_init 8 [vr a0] st trV fin := by
  refine Con.mk (cc := cX2_init) (n := 1) (own := "HouseClaps$House") (nm := "<init>") (ret := none) (env := [(0, vr a0)]) q140 rfl rfl rfl (by decide) ⟨Nat.le_of_ble_eq_true rfl, by decide⟩ rfl ?_
  unfold fX2_init at h
  refine r_aload_n (pc := 0) dX2_init_0 0 rfl rfl ?_
  refine r_objInit (pc := 1) dX2_init_1 q141 (by decide) (Nat.le_of_ble_eq_true rfl) h (fun h => ?_)
  refine r_aload_n (pc := 4) dX2_init_4 0 rfl rfl ?_
  refine r_iconst (pc := 5) (v := 1) dX2_init_5 (by decide) ?_
  refine r_pI (pc := 6) dX2_init_6 q158 fd_30 same_rf rfl h (fun st e6 h => ?_)
  refine r_aload_n (pc := 9) dX2_init_9 0 rfl rfl ?_
  refine r_sipush (pc := 10) (v := 600) dX2_init_10 (by decide) ?_
  refine r_pI (pc := 13) dX2_init_13 q162 fd_31 same_rf rfl h (fun st e13 h => ?_)
  refine r_aload_n (pc := 16) dX2_init_16 0 rfl rfl ?_
  refine r_bipush (pc := 17) (v := 64) dX2_init_17 (by decide) ?_
  refine r_newarray (pc := 19) dX2_init_19 ⟨rfl, by decide⟩ h (fun x19 st e19 h => ?_)
  refine r_pAF (pc := 21) dX2_init_21 q173 fd_34 same_rf ⟨rfl, rfl⟩ h (fun st e21 h => ?_)
  refine r_aload_n (pc := 24) dX2_init_24 0 rfl rfl ?_
  refine r_bipush (pc := 25) (v := 8) dX2_init_25 (by decide) ?_
  refine r_newarray (pc := 27) dX2_init_27 ⟨rfl, by decide⟩ h (fun x27 st e27 h => ?_)
  refine r_pAF (pc := 29) dX2_init_29 q177 fd_35 same_rf ⟨rfl, rfl⟩ h (fun st e29 h => ?_)
  refine r_aload_n (pc := 32) dX2_init_32 0 rfl rfl ?_
  refine r_bipush (pc := 33) (v := 8) dX2_init_33 (by decide) ?_
  refine r_newarray (pc := 35) dX2_init_35 ⟨rfl, by decide⟩ h (fun x35 st e35 h => ?_)
  refine r_pAF (pc := 37) dX2_init_37 q180 fd_36 same_rf ⟨rfl, rfl⟩ h (fun st e37 h => ?_)
  refine r_aload_n (pc := 40) dX2_init_40 0 rfl rfl ?_
  refine r_bipush (pc := 41) (v := 6) dX2_init_41 (by decide) ?_
  refine r_anewarray (pc := 43) dX2_init_43 q142 ⟨rfl, by decide⟩ h (fun x43 st e43 h => ?_)
  refine r_pAF (pc := 46) dX2_init_46 q184 fd_37 same_rf ⟨rfl, rfl⟩ h (fun st e46 h => ?_)
  refine r_aload_n (pc := 49) dX2_init_49 0 rfl rfl ?_
  refine r_bipush (pc := 50) (v := 6) dX2_init_50 (by decide) ?_
  refine r_anewarray (pc := 52) dX2_init_52 q142 ⟨rfl, by decide⟩ h (fun x52 st e52 h => ?_)
  refine r_pAF (pc := 55) dX2_init_55 q188 fd_38 same_rf ⟨rfl, rfl⟩ h (fun st e55 h => ?_)
  refine r_aload_n (pc := 58) dX2_init_58 0 rfl rfl ?_
  refine r_bipush (pc := 59) (v := 12) dX2_init_59 (by decide) ?_
  refine r_newarray (pc := 61) dX2_init_61 ⟨rfl, by decide⟩ h (fun x61 st e61 h => ?_)
  refine r_pAF (pc := 63) dX2_init_63 q192 fd_39 same_rf ⟨rfl, rfl⟩ h (fun st e63 h => ?_)
  refine r_aload_n (pc := 66) dX2_init_66 0 rfl rfl ?_
  refine r_bipush (pc := 67) (v := 6) dX2_init_67 (by decide) ?_
  refine r_bipush (pc := 69) (v := 64) dX2_init_69 (by decide) ?_
  refine r_multi (pc := 71) dX2_init_71 q144 h (fun x71 st e71 h => ?_)
  refine r_pAF (pc := 75) dX2_init_75 q195 fd_40 same_rf ⟨rfl, rfl⟩ h (fun st e75 h => ?_)
  refine r_aload_n (pc := 78) dX2_init_78 0 rfl rfl ?_
  refine r_gA (pc := 79) dX2_init_79 q177 fd_35 same_rf h (fun x79 e79 h => ?_)
  refine r_bipush (pc := 82) (v := 10) dX2_init_82 (by decide) ?_
  refine r_callV (pc := 84) (rest := []) (lkS dX2_init_84 q146 q147 q87 (fun _ => sJ0_fill) ad_J0_fill) (by decide) (Nat.le_of_ble_eq_true rfl) rfl h (fun u84 st e84 h => ?_)
  refine r_aload_n (pc := 87) dX2_init_87 0 rfl rfl ?_
  refine r_gA (pc := 88) dX2_init_88 q180 fd_36 same_rf h (fun x88 e88 h => ?_)
  refine r_iconst (pc := 91) (v := (-1)) dX2_init_91 (by decide) ?_
  refine r_callV (pc := 92) (rest := []) (lkS dX2_init_92 q146 q147 q87 (fun _ => sJ0_fill) ad_J0_fill) (by decide) (Nat.le_of_ble_eq_true rfl) rfl h (fun u92 st e92 h => ?_)
  exact r_return_ (pc := 95) dX2_init_95 rfl h
theorem sX2_isSeat_29 {st0 : Mem} {fin : Int32 × Mem} (st : Mem) (h : bX2_isSeat_29  st = some fin) : G (cX2_isSeat, "HouseClaps$House", "isSeat", 8, (some .boolean), 2) st0 trI fin 29 [] [] st := by
  unfold bX2_isSeat_29 at h
  refine r_iconst (pc := 29) (v := 0) dX2_isSeat_29 (by decide) ?_
  exact r_ireturn (pc := 30) dX2_isSeat_30 rfl rfl h
theorem sX2_isSeat {a0 : Rf} {a1 : Int32} {st : Mem} {fin : Int32 × Mem} (h : fX2_isSeat a0 a1 st = some fin) : Con yX2_isSeat 8 [vr a0, vi a1] st trI fin := by
  refine Con.mk (cc := cX2_isSeat) (n := 2) (own := "HouseClaps$House") (nm := "isSeat") (ret := (some .boolean)) (env := [(0, vr a0), (1, vi a1)]) q1063 rfl rfl rfl (by decide) ⟨Nat.le_of_ble_eq_true rfl, by decide⟩ rfl ?_
  unfold fX2_isSeat at h
  refine r_iload_n (pc := 0) dX2_isSeat_0 1 rfl rfl ?_
  refine r_iconst (pc := 1) (v := 0) dX2_isSeat_1 (by decide) ?_
  refine r_aload_n (pc := 2) dX2_isSeat_2 0 rfl rfl ?_
  refine r_callI (pc := 3) (rest := [vi (0 : Int32), vi a1]) (lkV dX2_isSeat_3 q1038 xd_X2_size (vc_of vt_X2_size q1039 (fun _ => sX2_size)) adx_X2_size) (by decide) (Nat.le_of_ble_eq_true rfl) rfl h (fun x3 st e3 h => ?_)
  refine r_iconst (pc := 6) (v := 1) dX2_isSeat_6 (by decide) ?_
  refine r_isub (pc := 7) dX2_isSeat_7 ?_
  refine r_callI (pc := 8) (rest := []) (lkSN dX2_isSeat_8 q1046 q928 q85 (fun _ => sX1_isIn) ad_X1_isIn) (by decide) (Nat.le_of_ble_eq_true rfl) rfl h (fun x8 st e8 h => ?_)
  refine r_if_eq (pc := 11) (tgt := 29) dX2_isSeat_11 (by decide) h (fun e11 h => ?_) (fun e11 h => ?_)
  · exact r_sub (env' := []) [] rfl (sX2_isSeat_29 _ h)
  · refine r_aload_n (pc := 14) dX2_isSeat_14 0 rfl rfl ?_
    refine r_gA (pc := 15) dX2_isSeat_15 q173 fd_34 same_rf h (fun x15 e15 h => ?_)
    refine r_iload_n (pc := 18) dX2_isSeat_18 1 rfl rfl ?_
    refine r_iaload (pc := 19) dX2_isSeat_19 h (fun x19 e19 h => ?_)
    refine r_bipush (pc := 20) (v := 9) dX2_isSeat_20 (by decide) ?_
    refine r_icmp_eq (pc := 22) (tgt := 29) dX2_isSeat_22 (by decide) h (fun e22 h => ?_) (fun e22 h => ?_)
    · exact r_sub (env' := []) [] rfl (sX2_isSeat_29 _ h)
    · refine r_iconst (pc := 25) (v := 1) dX2_isSeat_25 (by decide) ?_
      refine r_goto (pc := 26) (tgt := 30) dX2_isSeat_26 (by decide) ?_
      exact r_ireturn (pc := 30) dX2_isSeat_30 rfl rfl h
theorem sX2_seats_26 {st0 : Mem} {fin : Int32 × Mem} {kk4 : Rf → Int32 → Int32 → Mem → Option (Int32 × Mem)} (hk4 : ∀ (v0 : Rf) (v1 : Int32) (v2 : Int32) (st : Mem), kk4 v0 v1 v2 st = some fin → G (cX2_seats, "HouseClaps$House", "seats", 8, (some .int), 3) st0 trI fin 4 [(0, vr v0), (1, vi v1), (2, vi v2)] [] st) (v0 : Rf) (v1 : Int32) (v2 : Int32) (st : Mem) (h : bX2_seats_26 kk4 v0 v1 v2 st = some fin) : G (cX2_seats, "HouseClaps$House", "seats", 8, (some .int), 3) st0 trI fin 26 [(0, vr v0), (1, vi v1), (2, vi v2)] [] st := by
  unfold bX2_seats_26 at h
  refine r_iinc (pc := 26) (env' := [(2, vi (v2 + 1)), (0, vr v0), (1, vi v1)]) (cst := 1) dX2_seats_26 2 rfl (by decide) (by decide) rfl ?_
  refine r_goto (pc := 29) (tgt := 4) dX2_seats_29 (by decide) ?_
  exact r_sub (env' := [(0, vr v0), (1, vi v1), (2, vi (v2 + 1))]) [1, 2, 0] rfl (hk4 _ _ _ _ h)
theorem sX2_seats_4B {st0 : Mem} {fin : Int32 × Mem} {kk4 : Rf → Int32 → Int32 → Mem → Option (Int32 × Mem)} (hk4 : ∀ (v0 : Rf) (v1 : Int32) (v2 : Int32) (st : Mem), kk4 v0 v1 v2 st = some fin → G (cX2_seats, "HouseClaps$House", "seats", 8, (some .int), 3) st0 trI fin 4 [(0, vr v0), (1, vi v1), (2, vi v2)] [] st) (v0 : Rf) (v1 : Int32) (v2 : Int32) (st : Mem) (h : bX2_seats_4B kk4 v0 v1 v2 st = some fin) : G (cX2_seats, "HouseClaps$House", "seats", 8, (some .int), 3) st0 trI fin 4 [(0, vr v0), (1, vi v1), (2, vi v2)] [] st := by
  unfold bX2_seats_4B at h
  refine r_iload_n (pc := 4) dX2_seats_4 2 rfl rfl ?_
  refine r_aload_n (pc := 5) dX2_seats_5 0 rfl rfl ?_
  refine r_callI (pc := 6) (rest := [vi v2]) (lkV dX2_seats_6 q1038 xd_X2_size (vc_of vt_X2_size q1039 (fun _ => sX2_size)) adx_X2_size) (by decide) (Nat.le_of_ble_eq_true rfl) rfl h (fun x6 st e6 h => ?_)
  refine r_icmp_ge (pc := 9) (tgt := 32) dX2_seats_9 (by decide) h (fun e9 h => ?_) (fun e9 h => ?_)
  · refine r_iload_n (pc := 32) dX2_seats_32 1 rfl rfl ?_
    exact r_ireturn (pc := 33) dX2_seats_33 rfl rfl h
  · refine r_aload_n (pc := 12) dX2_seats_12 0 rfl rfl ?_
    refine r_gA (pc := 13) dX2_seats_13 q173 fd_34 same_rf h (fun x13 e13 h => ?_)
    refine r_iload_n (pc := 16) dX2_seats_16 2 rfl rfl ?_
    refine r_iaload (pc := 17) dX2_seats_17 h (fun x17 e17 h => ?_)
    refine r_bipush (pc := 18) (v := 9) dX2_seats_18 (by decide) ?_
    refine r_icmp_eq (pc := 20) (tgt := 26) dX2_seats_20 (by decide) h (fun e20 h => ?_) (fun e20 h => ?_)
    · exact sX2_seats_26 hk4 _ _ _ _ h
    · refine r_iinc (pc := 23) (env' := [(1, vi (v1 + 1)), (0, vr v0), (2, vi v2)]) (cst := 1) dX2_seats_23 1 rfl (by decide) (by decide) rfl ?_
      exact r_sub (env' := [(0, vr v0), (1, vi (v1 + 1)), (2, vi v2)]) [1, 0, 2] rfl (sX2_seats_26 hk4 _ _ _ _ h)
theorem sX2_seats_4 {st0 : Mem} {fin : Int32 × Mem} (n : Nat) : ∀ (v0 : Rf) (v1 : Int32) (v2 : Int32) (st : Mem), bX2_seats_4 n v0 v1 v2 st = some fin → G (cX2_seats, "HouseClaps$House", "seats", 8, (some .int), 3) st0 trI fin 4 [(0, vr v0), (1, vi v1), (2, vi v2)] [] st := by
  induction n with
  | zero => intro v0 v1 v2 st h; cases h
  | succ n ih => intro v0 v1 v2 st h; exact sX2_seats_4B  ih v0 v1 v2 st h
theorem sX2_seats {a0 : Rf} {st : Mem} {fin : Int32 × Mem} (h : fX2_seats a0 st = some fin) : Con yX2_seats 8 [vr a0] st trI fin := by
  refine Con.mk (cc := cX2_seats) (n := 3) (own := "HouseClaps$House") (nm := "seats") (ret := (some .int)) (env := [(0, vr a0)]) q1388 rfl rfl rfl (by decide) ⟨Nat.le_of_ble_eq_true rfl, by decide⟩ rfl ?_
  unfold fX2_seats at h
  refine r_iconst (pc := 0) (v := 0) dX2_seats_0 (by decide) ?_
  refine r_istore_n (pc := 1) (env' := [(1, vi (0 : Int32)), (0, vr a0)]) dX2_seats_1 rfl (by decide) rfl ?_
  refine r_iconst (pc := 2) (v := 0) dX2_seats_2 (by decide) ?_
  refine r_istore_n (pc := 3) (env' := [(2, vi (0 : Int32)), (1, vi (0 : Int32)), (0, vr a0)]) dX2_seats_3 rfl (by decide) rfl ?_
  exact r_sub (env' := [(0, vr a0), (1, vi (0 : Int32)), (2, vi (0 : Int32))]) [2, 1, 0] rfl (sX2_seats_4 hcFuel _ _ _ _ h)
theorem sX2_see {a0 : Rf} {a1 : Int32} {a2 : Int32} {a3 : Int32} {a4 : Int32} {st : Mem} {fin : Unit × Mem} (h : fX2_see a0 a1 a2 a3 a4 st = some fin) : Con yX2_see 8 [vr a0, vi a1, vi a2, vi a3, vi a4] st trV fin := by
  refine Con.mk (cc := cX2_see) (n := 5) (own := "HouseClaps$House") (nm := "see") (ret := none) (env := [(0, vr a0), (1, vi a1), (2, vi a2), (3, vi a3), (4, vi a4)]) q1045 rfl rfl rfl (by decide) ⟨Nat.le_of_ble_eq_true rfl, by decide⟩ rfl ?_
  unfold fX2_see at h
  refine r_iload_n (pc := 0) dX2_see_0 3 rfl rfl ?_
  refine r_iconst (pc := 1) (v := 0) dX2_see_1 (by decide) ?_
  refine r_aload_n (pc := 2) dX2_see_2 0 rfl rfl ?_
  refine r_gI (pc := 3) dX2_see_3 q149 fd_28 same_rf h (fun x3 e3 h => ?_)
  refine r_iconst (pc := 6) (v := 1) dX2_see_6 (by decide) ?_
  refine r_isub (pc := 7) dX2_see_7 ?_
  refine r_callI (pc := 8) (rest := []) (lkSN dX2_see_8 q1046 q928 q85 (fun _ => sX1_isIn) ad_X1_isIn) (by decide) (Nat.le_of_ble_eq_true rfl) rfl h (fun x8 st e8 h => ?_)
  refine r_if_eq (pc := 11) (tgt := 48) dX2_see_11 (by decide) h (fun e11 h => ?_) (fun e11 h => ?_)
  · exact r_return_ (pc := 48) dX2_see_48 rfl h
  · refine r_iload (pc := 14) dX2_see_14 4 rfl ?_
    refine r_iconst (pc := 16) (v := 0) dX2_see_16 (by decide) ?_
    refine r_aload_n (pc := 17) dX2_see_17 0 rfl rfl ?_
    refine r_gI (pc := 18) dX2_see_18 q153 fd_29 same_rf h (fun x18 e18 h => ?_)
    refine r_iconst (pc := 21) (v := 1) dX2_see_21 (by decide) ?_
    refine r_isub (pc := 22) dX2_see_22 ?_
    refine r_callI (pc := 23) (rest := []) (lkSN dX2_see_23 q1046 q928 q85 (fun _ => sX1_isIn) ad_X1_isIn) (by decide) (Nat.le_of_ble_eq_true rfl) rfl h (fun x23 st e23 h => ?_)
    refine r_if_eq (pc := 26) (tgt := 48) dX2_see_26 (by decide) h (fun e26 h => ?_) (fun e26 h => ?_)
    · exact r_return_ (pc := 48) dX2_see_48 rfl h
    · refine r_aload_n (pc := 29) dX2_see_29 0 rfl rfl ?_
      refine r_gA (pc := 30) dX2_see_30 q173 fd_34 same_rf h (fun x30 e30 h => ?_)
      refine r_aload_n (pc := 33) dX2_see_33 0 rfl rfl ?_
      refine r_gI (pc := 34) dX2_see_34 q153 fd_29 same_rf h (fun x34 e34 h => ?_)
      refine r_iload_n (pc := 37) dX2_see_37 3 rfl rfl ?_
      refine r_imul (pc := 38) dX2_see_38 ?_
      refine r_iload (pc := 39) dX2_see_39 4 rfl ?_
      refine r_iadd (pc := 41) dX2_see_41 ?_
      refine r_iaload (pc := 42) dX2_see_42 h (fun x42 e42 h => ?_)
      refine r_bipush (pc := 43) (v := 9) dX2_see_43 (by decide) ?_
      refine r_icmp_ne (pc := 45) (tgt := 49) dX2_see_45 (by decide) h (fun e45 h => ?_) (fun e45 h => ?_)
      · refine r_aload_n (pc := 49) dX2_see_49 0 rfl rfl ?_
        refine r_gA (pc := 50) dX2_see_50 q195 fd_40 same_rf h (fun x50 e50 h => ?_)
        refine r_iload_n (pc := 53) dX2_see_53 1 rfl rfl ?_
        refine r_aaload (pc := 54) dX2_see_54 h (fun x54 e54 h => ?_)
        refine r_iload_n (pc := 55) dX2_see_55 2 rfl rfl ?_
        refine r_dup2_11 (pc := 56) dX2_see_56 rfl rfl ?_
        refine r_laload (pc := 57) dX2_see_57 h (fun x57 e57 h => ?_)
        refine r_lconst (pc := 58) (v := 1) dX2_see_58 (by decide) ?_
        refine r_aload_n (pc := 59) dX2_see_59 0 rfl rfl ?_
        refine r_gI (pc := 60) dX2_see_60 q153 fd_29 same_rf h (fun x60 e60 h => ?_)
        refine r_iload_n (pc := 63) dX2_see_63 3 rfl rfl ?_
        refine r_imul (pc := 64) dX2_see_64 ?_
        refine r_iload (pc := 65) dX2_see_65 4 rfl ?_
        refine r_iadd (pc := 67) dX2_see_67 ?_
        refine r_lshl (pc := 68) dX2_see_68 ?_
        refine r_lor (pc := 69) dX2_see_69 ?_
        refine r_lastore (pc := 70) dX2_see_70 h (fun st e70 h => ?_)
        exact r_return_ (pc := 71) dX2_see_71 rfl h
      · exact r_return_ (pc := 48) dX2_see_48 rfl h
theorem sX3_count_49 {st0 : Mem} {fin : Unit × Mem} {kk2 : Rf → Int32 → Mem → Option (Unit × Mem)} {kk16 : Rf → Int32 → Int32 → Mem → Option (Unit × Mem)} (hk2 : ∀ (v0 : Rf) (v1 : Int32) (st : Mem), kk2 v0 v1 st = some fin → G (cX3_count, "HouseClaps$Night", "count", 8, none, 3) st0 trV fin 2 [(0, vr v0), (1, vi v1)] [] st) (hk16 : ∀ (v0 : Rf) (v1 : Int32) (v2 : Int32) (st : Mem), kk16 v0 v1 v2 st = some fin → G (cX3_count, "HouseClaps$Night", "count", 8, none, 3) st0 trV fin 16 [(0, vr v0), (1, vi v1), (2, vi v2)] [] st) (v0 : Rf) (v1 : Int32) (v2 : Int32) (st : Mem) (h : bX3_count_49 kk2 kk16 v0 v1 v2 st = some fin) : G (cX3_count, "HouseClaps$Night", "count", 8, none, 3) st0 trV fin 49 [(0, vr v0), (1, vi v1), (2, vi v2)] [] st := by
  unfold bX3_count_49 at h
  refine r_iinc (pc := 49) (env' := [(2, vi (v2 + 1)), (0, vr v0), (1, vi v1)]) (cst := 1) dX3_count_49 2 rfl (by decide) (by decide) rfl ?_
  refine r_goto (pc := 52) (tgt := 16) dX3_count_52 (by decide) ?_
  exact r_sub (env' := [(0, vr v0), (1, vi v1), (2, vi (v2 + 1))]) [1, 2, 0] rfl (hk16 _ _ _ _ h)
theorem sX3_count_16B {st0 : Mem} {fin : Unit × Mem} {kk2 : Rf → Int32 → Mem → Option (Unit × Mem)} {kk16 : Rf → Int32 → Int32 → Mem → Option (Unit × Mem)} (hk2 : ∀ (v0 : Rf) (v1 : Int32) (st : Mem), kk2 v0 v1 st = some fin → G (cX3_count, "HouseClaps$Night", "count", 8, none, 3) st0 trV fin 2 [(0, vr v0), (1, vi v1)] [] st) (hk16 : ∀ (v0 : Rf) (v1 : Int32) (v2 : Int32) (st : Mem), kk16 v0 v1 v2 st = some fin → G (cX3_count, "HouseClaps$Night", "count", 8, none, 3) st0 trV fin 16 [(0, vr v0), (1, vi v1), (2, vi v2)] [] st) (v0 : Rf) (v1 : Int32) (v2 : Int32) (st : Mem) (h : bX3_count_16B kk2 kk16 v0 v1 v2 st = some fin) : G (cX3_count, "HouseClaps$Night", "count", 8, none, 3) st0 trV fin 16 [(0, vr v0), (1, vi v1), (2, vi v2)] [] st := by
  unfold bX3_count_16B at h
  refine r_iload_n (pc := 16) dX3_count_16 2 rfl rfl ?_
  refine r_aload_n (pc := 17) dX3_count_17 0 rfl rfl ?_
  refine r_gA (pc := 18) dX3_count_18 q260 fd_41 same_rf h (fun x18 e18 h => ?_)
  refine r_callI (pc := 21) (rest := [vi v2]) (lkV dX3_count_21 q1294 xd_X2_size (vc_of vt_X2_size q1039 (fun _ => sX2_size)) adx_X2_size) (by decide) (Nat.le_of_ble_eq_true rfl) rfl h (fun x21 st e21 h => ?_)
  refine r_icmp_ge (pc := 24) (tgt := 55) dX3_count_24 (by decide) h (fun e24 h => ?_) (fun e24 h => ?_)
  · refine r_iinc (pc := 55) (env' := [(1, vi (v1 + 1)), (0, vr v0), (2, vi v2)]) (cst := 1) dX3_count_55 1 rfl (by decide) (by decide) rfl ?_
    refine r_goto (pc := 58) (tgt := 2) dX3_count_58 (by decide) ?_
    exact r_sub (env' := [(0, vr v0), (1, vi (v1 + 1))]) [1, 0] rfl (hk2 _ _ _ h)
  · refine r_aload_n (pc := 27) dX3_count_27 0 rfl rfl ?_
    refine r_gA (pc := 28) dX3_count_28 q275 fd_49 same_rf h (fun x28 e28 h => ?_)
    refine r_iload_n (pc := 31) dX3_count_31 2 rfl rfl ?_
    refine r_iaload (pc := 32) dX3_count_32 h (fun x32 e32 h => ?_)
    refine r_iload_n (pc := 33) dX3_count_33 1 rfl rfl ?_
    refine r_icmp_lt (pc := 34) (tgt := 49) dX3_count_34 (by decide) h (fun e34 h => ?_) (fun e34 h => ?_)
    · exact sX3_count_49 hk2 hk16 _ _ _ _ h
    · refine r_aload_n (pc := 37) dX3_count_37 0 rfl rfl ?_
      refine r_gA (pc := 38) dX3_count_38 q282 fd_53 same_rf h (fun x38 e38 h => ?_)
      refine r_iload_n (pc := 41) dX3_count_41 1 rfl rfl ?_
      refine r_dup2_11 (pc := 42) dX3_count_42 rfl rfl ?_
      refine r_laload (pc := 43) dX3_count_43 h (fun x43 e43 h => ?_)
      refine r_lconst (pc := 44) (v := 1) dX3_count_44 (by decide) ?_
      refine r_iload_n (pc := 45) dX3_count_45 2 rfl rfl ?_
      refine r_lshl (pc := 46) dX3_count_46 ?_
      refine r_lor (pc := 47) dX3_count_47 ?_
      refine r_lastore (pc := 48) dX3_count_48 h (fun st e48 h => ?_)
      exact sX3_count_49 hk2 hk16 _ _ _ _ h
theorem sX3_count_16 {st0 : Mem} {fin : Unit × Mem} {kk2 : Rf → Int32 → Mem → Option (Unit × Mem)} (hk2 : ∀ (v0 : Rf) (v1 : Int32) (st : Mem), kk2 v0 v1 st = some fin → G (cX3_count, "HouseClaps$Night", "count", 8, none, 3) st0 trV fin 2 [(0, vr v0), (1, vi v1)] [] st) (n : Nat) : ∀ (v0 : Rf) (v1 : Int32) (v2 : Int32) (st : Mem), bX3_count_16 kk2 n v0 v1 v2 st = some fin → G (cX3_count, "HouseClaps$Night", "count", 8, none, 3) st0 trV fin 16 [(0, vr v0), (1, vi v1), (2, vi v2)] [] st := by
  induction n with
  | zero => intro v0 v1 v2 st h; cases h
  | succ n ih => intro v0 v1 v2 st h; exact sX3_count_16B hk2  ih v0 v1 v2 st h
theorem sX3_count_2B {st0 : Mem} {fin : Unit × Mem} {kk2 : Rf → Int32 → Mem → Option (Unit × Mem)} (hk2 : ∀ (v0 : Rf) (v1 : Int32) (st : Mem), kk2 v0 v1 st = some fin → G (cX3_count, "HouseClaps$Night", "count", 8, none, 3) st0 trV fin 2 [(0, vr v0), (1, vi v1)] [] st) (v0 : Rf) (v1 : Int32) (st : Mem) (h : bX3_count_2B kk2 v0 v1 st = some fin) : G (cX3_count, "HouseClaps$Night", "count", 8, none, 3) st0 trV fin 2 [(0, vr v0), (1, vi v1)] [] st := by
  unfold bX3_count_2B at h
  refine r_iload_n (pc := 2) dX3_count_2 1 rfl rfl ?_
  refine r_iconst (pc := 3) (v := 2) dX3_count_3 (by decide) ?_
  refine r_icmp_gt (pc := 4) (tgt := 61) dX3_count_4 (by decide) h (fun e4 h => ?_) (fun e4 h => ?_)
  · exact r_return_ (pc := 61) dX3_count_61 rfl h
  · refine r_aload_n (pc := 7) dX3_count_7 0 rfl rfl ?_
    refine r_gA (pc := 8) dX3_count_8 q282 fd_53 same_rf h (fun x8 e8 h => ?_)
    refine r_iload_n (pc := 11) dX3_count_11 1 rfl rfl ?_
    refine r_lconst (pc := 12) (v := 0) dX3_count_12 (by decide) ?_
    refine r_lastore (pc := 13) dX3_count_13 h (fun st e13 h => ?_)
    refine r_iconst (pc := 14) (v := 0) dX3_count_14 (by decide) ?_
    refine r_istore_n (pc := 15) (env' := [(2, vi (0 : Int32)), (0, vr v0), (1, vi v1)]) dX3_count_15 rfl (by decide) rfl ?_
    exact r_sub (env' := [(0, vr v0), (1, vi v1), (2, vi (0 : Int32))]) [1, 2, 0] rfl (sX3_count_16 hk2 hcFuel _ _ _ _ h)
theorem sX3_count_2 {st0 : Mem} {fin : Unit × Mem} (n : Nat) : ∀ (v0 : Rf) (v1 : Int32) (st : Mem), bX3_count_2 n v0 v1 st = some fin → G (cX3_count, "HouseClaps$Night", "count", 8, none, 3) st0 trV fin 2 [(0, vr v0), (1, vi v1)] [] st := by
  induction n with
  | zero => intro v0 v1 st h; cases h
  | succ n ih => intro v0 v1 st h; exact sX3_count_2B  ih v0 v1 st h
theorem sX3_count {a0 : Rf} {st : Mem} {fin : Unit × Mem} (h : fX3_count a0 st = some fin) : Con yX3_count 8 [vr a0] st trV fin := by
  refine Con.mk (cc := cX3_count) (n := 3) (own := "HouseClaps$Night") (nm := "count") (ret := none) (env := [(0, vr a0)]) q1309 rfl rfl rfl (by decide) ⟨Nat.le_of_ble_eq_true rfl, by decide⟩ rfl ?_
  unfold fX3_count at h
  refine r_iconst (pc := 0) (v := 1) dX3_count_0 (by decide) ?_
  refine r_istore_n (pc := 1) (env' := [(1, vi (1 : Int32)), (0, vr a0)]) dX3_count_1 rfl (by decide) rfl ?_
  exact r_sub (env' := [(0, vr a0), (1, vi (1 : Int32))]) [1, 0] rfl (sX3_count_2 hcFuel _ _ _ h)
theorem sX3_forced_86 {st0 : Mem} {fin : Int32 × Mem} (v0 : Rf) (st : Mem) (h : bX3_forced_86 v0 st = some fin) : G (cX3_forced, "HouseClaps$Night", "forced", 8, (some .int), 3) st0 trI fin 86 [(0, vr v0)] [] st := by
  unfold bX3_forced_86 at h
  refine r_aload_n (pc := 86) dX3_forced_86 0 rfl rfl ?_
  refine r_gI (pc := 87) dX3_forced_87 q270 fd_46 same_rf h (fun x87 e87 h => ?_)
  refine r_if_eq (pc := 90) (tgt := 97) dX3_forced_90 (by decide) h (fun e90 h => ?_) (fun e90 h => ?_)
  · refine r_iconst (pc := 97) (v := (-1)) dX3_forced_97 (by decide) ?_
    exact r_ireturn (pc := 98) dX3_forced_98 rfl rfl h
  · refine r_iconst (pc := 93) (v := 0) dX3_forced_93 (by decide) ?_
    refine r_goto (pc := 94) (tgt := 98) dX3_forced_94 (by decide) ?_
    exact r_ireturn (pc := 98) dX3_forced_98 rfl rfl h
theorem sX3_forced_44 {st0 : Mem} {fin : Int32 × Mem} (v0 : Rf) (v1 : Int32) (st : Mem) (h : bX3_forced_44 v0 v1 st = some fin) : G (cX3_forced, "HouseClaps$Night", "forced", 8, (some .int), 3) st0 trI fin 44 [(0, vr v0), (1, vi v1)] [] st := by
  unfold bX3_forced_44 at h
  refine r_aload_n (pc := 44) dX3_forced_44 0 rfl rfl ?_
  refine r_gJ (pc := 45) dX3_forced_45 q264 fd_43 same_rf h (fun x45 e45 h => ?_)
  refine r_iload_n (pc := 48) dX3_forced_48 1 rfl rfl ?_
  refine r_callI (pc := 49) (rest := []) (lkSN dX3_forced_49 q1303 q1304 q85 (fun _ => sX1_has_2) ad_X1_has_2) (by decide) (Nat.le_of_ble_eq_true rfl) rfl h (fun x49 st e49 h => ?_)
  refine r_if_eq (pc := 52) (tgt := 57) dX3_forced_52 (by decide) h (fun e52 h => ?_) (fun e52 h => ?_)
  · refine r_aload_n (pc := 57) dX3_forced_57 0 rfl rfl ?_
    refine r_gJ (pc := 58) dX3_forced_58 q261 fd_42 same_rf h (fun x58 e58 h => ?_)
    refine r_iload_n (pc := 61) dX3_forced_61 1 rfl rfl ?_
    refine r_callI (pc := 62) (rest := []) (lkSN dX3_forced_62 q1303 q1304 q85 (fun _ => sX1_has_2) ad_X1_has_2) (by decide) (Nat.le_of_ble_eq_true rfl) rfl h (fun x62 st e62 h => ?_)
    refine r_if_eq (pc := 65) (tgt := 86) dX3_forced_65 (by decide) h (fun e65 h => ?_) (fun e65 h => ?_)
    · exact r_sub (env' := [(0, vr v0)]) [0] rfl (sX3_forced_86 _ _ h)
    · refine r_aload_n (pc := 68) dX3_forced_68 0 rfl rfl ?_
      refine r_gI (pc := 69) dX3_forced_69 q267 fd_44 same_rf h (fun x69 e69 h => ?_)
      refine r_aload_n (pc := 72) dX3_forced_72 0 rfl rfl ?_
      refine r_gA (pc := 73) dX3_forced_73 q260 fd_41 same_rf h (fun x73 e73 h => ?_)
      refine r_gIN (pc := 76) dX3_forced_76 q163 fd_31 same_rf h (fun x76 e76 h => ?_)
      refine r_icmp_gt (pc := 79) (tgt := 86) dX3_forced_79 (by decide) h (fun e79 h => ?_) (fun e79 h => ?_)
      · exact r_sub (env' := [(0, vr v0)]) [0] rfl (sX3_forced_86 _ _ h)
      · refine r_iconst (pc := 82) (v := 2) dX3_forced_82 (by decide) ?_
        refine r_goto (pc := 83) (tgt := 98) dX3_forced_83 (by decide) ?_
        exact r_ireturn (pc := 98) dX3_forced_98 rfl rfl h
  · refine r_iconst (pc := 55) (v := 0) dX3_forced_55 (by decide) ?_
    exact r_ireturn (pc := 56) dX3_forced_56 rfl rfl h
theorem sX3_forced {a0 : Rf} {a1 : Int32} {st : Mem} {fin : Int32 × Mem} (h : fX3_forced a0 a1 st = some fin) : Con yX3_forced 8 [vr a0, vi a1] st trI fin := by
  refine Con.mk (cc := cX3_forced) (n := 3) (own := "HouseClaps$Night") (nm := "forced") (ret := (some .int)) (env := [(0, vr a0), (1, vi a1)]) q1298 rfl rfl rfl (by decide) ⟨Nat.le_of_ble_eq_true rfl, by decide⟩ rfl ?_
  unfold fX3_forced at h
  refine r_aload_n (pc := 0) dX3_forced_0 0 rfl rfl ?_
  refine r_gA (pc := 1) dX3_forced_1 q260 fd_41 same_rf h (fun x1 e1 h => ?_)
  refine r_gAN (pc := 4) dX3_forced_4 q182 fd_36 same_rf h (fun x4 e4 h => ?_)
  refine r_aload_n (pc := 7) dX3_forced_7 0 rfl rfl ?_
  refine r_gA (pc := 8) dX3_forced_8 q260 fd_41 same_rf h (fun x8 e8 h => ?_)
  refine r_iload_n (pc := 11) dX3_forced_11 1 rfl rfl ?_
  refine r_callI (pc := 12) (rest := [vr x4]) (lkV dX3_forced_12 q1299 xd_X2_row (vc_of vt_X2_row q1300 (fun _ => sX2_row)) adx_X2_row) (by decide) (Nat.le_of_ble_eq_true rfl) rfl h (fun x12 st e12 h => ?_)
  refine r_iaload (pc := 15) dX3_forced_15 h (fun x15 e15 h => ?_)
  refine r_istore_n (pc := 16) (env' := [(2, vi x15), (0, vr a0), (1, vi a1)]) dX3_forced_16 rfl (by decide) rfl ?_
  refine r_aload_n (pc := 17) dX3_forced_17 1 rfl rfl ?_
  refine r_gA (pc := 18) dX3_forced_18 q260 fd_41 same_rf h (fun x18 e18 h => ?_)
  refine r_gAN (pc := 21) dX3_forced_21 q175 fd_34 same_rf h (fun x21 e21 h => ?_)
  refine r_iload_n (pc := 24) dX3_forced_24 2 rfl rfl ?_
  refine r_iaload (pc := 25) dX3_forced_25 h (fun x25 e25 h => ?_)
  refine r_bipush (pc := 26) (v := 9) dX3_forced_26 (by decide) ?_
  refine r_icmp_eq (pc := 28) (tgt := 55) dX3_forced_28 (by decide) h (fun e28 h => ?_) (fun e28 h => ?_)
  · refine r_iconst (pc := 55) (v := 0) dX3_forced_55 (by decide) ?_
    exact r_ireturn (pc := 56) dX3_forced_56 rfl rfl h
  · refine r_iload_n (pc := 31) dX3_forced_31 0 rfl rfl ?_
    refine r_iconst (pc := 32) (v := (-1)) dX3_forced_32 (by decide) ?_
    refine r_icmp_eq (pc := 33) (tgt := 44) dX3_forced_33 (by decide) h (fun e33 h => ?_) (fun e33 h => ?_)
    · exact r_sub (env' := [(0, vr a0), (1, vi a1)]) [1, 2] rfl (sX3_forced_44 _ _ _ h)
    · refine r_aload_n (pc := 36) dX3_forced_36 1 rfl rfl ?_
      refine r_gI (pc := 37) dX3_forced_37 q267 fd_44 same_rf h (fun x37 e37 h => ?_)
      refine r_iload_n (pc := 40) dX3_forced_40 0 rfl rfl ?_
      refine r_icmp_ge (pc := 41) (tgt := 55) dX3_forced_41 (by decide) h (fun e41 h => ?_) (fun e41 h => ?_)
      · refine r_iconst (pc := 55) (v := 0) dX3_forced_55 (by decide) ?_
        exact r_ireturn (pc := 56) dX3_forced_56 rfl rfl h
      · exact r_sub (env' := [(0, vr a0), (1, vi a1)]) [1, 2] rfl (sX3_forced_44 _ _ _ h)
theorem sX3_pack_90 {st0 : Mem} {fin : Unit × Mem} {kk26 : Rf → Rf → Int32 → Mem → Option (Unit × Mem)} (hk26 : ∀ (v0 : Rf) (v1 : Rf) (v2 : Int32) (st : Mem), kk26 v0 v1 v2 st = some fin → G (cX3_pack, "HouseClaps$Night", "pack", 8, none, 3) st0 trV fin 26 [(0, vr v0), (1, vr v1), (2, vi v2)] [] st) (v0 : Rf) (v1 : Rf) (v2 : Int32) (st : Mem) (h : bX3_pack_90 kk26 v0 v1 v2 st = some fin) : G (cX3_pack, "HouseClaps$Night", "pack", 8, none, 3) st0 trV fin 90 [(0, vr v0), (1, vr v1), (2, vi v2)] [] st := by
  unfold bX3_pack_90 at h
  refine r_iinc (pc := 90) (env' := [(2, vi (v2 + 1)), (0, vr v0), (1, vr v1)]) (cst := 1) dX3_pack_90 2 rfl (by decide) (by decide) rfl ?_
  refine r_goto (pc := 93) (tgt := 26) dX3_pack_93 (by decide) ?_
  exact r_sub (env' := [(0, vr v0), (1, vr v1), (2, vi (v2 + 1))]) [1, 2, 0] rfl (hk26 _ _ _ _ h)
theorem sX3_pack_26B {st0 : Mem} {fin : Unit × Mem} {kk26 : Rf → Rf → Int32 → Mem → Option (Unit × Mem)} (hk26 : ∀ (v0 : Rf) (v1 : Rf) (v2 : Int32) (st : Mem), kk26 v0 v1 v2 st = some fin → G (cX3_pack, "HouseClaps$Night", "pack", 8, none, 3) st0 trV fin 26 [(0, vr v0), (1, vr v1), (2, vi v2)] [] st) (v0 : Rf) (v1 : Rf) (v2 : Int32) (st : Mem) (h : bX3_pack_26B kk26 v0 v1 v2 st = some fin) : G (cX3_pack, "HouseClaps$Night", "pack", 8, none, 3) st0 trV fin 26 [(0, vr v0), (1, vr v1), (2, vi v2)] [] st := by
  unfold bX3_pack_26B at h
  refine r_iload_n (pc := 26) dX3_pack_26 2 rfl rfl ?_
  refine r_aload_n (pc := 27) dX3_pack_27 0 rfl rfl ?_
  refine r_gA (pc := 28) dX3_pack_28 q260 fd_41 same_rf h (fun x28 e28 h => ?_)
  refine r_callI (pc := 31) (rest := [vi v2]) (lkV dX3_pack_31 q1294 xd_X2_size (vc_of vt_X2_size q1039 (fun _ => sX2_size)) adx_X2_size) (by decide) (Nat.le_of_ble_eq_true rfl) rfl h (fun x31 st e31 h => ?_)
  refine r_icmp_ge (pc := 34) (tgt := 96) dX3_pack_34 (by decide) h (fun e34 h => ?_) (fun e34 h => ?_)
  · exact r_return_ (pc := 96) dX3_pack_96 rfl h
  · refine r_aload_n (pc := 37) dX3_pack_37 0 rfl rfl ?_
    refine r_gA (pc := 38) dX3_pack_38 q260 fd_41 same_rf h (fun x38 e38 h => ?_)
    refine r_gAN (pc := 41) dX3_pack_41 q175 fd_34 same_rf h (fun x41 e41 h => ?_)
    refine r_iload_n (pc := 44) dX3_pack_44 2 rfl rfl ?_
    refine r_iaload (pc := 45) dX3_pack_45 h (fun x45 e45 h => ?_)
    refine r_bipush (pc := 46) (v := 9) dX3_pack_46 (by decide) ?_
    refine r_icmp_eq (pc := 48) (tgt := 90) dX3_pack_48 (by decide) h (fun e48 h => ?_) (fun e48 h => ?_)
    · exact sX3_pack_90 hk26 _ _ _ _ h
    · refine r_aload_n (pc := 51) dX3_pack_51 1 rfl rfl ?_
      refine r_iconst (pc := 52) (v := 4) dX3_pack_52 (by decide) ?_
      refine r_aload_n (pc := 53) dX3_pack_53 0 rfl rfl ?_
      refine r_gI (pc := 54) dX3_pack_54 q267 fd_44 same_rf h (fun x54 e54 h => ?_)
      refine r_imul (pc := 57) dX3_pack_57 ?_
      refine r_iload_n (pc := 58) dX3_pack_58 2 rfl rfl ?_
      refine r_bipush (pc := 59) (v := 16) dX3_pack_59 (by decide) ?_
      refine r_idiv (pc := 61) dX3_pack_61 h (fun x61 e61 h => ?_)
      refine r_iadd (pc := 62) dX3_pack_62 ?_
      refine r_dup2_11 (pc := 63) dX3_pack_63 rfl rfl ?_
      refine r_laload (pc := 64) dX3_pack_64 h (fun x64 e64 h => ?_)
      refine r_iconst (pc := 65) (v := 4) dX3_pack_65 (by decide) ?_
      refine r_aload_n (pc := 66) dX3_pack_66 0 rfl rfl ?_
      refine r_gA (pc := 67) dX3_pack_67 q275 fd_49 same_rf h (fun x67 e67 h => ?_)
      refine r_iload_n (pc := 70) dX3_pack_70 2 rfl rfl ?_
      refine r_iaload (pc := 71) dX3_pack_71 h (fun x71 e71 h => ?_)
      refine r_imul (pc := 72) dX3_pack_72 ?_
      refine r_aload_n (pc := 73) dX3_pack_73 0 rfl rfl ?_
      refine r_gA (pc := 74) dX3_pack_74 q279 fd_51 same_rf h (fun x74 e74 h => ?_)
      refine r_iload_n (pc := 77) dX3_pack_77 2 rfl rfl ?_
      refine r_iaload (pc := 78) dX3_pack_78 h (fun x78 e78 h => ?_)
      refine r_iadd (pc := 79) dX3_pack_79 ?_
      refine r_i2l (pc := 80) dX3_pack_80 ?_
      refine r_iconst (pc := 81) (v := 4) dX3_pack_81 (by decide) ?_
      refine r_iload_n (pc := 82) dX3_pack_82 2 rfl rfl ?_
      refine r_bipush (pc := 83) (v := 16) dX3_pack_83 (by decide) ?_
      refine r_irem (pc := 85) dX3_pack_85 h (fun x85 e85 h => ?_)
      refine r_imul (pc := 86) dX3_pack_86 ?_
      refine r_lshl (pc := 87) dX3_pack_87 ?_
      refine r_lor (pc := 88) dX3_pack_88 ?_
      refine r_lastore (pc := 89) dX3_pack_89 h (fun st e89 h => ?_)
      exact sX3_pack_90 hk26 _ _ _ _ h
theorem sX3_pack_26 {st0 : Mem} {fin : Unit × Mem} (n : Nat) : ∀ (v0 : Rf) (v1 : Rf) (v2 : Int32) (st : Mem), bX3_pack_26 n v0 v1 v2 st = some fin → G (cX3_pack, "HouseClaps$Night", "pack", 8, none, 3) st0 trV fin 26 [(0, vr v0), (1, vr v1), (2, vi v2)] [] st := by
  induction n with
  | zero => intro v0 v1 v2 st h; cases h
  | succ n ih => intro v0 v1 v2 st h; exact sX3_pack_26B  ih v0 v1 v2 st h
theorem sX3_pack_2B {st0 : Mem} {fin : Unit × Mem} {kk2 : Rf → Rf → Int32 → Mem → Option (Unit × Mem)} (hk2 : ∀ (v0 : Rf) (v1 : Rf) (v2 : Int32) (st : Mem), kk2 v0 v1 v2 st = some fin → G (cX3_pack, "HouseClaps$Night", "pack", 8, none, 3) st0 trV fin 2 [(0, vr v0), (1, vr v1), (2, vi v2)] [] st) (v0 : Rf) (v1 : Rf) (v2 : Int32) (st : Mem) (h : bX3_pack_2B kk2 v0 v1 v2 st = some fin) : G (cX3_pack, "HouseClaps$Night", "pack", 8, none, 3) st0 trV fin 2 [(0, vr v0), (1, vr v1), (2, vi v2)] [] st := by
  unfold bX3_pack_2B at h
  refine r_iload_n (pc := 2) dX3_pack_2 2 rfl rfl ?_
  refine r_iconst (pc := 3) (v := 4) dX3_pack_3 (by decide) ?_
  refine r_icmp_ge (pc := 4) (tgt := 24) dX3_pack_4 (by decide) h (fun e4 h => ?_) (fun e4 h => ?_)
  · refine r_iconst (pc := 24) (v := 0) dX3_pack_24 (by decide) ?_
    refine r_istore_n (pc := 25) (env' := [(2, vi (0 : Int32)), (0, vr v0), (1, vr v1)]) dX3_pack_25 rfl (by decide) rfl ?_
    exact r_sub (env' := [(0, vr v0), (1, vr v1), (2, vi (0 : Int32))]) [1, 2, 0] rfl (sX3_pack_26 hcFuel _ _ _ _ h)
  · refine r_aload_n (pc := 7) dX3_pack_7 1 rfl rfl ?_
    refine r_iconst (pc := 8) (v := 4) dX3_pack_8 (by decide) ?_
    refine r_aload_n (pc := 9) dX3_pack_9 0 rfl rfl ?_
    refine r_gI (pc := 10) dX3_pack_10 q267 fd_44 same_rf h (fun x10 e10 h => ?_)
    refine r_imul (pc := 13) dX3_pack_13 ?_
    refine r_iload_n (pc := 14) dX3_pack_14 2 rfl rfl ?_
    refine r_iadd (pc := 15) dX3_pack_15 ?_
    refine r_lconst (pc := 16) (v := 0) dX3_pack_16 (by decide) ?_
    refine r_lastore (pc := 17) dX3_pack_17 h (fun st e17 h => ?_)
    refine r_iinc (pc := 18) (env' := [(2, vi (v2 + 1)), (0, vr v0), (1, vr v1)]) (cst := 1) dX3_pack_18 2 rfl (by decide) (by decide) rfl ?_
    refine r_goto (pc := 21) (tgt := 2) dX3_pack_21 (by decide) ?_
    exact r_sub (env' := [(0, vr v0), (1, vr v1), (2, vi (v2 + 1))]) [1, 2, 0] rfl (hk2 _ _ _ _ h)
theorem sX3_pack_2 {st0 : Mem} {fin : Unit × Mem} (n : Nat) : ∀ (v0 : Rf) (v1 : Rf) (v2 : Int32) (st : Mem), bX3_pack_2 n v0 v1 v2 st = some fin → G (cX3_pack, "HouseClaps$Night", "pack", 8, none, 3) st0 trV fin 2 [(0, vr v0), (1, vr v1), (2, vi v2)] [] st := by
  induction n with
  | zero => intro v0 v1 v2 st h; cases h
  | succ n ih => intro v0 v1 v2 st h; exact sX3_pack_2B  ih v0 v1 v2 st h
theorem sX3_pack {a0 : Rf} {a1 : Rf} {st : Mem} {fin : Unit × Mem} (h : fX3_pack a0 a1 st = some fin) : Con yX3_pack 8 [vr a0, vr a1] st trV fin := by
  refine Con.mk (cc := cX3_pack) (n := 3) (own := "HouseClaps$Night") (nm := "pack") (ret := none) (env := [(0, vr a0), (1, vr a1)]) q1427 rfl rfl rfl (by decide) ⟨Nat.le_of_ble_eq_true rfl, by decide⟩ rfl ?_
  unfold fX3_pack at h
  refine r_iconst (pc := 0) (v := 0) dX3_pack_0 (by decide) ?_
  refine r_istore_n (pc := 1) (env' := [(2, vi (0 : Int32)), (0, vr a0), (1, vr a1)]) dX3_pack_1 rfl (by decide) rfl ?_
  exact r_sub (env' := [(0, vr a0), (1, vr a1), (2, vi (0 : Int32))]) [1, 2, 0] rfl (sX3_pack_2 hcFuel _ _ _ _ h)
theorem sX3_perceives {a0 : Rf} {a1 : Int32} {a2 : Int32} {a3 : Int32} {st : Mem} {fin : Int32 × Mem} (h : fX3_perceives a0 a1 a2 a3 st = some fin) : Con yX3_perceives 8 [vr a0, vi a1, vi a2, vi a3] st trI fin := by
  refine Con.mk (cc := cX3_perceives) (n := 4) (own := "HouseClaps$Night") (nm := "perceives") (ret := (some .int)) (env := [(0, vr a0), (1, vi a1), (2, vi a2), (3, vi a3)]) q1348 rfl rfl rfl (by decide) ⟨Nat.le_of_ble_eq_true rfl, by decide⟩ rfl ?_
  unfold fX3_perceives at h
  refine r_aload_n (pc := 0) dX3_perceives_0 0 rfl rfl ?_
  refine r_gA (pc := 1) dX3_perceives_1 q260 fd_41 same_rf h (fun x1 e1 h => ?_)
  refine r_gAN (pc := 4) dX3_perceives_4 q196 fd_40 same_rf h (fun x4 e4 h => ?_)
  refine r_iload_n (pc := 7) dX3_perceives_7 2 rfl rfl ?_
  refine r_aaload (pc := 8) dX3_perceives_8 h (fun x8 e8 h => ?_)
  refine r_iload_n (pc := 9) dX3_perceives_9 1 rfl rfl ?_
  refine r_laload (pc := 10) dX3_perceives_10 h (fun x10 e10 h => ?_)
  refine r_aload_n (pc := 11) dX3_perceives_11 0 rfl rfl ?_
  refine r_gA (pc := 12) dX3_perceives_12 q281 fd_52 same_rf h (fun x12 e12 h => ?_)
  refine r_iload_n (pc := 15) dX3_perceives_15 3 rfl rfl ?_
  refine r_laload (pc := 16) dX3_perceives_16 h (fun x16 e16 h => ?_)
  refine r_aload_n (pc := 17) dX3_perceives_17 0 rfl rfl ?_
  refine r_gJ (pc := 18) dX3_perceives_18 q284 fd_54 same_rf h (fun x18 e18 h => ?_)
  refine r_ldc2 (pc := 21) dX3_perceives_21 q1349 ?_
  refine r_lxor (pc := 24) dX3_perceives_24 ?_
  refine r_land (pc := 25) dX3_perceives_25 ?_
  refine r_aload_n (pc := 26) dX3_perceives_26 0 rfl rfl ?_
  refine r_gA (pc := 27) dX3_perceives_27 q282 fd_53 same_rf h (fun x27 e27 h => ?_)
  refine r_iload_n (pc := 30) dX3_perceives_30 3 rfl rfl ?_
  refine r_laload (pc := 31) dX3_perceives_31 h (fun x31 e31 h => ?_)
  refine r_aload_n (pc := 32) dX3_perceives_32 0 rfl rfl ?_
  refine r_gJ (pc := 33) dX3_perceives_33 q284 fd_54 same_rf h (fun x33 e33 h => ?_)
  refine r_land (pc := 36) dX3_perceives_36 ?_
  refine r_lor (pc := 37) dX3_perceives_37 ?_
  refine r_land (pc := 38) dX3_perceives_38 ?_
  refine r_callI (pc := 39) (rest := []) (lkS dX3_perceives_39 q1350 q1351 q126 (fun _ => sJ18_bitCount) ad_J18_bitCount) (by decide) (Nat.le_of_ble_eq_true rfl) rfl h (fun x39 st e39 h => ?_)
  exact r_ireturn (pc := 42) dX3_perceives_42 rfl rfl h
theorem sX5_need_29 {st0 : Mem} {fin : (Unit ⊕ Nat) × Mem} (v0 : Rf) (k0 : Rf) (k1 : Rf) (k2 : Int32) (st : Mem) (h : bX5_need_29 v0 k0 k1 k2 st = some fin) : G (cX5_need, "HouseClaps$Reader", "need", 8, none, 3) st0 trVx fin 29 [(0, vr v0)] [vi k2, vr k1, vr k0] st := by
  unfold bX5_need_29 at h
  refine r_aload_n (pc := 29) dX5_need_29 0 rfl rfl ?_
  refine r_gI (pc := 30) dX5_need_30 q446 fd_129 same_rf h (fun x30 e30 h => ?_)
  refine r_callV (pc := 33) (rest := [vr k0]) (lkI dX5_need_33 q822 q823 q824 rfl (fun _ => sX7_init) ad_X7_init) (by decide) (Nat.le_of_ble_eq_true rfl) rfl h (fun u33 st e33 h => ?_)
  exact r_athrow (pc := 36) dX5_need_36 (by decide) (fun _ => rfl) h
theorem sX5_need_24 {st0 : Mem} {fin : (Unit ⊕ Nat) × Mem} (v0 : Rf) (k0 : Rf) (k1 : Rf) (st : Mem) (h : bX5_need_24 v0 k0 k1 st = some fin) : G (cX5_need, "HouseClaps$Reader", "need", 8, none, 3) st0 trVx fin 24 [(0, vr v0)] [vr k1, vr k0] st := by
  unfold bX5_need_24 at h
  refine r_iconst (pc := 24) (v := 1) dX5_need_24 (by decide) ?_
  refine r_goto (pc := 25) (tgt := 29) dX5_need_25 (by decide) ?_
  exact sX5_need_29 _ _ _ _ _ h
theorem sX5_need {a0 : Rf} {a1 : Int32} {a2 : Int32} {st : Mem} {fin : (Unit ⊕ Nat) × Mem} (h : fX5_need a0 a1 a2 st = some fin) : Con yX5_need 8 [vr a0, vi a1, vi a2] st trVx fin := by
  refine Con.mk (cc := cX5_need) (n := 3) (own := "HouseClaps$Reader") (nm := "need") (ret := none) (env := [(0, vr a0), (1, vi a1), (2, vi a2)]) q783 rfl rfl rfl (by decide) ⟨Nat.le_of_ble_eq_true rfl, by decide⟩ rfl ?_
  unfold fX5_need at h
  refine r_iload_n (pc := 0) dX5_need_0 1 rfl rfl ?_
  refine r_if_ne (pc := 1) (tgt := 37) dX5_need_1 (by decide) h (fun e1 h => ?_) (fun e1 h => ?_)
  · exact r_return_ (pc := 37) dX5_need_37 rfl h
  · refine r_new (pc := 4) dX5_need_4 q784 rfl h (fun x4 st e4 h => ?_)
    refine r_dup (pc := 7) dX5_need_7 rfl ?_
    refine r_aload_n (pc := 8) dX5_need_8 0 rfl rfl ?_
    refine r_gI (pc := 9) dX5_need_9 q445 fd_128 same_rf h (fun x9 e9 h => ?_)
    refine r_iconst (pc := 12) (v := 1) dX5_need_12 (by decide) ?_
    refine r_icmp_eq (pc := 13) (tgt := 24) dX5_need_13 (by decide) h (fun e13 h => ?_) (fun e13 h => ?_)
    · exact r_sub (env' := [(0, vr a0)]) [0] rfl (sX5_need_24 _ _ _ _ h)
    · refine r_aload_n (pc := 16) dX5_need_16 0 rfl rfl ?_
      refine r_gI (pc := 17) dX5_need_17 q445 fd_128 same_rf h (fun x17 e17 h => ?_)
      refine r_iconst (pc := 20) (v := 5) dX5_need_20 (by decide) ?_
      refine r_icmp_ne (pc := 21) (tgt := 28) dX5_need_21 (by decide) h (fun e21 h => ?_) (fun e21 h => ?_)
      · refine r_iload_n (pc := 28) dX5_need_28 2 rfl rfl ?_
        exact r_sub (env' := [(0, vr a0)]) [0] rfl (sX5_need_29 _ _ _ _ _ h)
      · exact r_sub (env' := [(0, vr a0)]) [0] rfl (sX5_need_24 _ _ _ _ h)
theorem sX9_init {a0 : Rf} {a1 : Rf} {st : Mem} {fin : Unit × Mem} (h : fX9_init a0 a1 st = some fin) : Con yX9_init 8 [vr a0, vr a1] st trV fin := by
  refine Con.mk (cc := cX9_init) (n := 2) (own := "HouseClaps$Not") (nm := "<init>") (ret := none) (env := [(0, vr a0), (1, vr a1)]) q901 rfl rfl rfl (by decide) ⟨Nat.le_of_ble_eq_true rfl, by decide⟩ rfl ?_
  unfold fX9_init at h
  refine r_aload_n (pc := 0) dX9_init_0 0 rfl rfl ?_
  refine r_callV (pc := 1) (rest := []) (lkIN dX9_init_1 q902 q903 q904 rfl (fun _ => sX8_init) ad_X8_init) (by decide) (Nat.le_of_ble_eq_true rfl) rfl h (fun u1 st e1 h => ?_)
  refine r_aload_n (pc := 4) dX9_init_4 0 rfl rfl ?_
  refine r_aload_n (pc := 5) dX9_init_5 1 rfl rfl ?_
  refine r_pAF (pc := 6) dX9_init_6 q906 fd_141 same_rf ⟨rfl, rfl⟩ h (fun st e6 h => ?_)
  exact r_return_ (pc := 9) dX9_init_9 rfl h
theorem vcvX18_seat {a0 : Rf} {st : Mem} {fin : Int32 × Mem} (h : vX18_seat a0 st = some fin) : VCon ⟨"HouseClaps$Cue", "seat", "()I"⟩ 6 [vr a0] st trI fin := by
  unfold vX18_seat at h
  split at h
  · exact vc_of vt_X18_seat_0 q1655 (fun _ h => Con.up (by decide) (sX18_seat h)) fin h
  split at h
  · exact vc_of vt_X18_seat_1 q1282 (fun _ h => Con.up (by decide) (sX20_seat h)) fin h
  · cases h
theorem vcvX18_what {a0 : Rf} {st : Mem} {fin : Int32 × Mem} (h : vX18_what a0 st = some fin) : VCon ⟨"HouseClaps$Cue", "what", "()I"⟩ 6 [vr a0] st trI fin := by
  unfold vX18_what at h
  split at h
  · exact vc_of vt_X18_what_0 q1439 (fun _ h => Con.up (by decide) (sX20_what h)) fin h
  split at h
  · exact vc_of vt_X18_what_1 q1442 (fun _ h => Con.up (by decide) (sX22_what h)) fin h
  split at h
  · exact vc_of vt_X18_what_2 q1445 (fun _ h => Con.up (by decide) (sX21_what h)) fin h
  split at h
  · exact vc_of vt_X18_what_3 q1448 (fun _ h => Con.up (by decide) (sX19_what h)) fin h
  · cases h
theorem sX0_worthOf_13 {st0 : Mem} {fin : Int32 × Mem} (k0 : Rf) (st : Mem) (h : bX0_worthOf_13 k0 st = some fin) : G (cX0_worthOf, "HouseClapsLaw", "worthOf", 10, (some .int), 5) st0 trI fin 13 [] [vr k0] st := by
  unfold bX0_worthOf_13 at h
  refine r_astore (pc := 13) (env' := [(4, vr k0)]) dX0_worthOf_13 (by decide) rfl ?_
  refine r_iconst (pc := 15) (v := 1) dX0_worthOf_15 (by decide) ?_
  exact r_ireturn (pc := 16) dX0_worthOf_16 rfl rfl h
theorem sX0_worthOf {a0 : Rf} {a1 : Int32} {a2 : Int32} {a3 : Rf} {st : Mem} {fin : Int32 × Mem} (h : fX0_worthOf a0 a1 a2 a3 st = some fin) : Con yX0_worthOf 10 [vr a0, vi a1, vi a2, vr a3] st trI fin := by
  refine Con.mkW (cc := cX0_worthOf) (n := 5) (own := "HouseClapsLaw") (nm := "worthOf") (ret := (some .int)) (env := [(0, vr a0), (1, vi a1), (2, vi a2), (3, vr a3)]) q1664 rfl rfl rfl (by decide) ⟨Nat.le_of_ble_eq_true rfl, by decide⟩ rfl ?_
  unfold fX0_worthOf at h
  refine r_aload_n (pc := 0) dX0_worthOf_0 3 rfl rfl ?_
  refine r_iconst (pc := 1) (v := 0) dX0_worthOf_1 (by decide) ?_
  refine r_aload_n (pc := 2) dX0_worthOf_2 0 rfl rfl ?_
  refine r_iload_n (pc := 3) dX0_worthOf_3 1 rfl rfl ?_
  refine r_iload_n (pc := 4) dX0_worthOf_4 2 rfl rfl ?_
  refine r_callIC (pc := 5) (rest := [vi (0 : Int32), vr a3]) (env' := []) [] rfl (lkV dX0_worthOf_5 q1665 xd_X1_worthOf (vc_of vt_X1_worthOf q1666 (fun _ => sX1_worthOf)) adx_X1_worthOf) (by decide) (Nat.le_of_ble_eq_true rfl) rfl rfl ⟨by decide, by decide⟩ q1619 ⟨rfl, by decide, by decide⟩ h (fun z5 st e5 h => sX0_worthOf_13 _ _ h) (fun x5 st e5 h => ?_)
  refine r_i2l (pc := 8) dX0_worthOf_8 ?_
  refine r_lastore (pc := 9) dX0_worthOf_9 h (fun st e9 h => ?_)
  refine r_goto (pc := 10) (tgt := 17) dX0_worthOf_10 (by decide) ?_
  refine r_iconst (pc := 17) (v := 0) dX0_worthOf_17 (by decide) ?_
  exact r_ireturn (pc := 18) dX0_worthOf_18 rfl rfl h
theorem sX11_init {a0 : Rf} {a1 : Int32} {a2 : Int32} {a3 : Int32} {a4 : Int32} {st : Mem} {fin : Unit × Mem} (h : fX11_init a0 a1 a2 a3 a4 st = some fin) : Con yX11_init 10 [vr a0, vi a1, vi a2, vi a3, vi a4] st trV fin := by
  refine Con.mk (cc := cX11_init) (n := 5) (own := "HouseClaps$Sees") (nm := "<init>") (ret := none) (env := [(0, vr a0), (1, vi a1), (2, vi a2), (3, vi a3), (4, vi a4)]) q935 rfl rfl rfl (by decide) ⟨Nat.le_of_ble_eq_true rfl, by decide⟩ rfl ?_
  unfold fX11_init at h
  refine r_aload_n (pc := 0) dX11_init_0 0 rfl rfl ?_
  refine r_iload_n (pc := 1) dX11_init_1 3 rfl rfl ?_
  refine r_iload (pc := 2) dX11_init_2 4 rfl ?_
  refine r_callV (pc := 4) (rest := []) (lkI dX11_init_4 q936 q937 q938 rfl (fun _ => sX10_init) ad_X10_init) (by decide) (Nat.le_of_ble_eq_true rfl) rfl h (fun u4 st e4 h => ?_)
  refine r_aload_n (pc := 7) dX11_init_7 0 rfl rfl ?_
  refine r_iload_n (pc := 8) dX11_init_8 1 rfl rfl ?_
  refine r_pIF (pc := 9) dX11_init_9 q940 fd_144 same_rf ⟨rfl, rfl⟩ h (fun st e9 h => ?_)
  refine r_aload_n (pc := 12) dX11_init_12 0 rfl rfl ?_
  refine r_iload_n (pc := 13) dX11_init_13 2 rfl rfl ?_
  refine r_pIF (pc := 14) dX11_init_14 q941 fd_145 same_rf ⟨rfl, rfl⟩ h (fun st e14 h => ?_)
  exact r_return_ (pc := 17) dX11_init_17 rfl h
theorem sX11_value {a0 : Rf} {a1 : Rf} {a2 : Int32} {st : Mem} {fin : Int32 × Mem} (h : fX11_value a0 a1 a2 st = some fin) : Con yX11_value 10 [vr a0, vr a1, vi a2] st trI fin := by
  refine Con.mk (cc := cX11_value) (n := 3) (own := "HouseClaps$Sees") (nm := "value") (ret := (some .int)) (env := [(0, vr a0), (1, vr a1), (2, vi a2)]) q1344 rfl rfl rfl (by decide) ⟨Nat.le_of_ble_eq_true rfl, by decide⟩ rfl ?_
  unfold fX11_value at h
  refine r_aload_n (pc := 0) dX11_value_0 1 rfl rfl ?_
  refine r_iload_n (pc := 1) dX11_value_1 2 rfl rfl ?_
  refine r_aload_n (pc := 2) dX11_value_2 0 rfl rfl ?_
  refine r_gI (pc := 3) dX11_value_3 q940 fd_144 same_rf h (fun x3 e3 h => ?_)
  refine r_aload_n (pc := 6) dX11_value_6 0 rfl rfl ?_
  refine r_gI (pc := 7) dX11_value_7 q941 fd_145 same_rf h (fun x7 e7 h => ?_)
  refine r_callI (pc := 10) (rest := []) (lkV dX11_value_10 q1345 xd_X3_perceives (vc_of vt_X3_perceives q1346 (fun _ => sX3_perceives)) adx_X3_perceives) (by decide) (Nat.le_of_ble_eq_true rfl) rfl h (fun x10 st e10 h => ?_)
  exact r_ireturn (pc := 13) dX11_value_13 rfl rfl h
theorem sX12_init {a0 : Rf} {a1 : Int32} {a2 : Int32} {st : Mem} {fin : Unit × Mem} (h : fX12_init a0 a1 a2 st = some fin) : Con yX12_init 10 [vr a0, vi a1, vi a2] st trV fin := by
  refine Con.mk (cc := cX12_init) (n := 3) (own := "HouseClaps$Self") (nm := "<init>") (ret := none) (env := [(0, vr a0), (1, vi a1), (2, vi a2)]) q957 rfl rfl rfl (by decide) ⟨Nat.le_of_ble_eq_true rfl, by decide⟩ rfl ?_
  unfold fX12_init at h
  refine r_aload_n (pc := 0) dX12_init_0 0 rfl rfl ?_
  refine r_iload_n (pc := 1) dX12_init_1 1 rfl rfl ?_
  refine r_iload_n (pc := 2) dX12_init_2 2 rfl rfl ?_
  refine r_callV (pc := 3) (rest := []) (lkI dX12_init_3 q958 q937 q938 rfl (fun _ => sX10_init) ad_X10_init) (by decide) (Nat.le_of_ble_eq_true rfl) rfl h (fun u3 st e3 h => ?_)
  exact r_return_ (pc := 6) dX12_init_6 rfl h
theorem sX13_init {a0 : Rf} {a1 : Int32} {a2 : Int32} {st : Mem} {fin : Unit × Mem} (h : fX13_init a0 a1 a2 st = some fin) : Con yX13_init 10 [vr a0, vi a1, vi a2] st trV fin := by
  refine Con.mk (cc := cX13_init) (n := 3) (own := "HouseClaps$Held") (nm := "<init>") (ret := none) (env := [(0, vr a0), (1, vi a1), (2, vi a2)]) q966 rfl rfl rfl (by decide) ⟨Nat.le_of_ble_eq_true rfl, by decide⟩ rfl ?_
  unfold fX13_init at h
  refine r_aload_n (pc := 0) dX13_init_0 0 rfl rfl ?_
  refine r_iload_n (pc := 1) dX13_init_1 1 rfl rfl ?_
  refine r_iload_n (pc := 2) dX13_init_2 2 rfl rfl ?_
  refine r_callV (pc := 3) (rest := []) (lkI dX13_init_3 q967 q937 q938 rfl (fun _ => sX10_init) ad_X10_init) (by decide) (Nat.le_of_ble_eq_true rfl) rfl h (fun u3 st e3 h => ?_)
  exact r_return_ (pc := 6) dX13_init_6 rfl h
theorem sX15_init {a0 : Rf} {a1 : Rf} {a2 : Rf} {st : Mem} {fin : Unit × Mem} (h : fX15_init a0 a1 a2 st = some fin) : Con yX15_init 10 [vr a0, vr a1, vr a2] st trV fin := by
  refine Con.mk (cc := cX15_init) (n := 3) (own := "HouseClaps$And") (nm := "<init>") (ret := none) (env := [(0, vr a0), (1, vr a1), (2, vr a2)]) q976 rfl rfl rfl (by decide) ⟨Nat.le_of_ble_eq_true rfl, by decide⟩ rfl ?_
  unfold fX15_init at h
  refine r_aload_n (pc := 0) dX15_init_0 0 rfl rfl ?_
  refine r_aload_n (pc := 1) dX15_init_1 1 rfl rfl ?_
  refine r_aload_n (pc := 2) dX15_init_2 2 rfl rfl ?_
  refine r_callV (pc := 3) (rest := []) (lkI dX15_init_3 q977 q978 q979 rfl (fun _ => sX14_init) ad_X14_init) (by decide) (Nat.le_of_ble_eq_true rfl) rfl h (fun u3 st e3 h => ?_)
  exact r_return_ (pc := 6) dX15_init_6 rfl h
theorem sX16_init {a0 : Rf} {a1 : Rf} {a2 : Rf} {st : Mem} {fin : Unit × Mem} (h : fX16_init a0 a1 a2 st = some fin) : Con yX16_init 10 [vr a0, vr a1, vr a2] st trV fin := by
  refine Con.mk (cc := cX16_init) (n := 3) (own := "HouseClaps$Or") (nm := "<init>") (ret := none) (env := [(0, vr a0), (1, vr a1), (2, vr a2)]) q1001 rfl rfl rfl (by decide) ⟨Nat.le_of_ble_eq_true rfl, by decide⟩ rfl ?_
  unfold fX16_init at h
  refine r_aload_n (pc := 0) dX16_init_0 0 rfl rfl ?_
  refine r_aload_n (pc := 1) dX16_init_1 1 rfl rfl ?_
  refine r_aload_n (pc := 2) dX16_init_2 2 rfl rfl ?_
  refine r_callV (pc := 3) (rest := []) (lkI dX16_init_3 q1002 q978 q979 rfl (fun _ => sX14_init) ad_X14_init) (by decide) (Nat.le_of_ble_eq_true rfl) rfl h (fun u3 st e3 h => ?_)
  exact r_return_ (pc := 6) dX16_init_6 rfl h
theorem sX1_count {a0 : Rf} {a1 : Int32} {st : Mem} {fin : Int32 × Mem} (h : fX1_count a0 a1 st = some fin) : Con yX1_count 10 [vr a0, vi a1] st trI fin := by
  refine Con.mk (cc := cX1_count) (n := 2) (own := "HouseClaps") (nm := "count") (ret := (some .int)) (env := [(0, vr a0), (1, vi a1)]) q1615 rfl rfl rfl (by decide) ⟨Nat.le_of_ble_eq_true rfl, by decide⟩ rfl ?_
  unfold fX1_count at h
  refine r_iload_n (pc := 0) dX1_count_0 1 rfl rfl ?_
  refine r_sw (v := 0) h (fun e1 h => ?_) (fun c1_0 h => ?_)
  · refine r_swIn (pc := 1) (tgt := 56) dX1_count_1 e1 (by decide) (by decide) rfl (by decide) ?_
    refine r_aload_n (pc := 56) dX1_count_56 0 rfl rfl ?_
    refine r_gA (pc := 57) dX1_count_57 q318 fd_4 same_rf h (fun x57 e57 h => ?_)
    refine r_gIN (pc := 60) dX1_count_60 q152 fd_28 same_rf h (fun x60 e60 h => ?_)
    exact r_ireturn (pc := 63) dX1_count_63 rfl rfl h
  refine r_sw (v := 1) h (fun e1 h => ?_) (fun c1_1 h => ?_)
  · refine r_swIn (pc := 1) (tgt := 64) dX1_count_1 e1 (by decide) (by decide) rfl (by decide) ?_
    refine r_aload_n (pc := 64) dX1_count_64 0 rfl rfl ?_
    refine r_gA (pc := 65) dX1_count_65 q318 fd_4 same_rf h (fun x65 e65 h => ?_)
    refine r_gIN (pc := 68) dX1_count_68 q157 fd_29 same_rf h (fun x68 e68 h => ?_)
    exact r_ireturn (pc := 71) dX1_count_71 rfl rfl h
  refine r_sw (v := 2) h (fun e1 h => ?_) (fun c1_2 h => ?_)
  · refine r_swIn (pc := 1) (tgt := 72) dX1_count_1 e1 (by decide) (by decide) rfl (by decide) ?_
    refine r_aload_n (pc := 72) dX1_count_72 0 rfl rfl ?_
    refine r_gA (pc := 73) dX1_count_73 q318 fd_4 same_rf h (fun x73 e73 h => ?_)
    refine r_callI (pc := 76) (rest := []) (lkV dX1_count_76 q1536 xd_X2_seats (vc_of vt_X2_seats q1386 (fun _ => sX2_seats)) adx_X2_seats) (by decide) (Nat.le_of_ble_eq_true rfl) rfl h (fun x76 st e76 h => ?_)
    exact r_ireturn (pc := 79) dX1_count_79 rfl rfl h
  refine r_sw (v := 3) h (fun e1 h => ?_) (fun c1_3 h => ?_)
  · refine r_swIn (pc := 1) (tgt := 80) dX1_count_1 e1 (by decide) (by decide) rfl (by decide) ?_
    refine r_aload_n (pc := 80) dX1_count_80 0 rfl rfl ?_
    refine r_gA (pc := 81) dX1_count_81 q318 fd_4 same_rf h (fun x81 e81 h => ?_)
    refine r_gIN (pc := 84) dX1_count_84 q161 fd_30 same_rf h (fun x84 e84 h => ?_)
    exact r_ireturn (pc := 87) dX1_count_87 rfl rfl h
  refine r_sw (v := 4) h (fun e1 h => ?_) (fun c1_4 h => ?_)
  · refine r_swIn (pc := 1) (tgt := 88) dX1_count_1 e1 (by decide) (by decide) rfl (by decide) ?_
    refine r_aload_n (pc := 88) dX1_count_88 0 rfl rfl ?_
    refine r_gA (pc := 89) dX1_count_89 q318 fd_4 same_rf h (fun x89 e89 h => ?_)
    refine r_gIN (pc := 92) dX1_count_92 q165 fd_31 same_rf h (fun x92 e92 h => ?_)
    exact r_ireturn (pc := 95) dX1_count_95 rfl rfl h
  refine r_sw (v := 5) h (fun e1 h => ?_) (fun c1_5 h => ?_)
  · refine r_swIn (pc := 1) (tgt := 96) dX1_count_1 e1 (by decide) (by decide) rfl (by decide) ?_
    refine r_aload_n (pc := 96) dX1_count_96 0 rfl rfl ?_
    refine r_gA (pc := 97) dX1_count_97 q318 fd_4 same_rf h (fun x97 e97 h => ?_)
    refine r_gIN (pc := 100) dX1_count_100 q172 fd_33 same_rf h (fun x100 e100 h => ?_)
    refine r_if_eq (pc := 103) (tgt := 110) dX1_count_103 (by decide) h (fun e103 h => ?_) (fun e103 h => ?_)
    · refine r_iconst (pc := 110) (v := 0) dX1_count_110 (by decide) ?_
      exact r_ireturn (pc := 111) dX1_count_111 rfl rfl h
    · refine r_iconst (pc := 106) (v := 1) dX1_count_106 (by decide) ?_
      refine r_goto (pc := 107) (tgt := 111) dX1_count_107 (by decide) ?_
      exact r_ireturn (pc := 111) dX1_count_111 rfl rfl h
  refine r_sw (v := 6) h (fun e1 h => ?_) (fun c1_6 h => ?_)
  · refine r_swIn (pc := 1) (tgt := 112) dX1_count_1 e1 (by decide) (by decide) rfl (by decide) ?_
    refine r_aload_n (pc := 112) dX1_count_112 0 rfl rfl ?_
    refine r_gJ (pc := 113) dX1_count_113 q319 fd_5 same_rf h (fun x113 e113 h => ?_)
    refine r_callI (pc := 116) (rest := []) (lkS dX1_count_116 q1372 q1351 q126 (fun _ => sJ18_bitCount) ad_J18_bitCount) (by decide) (Nat.le_of_ble_eq_true rfl) rfl h (fun x116 st e116 h => ?_)
    exact r_ireturn (pc := 119) dX1_count_119 rfl rfl h
  refine r_sw (v := 7) h (fun e1 h => ?_) (fun c1_7 h => ?_)
  · refine r_swIn (pc := 1) (tgt := 120) dX1_count_1 e1 (by decide) (by decide) rfl (by decide) ?_
    refine r_aload_n (pc := 120) dX1_count_120 0 rfl rfl ?_
    refine r_gJ (pc := 121) dX1_count_121 q320 fd_6 same_rf h (fun x121 e121 h => ?_)
    refine r_callI (pc := 124) (rest := []) (lkS dX1_count_124 q1372 q1351 q126 (fun _ => sJ18_bitCount) ad_J18_bitCount) (by decide) (Nat.le_of_ble_eq_true rfl) rfl h (fun x124 st e124 h => ?_)
    exact r_ireturn (pc := 127) dX1_count_127 rfl rfl h
  refine r_sw (v := 8) h (fun e1 h => ?_) (fun c1_8 h => ?_)
  · refine r_swIn (pc := 1) (tgt := 128) dX1_count_1 e1 (by decide) (by decide) rfl (by decide) ?_
    refine r_aload_n (pc := 128) dX1_count_128 0 rfl rfl ?_
    refine r_gI (pc := 129) dX1_count_129 q316 fd_2 same_rf h (fun x129 e129 h => ?_)
    exact r_ireturn (pc := 132) dX1_count_132 rfl rfl h
  refine r_sw (v := 9) h (fun e1 h => ?_) (fun c1_9 h => ?_)
  · refine r_swIn (pc := 1) (tgt := 133) dX1_count_1 e1 (by decide) (by decide) rfl (by decide) ?_
    refine r_aload_n (pc := 133) dX1_count_133 0 rfl rfl ?_
    refine r_gA (pc := 134) dX1_count_134 q321 fd_7 same_rf h (fun x134 e134 h => ?_)
    refine r_callI (pc := 137) (rest := []) (lkV dX1_count_137 q1233 xd_J3_size (vc_of vt_J3_size q1115 (fun _ => sJ3_size)) adx_J3_size) (by decide) (Nat.le_of_ble_eq_true rfl) rfl h (fun x137 st e137 h => ?_)
    exact r_ireturn (pc := 140) dX1_count_140 rfl rfl h
  refine r_swOut (pc := 1) (tgt := 141) dX1_count_1 (sw_cons c1_0 (sw_cons c1_1 (sw_cons c1_2 (sw_cons c1_3 (sw_cons c1_4 (sw_cons c1_5 (sw_cons c1_6 (sw_cons c1_7 (sw_cons c1_8 (sw_cons c1_9 (sw_nil))))))))))) (by decide) (by decide) ?_
  refine r_iconst (pc := 141) (v := (-1)) dX1_count_141 (by decide) ?_
  exact r_ireturn (pc := 142) dX1_count_142 rfl rfl h
theorem sX1_drawn_104 {st0 : Mem} {fin : Int32 × Mem} {kk32 : Rf → Int32 → Int32 → Int32 → Mem → Option (Int32 × Mem)} {kk48 : Rf → Int32 → Int32 → Int32 → Int32 → Int32 → Mem → Option (Int32 × Mem)} (hk32 : ∀ (v0 : Rf) (v1 : Int32) (v3 : Int32) (v4 : Int32) (st : Mem), kk32 v0 v1 v3 v4 st = some fin → G (cX1_drawn, "HouseClaps", "drawn", 10, (some .boolean), 7) st0 trI fin 32 [(0, vr v0), (1, vi v1), (3, vi v3), (4, vi v4)] [] st) (hk48 : ∀ (v0 : Rf) (v1 : Int32) (v3 : Int32) (v4 : Int32) (v5 : Int32) (v6 : Int32) (st : Mem), kk48 v0 v1 v3 v4 v5 v6 st = some fin → G (cX1_drawn, "HouseClaps", "drawn", 10, (some .boolean), 7) st0 trI fin 48 [(0, vr v0), (1, vi v1), (3, vi v3), (4, vi v4), (5, vi v5), (6, vi v6)] [] st) (v0 : Rf) (v1 : Int32) (v3 : Int32) (v4 : Int32) (v5 : Int32) (v6 : Int32) (st : Mem) (h : bX1_drawn_104 kk32 kk48 v0 v1 v3 v4 v5 v6 st = some fin) : G (cX1_drawn, "HouseClaps", "drawn", 10, (some .boolean), 7) st0 trI fin 104 [(0, vr v0), (1, vi v1), (3, vi v3), (4, vi v4), (5, vi v5), (6, vi v6)] [] st := by
  unfold bX1_drawn_104 at h
  refine r_iinc (pc := 104) (env' := [(6, vi (v6 + 1)), (0, vr v0), (1, vi v1), (3, vi v3), (4, vi v4), (5, vi v5)]) (cst := 1) dX1_drawn_104 5 rfl (by decide) (by decide) rfl ?_
  refine r_goto (pc := 107) (tgt := 48) dX1_drawn_107 (by decide) ?_
  exact r_sub (env' := [(0, vr v0), (1, vi v1), (3, vi v3), (4, vi v4), (5, vi v5), (6, vi (v6 + 1))]) [1, 2, 3, 4, 5, 0] rfl (hk48 _ _ _ _ _ _ _ h)
theorem sX1_drawn_77 {st0 : Mem} {fin : Int32 × Mem} {kk32 : Rf → Int32 → Int32 → Int32 → Mem → Option (Int32 × Mem)} {kk48 : Rf → Int32 → Int32 → Int32 → Int32 → Int32 → Mem → Option (Int32 × Mem)} (hk32 : ∀ (v0 : Rf) (v1 : Int32) (v3 : Int32) (v4 : Int32) (st : Mem), kk32 v0 v1 v3 v4 st = some fin → G (cX1_drawn, "HouseClaps", "drawn", 10, (some .boolean), 7) st0 trI fin 32 [(0, vr v0), (1, vi v1), (3, vi v3), (4, vi v4)] [] st) (hk48 : ∀ (v0 : Rf) (v1 : Int32) (v3 : Int32) (v4 : Int32) (v5 : Int32) (v6 : Int32) (st : Mem), kk48 v0 v1 v3 v4 v5 v6 st = some fin → G (cX1_drawn, "HouseClaps", "drawn", 10, (some .boolean), 7) st0 trI fin 48 [(0, vr v0), (1, vi v1), (3, vi v3), (4, vi v4), (5, vi v5), (6, vi v6)] [] st) (v0 : Rf) (v1 : Int32) (v3 : Int32) (v4 : Int32) (v5 : Int32) (v6 : Int32) (st : Mem) (h : bX1_drawn_77 kk32 kk48 v0 v1 v3 v4 v5 v6 st = some fin) : G (cX1_drawn, "HouseClaps", "drawn", 10, (some .boolean), 7) st0 trI fin 77 [(0, vr v0), (1, vi v1), (3, vi v3), (4, vi v4), (5, vi v5), (6, vi v6)] [] st := by
  unfold bX1_drawn_77 at h
  refine r_aload_n (pc := 77) dX1_drawn_77 0 rfl rfl ?_
  refine r_gA (pc := 78) dX1_drawn_78 q318 fd_4 same_rf h (fun x78 e78 h => ?_)
  refine r_iload (pc := 81) dX1_drawn_81 5 rfl ?_
  refine r_callI (pc := 83) (rest := []) (lkV dX1_drawn_83 q1060 xd_X2_isSeat (vc_of vt_X2_isSeat q1061 (fun _ => sX2_isSeat)) adx_X2_isSeat) (by decide) (Nat.le_of_ble_eq_true rfl) rfl h (fun x83 st e83 h => ?_)
  refine r_if_eq (pc := 86) (tgt := 104) dX1_drawn_86 (by decide) h (fun e86 h => ?_) (fun e86 h => ?_)
  · exact sX1_drawn_104 hk32 hk48 _ _ _ _ _ _ _ h
  · refine r_aload_n (pc := 89) dX1_drawn_89 0 rfl rfl ?_
    refine r_gJ (pc := 90) dX1_drawn_90 q319 fd_5 same_rf h (fun x90 e90 h => ?_)
    refine r_iload (pc := 93) dX1_drawn_93 5 rfl ?_
    refine r_callI (pc := 95) (rest := []) (lkS dX1_drawn_95 q1478 q1304 q85 (fun _ => sX1_has_2) ad_X1_has_2) (by decide) (Nat.le_of_ble_eq_true rfl) rfl h (fun x95 st e95 h => ?_)
    refine r_if_ne (pc := 98) (tgt := 104) dX1_drawn_98 (by decide) h (fun e98 h => ?_) (fun e98 h => ?_)
    · exact sX1_drawn_104 hk32 hk48 _ _ _ _ _ _ _ h
    · refine r_iinc (pc := 101) (env' := [(5, vi (v5 + (-1))), (0, vr v0), (1, vi v1), (3, vi v3), (4, vi v4), (6, vi v6)]) (cst := (-1)) dX1_drawn_101 4 rfl (by decide) (by decide) rfl ?_
      exact r_sub (env' := [(0, vr v0), (1, vi v1), (3, vi v3), (4, vi v4), (5, vi (v5 + (-1))), (6, vi v6)]) [1, 2, 3, 4, 0, 5] rfl (sX1_drawn_104 hk32 hk48 _ _ _ _ _ _ _ h)
theorem sX1_drawn_48B {st0 : Mem} {fin : Int32 × Mem} {kk32 : Rf → Int32 → Int32 → Int32 → Mem → Option (Int32 × Mem)} {kk48 : Rf → Int32 → Int32 → Int32 → Int32 → Int32 → Mem → Option (Int32 × Mem)} (hk32 : ∀ (v0 : Rf) (v1 : Int32) (v3 : Int32) (v4 : Int32) (st : Mem), kk32 v0 v1 v3 v4 st = some fin → G (cX1_drawn, "HouseClaps", "drawn", 10, (some .boolean), 7) st0 trI fin 32 [(0, vr v0), (1, vi v1), (3, vi v3), (4, vi v4)] [] st) (hk48 : ∀ (v0 : Rf) (v1 : Int32) (v3 : Int32) (v4 : Int32) (v5 : Int32) (v6 : Int32) (st : Mem), kk48 v0 v1 v3 v4 v5 v6 st = some fin → G (cX1_drawn, "HouseClaps", "drawn", 10, (some .boolean), 7) st0 trI fin 48 [(0, vr v0), (1, vi v1), (3, vi v3), (4, vi v4), (5, vi v5), (6, vi v6)] [] st) (v0 : Rf) (v1 : Int32) (v3 : Int32) (v4 : Int32) (v5 : Int32) (v6 : Int32) (st : Mem) (h : bX1_drawn_48B kk32 kk48 v0 v1 v3 v4 v5 v6 st = some fin) : G (cX1_drawn, "HouseClaps", "drawn", 10, (some .boolean), 7) st0 trI fin 48 [(0, vr v0), (1, vi v1), (3, vi v3), (4, vi v4), (5, vi v5), (6, vi v6)] [] st := by
  unfold bX1_drawn_48B at h
  refine r_aload_n (pc := 48) dX1_drawn_48 0 rfl rfl ?_
  refine r_gA (pc := 49) dX1_drawn_49 q318 fd_4 same_rf h (fun x49 e49 h => ?_)
  refine r_iload (pc := 52) dX1_drawn_52 5 rfl ?_
  refine r_callI (pc := 54) (rest := []) (lkV dX1_drawn_54 q1060 xd_X2_isSeat (vc_of vt_X2_isSeat q1061 (fun _ => sX2_isSeat)) adx_X2_isSeat) (by decide) (Nat.le_of_ble_eq_true rfl) rfl h (fun x54 st e54 h => ?_)
  refine r_if_eq (pc := 57) (tgt := 77) dX1_drawn_57 (by decide) h (fun e57 h => ?_) (fun e57 h => ?_)
  · exact sX1_drawn_77 hk32 hk48 _ _ _ _ _ _ _ h
  · refine r_aload_n (pc := 60) dX1_drawn_60 0 rfl rfl ?_
    refine r_gJ (pc := 61) dX1_drawn_61 q319 fd_5 same_rf h (fun x61 e61 h => ?_)
    refine r_iload (pc := 64) dX1_drawn_64 5 rfl ?_
    refine r_callI (pc := 66) (rest := []) (lkS dX1_drawn_66 q1478 q1304 q85 (fun _ => sX1_has_2) ad_X1_has_2) (by decide) (Nat.le_of_ble_eq_true rfl) rfl h (fun x66 st e66 h => ?_)
    refine r_if_ne (pc := 69) (tgt := 77) dX1_drawn_69 (by decide) h (fun e69 h => ?_) (fun e69 h => ?_)
    · exact sX1_drawn_77 hk32 hk48 _ _ _ _ _ _ _ h
    · refine r_iload (pc := 72) dX1_drawn_72 4 rfl ?_
      refine r_if_le (pc := 74) (tgt := 110) dX1_drawn_74 (by decide) h (fun e74 h => ?_) (fun e74 h => ?_)
      · refine r_aload_n (pc := 110) dX1_drawn_110 0 rfl rfl ?_
        refine r_dup (pc := 111) dX1_drawn_111 rfl ?_
        refine r_gJ (pc := 112) dX1_drawn_112 q319 fd_5 same_rf h (fun x112 e112 h => ?_)
        refine r_lconst (pc := 115) (v := 1) dX1_drawn_115 (by decide) ?_
        refine r_iload (pc := 116) dX1_drawn_116 5 rfl ?_
        refine r_lshl (pc := 118) dX1_drawn_118 ?_
        refine r_lor (pc := 119) dX1_drawn_119 ?_
        refine r_pJ (pc := 120) dX1_drawn_120 q319 fd_5 same_rf rfl h (fun st e120 h => ?_)
        refine r_iinc (pc := 123) (env' := [(3, vi (v3 + (-1))), (0, vr v0), (1, vi v1), (4, vi v4), (5, vi v5), (6, vi v6)]) (cst := (-1)) dX1_drawn_123 2 rfl (by decide) (by decide) rfl ?_
        refine r_iinc (pc := 126) (env' := [(4, vi (v4 + 1)), (3, vi (v3 + (-1))), (0, vr v0), (1, vi v1), (5, vi v5), (6, vi v6)]) (cst := 1) dX1_drawn_126 3 rfl (by decide) (by decide) rfl ?_
        refine r_goto (pc := 129) (tgt := 32) dX1_drawn_129 (by decide) ?_
        exact r_sub (env' := [(0, vr v0), (1, vi v1), (3, vi (v3 + (-1))), (4, vi (v4 + 1))]) [2, 3, 1, 0] rfl (hk32 _ _ _ _ _ h)
      · exact sX1_drawn_77 hk32 hk48 _ _ _ _ _ _ _ h
theorem sX1_drawn_48 {st0 : Mem} {fin : Int32 × Mem} {kk32 : Rf → Int32 → Int32 → Int32 → Mem → Option (Int32 × Mem)} (hk32 : ∀ (v0 : Rf) (v1 : Int32) (v3 : Int32) (v4 : Int32) (st : Mem), kk32 v0 v1 v3 v4 st = some fin → G (cX1_drawn, "HouseClaps", "drawn", 10, (some .boolean), 7) st0 trI fin 32 [(0, vr v0), (1, vi v1), (3, vi v3), (4, vi v4)] [] st) (n : Nat) : ∀ (v0 : Rf) (v1 : Int32) (v3 : Int32) (v4 : Int32) (v5 : Int32) (v6 : Int32) (st : Mem), bX1_drawn_48 kk32 n v0 v1 v3 v4 v5 v6 st = some fin → G (cX1_drawn, "HouseClaps", "drawn", 10, (some .boolean), 7) st0 trI fin 48 [(0, vr v0), (1, vi v1), (3, vi v3), (4, vi v4), (5, vi v5), (6, vi v6)] [] st := by
  induction n with
  | zero => intro v0 v1 v3 v4 v5 v6 st h; cases h
  | succ n ih => intro v0 v1 v3 v4 v5 v6 st h; exact sX1_drawn_48B hk32  ih v0 v1 v3 v4 v5 v6 st h
theorem sX1_drawn_32B {st0 : Mem} {fin : Int32 × Mem} {kk32 : Rf → Int32 → Int32 → Int32 → Mem → Option (Int32 × Mem)} (hk32 : ∀ (v0 : Rf) (v1 : Int32) (v3 : Int32) (v4 : Int32) (st : Mem), kk32 v0 v1 v3 v4 st = some fin → G (cX1_drawn, "HouseClaps", "drawn", 10, (some .boolean), 7) st0 trI fin 32 [(0, vr v0), (1, vi v1), (3, vi v3), (4, vi v4)] [] st) (v0 : Rf) (v1 : Int32) (v3 : Int32) (v4 : Int32) (st : Mem) (h : bX1_drawn_32B kk32 v0 v1 v3 v4 st = some fin) : G (cX1_drawn, "HouseClaps", "drawn", 10, (some .boolean), 7) st0 trI fin 32 [(0, vr v0), (1, vi v1), (3, vi v3), (4, vi v4)] [] st := by
  unfold bX1_drawn_32B at h
  refine r_iload (pc := 32) dX1_drawn_32 3 rfl ?_
  refine r_iload_n (pc := 34) dX1_drawn_34 1 rfl rfl ?_
  refine r_icmp_ge (pc := 35) (tgt := 132) dX1_drawn_35 (by decide) h (fun e35 h => ?_) (fun e35 h => ?_)
  · refine r_iconst (pc := 132) (v := 1) dX1_drawn_132 (by decide) ?_
    exact r_ireturn (pc := 133) dX1_drawn_133 rfl rfl h
  · refine r_aload_n (pc := 38) dX1_drawn_38 0 rfl rfl ?_
    refine r_iload_n (pc := 39) dX1_drawn_39 2 rfl rfl ?_
    refine r_callI (pc := 40) (rest := []) (lkV dX1_drawn_40 q1582 xd_X1_draw (vc_of vt_X1_draw q1584 (fun _ => sX1_draw)) adx_X1_draw) (by decide) (Nat.le_of_ble_eq_true rfl) rfl h (fun x40 st e40 h => ?_)
    refine r_istore (pc := 43) (env' := [(5, vi x40), (0, vr v0), (1, vi v1), (3, vi v3), (4, vi v4)]) dX1_drawn_43 (by decide) rfl ?_
    refine r_iconst (pc := 45) (v := 0) dX1_drawn_45 (by decide) ?_
    refine r_istore (pc := 46) (env' := [(6, vi (0 : Int32)), (5, vi x40), (0, vr v0), (1, vi v1), (3, vi v3), (4, vi v4)]) dX1_drawn_46 (by decide) rfl ?_
    exact r_sub (env' := [(0, vr v0), (1, vi v1), (3, vi v3), (4, vi v4), (5, vi x40), (6, vi (0 : Int32))]) [2, 3, 4, 5, 1, 0] rfl (sX1_drawn_48 hk32 hcFuel _ _ _ _ _ _ _ h)
theorem sX1_drawn_32 {st0 : Mem} {fin : Int32 × Mem} (n : Nat) : ∀ (v0 : Rf) (v1 : Int32) (v3 : Int32) (v4 : Int32) (st : Mem), bX1_drawn_32 n v0 v1 v3 v4 st = some fin → G (cX1_drawn, "HouseClaps", "drawn", 10, (some .boolean), 7) st0 trI fin 32 [(0, vr v0), (1, vi v1), (3, vi v3), (4, vi v4)] [] st := by
  induction n with
  | zero => intro v0 v1 v3 v4 st h; cases h
  | succ n ih => intro v0 v1 v3 v4 st h; exact sX1_drawn_32B  ih v0 v1 v3 v4 st h
theorem sX1_drawn {a0 : Rf} {a1 : Int32} {a2 : Int32} {st : Mem} {fin : Int32 × Mem} (h : fX1_drawn a0 a1 a2 st = some fin) : Con yX1_drawn 10 [vr a0, vi a1, vi a2] st trI fin := by
  refine Con.mk (cc := cX1_drawn) (n := 7) (own := "HouseClaps") (nm := "drawn") (ret := (some .boolean)) (env := [(0, vr a0), (1, vi a1), (2, vi a2)]) q1581 rfl rfl rfl (by decide) ⟨Nat.le_of_ble_eq_true rfl, by decide⟩ rfl ?_
  unfold fX1_drawn at h
  refine r_aload_n (pc := 0) dX1_drawn_0 0 rfl rfl ?_
  refine r_gA (pc := 1) dX1_drawn_1 q318 fd_4 same_rf h (fun x1 e1 h => ?_)
  refine r_callI (pc := 4) (rest := []) (lkV dX1_drawn_4 q1536 xd_X2_seats (vc_of vt_X2_seats q1386 (fun _ => sX2_seats)) adx_X2_seats) (by decide) (Nat.le_of_ble_eq_true rfl) rfl h (fun x4 st e4 h => ?_)
  refine r_istore_n (pc := 7) (env' := [(3, vi x4), (0, vr a0), (1, vi a1), (2, vi a2)]) dX1_drawn_7 rfl (by decide) rfl ?_
  refine r_iload_n (pc := 8) dX1_drawn_8 2 rfl rfl ?_
  refine r_iconst (pc := 9) (v := 1) dX1_drawn_9 (by decide) ?_
  refine r_iload_n (pc := 10) dX1_drawn_10 0 rfl rfl ?_
  refine r_callI (pc := 11) (rest := []) (lkS dX1_drawn_11 q1055 q928 q85 (fun _ => sX1_isIn) ad_X1_isIn) (by decide) (Nat.le_of_ble_eq_true rfl) rfl h (fun x11 st e11 h => ?_)
  refine r_if_ne (pc := 14) (tgt := 19) dX1_drawn_14 (by decide) h (fun e14 h => ?_) (fun e14 h => ?_)
  · refine r_aload_n (pc := 19) dX1_drawn_19 1 rfl rfl ?_
    refine r_iload_n (pc := 20) dX1_drawn_20 3 rfl rfl ?_
    refine r_pI (pc := 21) dX1_drawn_21 q336 fd_22 same_rf rfl h (fun st e21 h => ?_)
    refine r_aload_n (pc := 24) dX1_drawn_24 1 rfl rfl ?_
    refine r_lconst (pc := 25) (v := 0) dX1_drawn_25 (by decide) ?_
    refine r_pJ (pc := 26) dX1_drawn_26 q319 fd_5 same_rf rfl h (fun st e26 h => ?_)
    refine r_iconst (pc := 29) (v := 0) dX1_drawn_29 (by decide) ?_
    refine r_istore (pc := 30) (env' := [(4, vi (0 : Int32)), (3, vi x4), (0, vr a0), (1, vi a1), (2, vi a2)]) dX1_drawn_30 (by decide) rfl ?_
    exact r_sub (env' := [(0, vr a0), (1, vi a1), (3, vi x4), (4, vi (0 : Int32))]) [2, 3, 1, 0] rfl (sX1_drawn_32 hcFuel _ _ _ _ _ h)
  · refine r_iconst (pc := 17) (v := 0) dX1_drawn_17 (by decide) ?_
    exact r_ireturn (pc := 18) dX1_drawn_18 rfl rfl h
theorem sX1_hiss {a0 : Rf} {a1 : Int32} {a2 : Int32} {st : Mem} {fin : Int32 × Mem} (h : fX1_hiss a0 a1 a2 st = some fin) : Con yX1_hiss 10 [vr a0, vi a1, vi a2] st trI fin := by
  refine Con.mk (cc := cX1_hiss) (n := 3) (own := "HouseClaps") (nm := "hiss") (ret := (some .boolean)) (env := [(0, vr a0), (1, vi a1), (2, vi a2)]) q1071 rfl rfl rfl (by decide) ⟨Nat.le_of_ble_eq_true rfl, by decide⟩ rfl ?_
  unfold fX1_hiss at h
  refine r_aload_n (pc := 0) dX1_hiss_0 0 rfl rfl ?_
  refine r_gA (pc := 1) dX1_hiss_1 q318 fd_4 same_rf h (fun x1 e1 h => ?_)
  refine r_iload_n (pc := 4) dX1_hiss_4 1 rfl rfl ?_
  refine r_callI (pc := 5) (rest := []) (lkV dX1_hiss_5 q1060 xd_X2_isSeat (vc_of vt_X2_isSeat q1061 (fun _ => sX2_isSeat)) adx_X2_isSeat) (by decide) (Nat.le_of_ble_eq_true rfl) rfl h (fun x5 st e5 h => ?_)
  refine r_if_eq (pc := 8) (tgt := 20) dX1_hiss_8 (by decide) h (fun e8 h => ?_) (fun e8 h => ?_)
  · refine r_iconst (pc := 20) (v := 0) dX1_hiss_20 (by decide) ?_
    exact r_ireturn (pc := 21) dX1_hiss_21 rfl rfl h
  · refine r_iload_n (pc := 11) dX1_hiss_11 2 rfl rfl ?_
    refine r_iconst (pc := 12) (v := 0) dX1_hiss_12 (by decide) ?_
    refine r_iconst (pc := 13) (v := 1) dX1_hiss_13 (by decide) ?_
    refine r_callI (pc := 14) (rest := []) (lkS dX1_hiss_14 q1055 q928 q85 (fun _ => sX1_isIn) ad_X1_isIn) (by decide) (Nat.le_of_ble_eq_true rfl) rfl h (fun x14 st e14 h => ?_)
    refine r_if_ne (pc := 17) (tgt := 22) dX1_hiss_17 (by decide) h (fun e17 h => ?_) (fun e17 h => ?_)
    · refine r_aload_n (pc := 22) dX1_hiss_22 0 rfl rfl ?_
      refine r_aload_n (pc := 23) dX1_hiss_23 0 rfl rfl ?_
      refine r_gJ (pc := 24) dX1_hiss_24 q320 fd_6 same_rf h (fun x24 e24 h => ?_)
      refine r_iload_n (pc := 27) dX1_hiss_27 1 rfl rfl ?_
      refine r_iload_n (pc := 28) dX1_hiss_28 2 rfl rfl ?_
      refine r_callJ (pc := 29) (rest := [vr a0]) (lkS dX1_hiss_29 q1064 q1065 q85 (fun _ => sX1_with) ad_X1_with) (by decide) (Nat.le_of_ble_eq_true rfl) rfl h (fun x29 st e29 h => ?_)
      refine r_pJ (pc := 32) dX1_hiss_32 q320 fd_6 same_rf rfl h (fun st e32 h => ?_)
      refine r_iconst (pc := 35) (v := 1) dX1_hiss_35 (by decide) ?_
      exact r_ireturn (pc := 36) dX1_hiss_36 rfl rfl h
    · refine r_iconst (pc := 20) (v := 0) dX1_hiss_20 (by decide) ?_
      exact r_ireturn (pc := 21) dX1_hiss_21 rfl rfl h
theorem sX1_pay {a0 : Rf} {a1 : Int32} {a2 : Int32} {st : Mem} {fin : Int32 × Mem} (h : fX1_pay a0 a1 a2 st = some fin) : Con yX1_pay 10 [vr a0, vi a1, vi a2] st trI fin := by
  refine Con.mk (cc := cX1_pay) (n := 3) (own := "HouseClaps") (nm := "pay") (ret := (some .boolean)) (env := [(0, vr a0), (1, vi a1), (2, vi a2)]) q1059 rfl rfl rfl (by decide) ⟨Nat.le_of_ble_eq_true rfl, by decide⟩ rfl ?_
  unfold fX1_pay at h
  refine r_aload_n (pc := 0) dX1_pay_0 0 rfl rfl ?_
  refine r_gA (pc := 1) dX1_pay_1 q318 fd_4 same_rf h (fun x1 e1 h => ?_)
  refine r_iload_n (pc := 4) dX1_pay_4 1 rfl rfl ?_
  refine r_callI (pc := 5) (rest := []) (lkV dX1_pay_5 q1060 xd_X2_isSeat (vc_of vt_X2_isSeat q1061 (fun _ => sX2_isSeat)) adx_X2_isSeat) (by decide) (Nat.le_of_ble_eq_true rfl) rfl h (fun x5 st e5 h => ?_)
  refine r_if_eq (pc := 8) (tgt := 20) dX1_pay_8 (by decide) h (fun e8 h => ?_) (fun e8 h => ?_)
  · refine r_iconst (pc := 20) (v := 0) dX1_pay_20 (by decide) ?_
    exact r_ireturn (pc := 21) dX1_pay_21 rfl rfl h
  · refine r_iload_n (pc := 11) dX1_pay_11 2 rfl rfl ?_
    refine r_iconst (pc := 12) (v := 0) dX1_pay_12 (by decide) ?_
    refine r_iconst (pc := 13) (v := 1) dX1_pay_13 (by decide) ?_
    refine r_callI (pc := 14) (rest := []) (lkS dX1_pay_14 q1055 q928 q85 (fun _ => sX1_isIn) ad_X1_isIn) (by decide) (Nat.le_of_ble_eq_true rfl) rfl h (fun x14 st e14 h => ?_)
    refine r_if_ne (pc := 17) (tgt := 22) dX1_pay_17 (by decide) h (fun e17 h => ?_) (fun e17 h => ?_)
    · refine r_aload_n (pc := 22) dX1_pay_22 0 rfl rfl ?_
      refine r_aload_n (pc := 23) dX1_pay_23 0 rfl rfl ?_
      refine r_gJ (pc := 24) dX1_pay_24 q319 fd_5 same_rf h (fun x24 e24 h => ?_)
      refine r_iload_n (pc := 27) dX1_pay_27 1 rfl rfl ?_
      refine r_iload_n (pc := 28) dX1_pay_28 2 rfl rfl ?_
      refine r_callJ (pc := 29) (rest := [vr a0]) (lkS dX1_pay_29 q1064 q1065 q85 (fun _ => sX1_with) ad_X1_with) (by decide) (Nat.le_of_ble_eq_true rfl) rfl h (fun x29 st e29 h => ?_)
      refine r_pJ (pc := 32) dX1_pay_32 q319 fd_5 same_rf rfl h (fun st e32 h => ?_)
      refine r_iconst (pc := 35) (v := 1) dX1_pay_35 (by decide) ?_
      exact r_ireturn (pc := 36) dX1_pay_36 rfl rfl h
    · refine r_iconst (pc := 20) (v := 0) dX1_pay_20 (by decide) ?_
      exact r_ireturn (pc := 21) dX1_pay_21 rfl rfl h
theorem sX1_seat_25 {st0 : Mem} {fin : (Int32 ⊕ Nat) × Mem} (v0 : Rf) (v1 : Int32) (v2 : Int32) (k0 : Int32) (st : Mem) (h : bX1_seat_25 v0 v1 v2 k0 st = some fin) : G (cX1_seat, "HouseClaps", "seat", 10, (some .int), 3) st0 trIx fin 25 [(0, vr v0), (1, vi v1), (2, vi v2)] [vi k0] st := by
  unfold bX1_seat_25 at h
  refine r_callVx (pc := 25) (rest := []) (lkS dX1_seat_25 q1624 q1625 q85 (fun _ => sX1_need) ad_X1_need) (by decide) (Nat.le_of_ble_eq_true rfl) rfl (by decide) (fun _ => rfl) h (fun u25 st e25 h => ?_)
  refine r_iload_n (pc := 28) dX1_seat_28 2 rfl rfl ?_
  refine r_sw (v := 0) h (fun e29 h => ?_) (fun c29_0 h => ?_)
  · refine r_swIn (pc := 29) (tgt := 60) dX1_seat_29 e29 (by decide) (by decide) rfl (by decide) ?_
    refine r_aload_n (pc := 60) dX1_seat_60 0 rfl rfl ?_
    refine r_gA (pc := 61) dX1_seat_61 q318 fd_4 same_rf h (fun x61 e61 h => ?_)
    refine r_gAN (pc := 64) dX1_seat_64 q176 fd_34 same_rf h (fun x64 e64 h => ?_)
    refine r_iload_n (pc := 67) dX1_seat_67 1 rfl rfl ?_
    refine r_iaload (pc := 68) dX1_seat_68 h (fun x68 e68 h => ?_)
    exact r_ireturn (pc := 69) dX1_seat_69 rfl rfl h
  refine r_sw (v := 1) h (fun e29 h => ?_) (fun c29_1 h => ?_)
  · refine r_swIn (pc := 29) (tgt := 70) dX1_seat_29 e29 (by decide) (by decide) rfl (by decide) ?_
    refine r_aload_n (pc := 70) dX1_seat_70 0 rfl rfl ?_
    refine r_gA (pc := 71) dX1_seat_71 q318 fd_4 same_rf h (fun x71 e71 h => ?_)
    refine r_gAN (pc := 74) dX1_seat_74 q179 fd_35 same_rf h (fun x74 e74 h => ?_)
    refine r_aload_n (pc := 77) dX1_seat_77 0 rfl rfl ?_
    refine r_gA (pc := 78) dX1_seat_78 q318 fd_4 same_rf h (fun x78 e78 h => ?_)
    refine r_iload_n (pc := 81) dX1_seat_81 1 rfl rfl ?_
    refine r_callI (pc := 82) (rest := [vr x74]) (lkV dX1_seat_82 q1484 xd_X2_row (vc_of vt_X2_row q1300 (fun _ => sX2_row)) adx_X2_row) (by decide) (Nat.le_of_ble_eq_true rfl) rfl h (fun x82 st e82 h => ?_)
    refine r_iaload (pc := 85) dX1_seat_85 h (fun x85 e85 h => ?_)
    exact r_ireturn (pc := 86) dX1_seat_86 rfl rfl h
  refine r_sw (v := 2) h (fun e29 h => ?_) (fun c29_2 h => ?_)
  · refine r_swIn (pc := 29) (tgt := 87) dX1_seat_29 e29 (by decide) (by decide) rfl (by decide) ?_
    refine r_aload_n (pc := 87) dX1_seat_87 0 rfl rfl ?_
    refine r_gA (pc := 88) dX1_seat_88 q318 fd_4 same_rf h (fun x88 e88 h => ?_)
    refine r_gAN (pc := 91) dX1_seat_91 q183 fd_36 same_rf h (fun x91 e91 h => ?_)
    refine r_aload_n (pc := 94) dX1_seat_94 0 rfl rfl ?_
    refine r_gA (pc := 95) dX1_seat_95 q318 fd_4 same_rf h (fun x95 e95 h => ?_)
    refine r_iload_n (pc := 98) dX1_seat_98 1 rfl rfl ?_
    refine r_callI (pc := 99) (rest := [vr x91]) (lkV dX1_seat_99 q1484 xd_X2_row (vc_of vt_X2_row q1300 (fun _ => sX2_row)) adx_X2_row) (by decide) (Nat.le_of_ble_eq_true rfl) rfl h (fun x99 st e99 h => ?_)
    refine r_iaload (pc := 102) dX1_seat_102 h (fun x102 e102 h => ?_)
    exact r_ireturn (pc := 103) dX1_seat_103 rfl rfl h
  refine r_sw (v := 3) h (fun e29 h => ?_) (fun c29_3 h => ?_)
  · refine r_swIn (pc := 29) (tgt := 104) dX1_seat_29 e29 (by decide) (by decide) rfl (by decide) ?_
    refine r_aload_n (pc := 104) dX1_seat_104 0 rfl rfl ?_
    refine r_gJ (pc := 105) dX1_seat_105 q319 fd_5 same_rf h (fun x105 e105 h => ?_)
    refine r_iload_n (pc := 108) dX1_seat_108 1 rfl rfl ?_
    refine r_callI (pc := 109) (rest := []) (lkS dX1_seat_109 q1478 q1304 q85 (fun _ => sX1_has_2) ad_X1_has_2) (by decide) (Nat.le_of_ble_eq_true rfl) rfl h (fun x109 st e109 h => ?_)
    refine r_if_eq (pc := 112) (tgt := 119) dX1_seat_112 (by decide) h (fun e112 h => ?_) (fun e112 h => ?_)
    · refine r_iconst (pc := 119) (v := 0) dX1_seat_119 (by decide) ?_
      exact r_ireturn (pc := 120) dX1_seat_120 rfl rfl h
    · refine r_iconst (pc := 115) (v := 1) dX1_seat_115 (by decide) ?_
      refine r_goto (pc := 116) (tgt := 120) dX1_seat_116 (by decide) ?_
      exact r_ireturn (pc := 120) dX1_seat_120 rfl rfl h
  refine r_swOut (pc := 29) (tgt := 121) dX1_seat_29 (sw_cons c29_0 (sw_cons c29_1 (sw_cons c29_2 (sw_cons c29_3 (sw_nil))))) (by decide) (by decide) ?_
  refine r_aload_n (pc := 121) dX1_seat_121 0 rfl rfl ?_
  refine r_gJ (pc := 122) dX1_seat_122 q320 fd_6 same_rf h (fun x122 e122 h => ?_)
  refine r_iload_n (pc := 125) dX1_seat_125 1 rfl rfl ?_
  refine r_callI (pc := 126) (rest := []) (lkS dX1_seat_126 q1478 q1304 q85 (fun _ => sX1_has_2) ad_X1_has_2) (by decide) (Nat.le_of_ble_eq_true rfl) rfl h (fun x126 st e126 h => ?_)
  refine r_if_eq (pc := 129) (tgt := 136) dX1_seat_129 (by decide) h (fun e129 h => ?_) (fun e129 h => ?_)
  · refine r_iconst (pc := 136) (v := 0) dX1_seat_136 (by decide) ?_
    exact r_ireturn (pc := 137) dX1_seat_137 rfl rfl h
  · refine r_iconst (pc := 132) (v := 1) dX1_seat_132 (by decide) ?_
    refine r_goto (pc := 133) (tgt := 137) dX1_seat_133 (by decide) ?_
    exact r_ireturn (pc := 137) dX1_seat_137 rfl rfl h
theorem sX1_seat_24 {st0 : Mem} {fin : (Int32 ⊕ Nat) × Mem} (v0 : Rf) (v1 : Int32) (v2 : Int32) (st : Mem) (h : bX1_seat_24 v0 v1 v2 st = some fin) : G (cX1_seat, "HouseClaps", "seat", 10, (some .int), 3) st0 trIx fin 24 [(0, vr v0), (1, vi v1), (2, vi v2)] [] st := by
  unfold bX1_seat_24 at h
  refine r_iconst (pc := 24) (v := 0) dX1_seat_24 (by decide) ?_
  exact sX1_seat_25 _ _ _ _ _ h
theorem sX1_seat {a0 : Rf} {a1 : Int32} {a2 : Int32} {st : Mem} {fin : (Int32 ⊕ Nat) × Mem} (h : fX1_seat a0 a1 a2 st = some fin) : Con yX1_seat 10 [vr a0, vi a1, vi a2] st trIx fin := by
  refine Con.mk (cc := cX1_seat) (n := 3) (own := "HouseClaps") (nm := "seat") (ret := (some .int)) (env := [(0, vr a0), (1, vi a1), (2, vi a2)]) q1623 rfl rfl rfl (by decide) ⟨Nat.le_of_ble_eq_true rfl, by decide⟩ rfl ?_
  unfold fX1_seat at h
  refine r_aload_n (pc := 0) dX1_seat_0 0 rfl rfl ?_
  refine r_gA (pc := 1) dX1_seat_1 q318 fd_4 same_rf h (fun x1 e1 h => ?_)
  refine r_iload_n (pc := 4) dX1_seat_4 1 rfl rfl ?_
  refine r_callI (pc := 5) (rest := []) (lkV dX1_seat_5 q1060 xd_X2_isSeat (vc_of vt_X2_isSeat q1061 (fun _ => sX2_isSeat)) adx_X2_isSeat) (by decide) (Nat.le_of_ble_eq_true rfl) rfl h (fun x5 st e5 h => ?_)
  refine r_if_eq (pc := 8) (tgt := 24) dX1_seat_8 (by decide) h (fun e8 h => ?_) (fun e8 h => ?_)
  · exact sX1_seat_24 _ _ _ _ h
  · refine r_iload_n (pc := 11) dX1_seat_11 2 rfl rfl ?_
    refine r_iconst (pc := 12) (v := 0) dX1_seat_12 (by decide) ?_
    refine r_iconst (pc := 13) (v := 4) dX1_seat_13 (by decide) ?_
    refine r_callI (pc := 14) (rest := []) (lkS dX1_seat_14 q1055 q928 q85 (fun _ => sX1_isIn) ad_X1_isIn) (by decide) (Nat.le_of_ble_eq_true rfl) rfl h (fun x14 st e14 h => ?_)
    refine r_if_eq (pc := 17) (tgt := 24) dX1_seat_17 (by decide) h (fun e17 h => ?_) (fun e17 h => ?_)
    · exact sX1_seat_24 _ _ _ _ h
    · refine r_iconst (pc := 20) (v := 1) dX1_seat_20 (by decide) ?_
      refine r_goto (pc := 21) (tgt := 25) dX1_seat_21 (by decide) ?_
      exact sX1_seat_25 _ _ _ _ _ h
theorem sX1_takesSeats_7B {st0 : Mem} {fin : Int32 × Mem} {kk7 : Rf → Int32 → Int32 → Rf → Int64 → Int32 → Mem → Option (Int32 × Mem)} (hk7 : ∀ (v0 : Rf) (v1 : Int32) (v2 : Int32) (v3 : Rf) (v6 : Int64) (v8 : Int32) (st : Mem), kk7 v0 v1 v2 v3 v6 v8 st = some fin → G (cX1_takesSeats, "HouseClaps", "takesSeats", 10, (some .int), 10) st0 trI fin 7 [(0, vr v0), (1, vi v1), (2, vi v2), (3, vr v3), (6, vj v6), (8, vi v8)] [] st) (v0 : Rf) (v1 : Int32) (v2 : Int32) (v3 : Rf) (v6 : Int64) (v8 : Int32) (st : Mem) (h : bX1_takesSeats_7B kk7 v0 v1 v2 v3 v6 v8 st = some fin) : G (cX1_takesSeats, "HouseClaps", "takesSeats", 10, (some .int), 10) st0 trI fin 7 [(0, vr v0), (1, vi v1), (2, vi v2), (3, vr v3), (6, vj v6), (8, vi v8)] [] st := by
  unfold bX1_takesSeats_7B at h
  refine r_iload (pc := 7) dX1_takesSeats_7 5 rfl ?_
  refine r_iload_n (pc := 9) dX1_takesSeats_9 2 rfl rfl ?_
  refine r_icmp_ge (pc := 10) (tgt := 68) dX1_takesSeats_10 (by decide) h (fun e10 h => ?_) (fun e10 h => ?_)
  · refine r_iload_n (pc := 68) dX1_takesSeats_68 2 rfl rfl ?_
    exact r_ireturn (pc := 69) dX1_takesSeats_69 rfl rfl h
  · refine r_aload_n (pc := 13) dX1_takesSeats_13 0 rfl rfl ?_
    refine r_iload_n (pc := 14) dX1_takesSeats_14 1 rfl rfl ?_
    refine r_iload (pc := 15) dX1_takesSeats_15 5 rfl ?_
    refine r_iadd (pc := 17) dX1_takesSeats_17 ?_
    refine r_callI (pc := 18) (rest := []) (lkV dX1_takesSeats_18 q1474 xd_X1_byteAt (vc_of vt_X1_byteAt q1476 (fun _ => sX1_byteAt)) adx_X1_byteAt) (by decide) (Nat.le_of_ble_eq_true rfl) rfl h (fun x18 st e18 h => ?_)
    refine r_istore (pc := 21) (env' := [(9, vi x18), (0, vr v0), (1, vi v1), (2, vi v2), (3, vr v3), (6, vj v6), (8, vi v8)]) dX1_takesSeats_21 (by decide) rfl ?_
    refine r_aload_n (pc := 23) dX1_takesSeats_23 1 rfl rfl ?_
    refine r_gA (pc := 24) dX1_takesSeats_24 q318 fd_4 same_rf h (fun x24 e24 h => ?_)
    refine r_iload (pc := 27) dX1_takesSeats_27 0 rfl ?_
    refine r_callI (pc := 29) (rest := []) (lkV dX1_takesSeats_29 q1060 xd_X2_isSeat (vc_of vt_X2_isSeat q1061 (fun _ => sX2_isSeat)) adx_X2_isSeat) (by decide) (Nat.le_of_ble_eq_true rfl) rfl h (fun x29 st e29 h => ?_)
    refine r_if_eq (pc := 32) (tgt := 45) dX1_takesSeats_32 (by decide) h (fun e32 h => ?_) (fun e32 h => ?_)
    · refine r_iconst (pc := 45) (v := (-1)) dX1_takesSeats_45 (by decide) ?_
      exact r_ireturn (pc := 46) dX1_takesSeats_46 rfl rfl h
    · refine r_lload (pc := 35) dX1_takesSeats_35 5 rfl ?_
      refine r_iload (pc := 37) dX1_takesSeats_37 0 rfl ?_
      refine r_callI (pc := 39) (rest := []) (lkS dX1_takesSeats_39 q1478 q1304 q85 (fun _ => sX1_has_2) ad_X1_has_2) (by decide) (Nat.le_of_ble_eq_true rfl) rfl h (fun x39 st e39 h => ?_)
      refine r_if_eq (pc := 42) (tgt := 47) dX1_takesSeats_42 (by decide) h (fun e42 h => ?_) (fun e42 h => ?_)
      · refine r_lload (pc := 47) dX1_takesSeats_47 5 rfl ?_
        refine r_lconst (pc := 49) (v := 1) dX1_takesSeats_49 (by decide) ?_
        refine r_iload (pc := 50) dX1_takesSeats_50 0 rfl ?_
        refine r_lshl (pc := 52) dX1_takesSeats_52 ?_
        refine r_lor (pc := 53) dX1_takesSeats_53 ?_
        refine r_nameJ h (fun y54 e54 h => ?_)
        refine r_lstore (pc := 54) (env' := [(6, vj y54), (9, vi x18), (0, vr v0), (1, vi v1), (2, vi v2), (3, vr v3), (8, vi v8)]) dX1_takesSeats_54 (by decide) rfl ?_
        refine r_aload_n (pc := 56) dX1_takesSeats_56 5 rfl rfl ?_
        refine r_iload (pc := 57) dX1_takesSeats_57 6 rfl ?_
        refine r_iload (pc := 59) dX1_takesSeats_59 1 rfl ?_
        refine r_iastore (pc := 61) dX1_takesSeats_61 h (fun st e61 h => ?_)
        refine r_iinc (pc := 62) (env' := [(8, vi (v8 + 1)), (6, vj y54), (9, vi x18), (0, vr v0), (1, vi v1), (2, vi v2), (3, vr v3)]) (cst := 1) dX1_takesSeats_62 6 rfl (by decide) (by decide) rfl ?_
        refine r_goto (pc := 65) (tgt := 7) dX1_takesSeats_65 (by decide) ?_
        exact r_sub (env' := [(0, vr v0), (1, vi v1), (2, vi v2), (3, vr v3), (6, vj y54), (8, vi (v8 + 1))]) [3, 4, 5, 6, 1, 0] rfl (hk7 _ _ _ _ _ _ _ h)
      · refine r_iconst (pc := 45) (v := (-1)) dX1_takesSeats_45 (by decide) ?_
        exact r_ireturn (pc := 46) dX1_takesSeats_46 rfl rfl h
theorem sX1_takesSeats_7 {st0 : Mem} {fin : Int32 × Mem} (n : Nat) : ∀ (v0 : Rf) (v1 : Int32) (v2 : Int32) (v3 : Rf) (v6 : Int64) (v8 : Int32) (st : Mem), bX1_takesSeats_7 n v0 v1 v2 v3 v6 v8 st = some fin → G (cX1_takesSeats, "HouseClaps", "takesSeats", 10, (some .int), 10) st0 trI fin 7 [(0, vr v0), (1, vi v1), (2, vi v2), (3, vr v3), (6, vj v6), (8, vi v8)] [] st := by
  induction n with
  | zero => intro v0 v1 v2 v3 v6 v8 st h; cases h
  | succ n ih => intro v0 v1 v2 v3 v6 v8 st h; exact sX1_takesSeats_7B  ih v0 v1 v2 v3 v6 v8 st h
theorem sX1_takesSeats {a0 : Rf} {a1 : Int32} {a2 : Int32} {a3 : Rf} {a4 : Int64} {st : Mem} {fin : Int32 × Mem} (h : fX1_takesSeats a0 a1 a2 a3 a4 st = some fin) : Con yX1_takesSeats 10 [vr a0, vi a1, vi a2, vr a3, vj a4] st trI fin := by
  refine Con.mk (cc := cX1_takesSeats) (n := 10) (own := "HouseClaps") (nm := "takesSeats") (ret := (some .int)) (env := [(0, vr a0), (1, vi a1), (2, vi a2), (3, vr a3), (4, vj a4)]) q1473 rfl rfl rfl (by decide) ⟨Nat.le_of_ble_eq_true rfl, by decide⟩ rfl ?_
  unfold fX1_takesSeats at h
  refine r_lload (pc := 0) dX1_takesSeats_0 4 rfl ?_
  refine r_lstore (pc := 2) (env' := [(6, vj a4), (0, vr a0), (1, vi a1), (2, vi a2), (3, vr a3), (4, vj a4)]) dX1_takesSeats_2 (by decide) rfl ?_
  refine r_iconst (pc := 4) (v := 0) dX1_takesSeats_4 (by decide) ?_
  refine r_istore (pc := 5) (env' := [(8, vi (0 : Int32)), (6, vj a4), (0, vr a0), (1, vi a1), (2, vi a2), (3, vr a3), (4, vj a4)]) dX1_takesSeats_5 (by decide) rfl ?_
  exact r_sub (env' := [(0, vr a0), (1, vi a1), (2, vi a2), (3, vr a3), (6, vj a4), (8, vi (0 : Int32))]) [2, 3, 4, 5, 1, 0] rfl (sX1_takesSeats_7 hcFuel _ _ _ _ _ _ _ h)
theorem sX21_init {a0 : Rf} {a1 : Int32} {a2 : Int32} {st : Mem} {fin : Unit × Mem} (h : fX21_init a0 a1 a2 st = some fin) : Con yX21_init 10 [vr a0, vi a1, vi a2] st trV fin := by
  refine Con.mk (cc := cX21_init) (n := 3) (own := "HouseClaps$Pay") (nm := "<init>") (ret := none) (env := [(0, vr a0), (1, vi a1), (2, vi a2)]) q1152 rfl rfl rfl (by decide) ⟨Nat.le_of_ble_eq_true rfl, by decide⟩ rfl ?_
  unfold fX21_init at h
  refine r_aload_n (pc := 0) dX21_init_0 0 rfl rfl ?_
  refine r_iload_n (pc := 1) dX21_init_1 1 rfl rfl ?_
  refine r_iload_n (pc := 2) dX21_init_2 2 rfl rfl ?_
  refine r_callV (pc := 3) (rest := []) (lkI dX21_init_3 q1153 q1154 q1155 rfl (fun _ => sX20_init) ad_X20_init) (by decide) (Nat.le_of_ble_eq_true rfl) rfl h (fun u3 st e3 h => ?_)
  exact r_return_ (pc := 6) dX21_init_6 rfl h
theorem sX22_init {a0 : Rf} {a1 : Int32} {a2 : Int32} {st : Mem} {fin : Unit × Mem} (h : fX22_init a0 a1 a2 st = some fin) : Con yX22_init 10 [vr a0, vi a1, vi a2] st trV fin := by
  refine Con.mk (cc := cX22_init) (n := 3) (own := "HouseClaps$Hiss") (nm := "<init>") (ret := none) (env := [(0, vr a0), (1, vi a1), (2, vi a2)]) q1166 rfl rfl rfl (by decide) ⟨Nat.le_of_ble_eq_true rfl, by decide⟩ rfl ?_
  unfold fX22_init at h
  refine r_aload_n (pc := 0) dX22_init_0 0 rfl rfl ?_
  refine r_iload_n (pc := 1) dX22_init_1 1 rfl rfl ?_
  refine r_iload_n (pc := 2) dX22_init_2 2 rfl rfl ?_
  refine r_callV (pc := 3) (rest := []) (lkI dX22_init_3 q1167 q1154 q1155 rfl (fun _ => sX20_init) ad_X20_init) (by decide) (Nat.le_of_ble_eq_true rfl) rfl h (fun u3 st e3 h => ?_)
  exact r_return_ (pc := 6) dX22_init_6 rfl h
theorem sX2_exchanged_149B {st0 : Mem} {fin : Rf × Mem} {kk149 : Rf → Int32 → Int32 → Rf → Int32 → Mem → Option (Rf × Mem)} (hk149 : ∀ (v0 : Rf) (v1 : Int32) (v2 : Int32) (v3 : Rf) (v4 : Int32) (st : Mem), kk149 v0 v1 v2 v3 v4 st = some fin → G (cX2_exchanged, "HouseClaps$House", "exchanged", 10, (some (.object "HouseClaps$House")), 5) st0 trA fin 149 [(0, vr v0), (1, vi v1), (2, vi v2), (3, vr v3), (4, vi v4)] [] st) (v0 : Rf) (v1 : Int32) (v2 : Int32) (v3 : Rf) (v4 : Int32) (st : Mem) (h : bX2_exchanged_149B kk149 v0 v1 v2 v3 v4 st = some fin) : G (cX2_exchanged, "HouseClaps$House", "exchanged", 10, (some (.object "HouseClaps$House")), 5) st0 trA fin 149 [(0, vr v0), (1, vi v1), (2, vi v2), (3, vr v3), (4, vi v4)] [] st := by
  unfold bX2_exchanged_149B at h
  refine r_iload (pc := 149) dX2_exchanged_149 4 rfl ?_
  refine r_bipush (pc := 151) (v := 6) dX2_exchanged_151 (by decide) ?_
  refine r_icmp_ge (pc := 153) (tgt := 183) dX2_exchanged_153 (by decide) h (fun e153 h => ?_) (fun e153 h => ?_)
  · refine r_aload_n (pc := 183) dX2_exchanged_183 3 rfl rfl ?_
    refine r_iload_n (pc := 184) dX2_exchanged_184 1 rfl rfl ?_
    refine r_iload_n (pc := 185) dX2_exchanged_185 2 rfl rfl ?_
    refine r_callV (pc := 186) (rest := []) (lkV dX2_exchanged_186 q1560 xd_X2_swap (vc_of vt_X2_swap q1561 (fun _ => sX2_swap)) adx_X2_swap) (by decide) (Nat.le_of_ble_eq_true rfl) rfl h (fun u186 st e186 h => ?_)
    refine r_aload_n (pc := 189) dX2_exchanged_189 3 rfl rfl ?_
    exact r_areturn (pc := 190) dX2_exchanged_190 rfl rfl h
  · refine r_aload_n (pc := 156) dX2_exchanged_156 0 rfl rfl ?_
    refine r_gA (pc := 157) dX2_exchanged_157 q195 fd_40 same_rf h (fun x157 e157 h => ?_)
    refine r_iload (pc := 160) dX2_exchanged_160 4 rfl ?_
    refine r_aaload (pc := 162) dX2_exchanged_162 h (fun x162 e162 h => ?_)
    refine r_iconst (pc := 163) (v := 0) dX2_exchanged_163 (by decide) ?_
    refine r_aload_n (pc := 164) dX2_exchanged_164 3 rfl rfl ?_
    refine r_gA (pc := 165) dX2_exchanged_165 q195 fd_40 same_rf h (fun x165 e165 h => ?_)
    refine r_iload (pc := 168) dX2_exchanged_168 4 rfl ?_
    refine r_aaload (pc := 170) dX2_exchanged_170 h (fun x170 e170 h => ?_)
    refine r_iconst (pc := 171) (v := 0) dX2_exchanged_171 (by decide) ?_
    refine r_bipush (pc := 172) (v := 64) dX2_exchanged_172 (by decide) ?_
    refine r_cpy (pc := 174) dX2_exchanged_174 q1559 (by decide) (Nat.le_of_ble_eq_true rfl) h (fun st e174 h => ?_)
    refine r_iinc (pc := 177) (env' := [(4, vi (v4 + 1)), (0, vr v0), (1, vi v1), (2, vi v2), (3, vr v3)]) (cst := 1) dX2_exchanged_177 4 rfl (by decide) (by decide) rfl ?_
    refine r_goto (pc := 180) (tgt := 149) dX2_exchanged_180 (by decide) ?_
    exact r_sub (env' := [(0, vr v0), (1, vi v1), (2, vi v2), (3, vr v3), (4, vi (v4 + 1))]) [1, 2, 3, 4, 0] rfl (hk149 _ _ _ _ _ _ h)
theorem sX2_exchanged_149 {st0 : Mem} {fin : Rf × Mem} (n : Nat) : ∀ (v0 : Rf) (v1 : Int32) (v2 : Int32) (v3 : Rf) (v4 : Int32) (st : Mem), bX2_exchanged_149 n v0 v1 v2 v3 v4 st = some fin → G (cX2_exchanged, "HouseClaps$House", "exchanged", 10, (some (.object "HouseClaps$House")), 5) st0 trA fin 149 [(0, vr v0), (1, vi v1), (2, vi v2), (3, vr v3), (4, vi v4)] [] st := by
  induction n with
  | zero => intro v0 v1 v2 v3 v4 st h; cases h
  | succ n ih => intro v0 v1 v2 v3 v4 st h; exact sX2_exchanged_149B  ih v0 v1 v2 v3 v4 st h
theorem sX2_exchanged {a0 : Rf} {a1 : Int32} {a2 : Int32} {st : Mem} {fin : Rf × Mem} (h : fX2_exchanged a0 a1 a2 st = some fin) : Con yX2_exchanged 10 [vr a0, vi a1, vi a2] st trA fin := by
  refine Con.mk (cc := cX2_exchanged) (n := 5) (own := "HouseClaps$House") (nm := "exchanged") (ret := (some (.object "HouseClaps$House"))) (env := [(0, vr a0), (1, vi a1), (2, vi a2)]) q1556 rfl rfl rfl (by decide) ⟨Nat.le_of_ble_eq_true rfl, by decide⟩ rfl ?_
  unfold fX2_exchanged at h
  refine r_new (pc := 0) dX2_exchanged_0 q1557 rfl h (fun x0 st e0 h => ?_)
  refine r_dup (pc := 3) dX2_exchanged_3 rfl ?_
  refine r_callV (pc := 4) (rest := [vr x0]) (lkI dX2_exchanged_4 q1558 q139 q140 rfl (fun _ => sX2_init) ad_X2_init) (by decide) (Nat.le_of_ble_eq_true rfl) rfl h (fun u4 st e4 h => ?_)
  refine r_astore_n (pc := 7) (env' := [(3, vr x0), (0, vr a0), (1, vi a1), (2, vi a2)]) dX2_exchanged_7 rfl (by decide) rfl ?_
  refine r_aload_n (pc := 8) dX2_exchanged_8 0 rfl rfl ?_
  refine r_aload_n (pc := 9) dX2_exchanged_9 1 rfl rfl ?_
  refine r_gI (pc := 10) dX2_exchanged_10 q149 fd_28 same_rf h (fun x10 e10 h => ?_)
  refine r_pI (pc := 13) dX2_exchanged_13 q149 fd_28 same_rf rfl h (fun st e13 h => ?_)
  refine r_aload_n (pc := 16) dX2_exchanged_16 0 rfl rfl ?_
  refine r_aload_n (pc := 17) dX2_exchanged_17 1 rfl rfl ?_
  refine r_gI (pc := 18) dX2_exchanged_18 q153 fd_29 same_rf h (fun x18 e18 h => ?_)
  refine r_pI (pc := 21) dX2_exchanged_21 q153 fd_29 same_rf rfl h (fun st e21 h => ?_)
  refine r_aload_n (pc := 24) dX2_exchanged_24 0 rfl rfl ?_
  refine r_aload_n (pc := 25) dX2_exchanged_25 1 rfl rfl ?_
  refine r_gI (pc := 26) dX2_exchanged_26 q158 fd_30 same_rf h (fun x26 e26 h => ?_)
  refine r_pI (pc := 29) dX2_exchanged_29 q158 fd_30 same_rf rfl h (fun st e29 h => ?_)
  refine r_aload_n (pc := 32) dX2_exchanged_32 0 rfl rfl ?_
  refine r_aload_n (pc := 33) dX2_exchanged_33 1 rfl rfl ?_
  refine r_gI (pc := 34) dX2_exchanged_34 q162 fd_31 same_rf h (fun x34 e34 h => ?_)
  refine r_pI (pc := 37) dX2_exchanged_37 q162 fd_31 same_rf rfl h (fun st e37 h => ?_)
  refine r_aload_n (pc := 40) dX2_exchanged_40 0 rfl rfl ?_
  refine r_aload_n (pc := 41) dX2_exchanged_41 1 rfl rfl ?_
  refine r_gI (pc := 42) dX2_exchanged_42 q170 fd_33 same_rf h (fun x42 e42 h => ?_)
  refine r_pI (pc := 45) dX2_exchanged_45 q170 fd_33 same_rf rfl h (fun st e45 h => ?_)
  refine r_aload_n (pc := 48) dX2_exchanged_48 0 rfl rfl ?_
  refine r_aload_n (pc := 49) dX2_exchanged_49 1 rfl rfl ?_
  refine r_gI (pc := 50) dX2_exchanged_50 q167 fd_32 same_rf h (fun x50 e50 h => ?_)
  refine r_pI (pc := 53) dX2_exchanged_53 q167 fd_32 same_rf rfl h (fun st e53 h => ?_)
  refine r_aload_n (pc := 56) dX2_exchanged_56 1 rfl rfl ?_
  refine r_gA (pc := 57) dX2_exchanged_57 q173 fd_34 same_rf h (fun x57 e57 h => ?_)
  refine r_iconst (pc := 60) (v := 0) dX2_exchanged_60 (by decide) ?_
  refine r_aload_n (pc := 61) dX2_exchanged_61 0 rfl rfl ?_
  refine r_gA (pc := 62) dX2_exchanged_62 q173 fd_34 same_rf h (fun x62 e62 h => ?_)
  refine r_iconst (pc := 65) (v := 0) dX2_exchanged_65 (by decide) ?_
  refine r_bipush (pc := 66) (v := 64) dX2_exchanged_66 (by decide) ?_
  refine r_cpy (pc := 68) dX2_exchanged_68 q1559 (by decide) (Nat.le_of_ble_eq_true rfl) h (fun st e68 h => ?_)
  refine r_aload_n (pc := 71) dX2_exchanged_71 1 rfl rfl ?_
  refine r_gA (pc := 72) dX2_exchanged_72 q177 fd_35 same_rf h (fun x72 e72 h => ?_)
  refine r_iconst (pc := 75) (v := 0) dX2_exchanged_75 (by decide) ?_
  refine r_aload_n (pc := 76) dX2_exchanged_76 0 rfl rfl ?_
  refine r_gA (pc := 77) dX2_exchanged_77 q177 fd_35 same_rf h (fun x77 e77 h => ?_)
  refine r_iconst (pc := 80) (v := 0) dX2_exchanged_80 (by decide) ?_
  refine r_bipush (pc := 81) (v := 8) dX2_exchanged_81 (by decide) ?_
  refine r_cpy (pc := 83) dX2_exchanged_83 q1559 (by decide) (Nat.le_of_ble_eq_true rfl) h (fun st e83 h => ?_)
  refine r_aload_n (pc := 86) dX2_exchanged_86 1 rfl rfl ?_
  refine r_gA (pc := 87) dX2_exchanged_87 q180 fd_36 same_rf h (fun x87 e87 h => ?_)
  refine r_iconst (pc := 90) (v := 0) dX2_exchanged_90 (by decide) ?_
  refine r_aload_n (pc := 91) dX2_exchanged_91 0 rfl rfl ?_
  refine r_gA (pc := 92) dX2_exchanged_92 q180 fd_36 same_rf h (fun x92 e92 h => ?_)
  refine r_iconst (pc := 95) (v := 0) dX2_exchanged_95 (by decide) ?_
  refine r_bipush (pc := 96) (v := 8) dX2_exchanged_96 (by decide) ?_
  refine r_cpy (pc := 98) dX2_exchanged_98 q1559 (by decide) (Nat.le_of_ble_eq_true rfl) h (fun st e98 h => ?_)
  refine r_aload_n (pc := 101) dX2_exchanged_101 1 rfl rfl ?_
  refine r_gA (pc := 102) dX2_exchanged_102 q184 fd_37 same_rf h (fun x102 e102 h => ?_)
  refine r_iconst (pc := 105) (v := 0) dX2_exchanged_105 (by decide) ?_
  refine r_aload_n (pc := 106) dX2_exchanged_106 0 rfl rfl ?_
  refine r_gA (pc := 107) dX2_exchanged_107 q184 fd_37 same_rf h (fun x107 e107 h => ?_)
  refine r_iconst (pc := 110) (v := 0) dX2_exchanged_110 (by decide) ?_
  refine r_bipush (pc := 111) (v := 6) dX2_exchanged_111 (by decide) ?_
  refine r_cpy (pc := 113) dX2_exchanged_113 q1559 (by decide) (Nat.le_of_ble_eq_true rfl) h (fun st e113 h => ?_)
  refine r_aload_n (pc := 116) dX2_exchanged_116 1 rfl rfl ?_
  refine r_gA (pc := 117) dX2_exchanged_117 q188 fd_38 same_rf h (fun x117 e117 h => ?_)
  refine r_iconst (pc := 120) (v := 0) dX2_exchanged_120 (by decide) ?_
  refine r_aload_n (pc := 121) dX2_exchanged_121 0 rfl rfl ?_
  refine r_gA (pc := 122) dX2_exchanged_122 q188 fd_38 same_rf h (fun x122 e122 h => ?_)
  refine r_iconst (pc := 125) (v := 0) dX2_exchanged_125 (by decide) ?_
  refine r_bipush (pc := 126) (v := 6) dX2_exchanged_126 (by decide) ?_
  refine r_cpy (pc := 128) dX2_exchanged_128 q1559 (by decide) (Nat.le_of_ble_eq_true rfl) h (fun st e128 h => ?_)
  refine r_aload_n (pc := 131) dX2_exchanged_131 1 rfl rfl ?_
  refine r_gA (pc := 132) dX2_exchanged_132 q192 fd_39 same_rf h (fun x132 e132 h => ?_)
  refine r_iconst (pc := 135) (v := 0) dX2_exchanged_135 (by decide) ?_
  refine r_aload_n (pc := 136) dX2_exchanged_136 0 rfl rfl ?_
  refine r_gA (pc := 137) dX2_exchanged_137 q192 fd_39 same_rf h (fun x137 e137 h => ?_)
  refine r_iconst (pc := 140) (v := 0) dX2_exchanged_140 (by decide) ?_
  refine r_bipush (pc := 141) (v := 12) dX2_exchanged_141 (by decide) ?_
  refine r_cpy (pc := 143) dX2_exchanged_143 q1559 (by decide) (Nat.le_of_ble_eq_true rfl) h (fun st e143 h => ?_)
  refine r_iconst (pc := 146) (v := 0) dX2_exchanged_146 (by decide) ?_
  refine r_istore (pc := 147) (env' := [(4, vi (0 : Int32)), (3, vr x0), (0, vr a0), (1, vi a1), (2, vi a2)]) dX2_exchanged_147 (by decide) rfl ?_
  exact r_sub (env' := [(0, vr a0), (1, vi a1), (2, vi a2), (3, vr x0), (4, vi (0 : Int32))]) [2, 3, 4, 1, 0] rfl (sX2_exchanged_149 hcFuel _ _ _ _ _ _ h)
theorem sX2_open_265 {st0 : Mem} {fin : Rf × Mem} {kk2 : Rf → Int32 → Mem → Option (Rf × Mem)} {kk230 : Rf → Int32 → Int32 → Mem → Option (Rf × Mem)} (hk2 : ∀ (v0 : Rf) (v1 : Int32) (st : Mem), kk2 v0 v1 st = some fin → G (cX2_open, "HouseClaps$House", "open", 10, (some (.object "HouseClaps$House")), 7) st0 trA fin 2 [(0, vr v0), (1, vi v1)] [] st) (hk230 : ∀ (v0 : Rf) (v1 : Int32) (v5 : Int32) (st : Mem), kk230 v0 v1 v5 st = some fin → G (cX2_open, "HouseClaps$House", "open", 10, (some (.object "HouseClaps$House")), 7) st0 trA fin 230 [(0, vr v0), (1, vi v1), (5, vi v5)] [] st) (v0 : Rf) (v1 : Int32) (v5 : Int32) (st : Mem) (h : bX2_open_265 kk2 kk230 v0 v1 v5 st = some fin) : G (cX2_open, "HouseClaps$House", "open", 10, (some (.object "HouseClaps$House")), 7) st0 trA fin 265 [(0, vr v0), (1, vi v1), (5, vi v5)] [] st := by
  unfold bX2_open_265 at h
  refine r_iinc (pc := 265) (env' := [(5, vi (v5 + 1)), (0, vr v0), (1, vi v1)]) (cst := 1) dX2_open_265 2 rfl (by decide) (by decide) rfl ?_
  refine r_goto (pc := 268) (tgt := 230) dX2_open_268 (by decide) ?_
  exact r_sub (env' := [(0, vr v0), (1, vi v1), (5, vi (v5 + 1))]) [1, 2, 0] rfl (hk230 _ _ _ _ h)
theorem sX2_open_230B {st0 : Mem} {fin : Rf × Mem} {kk2 : Rf → Int32 → Mem → Option (Rf × Mem)} {kk230 : Rf → Int32 → Int32 → Mem → Option (Rf × Mem)} (hk2 : ∀ (v0 : Rf) (v1 : Int32) (st : Mem), kk2 v0 v1 st = some fin → G (cX2_open, "HouseClaps$House", "open", 10, (some (.object "HouseClaps$House")), 7) st0 trA fin 2 [(0, vr v0), (1, vi v1)] [] st) (hk230 : ∀ (v0 : Rf) (v1 : Int32) (v5 : Int32) (st : Mem), kk230 v0 v1 v5 st = some fin → G (cX2_open, "HouseClaps$House", "open", 10, (some (.object "HouseClaps$House")), 7) st0 trA fin 230 [(0, vr v0), (1, vi v1), (5, vi v5)] [] st) (v0 : Rf) (v1 : Int32) (v5 : Int32) (st : Mem) (h : bX2_open_230B kk2 kk230 v0 v1 v5 st = some fin) : G (cX2_open, "HouseClaps$House", "open", 10, (some (.object "HouseClaps$House")), 7) st0 trA fin 230 [(0, vr v0), (1, vi v1), (5, vi v5)] [] st := by
  unfold bX2_open_230B at h
  refine r_iload (pc := 230) dX2_open_230 2 rfl ?_
  refine r_aload_n (pc := 232) dX2_open_232 0 rfl rfl ?_
  refine r_callI (pc := 233) (rest := [vi v5]) (lkV dX2_open_233 q1038 xd_X2_size (vc_of vt_X2_size q1039 (fun _ => sX2_size)) adx_X2_size) (by decide) (Nat.le_of_ble_eq_true rfl) rfl h (fun x233 st e233 h => ?_)
  refine r_icmp_ge (pc := 236) (tgt := 271) dX2_open_236 (by decide) h (fun e236 h => ?_) (fun e236 h => ?_)
  · refine r_iinc (pc := 271) (env' := [(1, vi (v1 + 1)), (0, vr v0), (5, vi v5)]) (cst := 1) dX2_open_271 1 rfl (by decide) (by decide) rfl ?_
    refine r_goto (pc := 274) (tgt := 2) dX2_open_274 (by decide) ?_
    exact r_sub (env' := [(0, vr v0), (1, vi (v1 + 1))]) [1, 0] rfl (hk2 _ _ _ h)
  · refine r_iload (pc := 239) dX2_open_239 2 rfl ?_
    refine r_iload_n (pc := 241) dX2_open_241 1 rfl rfl ?_
    refine r_icmp_eq (pc := 242) (tgt := 265) dX2_open_242 (by decide) h (fun e242 h => ?_) (fun e242 h => ?_)
    · exact sX2_open_265 hk2 hk230 _ _ _ _ h
    · refine r_aload_n (pc := 245) dX2_open_245 0 rfl rfl ?_
      refine r_iconst (pc := 246) (v := 5) dX2_open_246 (by decide) ?_
      refine r_iload_n (pc := 247) dX2_open_247 1 rfl rfl ?_
      refine r_iload (pc := 248) dX2_open_248 2 rfl ?_
      refine r_aload_n (pc := 250) dX2_open_250 0 rfl rfl ?_
      refine r_gI (pc := 251) dX2_open_251 q153 fd_29 same_rf h (fun x251 e251 h => ?_)
      refine r_idiv (pc := 254) dX2_open_254 h (fun x254 e254 h => ?_)
      refine r_iload (pc := 255) dX2_open_255 2 rfl ?_
      refine r_aload_n (pc := 257) dX2_open_257 0 rfl rfl ?_
      refine r_gI (pc := 258) dX2_open_258 q153 fd_29 same_rf h (fun x258 e258 h => ?_)
      refine r_irem (pc := 261) dX2_open_261 h (fun x261 e261 h => ?_)
      refine r_callV (pc := 262) (rest := []) (lkV dX2_open_262 q1042 xd_X2_see (vc_of vt_X2_see q1044 (fun _ => sX2_see)) adx_X2_see) (by decide) (Nat.le_of_ble_eq_true rfl) rfl h (fun u262 st e262 h => ?_)
      exact sX2_open_265 hk2 hk230 _ _ _ _ h
theorem sX2_open_230 {st0 : Mem} {fin : Rf × Mem} {kk2 : Rf → Int32 → Mem → Option (Rf × Mem)} (hk2 : ∀ (v0 : Rf) (v1 : Int32) (st : Mem), kk2 v0 v1 st = some fin → G (cX2_open, "HouseClaps$House", "open", 10, (some (.object "HouseClaps$House")), 7) st0 trA fin 2 [(0, vr v0), (1, vi v1)] [] st) (n : Nat) : ∀ (v0 : Rf) (v1 : Int32) (v5 : Int32) (st : Mem), bX2_open_230 kk2 n v0 v1 v5 st = some fin → G (cX2_open, "HouseClaps$House", "open", 10, (some (.object "HouseClaps$House")), 7) st0 trA fin 230 [(0, vr v0), (1, vi v1), (5, vi v5)] [] st := by
  induction n with
  | zero => intro v0 v1 v5 st h; cases h
  | succ n ih => intro v0 v1 v5 st h; exact sX2_open_230B hk2  ih v0 v1 v5 st h
theorem sX2_open_227 {st0 : Mem} {fin : Rf × Mem} {kk2 : Rf → Int32 → Mem → Option (Rf × Mem)} (hk2 : ∀ (v0 : Rf) (v1 : Int32) (st : Mem), kk2 v0 v1 st = some fin → G (cX2_open, "HouseClaps$House", "open", 10, (some (.object "HouseClaps$House")), 7) st0 trA fin 2 [(0, vr v0), (1, vi v1)] [] st) (v0 : Rf) (v1 : Int32) (st : Mem) (h : bX2_open_227 kk2 v0 v1 st = some fin) : G (cX2_open, "HouseClaps$House", "open", 10, (some (.object "HouseClaps$House")), 7) st0 trA fin 227 [(0, vr v0), (1, vi v1)] [] st := by
  unfold bX2_open_227 at h
  refine r_iconst (pc := 227) (v := 0) dX2_open_227 (by decide) ?_
  refine r_istore (pc := 228) (env' := [(5, vi (0 : Int32)), (0, vr v0), (1, vi v1)]) dX2_open_228 (by decide) rfl ?_
  exact r_sub (env' := [(0, vr v0), (1, vi v1), (5, vi (0 : Int32))]) [1, 2, 0] rfl (sX2_open_230 hk2 hcFuel _ _ _ _ h)
theorem sX2_open_194B {st0 : Mem} {fin : Rf × Mem} {kk2 : Rf → Int32 → Mem → Option (Rf × Mem)} {kk178 : Rf → Int32 → Int32 → Int32 → Int32 → Int32 → Mem → Option (Rf × Mem)} {kk194 : Rf → Int32 → Int32 → Int32 → Int32 → Int32 → Int32 → Mem → Option (Rf × Mem)} (hk2 : ∀ (v0 : Rf) (v1 : Int32) (st : Mem), kk2 v0 v1 st = some fin → G (cX2_open, "HouseClaps$House", "open", 10, (some (.object "HouseClaps$House")), 7) st0 trA fin 2 [(0, vr v0), (1, vi v1)] [] st) (hk178 : ∀ (v0 : Rf) (v1 : Int32) (v2 : Int32) (v3 : Int32) (v4 : Int32) (v5 : Int32) (st : Mem), kk178 v0 v1 v2 v3 v4 v5 st = some fin → G (cX2_open, "HouseClaps$House", "open", 10, (some (.object "HouseClaps$House")), 7) st0 trA fin 178 [(0, vr v0), (1, vi v1), (2, vi v2), (3, vi v3), (4, vi v4), (5, vi v5)] [] st) (hk194 : ∀ (v0 : Rf) (v1 : Int32) (v2 : Int32) (v3 : Int32) (v4 : Int32) (v5 : Int32) (v6 : Int32) (st : Mem), kk194 v0 v1 v2 v3 v4 v5 v6 st = some fin → G (cX2_open, "HouseClaps$House", "open", 10, (some (.object "HouseClaps$House")), 7) st0 trA fin 194 [(0, vr v0), (1, vi v1), (2, vi v2), (3, vi v3), (4, vi v4), (5, vi v5), (6, vi v6)] [] st) (v0 : Rf) (v1 : Int32) (v2 : Int32) (v3 : Int32) (v4 : Int32) (v5 : Int32) (v6 : Int32) (st : Mem) (h : bX2_open_194B kk2 kk178 kk194 v0 v1 v2 v3 v4 v5 v6 st = some fin) : G (cX2_open, "HouseClaps$House", "open", 10, (some (.object "HouseClaps$House")), 7) st0 trA fin 194 [(0, vr v0), (1, vi v1), (2, vi v2), (3, vi v3), (4, vi v4), (5, vi v5), (6, vi v6)] [] st := by
  unfold bX2_open_194B at h
  refine r_iload (pc := 194) dX2_open_194 6 rfl ?_
  refine r_iload (pc := 196) dX2_open_196 5 rfl ?_
  refine r_icmp_gt (pc := 198) (tgt := 221) dX2_open_198 (by decide) h (fun e198 h => ?_) (fun e198 h => ?_)
  · refine r_iinc (pc := 221) (env' := [(5, vi (v5 + 1)), (0, vr v0), (1, vi v1), (2, vi v2), (3, vi v3), (4, vi v4), (6, vi v6)]) (cst := 1) dX2_open_221 5 rfl (by decide) (by decide) rfl ?_
    refine r_goto (pc := 224) (tgt := 178) dX2_open_224 (by decide) ?_
    exact r_sub (env' := [(0, vr v0), (1, vi v1), (2, vi v2), (3, vi v3), (4, vi v4), (5, vi (v5 + 1))]) [1, 2, 3, 4, 5, 0] rfl (hk178 _ _ _ _ _ _ _ h)
  · refine r_aload_n (pc := 201) dX2_open_201 0 rfl rfl ?_
    refine r_iconst (pc := 202) (v := 4) dX2_open_202 (by decide) ?_
    refine r_iload_n (pc := 203) dX2_open_203 1 rfl rfl ?_
    refine r_iload_n (pc := 204) dX2_open_204 2 rfl rfl ?_
    refine r_iload (pc := 205) dX2_open_205 5 rfl ?_
    refine r_isub (pc := 207) dX2_open_207 ?_
    refine r_iload_n (pc := 208) dX2_open_208 3 rfl rfl ?_
    refine r_iload (pc := 209) dX2_open_209 6 rfl ?_
    refine r_iadd (pc := 211) dX2_open_211 ?_
    refine r_callV (pc := 212) (rest := []) (lkV dX2_open_212 q1042 xd_X2_see (vc_of vt_X2_see q1044 (fun _ => sX2_see)) adx_X2_see) (by decide) (Nat.le_of_ble_eq_true rfl) rfl h (fun u212 st e212 h => ?_)
    refine r_iinc (pc := 215) (env' := [(6, vi (v6 + 1)), (0, vr v0), (1, vi v1), (2, vi v2), (3, vi v3), (4, vi v4), (5, vi v5)]) (cst := 1) dX2_open_215 6 rfl (by decide) (by decide) rfl ?_
    refine r_goto (pc := 218) (tgt := 194) dX2_open_218 (by decide) ?_
    exact r_sub (env' := [(0, vr v0), (1, vi v1), (2, vi v2), (3, vi v3), (4, vi v4), (5, vi v5), (6, vi (v6 + 1))]) [1, 2, 3, 4, 5, 6, 0] rfl (hk194 _ _ _ _ _ _ _ _ h)
theorem sX2_open_194 {st0 : Mem} {fin : Rf × Mem} {kk2 : Rf → Int32 → Mem → Option (Rf × Mem)} {kk178 : Rf → Int32 → Int32 → Int32 → Int32 → Int32 → Mem → Option (Rf × Mem)} (hk2 : ∀ (v0 : Rf) (v1 : Int32) (st : Mem), kk2 v0 v1 st = some fin → G (cX2_open, "HouseClaps$House", "open", 10, (some (.object "HouseClaps$House")), 7) st0 trA fin 2 [(0, vr v0), (1, vi v1)] [] st) (hk178 : ∀ (v0 : Rf) (v1 : Int32) (v2 : Int32) (v3 : Int32) (v4 : Int32) (v5 : Int32) (st : Mem), kk178 v0 v1 v2 v3 v4 v5 st = some fin → G (cX2_open, "HouseClaps$House", "open", 10, (some (.object "HouseClaps$House")), 7) st0 trA fin 178 [(0, vr v0), (1, vi v1), (2, vi v2), (3, vi v3), (4, vi v4), (5, vi v5)] [] st) (n : Nat) : ∀ (v0 : Rf) (v1 : Int32) (v2 : Int32) (v3 : Int32) (v4 : Int32) (v5 : Int32) (v6 : Int32) (st : Mem), bX2_open_194 kk2 kk178 n v0 v1 v2 v3 v4 v5 v6 st = some fin → G (cX2_open, "HouseClaps$House", "open", 10, (some (.object "HouseClaps$House")), 7) st0 trA fin 194 [(0, vr v0), (1, vi v1), (2, vi v2), (3, vi v3), (4, vi v4), (5, vi v5), (6, vi v6)] [] st := by
  induction n with
  | zero => intro v0 v1 v2 v3 v4 v5 v6 st h; cases h
  | succ n ih => intro v0 v1 v2 v3 v4 v5 v6 st h; exact sX2_open_194B hk2 hk178  ih v0 v1 v2 v3 v4 v5 v6 st h
theorem sX2_open_178B {st0 : Mem} {fin : Rf × Mem} {kk2 : Rf → Int32 → Mem → Option (Rf × Mem)} {kk178 : Rf → Int32 → Int32 → Int32 → Int32 → Int32 → Mem → Option (Rf × Mem)} (hk2 : ∀ (v0 : Rf) (v1 : Int32) (st : Mem), kk2 v0 v1 st = some fin → G (cX2_open, "HouseClaps$House", "open", 10, (some (.object "HouseClaps$House")), 7) st0 trA fin 2 [(0, vr v0), (1, vi v1)] [] st) (hk178 : ∀ (v0 : Rf) (v1 : Int32) (v2 : Int32) (v3 : Int32) (v4 : Int32) (v5 : Int32) (st : Mem), kk178 v0 v1 v2 v3 v4 v5 st = some fin → G (cX2_open, "HouseClaps$House", "open", 10, (some (.object "HouseClaps$House")), 7) st0 trA fin 178 [(0, vr v0), (1, vi v1), (2, vi v2), (3, vi v3), (4, vi v4), (5, vi v5)] [] st) (v0 : Rf) (v1 : Int32) (v2 : Int32) (v3 : Int32) (v4 : Int32) (v5 : Int32) (st : Mem) (h : bX2_open_178B kk2 kk178 v0 v1 v2 v3 v4 v5 st = some fin) : G (cX2_open, "HouseClaps$House", "open", 10, (some (.object "HouseClaps$House")), 7) st0 trA fin 178 [(0, vr v0), (1, vi v1), (2, vi v2), (3, vi v3), (4, vi v4), (5, vi v5)] [] st := by
  unfold bX2_open_178B at h
  refine r_iload (pc := 178) dX2_open_178 5 rfl ?_
  refine r_iconst (pc := 180) (v := 3) dX2_open_180 (by decide) ?_
  refine r_icmp_gt (pc := 181) (tgt := 227) dX2_open_181 (by decide) h (fun e181 h => ?_) (fun e181 h => ?_)
  · exact r_sub (env' := [(0, vr v0), (1, vi v1)]) [0, 1] rfl (sX2_open_227 hk2 _ _ _ h)
  · refine r_iload (pc := 184) dX2_open_184 4 rfl ?_
    refine r_if_ne (pc := 186) (tgt := 227) dX2_open_186 (by decide) h (fun e186 h => ?_) (fun e186 h => ?_)
    · exact r_sub (env' := [(0, vr v0), (1, vi v1)]) [0, 1] rfl (sX2_open_227 hk2 _ _ _ h)
    · refine r_iload (pc := 189) dX2_open_189 5 rfl ?_
      refine r_ineg (pc := 191) dX2_open_191 ?_
      refine r_istore (pc := 192) (env' := [(6, vi (-v5)), (0, vr v0), (1, vi v1), (2, vi v2), (3, vi v3), (4, vi v4), (5, vi v5)]) dX2_open_192 (by decide) rfl ?_
      exact r_sub (env' := [(0, vr v0), (1, vi v1), (2, vi v2), (3, vi v3), (4, vi v4), (5, vi v5), (6, vi (-v5))]) [1, 2, 3, 4, 5, 6, 0] rfl (sX2_open_194 hk2 hk178 hcFuel _ _ _ _ _ _ _ _ h)
theorem sX2_open_178 {st0 : Mem} {fin : Rf × Mem} {kk2 : Rf → Int32 → Mem → Option (Rf × Mem)} (hk2 : ∀ (v0 : Rf) (v1 : Int32) (st : Mem), kk2 v0 v1 st = some fin → G (cX2_open, "HouseClaps$House", "open", 10, (some (.object "HouseClaps$House")), 7) st0 trA fin 2 [(0, vr v0), (1, vi v1)] [] st) (n : Nat) : ∀ (v0 : Rf) (v1 : Int32) (v2 : Int32) (v3 : Int32) (v4 : Int32) (v5 : Int32) (st : Mem), bX2_open_178 kk2 n v0 v1 v2 v3 v4 v5 st = some fin → G (cX2_open, "HouseClaps$House", "open", 10, (some (.object "HouseClaps$House")), 7) st0 trA fin 178 [(0, vr v0), (1, vi v1), (2, vi v2), (3, vi v3), (4, vi v4), (5, vi v5)] [] st := by
  induction n with
  | zero => intro v0 v1 v2 v3 v4 v5 st h; cases h
  | succ n ih => intro v0 v1 v2 v3 v4 v5 st h; exact sX2_open_178B hk2  ih v0 v1 v2 v3 v4 v5 st h
theorem sX2_open_173 {st0 : Mem} {fin : Rf × Mem} {kk2 : Rf → Int32 → Mem → Option (Rf × Mem)} (hk2 : ∀ (v0 : Rf) (v1 : Int32) (st : Mem), kk2 v0 v1 st = some fin → G (cX2_open, "HouseClaps$House", "open", 10, (some (.object "HouseClaps$House")), 7) st0 trA fin 2 [(0, vr v0), (1, vi v1)] [] st) (v0 : Rf) (v1 : Int32) (v2 : Int32) (v3 : Int32) (k0 : Int32) (st : Mem) (h : bX2_open_173 kk2 v0 v1 v2 v3 k0 st = some fin) : G (cX2_open, "HouseClaps$House", "open", 10, (some (.object "HouseClaps$House")), 7) st0 trA fin 173 [(0, vr v0), (1, vi v1), (2, vi v2), (3, vi v3)] [vi k0] st := by
  unfold bX2_open_173 at h
  refine r_istore (pc := 173) (env' := [(4, vi k0), (0, vr v0), (1, vi v1), (2, vi v2), (3, vi v3)]) dX2_open_173 (by decide) rfl ?_
  refine r_iconst (pc := 175) (v := 1) dX2_open_175 (by decide) ?_
  refine r_istore (pc := 176) (env' := [(5, vi (1 : Int32)), (4, vi k0), (0, vr v0), (1, vi v1), (2, vi v2), (3, vi v3)]) dX2_open_176 (by decide) rfl ?_
  exact r_sub (env' := [(0, vr v0), (1, vi v1), (2, vi v2), (3, vi v3), (4, vi k0), (5, vi (1 : Int32))]) [2, 3, 4, 5, 1, 0] rfl (sX2_open_178 hk2 hcFuel _ _ _ _ _ _ _ h)
theorem sX2_open_172 {st0 : Mem} {fin : Rf × Mem} {kk2 : Rf → Int32 → Mem → Option (Rf × Mem)} (hk2 : ∀ (v0 : Rf) (v1 : Int32) (st : Mem), kk2 v0 v1 st = some fin → G (cX2_open, "HouseClaps$House", "open", 10, (some (.object "HouseClaps$House")), 7) st0 trA fin 2 [(0, vr v0), (1, vi v1)] [] st) (v0 : Rf) (v1 : Int32) (v2 : Int32) (v3 : Int32) (st : Mem) (h : bX2_open_172 kk2 v0 v1 v2 v3 st = some fin) : G (cX2_open, "HouseClaps$House", "open", 10, (some (.object "HouseClaps$House")), 7) st0 trA fin 172 [(0, vr v0), (1, vi v1), (2, vi v2), (3, vi v3)] [] st := by
  unfold bX2_open_172 at h
  refine r_iconst (pc := 172) (v := 0) dX2_open_172 (by decide) ?_
  exact sX2_open_173 hk2 _ _ _ _ _ _ h
theorem sX2_open_132 {st0 : Mem} {fin : Rf × Mem} {kk2 : Rf → Int32 → Mem → Option (Rf × Mem)} {kk93 : Rf → Int32 → Int32 → Int32 → Int32 → Mem → Option (Rf × Mem)} {kk102 : Rf → Int32 → Int32 → Int32 → Int32 → Int32 → Mem → Option (Rf × Mem)} (hk2 : ∀ (v0 : Rf) (v1 : Int32) (st : Mem), kk2 v0 v1 st = some fin → G (cX2_open, "HouseClaps$House", "open", 10, (some (.object "HouseClaps$House")), 7) st0 trA fin 2 [(0, vr v0), (1, vi v1)] [] st) (hk93 : ∀ (v0 : Rf) (v1 : Int32) (v2 : Int32) (v3 : Int32) (v4 : Int32) (st : Mem), kk93 v0 v1 v2 v3 v4 st = some fin → G (cX2_open, "HouseClaps$House", "open", 10, (some (.object "HouseClaps$House")), 7) st0 trA fin 93 [(0, vr v0), (1, vi v1), (2, vi v2), (3, vi v3), (4, vi v4)] [] st) (hk102 : ∀ (v0 : Rf) (v1 : Int32) (v2 : Int32) (v3 : Int32) (v4 : Int32) (v5 : Int32) (st : Mem), kk102 v0 v1 v2 v3 v4 v5 st = some fin → G (cX2_open, "HouseClaps$House", "open", 10, (some (.object "HouseClaps$House")), 7) st0 trA fin 102 [(0, vr v0), (1, vi v1), (2, vi v2), (3, vi v3), (4, vi v4), (5, vi v5)] [] st) (v0 : Rf) (v1 : Int32) (v2 : Int32) (v3 : Int32) (v4 : Int32) (v5 : Int32) (st : Mem) (h : bX2_open_132 kk2 kk93 kk102 v0 v1 v2 v3 v4 v5 st = some fin) : G (cX2_open, "HouseClaps$House", "open", 10, (some (.object "HouseClaps$House")), 7) st0 trA fin 132 [(0, vr v0), (1, vi v1), (2, vi v2), (3, vi v3), (4, vi v4), (5, vi v5)] [] st := by
  unfold bX2_open_132 at h
  refine r_iinc (pc := 132) (env' := [(5, vi (v5 + 1)), (0, vr v0), (1, vi v1), (2, vi v2), (3, vi v3), (4, vi v4)]) (cst := 1) dX2_open_132 5 rfl (by decide) (by decide) rfl ?_
  refine r_goto (pc := 135) (tgt := 102) dX2_open_135 (by decide) ?_
  exact r_sub (env' := [(0, vr v0), (1, vi v1), (2, vi v2), (3, vi v3), (4, vi v4), (5, vi (v5 + 1))]) [1, 2, 3, 4, 5, 0] rfl (hk102 _ _ _ _ _ _ _ h)
theorem sX2_open_118 {st0 : Mem} {fin : Rf × Mem} {kk2 : Rf → Int32 → Mem → Option (Rf × Mem)} {kk93 : Rf → Int32 → Int32 → Int32 → Int32 → Mem → Option (Rf × Mem)} {kk102 : Rf → Int32 → Int32 → Int32 → Int32 → Int32 → Mem → Option (Rf × Mem)} (hk2 : ∀ (v0 : Rf) (v1 : Int32) (st : Mem), kk2 v0 v1 st = some fin → G (cX2_open, "HouseClaps$House", "open", 10, (some (.object "HouseClaps$House")), 7) st0 trA fin 2 [(0, vr v0), (1, vi v1)] [] st) (hk93 : ∀ (v0 : Rf) (v1 : Int32) (v2 : Int32) (v3 : Int32) (v4 : Int32) (st : Mem), kk93 v0 v1 v2 v3 v4 st = some fin → G (cX2_open, "HouseClaps$House", "open", 10, (some (.object "HouseClaps$House")), 7) st0 trA fin 93 [(0, vr v0), (1, vi v1), (2, vi v2), (3, vi v3), (4, vi v4)] [] st) (hk102 : ∀ (v0 : Rf) (v1 : Int32) (v2 : Int32) (v3 : Int32) (v4 : Int32) (v5 : Int32) (st : Mem), kk102 v0 v1 v2 v3 v4 v5 st = some fin → G (cX2_open, "HouseClaps$House", "open", 10, (some (.object "HouseClaps$House")), 7) st0 trA fin 102 [(0, vr v0), (1, vi v1), (2, vi v2), (3, vi v3), (4, vi v4), (5, vi v5)] [] st) (v0 : Rf) (v1 : Int32) (v2 : Int32) (v3 : Int32) (v4 : Int32) (v5 : Int32) (st : Mem) (h : bX2_open_118 kk2 kk93 kk102 v0 v1 v2 v3 v4 v5 st = some fin) : G (cX2_open, "HouseClaps$House", "open", 10, (some (.object "HouseClaps$House")), 7) st0 trA fin 118 [(0, vr v0), (1, vi v1), (2, vi v2), (3, vi v3), (4, vi v4), (5, vi v5)] [] st := by
  unfold bX2_open_118 at h
  refine r_aload_n (pc := 118) dX2_open_118 0 rfl rfl ?_
  refine r_iconst (pc := 119) (v := 0) dX2_open_119 (by decide) ?_
  refine r_iload_n (pc := 120) dX2_open_120 1 rfl rfl ?_
  refine r_iload_n (pc := 121) dX2_open_121 2 rfl rfl ?_
  refine r_iload (pc := 122) dX2_open_122 4 rfl ?_
  refine r_iadd (pc := 124) dX2_open_124 ?_
  refine r_iload_n (pc := 125) dX2_open_125 3 rfl rfl ?_
  refine r_iload (pc := 126) dX2_open_126 5 rfl ?_
  refine r_iadd (pc := 128) dX2_open_128 ?_
  refine r_callV (pc := 129) (rest := []) (lkV dX2_open_129 q1042 xd_X2_see (vc_of vt_X2_see q1044 (fun _ => sX2_see)) adx_X2_see) (by decide) (Nat.le_of_ble_eq_true rfl) rfl h (fun u129 st e129 h => ?_)
  exact sX2_open_132 hk2 hk93 hk102 _ _ _ _ _ _ _ h
theorem sX2_open_102B {st0 : Mem} {fin : Rf × Mem} {kk2 : Rf → Int32 → Mem → Option (Rf × Mem)} {kk93 : Rf → Int32 → Int32 → Int32 → Int32 → Mem → Option (Rf × Mem)} {kk102 : Rf → Int32 → Int32 → Int32 → Int32 → Int32 → Mem → Option (Rf × Mem)} (hk2 : ∀ (v0 : Rf) (v1 : Int32) (st : Mem), kk2 v0 v1 st = some fin → G (cX2_open, "HouseClaps$House", "open", 10, (some (.object "HouseClaps$House")), 7) st0 trA fin 2 [(0, vr v0), (1, vi v1)] [] st) (hk93 : ∀ (v0 : Rf) (v1 : Int32) (v2 : Int32) (v3 : Int32) (v4 : Int32) (st : Mem), kk93 v0 v1 v2 v3 v4 st = some fin → G (cX2_open, "HouseClaps$House", "open", 10, (some (.object "HouseClaps$House")), 7) st0 trA fin 93 [(0, vr v0), (1, vi v1), (2, vi v2), (3, vi v3), (4, vi v4)] [] st) (hk102 : ∀ (v0 : Rf) (v1 : Int32) (v2 : Int32) (v3 : Int32) (v4 : Int32) (v5 : Int32) (st : Mem), kk102 v0 v1 v2 v3 v4 v5 st = some fin → G (cX2_open, "HouseClaps$House", "open", 10, (some (.object "HouseClaps$House")), 7) st0 trA fin 102 [(0, vr v0), (1, vi v1), (2, vi v2), (3, vi v3), (4, vi v4), (5, vi v5)] [] st) (v0 : Rf) (v1 : Int32) (v2 : Int32) (v3 : Int32) (v4 : Int32) (v5 : Int32) (st : Mem) (h : bX2_open_102B kk2 kk93 kk102 v0 v1 v2 v3 v4 v5 st = some fin) : G (cX2_open, "HouseClaps$House", "open", 10, (some (.object "HouseClaps$House")), 7) st0 trA fin 102 [(0, vr v0), (1, vi v1), (2, vi v2), (3, vi v3), (4, vi v4), (5, vi v5)] [] st := by
  unfold bX2_open_102B at h
  refine r_iload (pc := 102) dX2_open_102 5 rfl ?_
  refine r_iconst (pc := 104) (v := 2) dX2_open_104 (by decide) ?_
  refine r_icmp_ge (pc := 105) (tgt := 138) dX2_open_105 (by decide) h (fun e105 h => ?_) (fun e105 h => ?_)
  · refine r_iinc (pc := 138) (env' := [(4, vi (v4 + 1)), (0, vr v0), (1, vi v1), (2, vi v2), (3, vi v3), (5, vi v5)]) (cst := 1) dX2_open_138 4 rfl (by decide) (by decide) rfl ?_
    refine r_goto (pc := 141) (tgt := 93) dX2_open_141 (by decide) ?_
    exact r_sub (env' := [(0, vr v0), (1, vi v1), (2, vi v2), (3, vi v3), (4, vi (v4 + 1))]) [1, 2, 3, 4, 0] rfl (hk93 _ _ _ _ _ _ h)
  · refine r_iload (pc := 108) dX2_open_108 4 rfl ?_
    refine r_if_ne (pc := 110) (tgt := 118) dX2_open_110 (by decide) h (fun e110 h => ?_) (fun e110 h => ?_)
    · exact sX2_open_118 hk2 hk93 hk102 _ _ _ _ _ _ _ h
    · refine r_iload (pc := 113) dX2_open_113 5 rfl ?_
      refine r_if_eq (pc := 115) (tgt := 132) dX2_open_115 (by decide) h (fun e115 h => ?_) (fun e115 h => ?_)
      · exact sX2_open_132 hk2 hk93 hk102 _ _ _ _ _ _ _ h
      · exact sX2_open_118 hk2 hk93 hk102 _ _ _ _ _ _ _ h
theorem sX2_open_102 {st0 : Mem} {fin : Rf × Mem} {kk2 : Rf → Int32 → Mem → Option (Rf × Mem)} {kk93 : Rf → Int32 → Int32 → Int32 → Int32 → Mem → Option (Rf × Mem)} (hk2 : ∀ (v0 : Rf) (v1 : Int32) (st : Mem), kk2 v0 v1 st = some fin → G (cX2_open, "HouseClaps$House", "open", 10, (some (.object "HouseClaps$House")), 7) st0 trA fin 2 [(0, vr v0), (1, vi v1)] [] st) (hk93 : ∀ (v0 : Rf) (v1 : Int32) (v2 : Int32) (v3 : Int32) (v4 : Int32) (st : Mem), kk93 v0 v1 v2 v3 v4 st = some fin → G (cX2_open, "HouseClaps$House", "open", 10, (some (.object "HouseClaps$House")), 7) st0 trA fin 93 [(0, vr v0), (1, vi v1), (2, vi v2), (3, vi v3), (4, vi v4)] [] st) (n : Nat) : ∀ (v0 : Rf) (v1 : Int32) (v2 : Int32) (v3 : Int32) (v4 : Int32) (v5 : Int32) (st : Mem), bX2_open_102 kk2 kk93 n v0 v1 v2 v3 v4 v5 st = some fin → G (cX2_open, "HouseClaps$House", "open", 10, (some (.object "HouseClaps$House")), 7) st0 trA fin 102 [(0, vr v0), (1, vi v1), (2, vi v2), (3, vi v3), (4, vi v4), (5, vi v5)] [] st := by
  induction n with
  | zero => intro v0 v1 v2 v3 v4 v5 st h; cases h
  | succ n ih => intro v0 v1 v2 v3 v4 v5 st h; exact sX2_open_102B hk2 hk93  ih v0 v1 v2 v3 v4 v5 st h
theorem sX2_open_93B {st0 : Mem} {fin : Rf × Mem} {kk2 : Rf → Int32 → Mem → Option (Rf × Mem)} {kk93 : Rf → Int32 → Int32 → Int32 → Int32 → Mem → Option (Rf × Mem)} (hk2 : ∀ (v0 : Rf) (v1 : Int32) (st : Mem), kk2 v0 v1 st = some fin → G (cX2_open, "HouseClaps$House", "open", 10, (some (.object "HouseClaps$House")), 7) st0 trA fin 2 [(0, vr v0), (1, vi v1)] [] st) (hk93 : ∀ (v0 : Rf) (v1 : Int32) (v2 : Int32) (v3 : Int32) (v4 : Int32) (st : Mem), kk93 v0 v1 v2 v3 v4 st = some fin → G (cX2_open, "HouseClaps$House", "open", 10, (some (.object "HouseClaps$House")), 7) st0 trA fin 93 [(0, vr v0), (1, vi v1), (2, vi v2), (3, vi v3), (4, vi v4)] [] st) (v0 : Rf) (v1 : Int32) (v2 : Int32) (v3 : Int32) (v4 : Int32) (st : Mem) (h : bX2_open_93B kk2 kk93 v0 v1 v2 v3 v4 st = some fin) : G (cX2_open, "HouseClaps$House", "open", 10, (some (.object "HouseClaps$House")), 7) st0 trA fin 93 [(0, vr v0), (1, vi v1), (2, vi v2), (3, vi v3), (4, vi v4)] [] st := by
  unfold bX2_open_93B at h
  refine r_iload (pc := 93) dX2_open_93 4 rfl ?_
  refine r_iconst (pc := 95) (v := 2) dX2_open_95 (by decide) ?_
  refine r_icmp_ge (pc := 96) (tgt := 144) dX2_open_96 (by decide) h (fun e96 h => ?_) (fun e96 h => ?_)
  · refine r_iload_n (pc := 144) dX2_open_144 2 rfl rfl ?_
    refine r_if_le (pc := 145) (tgt := 172) dX2_open_145 (by decide) h (fun e145 h => ?_) (fun e145 h => ?_)
    · exact r_sub (env' := [(0, vr v0), (1, vi v1), (2, vi v2), (3, vi v3)]) [0, 1, 2, 3] rfl (sX2_open_172 hk2 _ _ _ _ _ h)
    · refine r_aload_n (pc := 148) dX2_open_148 0 rfl rfl ?_
      refine r_gA (pc := 149) dX2_open_149 q173 fd_34 same_rf h (fun x149 e149 h => ?_)
      refine r_aload_n (pc := 152) dX2_open_152 0 rfl rfl ?_
      refine r_gI (pc := 153) dX2_open_153 q153 fd_29 same_rf h (fun x153 e153 h => ?_)
      refine r_iload_n (pc := 156) dX2_open_156 2 rfl rfl ?_
      refine r_iconst (pc := 157) (v := 1) dX2_open_157 (by decide) ?_
      refine r_isub (pc := 158) dX2_open_158 ?_
      refine r_imul (pc := 159) dX2_open_159 ?_
      refine r_iload_n (pc := 160) dX2_open_160 3 rfl rfl ?_
      refine r_iadd (pc := 161) dX2_open_161 ?_
      refine r_iaload (pc := 162) dX2_open_162 h (fun x162 e162 h => ?_)
      refine r_bipush (pc := 163) (v := 9) dX2_open_163 (by decide) ?_
      refine r_icmp_ne (pc := 165) (tgt := 172) dX2_open_165 (by decide) h (fun e165 h => ?_) (fun e165 h => ?_)
      · exact r_sub (env' := [(0, vr v0), (1, vi v1), (2, vi v2), (3, vi v3)]) [0, 1, 2, 3] rfl (sX2_open_172 hk2 _ _ _ _ _ h)
      · refine r_iconst (pc := 168) (v := 1) dX2_open_168 (by decide) ?_
        refine r_goto (pc := 169) (tgt := 173) dX2_open_169 (by decide) ?_
        exact r_sub (env' := [(0, vr v0), (1, vi v1), (2, vi v2), (3, vi v3)]) [0, 1, 2, 3] rfl (sX2_open_173 hk2 _ _ _ _ _ _ h)
  · refine r_iconst (pc := 99) (v := (-1)) dX2_open_99 (by decide) ?_
    refine r_istore (pc := 100) (env' := [(5, vi (-1 : Int32)), (0, vr v0), (1, vi v1), (2, vi v2), (3, vi v3), (4, vi v4)]) dX2_open_100 (by decide) rfl ?_
    exact r_sub (env' := [(0, vr v0), (1, vi v1), (2, vi v2), (3, vi v3), (4, vi v4), (5, vi (-1 : Int32))]) [1, 2, 3, 4, 5, 0] rfl (sX2_open_102 hk2 hk93 hcFuel _ _ _ _ _ _ _ h)
theorem sX2_open_93 {st0 : Mem} {fin : Rf × Mem} {kk2 : Rf → Int32 → Mem → Option (Rf × Mem)} (hk2 : ∀ (v0 : Rf) (v1 : Int32) (st : Mem), kk2 v0 v1 st = some fin → G (cX2_open, "HouseClaps$House", "open", 10, (some (.object "HouseClaps$House")), 7) st0 trA fin 2 [(0, vr v0), (1, vi v1)] [] st) (n : Nat) : ∀ (v0 : Rf) (v1 : Int32) (v2 : Int32) (v3 : Int32) (v4 : Int32) (st : Mem), bX2_open_93 kk2 n v0 v1 v2 v3 v4 st = some fin → G (cX2_open, "HouseClaps$House", "open", 10, (some (.object "HouseClaps$House")), 7) st0 trA fin 93 [(0, vr v0), (1, vi v1), (2, vi v2), (3, vi v3), (4, vi v4)] [] st := by
  induction n with
  | zero => intro v0 v1 v2 v3 v4 st h; cases h
  | succ n ih => intro v0 v1 v2 v3 v4 st h; exact sX2_open_93B hk2  ih v0 v1 v2 v3 v4 st h
theorem sX2_open_27B {st0 : Mem} {fin : Rf × Mem} {kk2 : Rf → Int32 → Mem → Option (Rf × Mem)} {kk27 : Rf → Int32 → Int32 → Int32 → Int32 → Mem → Option (Rf × Mem)} (hk2 : ∀ (v0 : Rf) (v1 : Int32) (st : Mem), kk2 v0 v1 st = some fin → G (cX2_open, "HouseClaps$House", "open", 10, (some (.object "HouseClaps$House")), 7) st0 trA fin 2 [(0, vr v0), (1, vi v1)] [] st) (hk27 : ∀ (v0 : Rf) (v1 : Int32) (v2 : Int32) (v3 : Int32) (v4 : Int32) (st : Mem), kk27 v0 v1 v2 v3 v4 st = some fin → G (cX2_open, "HouseClaps$House", "open", 10, (some (.object "HouseClaps$House")), 7) st0 trA fin 27 [(0, vr v0), (1, vi v1), (2, vi v2), (3, vi v3), (4, vi v4)] [] st) (v0 : Rf) (v1 : Int32) (v2 : Int32) (v3 : Int32) (v4 : Int32) (st : Mem) (h : bX2_open_27B kk2 kk27 v0 v1 v2 v3 v4 st = some fin) : G (cX2_open, "HouseClaps$House", "open", 10, (some (.object "HouseClaps$House")), 7) st0 trA fin 27 [(0, vr v0), (1, vi v1), (2, vi v2), (3, vi v3), (4, vi v4)] [] st := by
  unfold bX2_open_27B at h
  refine r_iload (pc := 27) dX2_open_27 4 rfl ?_
  refine r_bipush (pc := 29) (v := 6) dX2_open_29 (by decide) ?_
  refine r_icmp_ge (pc := 31) (tgt := 50) dX2_open_31 (by decide) h (fun e31 h => ?_) (fun e31 h => ?_)
  · refine r_aload_n (pc := 50) dX2_open_50 0 rfl rfl ?_
    refine r_iconst (pc := 51) (v := 1) dX2_open_51 (by decide) ?_
    refine r_iload_n (pc := 52) dX2_open_52 1 rfl rfl ?_
    refine r_iload_n (pc := 53) dX2_open_53 2 rfl rfl ?_
    refine r_iconst (pc := 54) (v := 1) dX2_open_54 (by decide) ?_
    refine r_isub (pc := 55) dX2_open_55 ?_
    refine r_iload_n (pc := 56) dX2_open_56 3 rfl rfl ?_
    refine r_callV (pc := 57) (rest := []) (lkV dX2_open_57 q1042 xd_X2_see (vc_of vt_X2_see q1044 (fun _ => sX2_see)) adx_X2_see) (by decide) (Nat.le_of_ble_eq_true rfl) rfl h (fun u57 st e57 h => ?_)
    refine r_aload_n (pc := 60) dX2_open_60 0 rfl rfl ?_
    refine r_iconst (pc := 61) (v := 3) dX2_open_61 (by decide) ?_
    refine r_iload_n (pc := 62) dX2_open_62 1 rfl rfl ?_
    refine r_iload_n (pc := 63) dX2_open_63 2 rfl rfl ?_
    refine r_iconst (pc := 64) (v := 1) dX2_open_64 (by decide) ?_
    refine r_iadd (pc := 65) dX2_open_65 ?_
    refine r_iload_n (pc := 66) dX2_open_66 3 rfl rfl ?_
    refine r_callV (pc := 67) (rest := []) (lkV dX2_open_67 q1042 xd_X2_see (vc_of vt_X2_see q1044 (fun _ => sX2_see)) adx_X2_see) (by decide) (Nat.le_of_ble_eq_true rfl) rfl h (fun u67 st e67 h => ?_)
    refine r_aload_n (pc := 70) dX2_open_70 0 rfl rfl ?_
    refine r_iconst (pc := 71) (v := 2) dX2_open_71 (by decide) ?_
    refine r_iload_n (pc := 72) dX2_open_72 1 rfl rfl ?_
    refine r_iload_n (pc := 73) dX2_open_73 2 rfl rfl ?_
    refine r_iload_n (pc := 74) dX2_open_74 3 rfl rfl ?_
    refine r_iconst (pc := 75) (v := 1) dX2_open_75 (by decide) ?_
    refine r_isub (pc := 76) dX2_open_76 ?_
    refine r_callV (pc := 77) (rest := []) (lkV dX2_open_77 q1042 xd_X2_see (vc_of vt_X2_see q1044 (fun _ => sX2_see)) adx_X2_see) (by decide) (Nat.le_of_ble_eq_true rfl) rfl h (fun u77 st e77 h => ?_)
    refine r_aload_n (pc := 80) dX2_open_80 0 rfl rfl ?_
    refine r_iconst (pc := 81) (v := 2) dX2_open_81 (by decide) ?_
    refine r_iload_n (pc := 82) dX2_open_82 1 rfl rfl ?_
    refine r_iload_n (pc := 83) dX2_open_83 2 rfl rfl ?_
    refine r_iload_n (pc := 84) dX2_open_84 3 rfl rfl ?_
    refine r_iconst (pc := 85) (v := 1) dX2_open_85 (by decide) ?_
    refine r_iadd (pc := 86) dX2_open_86 ?_
    refine r_callV (pc := 87) (rest := []) (lkV dX2_open_87 q1042 xd_X2_see (vc_of vt_X2_see q1044 (fun _ => sX2_see)) adx_X2_see) (by decide) (Nat.le_of_ble_eq_true rfl) rfl h (fun u87 st e87 h => ?_)
    refine r_iconst (pc := 90) (v := (-1)) dX2_open_90 (by decide) ?_
    refine r_istore (pc := 91) (env' := [(4, vi (-1 : Int32)), (0, vr v0), (1, vi v1), (2, vi v2), (3, vi v3)]) dX2_open_91 (by decide) rfl ?_
    exact r_sub (env' := [(0, vr v0), (1, vi v1), (2, vi v2), (3, vi v3), (4, vi (-1 : Int32))]) [1, 2, 3, 4, 0] rfl (sX2_open_93 hk2 hcFuel _ _ _ _ _ _ h)
  · refine r_aload_n (pc := 34) dX2_open_34 0 rfl rfl ?_
    refine r_gA (pc := 35) dX2_open_35 q195 fd_40 same_rf h (fun x35 e35 h => ?_)
    refine r_iload (pc := 38) dX2_open_38 4 rfl ?_
    refine r_aaload (pc := 40) dX2_open_40 h (fun x40 e40 h => ?_)
    refine r_iload_n (pc := 41) dX2_open_41 1 rfl rfl ?_
    refine r_lconst (pc := 42) (v := 0) dX2_open_42 (by decide) ?_
    refine r_lastore (pc := 43) dX2_open_43 h (fun st e43 h => ?_)
    refine r_iinc (pc := 44) (env' := [(4, vi (v4 + 1)), (0, vr v0), (1, vi v1), (2, vi v2), (3, vi v3)]) (cst := 1) dX2_open_44 4 rfl (by decide) (by decide) rfl ?_
    refine r_goto (pc := 47) (tgt := 27) dX2_open_47 (by decide) ?_
    exact r_sub (env' := [(0, vr v0), (1, vi v1), (2, vi v2), (3, vi v3), (4, vi (v4 + 1))]) [1, 2, 3, 4, 0] rfl (hk27 _ _ _ _ _ _ h)
theorem sX2_open_27 {st0 : Mem} {fin : Rf × Mem} {kk2 : Rf → Int32 → Mem → Option (Rf × Mem)} (hk2 : ∀ (v0 : Rf) (v1 : Int32) (st : Mem), kk2 v0 v1 st = some fin → G (cX2_open, "HouseClaps$House", "open", 10, (some (.object "HouseClaps$House")), 7) st0 trA fin 2 [(0, vr v0), (1, vi v1)] [] st) (n : Nat) : ∀ (v0 : Rf) (v1 : Int32) (v2 : Int32) (v3 : Int32) (v4 : Int32) (st : Mem), bX2_open_27 kk2 n v0 v1 v2 v3 v4 st = some fin → G (cX2_open, "HouseClaps$House", "open", 10, (some (.object "HouseClaps$House")), 7) st0 trA fin 27 [(0, vr v0), (1, vi v1), (2, vi v2), (3, vi v3), (4, vi v4)] [] st := by
  induction n with
  | zero => intro v0 v1 v2 v3 v4 st h; cases h
  | succ n ih => intro v0 v1 v2 v3 v4 st h; exact sX2_open_27B hk2  ih v0 v1 v2 v3 v4 st h
theorem sX2_open_2B {st0 : Mem} {fin : Rf × Mem} {kk2 : Rf → Int32 → Mem → Option (Rf × Mem)} (hk2 : ∀ (v0 : Rf) (v1 : Int32) (st : Mem), kk2 v0 v1 st = some fin → G (cX2_open, "HouseClaps$House", "open", 10, (some (.object "HouseClaps$House")), 7) st0 trA fin 2 [(0, vr v0), (1, vi v1)] [] st) (v0 : Rf) (v1 : Int32) (st : Mem) (h : bX2_open_2B kk2 v0 v1 st = some fin) : G (cX2_open, "HouseClaps$House", "open", 10, (some (.object "HouseClaps$House")), 7) st0 trA fin 2 [(0, vr v0), (1, vi v1)] [] st := by
  unfold bX2_open_2B at h
  refine r_iload_n (pc := 2) dX2_open_2 1 rfl rfl ?_
  refine r_aload_n (pc := 3) dX2_open_3 0 rfl rfl ?_
  refine r_callI (pc := 4) (rest := [vi v1]) (lkV dX2_open_4 q1038 xd_X2_size (vc_of vt_X2_size q1039 (fun _ => sX2_size)) adx_X2_size) (by decide) (Nat.le_of_ble_eq_true rfl) rfl h (fun x4 st e4 h => ?_)
  refine r_icmp_ge (pc := 7) (tgt := 277) dX2_open_7 (by decide) h (fun e7 h => ?_) (fun e7 h => ?_)
  · refine r_aload_n (pc := 277) dX2_open_277 0 rfl rfl ?_
    exact r_areturn (pc := 278) dX2_open_278 rfl rfl h
  · refine r_iload_n (pc := 10) dX2_open_10 1 rfl rfl ?_
    refine r_aload_n (pc := 11) dX2_open_11 0 rfl rfl ?_
    refine r_gI (pc := 12) dX2_open_12 q153 fd_29 same_rf h (fun x12 e12 h => ?_)
    refine r_idiv (pc := 15) dX2_open_15 h (fun x15 e15 h => ?_)
    refine r_istore_n (pc := 16) (env' := [(2, vi x15), (0, vr v0), (1, vi v1)]) dX2_open_16 rfl (by decide) rfl ?_
    refine r_iload_n (pc := 17) dX2_open_17 2 rfl rfl ?_
    refine r_aload_n (pc := 18) dX2_open_18 1 rfl rfl ?_
    refine r_gI (pc := 19) dX2_open_19 q153 fd_29 same_rf h (fun x19 e19 h => ?_)
    refine r_irem (pc := 22) dX2_open_22 h (fun x22 e22 h => ?_)
    refine r_istore_n (pc := 23) (env' := [(3, vi x22), (2, vi x15), (0, vr v0), (1, vi v1)]) dX2_open_23 rfl (by decide) rfl ?_
    refine r_iconst (pc := 24) (v := 0) dX2_open_24 (by decide) ?_
    refine r_istore (pc := 25) (env' := [(4, vi (0 : Int32)), (3, vi x22), (2, vi x15), (0, vr v0), (1, vi v1)]) dX2_open_25 (by decide) rfl ?_
    exact r_sub (env' := [(0, vr v0), (1, vi v1), (2, vi x15), (3, vi x22), (4, vi (0 : Int32))]) [3, 4, 2, 1, 0] rfl (sX2_open_27 hk2 hcFuel _ _ _ _ _ _ h)
theorem sX2_open_2 {st0 : Mem} {fin : Rf × Mem} (n : Nat) : ∀ (v0 : Rf) (v1 : Int32) (st : Mem), bX2_open_2 n v0 v1 st = some fin → G (cX2_open, "HouseClaps$House", "open", 10, (some (.object "HouseClaps$House")), 7) st0 trA fin 2 [(0, vr v0), (1, vi v1)] [] st := by
  induction n with
  | zero => intro v0 v1 st h; cases h
  | succ n ih => intro v0 v1 st h; exact sX2_open_2B  ih v0 v1 st h
theorem sX2_open {a0 : Rf} {st : Mem} {fin : Rf × Mem} (h : fX2_open a0 st = some fin) : Con yX2_open 10 [vr a0] st trA fin := by
  refine Con.mk (cc := cX2_open) (n := 7) (own := "HouseClaps$House") (nm := "open") (ret := (some (.object "HouseClaps$House"))) (env := [(0, vr a0)]) q1037 rfl rfl rfl (by decide) ⟨Nat.le_of_ble_eq_true rfl, by decide⟩ rfl ?_
  unfold fX2_open at h
  refine r_iconst (pc := 0) (v := 0) dX2_open_0 (by decide) ?_
  refine r_istore_n (pc := 1) (env' := [(1, vi (0 : Int32)), (0, vr a0)]) dX2_open_1 rfl (by decide) rfl ?_
  exact r_sub (env' := [(0, vr a0), (1, vi (0 : Int32))]) [1, 0] rfl (sX2_open_2 hcFuel _ _ _ h)
theorem sX3_many {a0 : Rf} {a1 : Int32} {st : Mem} {fin : Int32 × Mem} (h : fX3_many a0 a1 st = some fin) : Con yX3_many 10 [vr a0, vi a1] st trI fin := by
  refine Con.mk (cc := cX3_many) (n := 2) (own := "HouseClaps$Night") (nm := "many") (ret := (some .int)) (env := [(0, vr a0), (1, vi a1)]) q1384 rfl rfl rfl (by decide) ⟨Nat.le_of_ble_eq_true rfl, by decide⟩ rfl ?_
  unfold fX3_many at h
  refine r_iload_n (pc := 0) dX3_many_0 1 rfl rfl ?_
  refine r_if_ne (pc := 1) (tgt := 14) dX3_many_1 (by decide) h (fun e1 h => ?_) (fun e1 h => ?_)
  · refine r_aload_n (pc := 14) dX3_many_14 0 rfl rfl ?_
    refine r_gA (pc := 15) dX3_many_15 q282 fd_53 same_rf h (fun x15 e15 h => ?_)
    refine r_iload_n (pc := 18) dX3_many_18 1 rfl rfl ?_
    refine r_laload (pc := 19) dX3_many_19 h (fun x19 e19 h => ?_)
    refine r_callI (pc := 20) (rest := []) (lkS dX3_many_20 q1350 q1351 q126 (fun _ => sJ18_bitCount) ad_J18_bitCount) (by decide) (Nat.le_of_ble_eq_true rfl) rfl h (fun x20 st e20 h => ?_)
    exact r_ireturn (pc := 23) dX3_many_23 rfl rfl h
  · refine r_aload_n (pc := 4) dX3_many_4 0 rfl rfl ?_
    refine r_gA (pc := 5) dX3_many_5 q260 fd_41 same_rf h (fun x5 e5 h => ?_)
    refine r_callI (pc := 8) (rest := []) (lkV dX3_many_8 q1385 xd_X2_seats (vc_of vt_X2_seats q1386 (fun _ => sX2_seats)) adx_X2_seats) (by decide) (Nat.le_of_ble_eq_true rfl) rfl h (fun x8 st e8 h => ?_)
    refine r_goto (pc := 11) (tgt := 23) dX3_many_11 (by decide) ?_
    exact r_ireturn (pc := 23) dX3_many_23 rfl rfl h
theorem sX5_hold_14 {st0 : Mem} {fin : (Int32 ⊕ Nat) × Mem} (v0 : Rf) (v1 : Int32) (v2 : Int32) (k0 : Rf) (k1 : Int32) (st : Mem) (h : bX5_hold_14 v0 v1 v2 k0 k1 st = some fin) : G (cX5_hold, "HouseClaps$Reader", "hold", 10, (some .int), 3) st0 trIx fin 14 [(0, vr v0), (1, vi v1), (2, vi v2)] [vi k1, vr k0] st := by
  unfold bX5_hold_14 at h
  refine r_iconst (pc := 14) (v := 1) dX5_hold_14 (by decide) ?_
  refine r_callVx (pc := 15) (rest := []) (lkV dX5_hold_15 q926 xd_X5_need (vc_of vt_X5_need q782 (fun _ => sX5_need)) adx_X5_need) (by decide) (Nat.le_of_ble_eq_true rfl) rfl (by decide) (fun _ => rfl) h (fun u15 st e15 h => ?_)
  refine r_aload_n (pc := 18) dX5_hold_18 0 rfl rfl ?_
  refine r_aload_n (pc := 19) dX5_hold_19 0 rfl rfl ?_
  refine r_gI (pc := 20) dX5_hold_20 q447 fd_130 same_rf h (fun x20 e20 h => ?_)
  refine r_iload_n (pc := 23) dX5_hold_23 1 rfl rfl ?_
  refine r_iload_n (pc := 24) dX5_hold_24 2 rfl rfl ?_
  refine r_callI (pc := 25) (rest := [vr v0]) (lkSN dX5_hold_25 q927 q928 q85 (fun _ => sX1_isIn) ad_X1_isIn) (by decide) (Nat.le_of_ble_eq_true rfl) rfl h (fun x25 st e25 h => ?_)
  refine r_iconst (pc := 28) (v := 2) dX5_hold_28 (by decide) ?_
  refine r_callVx (pc := 29) (rest := []) (lkV dX5_hold_29 q926 xd_X5_need (vc_of vt_X5_need q782 (fun _ => sX5_need)) adx_X5_need) (by decide) (Nat.le_of_ble_eq_true rfl) rfl (by decide) (fun _ => rfl) h (fun u29 st e29 h => ?_)
  refine r_aload_n (pc := 32) dX5_hold_32 0 rfl rfl ?_
  refine r_gI (pc := 33) dX5_hold_33 q447 fd_130 same_rf h (fun x33 e33 h => ?_)
  exact r_ireturn (pc := 36) dX5_hold_36 rfl rfl h
theorem sX5_hold {a0 : Rf} {a1 : Int32} {a2 : Int32} {st : Mem} {fin : (Int32 ⊕ Nat) × Mem} (h : fX5_hold a0 a1 a2 st = some fin) : Con yX5_hold 10 [vr a0, vi a1, vi a2] st trIx fin := by
  refine Con.mk (cc := cX5_hold) (n := 3) (own := "HouseClaps$Reader") (nm := "hold") (ret := (some .int)) (env := [(0, vr a0), (1, vi a1), (2, vi a2)]) q925 rfl rfl rfl (by decide) ⟨Nat.le_of_ble_eq_true rfl, by decide⟩ rfl ?_
  unfold fX5_hold at h
  refine r_aload_n (pc := 0) dX5_hold_0 0 rfl rfl ?_
  refine r_aload_n (pc := 1) dX5_hold_1 0 rfl rfl ?_
  refine r_gI (pc := 2) dX5_hold_2 q445 fd_128 same_rf h (fun x2 e2 h => ?_)
  refine r_iconst (pc := 5) (v := 3) dX5_hold_5 (by decide) ?_
  refine r_icmp_ne (pc := 6) (tgt := 13) dX5_hold_6 (by decide) h (fun e6 h => ?_) (fun e6 h => ?_)
  · refine r_iconst (pc := 13) (v := 0) dX5_hold_13 (by decide) ?_
    exact sX5_hold_14 _ _ _ _ _ _ h
  · refine r_iconst (pc := 9) (v := 1) dX5_hold_9 (by decide) ?_
    refine r_goto (pc := 10) (tgt := 14) dX5_hold_10 (by decide) ?_
    exact sX5_hold_14 _ _ _ _ _ _ h
theorem sX5_is_23 {st0 : Mem} {fin : Int32 × Mem} (st : Mem) (h : bX5_is_23  st = some fin) : G (cX5_is, "HouseClaps$Reader", "is", 10, (some .boolean), 2) st0 trI fin 23 [] [] st := by
  unfold bX5_is_23 at h
  refine r_iconst (pc := 23) (v := 0) dX5_is_23 (by decide) ?_
  exact r_ireturn (pc := 24) dX5_is_24 rfl rfl h
theorem sX5_is {a0 : Rf} {a1 : Rf} {st : Mem} {fin : Int32 × Mem} (h : fX5_is a0 a1 st = some fin) : Con yX5_is 10 [vr a0, vr a1] st trI fin := by
  refine Con.mk (cc := cX5_is) (n := 2) (own := "HouseClaps$Reader") (nm := "is") (ret := (some .boolean)) (env := [(0, vr a0), (1, vr a1)]) q765 rfl rfl rfl (by decide) ⟨Nat.le_of_ble_eq_true rfl, by decide⟩ rfl ?_
  unfold fX5_is at h
  refine r_aload_n (pc := 0) dX5_is_0 0 rfl rfl ?_
  refine r_gI (pc := 1) dX5_is_1 q445 fd_128 same_rf h (fun x1 e1 h => ?_)
  refine r_iconst (pc := 4) (v := 2) dX5_is_4 (by decide) ?_
  refine r_icmp_ne (pc := 5) (tgt := 23) dX5_is_5 (by decide) h (fun e5 h => ?_) (fun e5 h => ?_)
  · exact r_sub (env' := []) [] rfl (sX5_is_23 _ h)
  · refine r_aload_n (pc := 8) dX5_is_8 0 rfl rfl ?_
    refine r_gA (pc := 9) dX5_is_9 q451 fd_132 same_rf h (fun x9 e9 h => ?_)
    refine r_aload_n (pc := 12) dX5_is_12 1 rfl rfl ?_
    refine r_callI (pc := 13) (rest := []) (lkV dX5_is_13 q766 xd_J4_equals (vc_of vt_J4_equals q767 (fun _ => sJ4_equals)) adx_J4_equals) (by decide) (Nat.le_of_ble_eq_true rfl) rfl h (fun x13 st e13 h => ?_)
    refine r_if_eq (pc := 16) (tgt := 23) dX5_is_16 (by decide) h (fun e16 h => ?_) (fun e16 h => ?_)
    · exact r_sub (env' := []) [] rfl (sX5_is_23 _ h)
    · refine r_iconst (pc := 19) (v := 1) dX5_is_19 (by decide) ?_
      refine r_goto (pc := 20) (tgt := 24) dX5_is_20 (by decide) ?_
      exact r_ireturn (pc := 24) dX5_is_24 rfl rfl h
theorem sX6_init {a0 : Rf} {a1 : Rf} {a2 : Int32} {st : Mem} {fin : Unit × Mem} (h : fX6_init a0 a1 a2 st = some fin) : Con yX6_init 10 [vr a0, vr a1, vi a2] st trV fin := by
  refine Con.mk (cc := cX6_init) (n := 3) (own := "HouseClaps$HouseReader") (nm := "<init>") (ret := none) (env := [(0, vr a0), (1, vr a1), (2, vi a2)]) q423 rfl rfl rfl (by decide) ⟨Nat.le_of_ble_eq_true rfl, by decide⟩ rfl ?_
  unfold fX6_init at h
  refine r_aload_n (pc := 0) dX6_init_0 0 rfl rfl ?_
  refine r_aload_n (pc := 1) dX6_init_1 1 rfl rfl ?_
  refine r_iload_n (pc := 2) dX6_init_2 2 rfl rfl ?_
  refine r_sipush (pc := 3) (v := 900) dX6_init_3 (by decide) ?_
  refine r_callV (pc := 6) (rest := []) (lkI dX6_init_6 q424 q425 q426 rfl (fun _ => sX5_init) ad_X5_init) (by decide) (Nat.le_of_ble_eq_true rfl) rfl h (fun u6 st e6 h => ?_)
  refine r_aload_n (pc := 9) dX6_init_9 0 rfl rfl ?_
  refine r_new (pc := 10) dX6_init_10 q429 rfl h (fun x10 st e10 h => ?_)
  refine r_dup (pc := 13) dX6_init_13 rfl ?_
  refine r_callV (pc := 14) (rest := [vr x10, vr a0]) (lkI dX6_init_14 q430 q139 q140 rfl (fun _ => sX2_init) ad_X2_init) (by decide) (Nat.le_of_ble_eq_true rfl) rfl h (fun u14 st e14 h => ?_)
  refine r_pAF (pc := 17) dX6_init_17 q431 fd_133 same_rf ⟨rfl, rfl⟩ h (fun st e17 h => ?_)
  exact r_return_ (pc := 20) dX6_init_20 rfl h
theorem vcvX18_does {a0 : Rf} {a1 : Rf} {st : Mem} {fin : Unit × Mem} (h : vX18_does a0 a1 st = some fin) : VCon ⟨"HouseClaps$Cue", "does", "(LHouseClaps$Night;)V"⟩ 8 [vr a0, vr a1] st trV fin := by
  unfold vX18_does at h
  split at h
  · exact vc_of vt_X18_does_0 q1271 (fun _ h => Con.up (by decide) (sX20_does h)) fin h
  split at h
  · exact vc_of vt_X18_does_1 q1275 (fun _ h => Con.up (by decide) (sX22_does h)) fin h
  split at h
  · exact vc_of vt_X18_does_2 q1285 (fun _ h => Con.up (by decide) (sX21_does h)) fin h
  split at h
  · exact vc_of vt_X18_does_3 q1292 (fun _ h => Con.up (by decide) (sX19_does h)) fin h
  · cases h
theorem sX0_seat_13 {st0 : Mem} {fin : Int32 × Mem} (k0 : Rf) (st : Mem) (h : bX0_seat_13 k0 st = some fin) : G (cX0_seat, "HouseClapsLaw", "seat", 12, (some .int), 5) st0 trI fin 13 [] [vr k0] st := by
  unfold bX0_seat_13 at h
  refine r_astore (pc := 13) (env' := [(4, vr k0)]) dX0_seat_13 (by decide) rfl ?_
  refine r_iconst (pc := 15) (v := 1) dX0_seat_15 (by decide) ?_
  exact r_ireturn (pc := 16) dX0_seat_16 rfl rfl h
theorem sX0_seat {a0 : Rf} {a1 : Int32} {a2 : Int32} {a3 : Rf} {st : Mem} {fin : Int32 × Mem} (h : fX0_seat a0 a1 a2 a3 st = some fin) : Con yX0_seat 12 [vr a0, vi a1, vi a2, vr a3] st trI fin := by
  refine Con.mkW (cc := cX0_seat) (n := 5) (own := "HouseClapsLaw") (nm := "seat") (ret := (some .int)) (env := [(0, vr a0), (1, vi a1), (2, vi a2), (3, vr a3)]) q1618 rfl rfl rfl (by decide) ⟨Nat.le_of_ble_eq_true rfl, by decide⟩ rfl ?_
  unfold fX0_seat at h
  refine r_aload_n (pc := 0) dX0_seat_0 3 rfl rfl ?_
  refine r_iconst (pc := 1) (v := 0) dX0_seat_1 (by decide) ?_
  refine r_aload_n (pc := 2) dX0_seat_2 0 rfl rfl ?_
  refine r_iload_n (pc := 3) dX0_seat_3 1 rfl rfl ?_
  refine r_iload_n (pc := 4) dX0_seat_4 2 rfl rfl ?_
  refine r_callIC (pc := 5) (rest := [vi (0 : Int32), vr a3]) (env' := []) [] rfl (lkV dX0_seat_5 q1620 xd_X1_seat (vc_of vt_X1_seat q1621 (fun _ => sX1_seat)) adx_X1_seat) (by decide) (Nat.le_of_ble_eq_true rfl) rfl rfl ⟨by decide, by decide⟩ q1619 ⟨rfl, by decide, by decide⟩ h (fun z5 st e5 h => sX0_seat_13 _ _ h) (fun x5 st e5 h => ?_)
  refine r_i2l (pc := 8) dX0_seat_8 ?_
  refine r_lastore (pc := 9) dX0_seat_9 h (fun st e9 h => ?_)
  refine r_goto (pc := 10) (tgt := 17) dX0_seat_10 (by decide) ?_
  refine r_iconst (pc := 17) (v := 0) dX0_seat_17 (by decide) ?_
  exact r_ireturn (pc := 18) dX0_seat_18 rfl rfl h
theorem sX17_init {a0 : Rf} {a1 : Rf} {a2 : Int32} {a3 : Rf} {st : Mem} {fin : Unit × Mem} (h : fX17_init a0 a1 a2 a3 st = some fin) : Con yX17_init 12 [vr a0, vr a1, vi a2, vr a3] st trV fin := by
  refine Con.mk (cc := cX17_init) (n := 4) (own := "HouseClaps$CueReader") (nm := "<init>") (ret := none) (env := [(0, vr a0), (1, vr a1), (2, vi a2), (3, vr a3)]) q1080 rfl rfl rfl (by decide) ⟨Nat.le_of_ble_eq_true rfl, by decide⟩ rfl ?_
  unfold fX17_init at h
  refine r_aload_n (pc := 0) dX17_init_0 0 rfl rfl ?_
  refine r_aload_n (pc := 1) dX17_init_1 1 rfl rfl ?_
  refine r_iload_n (pc := 2) dX17_init_2 2 rfl rfl ?_
  refine r_sipush (pc := 3) (v := 400) dX17_init_3 (by decide) ?_
  refine r_callV (pc := 6) (rest := []) (lkI dX17_init_6 q1081 q425 q426 rfl (fun _ => sX5_init) ad_X5_init) (by decide) (Nat.le_of_ble_eq_true rfl) rfl h (fun u6 st e6 h => ?_)
  refine r_aload_n (pc := 9) dX17_init_9 0 rfl rfl ?_
  refine r_new (pc := 10) dX17_init_10 q1082 rfl h (fun x10 st e10 h => ?_)
  refine r_dup (pc := 13) dX17_init_13 rfl ?_
  refine r_callV (pc := 14) (rest := [vr x10, vr a0]) (lkI dX17_init_14 q1083 q231 q232 rfl (fun _ => sJ3_init) ad_J3_init) (by decide) (Nat.le_of_ble_eq_true rfl) rfl h (fun u14 st e14 h => ?_)
  refine r_pAF (pc := 17) dX17_init_17 q1085 fd_149 same_rf ⟨rfl, rfl⟩ h (fun st e17 h => ?_)
  refine r_aload_n (pc := 20) dX17_init_20 0 rfl rfl ?_
  refine r_aload_n (pc := 21) dX17_init_21 3 rfl rfl ?_
  refine r_pAF (pc := 22) dX17_init_22 q1084 fd_148 same_rf ⟨rfl, rfl⟩ h (fun st e22 h => ?_)
  exact r_return_ (pc := 25) dX17_init_25 rfl h
theorem sX1_cue_31 {st0 : Mem} {fin : (Int32 ⊕ Nat) × Mem} (v0 : Rf) (v1 : Int32) (v2 : Int32) (k0 : Int32) (st : Mem) (h : bX1_cue_31 v0 v1 v2 k0 st = some fin) : G (cX1_cue, "HouseClaps", "cue", 12, (some .int), 4) st0 trIx fin 31 [(0, vr v0), (1, vi v1), (2, vi v2)] [vi k0] st := by
  unfold bX1_cue_31 at h
  refine r_callVx (pc := 31) (rest := []) (lkS dX1_cue_31 q1624 q1625 q85 (fun _ => sX1_need) ad_X1_need) (by decide) (Nat.le_of_ble_eq_true rfl) rfl (by decide) (fun _ => rfl) h (fun u31 st e31 h => ?_)
  refine r_aload_n (pc := 34) dX1_cue_34 0 rfl rfl ?_
  refine r_gA (pc := 35) dX1_cue_35 q321 fd_7 same_rf h (fun x35 e35 h => ?_)
  refine r_iload_n (pc := 38) dX1_cue_38 1 rfl rfl ?_
  refine r_callA (pc := 39) (rest := []) (lkV dX1_cue_39 q1433 xd_J3_get (vc_of vt_J3_get q1255 (fun _ => sJ3_get)) adx_J3_get) (by decide) (Nat.le_of_ble_eq_true rfl) rfl h (fun x39 st e39 h => ?_)
  refine r_cast (pc := 42) dX1_cue_42 q1434 ⟨rfl, by decide, by decide⟩ h (fun x42 e42 h => ?_)
  refine r_astore_n (pc := 45) (env' := [(3, vr x42), (0, vr v0), (1, vi v1), (2, vi v2)]) dX1_cue_45 rfl (by decide) rfl ?_
  refine r_iload_n (pc := 46) dX1_cue_46 3 rfl rfl ?_
  refine r_if_ne (pc := 47) (tgt := 57) dX1_cue_47 (by decide) h (fun e47 h => ?_) (fun e47 h => ?_)
  · refine r_iload_n (pc := 57) dX1_cue_57 3 rfl rfl ?_
    refine r_iconst (pc := 58) (v := 1) dX1_cue_58 (by decide) ?_
    refine r_icmp_ne (pc := 59) (tgt := 69) dX1_cue_59 (by decide) h (fun e59 h => ?_) (fun e59 h => ?_)
    · refine r_aload_n (pc := 69) dX1_cue_69 0 rfl rfl ?_
      refine r_callI (pc := 70) (rest := []) (lkV dX1_cue_70 q1654 xd_X18_seat (fun _ => vcvX18_seat) adx_X18_seat) (by decide) (Nat.le_of_ble_eq_true rfl) rfl h (fun x70 st e70 h => ?_)
      exact r_ireturn (pc := 73) dX1_cue_73 rfl rfl h
    · refine r_aload_n (pc := 62) dX1_cue_62 0 rfl rfl ?_
      refine r_callI (pc := 63) (rest := []) (lkV dX1_cue_63 q1435 xd_X18_what (fun _ => vcvX18_what) adx_X18_what) (by decide) (Nat.le_of_ble_eq_true rfl) rfl h (fun x63 st e63 h => ?_)
      refine r_goto (pc := 66) (tgt := 73) dX1_cue_66 (by decide) ?_
      exact r_ireturn (pc := 73) dX1_cue_73 rfl rfl h
  · refine r_aload_n (pc := 50) dX1_cue_50 0 rfl rfl ?_
    refine r_gI (pc := 51) dX1_cue_51 q1140 fd_150 same_rf h (fun x51 e51 h => ?_)
    refine r_goto (pc := 54) (tgt := 73) dX1_cue_54 (by decide) ?_
    exact r_ireturn (pc := 73) dX1_cue_73 rfl rfl h
theorem sX1_cue_30 {st0 : Mem} {fin : (Int32 ⊕ Nat) × Mem} (v0 : Rf) (v1 : Int32) (v2 : Int32) (st : Mem) (h : bX1_cue_30 v0 v1 v2 st = some fin) : G (cX1_cue, "HouseClaps", "cue", 12, (some .int), 4) st0 trIx fin 30 [(0, vr v0), (1, vi v1), (2, vi v2)] [] st := by
  unfold bX1_cue_30 at h
  refine r_iconst (pc := 30) (v := 0) dX1_cue_30 (by decide) ?_
  exact sX1_cue_31 _ _ _ _ _ h
theorem sX1_cue {a0 : Rf} {a1 : Int32} {a2 : Int32} {st : Mem} {fin : (Int32 ⊕ Nat) × Mem} (h : fX1_cue a0 a1 a2 st = some fin) : Con yX1_cue 12 [vr a0, vi a1, vi a2] st trIx fin := by
  refine Con.mk (cc := cX1_cue) (n := 4) (own := "HouseClaps") (nm := "cue") (ret := (some .int)) (env := [(0, vr a0), (1, vi a1), (2, vi a2)]) q1653 rfl rfl rfl (by decide) ⟨Nat.le_of_ble_eq_true rfl, by decide⟩ rfl ?_
  unfold fX1_cue at h
  refine r_iload_n (pc := 0) dX1_cue_0 1 rfl rfl ?_
  refine r_iconst (pc := 1) (v := 0) dX1_cue_1 (by decide) ?_
  refine r_aload_n (pc := 2) dX1_cue_2 0 rfl rfl ?_
  refine r_gA (pc := 3) dX1_cue_3 q321 fd_7 same_rf h (fun x3 e3 h => ?_)
  refine r_callI (pc := 6) (rest := [vi (0 : Int32), vi a1]) (lkV dX1_cue_6 q1233 xd_J3_size (vc_of vt_J3_size q1115 (fun _ => sJ3_size)) adx_J3_size) (by decide) (Nat.le_of_ble_eq_true rfl) rfl h (fun x6 st e6 h => ?_)
  refine r_iconst (pc := 9) (v := 1) dX1_cue_9 (by decide) ?_
  refine r_isub (pc := 10) dX1_cue_10 ?_
  refine r_callI (pc := 11) (rest := []) (lkS dX1_cue_11 q1055 q928 q85 (fun _ => sX1_isIn) ad_X1_isIn) (by decide) (Nat.le_of_ble_eq_true rfl) rfl h (fun x11 st e11 h => ?_)
  refine r_if_eq (pc := 14) (tgt := 30) dX1_cue_14 (by decide) h (fun e14 h => ?_) (fun e14 h => ?_)
  · exact sX1_cue_30 _ _ _ _ h
  · refine r_iload_n (pc := 17) dX1_cue_17 2 rfl rfl ?_
    refine r_iconst (pc := 18) (v := 0) dX1_cue_18 (by decide) ?_
    refine r_iconst (pc := 19) (v := 2) dX1_cue_19 (by decide) ?_
    refine r_callI (pc := 20) (rest := []) (lkS dX1_cue_20 q1055 q928 q85 (fun _ => sX1_isIn) ad_X1_isIn) (by decide) (Nat.le_of_ble_eq_true rfl) rfl h (fun x20 st e20 h => ?_)
    refine r_if_eq (pc := 23) (tgt := 30) dX1_cue_23 (by decide) h (fun e23 h => ?_) (fun e23 h => ?_)
    · exact sX1_cue_30 _ _ _ _ h
    · refine r_iconst (pc := 26) (v := 1) dX1_cue_26 (by decide) ?_
      refine r_goto (pc := 27) (tgt := 31) dX1_cue_27 (by decide) ?_
      exact sX1_cue_31 _ _ _ _ _ h
theorem sX1_exchange {a0 : Rf} {a1 : Int32} {a2 : Int32} {st : Mem} {fin : Int32 × Mem} (h : fX1_exchange a0 a1 a2 st = some fin) : Con yX1_exchange 12 [vr a0, vi a1, vi a2] st trI fin := by
  refine Con.mk (cc := cX1_exchange) (n := 3) (own := "HouseClaps") (nm := "exchange") (ret := (some .boolean)) (env := [(0, vr a0), (1, vi a1), (2, vi a2)]) q1568 rfl rfl rfl (by decide) ⟨Nat.le_of_ble_eq_true rfl, by decide⟩ rfl ?_
  unfold fX1_exchange at h
  refine r_aload_n (pc := 0) dX1_exchange_0 0 rfl rfl ?_
  refine r_gA (pc := 1) dX1_exchange_1 q318 fd_4 same_rf h (fun x1 e1 h => ?_)
  refine r_iload_n (pc := 4) dX1_exchange_4 1 rfl rfl ?_
  refine r_callI (pc := 5) (rest := []) (lkV dX1_exchange_5 q1060 xd_X2_isSeat (vc_of vt_X2_isSeat q1061 (fun _ => sX2_isSeat)) adx_X2_isSeat) (by decide) (Nat.le_of_ble_eq_true rfl) rfl h (fun x5 st e5 h => ?_)
  refine r_if_eq (pc := 8) (tgt := 27) dX1_exchange_8 (by decide) h (fun e8 h => ?_) (fun e8 h => ?_)
  · refine r_iconst (pc := 27) (v := 0) dX1_exchange_27 (by decide) ?_
    exact r_ireturn (pc := 28) dX1_exchange_28 rfl rfl h
  · refine r_aload_n (pc := 11) dX1_exchange_11 0 rfl rfl ?_
    refine r_gA (pc := 12) dX1_exchange_12 q318 fd_4 same_rf h (fun x12 e12 h => ?_)
    refine r_iload_n (pc := 15) dX1_exchange_15 2 rfl rfl ?_
    refine r_callI (pc := 16) (rest := []) (lkV dX1_exchange_16 q1060 xd_X2_isSeat (vc_of vt_X2_isSeat q1061 (fun _ => sX2_isSeat)) adx_X2_isSeat) (by decide) (Nat.le_of_ble_eq_true rfl) rfl h (fun x16 st e16 h => ?_)
    refine r_if_eq (pc := 19) (tgt := 27) dX1_exchange_19 (by decide) h (fun e19 h => ?_) (fun e19 h => ?_)
    · refine r_iconst (pc := 27) (v := 0) dX1_exchange_27 (by decide) ?_
      exact r_ireturn (pc := 28) dX1_exchange_28 rfl rfl h
    · refine r_iload_n (pc := 22) dX1_exchange_22 1 rfl rfl ?_
      refine r_iload_n (pc := 23) dX1_exchange_23 2 rfl rfl ?_
      refine r_icmp_ne (pc := 24) (tgt := 29) dX1_exchange_24 (by decide) h (fun e24 h => ?_) (fun e24 h => ?_)
      · refine r_aload_n (pc := 29) dX1_exchange_29 0 rfl rfl ?_
        refine r_aload_n (pc := 30) dX1_exchange_30 0 rfl rfl ?_
        refine r_gA (pc := 31) dX1_exchange_31 q318 fd_4 same_rf h (fun x31 e31 h => ?_)
        refine r_iload_n (pc := 34) dX1_exchange_34 1 rfl rfl ?_
        refine r_iload_n (pc := 35) dX1_exchange_35 2 rfl rfl ?_
        refine r_callA (pc := 36) (rest := [vr a0]) (lkV dX1_exchange_36 q1553 xd_X2_exchanged (vc_of vt_X2_exchanged q1554 (fun _ => sX2_exchanged)) adx_X2_exchanged) (by decide) (Nat.le_of_ble_eq_true rfl) rfl h (fun x36 st e36 h => ?_)
        refine r_pA (pc := 39) dX1_exchange_39 q318 fd_4 same_rf rfl h (fun st e39 h => ?_)
        refine r_iconst (pc := 42) (v := 1) dX1_exchange_42 (by decide) ?_
        exact r_ireturn (pc := 43) dX1_exchange_43 rfl rfl h
      · refine r_iconst (pc := 27) (v := 0) dX1_exchange_27 (by decide) ?_
        exact r_ireturn (pc := 28) dX1_exchange_28 rfl rfl h
theorem sX1_init {a0 : Rf} {st : Mem} {fin : Unit × Mem} (h : fX1_init a0 st = some fin) : Con yX1_init 12 [vr a0] st trV fin := by
  refine Con.mk (cc := cX1_init) (n := 1) (own := "HouseClaps") (nm := "<init>") (ret := none) (env := [(0, vr a0)]) q132 rfl rfl rfl (by decide) ⟨Nat.le_of_ble_eq_true rfl, by decide⟩ rfl ?_
  unfold fX1_init at h
  refine r_aload_n (pc := 0) dX1_init_0 0 rfl rfl ?_
  refine r_objInit (pc := 1) dX1_init_1 q133 (by decide) (Nat.le_of_ble_eq_true rfl) h (fun h => ?_)
  refine r_aload_n (pc := 4) dX1_init_4 0 rfl rfl ?_
  refine r_sipush (pc := 5) (v := 940) dX1_init_5 (by decide) ?_
  refine r_newarray (pc := 8) dX1_init_8 ⟨rfl, by decide⟩ h (fun x8 st e8 h => ?_)
  refine r_pAF (pc := 10) dX1_init_10 q315 fd_1 same_rf ⟨rfl, rfl⟩ h (fun st e10 h => ?_)
  refine r_aload_n (pc := 13) dX1_init_13 0 rfl rfl ?_
  refine r_new (pc := 14) dX1_init_14 q136 rfl h (fun x14 st e14 h => ?_)
  refine r_dup (pc := 17) dX1_init_17 rfl ?_
  refine r_callV (pc := 18) (rest := [vr x14, vr a0]) (lkI dX1_init_18 q138 q139 q140 rfl (fun _ => sX2_init) ad_X2_init) (by decide) (Nat.le_of_ble_eq_true rfl) rfl h (fun u18 st e18 h => ?_)
  refine r_pA (pc := 21) dX1_init_21 q318 fd_4 same_rf rfl h (fun st e21 h => ?_)
  refine r_aload_n (pc := 24) dX1_init_24 0 rfl rfl ?_
  refine r_new (pc := 25) dX1_init_25 q228 rfl h (fun x25 st e25 h => ?_)
  refine r_dup (pc := 28) dX1_init_28 rfl ?_
  refine r_callV (pc := 29) (rest := [vr x25, vr a0]) (lkI dX1_init_29 q230 q231 q232 rfl (fun _ => sJ3_init) ad_J3_init) (by decide) (Nat.le_of_ble_eq_true rfl) rfl h (fun u29 st e29 h => ?_)
  refine r_pA (pc := 32) dX1_init_32 q321 fd_7 same_rf rfl h (fun st e32 h => ?_)
  refine r_aload_n (pc := 35) dX1_init_35 0 rfl rfl ?_
  refine r_new (pc := 36) dX1_init_36 q254 rfl h (fun x36 st e36 h => ?_)
  refine r_dup (pc := 39) dX1_init_39 rfl ?_
  refine r_callV (pc := 40) (rest := [vr x36, vr a0]) (lkIN dX1_init_40 q256 q257 q258 rfl (fun _ => sX3_init) ad_X3_init) (by decide) (Nat.le_of_ble_eq_true rfl) rfl h (fun u40 st e40 h => ?_)
  refine r_pAF (pc := 43) dX1_init_43 q322 fd_8 same_rf ⟨rfl, rfl⟩ h (fun st e43 h => ?_)
  refine r_aload_n (pc := 46) dX1_init_46 0 rfl rfl ?_
  refine r_new (pc := 47) dX1_init_47 q254 rfl h (fun x47 st e47 h => ?_)
  refine r_dup (pc := 50) dX1_init_50 rfl ?_
  refine r_callV (pc := 51) (rest := [vr x47, vr a0]) (lkIN dX1_init_51 q256 q257 q258 rfl (fun _ => sX3_init) ad_X3_init) (by decide) (Nat.le_of_ble_eq_true rfl) rfl h (fun u51 st e51 h => ?_)
  refine r_pAF (pc := 54) dX1_init_54 q323 fd_9 same_rf ⟨rfl, rfl⟩ h (fun st e54 h => ?_)
  refine r_aload_n (pc := 57) dX1_init_57 0 rfl rfl ?_
  refine r_sipush (pc := 58) (v := 2404) dX1_init_58 (by decide) ?_
  refine r_newarray (pc := 61) dX1_init_61 ⟨rfl, by decide⟩ h (fun x61 st e61 h => ?_)
  refine r_pAF (pc := 63) dX1_init_63 q324 fd_10 same_rf ⟨rfl, rfl⟩ h (fun st e63 h => ?_)
  refine r_aload_n (pc := 66) dX1_init_66 0 rfl rfl ?_
  refine r_bipush (pc := 67) (v := 8) dX1_init_67 (by decide) ?_
  refine r_newarray (pc := 69) dX1_init_69 ⟨rfl, by decide⟩ h (fun x69 st e69 h => ?_)
  refine r_pAF (pc := 71) dX1_init_71 q325 fd_11 same_rf ⟨rfl, rfl⟩ h (fun st e71 h => ?_)
  refine r_aload_n (pc := 74) dX1_init_74 0 rfl rfl ?_
  refine r_iconst (pc := 75) (v := (-1)) dX1_init_75 (by decide) ?_
  refine r_pI (pc := 76) dX1_init_76 q326 fd_12 same_rf rfl h (fun st e76 h => ?_)
  refine r_aload_n (pc := 79) dX1_init_79 0 rfl rfl ?_
  refine r_sipush (pc := 80) (v := 256) dX1_init_80 (by decide) ?_
  refine r_newarray (pc := 83) dX1_init_83 ⟨rfl, by decide⟩ h (fun x83 st e83 h => ?_)
  refine r_pAF (pc := 85) dX1_init_85 q327 fd_13 same_rf ⟨rfl, rfl⟩ h (fun st e85 h => ?_)
  refine r_aload_n (pc := 88) dX1_init_88 0 rfl rfl ?_
  refine r_sipush (pc := 89) (v := 256) dX1_init_89 (by decide) ?_
  refine r_newarray (pc := 92) dX1_init_92 ⟨rfl, by decide⟩ h (fun x92 st e92 h => ?_)
  refine r_pAF (pc := 94) dX1_init_94 q328 fd_14 same_rf ⟨rfl, rfl⟩ h (fun st e94 h => ?_)
  refine r_aload_n (pc := 97) dX1_init_97 0 rfl rfl ?_
  refine r_bipush (pc := 98) (v := 8) dX1_init_98 (by decide) ?_
  refine r_newarray (pc := 100) dX1_init_100 ⟨rfl, by decide⟩ h (fun x100 st e100 h => ?_)
  refine r_pAF (pc := 102) dX1_init_102 q329 fd_15 same_rf ⟨rfl, rfl⟩ h (fun st e102 h => ?_)
  refine r_aload_n (pc := 105) dX1_init_105 0 rfl rfl ?_
  refine r_lconst (pc := 106) (v := 1) dX1_init_106 (by decide) ?_
  refine r_pJ (pc := 107) dX1_init_107 q331 fd_17 same_rf rfl h (fun st e107 h => ?_)
  refine r_aload_n (pc := 110) dX1_init_110 0 rfl rfl ?_
  refine r_bipush (pc := 111) (v := 8) dX1_init_111 (by decide) ?_
  refine r_newarray (pc := 113) dX1_init_113 ⟨rfl, by decide⟩ h (fun x113 st e113 h => ?_)
  refine r_pAF (pc := 115) dX1_init_115 q332 fd_18 same_rf ⟨rfl, rfl⟩ h (fun st e115 h => ?_)
  refine r_aload_n (pc := 118) dX1_init_118 0 rfl rfl ?_
  refine r_iconst (pc := 119) (v := 3) dX1_init_119 (by decide) ?_
  refine r_newarray (pc := 120) dX1_init_120 ⟨rfl, by decide⟩ h (fun x120 st e120 h => ?_)
  refine r_dup (pc := 122) dX1_init_122 rfl ?_
  refine r_iconst (pc := 123) (v := 0) dX1_init_123 (by decide) ?_
  refine r_iconst (pc := 124) (v := (-1)) dX1_init_124 (by decide) ?_
  refine r_iastore (pc := 125) dX1_init_125 h (fun st e125 h => ?_)
  refine r_dup (pc := 126) dX1_init_126 rfl ?_
  refine r_iconst (pc := 127) (v := 1) dX1_init_127 (by decide) ?_
  refine r_iconst (pc := 128) (v := (-1)) dX1_init_128 (by decide) ?_
  refine r_iastore (pc := 129) dX1_init_129 h (fun st e129 h => ?_)
  refine r_dup (pc := 130) dX1_init_130 rfl ?_
  refine r_iconst (pc := 131) (v := 2) dX1_init_131 (by decide) ?_
  refine r_iconst (pc := 132) (v := (-1)) dX1_init_132 (by decide) ?_
  refine r_iastore (pc := 133) dX1_init_133 h (fun st e133 h => ?_)
  refine r_pAF (pc := 134) dX1_init_134 q333 fd_19 same_rf ⟨rfl, rfl⟩ h (fun st e134 h => ?_)
  refine r_aload_n (pc := 137) dX1_init_137 0 rfl rfl ?_
  refine r_iconst (pc := 138) (v := (-1)) dX1_init_138 (by decide) ?_
  refine r_pI (pc := 139) dX1_init_139 q334 fd_20 same_rf rfl h (fun st e139 h => ?_)
  refine r_aload_n (pc := 142) dX1_init_142 0 rfl rfl ?_
  refine r_iconst (pc := 143) (v := (-1)) dX1_init_143 (by decide) ?_
  refine r_pI (pc := 144) dX1_init_144 q335 fd_21 same_rf rfl h (fun st e144 h => ?_)
  refine r_aload_n (pc := 147) dX1_init_147 0 rfl rfl ?_
  refine r_iconst (pc := 148) (v := 2) dX1_init_148 (by decide) ?_
  refine r_anewarray (pc := 149) dX1_init_149 q136 ⟨rfl, by decide⟩ h (fun x149 st e149 h => ?_)
  refine r_pAF (pc := 152) dX1_init_152 q338 fd_24 same_rf ⟨rfl, rfl⟩ h (fun st e152 h => ?_)
  refine r_aload_n (pc := 155) dX1_init_155 0 rfl rfl ?_
  refine r_iconst (pc := 156) (v := 2) dX1_init_156 (by decide) ?_
  refine r_newarray (pc := 157) dX1_init_157 ⟨rfl, by decide⟩ h (fun x157 st e157 h => ?_)
  refine r_pAF (pc := 159) dX1_init_159 q339 fd_25 same_rf ⟨rfl, rfl⟩ h (fun st e159 h => ?_)
  refine r_aload_n (pc := 162) dX1_init_162 0 rfl rfl ?_
  refine r_iconst (pc := 163) (v := 2) dX1_init_163 (by decide) ?_
  refine r_newarray (pc := 164) dX1_init_164 ⟨rfl, by decide⟩ h (fun x164 st e164 h => ?_)
  refine r_pAF (pc := 166) dX1_init_166 q340 fd_26 same_rf ⟨rfl, rfl⟩ h (fun st e166 h => ?_)
  refine r_aload_n (pc := 169) dX1_init_169 0 rfl rfl ?_
  refine r_new (pc := 170) dX1_init_170 q228 rfl h (fun x170 st e170 h => ?_)
  refine r_dup (pc := 173) dX1_init_173 rfl ?_
  refine r_callV (pc := 174) (rest := [vr x170, vr a0]) (lkI dX1_init_174 q230 q231 q232 rfl (fun _ => sJ3_init) ad_J3_init) (by decide) (Nat.le_of_ble_eq_true rfl) rfl h (fun u174 st e174 h => ?_)
  refine r_pAF (pc := 177) dX1_init_177 q341 fd_27 same_rf ⟨rfl, rfl⟩ h (fun st e177 h => ?_)
  exact r_return_ (pc := 180) dX1_init_180 rfl h
theorem sX1_quiet_148 {st0 : Mem} {fin : Int32 × Mem} (v1 : Int32) (st : Mem) (h : bX1_quiet_148 v1 st = some fin) : G (cX1_quiet, "HouseClaps", "quiet", 12, (some .int), 4) st0 trI fin 148 [(1, vi v1)] [] st := by
  unfold bX1_quiet_148 at h
  refine r_iload_n (pc := 148) dX1_quiet_148 0 rfl rfl ?_
  exact r_ireturn (pc := 149) dX1_quiet_149 rfl rfl h
theorem sX1_quiet_108 {st0 : Mem} {fin : Int32 × Mem} {kk52 : Rf → Int32 → Int32 → Int32 → Mem → Option (Int32 × Mem)} (hk52 : ∀ (v0 : Rf) (v1 : Int32) (v2 : Int32) (v3 : Int32) (st : Mem), kk52 v0 v1 v2 v3 st = some fin → G (cX1_quiet, "HouseClaps", "quiet", 12, (some .int), 4) st0 trI fin 52 [(0, vr v0), (1, vi v1), (2, vi v2), (3, vi v3)] [] st) (v0 : Rf) (v1 : Int32) (v3 : Int32) (k0 : Int32) (st : Mem) (h : bX1_quiet_108 kk52 v0 v1 v3 k0 st = some fin) : G (cX1_quiet, "HouseClaps", "quiet", 12, (some .int), 4) st0 trI fin 108 [(0, vr v0), (1, vi v1), (3, vi v3)] [vi k0] st := by
  unfold bX1_quiet_108 at h
  refine r_istore_n (pc := 108) (env' := [(2, vi k0), (0, vr v0), (1, vi v1), (3, vi v3)]) dX1_quiet_108 rfl (by decide) rfl ?_
  refine r_iinc (pc := 109) (env' := [(3, vi (v3 + 1)), (2, vi k0), (0, vr v0), (1, vi v1)]) (cst := 1) dX1_quiet_109 3 rfl (by decide) (by decide) rfl ?_
  refine r_goto (pc := 112) (tgt := 52) dX1_quiet_112 (by decide) ?_
  exact r_sub (env' := [(0, vr v0), (1, vi v1), (2, vi k0), (3, vi (v3 + 1))]) [2, 3, 1, 0] rfl (hk52 _ _ _ _ _ h)
theorem sX1_quiet_103 {st0 : Mem} {fin : Int32 × Mem} {kk52 : Rf → Int32 → Int32 → Int32 → Mem → Option (Int32 × Mem)} (hk52 : ∀ (v0 : Rf) (v1 : Int32) (v2 : Int32) (v3 : Int32) (st : Mem), kk52 v0 v1 v2 v3 st = some fin → G (cX1_quiet, "HouseClaps", "quiet", 12, (some .int), 4) st0 trI fin 52 [(0, vr v0), (1, vi v1), (2, vi v2), (3, vi v3)] [] st) (v0 : Rf) (v1 : Int32) (v3 : Int32) (st : Mem) (h : bX1_quiet_103 kk52 v0 v1 v3 st = some fin) : G (cX1_quiet, "HouseClaps", "quiet", 12, (some .int), 4) st0 trI fin 103 [(0, vr v0), (1, vi v1), (3, vi v3)] [] st := by
  unfold bX1_quiet_103 at h
  refine r_iconst (pc := 103) (v := 1) dX1_quiet_103 (by decide) ?_
  refine r_goto (pc := 104) (tgt := 108) dX1_quiet_104 (by decide) ?_
  exact sX1_quiet_108 hk52 _ _ _ _ _ h
theorem sX1_quiet_52B {st0 : Mem} {fin : Int32 × Mem} {kk52 : Rf → Int32 → Int32 → Int32 → Mem → Option (Int32 × Mem)} (hk52 : ∀ (v0 : Rf) (v1 : Int32) (v2 : Int32) (v3 : Int32) (st : Mem), kk52 v0 v1 v2 v3 st = some fin → G (cX1_quiet, "HouseClaps", "quiet", 12, (some .int), 4) st0 trI fin 52 [(0, vr v0), (1, vi v1), (2, vi v2), (3, vi v3)] [] st) (v0 : Rf) (v1 : Int32) (v2 : Int32) (v3 : Int32) (st : Mem) (h : bX1_quiet_52B kk52 v0 v1 v2 v3 st = some fin) : G (cX1_quiet, "HouseClaps", "quiet", 12, (some .int), 4) st0 trI fin 52 [(0, vr v0), (1, vi v1), (2, vi v2), (3, vi v3)] [] st := by
  unfold bX1_quiet_52B at h
  refine r_iload_n (pc := 52) dX1_quiet_52 3 rfl rfl ?_
  refine r_aload_n (pc := 53) dX1_quiet_53 0 rfl rfl ?_
  refine r_gA (pc := 54) dX1_quiet_54 q321 fd_7 same_rf h (fun x54 e54 h => ?_)
  refine r_callI (pc := 57) (rest := [vi v3]) (lkV dX1_quiet_57 q1233 xd_J3_size (vc_of vt_J3_size q1115 (fun _ => sJ3_size)) adx_J3_size) (by decide) (Nat.le_of_ble_eq_true rfl) rfl h (fun x57 st e57 h => ?_)
  refine r_icmp_ge (pc := 60) (tgt := 115) dX1_quiet_60 (by decide) h (fun e60 h => ?_) (fun e60 h => ?_)
  · refine r_iload_n (pc := 115) dX1_quiet_115 2 rfl rfl ?_
    refine r_if_eq (pc := 116) (tgt := 148) dX1_quiet_116 (by decide) h (fun e116 h => ?_) (fun e116 h => ?_)
    · exact r_sub (env' := [(1, vi v1)]) [1] rfl (sX1_quiet_148 _ _ h)
    · refine r_aload_n (pc := 119) dX1_quiet_119 0 rfl rfl ?_
      refine r_gA (pc := 120) dX1_quiet_120 q318 fd_4 same_rf h (fun x120 e120 h => ?_)
      refine r_gIN (pc := 123) dX1_quiet_123 q165 fd_31 same_rf h (fun x123 e123 h => ?_)
      refine r_sipush (pc := 126) (v := 600) dX1_quiet_126 (by decide) ?_
      refine r_icmp_ge (pc := 129) (tgt := 148) dX1_quiet_129 (by decide) h (fun e129 h => ?_) (fun e129 h => ?_)
      · exact r_sub (env' := [(1, vi v1)]) [1] rfl (sX1_quiet_148 _ _ h)
      · refine r_iload_n (pc := 132) dX1_quiet_132 1 rfl rfl ?_
        refine r_aload_n (pc := 133) dX1_quiet_133 0 rfl rfl ?_
        refine r_gA (pc := 134) dX1_quiet_134 q318 fd_4 same_rf h (fun x134 e134 h => ?_)
        refine r_gIN (pc := 137) dX1_quiet_137 q165 fd_31 same_rf h (fun x137 e137 h => ?_)
        refine r_iconst (pc := 140) (v := 1) dX1_quiet_140 (by decide) ?_
        refine r_iadd (pc := 141) dX1_quiet_141 ?_
        refine r_mmaxI (pc := 142) dX1_quiet_142 q1432 (by decide) (Nat.le_of_ble_eq_true rfl) ?_
        refine r_goto (pc := 145) (tgt := 149) dX1_quiet_145 (by decide) ?_
        exact r_ireturn (pc := 149) dX1_quiet_149 rfl rfl h
  · refine r_iload_n (pc := 63) dX1_quiet_63 1 rfl rfl ?_
    refine r_aload_n (pc := 64) dX1_quiet_64 0 rfl rfl ?_
    refine r_gA (pc := 65) dX1_quiet_65 q321 fd_7 same_rf h (fun x65 e65 h => ?_)
    refine r_iload_n (pc := 68) dX1_quiet_68 3 rfl rfl ?_
    refine r_callA (pc := 69) (rest := [vi v1]) (lkV dX1_quiet_69 q1433 xd_J3_get (vc_of vt_J3_get q1255 (fun _ => sJ3_get)) adx_J3_get) (by decide) (Nat.le_of_ble_eq_true rfl) rfl h (fun x69 st e69 h => ?_)
    refine r_cast (pc := 72) dX1_quiet_72 q1434 ⟨rfl, by decide, by decide⟩ h (fun x72 e72 h => ?_)
    refine r_gI (pc := 75) dX1_quiet_75 q1140 fd_150 same_rf h (fun x75 e75 h => ?_)
    refine r_mmaxI (pc := 78) dX1_quiet_78 q1432 (by decide) (Nat.le_of_ble_eq_true rfl) ?_
    refine r_istore_n (pc := 81) (env' := [(1, vi (mmaxI v1 x75)), (0, vr v0), (2, vi v2), (3, vi v3)]) dX1_quiet_81 rfl (by decide) rfl ?_
    refine r_iload_n (pc := 82) dX1_quiet_82 2 rfl rfl ?_
    refine r_if_ne (pc := 83) (tgt := 103) dX1_quiet_83 (by decide) h (fun e83 h => ?_) (fun e83 h => ?_)
    · exact r_sub (env' := [(0, vr v0), (1, vi (mmaxI v1 x75)), (3, vi v3)]) [1, 0, 3] rfl (sX1_quiet_103 hk52 _ _ _ _ h)
    · refine r_aload_n (pc := 86) dX1_quiet_86 1 rfl rfl ?_
      refine r_gA (pc := 87) dX1_quiet_87 q321 fd_7 same_rf h (fun x87 e87 h => ?_)
      refine r_iload_n (pc := 90) dX1_quiet_90 3 rfl rfl ?_
      refine r_callA (pc := 91) (rest := []) (lkV dX1_quiet_91 q1433 xd_J3_get (vc_of vt_J3_get q1255 (fun _ => sJ3_get)) adx_J3_get) (by decide) (Nat.le_of_ble_eq_true rfl) rfl h (fun x91 st e91 h => ?_)
      refine r_cast (pc := 94) dX1_quiet_94 q1434 ⟨rfl, by decide, by decide⟩ h (fun x94 e94 h => ?_)
      refine r_callI (pc := 97) (rest := []) (lkV dX1_quiet_97 q1435 xd_X18_what (fun _ => vcvX18_what) adx_X18_what) (by decide) (Nat.le_of_ble_eq_true rfl) rfl h (fun x97 st e97 h => ?_)
      refine r_if_ne (pc := 100) (tgt := 107) dX1_quiet_100 (by decide) h (fun e100 h => ?_) (fun e100 h => ?_)
      · refine r_iconst (pc := 107) (v := 0) dX1_quiet_107 (by decide) ?_
        exact r_sub (env' := [(0, vr v0), (1, vi (mmaxI v1 x75)), (3, vi v3)]) [1, 0, 3] rfl (sX1_quiet_108 hk52 _ _ _ _ _ h)
      · exact r_sub (env' := [(0, vr v0), (1, vi (mmaxI v1 x75)), (3, vi v3)]) [1, 0, 3] rfl (sX1_quiet_103 hk52 _ _ _ _ h)
theorem sX1_quiet_52 {st0 : Mem} {fin : Int32 × Mem} (n : Nat) : ∀ (v0 : Rf) (v1 : Int32) (v2 : Int32) (v3 : Int32) (st : Mem), bX1_quiet_52 n v0 v1 v2 v3 st = some fin → G (cX1_quiet, "HouseClaps", "quiet", 12, (some .int), 4) st0 trI fin 52 [(0, vr v0), (1, vi v1), (2, vi v2), (3, vi v3)] [] st := by
  induction n with
  | zero => intro v0 v1 v2 v3 st h; cases h
  | succ n ih => intro v0 v1 v2 v3 st h; exact sX1_quiet_52B  ih v0 v1 v2 v3 st h
theorem sX1_quiet_49 {st0 : Mem} {fin : Int32 × Mem} (v0 : Rf) (v1 : Int32) (k0 : Int32) (st : Mem) (h : bX1_quiet_49 v0 v1 k0 st = some fin) : G (cX1_quiet, "HouseClaps", "quiet", 12, (some .int), 4) st0 trI fin 49 [(0, vr v0), (1, vi v1)] [vi k0] st := by
  unfold bX1_quiet_49 at h
  refine r_istore_n (pc := 49) (env' := [(2, vi k0), (0, vr v0), (1, vi v1)]) dX1_quiet_49 rfl (by decide) rfl ?_
  refine r_iconst (pc := 50) (v := 0) dX1_quiet_50 (by decide) ?_
  refine r_istore_n (pc := 51) (env' := [(3, vi (0 : Int32)), (2, vi k0), (0, vr v0), (1, vi v1)]) dX1_quiet_51 rfl (by decide) rfl ?_
  exact r_sub (env' := [(0, vr v0), (1, vi v1), (2, vi k0), (3, vi (0 : Int32))]) [2, 3, 1, 0] rfl (sX1_quiet_52 hcFuel _ _ _ _ _ h)
theorem sX1_quiet_4B {st0 : Mem} {fin : Int32 × Mem} {kk4 : Rf → Int32 → Int32 → Mem → Option (Int32 × Mem)} (hk4 : ∀ (v0 : Rf) (v1 : Int32) (v2 : Int32) (st : Mem), kk4 v0 v1 v2 st = some fin → G (cX1_quiet, "HouseClaps", "quiet", 12, (some .int), 4) st0 trI fin 4 [(0, vr v0), (1, vi v1), (2, vi v2)] [] st) (v0 : Rf) (v1 : Int32) (v2 : Int32) (st : Mem) (h : bX1_quiet_4B kk4 v0 v1 v2 st = some fin) : G (cX1_quiet, "HouseClaps", "quiet", 12, (some .int), 4) st0 trI fin 4 [(0, vr v0), (1, vi v1), (2, vi v2)] [] st := by
  unfold bX1_quiet_4B at h
  refine r_iload_n (pc := 4) dX1_quiet_4 2 rfl rfl ?_
  refine r_aload_n (pc := 5) dX1_quiet_5 0 rfl rfl ?_
  refine r_gA (pc := 6) dX1_quiet_6 q318 fd_4 same_rf h (fun x6 e6 h => ?_)
  refine r_gIN (pc := 9) dX1_quiet_9 q152 fd_28 same_rf h (fun x9 e9 h => ?_)
  refine r_icmp_ge (pc := 12) (tgt := 35) dX1_quiet_12 (by decide) h (fun e12 h => ?_) (fun e12 h => ?_)
  · refine r_aload_n (pc := 35) dX1_quiet_35 0 rfl rfl ?_
    refine r_gJ (pc := 36) dX1_quiet_36 q319 fd_5 same_rf h (fun x36 e36 h => ?_)
    refine r_lconst (pc := 39) (v := 0) dX1_quiet_39 (by decide) ?_
    refine r_lcmp_eq (pc := 40) (tgt := 48) dX1_quiet_40 dX1_quiet_41 (by decide) h (fun e41 h => ?_) (fun e41 h => ?_)
    · refine r_iconst (pc := 48) (v := 0) dX1_quiet_48 (by decide) ?_
      exact r_sub (env' := [(0, vr v0), (1, vi v1)]) [0, 1] rfl (sX1_quiet_49 _ _ _ _ h)
    · refine r_iconst (pc := 44) (v := 1) dX1_quiet_44 (by decide) ?_
      refine r_goto (pc := 45) (tgt := 49) dX1_quiet_45 (by decide) ?_
      exact r_sub (env' := [(0, vr v0), (1, vi v1)]) [0, 1] rfl (sX1_quiet_49 _ _ _ _ h)
  · refine r_iload_n (pc := 15) dX1_quiet_15 1 rfl rfl ?_
    refine r_aload_n (pc := 16) dX1_quiet_16 0 rfl rfl ?_
    refine r_gA (pc := 17) dX1_quiet_17 q318 fd_4 same_rf h (fun x17 e17 h => ?_)
    refine r_gAN (pc := 20) dX1_quiet_20 q183 fd_36 same_rf h (fun x20 e20 h => ?_)
    refine r_iload_n (pc := 23) dX1_quiet_23 2 rfl rfl ?_
    refine r_iaload (pc := 24) dX1_quiet_24 h (fun x24 e24 h => ?_)
    refine r_mmaxI (pc := 25) dX1_quiet_25 q1432 (by decide) (Nat.le_of_ble_eq_true rfl) ?_
    refine r_istore_n (pc := 28) (env' := [(1, vi (mmaxI v1 x24)), (0, vr v0), (2, vi v2)]) dX1_quiet_28 rfl (by decide) rfl ?_
    refine r_iinc (pc := 29) (env' := [(2, vi (v2 + 1)), (1, vi (mmaxI v1 x24)), (0, vr v0)]) (cst := 1) dX1_quiet_29 2 rfl (by decide) (by decide) rfl ?_
    refine r_goto (pc := 32) (tgt := 4) dX1_quiet_32 (by decide) ?_
    exact r_sub (env' := [(0, vr v0), (1, vi (mmaxI v1 x24)), (2, vi (v2 + 1))]) [2, 1, 0] rfl (hk4 _ _ _ _ h)
theorem sX1_quiet_4 {st0 : Mem} {fin : Int32 × Mem} (n : Nat) : ∀ (v0 : Rf) (v1 : Int32) (v2 : Int32) (st : Mem), bX1_quiet_4 n v0 v1 v2 st = some fin → G (cX1_quiet, "HouseClaps", "quiet", 12, (some .int), 4) st0 trI fin 4 [(0, vr v0), (1, vi v1), (2, vi v2)] [] st := by
  induction n with
  | zero => intro v0 v1 v2 st h; cases h
  | succ n ih => intro v0 v1 v2 st h; exact sX1_quiet_4B  ih v0 v1 v2 st h
theorem sX1_quiet {a0 : Rf} {st : Mem} {fin : Int32 × Mem} (h : fX1_quiet a0 st = some fin) : Con yX1_quiet 12 [vr a0] st trI fin := by
  refine Con.mk (cc := cX1_quiet) (n := 4) (own := "HouseClaps") (nm := "quiet") (ret := (some .int)) (env := [(0, vr a0)]) q1431 rfl rfl rfl (by decide) ⟨Nat.le_of_ble_eq_true rfl, by decide⟩ rfl ?_
  unfold fX1_quiet at h
  refine r_iconst (pc := 0) (v := 0) dX1_quiet_0 (by decide) ?_
  refine r_istore_n (pc := 1) (env' := [(1, vi (0 : Int32)), (0, vr a0)]) dX1_quiet_1 rfl (by decide) rfl ?_
  refine r_iconst (pc := 2) (v := 0) dX1_quiet_2 (by decide) ?_
  refine r_istore_n (pc := 3) (env' := [(2, vi (0 : Int32)), (1, vi (0 : Int32)), (0, vr a0)]) dX1_quiet_3 rfl (by decide) rfl ?_
  exact r_sub (env' := [(0, vr a0), (1, vi (0 : Int32)), (2, vi (0 : Int32))]) [2, 1, 0] rfl (sX1_quiet_4 hcFuel _ _ _ _ h)
theorem sX1_restore {a0 : Rf} {a1 : Int32} {st : Mem} {fin : Int32 × Mem} (h : fX1_restore a0 a1 st = some fin) : Con yX1_restore 12 [vr a0, vi a1] st trI fin := by
  refine Con.mk (cc := cX1_restore) (n := 2) (own := "HouseClaps") (nm := "restore") (ret := (some .boolean)) (env := [(0, vr a0), (1, vi a1)]) q1611 rfl rfl rfl (by decide) ⟨Nat.le_of_ble_eq_true rfl, by decide⟩ rfl ?_
  unfold fX1_restore at h
  refine r_iload_n (pc := 0) dX1_restore_0 1 rfl rfl ?_
  refine r_iconst (pc := 1) (v := 0) dX1_restore_1 (by decide) ?_
  refine r_iconst (pc := 2) (v := 1) dX1_restore_2 (by decide) ?_
  refine r_callI (pc := 3) (rest := []) (lkS dX1_restore_3 q1055 q928 q85 (fun _ => sX1_isIn) ad_X1_isIn) (by decide) (Nat.le_of_ble_eq_true rfl) rfl h (fun x3 st e3 h => ?_)
  refine r_if_eq (pc := 6) (tgt := 18) dX1_restore_6 (by decide) h (fun e6 h => ?_) (fun e6 h => ?_)
  · refine r_iconst (pc := 18) (v := 0) dX1_restore_18 (by decide) ?_
    exact r_ireturn (pc := 19) dX1_restore_19 rfl rfl h
  · refine r_aload_n (pc := 9) dX1_restore_9 0 rfl rfl ?_
    refine r_gA (pc := 10) dX1_restore_10 q338 fd_24 same_rf h (fun x10 e10 h => ?_)
    refine r_iload_n (pc := 13) dX1_restore_13 1 rfl rfl ?_
    refine r_aaload (pc := 14) dX1_restore_14 h (fun x14 e14 h => ?_)
    refine r_ifnonnull (pc := 15) (tgt := 20) dX1_restore_15 (by decide) h (fun e15 h => ?_) (fun e15 h => ?_)
    · refine r_aload_n (pc := 20) dX1_restore_20 0 rfl rfl ?_
      refine r_aload_n (pc := 21) dX1_restore_21 0 rfl rfl ?_
      refine r_gA (pc := 22) dX1_restore_22 q338 fd_24 same_rf h (fun x22 e22 h => ?_)
      refine r_iload_n (pc := 25) dX1_restore_25 1 rfl rfl ?_
      refine r_aaload (pc := 26) dX1_restore_26 h (fun x26 e26 h => ?_)
      refine r_pA (pc := 27) dX1_restore_27 q318 fd_4 same_rf rfl h (fun st e27 h => ?_)
      refine r_aload_n (pc := 30) dX1_restore_30 0 rfl rfl ?_
      refine r_aload_n (pc := 31) dX1_restore_31 0 rfl rfl ?_
      refine r_gA (pc := 32) dX1_restore_32 q339 fd_25 same_rf h (fun x32 e32 h => ?_)
      refine r_iload_n (pc := 35) dX1_restore_35 1 rfl rfl ?_
      refine r_laload (pc := 36) dX1_restore_36 h (fun x36 e36 h => ?_)
      refine r_pJ (pc := 37) dX1_restore_37 q319 fd_5 same_rf rfl h (fun st e37 h => ?_)
      refine r_aload_n (pc := 40) dX1_restore_40 0 rfl rfl ?_
      refine r_aload_n (pc := 41) dX1_restore_41 0 rfl rfl ?_
      refine r_gA (pc := 42) dX1_restore_42 q340 fd_26 same_rf h (fun x42 e42 h => ?_)
      refine r_iload_n (pc := 45) dX1_restore_45 1 rfl rfl ?_
      refine r_laload (pc := 46) dX1_restore_46 h (fun x46 e46 h => ?_)
      refine r_pJ (pc := 47) dX1_restore_47 q320 fd_6 same_rf rfl h (fun st e47 h => ?_)
      refine r_aload_n (pc := 50) dX1_restore_50 0 rfl rfl ?_
      refine r_aload_n (pc := 51) dX1_restore_51 0 rfl rfl ?_
      refine r_gA (pc := 52) dX1_restore_52 q341 fd_27 same_rf h (fun x52 e52 h => ?_)
      refine r_iload_n (pc := 55) dX1_restore_55 1 rfl rfl ?_
      refine r_callA (pc := 56) (rest := [vr a0]) (lkV dX1_restore_56 q1433 xd_J3_get (vc_of vt_J3_get q1255 (fun _ => sJ3_get)) adx_J3_get) (by decide) (Nat.le_of_ble_eq_true rfl) rfl h (fun x56 st e56 h => ?_)
      refine r_cast (pc := 59) dX1_restore_59 q228 ⟨rfl, by decide, by decide⟩ h (fun x59 e59 h => ?_)
      refine r_pA (pc := 62) dX1_restore_62 q321 fd_7 same_rf rfl h (fun st e62 h => ?_)
      refine r_iconst (pc := 65) (v := 1) dX1_restore_65 (by decide) ?_
      exact r_ireturn (pc := 66) dX1_restore_66 rfl rfl h
    · refine r_iconst (pc := 18) (v := 0) dX1_restore_18 (by decide) ?_
      exact r_ireturn (pc := 19) dX1_restore_19 rfl rfl h
theorem sX3_cue_5B {st0 : Mem} {fin : Unit × Mem} {kk5 : Rf → Mem → Option (Unit × Mem)} (hk5 : ∀ (v0 : Rf) (st : Mem), kk5 v0 st = some fin → G (cX3_cue, "HouseClaps$Night", "cue", 12, none, 1) st0 trV fin 5 [(0, vr v0)] [] st) (v0 : Rf) (st : Mem) (h : bX3_cue_5B kk5 v0 st = some fin) : G (cX3_cue, "HouseClaps$Night", "cue", 12, none, 1) st0 trV fin 5 [(0, vr v0)] [] st := by
  unfold bX3_cue_5B at h
  refine r_aload_n (pc := 5) dX3_cue_5 0 rfl rfl ?_
  refine r_gI (pc := 6) dX3_cue_6 q269 fd_45 same_rf h (fun x6 e6 h => ?_)
  refine r_aload_n (pc := 9) dX3_cue_9 0 rfl rfl ?_
  refine r_gA (pc := 10) dX3_cue_10 q272 fd_47 same_rf h (fun x10 e10 h => ?_)
  refine r_callI (pc := 13) (rest := [vi x6]) (lkV dX3_cue_13 q1253 xd_J3_size (vc_of vt_J3_size q1115 (fun _ => sJ3_size)) adx_J3_size) (by decide) (Nat.le_of_ble_eq_true rfl) rfl h (fun x13 st e13 h => ?_)
  refine r_icmp_ge (pc := 16) (tgt := 74) dX3_cue_16 (by decide) h (fun e16 h => ?_) (fun e16 h => ?_)
  · exact r_return_ (pc := 74) dX3_cue_74 rfl h
  · refine r_aload_n (pc := 19) dX3_cue_19 0 rfl rfl ?_
    refine r_gA (pc := 20) dX3_cue_20 q272 fd_47 same_rf h (fun x20 e20 h => ?_)
    refine r_aload_n (pc := 23) dX3_cue_23 0 rfl rfl ?_
    refine r_gI (pc := 24) dX3_cue_24 q269 fd_45 same_rf h (fun x24 e24 h => ?_)
    refine r_callA (pc := 27) (rest := []) (lkV dX3_cue_27 q1254 xd_J3_get (vc_of vt_J3_get q1255 (fun _ => sJ3_get)) adx_J3_get) (by decide) (Nat.le_of_ble_eq_true rfl) rfl h (fun x27 st e27 h => ?_)
    refine r_cast (pc := 30) dX3_cue_30 q1266 ⟨rfl, by decide, by decide⟩ h (fun x30 e30 h => ?_)
    refine r_gI (pc := 33) dX3_cue_33 q1139 fd_150 same_rf h (fun x33 e33 h => ?_)
    refine r_aload_n (pc := 36) dX3_cue_36 0 rfl rfl ?_
    refine r_gI (pc := 37) dX3_cue_37 q267 fd_44 same_rf h (fun x37 e37 h => ?_)
    refine r_icmp_ne (pc := 40) (tgt := 74) dX3_cue_40 (by decide) h (fun e40 h => ?_) (fun e40 h => ?_)
    · exact r_return_ (pc := 74) dX3_cue_74 rfl h
    · refine r_aload_n (pc := 43) dX3_cue_43 0 rfl rfl ?_
      refine r_gA (pc := 44) dX3_cue_44 q272 fd_47 same_rf h (fun x44 e44 h => ?_)
      refine r_aload_n (pc := 47) dX3_cue_47 0 rfl rfl ?_
      refine r_gI (pc := 48) dX3_cue_48 q269 fd_45 same_rf h (fun x48 e48 h => ?_)
      refine r_callA (pc := 51) (rest := []) (lkV dX3_cue_51 q1254 xd_J3_get (vc_of vt_J3_get q1255 (fun _ => sJ3_get)) adx_J3_get) (by decide) (Nat.le_of_ble_eq_true rfl) rfl h (fun x51 st e51 h => ?_)
      refine r_cast (pc := 54) dX3_cue_54 q1266 ⟨rfl, by decide, by decide⟩ h (fun x54 e54 h => ?_)
      refine r_aload_n (pc := 57) dX3_cue_57 0 rfl rfl ?_
      refine r_callV (pc := 58) (rest := []) (lkV dX3_cue_58 q1267 xd_X18_does (fun _ => vcvX18_does) adx_X18_does) (by decide) (Nat.le_of_ble_eq_true rfl) rfl h (fun u58 st e58 h => ?_)
      refine r_aload_n (pc := 61) dX3_cue_61 0 rfl rfl ?_
      refine r_dup (pc := 62) dX3_cue_62 rfl ?_
      refine r_gI (pc := 63) dX3_cue_63 q269 fd_45 same_rf h (fun x63 e63 h => ?_)
      refine r_iconst (pc := 66) (v := 1) dX3_cue_66 (by decide) ?_
      refine r_iadd (pc := 67) dX3_cue_67 ?_
      refine r_pI (pc := 68) dX3_cue_68 q269 fd_45 same_rf rfl h (fun st e68 h => ?_)
      refine r_goto (pc := 71) (tgt := 5) dX3_cue_71 (by decide) ?_
      exact hk5 _ _ h
theorem sX3_cue_5 {st0 : Mem} {fin : Unit × Mem} (n : Nat) : ∀ (v0 : Rf) (st : Mem), bX3_cue_5 n v0 st = some fin → G (cX3_cue, "HouseClaps$Night", "cue", 12, none, 1) st0 trV fin 5 [(0, vr v0)] [] st := by
  induction n with
  | zero => intro v0 st h; cases h
  | succ n ih => intro v0 st h; exact sX3_cue_5B  ih v0 st h
theorem sX3_cue {a0 : Rf} {st : Mem} {fin : Unit × Mem} (h : fX3_cue a0 st = some fin) : Con yX3_cue 12 [vr a0] st trV fin := by
  refine Con.mk (cc := cX3_cue) (n := 1) (own := "HouseClaps$Night") (nm := "cue") (ret := none) (env := [(0, vr a0)]) q1252 rfl rfl rfl (by decide) ⟨Nat.le_of_ble_eq_true rfl, by decide⟩ rfl ?_
  unfold fX3_cue at h
  refine r_aload_n (pc := 0) dX3_cue_0 0 rfl rfl ?_
  refine r_iconst (pc := 1) (v := 0) dX3_cue_1 (by decide) ?_
  refine r_pI (pc := 2) dX3_cue_2 q270 fd_46 same_rf rfl h (fun st e2 h => ?_)
  exact sX3_cue_5 hcFuel _ _ h
theorem sX3_isUp {a0 : Rf} {st : Mem} {fin : Int32 × Mem} (h : fX3_isUp a0 st = some fin) : Con yX3_isUp 12 [vr a0] st trI fin := by
  refine Con.mk (cc := cX3_isUp) (n := 1) (own := "HouseClaps$Night") (nm := "isUp") (ret := (some .boolean)) (env := [(0, vr a0)]) q1414 rfl rfl rfl (by decide) ⟨Nat.le_of_ble_eq_true rfl, by decide⟩ rfl ?_
  unfold fX3_isUp at h
  refine r_aload_n (pc := 0) dX3_isUp_0 0 rfl rfl ?_
  refine r_iconst (pc := 1) (v := 2) dX3_isUp_1 (by decide) ?_
  refine r_callI (pc := 2) (rest := []) (lkV dX3_isUp_2 q1415 xd_X3_many (vc_of vt_X3_many q1382 (fun _ => sX3_many)) adx_X3_many) (by decide) (Nat.le_of_ble_eq_true rfl) rfl h (fun x2 st e2 h => ?_)
  refine r_aload_n (pc := 5) dX3_isUp_5 0 rfl rfl ?_
  refine r_gA (pc := 6) dX3_isUp_6 q260 fd_41 same_rf h (fun x6 e6 h => ?_)
  refine r_gIN (pc := 9) dX3_isUp_9 q160 fd_30 same_rf h (fun x9 e9 h => ?_)
  refine r_icmp_lt (pc := 12) (tgt := 19) dX3_isUp_12 (by decide) h (fun e12 h => ?_) (fun e12 h => ?_)
  · refine r_iconst (pc := 19) (v := 0) dX3_isUp_19 (by decide) ?_
    exact r_ireturn (pc := 20) dX3_isUp_20 rfl rfl h
  · refine r_iconst (pc := 15) (v := 1) dX3_isUp_15 (by decide) ?_
    refine r_goto (pc := 16) (tgt := 20) dX3_isUp_16 (by decide) ?_
    exact r_ireturn (pc := 20) dX3_isUp_20 rfl rfl h
theorem sX6_areaAtHand {a0 : Rf} {st : Mem} {fin : Int32 × Mem} (h : fX6_areaAtHand a0 st = some fin) : Con yX6_areaAtHand 12 [vr a0] st trI fin := by
  refine Con.mk (cc := cX6_areaAtHand) (n := 1) (own := "HouseClaps$HouseReader") (nm := "areaAtHand") (ret := (some .int)) (env := [(0, vr a0)]) q889 rfl rfl rfl (by decide) ⟨Nat.le_of_ble_eq_true rfl, by decide⟩ rfl ?_
  unfold fX6_areaAtHand at h
  refine r_aload_n (pc := 0) dX6_areaAtHand_0 0 rfl rfl ?_
  refine r_ldcS (pc := 1) dX6_areaAtHand_1 15 rfl ?_
  refine r_callI (pc := 3) (rest := []) (lkV dX6_areaAtHand_3 q760 xd_X6_is (vc_of vt_X6_is q764 (fun _ => sX5_is)) adx_X6_is) (by decide) (Nat.le_of_ble_eq_true rfl) rfl h (fun x3 st e3 h => ?_)
  refine r_if_eq (pc := 6) (tgt := 13) dX6_areaAtHand_6 (by decide) h (fun e6 h => ?_) (fun e6 h => ?_)
  · refine r_aload_n (pc := 13) dX6_areaAtHand_13 0 rfl rfl ?_
    refine r_ldcS (pc := 14) dX6_areaAtHand_14 16 rfl ?_
    refine r_callI (pc := 16) (rest := []) (lkV dX6_areaAtHand_16 q760 xd_X6_is (vc_of vt_X6_is q764 (fun _ => sX5_is)) adx_X6_is) (by decide) (Nat.le_of_ble_eq_true rfl) rfl h (fun x16 st e16 h => ?_)
    refine r_if_eq (pc := 19) (tgt := 26) dX6_areaAtHand_19 (by decide) h (fun e19 h => ?_) (fun e19 h => ?_)
    · refine r_aload_n (pc := 26) dX6_areaAtHand_26 0 rfl rfl ?_
      refine r_ldcS (pc := 27) dX6_areaAtHand_27 17 rfl ?_
      refine r_callI (pc := 29) (rest := []) (lkV dX6_areaAtHand_29 q760 xd_X6_is (vc_of vt_X6_is q764 (fun _ => sX5_is)) adx_X6_is) (by decide) (Nat.le_of_ble_eq_true rfl) rfl h (fun x29 st e29 h => ?_)
      refine r_if_eq (pc := 32) (tgt := 39) dX6_areaAtHand_32 (by decide) h (fun e32 h => ?_) (fun e32 h => ?_)
      · refine r_aload_n (pc := 39) dX6_areaAtHand_39 0 rfl rfl ?_
        refine r_ldcS (pc := 40) dX6_areaAtHand_40 18 rfl ?_
        refine r_callI (pc := 42) (rest := []) (lkV dX6_areaAtHand_42 q760 xd_X6_is (vc_of vt_X6_is q764 (fun _ => sX5_is)) adx_X6_is) (by decide) (Nat.le_of_ble_eq_true rfl) rfl h (fun x42 st e42 h => ?_)
        refine r_if_eq (pc := 45) (tgt := 52) dX6_areaAtHand_45 (by decide) h (fun e45 h => ?_) (fun e45 h => ?_)
        · refine r_aload_n (pc := 52) dX6_areaAtHand_52 0 rfl rfl ?_
          refine r_ldcS (pc := 53) dX6_areaAtHand_53 19 rfl ?_
          refine r_callI (pc := 55) (rest := []) (lkV dX6_areaAtHand_55 q760 xd_X6_is (vc_of vt_X6_is q764 (fun _ => sX5_is)) adx_X6_is) (by decide) (Nat.le_of_ble_eq_true rfl) rfl h (fun x55 st e55 h => ?_)
          refine r_if_eq (pc := 58) (tgt := 65) dX6_areaAtHand_58 (by decide) h (fun e58 h => ?_) (fun e58 h => ?_)
          · refine r_aload_n (pc := 65) dX6_areaAtHand_65 0 rfl rfl ?_
            refine r_ldcS (pc := 66) dX6_areaAtHand_66 20 rfl ?_
            refine r_callI (pc := 68) (rest := []) (lkV dX6_areaAtHand_68 q760 xd_X6_is (vc_of vt_X6_is q764 (fun _ => sX5_is)) adx_X6_is) (by decide) (Nat.le_of_ble_eq_true rfl) rfl h (fun x68 st e68 h => ?_)
            refine r_if_eq (pc := 71) (tgt := 78) dX6_areaAtHand_71 (by decide) h (fun e71 h => ?_) (fun e71 h => ?_)
            · refine r_iconst (pc := 78) (v := (-1)) dX6_areaAtHand_78 (by decide) ?_
              exact r_ireturn (pc := 79) dX6_areaAtHand_79 rfl rfl h
            · refine r_iconst (pc := 74) (v := 5) dX6_areaAtHand_74 (by decide) ?_
              refine r_goto (pc := 75) (tgt := 79) dX6_areaAtHand_75 (by decide) ?_
              exact r_ireturn (pc := 79) dX6_areaAtHand_79 rfl rfl h
          · refine r_iconst (pc := 61) (v := 4) dX6_areaAtHand_61 (by decide) ?_
            refine r_goto (pc := 62) (tgt := 79) dX6_areaAtHand_62 (by decide) ?_
            exact r_ireturn (pc := 79) dX6_areaAtHand_79 rfl rfl h
        · refine r_iconst (pc := 48) (v := 3) dX6_areaAtHand_48 (by decide) ?_
          refine r_goto (pc := 49) (tgt := 79) dX6_areaAtHand_49 (by decide) ?_
          exact r_ireturn (pc := 79) dX6_areaAtHand_79 rfl rfl h
      · refine r_iconst (pc := 35) (v := 2) dX6_areaAtHand_35 (by decide) ?_
        refine r_goto (pc := 36) (tgt := 79) dX6_areaAtHand_36 (by decide) ?_
        exact r_ireturn (pc := 79) dX6_areaAtHand_79 rfl rfl h
    · refine r_iconst (pc := 22) (v := 1) dX6_areaAtHand_22 (by decide) ?_
      refine r_goto (pc := 23) (tgt := 79) dX6_areaAtHand_23 (by decide) ?_
      exact r_ireturn (pc := 79) dX6_areaAtHand_79 rfl rfl h
  · refine r_iconst (pc := 9) (v := 0) dX6_areaAtHand_9 (by decide) ?_
    refine r_goto (pc := 10) (tgt := 79) dX6_areaAtHand_10 (by decide) ?_
    exact r_ireturn (pc := 79) dX6_areaAtHand_79 rfl rfl h
theorem vcvX10_value {a0 : Rf} {a1 : Rf} {a2 : Int32} {st : Mem} {fin : Int32 × Mem} (h : vX10_value a0 a1 a2 st = some fin) : VCon ⟨"HouseClaps$Compare", "value", "(LHouseClaps$Night;I)I"⟩ 10 [vr a0, vr a1, vi a2] st trI fin := by
  unfold vX10_value at h
  split at h
  · exact vc_of vt_X10_value_0 q1340 (fun _ h => Con.up (by decide) (sX13_value h)) fin h
  split at h
  · exact vc_of vt_X10_value_1 q1343 (fun _ h => Con.up (by decide) (sX11_value h)) fin h
  split at h
  · exact vc_of vt_X10_value_2 q1357 (fun _ h => Con.up (by decide) (sX12_value h)) fin h
  · cases h
theorem sX10_holds {a0 : Rf} {a1 : Rf} {a2 : Int32} {st : Mem} {fin : Int32 × Mem} (h : fX10_holds a0 a1 a2 st = some fin) : Con yX10_holds 12 [vr a0, vr a1, vi a2] st trI fin := by
  refine Con.mk (cc := cX10_holds) (n := 4) (own := "HouseClaps$Compare") (nm := "holds") (ret := (some .boolean)) (env := [(0, vr a0), (1, vr a1), (2, vi a2)]) q1335 rfl rfl rfl (by decide) ⟨Nat.le_of_ble_eq_true rfl, by decide⟩ rfl ?_
  unfold fX10_holds at h
  refine r_aload_n (pc := 0) dX10_holds_0 0 rfl rfl ?_
  refine r_aload_n (pc := 1) dX10_holds_1 1 rfl rfl ?_
  refine r_iload_n (pc := 2) dX10_holds_2 2 rfl rfl ?_
  refine r_callI (pc := 3) (rest := []) (lkV dX10_holds_3 q1336 xd_X10_value (fun _ => vcvX10_value) adx_X10_value) (by decide) (Nat.le_of_ble_eq_true rfl) rfl h (fun x3 st e3 h => ?_)
  refine r_istore_n (pc := 6) (env' := [(3, vi x3), (0, vr a0), (1, vr a1), (2, vi a2)]) dX10_holds_6 rfl (by decide) rfl ?_
  refine r_aload_n (pc := 7) dX10_holds_7 1 rfl rfl ?_
  refine r_gI (pc := 8) dX10_holds_8 q942 fd_142 same_rf h (fun x8 e8 h => ?_)
  refine r_bipush (pc := 11) (v := 60) dX10_holds_11 (by decide) ?_
  refine r_icmp_ne (pc := 13) (tgt := 32) dX10_holds_13 (by decide) h (fun e13 h => ?_) (fun e13 h => ?_)
  · refine r_aload_n (pc := 32) dX10_holds_32 1 rfl rfl ?_
    refine r_gI (pc := 33) dX10_holds_33 q942 fd_142 same_rf h (fun x33 e33 h => ?_)
    refine r_bipush (pc := 36) (v := 61) dX10_holds_36 (by decide) ?_
    refine r_icmp_ne (pc := 38) (tgt := 57) dX10_holds_38 (by decide) h (fun e38 h => ?_) (fun e38 h => ?_)
    · refine r_iload_n (pc := 57) dX10_holds_57 0 rfl rfl ?_
      refine r_aload_n (pc := 58) dX10_holds_58 1 rfl rfl ?_
      refine r_gI (pc := 59) dX10_holds_59 q943 fd_143 same_rf h (fun x59 e59 h => ?_)
      refine r_icmp_le (pc := 62) (tgt := 69) dX10_holds_62 (by decide) h (fun e62 h => ?_) (fun e62 h => ?_)
      · refine r_iconst (pc := 69) (v := 0) dX10_holds_69 (by decide) ?_
        exact r_ireturn (pc := 70) dX10_holds_70 rfl rfl h
      · refine r_iconst (pc := 65) (v := 1) dX10_holds_65 (by decide) ?_
        refine r_goto (pc := 66) (tgt := 70) dX10_holds_66 (by decide) ?_
        exact r_ireturn (pc := 70) dX10_holds_70 rfl rfl h
    · refine r_iload_n (pc := 41) dX10_holds_41 0 rfl rfl ?_
      refine r_aload_n (pc := 42) dX10_holds_42 1 rfl rfl ?_
      refine r_gI (pc := 43) dX10_holds_43 q943 fd_143 same_rf h (fun x43 e43 h => ?_)
      refine r_icmp_ne (pc := 46) (tgt := 53) dX10_holds_46 (by decide) h (fun e46 h => ?_) (fun e46 h => ?_)
      · refine r_iconst (pc := 53) (v := 0) dX10_holds_53 (by decide) ?_
        refine r_goto (pc := 54) (tgt := 70) dX10_holds_54 (by decide) ?_
        exact r_ireturn (pc := 70) dX10_holds_70 rfl rfl h
      · refine r_iconst (pc := 49) (v := 1) dX10_holds_49 (by decide) ?_
        refine r_goto (pc := 50) (tgt := 70) dX10_holds_50 (by decide) ?_
        exact r_ireturn (pc := 70) dX10_holds_70 rfl rfl h
  · refine r_iload_n (pc := 16) dX10_holds_16 0 rfl rfl ?_
    refine r_aload_n (pc := 17) dX10_holds_17 1 rfl rfl ?_
    refine r_gI (pc := 18) dX10_holds_18 q943 fd_143 same_rf h (fun x18 e18 h => ?_)
    refine r_icmp_ge (pc := 21) (tgt := 28) dX10_holds_21 (by decide) h (fun e21 h => ?_) (fun e21 h => ?_)
    · refine r_iconst (pc := 28) (v := 0) dX10_holds_28 (by decide) ?_
      refine r_goto (pc := 29) (tgt := 70) dX10_holds_29 (by decide) ?_
      exact r_ireturn (pc := 70) dX10_holds_70 rfl rfl h
    · refine r_iconst (pc := 24) (v := 1) dX10_holds_24 (by decide) ?_
      refine r_goto (pc := 25) (tgt := 70) dX10_holds_25 (by decide) ?_
      exact r_ireturn (pc := 70) dX10_holds_70 rfl rfl h
theorem sX0_cue_13 {st0 : Mem} {fin : Int32 × Mem} (k0 : Rf) (st : Mem) (h : bX0_cue_13 k0 st = some fin) : G (cX0_cue, "HouseClapsLaw", "cue", 14, (some .int), 5) st0 trI fin 13 [] [vr k0] st := by
  unfold bX0_cue_13 at h
  refine r_astore (pc := 13) (env' := [(4, vr k0)]) dX0_cue_13 (by decide) rfl ?_
  refine r_iconst (pc := 15) (v := 1) dX0_cue_15 (by decide) ?_
  exact r_ireturn (pc := 16) dX0_cue_16 rfl rfl h
theorem sX0_cue {a0 : Rf} {a1 : Int32} {a2 : Int32} {a3 : Rf} {st : Mem} {fin : Int32 × Mem} (h : fX0_cue a0 a1 a2 a3 st = some fin) : Con yX0_cue 14 [vr a0, vi a1, vi a2, vr a3] st trI fin := by
  refine Con.mkW (cc := cX0_cue) (n := 5) (own := "HouseClapsLaw") (nm := "cue") (ret := (some .int)) (env := [(0, vr a0), (1, vi a1), (2, vi a2), (3, vr a3)]) q1649 rfl rfl rfl (by decide) ⟨Nat.le_of_ble_eq_true rfl, by decide⟩ rfl ?_
  unfold fX0_cue at h
  refine r_aload_n (pc := 0) dX0_cue_0 3 rfl rfl ?_
  refine r_iconst (pc := 1) (v := 0) dX0_cue_1 (by decide) ?_
  refine r_aload_n (pc := 2) dX0_cue_2 0 rfl rfl ?_
  refine r_iload_n (pc := 3) dX0_cue_3 1 rfl rfl ?_
  refine r_iload_n (pc := 4) dX0_cue_4 2 rfl rfl ?_
  refine r_callIC (pc := 5) (rest := [vi (0 : Int32), vr a3]) (env' := []) [] rfl (lkV dX0_cue_5 q1650 xd_X1_cue (vc_of vt_X1_cue q1651 (fun _ => sX1_cue)) adx_X1_cue) (by decide) (Nat.le_of_ble_eq_true rfl) rfl rfl ⟨by decide, by decide⟩ q1619 ⟨rfl, by decide, by decide⟩ h (fun z5 st e5 h => sX0_cue_13 _ _ h) (fun x5 st e5 h => ?_)
  refine r_i2l (pc := 8) dX0_cue_8 ?_
  refine r_lastore (pc := 9) dX0_cue_9 h (fun st e9 h => ?_)
  refine r_goto (pc := 10) (tgt := 17) dX0_cue_10 (by decide) ?_
  refine r_iconst (pc := 17) (v := 0) dX0_cue_17 (by decide) ?_
  exact r_ireturn (pc := 18) dX0_cue_18 rfl rfl h
theorem sX3_begin_76 {st0 : Mem} {fin : Rf × Mem} {kk38 : Rf → Int32 → Mem → Option (Rf × Mem)} (hk38 : ∀ (v0 : Rf) (v7 : Int32) (st : Mem), kk38 v0 v7 st = some fin → G (cX3_begin, "HouseClaps$Night", "begin", 14, (some (.object "HouseClaps$Night")), 8) st0 trA fin 38 [(0, vr v0), (7, vi v7)] [] st) (v0 : Rf) (v7 : Int32) (k0 : Rf) (k1 : Int32) (k2 : Int32) (st : Mem) (h : bX3_begin_76 kk38 v0 v7 k0 k1 k2 st = some fin) : G (cX3_begin, "HouseClaps$Night", "begin", 14, (some (.object "HouseClaps$Night")), 8) st0 trA fin 76 [(0, vr v0), (7, vi v7)] [vi k2, vi k1, vr k0] st := by
  unfold bX3_begin_76 at h
  refine r_iastore (pc := 76) dX3_begin_76 h (fun st e76 h => ?_)
  refine r_aload_n (pc := 77) dX3_begin_77 0 rfl rfl ?_
  refine r_gA (pc := 78) dX3_begin_78 q279 fd_51 same_rf h (fun x78 e78 h => ?_)
  refine r_iload (pc := 81) dX3_begin_81 1 rfl ?_
  refine r_iconst (pc := 83) (v := 0) dX3_begin_83 (by decide) ?_
  refine r_iastore (pc := 84) dX3_begin_84 h (fun st e84 h => ?_)
  refine r_iinc (pc := 85) (env' := [(7, vi (v7 + 1)), (0, vr v0)]) (cst := 1) dX3_begin_85 1 rfl (by decide) (by decide) rfl ?_
  refine r_goto (pc := 88) (tgt := 38) dX3_begin_88 (by decide) ?_
  exact r_sub (env' := [(0, vr v0), (7, vi (v7 + 1))]) [1, 0] rfl (hk38 _ _ _ h)
theorem sX3_begin_38B {st0 : Mem} {fin : Rf × Mem} {kk38 : Rf → Int32 → Mem → Option (Rf × Mem)} (hk38 : ∀ (v0 : Rf) (v7 : Int32) (st : Mem), kk38 v0 v7 st = some fin → G (cX3_begin, "HouseClaps$Night", "begin", 14, (some (.object "HouseClaps$Night")), 8) st0 trA fin 38 [(0, vr v0), (7, vi v7)] [] st) (v0 : Rf) (v7 : Int32) (st : Mem) (h : bX3_begin_38B kk38 v0 v7 st = some fin) : G (cX3_begin, "HouseClaps$Night", "begin", 14, (some (.object "HouseClaps$Night")), 8) st0 trA fin 38 [(0, vr v0), (7, vi v7)] [] st := by
  unfold bX3_begin_38B at h
  refine r_iload (pc := 38) dX3_begin_38 1 rfl ?_
  refine r_aload_n (pc := 40) dX3_begin_40 0 rfl rfl ?_
  refine r_gA (pc := 41) dX3_begin_41 q260 fd_41 same_rf h (fun x41 e41 h => ?_)
  refine r_callI (pc := 44) (rest := [vi v7]) (lkV dX3_begin_44 q1294 xd_X2_size (vc_of vt_X2_size q1039 (fun _ => sX2_size)) adx_X2_size) (by decide) (Nat.le_of_ble_eq_true rfl) rfl h (fun x44 st e44 h => ?_)
  refine r_icmp_ge (pc := 47) (tgt := 91) dX3_begin_47 (by decide) h (fun e47 h => ?_) (fun e47 h => ?_)
  · refine r_aload_n (pc := 91) dX3_begin_91 0 rfl rfl ?_
    refine r_callV (pc := 92) (rest := []) (lkV dX3_begin_92 q1306 xd_X3_count (vc_of vt_X3_count q1308 (fun _ => sX3_count)) adx_X3_count) (by decide) (Nat.le_of_ble_eq_true rfl) rfl h (fun u92 st e92 h => ?_)
    refine r_aload_n (pc := 95) dX3_begin_95 0 rfl rfl ?_
    exact r_areturn (pc := 96) dX3_begin_96 rfl rfl h
  · refine r_aload_n (pc := 50) dX3_begin_50 0 rfl rfl ?_
    refine r_gA (pc := 51) dX3_begin_51 q275 fd_49 same_rf h (fun x51 e51 h => ?_)
    refine r_iload (pc := 54) dX3_begin_54 1 rfl ?_
    refine r_aload_n (pc := 56) dX3_begin_56 0 rfl rfl ?_
    refine r_iload (pc := 57) dX3_begin_57 1 rfl ?_
    refine r_callI (pc := 59) (rest := [vi v7, vr x51]) (lkV dX3_begin_59 q1295 xd_X3_forced (vc_of vt_X3_forced q1297 (fun _ => sX3_forced)) adx_X3_forced) (by decide) (Nat.le_of_ble_eq_true rfl) rfl h (fun x59 st e59 h => ?_)
    refine r_iconst (pc := 62) (v := (-1)) dX3_begin_62 (by decide) ?_
    refine r_icmp_ne (pc := 63) (tgt := 70) dX3_begin_63 (by decide) h (fun e63 h => ?_) (fun e63 h => ?_)
    · refine r_aload_n (pc := 70) dX3_begin_70 0 rfl rfl ?_
      refine r_iload (pc := 71) dX3_begin_71 1 rfl ?_
      refine r_callI (pc := 73) (rest := [vi v7, vr x51]) (lkV dX3_begin_73 q1295 xd_X3_forced (vc_of vt_X3_forced q1297 (fun _ => sX3_forced)) adx_X3_forced) (by decide) (Nat.le_of_ble_eq_true rfl) rfl h (fun x73 st e73 h => ?_)
      exact sX3_begin_76 hk38 _ _ _ _ _ _ h
    · refine r_iconst (pc := 66) (v := 0) dX3_begin_66 (by decide) ?_
      refine r_goto (pc := 67) (tgt := 76) dX3_begin_67 (by decide) ?_
      exact sX3_begin_76 hk38 _ _ _ _ _ _ h
theorem sX3_begin_38 {st0 : Mem} {fin : Rf × Mem} (n : Nat) : ∀ (v0 : Rf) (v7 : Int32) (st : Mem), bX3_begin_38 n v0 v7 st = some fin → G (cX3_begin, "HouseClaps$Night", "begin", 14, (some (.object "HouseClaps$Night")), 8) st0 trA fin 38 [(0, vr v0), (7, vi v7)] [] st := by
  induction n with
  | zero => intro v0 v7 st h; cases h
  | succ n ih => intro v0 v7 st h; exact sX3_begin_38B  ih v0 v7 st h
theorem sX3_begin {a0 : Rf} {a1 : Rf} {a2 : Rf} {a3 : Int64} {a5 : Int64} {st : Mem} {fin : Rf × Mem} (h : fX3_begin a0 a1 a2 a3 a5 st = some fin) : Con yX3_begin 14 [vr a0, vr a1, vr a2, vj a3, vj a5] st trA fin := by
  refine Con.mk (cc := cX3_begin) (n := 8) (own := "HouseClaps$Night") (nm := "begin") (ret := (some (.object "HouseClaps$Night"))) (env := [(0, vr a0), (1, vr a1), (2, vr a2), (3, vj a3), (5, vj a5)]) q1248 rfl rfl rfl (by decide) ⟨Nat.le_of_ble_eq_true rfl, by decide⟩ rfl ?_
  unfold fX3_begin at h
  refine r_aload_n (pc := 0) dX3_begin_0 0 rfl rfl ?_
  refine r_aload_n (pc := 1) dX3_begin_1 1 rfl rfl ?_
  refine r_pA (pc := 2) dX3_begin_2 q260 fd_41 same_rf rfl h (fun st e2 h => ?_)
  refine r_aload_n (pc := 5) dX3_begin_5 0 rfl rfl ?_
  refine r_aload_n (pc := 6) dX3_begin_6 2 rfl rfl ?_
  refine r_pA (pc := 7) dX3_begin_7 q272 fd_47 same_rf rfl h (fun st e7 h => ?_)
  refine r_aload_n (pc := 10) dX3_begin_10 0 rfl rfl ?_
  refine r_lload_n (pc := 11) dX3_begin_11 3 rfl rfl ?_
  refine r_pJ (pc := 12) dX3_begin_12 q261 fd_42 same_rf rfl h (fun st e12 h => ?_)
  refine r_aload_n (pc := 15) dX3_begin_15 0 rfl rfl ?_
  refine r_lload (pc := 16) dX3_begin_16 4 rfl ?_
  refine r_pJ (pc := 18) dX3_begin_18 q264 fd_43 same_rf rfl h (fun st e18 h => ?_)
  refine r_aload_n (pc := 21) dX3_begin_21 0 rfl rfl ?_
  refine r_iconst (pc := 22) (v := 0) dX3_begin_22 (by decide) ?_
  refine r_pI (pc := 23) dX3_begin_23 q267 fd_44 same_rf rfl h (fun st e23 h => ?_)
  refine r_aload_n (pc := 26) dX3_begin_26 0 rfl rfl ?_
  refine r_iconst (pc := 27) (v := 0) dX3_begin_27 (by decide) ?_
  refine r_pI (pc := 28) dX3_begin_28 q269 fd_45 same_rf rfl h (fun st e28 h => ?_)
  refine r_aload_n (pc := 31) dX3_begin_31 0 rfl rfl ?_
  refine r_callV (pc := 32) (rest := []) (lkV dX3_begin_32 q1249 xd_X3_cue (vc_of vt_X3_cue q1251 (fun _ => sX3_cue)) adx_X3_cue) (by decide) (Nat.le_of_ble_eq_true rfl) rfl h (fun u32 st e32 h => ?_)
  refine r_iconst (pc := 35) (v := 0) dX3_begin_35 (by decide) ?_
  refine r_istore (pc := 36) (env' := [(7, vi (0 : Int32)), (0, vr a0), (1, vr a1), (2, vr a2), (3, vj a3), (5, vj a5)]) dX3_begin_36 (by decide) rfl ?_
  exact r_sub (env' := [(0, vr a0), (7, vi (0 : Int32))]) [1, 0] rfl (sX3_begin_38 hcFuel _ _ _ h)
theorem sX1_tonight {a0 : Rf} {st : Mem} {fin : Rf × Mem} (h : fX1_tonight a0 st = some fin) : Con yX1_tonight 16 [vr a0] st trA fin := by
  refine Con.mk (cc := cX1_tonight) (n := 1) (own := "HouseClaps") (nm := "tonight") (ret := (some (.object "HouseClaps$Night"))) (env := [(0, vr a0)]) q1244 rfl rfl rfl (by decide) ⟨Nat.le_of_ble_eq_true rfl, by decide⟩ rfl ?_
  unfold fX1_tonight at h
  refine r_aload_n (pc := 0) dX1_tonight_0 0 rfl rfl ?_
  refine r_gA (pc := 1) dX1_tonight_1 q322 fd_8 same_rf h (fun x1 e1 h => ?_)
  refine r_aload_n (pc := 4) dX1_tonight_4 0 rfl rfl ?_
  refine r_gA (pc := 5) dX1_tonight_5 q318 fd_4 same_rf h (fun x5 e5 h => ?_)
  refine r_aload_n (pc := 8) dX1_tonight_8 0 rfl rfl ?_
  refine r_gA (pc := 9) dX1_tonight_9 q321 fd_7 same_rf h (fun x9 e9 h => ?_)
  refine r_aload_n (pc := 12) dX1_tonight_12 0 rfl rfl ?_
  refine r_gJ (pc := 13) dX1_tonight_13 q319 fd_5 same_rf h (fun x13 e13 h => ?_)
  refine r_aload_n (pc := 16) dX1_tonight_16 0 rfl rfl ?_
  refine r_gJ (pc := 17) dX1_tonight_17 q320 fd_6 same_rf h (fun x17 e17 h => ?_)
  refine r_callA (pc := 20) (rest := []) (lkV dX1_tonight_20 q1245 xd_X3_begin (vc_of vt_X3_begin q1246 (fun _ => sX3_begin)) adx_X3_begin) (by decide) (Nat.le_of_ble_eq_true rfl) rfl h (fun x20 st e20 h => ?_)
  exact r_areturn (pc := 23) dX1_tonight_23 rfl rfl h
theorem vcvX8_holds (d : Nat) : ∀ (a0 : Rf) (a1 : Rf) (a2 : Int32) (st : Mem) (fin : Int32 × Mem), vX8_holds d a0 a1 a2 st = some fin → VCon ⟨"HouseClaps$Cond", "holds", "(LHouseClaps$Night;I)Z"⟩ (12 + d) [vr a0, vr a1, vi a2] st trI fin := by
  induction d with
  | zero => intro a0 a1 a2 st fin h; cases h
  | succ d ih =>
    intro a0 a1 a2 st fin h
    unfold vX8_holds at h
    split at h
    · exact vc_of vt_X8_holds_0 q1331 (fun _ h => Con.up (by omega) (sX15_holds (Nat.zero_le _) ih h)) fin h
    split at h
    · exact vc_of vt_X8_holds_1 q1334 (fun _ h => Con.up (by omega) (sX10_holds h)) fin h
    split at h
    · exact vc_of vt_X8_holds_2 q1359 (fun _ h => Con.up (by omega) (sX9_holds (Nat.zero_le _) ih h)) fin h
    split at h
    · exact vc_of vt_X8_holds_3 q1362 (fun _ h => Con.up (by omega) (sX16_holds (Nat.zero_le _) ih h)) fin h
    · cases h
theorem sX3_likes_90 {st0 : Mem} {fin : Int32 × Mem} (v0 : Rf) (v1 : Int32) (st : Mem) (h : bX3_likes_90 v0 v1 st = some fin) : G (cX3_likes, "HouseClaps$Night", "likes", 74, (some .int), 4) st0 trI fin 90 [(0, vr v0), (1, vi v1)] [] st := by
  unfold bX3_likes_90 at h
  refine r_aload_n (pc := 90) dX3_likes_90 0 rfl rfl ?_
  refine r_gA (pc := 91) dX3_likes_91 q273 fd_48 same_rf h (fun x91 e91 h => ?_)
  refine r_iload_n (pc := 94) dX3_likes_94 1 rfl rfl ?_
  refine r_iaload (pc := 95) dX3_likes_95 h (fun x95 e95 h => ?_)
  exact r_ireturn (pc := 96) dX3_likes_96 rfl rfl h
theorem sX3_likes_62 {st0 : Mem} {fin : Int32 × Mem} (v0 : Rf) (v1 : Int32) (v3 : Rf) (st : Mem) (h : bX3_likes_62 v0 v1 v3 st = some fin) : G (cX3_likes, "HouseClaps$Night", "likes", 74, (some .int), 4) st0 trI fin 62 [(0, vr v0), (1, vi v1), (3, vr v3)] [] st := by
  unfold bX3_likes_62 at h
  refine r_aload_n (pc := 62) dX3_likes_62 2 rfl rfl ?_
  refine r_ifnull (pc := 63) (tgt := 90) dX3_likes_63 (by decide) h (fun e63 h => ?_) (fun e63 h => ?_)
  · exact r_sub (env' := [(0, vr v0), (1, vi v1)]) [0, 1] rfl (sX3_likes_90 _ _ _ h)
  · refine r_aload_n (pc := 66) dX3_likes_66 2 rfl rfl ?_
    refine r_aload_n (pc := 67) dX3_likes_67 0 rfl rfl ?_
    refine r_iload_n (pc := 68) dX3_likes_68 1 rfl rfl ?_
    refine r_callI (pc := 69) (rest := []) (lkV dX3_likes_69 q1327 xd_X8_holds (fun _ => vcvX8_holds 60 _ _ _ _ _) adx_X8_holds) (by omega) (Nat.le_of_ble_eq_true rfl) rfl h (fun x69 st e69 h => ?_)
    refine r_if_eq (pc := 72) (tgt := 90) dX3_likes_72 (by decide) h (fun e72 h => ?_) (fun e72 h => ?_)
    · exact r_sub (env' := [(0, vr v0), (1, vi v1)]) [0, 1] rfl (sX3_likes_90 _ _ _ h)
    · refine r_iconst (pc := 75) (v := 0) dX3_likes_75 (by decide) ?_
      refine r_aload_n (pc := 76) dX3_likes_76 0 rfl rfl ?_
      refine r_gA (pc := 77) dX3_likes_77 q273 fd_48 same_rf h (fun x77 e77 h => ?_)
      refine r_iload_n (pc := 80) dX3_likes_80 1 rfl rfl ?_
      refine r_iaload (pc := 81) dX3_likes_81 h (fun x81 e81 h => ?_)
      refine r_iconst (pc := 82) (v := 1) dX3_likes_82 (by decide) ?_
      refine r_isub (pc := 83) dX3_likes_83 ?_
      refine r_mmaxI (pc := 84) dX3_likes_84 q1371 (by decide) (Nat.le_of_ble_eq_true rfl) ?_
      refine r_goto (pc := 87) (tgt := 96) dX3_likes_87 (by decide) ?_
      exact r_ireturn (pc := 96) dX3_likes_96 rfl rfl h
theorem sX3_likes {a0 : Rf} {a1 : Int32} {st : Mem} {fin : Int32 × Mem} (h : fX3_likes a0 a1 st = some fin) : Con yX3_likes 74 [vr a0, vi a1] st trI fin := by
  refine Con.mk (cc := cX3_likes) (n := 4) (own := "HouseClaps$Night") (nm := "likes") (ret := (some .int)) (env := [(0, vr a0), (1, vi a1)]) q1326 rfl rfl rfl (by decide) ⟨Nat.le_of_ble_eq_true rfl, by decide⟩ rfl ?_
  unfold fX3_likes at h
  refine r_aload_n (pc := 0) dX3_likes_0 0 rfl rfl ?_
  refine r_gA (pc := 1) dX3_likes_1 q260 fd_41 same_rf h (fun x1 e1 h => ?_)
  refine r_gAN (pc := 4) dX3_likes_4 q186 fd_37 same_rf h (fun x4 e4 h => ?_)
  refine r_aload_n (pc := 7) dX3_likes_7 0 rfl rfl ?_
  refine r_gA (pc := 8) dX3_likes_8 q260 fd_41 same_rf h (fun x8 e8 h => ?_)
  refine r_gAN (pc := 11) dX3_likes_11 q175 fd_34 same_rf h (fun x11 e11 h => ?_)
  refine r_iload_n (pc := 14) dX3_likes_14 1 rfl rfl ?_
  refine r_iaload (pc := 15) dX3_likes_15 h (fun x15 e15 h => ?_)
  refine r_aaload (pc := 16) dX3_likes_16 h (fun x16 e16 h => ?_)
  refine r_astore_n (pc := 17) (env' := [(2, vr x16), (0, vr a0), (1, vi a1)]) dX3_likes_17 rfl (by decide) rfl ?_
  refine r_aload_n (pc := 18) dX3_likes_18 1 rfl rfl ?_
  refine r_gA (pc := 19) dX3_likes_19 q260 fd_41 same_rf h (fun x19 e19 h => ?_)
  refine r_gAN (pc := 22) dX3_likes_22 q190 fd_38 same_rf h (fun x22 e22 h => ?_)
  refine r_aload_n (pc := 25) dX3_likes_25 1 rfl rfl ?_
  refine r_gA (pc := 26) dX3_likes_26 q260 fd_41 same_rf h (fun x26 e26 h => ?_)
  refine r_gAN (pc := 29) dX3_likes_29 q175 fd_34 same_rf h (fun x29 e29 h => ?_)
  refine r_iload_n (pc := 32) dX3_likes_32 2 rfl rfl ?_
  refine r_iaload (pc := 33) dX3_likes_33 h (fun x33 e33 h => ?_)
  refine r_aaload (pc := 34) dX3_likes_34 h (fun x34 e34 h => ?_)
  refine r_astore_n (pc := 35) (env' := [(3, vr x34), (2, vr x16), (0, vr a0), (1, vi a1)]) dX3_likes_35 rfl (by decide) rfl ?_
  refine r_aload_n (pc := 36) dX3_likes_36 1 rfl rfl ?_
  refine r_ifnull (pc := 37) (tgt := 62) dX3_likes_37 (by decide) h (fun e37 h => ?_) (fun e37 h => ?_)
  · exact r_sub (env' := [(0, vr a0), (1, vi a1), (3, vr x34)]) [2, 3, 0] rfl (sX3_likes_62 _ _ _ _ h)
  · refine r_aload_n (pc := 40) dX3_likes_40 1 rfl rfl ?_
    refine r_aload_n (pc := 41) dX3_likes_41 2 rfl rfl ?_
    refine r_iload_n (pc := 42) dX3_likes_42 3 rfl rfl ?_
    refine r_callI (pc := 43) (rest := []) (lkV dX3_likes_43 q1327 xd_X8_holds (fun _ => vcvX8_holds 60 _ _ _ _ _) adx_X8_holds) (by omega) (Nat.le_of_ble_eq_true rfl) rfl h (fun x43 st e43 h => ?_)
    refine r_if_eq (pc := 46) (tgt := 62) dX3_likes_46 (by decide) h (fun e46 h => ?_) (fun e46 h => ?_)
    · exact r_sub (env' := [(0, vr a0), (1, vi a1), (3, vr x34)]) [2, 3, 0] rfl (sX3_likes_62 _ _ _ _ h)
    · refine r_iconst (pc := 49) (v := 2) dX3_likes_49 (by decide) ?_
      refine r_aload_n (pc := 50) dX3_likes_50 2 rfl rfl ?_
      refine r_gA (pc := 51) dX3_likes_51 q273 fd_48 same_rf h (fun x51 e51 h => ?_)
      refine r_iload_n (pc := 54) dX3_likes_54 3 rfl rfl ?_
      refine r_iaload (pc := 55) dX3_likes_55 h (fun x55 e55 h => ?_)
      refine r_iconst (pc := 56) (v := 1) dX3_likes_56 (by decide) ?_
      refine r_iadd (pc := 57) dX3_likes_57 ?_
      refine r_mminI (pc := 58) dX3_likes_58 q1370 (by decide) (Nat.le_of_ble_eq_true rfl) ?_
      exact r_ireturn (pc := 61) dX3_likes_61 rfl rfl h
theorem sX1_image_41B {st0 : Mem} {fin : Int32 × Mem} {kk41 : Rf → Int32 → Mem → Option (Int32 × Mem)} (hk41 : ∀ (v0 : Rf) (v1 : Int32) (st : Mem), kk41 v0 v1 st = some fin → G (cX1_image, "HouseClaps", "image", 18, (some .boolean), 2) st0 trI fin 41 [(0, vr v0), (1, vi v1)] [] st) (v0 : Rf) (v1 : Int32) (st : Mem) (h : bX1_image_41B kk41 v0 v1 st = some fin) : G (cX1_image, "HouseClaps", "image", 18, (some .boolean), 2) st0 trI fin 41 [(0, vr v0), (1, vi v1)] [] st := by
  unfold bX1_image_41B at h
  refine r_aload_n (pc := 41) dX1_image_41 0 rfl rfl ?_
  refine r_gA (pc := 42) dX1_image_42 q341 fd_27 same_rf h (fun x42 e42 h => ?_)
  refine r_callI (pc := 45) (rest := []) (lkV dX1_image_45 q1233 xd_J3_size (vc_of vt_J3_size q1115 (fun _ => sJ3_size)) adx_J3_size) (by decide) (Nat.le_of_ble_eq_true rfl) rfl h (fun x45 st e45 h => ?_)
  refine r_iconst (pc := 48) (v := 2) dX1_image_48 (by decide) ?_
  refine r_icmp_ge (pc := 49) (tgt := 67) dX1_image_49 (by decide) h (fun e49 h => ?_) (fun e49 h => ?_)
  · refine r_aload_n (pc := 67) dX1_image_67 0 rfl rfl ?_
    refine r_gA (pc := 68) dX1_image_68 q341 fd_27 same_rf h (fun x68 e68 h => ?_)
    refine r_iload_n (pc := 71) dX1_image_71 1 rfl rfl ?_
    refine r_aload_n (pc := 72) dX1_image_72 0 rfl rfl ?_
    refine r_gA (pc := 73) dX1_image_73 q321 fd_7 same_rf h (fun x73 e73 h => ?_)
    refine r_callA (pc := 76) (rest := []) (lkV dX1_image_76 q1604 xd_J3_set (vc_of vt_J3_set q1605 (fun _ => sJ3_set)) adx_J3_set) (by decide) (Nat.le_of_ble_eq_true rfl) rfl h (fun x76 st e76 h => ?_)
    refine r_ifnull (pc := 79) (tgt := 86) dX1_image_79 (by decide) h (fun e79 h => ?_) (fun e79 h => ?_)
    · refine r_iconst (pc := 86) (v := 0) dX1_image_86 (by decide) ?_
      exact r_ireturn (pc := 87) dX1_image_87 rfl rfl h
    · refine r_iconst (pc := 82) (v := 1) dX1_image_82 (by decide) ?_
      refine r_goto (pc := 83) (tgt := 87) dX1_image_83 (by decide) ?_
      exact r_ireturn (pc := 87) dX1_image_87 rfl rfl h
  · refine r_aload_n (pc := 52) dX1_image_52 0 rfl rfl ?_
    refine r_gA (pc := 53) dX1_image_53 q341 fd_27 same_rf h (fun x53 e53 h => ?_)
    refine r_aload_n (pc := 56) dX1_image_56 0 rfl rfl ?_
    refine r_gA (pc := 57) dX1_image_57 q321 fd_7 same_rf h (fun x57 e57 h => ?_)
    refine r_callI (pc := 60) (rest := []) (lkV dX1_image_60 q1603 xd_J3_add_2 (vc_of vt_J3_add_2 q1178 (fun _ => sJ3_add)) adx_J3_add_2) (by decide) (Nat.le_of_ble_eq_true rfl) rfl h (fun x60 st e60 h => ?_)
    refine r_pop (pc := 63) dX1_image_63 rfl ?_
    refine r_goto (pc := 64) (tgt := 41) dX1_image_64 (by decide) ?_
    exact hk41 _ _ _ h
theorem sX1_image_41 {st0 : Mem} {fin : Int32 × Mem} (n : Nat) : ∀ (v0 : Rf) (v1 : Int32) (st : Mem), bX1_image_41 n v0 v1 st = some fin → G (cX1_image, "HouseClaps", "image", 18, (some .boolean), 2) st0 trI fin 41 [(0, vr v0), (1, vi v1)] [] st := by
  induction n with
  | zero => intro v0 v1 st h; cases h
  | succ n ih => intro v0 v1 st h; exact sX1_image_41B  ih v0 v1 st h
theorem sX1_image {a0 : Rf} {a1 : Int32} {st : Mem} {fin : Int32 × Mem} (h : fX1_image a0 a1 st = some fin) : Con yX1_image 18 [vr a0, vi a1] st trI fin := by
  refine Con.mk (cc := cX1_image) (n := 2) (own := "HouseClaps") (nm := "image") (ret := (some .boolean)) (env := [(0, vr a0), (1, vi a1)]) q1602 rfl rfl rfl (by decide) ⟨Nat.le_of_ble_eq_true rfl, by decide⟩ rfl ?_
  unfold fX1_image at h
  refine r_iload_n (pc := 0) dX1_image_0 1 rfl rfl ?_
  refine r_iconst (pc := 1) (v := 0) dX1_image_1 (by decide) ?_
  refine r_iconst (pc := 2) (v := 1) dX1_image_2 (by decide) ?_
  refine r_callI (pc := 3) (rest := []) (lkS dX1_image_3 q1055 q928 q85 (fun _ => sX1_isIn) ad_X1_isIn) (by decide) (Nat.le_of_ble_eq_true rfl) rfl h (fun x3 st e3 h => ?_)
  refine r_if_ne (pc := 6) (tgt := 11) dX1_image_6 (by decide) h (fun e6 h => ?_) (fun e6 h => ?_)
  · refine r_aload_n (pc := 11) dX1_image_11 0 rfl rfl ?_
    refine r_gA (pc := 12) dX1_image_12 q338 fd_24 same_rf h (fun x12 e12 h => ?_)
    refine r_iload_n (pc := 15) dX1_image_15 1 rfl rfl ?_
    refine r_aload_n (pc := 16) dX1_image_16 0 rfl rfl ?_
    refine r_gA (pc := 17) dX1_image_17 q318 fd_4 same_rf h (fun x17 e17 h => ?_)
    refine r_aastore (pc := 20) dX1_image_20 h (fun st e20 h => ?_)
    refine r_aload_n (pc := 21) dX1_image_21 0 rfl rfl ?_
    refine r_gA (pc := 22) dX1_image_22 q339 fd_25 same_rf h (fun x22 e22 h => ?_)
    refine r_iload_n (pc := 25) dX1_image_25 1 rfl rfl ?_
    refine r_aload_n (pc := 26) dX1_image_26 0 rfl rfl ?_
    refine r_gJ (pc := 27) dX1_image_27 q319 fd_5 same_rf h (fun x27 e27 h => ?_)
    refine r_lastore (pc := 30) dX1_image_30 h (fun st e30 h => ?_)
    refine r_aload_n (pc := 31) dX1_image_31 0 rfl rfl ?_
    refine r_gA (pc := 32) dX1_image_32 q340 fd_26 same_rf h (fun x32 e32 h => ?_)
    refine r_iload_n (pc := 35) dX1_image_35 1 rfl rfl ?_
    refine r_aload_n (pc := 36) dX1_image_36 0 rfl rfl ?_
    refine r_gJ (pc := 37) dX1_image_37 q320 fd_6 same_rf h (fun x37 e37 h => ?_)
    refine r_lastore (pc := 40) dX1_image_40 h (fun st e40 h => ?_)
    exact sX1_image_41 hcFuel _ _ _ h
  · refine r_iconst (pc := 9) (v := 0) dX1_image_9 (by decide) ?_
    exact r_ireturn (pc := 10) dX1_image_10 rfl rfl h
theorem sX5_go_307 {st0 : Mem} {fin : Unit × Mem} {kk189 : Rf → Int32 → Int32 → Rf → Mem → Option (Unit × Mem)} (hk189 : ∀ (v0 : Rf) (v2 : Int32) (v3 : Int32) (v4 : Rf) (st : Mem), kk189 v0 v2 v3 v4 st = some fin → G (cX5_go, "HouseClaps$Reader", "go", 18, none, 5) st0 trV fin 189 [(0, vr v0), (2, vi v2), (3, vi v3), (4, vr v4)] [] st) (v0 : Rf) (v2 : Int32) (v3 : Int32) (v4 : Rf) (st : Mem) (h : bX5_go_307 kk189 v0 v2 v3 v4 st = some fin) : G (cX5_go, "HouseClaps$Reader", "go", 18, none, 5) st0 trV fin 307 [(0, vr v0), (2, vi v2), (3, vi v3), (4, vr v4)] [] st := by
  unfold bX5_go_307 at h
  refine r_aload_n (pc := 307) dX5_go_307 0 rfl rfl ?_
  refine r_dup (pc := 308) dX5_go_308 rfl ?_
  refine r_gI (pc := 309) dX5_go_309 q440 fd_127 same_rf h (fun x309 e309 h => ?_)
  refine r_iconst (pc := 312) (v := 1) dX5_go_312 (by decide) ?_
  refine r_iadd (pc := 313) dX5_go_313 ?_
  refine r_pI (pc := 314) dX5_go_314 q440 fd_127 same_rf rfl h (fun st e314 h => ?_)
  refine r_goto (pc := 317) (tgt := 189) dX5_go_317 (by decide) ?_
  exact hk189 _ _ _ _ _ h
theorem sX5_go_271 {st0 : Mem} {fin : Unit × Mem} {kk189 : Rf → Int32 → Int32 → Rf → Mem → Option (Unit × Mem)} (hk189 : ∀ (v0 : Rf) (v2 : Int32) (v3 : Int32) (v4 : Rf) (st : Mem), kk189 v0 v2 v3 v4 st = some fin → G (cX5_go, "HouseClaps$Reader", "go", 18, none, 5) st0 trV fin 189 [(0, vr v0), (2, vi v2), (3, vi v3), (4, vr v4)] [] st) (v0 : Rf) (v2 : Int32) (v3 : Int32) (v4 : Rf) (st : Mem) (h : bX5_go_271 kk189 v0 v2 v3 v4 st = some fin) : G (cX5_go, "HouseClaps$Reader", "go", 18, none, 5) st0 trV fin 271 [(0, vr v0), (2, vi v2), (3, vi v3), (4, vr v4)] [] st := by
  unfold bX5_go_271 at h
  refine r_aload_n (pc := 271) dX5_go_271 0 rfl rfl ?_
  refine r_gI (pc := 272) dX5_go_272 q440 fd_127 same_rf h (fun x272 e272 h => ?_)
  refine r_aload_n (pc := 275) dX5_go_275 0 rfl rfl ?_
  refine r_gI (pc := 276) dX5_go_276 q446 fd_129 same_rf h (fun x276 e276 h => ?_)
  refine r_isub (pc := 279) dX5_go_279 ?_
  refine r_iconst (pc := 280) (v := 3) dX5_go_280 (by decide) ?_
  refine r_icmp_ge (pc := 281) (tgt := 307) dX5_go_281 (by decide) h (fun e281 h => ?_) (fun e281 h => ?_)
  · exact sX5_go_307 hk189 _ _ _ _ _ h
  · refine r_aload_n (pc := 284) dX5_go_284 0 rfl rfl ?_
    refine r_bipush (pc := 285) (v := 10) dX5_go_285 (by decide) ?_
    refine r_aload_n (pc := 287) dX5_go_287 0 rfl rfl ?_
    refine r_gI (pc := 288) dX5_go_288 q447 fd_130 same_rf h (fun x288 e288 h => ?_)
    refine r_imul (pc := 291) dX5_go_291 ?_
    refine r_aload_n (pc := 292) dX5_go_292 0 rfl rfl ?_
    refine r_aload_n (pc := 293) dX5_go_293 0 rfl rfl ?_
    refine r_gI (pc := 294) dX5_go_294 q440 fd_127 same_rf h (fun x294 e294 h => ?_)
    refine r_callI (pc := 297) (rest := [vi ((10 : Int32) * x288), vr v0]) (lkV dX5_go_297 q495 xd_X5_byteAt (vc_of vt_X5_byteAt q497 (fun _ => sX5_byteAt)) adx_X5_byteAt) (by decide) (Nat.le_of_ble_eq_true rfl) rfl h (fun x297 st e297 h => ?_)
    refine r_iadd (pc := 300) dX5_go_300 ?_
    refine r_bipush (pc := 301) (v := 48) dX5_go_301 (by decide) ?_
    refine r_isub (pc := 303) dX5_go_303 ?_
    refine r_pI (pc := 304) dX5_go_304 q447 fd_130 same_rf rfl h (fun st e304 h => ?_)
    exact sX5_go_307 hk189 _ _ _ _ _ h
theorem sX5_go_241 {st0 : Mem} {fin : Unit × Mem} {kk189 : Rf → Int32 → Int32 → Rf → Mem → Option (Unit × Mem)} (hk189 : ∀ (v0 : Rf) (v2 : Int32) (v3 : Int32) (v4 : Rf) (st : Mem), kk189 v0 v2 v3 v4 st = some fin → G (cX5_go, "HouseClaps$Reader", "go", 18, none, 5) st0 trV fin 189 [(0, vr v0), (2, vi v2), (3, vi v3), (4, vr v4)] [] st) (v0 : Rf) (v2 : Int32) (v4 : Rf) (k0 : Int32) (st : Mem) (h : bX5_go_241 kk189 v0 v2 v4 k0 st = some fin) : G (cX5_go, "HouseClaps$Reader", "go", 18, none, 5) st0 trV fin 241 [(0, vr v0), (2, vi v2), (4, vr v4)] [vi k0] st := by
  unfold bX5_go_241 at h
  refine r_istore_n (pc := 241) (env' := [(3, vi k0), (0, vr v0), (2, vi v2), (4, vr v4)]) dX5_go_241 rfl (by decide) rfl ?_
  refine r_aload_n (pc := 242) dX5_go_242 1 rfl rfl ?_
  refine r_gI (pc := 243) dX5_go_243 q440 fd_127 same_rf h (fun x243 e243 h => ?_)
  refine r_aload_n (pc := 246) dX5_go_246 1 rfl rfl ?_
  refine r_gI (pc := 247) dX5_go_247 q446 fd_129 same_rf h (fun x247 e247 h => ?_)
  refine r_isub (pc := 250) dX5_go_250 ?_
  refine r_bipush (pc := 251) (v := 8) dX5_go_251 (by decide) ?_
  refine r_icmp_ge (pc := 253) (tgt := 271) dX5_go_253 (by decide) h (fun e253 h => ?_) (fun e253 h => ?_)
  · exact r_sub (env' := [(0, vr v0), (2, vi v2), (3, vi k0), (4, vr v4)]) [1, 2, 0, 3] rfl (sX5_go_271 hk189 _ _ _ _ _ h)
  · refine r_aload (pc := 256) dX5_go_256 3 rfl ?_
    refine r_aload_n (pc := 258) dX5_go_258 1 rfl rfl ?_
    refine r_aload_n (pc := 259) dX5_go_259 1 rfl rfl ?_
    refine r_gI (pc := 260) dX5_go_260 q440 fd_127 same_rf h (fun x260 e260 h => ?_)
    refine r_callI (pc := 263) (rest := [vr v4]) (lkV dX5_go_263 q495 xd_X5_byteAt (vc_of vt_X5_byteAt q497 (fun _ => sX5_byteAt)) adx_X5_byteAt) (by decide) (Nat.le_of_ble_eq_true rfl) rfl h (fun x263 st e263 h => ?_)
    refine r_i2c (pc := 266) dX5_go_266 ?_
    refine r_callA (pc := 267) (rest := []) (lkV dX5_go_267 q622 xd_J11_append (vc_of vt_J11_append q623 (fun _ => sJ11_append)) adx_J11_append) (by decide) (Nat.le_of_ble_eq_true rfl) rfl h (fun x267 st e267 h => ?_)
    refine r_pop (pc := 270) dX5_go_270 rfl ?_
    exact r_sub (env' := [(0, vr v0), (2, vi v2), (3, vi k0), (4, vr v4)]) [1, 2, 0, 3] rfl (sX5_go_271 hk189 _ _ _ _ _ h)
theorem sX5_go_240 {st0 : Mem} {fin : Unit × Mem} {kk189 : Rf → Int32 → Int32 → Rf → Mem → Option (Unit × Mem)} (hk189 : ∀ (v0 : Rf) (v2 : Int32) (v3 : Int32) (v4 : Rf) (st : Mem), kk189 v0 v2 v3 v4 st = some fin → G (cX5_go, "HouseClaps$Reader", "go", 18, none, 5) st0 trV fin 189 [(0, vr v0), (2, vi v2), (3, vi v3), (4, vr v4)] [] st) (v0 : Rf) (v2 : Int32) (v4 : Rf) (st : Mem) (h : bX5_go_240 kk189 v0 v2 v4 st = some fin) : G (cX5_go, "HouseClaps$Reader", "go", 18, none, 5) st0 trV fin 240 [(0, vr v0), (2, vi v2), (4, vr v4)] [] st := by
  unfold bX5_go_240 at h
  refine r_iconst (pc := 240) (v := 0) dX5_go_240 (by decide) ?_
  exact sX5_go_241 hk189 _ _ _ _ _ h
theorem sX5_go_217 {st0 : Mem} {fin : Unit × Mem} {kk189 : Rf → Int32 → Int32 → Rf → Mem → Option (Unit × Mem)} (hk189 : ∀ (v0 : Rf) (v2 : Int32) (v3 : Int32) (v4 : Rf) (st : Mem), kk189 v0 v2 v3 v4 st = some fin → G (cX5_go, "HouseClaps$Reader", "go", 18, none, 5) st0 trV fin 189 [(0, vr v0), (2, vi v2), (3, vi v3), (4, vr v4)] [] st) (v0 : Rf) (v2 : Int32) (v3 : Int32) (v4 : Rf) (st : Mem) (h : bX5_go_217 kk189 v0 v2 v3 v4 st = some fin) : G (cX5_go, "HouseClaps$Reader", "go", 18, none, 5) st0 trV fin 217 [(0, vr v0), (2, vi v2), (3, vi v3), (4, vr v4)] [] st := by
  unfold bX5_go_217 at h
  refine r_iload_n (pc := 217) dX5_go_217 2 rfl rfl ?_
  refine r_if_eq (pc := 218) (tgt := 240) dX5_go_218 (by decide) h (fun e218 h => ?_) (fun e218 h => ?_)
  · exact r_sub (env' := [(0, vr v0), (2, vi v2), (4, vr v4)]) [0, 1, 3] rfl (sX5_go_240 hk189 _ _ _ _ h)
  · refine r_aload_n (pc := 221) dX5_go_221 0 rfl rfl ?_
    refine r_aload_n (pc := 222) dX5_go_222 0 rfl rfl ?_
    refine r_gI (pc := 223) dX5_go_223 q440 fd_127 same_rf h (fun x223 e223 h => ?_)
    refine r_callI (pc := 226) (rest := []) (lkV dX5_go_226 q495 xd_X5_byteAt (vc_of vt_X5_byteAt q497 (fun _ => sX5_byteAt)) adx_X5_byteAt) (by decide) (Nat.le_of_ble_eq_true rfl) rfl h (fun x226 st e226 h => ?_)
    refine r_callI (pc := 229) (rest := []) (lkS dX5_go_229 q499 q500 q93 (fun _ => sX5_isLetter) ad_X5_isLetter) (by decide) (Nat.le_of_ble_eq_true rfl) rfl h (fun x229 st e229 h => ?_)
    refine r_iload_n (pc := 232) dX5_go_232 1 rfl rfl ?_
    refine r_icmp_ne (pc := 233) (tgt := 240) dX5_go_233 (by decide) h (fun e233 h => ?_) (fun e233 h => ?_)
    · exact r_sub (env' := [(0, vr v0), (2, vi v2), (4, vr v4)]) [0, 1, 3] rfl (sX5_go_240 hk189 _ _ _ _ h)
    · refine r_iconst (pc := 236) (v := 1) dX5_go_236 (by decide) ?_
      refine r_goto (pc := 237) (tgt := 241) dX5_go_237 (by decide) ?_
      exact r_sub (env' := [(0, vr v0), (2, vi v2), (4, vr v4)]) [0, 1, 3] rfl (sX5_go_241 hk189 _ _ _ _ _ h)
theorem sX5_go_356 {st0 : Mem} {fin : Unit × Mem} (k0 : Rf) (st : Mem) (h : bX5_go_356 k0 st = some fin) : G (cX5_go, "HouseClaps$Reader", "go", 18, none, 5) st0 trV fin 356 [] [vr k0] st := by
  unfold bX5_go_356 at h
  refine r_iconst (pc := 356) (v := 1) dX5_go_356 (by decide) ?_
  refine r_goto (pc := 357) (tgt := 369) dX5_go_357 (by decide) ?_
  refine r_pI (pc := 369) dX5_go_369 q445 fd_128 same_rf rfl h (fun st e369 h => ?_)
  exact r_return_ (pc := 372) dX5_go_372 rfl h
theorem sX5_go_353 {st0 : Mem} {fin : Unit × Mem} (v2 : Int32) (k0 : Rf) (k1 : Int32) (k2 : Int32) (st : Mem) (h : bX5_go_353 v2 k0 k1 k2 st = some fin) : G (cX5_go, "HouseClaps$Reader", "go", 18, none, 5) st0 trV fin 353 [(2, vi v2)] [vi k2, vi k1, vr k0] st := by
  unfold bX5_go_353 at h
  refine r_icmp_le (pc := 353) (tgt := 360) dX5_go_353 (by decide) h (fun e353 h => ?_) (fun e353 h => ?_)
  · refine r_iload_n (pc := 360) dX5_go_360 0 rfl rfl ?_
    refine r_if_eq (pc := 361) (tgt := 368) dX5_go_361 (by decide) h (fun e361 h => ?_) (fun e361 h => ?_)
    · refine r_iconst (pc := 368) (v := 3) dX5_go_368 (by decide) ?_
      refine r_pI (pc := 369) dX5_go_369 q445 fd_128 same_rf rfl h (fun st e369 h => ?_)
      exact r_return_ (pc := 372) dX5_go_372 rfl h
    · refine r_iconst (pc := 364) (v := 2) dX5_go_364 (by decide) ?_
      refine r_goto (pc := 365) (tgt := 369) dX5_go_365 (by decide) ?_
      refine r_pI (pc := 369) dX5_go_369 q445 fd_128 same_rf rfl h (fun st e369 h => ?_)
      exact r_return_ (pc := 372) dX5_go_372 rfl h
  · exact r_sub (env' := []) [] rfl (sX5_go_356 _ _ h)
theorem sX5_go_189B {st0 : Mem} {fin : Unit × Mem} {kk189 : Rf → Int32 → Int32 → Rf → Mem → Option (Unit × Mem)} (hk189 : ∀ (v0 : Rf) (v2 : Int32) (v3 : Int32) (v4 : Rf) (st : Mem), kk189 v0 v2 v3 v4 st = some fin → G (cX5_go, "HouseClaps$Reader", "go", 18, none, 5) st0 trV fin 189 [(0, vr v0), (2, vi v2), (3, vi v3), (4, vr v4)] [] st) (v0 : Rf) (v2 : Int32) (v3 : Int32) (v4 : Rf) (st : Mem) (h : bX5_go_189B kk189 v0 v2 v3 v4 st = some fin) : G (cX5_go, "HouseClaps$Reader", "go", 18, none, 5) st0 trV fin 189 [(0, vr v0), (2, vi v2), (3, vi v3), (4, vr v4)] [] st := by
  unfold bX5_go_189B at h
  refine r_aload_n (pc := 189) dX5_go_189 0 rfl rfl ?_
  refine r_aload_n (pc := 190) dX5_go_190 0 rfl rfl ?_
  refine r_gI (pc := 191) dX5_go_191 q440 fd_127 same_rf h (fun x191 e191 h => ?_)
  refine r_callI (pc := 194) (rest := []) (lkV dX5_go_194 q495 xd_X5_byteAt (vc_of vt_X5_byteAt q497 (fun _ => sX5_byteAt)) adx_X5_byteAt) (by decide) (Nat.le_of_ble_eq_true rfl) rfl h (fun x194 st e194 h => ?_)
  refine r_callI (pc := 197) (rest := []) (lkS dX5_go_197 q499 q500 q93 (fun _ => sX5_isLetter) ad_X5_isLetter) (by decide) (Nat.le_of_ble_eq_true rfl) rfl h (fun x197 st e197 h => ?_)
  refine r_if_ne (pc := 200) (tgt := 217) dX5_go_200 (by decide) h (fun e200 h => ?_) (fun e200 h => ?_)
  · exact sX5_go_217 hk189 _ _ _ _ _ h
  · refine r_aload_n (pc := 203) dX5_go_203 0 rfl rfl ?_
    refine r_aload_n (pc := 204) dX5_go_204 0 rfl rfl ?_
    refine r_gI (pc := 205) dX5_go_205 q440 fd_127 same_rf h (fun x205 e205 h => ?_)
    refine r_callI (pc := 208) (rest := []) (lkV dX5_go_208 q495 xd_X5_byteAt (vc_of vt_X5_byteAt q497 (fun _ => sX5_byteAt)) adx_X5_byteAt) (by decide) (Nat.le_of_ble_eq_true rfl) rfl h (fun x208 st e208 h => ?_)
    refine r_callI (pc := 211) (rest := []) (lkS dX5_go_211 q502 q503 q93 (fun _ => sX5_isDigit) ad_X5_isDigit) (by decide) (Nat.le_of_ble_eq_true rfl) rfl h (fun x211 st e211 h => ?_)
    refine r_if_eq (pc := 214) (tgt := 320) dX5_go_214 (by decide) h (fun e214 h => ?_) (fun e214 h => ?_)
    · refine r_aload_n (pc := 320) dX5_go_320 0 rfl rfl ?_
      refine r_aload (pc := 321) dX5_go_321 3 rfl ?_
      refine r_callA (pc := 323) (rest := [vr v0]) (lkV dX5_go_323 q702 xd_J11_toString (vc_of vt_J11_toString q703 (fun _ => sJ11_toString)) adx_J11_toString) (by decide) (Nat.le_of_ble_eq_true rfl) rfl h (fun x323 st e323 h => ?_)
      refine r_pA (pc := 326) dX5_go_326 q451 fd_132 same_rf rfl h (fun st e326 h => ?_)
      refine r_aload_n (pc := 329) dX5_go_329 0 rfl rfl ?_
      refine r_iload_n (pc := 330) dX5_go_330 2 rfl rfl ?_
      refine r_if_eq (pc := 331) (tgt := 356) dX5_go_331 (by decide) h (fun e331 h => ?_) (fun e331 h => ?_)
      · exact r_sub (env' := []) [] rfl (sX5_go_356 _ _ h)
      · refine r_aload_n (pc := 334) dX5_go_334 0 rfl rfl ?_
        refine r_gI (pc := 335) dX5_go_335 q440 fd_127 same_rf h (fun x335 e335 h => ?_)
        refine r_aload_n (pc := 338) dX5_go_338 0 rfl rfl ?_
        refine r_gI (pc := 339) dX5_go_339 q446 fd_129 same_rf h (fun x339 e339 h => ?_)
        refine r_isub (pc := 342) dX5_go_342 ?_
        refine r_iload_n (pc := 343) dX5_go_343 1 rfl rfl ?_
        refine r_if_eq (pc := 344) (tgt := 352) dX5_go_344 (by decide) h (fun e344 h => ?_) (fun e344 h => ?_)
        · refine r_iconst (pc := 352) (v := 3) dX5_go_352 (by decide) ?_
          exact r_sub (env' := [(2, vi v2)]) [1] rfl (sX5_go_353 _ _ _ _ _ h)
        · refine r_bipush (pc := 347) (v := 8) dX5_go_347 (by decide) ?_
          refine r_goto (pc := 349) (tgt := 353) dX5_go_349 (by decide) ?_
          exact r_sub (env' := [(2, vi v2)]) [1] rfl (sX5_go_353 _ _ _ _ _ h)
    · exact sX5_go_217 hk189 _ _ _ _ _ h
theorem sX5_go_189 {st0 : Mem} {fin : Unit × Mem} (n : Nat) : ∀ (v0 : Rf) (v2 : Int32) (v3 : Int32) (v4 : Rf) (st : Mem), bX5_go_189 n v0 v2 v3 v4 st = some fin → G (cX5_go, "HouseClaps$Reader", "go", 18, none, 5) st0 trV fin 189 [(0, vr v0), (2, vi v2), (3, vi v3), (4, vr v4)] [] st := by
  induction n with
  | zero => intro v0 v2 v3 v4 st h; cases h
  | succ n ih => intro v0 v2 v3 v4 st h; exact sX5_go_189B  ih v0 v2 v3 v4 st h
theorem sX5_go_168 {st0 : Mem} {fin : Unit × Mem} (v0 : Rf) (v1 : Int32) (st : Mem) (h : bX5_go_168 v0 v1 st = some fin) : G (cX5_go, "HouseClaps$Reader", "go", 18, none, 5) st0 trV fin 168 [(0, vr v0), (1, vi v1)] [] st := by
  unfold bX5_go_168 at h
  refine r_iload_n (pc := 168) dX5_go_168 1 rfl rfl ?_
  refine r_callI (pc := 169) (rest := []) (lkS dX5_go_169 q499 q500 q93 (fun _ => sX5_isLetter) ad_X5_isLetter) (by decide) (Nat.le_of_ble_eq_true rfl) rfl h (fun x169 st e169 h => ?_)
  refine r_istore_n (pc := 172) (env' := [(2, vi x169), (0, vr v0), (1, vi v1)]) dX5_go_172 rfl (by decide) rfl ?_
  refine r_iconst (pc := 173) (v := 1) dX5_go_173 (by decide) ?_
  refine r_istore_n (pc := 174) (env' := [(3, vi (1 : Int32)), (2, vi x169), (0, vr v0), (1, vi v1)]) dX5_go_174 rfl (by decide) rfl ?_
  refine r_aload_n (pc := 175) dX5_go_175 2 rfl rfl ?_
  refine r_iconst (pc := 176) (v := 0) dX5_go_176 (by decide) ?_
  refine r_pI (pc := 177) dX5_go_177 q447 fd_130 same_rf rfl h (fun st e177 h => ?_)
  refine r_new (pc := 180) dX5_go_180 q592 rfl h (fun x180 st e180 h => ?_)
  refine r_dup (pc := 183) dX5_go_183 rfl ?_
  refine r_callV (pc := 184) (rest := [vr x180]) (lkI dX5_go_184 q594 q595 q596 rfl (fun _ => sJ11_init) ad_J11_init) (by decide) (Nat.le_of_ble_eq_true rfl) rfl h (fun u184 st e184 h => ?_)
  refine r_astore (pc := 187) (env' := [(4, vr x180), (3, vi (1 : Int32)), (2, vi x169), (0, vr v0), (1, vi v1)]) dX5_go_187 (by decide) rfl ?_
  exact r_sub (env' := [(0, vr v0), (2, vi x169), (3, vi (1 : Int32)), (4, vr x180)]) [3, 2, 1, 0] rfl (sX5_go_189 hcFuel _ _ _ _ _ h)
theorem sX5_go_149 {st0 : Mem} {fin : Unit × Mem} (v0 : Rf) (v1 : Int32) (k0 : Rf) (k1 : Int32) (st : Mem) (h : bX5_go_149 v0 v1 k0 k1 st = some fin) : G (cX5_go, "HouseClaps$Reader", "go", 18, none, 5) st0 trV fin 149 [(0, vr v0), (1, vi v1)] [vi k1, vr k0] st := by
  unfold bX5_go_149 at h
  refine r_pI (pc := 149) dX5_go_149 q445 fd_128 same_rf rfl h (fun st e149 h => ?_)
  refine r_aload_n (pc := 152) dX5_go_152 0 rfl rfl ?_
  refine r_iload_n (pc := 153) dX5_go_153 1 rfl rfl ?_
  refine r_pI (pc := 154) dX5_go_154 q448 fd_131 same_rf rfl h (fun st e154 h => ?_)
  refine r_aload_n (pc := 157) dX5_go_157 0 rfl rfl ?_
  refine r_dup (pc := 158) dX5_go_158 rfl ?_
  refine r_gI (pc := 159) dX5_go_159 q440 fd_127 same_rf h (fun x159 e159 h => ?_)
  refine r_iconst (pc := 162) (v := 1) dX5_go_162 (by decide) ?_
  refine r_iadd (pc := 163) dX5_go_163 ?_
  refine r_pI (pc := 164) dX5_go_164 q440 fd_127 same_rf rfl h (fun st e164 h => ?_)
  exact r_return_ (pc := 167) dX5_go_167 rfl h
theorem sX5_go_94 {st0 : Mem} {fin : Unit × Mem} (v0 : Rf) (st : Mem) (h : bX5_go_94 v0 st = some fin) : G (cX5_go, "HouseClaps$Reader", "go", 18, none, 5) st0 trV fin 94 [(0, vr v0)] [] st := by
  unfold bX5_go_94 at h
  refine r_aload_n (pc := 94) dX5_go_94 0 rfl rfl ?_
  refine r_gI (pc := 95) dX5_go_95 q440 fd_127 same_rf h (fun x95 e95 h => ?_)
  refine r_aload_n (pc := 98) dX5_go_98 0 rfl rfl ?_
  refine r_gI (pc := 99) dX5_go_99 q438 fd_125 same_rf h (fun x99 e99 h => ?_)
  refine r_icmp_lt (pc := 102) (tgt := 111) dX5_go_102 (by decide) h (fun e102 h => ?_) (fun e102 h => ?_)
  · refine r_aload_n (pc := 111) dX5_go_111 0 rfl rfl ?_
    refine r_aload_n (pc := 112) dX5_go_112 0 rfl rfl ?_
    refine r_gI (pc := 113) dX5_go_113 q440 fd_127 same_rf h (fun x113 e113 h => ?_)
    refine r_callI (pc := 116) (rest := []) (lkV dX5_go_116 q495 xd_X5_byteAt (vc_of vt_X5_byteAt q497 (fun _ => sX5_byteAt)) adx_X5_byteAt) (by decide) (Nat.le_of_ble_eq_true rfl) rfl h (fun x116 st e116 h => ?_)
    refine r_istore_n (pc := 119) (env' := [(1, vi x116), (0, vr v0)]) dX5_go_119 rfl (by decide) rfl ?_
    refine r_iload_n (pc := 120) dX5_go_120 0 rfl rfl ?_
    refine r_callI (pc := 121) (rest := []) (lkS dX5_go_121 q499 q500 q93 (fun _ => sX5_isLetter) ad_X5_isLetter) (by decide) (Nat.le_of_ble_eq_true rfl) rfl h (fun x121 st e121 h => ?_)
    refine r_if_ne (pc := 124) (tgt := 168) dX5_go_124 (by decide) h (fun e124 h => ?_) (fun e124 h => ?_)
    · exact r_sub (env' := [(0, vr v0), (1, vi x116)]) [1, 0] rfl (sX5_go_168 _ _ _ h)
    · refine r_iload_n (pc := 127) dX5_go_127 0 rfl rfl ?_
      refine r_callI (pc := 128) (rest := []) (lkS dX5_go_128 q502 q503 q93 (fun _ => sX5_isDigit) ad_X5_isDigit) (by decide) (Nat.le_of_ble_eq_true rfl) rfl h (fun x128 st e128 h => ?_)
      refine r_if_ne (pc := 131) (tgt := 168) dX5_go_131 (by decide) h (fun e131 h => ?_) (fun e131 h => ?_)
      · exact r_sub (env' := [(0, vr v0), (1, vi x116)]) [1, 0] rfl (sX5_go_168 _ _ _ h)
      · refine r_aload_n (pc := 134) dX5_go_134 1 rfl rfl ?_
        refine r_ldcS (pc := 135) dX5_go_135 25 rfl ?_
        refine r_iload_n (pc := 137) dX5_go_137 0 rfl rfl ?_
        refine r_callI (pc := 138) (rest := [vr v0]) (lkV dX5_go_138 q506 xd_J4_indexOf_2 (vc_of vt_J4_indexOf_2 q507 (fun _ => sJ4_indexOf)) adx_J4_indexOf_2) (by decide) (Nat.le_of_ble_eq_true rfl) rfl h (fun x138 st e138 h => ?_)
        refine r_if_lt (pc := 141) (tgt := 148) dX5_go_141 (by decide) h (fun e141 h => ?_) (fun e141 h => ?_)
        · refine r_iconst (pc := 148) (v := 1) dX5_go_148 (by decide) ?_
          exact r_sub (env' := [(0, vr v0), (1, vi x116)]) [1, 0] rfl (sX5_go_149 _ _ _ _ _ h)
        · refine r_iconst (pc := 144) (v := 4) dX5_go_144 (by decide) ?_
          refine r_goto (pc := 145) (tgt := 149) dX5_go_145 (by decide) ?_
          exact r_sub (env' := [(0, vr v0), (1, vi x116)]) [1, 0] rfl (sX5_go_149 _ _ _ _ _ h)
  · refine r_aload_n (pc := 105) dX5_go_105 0 rfl rfl ?_
    refine r_iconst (pc := 106) (v := 0) dX5_go_106 (by decide) ?_
    refine r_pI (pc := 107) dX5_go_107 q445 fd_128 same_rf rfl h (fun st e107 h => ?_)
    exact r_return_ (pc := 110) dX5_go_110 rfl h
theorem sX5_go_50 {st0 : Mem} {fin : Unit × Mem} (v0 : Rf) (st : Mem) (h : bX5_go_50 v0 st = some fin) : G (cX5_go, "HouseClaps$Reader", "go", 18, none, 5) st0 trV fin 50 [(0, vr v0)] [] st := by
  unfold bX5_go_50 at h
  refine r_aload_n (pc := 50) dX5_go_50 0 rfl rfl ?_
  refine r_aload_n (pc := 51) dX5_go_51 0 rfl rfl ?_
  refine r_gI (pc := 52) dX5_go_52 q440 fd_127 same_rf h (fun x52 e52 h => ?_)
  refine r_pI (pc := 55) dX5_go_55 q446 fd_129 same_rf rfl h (fun st e55 h => ?_)
  refine r_aload_n (pc := 58) dX5_go_58 0 rfl rfl ?_
  refine r_gI (pc := 59) dX5_go_59 q438 fd_125 same_rf h (fun x59 e59 h => ?_)
  refine r_aload_n (pc := 62) dX5_go_62 0 rfl rfl ?_
  refine r_gI (pc := 63) dX5_go_63 q439 fd_126 same_rf h (fun x63 e63 h => ?_)
  refine r_icmp_le (pc := 66) (tgt := 94) dX5_go_66 (by decide) h (fun e66 h => ?_) (fun e66 h => ?_)
  · exact sX5_go_94 _ _ h
  · refine r_aload_n (pc := 69) dX5_go_69 0 rfl rfl ?_
    refine r_gI (pc := 70) dX5_go_70 q446 fd_129 same_rf h (fun x70 e70 h => ?_)
    refine r_aload_n (pc := 73) dX5_go_73 0 rfl rfl ?_
    refine r_gI (pc := 74) dX5_go_74 q439 fd_126 same_rf h (fun x74 e74 h => ?_)
    refine r_icmp_lt (pc := 77) (tgt := 94) dX5_go_77 (by decide) h (fun e77 h => ?_) (fun e77 h => ?_)
    · exact sX5_go_94 _ _ h
    · refine r_aload_n (pc := 80) dX5_go_80 0 rfl rfl ?_
      refine r_aload_n (pc := 81) dX5_go_81 0 rfl rfl ?_
      refine r_gI (pc := 82) dX5_go_82 q439 fd_126 same_rf h (fun x82 e82 h => ?_)
      refine r_pI (pc := 85) dX5_go_85 q446 fd_129 same_rf rfl h (fun st e85 h => ?_)
      refine r_aload_n (pc := 88) dX5_go_88 0 rfl rfl ?_
      refine r_iconst (pc := 89) (v := 5) dX5_go_89 (by decide) ?_
      refine r_pI (pc := 90) dX5_go_90 q445 fd_128 same_rf rfl h (fun st e90 h => ?_)
      exact r_return_ (pc := 93) dX5_go_93 rfl h
theorem sX5_go_37 {st0 : Mem} {fin : Unit × Mem} {kk0 : Rf → Mem → Option (Unit × Mem)} (hk0 : ∀ (v0 : Rf) (st : Mem), kk0 v0 st = some fin → G (cX5_go, "HouseClaps$Reader", "go", 18, none, 5) st0 trV fin 0 [(0, vr v0)] [] st) (v0 : Rf) (st : Mem) (h : bX5_go_37 kk0 v0 st = some fin) : G (cX5_go, "HouseClaps$Reader", "go", 18, none, 5) st0 trV fin 37 [(0, vr v0)] [] st := by
  unfold bX5_go_37 at h
  refine r_aload_n (pc := 37) dX5_go_37 0 rfl rfl ?_
  refine r_dup (pc := 38) dX5_go_38 rfl ?_
  refine r_gI (pc := 39) dX5_go_39 q440 fd_127 same_rf h (fun x39 e39 h => ?_)
  refine r_iconst (pc := 42) (v := 1) dX5_go_42 (by decide) ?_
  refine r_iadd (pc := 43) dX5_go_43 ?_
  refine r_pI (pc := 44) dX5_go_44 q440 fd_127 same_rf rfl h (fun st e44 h => ?_)
  refine r_goto (pc := 47) (tgt := 0) dX5_go_47 (by decide) ?_
  exact hk0 _ _ h
theorem sX5_go_0B {st0 : Mem} {fin : Unit × Mem} {kk0 : Rf → Mem → Option (Unit × Mem)} (hk0 : ∀ (v0 : Rf) (st : Mem), kk0 v0 st = some fin → G (cX5_go, "HouseClaps$Reader", "go", 18, none, 5) st0 trV fin 0 [(0, vr v0)] [] st) (v0 : Rf) (st : Mem) (h : bX5_go_0B kk0 v0 st = some fin) : G (cX5_go, "HouseClaps$Reader", "go", 18, none, 5) st0 trV fin 0 [(0, vr v0)] [] st := by
  unfold bX5_go_0B at h
  refine r_aload_n (pc := 0) dX5_go_0 0 rfl rfl ?_
  refine r_gI (pc := 1) dX5_go_1 q440 fd_127 same_rf h (fun x1 e1 h => ?_)
  refine r_aload_n (pc := 4) dX5_go_4 0 rfl rfl ?_
  refine r_gI (pc := 5) dX5_go_5 q438 fd_125 same_rf h (fun x5 e5 h => ?_)
  refine r_icmp_ge (pc := 8) (tgt := 50) dX5_go_8 (by decide) h (fun e8 h => ?_) (fun e8 h => ?_)
  · exact sX5_go_50 _ _ h
  · refine r_aload_n (pc := 11) dX5_go_11 0 rfl rfl ?_
    refine r_aload_n (pc := 12) dX5_go_12 0 rfl rfl ?_
    refine r_gI (pc := 13) dX5_go_13 q440 fd_127 same_rf h (fun x13 e13 h => ?_)
    refine r_callI (pc := 16) (rest := []) (lkV dX5_go_16 q495 xd_X5_byteAt (vc_of vt_X5_byteAt q497 (fun _ => sX5_byteAt)) adx_X5_byteAt) (by decide) (Nat.le_of_ble_eq_true rfl) rfl h (fun x16 st e16 h => ?_)
    refine r_bipush (pc := 19) (v := 32) dX5_go_19 (by decide) ?_
    refine r_icmp_eq (pc := 21) (tgt := 37) dX5_go_21 (by decide) h (fun e21 h => ?_) (fun e21 h => ?_)
    · exact sX5_go_37 hk0 _ _ h
    · refine r_aload_n (pc := 24) dX5_go_24 0 rfl rfl ?_
      refine r_aload_n (pc := 25) dX5_go_25 0 rfl rfl ?_
      refine r_gI (pc := 26) dX5_go_26 q440 fd_127 same_rf h (fun x26 e26 h => ?_)
      refine r_callI (pc := 29) (rest := []) (lkV dX5_go_29 q495 xd_X5_byteAt (vc_of vt_X5_byteAt q497 (fun _ => sX5_byteAt)) adx_X5_byteAt) (by decide) (Nat.le_of_ble_eq_true rfl) rfl h (fun x29 st e29 h => ?_)
      refine r_bipush (pc := 32) (v := 10) dX5_go_32 (by decide) ?_
      refine r_icmp_ne (pc := 34) (tgt := 50) dX5_go_34 (by decide) h (fun e34 h => ?_) (fun e34 h => ?_)
      · exact sX5_go_50 _ _ h
      · exact sX5_go_37 hk0 _ _ h
theorem sX5_go_0 {st0 : Mem} {fin : Unit × Mem} (n : Nat) : ∀ (v0 : Rf) (st : Mem), bX5_go_0 n v0 st = some fin → G (cX5_go, "HouseClaps$Reader", "go", 18, none, 5) st0 trV fin 0 [(0, vr v0)] [] st := by
  induction n with
  | zero => intro v0 st h; cases h
  | succ n ih => intro v0 st h; exact sX5_go_0B  ih v0 st h
theorem sX5_go {a0 : Rf} {st : Mem} {fin : Unit × Mem} (h : fX5_go a0 st = some fin) : Con yX5_go 18 [vr a0] st trV fin := by
  refine Con.mk (cc := cX5_go) (n := 5) (own := "HouseClaps$Reader") (nm := "go") (ret := none) (env := [(0, vr a0)]) q494 rfl rfl rfl (by decide) ⟨Nat.le_of_ble_eq_true rfl, by decide⟩ rfl ?_
  unfold fX5_go at h
  exact r_sub (env' := [(0, vr a0)]) [0] rfl (sX5_go_0 hcFuel _ _ h)
theorem sX3_go_65B {st0 : Mem} {fin : Unit × Mem} {kk65 : Rf → Int32 → Int32 → Mem → Option (Unit × Mem)} (hk65 : ∀ (v0 : Rf) (v1 : Int32) (v3 : Int32) (st : Mem), kk65 v0 v1 v3 st = some fin → G (cX3_go, "HouseClaps$Night", "go", 76, none, 4) st0 trV fin 65 [(0, vr v0), (1, vi v1), (3, vi v3)] [] st) (v0 : Rf) (v1 : Int32) (v3 : Int32) (st : Mem) (h : bX3_go_65B kk65 v0 v1 v3 st = some fin) : G (cX3_go, "HouseClaps$Night", "go", 76, none, 4) st0 trV fin 65 [(0, vr v0), (1, vi v1), (3, vi v3)] [] st := by
  unfold bX3_go_65B at h
  refine r_iload_n (pc := 65) dX3_go_65 2 rfl rfl ?_
  refine r_aload_n (pc := 66) dX3_go_66 0 rfl rfl ?_
  refine r_gA (pc := 67) dX3_go_67 q275 fd_49 same_rf h (fun x67 e67 h => ?_)
  refine r_iload_n (pc := 70) dX3_go_70 1 rfl rfl ?_
  refine r_iaload (pc := 71) dX3_go_71 h (fun x71 e71 h => ?_)
  refine r_icmp_gt (pc := 72) (tgt := 93) dX3_go_72 (by decide) h (fun e72 h => ?_) (fun e72 h => ?_)
  · exact r_return_ (pc := 93) dX3_go_93 rfl h
  · refine r_aload_n (pc := 75) dX3_go_75 0 rfl rfl ?_
    refine r_gA (pc := 76) dX3_go_76 q282 fd_53 same_rf h (fun x76 e76 h => ?_)
    refine r_iload_n (pc := 79) dX3_go_79 2 rfl rfl ?_
    refine r_dup2_11 (pc := 80) dX3_go_80 rfl rfl ?_
    refine r_laload (pc := 81) dX3_go_81 h (fun x81 e81 h => ?_)
    refine r_lconst (pc := 82) (v := 1) dX3_go_82 (by decide) ?_
    refine r_iload_n (pc := 83) dX3_go_83 1 rfl rfl ?_
    refine r_lshl (pc := 84) dX3_go_84 ?_
    refine r_lor (pc := 85) dX3_go_85 ?_
    refine r_lastore (pc := 86) dX3_go_86 h (fun st e86 h => ?_)
    refine r_iinc (pc := 87) (env' := [(3, vi (v3 + 1)), (0, vr v0), (1, vi v1)]) (cst := 1) dX3_go_87 2 rfl (by decide) (by decide) rfl ?_
    refine r_goto (pc := 90) (tgt := 65) dX3_go_90 (by decide) ?_
    exact r_sub (env' := [(0, vr v0), (1, vi v1), (3, vi (v3 + 1))]) [1, 2, 0] rfl (hk65 _ _ _ _ h)
theorem sX3_go_65 {st0 : Mem} {fin : Unit × Mem} (n : Nat) : ∀ (v0 : Rf) (v1 : Int32) (v3 : Int32) (st : Mem), bX3_go_65 n v0 v1 v3 st = some fin → G (cX3_go, "HouseClaps$Night", "go", 76, none, 4) st0 trV fin 65 [(0, vr v0), (1, vi v1), (3, vi v3)] [] st := by
  induction n with
  | zero => intro v0 v1 v3 st h; cases h
  | succ n ih => intro v0 v1 v3 st h; exact sX3_go_65B  ih v0 v1 v3 st h
theorem sX3_go_62 {st0 : Mem} {fin : Unit × Mem} (v0 : Rf) (v1 : Int32) (k0 : Rf) (k1 : Int32) (k2 : Int32) (st : Mem) (h : bX3_go_62 v0 v1 k0 k1 k2 st = some fin) : G (cX3_go, "HouseClaps$Night", "go", 76, none, 4) st0 trV fin 62 [(0, vr v0), (1, vi v1)] [vi k2, vi k1, vr k0] st := by
  unfold bX3_go_62 at h
  refine r_iastore (pc := 62) dX3_go_62 h (fun st e62 h => ?_)
  refine r_iconst (pc := 63) (v := 1) dX3_go_63 (by decide) ?_
  refine r_istore_n (pc := 64) (env' := [(3, vi (1 : Int32)), (0, vr v0), (1, vi v1)]) dX3_go_64 rfl (by decide) rfl ?_
  exact r_sub (env' := [(0, vr v0), (1, vi v1), (3, vi (1 : Int32))]) [1, 2, 0] rfl (sX3_go_65 hcFuel _ _ _ _ h)
theorem sX3_go_25 {st0 : Mem} {fin : Unit × Mem} (v0 : Rf) (v1 : Int32) (k0 : Rf) (k1 : Int32) (k2 : Int32) (st : Mem) (h : bX3_go_25 v0 v1 k0 k1 k2 st = some fin) : G (cX3_go, "HouseClaps$Night", "go", 76, none, 4) st0 trV fin 25 [(0, vr v0), (1, vi v1)] [vi k2, vi k1, vr k0] st := by
  unfold bX3_go_25 at h
  refine r_iastore (pc := 25) dX3_go_25 h (fun st e25 h => ?_)
  refine r_aload_n (pc := 26) dX3_go_26 0 rfl rfl ?_
  refine r_gA (pc := 27) dX3_go_27 q279 fd_51 same_rf h (fun x27 e27 h => ?_)
  refine r_iload_n (pc := 30) dX3_go_30 1 rfl rfl ?_
  refine r_aload_n (pc := 31) dX3_go_31 0 rfl rfl ?_
  refine r_gA (pc := 32) dX3_go_32 q275 fd_49 same_rf h (fun x32 e32 h => ?_)
  refine r_iload_n (pc := 35) dX3_go_35 1 rfl rfl ?_
  refine r_iaload (pc := 36) dX3_go_36 h (fun x36 e36 h => ?_)
  refine r_aload_n (pc := 37) dX3_go_37 0 rfl rfl ?_
  refine r_gA (pc := 38) dX3_go_38 q273 fd_48 same_rf h (fun x38 e38 h => ?_)
  refine r_iload_n (pc := 41) dX3_go_41 1 rfl rfl ?_
  refine r_iaload (pc := 42) dX3_go_42 h (fun x42 e42 h => ?_)
  refine r_icmp_eq (pc := 43) (tgt := 50) dX3_go_43 (by decide) h (fun e43 h => ?_) (fun e43 h => ?_)
  · refine r_iconst (pc := 50) (v := 3) dX3_go_50 (by decide) ?_
    refine r_aload_n (pc := 51) dX3_go_51 0 rfl rfl ?_
    refine r_gA (pc := 52) dX3_go_52 q277 fd_50 same_rf h (fun x52 e52 h => ?_)
    refine r_iload_n (pc := 55) dX3_go_55 1 rfl rfl ?_
    refine r_iaload (pc := 56) dX3_go_56 h (fun x56 e56 h => ?_)
    refine r_iconst (pc := 57) (v := 1) dX3_go_57 (by decide) ?_
    refine r_iadd (pc := 58) dX3_go_58 ?_
    refine r_mminI (pc := 59) dX3_go_59 q1370 (by decide) (Nat.le_of_ble_eq_true rfl) ?_
    exact sX3_go_62 _ _ _ _ _ _ h
  · refine r_iconst (pc := 46) (v := 0) dX3_go_46 (by decide) ?_
    refine r_goto (pc := 47) (tgt := 62) dX3_go_47 (by decide) ?_
    exact sX3_go_62 _ _ _ _ _ _ h
theorem sX3_go {a0 : Rf} {a1 : Int32} {st : Mem} {fin : Unit × Mem} (h : fX3_go a0 a1 st = some fin) : Con yX3_go 76 [vr a0, vi a1] st trV fin := by
  refine Con.mk (cc := cX3_go) (n := 4) (own := "HouseClaps$Night") (nm := "go") (ret := none) (env := [(0, vr a0), (1, vi a1)]) q1322 rfl rfl rfl (by decide) ⟨Nat.le_of_ble_eq_true rfl, by decide⟩ rfl ?_
  unfold fX3_go at h
  refine r_aload_n (pc := 0) dX3_go_0 0 rfl rfl ?_
  refine r_iload_n (pc := 1) dX3_go_1 1 rfl rfl ?_
  refine r_callI (pc := 2) (rest := []) (lkV dX3_go_2 q1295 xd_X3_forced (vc_of vt_X3_forced q1297 (fun _ => sX3_forced)) adx_X3_forced) (by decide) (Nat.le_of_ble_eq_true rfl) rfl h (fun x2 st e2 h => ?_)
  refine r_istore_n (pc := 5) (env' := [(2, vi x2), (0, vr a0), (1, vi a1)]) dX3_go_5 rfl (by decide) rfl ?_
  refine r_aload_n (pc := 6) dX3_go_6 1 rfl rfl ?_
  refine r_gA (pc := 7) dX3_go_7 q275 fd_49 same_rf h (fun x7 e7 h => ?_)
  refine r_iload_n (pc := 10) dX3_go_10 2 rfl rfl ?_
  refine r_iload_n (pc := 11) dX3_go_11 0 rfl rfl ?_
  refine r_iconst (pc := 12) (v := (-1)) dX3_go_12 (by decide) ?_
  refine r_icmp_eq (pc := 13) (tgt := 20) dX3_go_13 (by decide) h (fun e13 h => ?_) (fun e13 h => ?_)
  · refine r_aload_n (pc := 20) dX3_go_20 1 rfl rfl ?_
    refine r_iload_n (pc := 21) dX3_go_21 2 rfl rfl ?_
    refine r_callI (pc := 22) (rest := [vi a1, vr x7]) (lkV dX3_go_22 q1323 xd_X3_likes (vc_of vt_X3_likes q1325 (fun _ => sX3_likes)) adx_X3_likes) (by decide) (Nat.le_of_ble_eq_true rfl) rfl h (fun x22 st e22 h => ?_)
    exact r_sub (env' := [(0, vr a0), (1, vi a1)]) [1, 2] rfl (sX3_go_25 _ _ _ _ _ _ h)
  · refine r_iload_n (pc := 16) dX3_go_16 0 rfl rfl ?_
    refine r_goto (pc := 17) (tgt := 25) dX3_go_17 (by decide) ?_
    exact r_sub (env' := [(0, vr a0), (1, vi a1)]) [1, 2] rfl (sX3_go_25 _ _ _ _ _ _ h)
theorem sX5_end {a0 : Rf} {st : Mem} {fin : (Unit ⊕ Nat) × Mem} (h : fX5_end a0 st = some fin) : Con yX5_end 20 [vr a0] st trVx fin := by
  refine Con.mk (cc := cX5_end) (n := 1) (own := "HouseClaps$Reader") (nm := "end") (ret := none) (env := [(0, vr a0)]) q1032 rfl rfl rfl (by decide) ⟨Nat.le_of_ble_eq_true rfl, by decide⟩ rfl ?_
  unfold fX5_end at h
  refine r_aload_n (pc := 0) dX5_end_0 0 rfl rfl ?_
  refine r_aload_n (pc := 1) dX5_end_1 0 rfl rfl ?_
  refine r_bipush (pc := 2) (v := 59) dX5_end_2 (by decide) ?_
  refine r_callI (pc := 4) (rest := [vr a0]) (lkV dX5_end_4 q1033 xd_X5_isSign (vc_of vt_X5_isSign q882 (fun _ => sX5_isSign)) adx_X5_isSign) (by decide) (Nat.le_of_ble_eq_true rfl) rfl h (fun x4 st e4 h => ?_)
  refine r_iconst (pc := 7) (v := 1) dX5_end_7 (by decide) ?_
  refine r_callVx (pc := 8) (rest := []) (lkV dX5_end_8 q926 xd_X5_need (vc_of vt_X5_need q782 (fun _ => sX5_need)) adx_X5_need) (by decide) (Nat.le_of_ble_eq_true rfl) rfl (by decide) (fun _ => rfl) h (fun u8 st e8 h => ?_)
  refine r_aload_n (pc := 11) dX5_end_11 0 rfl rfl ?_
  refine r_callV (pc := 12) (rest := []) (lkV dX5_end_12 q930 xd_X5_go (vc_of vt_X5_go q493 (fun _ => sX5_go)) adx_X5_go) (by decide) (Nat.le_of_ble_eq_true rfl) rfl h (fun u12 st e12 h => ?_)
  exact r_return_ (pc := 15) dX5_end_15 rfl h
theorem sX5_number {a0 : Rf} {a1 : Int32} {a2 : Int32} {st : Mem} {fin : (Int32 ⊕ Nat) × Mem} (h : fX5_number a0 a1 a2 st = some fin) : Con yX5_number 20 [vr a0, vi a1, vi a2] st trIx fin := by
  refine Con.mk (cc := cX5_number) (n := 4) (own := "HouseClaps$Reader") (nm := "number") (ret := (some .int)) (env := [(0, vr a0), (1, vi a1), (2, vi a2)]) q919 rfl rfl rfl (by decide) ⟨Nat.le_of_ble_eq_true rfl, by decide⟩ rfl ?_
  unfold fX5_number at h
  refine r_aload_n (pc := 0) dX5_number_0 0 rfl rfl ?_
  refine r_iload_n (pc := 1) dX5_number_1 1 rfl rfl ?_
  refine r_iload_n (pc := 2) dX5_number_2 2 rfl rfl ?_
  refine r_callIx (pc := 3) (rest := []) (lkV dX5_number_3 q920 xd_X5_hold (vc_of vt_X5_hold q921 (fun _ => sX5_hold)) adx_X5_hold) (by decide) (Nat.le_of_ble_eq_true rfl) rfl (by decide) (fun _ => rfl) h (fun x3 st e3 h => ?_)
  refine r_istore_n (pc := 6) (env' := [(3, vi x3), (0, vr a0), (1, vi a1), (2, vi a2)]) dX5_number_6 rfl (by decide) rfl ?_
  refine r_aload_n (pc := 7) dX5_number_7 1 rfl rfl ?_
  refine r_callV (pc := 8) (rest := []) (lkV dX5_number_8 q930 xd_X5_go (vc_of vt_X5_go q493 (fun _ => sX5_go)) adx_X5_go) (by decide) (Nat.le_of_ble_eq_true rfl) rfl h (fun u8 st e8 h => ?_)
  refine r_iload_n (pc := 11) dX5_number_11 0 rfl rfl ?_
  exact r_ireturn (pc := 12) dX5_number_12 rfl rfl h
theorem sX6_and_5B {st0 : Mem} {fin : (Rf ⊕ Nat) × Mem} {rc : Rf → Mem → Option ((Rf ⊕ Nat) × Mem)} {lr : Nat} (hlr : 24 ≤ lr) (hrc : ∀ (a : Rf) (st : Mem) (fin : (Rf ⊕ Nat) × Mem), rc a st = some fin → Con yX6_one lr [vr a] st trAx fin) {kk5 : Rf → Rf → Mem → Option ((Rf ⊕ Nat) × Mem)} (hk5 : ∀ (v0 : Rf) (v1 : Rf) (st : Mem), kk5 v0 v1 st = some fin → G (cX6_and, "HouseClaps$HouseReader", "and", (lr + 1), (some (.object "HouseClaps$Cond")), 2) st0 trAx fin 5 [(0, vr v0), (1, vr v1)] [] st) (v0 : Rf) (v1 : Rf) (st : Mem) (h : bX6_and_5B rc kk5 v0 v1 st = some fin) : G (cX6_and, "HouseClaps$HouseReader", "and", (lr + 1), (some (.object "HouseClaps$Cond")), 2) st0 trAx fin 5 [(0, vr v0), (1, vr v1)] [] st := by
  unfold bX6_and_5B at h
  refine r_aload_n (pc := 5) dX6_and_5 0 rfl rfl ?_
  refine r_ldcS (pc := 6) dX6_and_6 14 rfl ?_
  refine r_callI (pc := 8) (rest := []) (lkV dX6_and_8 q760 xd_X6_is (vc_of vt_X6_is q764 (fun _ => sX5_is)) adx_X6_is) (by omega) (Nat.le_of_ble_eq_true rfl) rfl h (fun x8 st e8 h => ?_)
  refine r_if_eq (pc := 11) (tgt := 34) dX6_and_11 (by decide) h (fun e11 h => ?_) (fun e11 h => ?_)
  · refine r_aload_n (pc := 34) dX6_and_34 1 rfl rfl ?_
    exact r_areturn (pc := 35) dX6_and_35 rfl rfl h
  · refine r_aload_n (pc := 14) dX6_and_14 0 rfl rfl ?_
    refine r_callV (pc := 15) (rest := []) (lkV dX6_and_15 q489 xd_X6_go (vc_of vt_X6_go q493 (fun _ => sX5_go)) adx_X6_go) (by omega) (Nat.le_of_ble_eq_true rfl) rfl h (fun u15 st e15 h => ?_)
    refine r_new (pc := 18) dX6_and_18 q972 rfl h (fun x18 st e18 h => ?_)
    refine r_dup (pc := 21) dX6_and_21 rfl ?_
    refine r_aload_n (pc := 22) dX6_and_22 1 rfl rfl ?_
    refine r_aload_n (pc := 23) dX6_and_23 0 rfl rfl ?_
    refine r_callAx (pc := 24) (rest := [vr v1, vr x18, vr x18]) (lkV dX6_and_24 q874 xd_X6_one (vc_of vt_X6_one q876 (fun _ => hrc _ _ _)) adx_X6_one) (by omega) (Nat.le_of_ble_eq_true rfl) rfl (by decide) (fun _ => rfl) h (fun x24 st e24 h => ?_)
    refine r_callV (pc := 27) (rest := [vr x18]) (lkI dX6_and_27 q974 q975 q976 rfl (fun _ => sX15_init) ad_X15_init) (by omega) (Nat.le_of_ble_eq_true rfl) rfl h (fun u27 st e27 h => ?_)
    refine r_astore_n (pc := 30) (env' := [(1, vr x18), (0, vr v0)]) dX6_and_30 rfl (by decide) rfl ?_
    refine r_goto (pc := 31) (tgt := 5) dX6_and_31 (by decide) ?_
    exact r_sub (env' := [(0, vr v0), (1, vr x18)]) [1, 0] rfl (hk5 _ _ _ h)
theorem sX6_and_5 {st0 : Mem} {fin : (Rf ⊕ Nat) × Mem} {rc : Rf → Mem → Option ((Rf ⊕ Nat) × Mem)} {lr : Nat} (hlr : 24 ≤ lr) (hrc : ∀ (a : Rf) (st : Mem) (fin : (Rf ⊕ Nat) × Mem), rc a st = some fin → Con yX6_one lr [vr a] st trAx fin) (n : Nat) : ∀ (v0 : Rf) (v1 : Rf) (st : Mem), bX6_and_5 rc n v0 v1 st = some fin → G (cX6_and, "HouseClaps$HouseReader", "and", (lr + 1), (some (.object "HouseClaps$Cond")), 2) st0 trAx fin 5 [(0, vr v0), (1, vr v1)] [] st := by
  induction n with
  | zero => intro v0 v1 st h; cases h
  | succ n ih => intro v0 v1 st h; exact sX6_and_5B hlr hrc  ih v0 v1 st h
theorem sX6_and {rc : Rf → Mem → Option ((Rf ⊕ Nat) × Mem)} {lr : Nat} (hlr : 24 ≤ lr) (hrc : ∀ (a : Rf) (st : Mem) (fin : (Rf ⊕ Nat) × Mem), rc a st = some fin → Con yX6_one lr [vr a] st trAx fin) {a0 : Rf} {st : Mem} {fin : (Rf ⊕ Nat) × Mem} (h : fX6_and rc a0 st = some fin) : Con yX6_and (lr + 1) [vr a0] st trAx fin := by
  refine Con.mk (cc := cX6_and) (n := 2) (own := "HouseClaps$HouseReader") (nm := "and") (ret := (some (.object "HouseClaps$Cond"))) (env := [(0, vr a0)]) q873 rfl rfl rfl (by decide) ⟨Nat.le_of_ble_eq_true rfl, by decide⟩ rfl ?_
  unfold fX6_and at h
  refine r_aload_n (pc := 0) dX6_and_0 0 rfl rfl ?_
  refine r_callAx (pc := 1) (rest := []) (lkV dX6_and_1 q874 xd_X6_one (vc_of vt_X6_one q876 (fun _ => hrc _ _ _)) adx_X6_one) (by omega) (Nat.le_of_ble_eq_true rfl) rfl (by decide) (fun _ => rfl) h (fun x1 st e1 h => ?_)
  refine r_astore_n (pc := 4) (env' := [(1, vr x1), (0, vr a0)]) dX6_and_4 rfl (by decide) rfl ?_
  exact r_sub (env' := [(0, vr a0), (1, vr x1)]) [1, 0] rfl (sX6_and_5 hlr hrc hcFuel _ _ _ h)
theorem sX6_row_216 {st0 : Mem} {fin : (Unit ⊕ Nat) × Mem} {kk152 : Rf → Int32 → Mem → Option ((Unit ⊕ Nat) × Mem)} (hk152 : ∀ (v0 : Rf) (v1 : Int32) (st : Mem), kk152 v0 v1 st = some fin → G (cX6_row, "HouseClaps$HouseReader", "row", 20, none, 2) st0 trVx fin 152 [(0, vr v0), (1, vi v1)] [] st) (v0 : Rf) (v1 : Int32) (k0 : Rf) (k1 : Int32) (k2 : Int32) (st : Mem) (h : bX6_row_216 kk152 v0 v1 k0 k1 k2 st = some fin) : G (cX6_row, "HouseClaps$HouseReader", "row", 20, none, 2) st0 trVx fin 216 [(0, vr v0), (1, vi v1)] [vi k2, vi k1, vr k0] st := by
  unfold bX6_row_216 at h
  refine r_iastore (pc := 216) dX6_row_216 h (fun st e216 h => ?_)
  refine r_iinc (pc := 217) (env' := [(1, vi (v1 + 1)), (0, vr v0)]) (cst := 1) dX6_row_217 1 rfl (by decide) (by decide) rfl ?_
  refine r_goto (pc := 220) (tgt := 152) dX6_row_220 (by decide) ?_
  exact r_sub (env' := [(0, vr v0), (1, vi (v1 + 1))]) [1, 0] rfl (hk152 _ _ _ h)
theorem sX6_row_152B {st0 : Mem} {fin : (Unit ⊕ Nat) × Mem} {kk152 : Rf → Int32 → Mem → Option ((Unit ⊕ Nat) × Mem)} (hk152 : ∀ (v0 : Rf) (v1 : Int32) (st : Mem), kk152 v0 v1 st = some fin → G (cX6_row, "HouseClaps$HouseReader", "row", 20, none, 2) st0 trVx fin 152 [(0, vr v0), (1, vi v1)] [] st) (v0 : Rf) (v1 : Int32) (st : Mem) (h : bX6_row_152B kk152 v0 v1 st = some fin) : G (cX6_row, "HouseClaps$HouseReader", "row", 20, none, 2) st0 trVx fin 152 [(0, vr v0), (1, vi v1)] [] st := by
  unfold bX6_row_152B at h
  refine r_iload_n (pc := 152) dX6_row_152 1 rfl rfl ?_
  refine r_aload_n (pc := 153) dX6_row_153 0 rfl rfl ?_
  refine r_gA (pc := 154) dX6_row_154 q431 fd_133 same_rf h (fun x154 e154 h => ?_)
  refine r_gIN (pc := 157) dX6_row_157 q154 fd_29 same_rf h (fun x157 e157 h => ?_)
  refine r_icmp_ge (pc := 160) (tgt := 223) dX6_row_160 (by decide) h (fun e160 h => ?_) (fun e160 h => ?_)
  · refine r_aload_n (pc := 223) dX6_row_223 0 rfl rfl ?_
    refine r_gA (pc := 224) dX6_row_224 q431 fd_133 same_rf h (fun x224 e224 h => ?_)
    refine r_dup (pc := 227) dX6_row_227 rfl ?_
    refine r_gIN (pc := 228) dX6_row_228 q150 fd_28 same_rf h (fun x228 e228 h => ?_)
    refine r_iconst (pc := 231) (v := 1) dX6_row_231 (by decide) ?_
    refine r_iadd (pc := 232) dX6_row_232 ?_
    refine r_pIN (pc := 233) dX6_row_233 q150 fd_28 same_rf rfl h (fun st e233 h => ?_)
    refine r_aload_n (pc := 236) dX6_row_236 0 rfl rfl ?_
    refine r_callV (pc := 237) (rest := []) (lkV dX6_row_237 q489 xd_X6_go (vc_of vt_X6_go q493 (fun _ => sX5_go)) adx_X6_go) (by decide) (Nat.le_of_ble_eq_true rfl) rfl h (fun u237 st e237 h => ?_)
    exact r_return_ (pc := 240) dX6_row_240 rfl h
  · refine r_aload_n (pc := 163) dX6_row_163 0 rfl rfl ?_
    refine r_gA (pc := 164) dX6_row_164 q431 fd_133 same_rf h (fun x164 e164 h => ?_)
    refine r_gAN (pc := 167) dX6_row_167 q174 fd_34 same_rf h (fun x167 e167 h => ?_)
    refine r_aload_n (pc := 170) dX6_row_170 0 rfl rfl ?_
    refine r_gA (pc := 171) dX6_row_171 q431 fd_133 same_rf h (fun x171 e171 h => ?_)
    refine r_gIN (pc := 174) dX6_row_174 q154 fd_29 same_rf h (fun x174 e174 h => ?_)
    refine r_aload_n (pc := 177) dX6_row_177 0 rfl rfl ?_
    refine r_gA (pc := 178) dX6_row_178 q431 fd_133 same_rf h (fun x178 e178 h => ?_)
    refine r_gIN (pc := 181) dX6_row_181 q150 fd_28 same_rf h (fun x181 e181 h => ?_)
    refine r_imul (pc := 184) dX6_row_184 ?_
    refine r_iload_n (pc := 185) dX6_row_185 1 rfl rfl ?_
    refine r_iadd (pc := 186) dX6_row_186 ?_
    refine r_aload_n (pc := 187) dX6_row_187 0 rfl rfl ?_
    refine r_gA (pc := 188) dX6_row_188 q452 fd_132 (r_same q453) h (fun x188 e188 h => ?_)
    refine r_iload_n (pc := 191) dX6_row_191 1 rfl rfl ?_
    refine r_callI (pc := 192) (rest := [vi ((x174 * x181) + v1), vr x167]) (lkV dX6_row_192 q850 xd_J4_charAt (vc_of vt_J4_charAt q851 (fun _ => sJ4_charAt)) adx_J4_charAt) (by decide) (Nat.le_of_ble_eq_true rfl) rfl h (fun x192 st e192 h => ?_)
    refine r_bipush (pc := 195) (v := 120) dX6_row_195 (by decide) ?_
    refine r_icmp_ne (pc := 197) (tgt := 205) dX6_row_197 (by decide) h (fun e197 h => ?_) (fun e197 h => ?_)
    · refine r_aload_n (pc := 205) dX6_row_205 0 rfl rfl ?_
      refine r_gA (pc := 206) dX6_row_206 q452 fd_132 (r_same q453) h (fun x206 e206 h => ?_)
      refine r_iload_n (pc := 209) dX6_row_209 1 rfl rfl ?_
      refine r_callI (pc := 210) (rest := [vi ((x174 * x181) + v1), vr x167]) (lkV dX6_row_210 q850 xd_J4_charAt (vc_of vt_J4_charAt q851 (fun _ => sJ4_charAt)) adx_J4_charAt) (by decide) (Nat.le_of_ble_eq_true rfl) rfl h (fun x210 st e210 h => ?_)
      refine r_bipush (pc := 213) (v := 97) dX6_row_213 (by decide) ?_
      refine r_isub (pc := 215) dX6_row_215 ?_
      exact sX6_row_216 hk152 _ _ _ _ _ _ h
    · refine r_bipush (pc := 200) (v := 9) dX6_row_200 (by decide) ?_
      refine r_goto (pc := 202) (tgt := 216) dX6_row_202 (by decide) ?_
      exact sX6_row_216 hk152 _ _ _ _ _ _ h
theorem sX6_row_152 {st0 : Mem} {fin : (Unit ⊕ Nat) × Mem} (n : Nat) : ∀ (v0 : Rf) (v1 : Int32) (st : Mem), bX6_row_152 n v0 v1 st = some fin → G (cX6_row, "HouseClaps$HouseReader", "row", 20, none, 2) st0 trVx fin 152 [(0, vr v0), (1, vi v1)] [] st := by
  induction n with
  | zero => intro v0 v1 st h; cases h
  | succ n ih => intro v0 v1 st h; exact sX6_row_152B  ih v0 v1 st h
theorem sX6_row_126 {st0 : Mem} {fin : (Unit ⊕ Nat) × Mem} {kk83 : Rf → Int32 → Mem → Option ((Unit ⊕ Nat) × Mem)} (hk83 : ∀ (v0 : Rf) (v1 : Int32) (st : Mem), kk83 v0 v1 st = some fin → G (cX6_row, "HouseClaps$HouseReader", "row", 20, none, 2) st0 trVx fin 83 [(0, vr v0), (1, vi v1)] [] st) (v0 : Rf) (v1 : Int32) (k0 : Rf) (k1 : Int32) (st : Mem) (h : bX6_row_126 kk83 v0 v1 k0 k1 st = some fin) : G (cX6_row, "HouseClaps$HouseReader", "row", 20, none, 2) st0 trVx fin 126 [(0, vr v0), (1, vi v1)] [vi k1, vr k0] st := by
  unfold bX6_row_126 at h
  refine r_iconst (pc := 126) (v := 2) dX6_row_126 (by decide) ?_
  refine r_callVx (pc := 127) (rest := []) (lkV dX6_row_127 q778 xd_X6_need (vc_of vt_X6_need q782 (fun _ => sX5_need)) adx_X6_need) (by decide) (Nat.le_of_ble_eq_true rfl) rfl (by decide) (fun _ => rfl) h (fun u127 st e127 h => ?_)
  refine r_iinc (pc := 130) (env' := [(1, vi (v1 + 1)), (0, vr v0)]) (cst := 1) dX6_row_130 1 rfl (by decide) (by decide) rfl ?_
  refine r_goto (pc := 133) (tgt := 83) dX6_row_133 (by decide) ?_
  exact r_sub (env' := [(0, vr v0), (1, vi (v1 + 1))]) [1, 0] rfl (hk83 _ _ _ h)
theorem sX6_row_121 {st0 : Mem} {fin : (Unit ⊕ Nat) × Mem} {kk83 : Rf → Int32 → Mem → Option ((Unit ⊕ Nat) × Mem)} (hk83 : ∀ (v0 : Rf) (v1 : Int32) (st : Mem), kk83 v0 v1 st = some fin → G (cX6_row, "HouseClaps$HouseReader", "row", 20, none, 2) st0 trVx fin 83 [(0, vr v0), (1, vi v1)] [] st) (v0 : Rf) (v1 : Int32) (k0 : Rf) (st : Mem) (h : bX6_row_121 kk83 v0 v1 k0 st = some fin) : G (cX6_row, "HouseClaps$HouseReader", "row", 20, none, 2) st0 trVx fin 121 [(0, vr v0), (1, vi v1)] [vr k0] st := by
  unfold bX6_row_121 at h
  refine r_iconst (pc := 121) (v := 1) dX6_row_121 (by decide) ?_
  refine r_goto (pc := 122) (tgt := 126) dX6_row_122 (by decide) ?_
  exact sX6_row_126 hk83 _ _ _ _ _ h
theorem sX6_row_83B {st0 : Mem} {fin : (Unit ⊕ Nat) × Mem} {kk83 : Rf → Int32 → Mem → Option ((Unit ⊕ Nat) × Mem)} (hk83 : ∀ (v0 : Rf) (v1 : Int32) (st : Mem), kk83 v0 v1 st = some fin → G (cX6_row, "HouseClaps$HouseReader", "row", 20, none, 2) st0 trVx fin 83 [(0, vr v0), (1, vi v1)] [] st) (v0 : Rf) (v1 : Int32) (st : Mem) (h : bX6_row_83B kk83 v0 v1 st = some fin) : G (cX6_row, "HouseClaps$HouseReader", "row", 20, none, 2) st0 trVx fin 83 [(0, vr v0), (1, vi v1)] [] st := by
  unfold bX6_row_83B at h
  refine r_iload_n (pc := 83) dX6_row_83 1 rfl rfl ?_
  refine r_aload_n (pc := 84) dX6_row_84 0 rfl rfl ?_
  refine r_gA (pc := 85) dX6_row_85 q452 fd_132 (r_same q453) h (fun x85 e85 h => ?_)
  refine r_callI (pc := 88) (rest := [vi v1]) (lkV dX6_row_88 q849 xd_J4_length (vc_of vt_J4_length q521 (fun _ => sJ4_length)) adx_J4_length) (by decide) (Nat.le_of_ble_eq_true rfl) rfl h (fun x88 st e88 h => ?_)
  refine r_icmp_ge (pc := 91) (tgt := 136) dX6_row_91 (by decide) h (fun e91 h => ?_) (fun e91 h => ?_)
  · refine r_aload_n (pc := 136) dX6_row_136 0 rfl rfl ?_
    refine r_gA (pc := 137) dX6_row_137 q431 fd_133 same_rf h (fun x137 e137 h => ?_)
    refine r_aload_n (pc := 140) dX6_row_140 0 rfl rfl ?_
    refine r_gA (pc := 141) dX6_row_141 q452 fd_132 (r_same q453) h (fun x141 e141 h => ?_)
    refine r_callI (pc := 144) (rest := [vr x137]) (lkV dX6_row_144 q849 xd_J4_length (vc_of vt_J4_length q521 (fun _ => sJ4_length)) adx_J4_length) (by decide) (Nat.le_of_ble_eq_true rfl) rfl h (fun x144 st e144 h => ?_)
    refine r_pIN (pc := 147) dX6_row_147 q154 fd_29 same_rf rfl h (fun st e147 h => ?_)
    refine r_iconst (pc := 150) (v := 0) dX6_row_150 (by decide) ?_
    refine r_istore_n (pc := 151) (env' := [(1, vi (0 : Int32)), (0, vr v0)]) dX6_row_151 rfl (by decide) rfl ?_
    exact r_sub (env' := [(0, vr v0), (1, vi (0 : Int32))]) [1, 0] rfl (sX6_row_152 hcFuel _ _ _ h)
  · refine r_aload_n (pc := 94) dX6_row_94 0 rfl rfl ?_
    refine r_aload_n (pc := 95) dX6_row_95 0 rfl rfl ?_
    refine r_gA (pc := 96) dX6_row_96 q452 fd_132 (r_same q453) h (fun x96 e96 h => ?_)
    refine r_iload_n (pc := 99) dX6_row_99 1 rfl rfl ?_
    refine r_callI (pc := 100) (rest := [vr v0]) (lkV dX6_row_100 q850 xd_J4_charAt (vc_of vt_J4_charAt q851 (fun _ => sJ4_charAt)) adx_J4_charAt) (by decide) (Nat.le_of_ble_eq_true rfl) rfl h (fun x100 st e100 h => ?_)
    refine r_bipush (pc := 103) (v := 120) dX6_row_103 (by decide) ?_
    refine r_icmp_eq (pc := 105) (tgt := 121) dX6_row_105 (by decide) h (fun e105 h => ?_) (fun e105 h => ?_)
    · exact sX6_row_121 hk83 _ _ _ _ h
    · refine r_aload_n (pc := 108) dX6_row_108 0 rfl rfl ?_
      refine r_gA (pc := 109) dX6_row_109 q452 fd_132 (r_same q453) h (fun x109 e109 h => ?_)
      refine r_iload_n (pc := 112) dX6_row_112 1 rfl rfl ?_
      refine r_callI (pc := 113) (rest := [vr v0]) (lkV dX6_row_113 q850 xd_J4_charAt (vc_of vt_J4_charAt q851 (fun _ => sJ4_charAt)) adx_J4_charAt) (by decide) (Nat.le_of_ble_eq_true rfl) rfl h (fun x113 st e113 h => ?_)
      refine r_bipush (pc := 116) (v := 102) dX6_row_116 (by decide) ?_
      refine r_icmp_gt (pc := 118) (tgt := 125) dX6_row_118 (by decide) h (fun e118 h => ?_) (fun e118 h => ?_)
      · refine r_iconst (pc := 125) (v := 0) dX6_row_125 (by decide) ?_
        exact sX6_row_126 hk83 _ _ _ _ _ h
      · exact sX6_row_121 hk83 _ _ _ _ h
theorem sX6_row_83 {st0 : Mem} {fin : (Unit ⊕ Nat) × Mem} (n : Nat) : ∀ (v0 : Rf) (v1 : Int32) (st : Mem), bX6_row_83 n v0 v1 st = some fin → G (cX6_row, "HouseClaps$HouseReader", "row", 20, none, 2) st0 trVx fin 83 [(0, vr v0), (1, vi v1)] [] st := by
  induction n with
  | zero => intro v0 v1 st h; cases h
  | succ n ih => intro v0 v1 st h; exact sX6_row_83B  ih v0 v1 st h
theorem sX6_row_77 {st0 : Mem} {fin : (Unit ⊕ Nat) × Mem} (v0 : Rf) (k0 : Rf) (k1 : Int32) (st : Mem) (h : bX6_row_77 v0 k0 k1 st = some fin) : G (cX6_row, "HouseClaps$HouseReader", "row", 20, none, 2) st0 trVx fin 77 [(0, vr v0)] [vi k1, vr k0] st := by
  unfold bX6_row_77 at h
  refine r_iconst (pc := 77) (v := 2) dX6_row_77 (by decide) ?_
  refine r_callVx (pc := 78) (rest := []) (lkV dX6_row_78 q778 xd_X6_need (vc_of vt_X6_need q782 (fun _ => sX5_need)) adx_X6_need) (by decide) (Nat.le_of_ble_eq_true rfl) rfl (by decide) (fun _ => rfl) h (fun u78 st e78 h => ?_)
  refine r_iconst (pc := 81) (v := 0) dX6_row_81 (by decide) ?_
  refine r_istore_n (pc := 82) (env' := [(1, vi (0 : Int32)), (0, vr v0)]) dX6_row_82 rfl (by decide) rfl ?_
  exact r_sub (env' := [(0, vr v0), (1, vi (0 : Int32))]) [1, 0] rfl (sX6_row_83 hcFuel _ _ _ h)
theorem sX6_row_72 {st0 : Mem} {fin : (Unit ⊕ Nat) × Mem} (v0 : Rf) (k0 : Rf) (st : Mem) (h : bX6_row_72 v0 k0 st = some fin) : G (cX6_row, "HouseClaps$HouseReader", "row", 20, none, 2) st0 trVx fin 72 [(0, vr v0)] [vr k0] st := by
  unfold bX6_row_72 at h
  refine r_iconst (pc := 72) (v := 1) dX6_row_72 (by decide) ?_
  refine r_goto (pc := 73) (tgt := 77) dX6_row_73 (by decide) ?_
  exact sX6_row_77 _ _ _ _ h
theorem sX6_row_40 {st0 : Mem} {fin : (Unit ⊕ Nat) × Mem} (v0 : Rf) (k0 : Rf) (k1 : Int32) (st : Mem) (h : bX6_row_40 v0 k0 k1 st = some fin) : G (cX6_row, "HouseClaps$HouseReader", "row", 20, none, 2) st0 trVx fin 40 [(0, vr v0)] [vi k1, vr k0] st := by
  unfold bX6_row_40 at h
  refine r_iconst (pc := 40) (v := 1) dX6_row_40 (by decide) ?_
  refine r_callVx (pc := 41) (rest := []) (lkV dX6_row_41 q778 xd_X6_need (vc_of vt_X6_need q782 (fun _ => sX5_need)) adx_X6_need) (by decide) (Nat.le_of_ble_eq_true rfl) rfl (by decide) (fun _ => rfl) h (fun u41 st e41 h => ?_)
  refine r_aload_n (pc := 44) dX6_row_44 0 rfl rfl ?_
  refine r_aload_n (pc := 45) dX6_row_45 0 rfl rfl ?_
  refine r_gA (pc := 46) dX6_row_46 q431 fd_133 same_rf h (fun x46 e46 h => ?_)
  refine r_gIN (pc := 49) dX6_row_49 q150 fd_28 same_rf h (fun x49 e49 h => ?_)
  refine r_if_eq (pc := 52) (tgt := 72) dX6_row_52 (by decide) h (fun e52 h => ?_) (fun e52 h => ?_)
  · exact sX6_row_72 _ _ _ h
  · refine r_aload_n (pc := 55) dX6_row_55 0 rfl rfl ?_
    refine r_gA (pc := 56) dX6_row_56 q452 fd_132 (r_same q453) h (fun x56 e56 h => ?_)
    refine r_callI (pc := 59) (rest := [vr v0]) (lkV dX6_row_59 q849 xd_J4_length (vc_of vt_J4_length q521 (fun _ => sJ4_length)) adx_J4_length) (by decide) (Nat.le_of_ble_eq_true rfl) rfl h (fun x59 st e59 h => ?_)
    refine r_aload_n (pc := 62) dX6_row_62 0 rfl rfl ?_
    refine r_gA (pc := 63) dX6_row_63 q431 fd_133 same_rf h (fun x63 e63 h => ?_)
    refine r_gIN (pc := 66) dX6_row_66 q154 fd_29 same_rf h (fun x66 e66 h => ?_)
    refine r_icmp_ne (pc := 69) (tgt := 76) dX6_row_69 (by decide) h (fun e69 h => ?_) (fun e69 h => ?_)
    · refine r_iconst (pc := 76) (v := 0) dX6_row_76 (by decide) ?_
      exact sX6_row_77 _ _ _ _ h
    · exact sX6_row_72 _ _ _ h
theorem sX6_row_18 {st0 : Mem} {fin : (Unit ⊕ Nat) × Mem} (v0 : Rf) (k0 : Rf) (k1 : Int32) (st : Mem) (h : bX6_row_18 v0 k0 k1 st = some fin) : G (cX6_row, "HouseClaps$HouseReader", "row", 20, none, 2) st0 trVx fin 18 [(0, vr v0)] [vi k1, vr k0] st := by
  unfold bX6_row_18 at h
  refine r_iconst (pc := 18) (v := 4) dX6_row_18 (by decide) ?_
  refine r_callVx (pc := 19) (rest := []) (lkV dX6_row_19 q778 xd_X6_need (vc_of vt_X6_need q782 (fun _ => sX5_need)) adx_X6_need) (by decide) (Nat.le_of_ble_eq_true rfl) rfl (by decide) (fun _ => rfl) h (fun u19 st e19 h => ?_)
  refine r_aload_n (pc := 22) dX6_row_22 0 rfl rfl ?_
  refine r_callV (pc := 23) (rest := []) (lkV dX6_row_23 q489 xd_X6_go (vc_of vt_X6_go q493 (fun _ => sX5_go)) adx_X6_go) (by decide) (Nat.le_of_ble_eq_true rfl) rfl h (fun u23 st e23 h => ?_)
  refine r_aload_n (pc := 26) dX6_row_26 0 rfl rfl ?_
  refine r_aload_n (pc := 27) dX6_row_27 0 rfl rfl ?_
  refine r_gI (pc := 28) dX6_row_28 q441 fd_128 (r_same q442) h (fun x28 e28 h => ?_)
  refine r_iconst (pc := 31) (v := 2) dX6_row_31 (by decide) ?_
  refine r_icmp_ne (pc := 32) (tgt := 39) dX6_row_32 (by decide) h (fun e32 h => ?_) (fun e32 h => ?_)
  · refine r_iconst (pc := 39) (v := 0) dX6_row_39 (by decide) ?_
    exact sX6_row_40 _ _ _ _ h
  · refine r_iconst (pc := 35) (v := 1) dX6_row_35 (by decide) ?_
    refine r_goto (pc := 36) (tgt := 40) dX6_row_36 (by decide) ?_
    exact sX6_row_40 _ _ _ _ h
theorem sX6_row {a0 : Rf} {st : Mem} {fin : (Unit ⊕ Nat) × Mem} (h : fX6_row a0 st = some fin) : Con yX6_row 20 [vr a0] st trVx fin := by
  refine Con.mk (cc := cX6_row) (n := 2) (own := "HouseClaps$HouseReader") (nm := "row") (ret := none) (env := [(0, vr a0)]) q777 rfl rfl rfl (by decide) ⟨Nat.le_of_ble_eq_true rfl, by decide⟩ rfl ?_
  unfold fX6_row at h
  refine r_aload_n (pc := 0) dX6_row_0 0 rfl rfl ?_
  refine r_aload_n (pc := 1) dX6_row_1 0 rfl rfl ?_
  refine r_gA (pc := 2) dX6_row_2 q431 fd_133 same_rf h (fun x2 e2 h => ?_)
  refine r_gIN (pc := 5) dX6_row_5 q150 fd_28 same_rf h (fun x5 e5 h => ?_)
  refine r_bipush (pc := 8) (v := 8) dX6_row_8 (by decide) ?_
  refine r_icmp_ge (pc := 10) (tgt := 17) dX6_row_10 (by decide) h (fun e10 h => ?_) (fun e10 h => ?_)
  · refine r_iconst (pc := 17) (v := 0) dX6_row_17 (by decide) ?_
    exact sX6_row_18 _ _ _ _ h
  · refine r_iconst (pc := 13) (v := 1) dX6_row_13 (by decide) ?_
    refine r_goto (pc := 14) (tgt := 18) dX6_row_14 (by decide) ?_
    exact sX6_row_18 _ _ _ _ h
theorem sX6_rowTold_82 {st0 : Mem} {fin : (Int32 ⊕ Nat) × Mem} (v0 : Rf) (v2 : Int32) (st : Mem) (h : bX6_rowTold_82 v0 v2 st = some fin) : G (cX6_rowTold, "HouseClaps$HouseReader", "rowTold", 20, (some .int), 3) st0 trIx fin 82 [(0, vr v0), (2, vi v2)] [] st := by
  unfold bX6_rowTold_82 at h
  refine r_aload_n (pc := 82) dX6_rowTold_82 0 rfl rfl ?_
  refine r_callV (pc := 83) (rest := []) (lkV dX6_rowTold_83 q489 xd_X6_go (vc_of vt_X6_go q493 (fun _ => sX5_go)) adx_X6_go) (by decide) (Nat.le_of_ble_eq_true rfl) rfl h (fun u83 st e83 h => ?_)
  refine r_iload_n (pc := 86) dX6_rowTold_86 1 rfl rfl ?_
  exact r_ireturn (pc := 87) dX6_rowTold_87 rfl rfl h
theorem sX6_rowTold_47 {st0 : Mem} {fin : (Int32 ⊕ Nat) × Mem} (v0 : Rf) (v1 : Int32) (v2 : Int32) (k0 : Rf) (k1 : Int32) (st : Mem) (h : bX6_rowTold_47 v0 v1 v2 k0 k1 st = some fin) : G (cX6_rowTold, "HouseClaps$HouseReader", "rowTold", 20, (some .int), 3) st0 trIx fin 47 [(0, vr v0), (1, vi v1), (2, vi v2)] [vi k1, vr k0] st := by
  unfold bX6_rowTold_47 at h
  refine r_iconst (pc := 47) (v := 3) dX6_rowTold_47 (by decide) ?_
  refine r_callVx (pc := 48) (rest := []) (lkV dX6_rowTold_48 q778 xd_X6_need (vc_of vt_X6_need q782 (fun _ => sX5_need)) adx_X6_need) (by decide) (Nat.le_of_ble_eq_true rfl) rfl (by decide) (fun _ => rfl) h (fun u48 st e48 h => ?_)
  refine r_iload_n (pc := 51) dX6_rowTold_51 1 rfl rfl ?_
  refine r_if_eq (pc := 52) (tgt := 70) dX6_rowTold_52 (by decide) h (fun e52 h => ?_) (fun e52 h => ?_)
  · refine r_aload_n (pc := 70) dX6_rowTold_70 0 rfl rfl ?_
    refine r_dup (pc := 71) dX6_rowTold_71 rfl ?_
    refine r_gI (pc := 72) dX6_rowTold_72 q434 fd_136 same_rf h (fun x72 e72 h => ?_)
    refine r_iconst (pc := 75) (v := 1) dX6_rowTold_75 (by decide) ?_
    refine r_iload_n (pc := 76) dX6_rowTold_76 2 rfl rfl ?_
    refine r_ishl (pc := 77) dX6_rowTold_77 ?_
    refine r_ior (pc := 78) dX6_rowTold_78 ?_
    refine r_pI (pc := 79) dX6_rowTold_79 q434 fd_136 same_rf rfl h (fun st e79 h => ?_)
    exact r_sub (env' := [(0, vr v0), (2, vi v2)]) [0, 2] rfl (sX6_rowTold_82 _ _ _ h)
  · refine r_aload_n (pc := 55) dX6_rowTold_55 0 rfl rfl ?_
    refine r_dup (pc := 56) dX6_rowTold_56 rfl ?_
    refine r_gI (pc := 57) dX6_rowTold_57 q433 fd_135 same_rf h (fun x57 e57 h => ?_)
    refine r_iconst (pc := 60) (v := 1) dX6_rowTold_60 (by decide) ?_
    refine r_iload_n (pc := 61) dX6_rowTold_61 2 rfl rfl ?_
    refine r_ishl (pc := 62) dX6_rowTold_62 ?_
    refine r_ior (pc := 63) dX6_rowTold_63 ?_
    refine r_pI (pc := 64) dX6_rowTold_64 q433 fd_135 same_rf rfl h (fun st e64 h => ?_)
    refine r_goto (pc := 67) (tgt := 82) dX6_rowTold_67 (by decide) ?_
    exact r_sub (env' := [(0, vr v0), (2, vi v2)]) [0, 2] rfl (sX6_rowTold_82 _ _ _ h)
theorem sX6_rowTold_35 {st0 : Mem} {fin : (Int32 ⊕ Nat) × Mem} (v0 : Rf) (v1 : Int32) (v2 : Int32) (k0 : Rf) (k1 : Int32) (st : Mem) (h : bX6_rowTold_35 v0 v1 v2 k0 k1 st = some fin) : G (cX6_rowTold, "HouseClaps$HouseReader", "rowTold", 20, (some .int), 3) st0 trIx fin 35 [(0, vr v0), (1, vi v1), (2, vi v2)] [vi k1, vr k0] st := by
  unfold bX6_rowTold_35 at h
  refine r_iload_n (pc := 35) dX6_rowTold_35 2 rfl rfl ?_
  refine r_callI (pc := 36) (rest := [vr k0]) (lkSN dX6_rowTold_36 q1016 q1017 q85 (fun _ => sX1_has) ad_X1_has) (by decide) (Nat.le_of_ble_eq_true rfl) rfl h (fun x36 st e36 h => ?_)
  refine r_if_ne (pc := 39) (tgt := 46) dX6_rowTold_39 (by decide) h (fun e39 h => ?_) (fun e39 h => ?_)
  · refine r_iconst (pc := 46) (v := 0) dX6_rowTold_46 (by decide) ?_
    exact sX6_rowTold_47 _ _ _ _ _ _ h
  · refine r_iconst (pc := 42) (v := 1) dX6_rowTold_42 (by decide) ?_
    refine r_goto (pc := 43) (tgt := 47) dX6_rowTold_43 (by decide) ?_
    exact sX6_rowTold_47 _ _ _ _ _ _ h
theorem sX6_rowTold {a0 : Rf} {a1 : Int32} {st : Mem} {fin : (Int32 ⊕ Nat) × Mem} (h : fX6_rowTold a0 a1 st = some fin) : Con yX6_rowTold 20 [vr a0, vi a1] st trIx fin := by
  refine Con.mk (cc := cX6_rowTold) (n := 3) (own := "HouseClaps$HouseReader") (nm := "rowTold") (ret := (some .int)) (env := [(0, vr a0), (1, vi a1)]) q1011 rfl rfl rfl (by decide) ⟨Nat.le_of_ble_eq_true rfl, by decide⟩ rfl ?_
  unfold fX6_rowTold at h
  refine r_aload_n (pc := 0) dX6_rowTold_0 0 rfl rfl ?_
  refine r_callV (pc := 1) (rest := []) (lkV dX6_rowTold_1 q489 xd_X6_go (vc_of vt_X6_go q493 (fun _ => sX5_go)) adx_X6_go) (by decide) (Nat.le_of_ble_eq_true rfl) rfl h (fun u1 st e1 h => ?_)
  refine r_aload_n (pc := 4) dX6_rowTold_4 0 rfl rfl ?_
  refine r_iconst (pc := 5) (v := 0) dX6_rowTold_5 (by decide) ?_
  refine r_aload_n (pc := 6) dX6_rowTold_6 0 rfl rfl ?_
  refine r_gA (pc := 7) dX6_rowTold_7 q431 fd_133 same_rf h (fun x7 e7 h => ?_)
  refine r_gIN (pc := 10) dX6_rowTold_10 q150 fd_28 same_rf h (fun x10 e10 h => ?_)
  refine r_iconst (pc := 13) (v := 1) dX6_rowTold_13 (by decide) ?_
  refine r_isub (pc := 14) dX6_rowTold_14 ?_
  refine r_callIx (pc := 15) (rest := []) (lkV dX6_rowTold_15 q1012 xd_X6_hold (vc_of vt_X6_hold q921 (fun _ => sX5_hold)) adx_X6_hold) (by decide) (Nat.le_of_ble_eq_true rfl) rfl (by decide) (fun _ => rfl) h (fun x15 st e15 h => ?_)
  refine r_istore_n (pc := 18) (env' := [(2, vi x15), (0, vr a0), (1, vi a1)]) dX6_rowTold_18 rfl (by decide) rfl ?_
  refine r_aload_n (pc := 19) dX6_rowTold_19 1 rfl rfl ?_
  refine r_iload_n (pc := 20) dX6_rowTold_20 2 rfl rfl ?_
  refine r_if_eq (pc := 21) (tgt := 31) dX6_rowTold_21 (by decide) h (fun e21 h => ?_) (fun e21 h => ?_)
  · refine r_aload_n (pc := 31) dX6_rowTold_31 1 rfl rfl ?_
    refine r_gI (pc := 32) dX6_rowTold_32 q434 fd_136 same_rf h (fun x32 e32 h => ?_)
    exact r_sub (env' := [(0, vr a0), (1, vi a1), (2, vi x15)]) [1, 2, 0] rfl (sX6_rowTold_35 _ _ _ _ _ _ h)
  · refine r_aload_n (pc := 24) dX6_rowTold_24 1 rfl rfl ?_
    refine r_gI (pc := 25) dX6_rowTold_25 q433 fd_135 same_rf h (fun x25 e25 h => ?_)
    refine r_goto (pc := 28) (tgt := 35) dX6_rowTold_28 (by decide) ?_
    exact r_sub (env' := [(0, vr a0), (1, vi a1), (2, vi x15)]) [1, 2, 0] rfl (sX6_rowTold_35 _ _ _ _ _ _ h)
theorem sX3_step_127 {st0 : Mem} {fin : Unit × Mem} {kk85 : Rf → Int32 → Mem → Option (Unit × Mem)} (hk85 : ∀ (v0 : Rf) (v3 : Int32) (st : Mem), kk85 v0 v3 st = some fin → G (cX3_step, "HouseClaps$Night", "step", 78, none, 4) st0 trV fin 85 [(0, vr v0), (3, vi v3)] [] st) (v0 : Rf) (v3 : Int32) (st : Mem) (h : bX3_step_127 kk85 v0 v3 st = some fin) : G (cX3_step, "HouseClaps$Night", "step", 78, none, 4) st0 trV fin 127 [(0, vr v0), (3, vi v3)] [] st := by
  unfold bX3_step_127 at h
  refine r_aload_n (pc := 127) dX3_step_127 0 rfl rfl ?_
  refine r_iload_n (pc := 128) dX3_step_128 1 rfl rfl ?_
  refine r_callV (pc := 129) (rest := []) (lkV dX3_step_129 q1319 xd_X3_go (vc_of vt_X3_go q1321 (fun _ => sX3_go)) adx_X3_go) (by decide) (Nat.le_of_ble_eq_true rfl) rfl h (fun u129 st e129 h => ?_)
  refine r_iinc (pc := 132) (env' := [(3, vi (v3 + 1)), (0, vr v0)]) (cst := 1) dX3_step_132 1 rfl (by decide) (by decide) rfl ?_
  refine r_goto (pc := 135) (tgt := 85) dX3_step_135 (by decide) ?_
  exact r_sub (env' := [(0, vr v0), (3, vi (v3 + 1))]) [1, 0] rfl (hk85 _ _ _ h)
theorem sX3_step_85B {st0 : Mem} {fin : Unit × Mem} {kk85 : Rf → Int32 → Mem → Option (Unit × Mem)} (hk85 : ∀ (v0 : Rf) (v3 : Int32) (st : Mem), kk85 v0 v3 st = some fin → G (cX3_step, "HouseClaps$Night", "step", 78, none, 4) st0 trV fin 85 [(0, vr v0), (3, vi v3)] [] st) (v0 : Rf) (v3 : Int32) (st : Mem) (h : bX3_step_85B kk85 v0 v3 st = some fin) : G (cX3_step, "HouseClaps$Night", "step", 78, none, 4) st0 trV fin 85 [(0, vr v0), (3, vi v3)] [] st := by
  unfold bX3_step_85B at h
  refine r_iload_n (pc := 85) dX3_step_85 1 rfl rfl ?_
  refine r_aload_n (pc := 86) dX3_step_86 0 rfl rfl ?_
  refine r_gA (pc := 87) dX3_step_87 q260 fd_41 same_rf h (fun x87 e87 h => ?_)
  refine r_callI (pc := 90) (rest := [vi v3]) (lkV dX3_step_90 q1294 xd_X2_size (vc_of vt_X2_size q1039 (fun _ => sX2_size)) adx_X2_size) (by decide) (Nat.le_of_ble_eq_true rfl) rfl h (fun x90 st e90 h => ?_)
  refine r_icmp_ge (pc := 93) (tgt := 138) dX3_step_93 (by decide) h (fun e93 h => ?_) (fun e93 h => ?_)
  · exact r_return_ (pc := 138) dX3_step_138 rfl h
  · refine r_aload_n (pc := 96) dX3_step_96 0 rfl rfl ?_
    refine r_gA (pc := 97) dX3_step_97 q260 fd_41 same_rf h (fun x97 e97 h => ?_)
    refine r_gIN (pc := 100) dX3_step_100 q171 fd_33 same_rf h (fun x100 e100 h => ?_)
    refine r_if_eq (pc := 103) (tgt := 127) dX3_step_103 (by decide) h (fun e103 h => ?_) (fun e103 h => ?_)
    · exact sX3_step_127 hk85 _ _ _ h
    · refine r_iload_n (pc := 106) dX3_step_106 1 rfl rfl ?_
      refine r_aload_n (pc := 107) dX3_step_107 0 rfl rfl ?_
      refine r_gA (pc := 108) dX3_step_108 q260 fd_41 same_rf h (fun x108 e108 h => ?_)
      refine r_gIN (pc := 111) dX3_step_111 q156 fd_29 same_rf h (fun x111 e111 h => ?_)
      refine r_irem (pc := 114) dX3_step_114 h (fun x114 e114 h => ?_)
      refine r_if_ne (pc := 115) (tgt := 127) dX3_step_115 (by decide) h (fun e115 h => ?_) (fun e115 h => ?_)
      · exact sX3_step_127 hk85 _ _ _ h
      · refine r_aload_n (pc := 118) dX3_step_118 0 rfl rfl ?_
        refine r_lconst (pc := 119) (v := 1) dX3_step_119 (by decide) ?_
        refine r_iload_n (pc := 120) dX3_step_120 1 rfl rfl ?_
        refine r_lshl (pc := 121) dX3_step_121 ?_
        refine r_lconst (pc := 122) (v := 1) dX3_step_122 (by decide) ?_
        refine r_lsub (pc := 123) dX3_step_123 ?_
        refine r_pJ (pc := 124) dX3_step_124 q284 fd_54 same_rf rfl h (fun st e124 h => ?_)
        exact sX3_step_127 hk85 _ _ _ h
theorem sX3_step_85 {st0 : Mem} {fin : Unit × Mem} (n : Nat) : ∀ (v0 : Rf) (v3 : Int32) (st : Mem), bX3_step_85 n v0 v3 st = some fin → G (cX3_step, "HouseClaps$Night", "step", 78, none, 4) st0 trV fin 85 [(0, vr v0), (3, vi v3)] [] st := by
  induction n with
  | zero => intro v0 v3 st h; cases h
  | succ n ih => intro v0 v3 st h; exact sX3_step_85B  ih v0 v3 st h
theorem sX3_step {a0 : Rf} {st : Mem} {fin : Unit × Mem} (h : fX3_step a0 st = some fin) : Con yX3_step 78 [vr a0] st trV fin := by
  refine Con.mk (cc := cX3_step) (n := 4) (own := "HouseClaps$Night") (nm := "step") (ret := none) (env := [(0, vr a0)]) q1317 rfl rfl rfl (by decide) ⟨Nat.le_of_ble_eq_true rfl, by decide⟩ rfl ?_
  unfold fX3_step at h
  refine r_aload_n (pc := 0) dX3_step_0 0 rfl rfl ?_
  refine r_gA (pc := 1) dX3_step_1 q273 fd_48 same_rf h (fun x1 e1 h => ?_)
  refine r_astore_n (pc := 4) (env' := [(1, vr x1), (0, vr a0)]) dX3_step_4 rfl (by decide) rfl ?_
  refine r_aload_n (pc := 5) dX3_step_5 1 rfl rfl ?_
  refine r_aload_n (pc := 6) dX3_step_6 1 rfl rfl ?_
  refine r_gA (pc := 7) dX3_step_7 q275 fd_49 same_rf h (fun x7 e7 h => ?_)
  refine r_pA (pc := 10) dX3_step_10 q273 fd_48 same_rf rfl h (fun st e10 h => ?_)
  refine r_aload_n (pc := 13) dX3_step_13 1 rfl rfl ?_
  refine r_aload_n (pc := 14) dX3_step_14 0 rfl rfl ?_
  refine r_pA (pc := 15) dX3_step_15 q275 fd_49 same_rf rfl h (fun st e15 h => ?_)
  refine r_aload_n (pc := 18) dX3_step_18 1 rfl rfl ?_
  refine r_gA (pc := 19) dX3_step_19 q277 fd_50 same_rf h (fun x19 e19 h => ?_)
  refine r_astore_n (pc := 22) (env' := [(2, vr x19), (1, vr x1), (0, vr a0)]) dX3_step_22 rfl (by decide) rfl ?_
  refine r_aload_n (pc := 23) dX3_step_23 2 rfl rfl ?_
  refine r_aload_n (pc := 24) dX3_step_24 2 rfl rfl ?_
  refine r_gA (pc := 25) dX3_step_25 q279 fd_51 same_rf h (fun x25 e25 h => ?_)
  refine r_pA (pc := 28) dX3_step_28 q277 fd_50 same_rf rfl h (fun st e28 h => ?_)
  refine r_aload_n (pc := 31) dX3_step_31 2 rfl rfl ?_
  refine r_aload_n (pc := 32) dX3_step_32 0 rfl rfl ?_
  refine r_pA (pc := 33) dX3_step_33 q279 fd_51 same_rf rfl h (fun st e33 h => ?_)
  refine r_aload_n (pc := 36) dX3_step_36 2 rfl rfl ?_
  refine r_gA (pc := 37) dX3_step_37 q282 fd_53 same_rf h (fun x37 e37 h => ?_)
  refine r_iconst (pc := 40) (v := 0) dX3_step_40 (by decide) ?_
  refine r_aload_n (pc := 41) dX3_step_41 2 rfl rfl ?_
  refine r_gA (pc := 42) dX3_step_42 q281 fd_52 same_rf h (fun x42 e42 h => ?_)
  refine r_iconst (pc := 45) (v := 0) dX3_step_45 (by decide) ?_
  refine r_iconst (pc := 46) (v := 3) dX3_step_46 (by decide) ?_
  refine r_cpy (pc := 47) dX3_step_47 q1318 (by decide) (Nat.le_of_ble_eq_true rfl) h (fun st e47 h => ?_)
  refine r_aload_n (pc := 50) dX3_step_50 2 rfl rfl ?_
  refine r_dup (pc := 51) dX3_step_51 rfl ?_
  refine r_gI (pc := 52) dX3_step_52 q267 fd_44 same_rf h (fun x52 e52 h => ?_)
  refine r_iconst (pc := 55) (v := 1) dX3_step_55 (by decide) ?_
  refine r_iadd (pc := 56) dX3_step_56 ?_
  refine r_pI (pc := 57) dX3_step_57 q267 fd_44 same_rf rfl h (fun st e57 h => ?_)
  refine r_aload_n (pc := 60) dX3_step_60 2 rfl rfl ?_
  refine r_callV (pc := 61) (rest := []) (lkV dX3_step_61 q1249 xd_X3_cue (vc_of vt_X3_cue q1251 (fun _ => sX3_cue)) adx_X3_cue) (by decide) (Nat.le_of_ble_eq_true rfl) rfl h (fun u61 st e61 h => ?_)
  refine r_aload_n (pc := 64) dX3_step_64 2 rfl rfl ?_
  refine r_lconst (pc := 65) (v := 0) dX3_step_65 (by decide) ?_
  refine r_pJ (pc := 66) dX3_step_66 q284 fd_54 same_rf rfl h (fun st e66 h => ?_)
  refine r_aload_n (pc := 69) dX3_step_69 2 rfl rfl ?_
  refine r_gA (pc := 70) dX3_step_70 q282 fd_53 same_rf h (fun x70 e70 h => ?_)
  refine r_iconst (pc := 73) (v := 1) dX3_step_73 (by decide) ?_
  refine r_lconst (pc := 74) (v := 0) dX3_step_74 (by decide) ?_
  refine r_lastore (pc := 75) dX3_step_75 h (fun st e75 h => ?_)
  refine r_aload_n (pc := 76) dX3_step_76 2 rfl rfl ?_
  refine r_gA (pc := 77) dX3_step_77 q282 fd_53 same_rf h (fun x77 e77 h => ?_)
  refine r_iconst (pc := 80) (v := 2) dX3_step_80 (by decide) ?_
  refine r_lconst (pc := 81) (v := 0) dX3_step_81 (by decide) ?_
  refine r_lastore (pc := 82) dX3_step_82 h (fun st e82 h => ?_)
  refine r_iconst (pc := 83) (v := 0) dX3_step_83 (by decide) ?_
  refine r_istore_n (pc := 84) (env' := [(3, vi (0 : Int32)), (2, vr x19), (1, vr x1), (0, vr a0)]) dX3_step_84 rfl (by decide) rfl ?_
  exact r_sub (env' := [(0, vr a0), (3, vi (0 : Int32))]) [3, 0] rfl (sX3_step_85 hcFuel _ _ _ h)
theorem sX6_or_5B {st0 : Mem} {fin : (Rf ⊕ Nat) × Mem} {rc : Rf → Mem → Option ((Rf ⊕ Nat) × Mem)} {lr : Nat} (hlr : 24 ≤ lr) (hrc : ∀ (a : Rf) (st : Mem) (fin : (Rf ⊕ Nat) × Mem), rc a st = some fin → Con yX6_one lr [vr a] st trAx fin) {kk5 : Rf → Rf → Mem → Option ((Rf ⊕ Nat) × Mem)} (hk5 : ∀ (v0 : Rf) (v1 : Rf) (st : Mem), kk5 v0 v1 st = some fin → G (cX6_or, "HouseClaps$HouseReader", "or", (lr + 2), (some (.object "HouseClaps$Cond")), 2) st0 trAx fin 5 [(0, vr v0), (1, vr v1)] [] st) (v0 : Rf) (v1 : Rf) (st : Mem) (h : bX6_or_5B rc kk5 v0 v1 st = some fin) : G (cX6_or, "HouseClaps$HouseReader", "or", (lr + 2), (some (.object "HouseClaps$Cond")), 2) st0 trAx fin 5 [(0, vr v0), (1, vr v1)] [] st := by
  unfold bX6_or_5B at h
  refine r_aload_n (pc := 5) dX6_or_5 0 rfl rfl ?_
  refine r_ldcS (pc := 6) dX6_or_6 13 rfl ?_
  refine r_callI (pc := 8) (rest := []) (lkV dX6_or_8 q760 xd_X6_is (vc_of vt_X6_is q764 (fun _ => sX5_is)) adx_X6_is) (by omega) (Nat.le_of_ble_eq_true rfl) rfl h (fun x8 st e8 h => ?_)
  refine r_if_eq (pc := 11) (tgt := 34) dX6_or_11 (by decide) h (fun e11 h => ?_) (fun e11 h => ?_)
  · refine r_aload_n (pc := 34) dX6_or_34 1 rfl rfl ?_
    exact r_areturn (pc := 35) dX6_or_35 rfl rfl h
  · refine r_aload_n (pc := 14) dX6_or_14 0 rfl rfl ?_
    refine r_callV (pc := 15) (rest := []) (lkV dX6_or_15 q489 xd_X6_go (vc_of vt_X6_go q493 (fun _ => sX5_go)) adx_X6_go) (by omega) (Nat.le_of_ble_eq_true rfl) rfl h (fun u15 st e15 h => ?_)
    refine r_new (pc := 18) dX6_or_18 q997 rfl h (fun x18 st e18 h => ?_)
    refine r_dup (pc := 21) dX6_or_21 rfl ?_
    refine r_aload_n (pc := 22) dX6_or_22 1 rfl rfl ?_
    refine r_aload_n (pc := 23) dX6_or_23 0 rfl rfl ?_
    refine r_callAx (pc := 24) (rest := [vr v1, vr x18, vr x18]) (lkV dX6_or_24 q870 xd_X6_and (vc_of vt_X6_and q872 (fun _ => sX6_and hlr hrc)) adx_X6_and) (by omega) (Nat.le_of_ble_eq_true rfl) rfl (by decide) (fun _ => rfl) h (fun x24 st e24 h => ?_)
    refine r_callV (pc := 27) (rest := [vr x18]) (lkI dX6_or_27 q999 q1000 q1001 rfl (fun _ => sX16_init) ad_X16_init) (by omega) (Nat.le_of_ble_eq_true rfl) rfl h (fun u27 st e27 h => ?_)
    refine r_astore_n (pc := 30) (env' := [(1, vr x18), (0, vr v0)]) dX6_or_30 rfl (by decide) rfl ?_
    refine r_goto (pc := 31) (tgt := 5) dX6_or_31 (by decide) ?_
    exact r_sub (env' := [(0, vr v0), (1, vr x18)]) [1, 0] rfl (hk5 _ _ _ h)
theorem sX6_or_5 {st0 : Mem} {fin : (Rf ⊕ Nat) × Mem} {rc : Rf → Mem → Option ((Rf ⊕ Nat) × Mem)} {lr : Nat} (hlr : 24 ≤ lr) (hrc : ∀ (a : Rf) (st : Mem) (fin : (Rf ⊕ Nat) × Mem), rc a st = some fin → Con yX6_one lr [vr a] st trAx fin) (n : Nat) : ∀ (v0 : Rf) (v1 : Rf) (st : Mem), bX6_or_5 rc n v0 v1 st = some fin → G (cX6_or, "HouseClaps$HouseReader", "or", (lr + 2), (some (.object "HouseClaps$Cond")), 2) st0 trAx fin 5 [(0, vr v0), (1, vr v1)] [] st := by
  induction n with
  | zero => intro v0 v1 st h; cases h
  | succ n ih => intro v0 v1 st h; exact sX6_or_5B hlr hrc  ih v0 v1 st h
theorem sX6_or {rc : Rf → Mem → Option ((Rf ⊕ Nat) × Mem)} {lr : Nat} (hlr : 24 ≤ lr) (hrc : ∀ (a : Rf) (st : Mem) (fin : (Rf ⊕ Nat) × Mem), rc a st = some fin → Con yX6_one lr [vr a] st trAx fin) {a0 : Rf} {st : Mem} {fin : (Rf ⊕ Nat) × Mem} (h : fX6_or rc a0 st = some fin) : Con yX6_or (lr + 2) [vr a0] st trAx fin := by
  refine Con.mk (cc := cX6_or) (n := 2) (own := "HouseClaps$HouseReader") (nm := "or") (ret := (some (.object "HouseClaps$Cond"))) (env := [(0, vr a0)]) q869 rfl rfl rfl (by decide) ⟨Nat.le_of_ble_eq_true rfl, by decide⟩ rfl ?_
  unfold fX6_or at h
  refine r_aload_n (pc := 0) dX6_or_0 0 rfl rfl ?_
  refine r_callAx (pc := 1) (rest := []) (lkV dX6_or_1 q870 xd_X6_and (vc_of vt_X6_and q872 (fun _ => sX6_and hlr hrc)) adx_X6_and) (by omega) (Nat.le_of_ble_eq_true rfl) rfl (by decide) (fun _ => rfl) h (fun x1 st e1 h => ?_)
  refine r_astore_n (pc := 4) (env' := [(1, vr x1), (0, vr a0)]) dX6_or_4 rfl (by decide) rfl ?_
  exact r_sub (env' := [(0, vr a0), (1, vr x1)]) [1, 0] rfl (sX6_or_5 hlr hrc hcFuel _ _ _ h)
theorem sX17_cue_80 {st0 : Mem} {fin : (Rf ⊕ Nat) × Mem} (v0 : Rf) (v1 : Int32) (v2 : Int32) (v3 : Int32) (st : Mem) (h : bX17_cue_80 v0 v1 v2 v3 st = some fin) : G (cX17_cue, "HouseClaps$CueReader", "cue", 22, (some (.object "HouseClaps$Cue")), 8) st0 trAx fin 80 [(0, vr v0), (1, vi v1), (2, vi v2), (3, vi v3)] [] st := by
  unfold bX17_cue_80 at h
  refine r_aload_n (pc := 80) dX17_cue_80 0 rfl rfl ?_
  refine r_iconst (pc := 81) (v := 0) dX17_cue_81 (by decide) ?_
  refine r_aload_n (pc := 82) dX17_cue_82 0 rfl rfl ?_
  refine r_gA (pc := 83) dX17_cue_83 q1084 fd_148 same_rf h (fun x83 e83 h => ?_)
  refine r_gIN (pc := 86) dX17_cue_86 q151 fd_28 same_rf h (fun x86 e86 h => ?_)
  refine r_iconst (pc := 89) (v := 1) dX17_cue_89 (by decide) ?_
  refine r_isub (pc := 90) dX17_cue_90 ?_
  refine r_callIx (pc := 91) (rest := []) (lkV dX17_cue_91 q1118 xd_X17_number (vc_of vt_X17_number q918 (fun _ => sX5_number)) adx_X17_number) (by decide) (Nat.le_of_ble_eq_true rfl) rfl (by decide) (fun _ => rfl) h (fun x91 st e91 h => ?_)
  refine r_istore (pc := 94) (env' := [(5, vi x91), (0, vr v0), (1, vi v1), (2, vi v2), (3, vi v3)]) dX17_cue_94 (by decide) rfl ?_
  refine r_aload_n (pc := 96) dX17_cue_96 1 rfl rfl ?_
  refine r_iconst (pc := 97) (v := 0) dX17_cue_97 (by decide) ?_
  refine r_aload_n (pc := 98) dX17_cue_98 1 rfl rfl ?_
  refine r_gA (pc := 99) dX17_cue_99 q1084 fd_148 same_rf h (fun x99 e99 h => ?_)
  refine r_gIN (pc := 102) dX17_cue_102 q155 fd_29 same_rf h (fun x102 e102 h => ?_)
  refine r_iconst (pc := 105) (v := 1) dX17_cue_105 (by decide) ?_
  refine r_isub (pc := 106) dX17_cue_106 ?_
  refine r_callIx (pc := 107) (rest := []) (lkV dX17_cue_107 q1144 xd_X17_hold (vc_of vt_X17_hold q921 (fun _ => sX5_hold)) adx_X17_hold) (by decide) (Nat.le_of_ble_eq_true rfl) rfl (by decide) (fun _ => rfl) h (fun x107 st e107 h => ?_)
  refine r_istore (pc := 110) (env' := [(6, vi x107), (5, vi x91), (0, vr v0), (1, vi v1), (2, vi v2), (3, vi v3)]) dX17_cue_110 (by decide) rfl ?_
  refine r_aload_n (pc := 112) dX17_cue_112 2 rfl rfl ?_
  refine r_aload_n (pc := 113) dX17_cue_113 2 rfl rfl ?_
  refine r_gA (pc := 114) dX17_cue_114 q1084 fd_148 same_rf h (fun x114 e114 h => ?_)
  refine r_aload_n (pc := 117) dX17_cue_117 2 rfl rfl ?_
  refine r_gA (pc := 118) dX17_cue_118 q1084 fd_148 same_rf h (fun x118 e118 h => ?_)
  refine r_gIN (pc := 121) dX17_cue_121 q155 fd_29 same_rf h (fun x121 e121 h => ?_)
  refine r_iload (pc := 124) dX17_cue_124 1 rfl ?_
  refine r_imul (pc := 126) dX17_cue_126 ?_
  refine r_iload (pc := 127) dX17_cue_127 0 rfl ?_
  refine r_iadd (pc := 129) dX17_cue_129 ?_
  refine r_callI (pc := 130) (rest := [vr v0]) (lkV dX17_cue_130 q1147 xd_X2_isSeat (vc_of vt_X2_isSeat q1061 (fun _ => sX2_isSeat)) adx_X2_isSeat) (by decide) (Nat.le_of_ble_eq_true rfl) rfl h (fun x130 st e130 h => ?_)
  refine r_iconst (pc := 133) (v := 2) dX17_cue_133 (by decide) ?_
  refine r_callVx (pc := 134) (rest := []) (lkV dX17_cue_134 q1111 xd_X17_need (vc_of vt_X17_need q782 (fun _ => sX5_need)) adx_X17_need) (by decide) (Nat.le_of_ble_eq_true rfl) rfl (by decide) (fun _ => rfl) h (fun u134 st e134 h => ?_)
  refine r_aload_n (pc := 137) dX17_cue_137 2 rfl rfl ?_
  refine r_callV (pc := 138) (rest := []) (lkV dX17_cue_138 q1104 xd_X17_go (vc_of vt_X17_go q493 (fun _ => sX5_go)) adx_X17_go) (by decide) (Nat.le_of_ble_eq_true rfl) rfl h (fun u138 st e138 h => ?_)
  refine r_aload_n (pc := 141) dX17_cue_141 2 rfl rfl ?_
  refine r_gA (pc := 142) dX17_cue_142 q1084 fd_148 same_rf h (fun x142 e142 h => ?_)
  refine r_gIN (pc := 145) dX17_cue_145 q155 fd_29 same_rf h (fun x145 e145 h => ?_)
  refine r_iload (pc := 148) dX17_cue_148 1 rfl ?_
  refine r_imul (pc := 150) dX17_cue_150 ?_
  refine r_iload (pc := 151) dX17_cue_151 0 rfl ?_
  refine r_iadd (pc := 153) dX17_cue_153 ?_
  refine r_nameI h (fun y154 e154 h => ?_)
  refine r_istore (pc := 154) (env' := [(7, vi y154), (6, vi x107), (5, vi x91), (0, vr v0), (1, vi v1), (2, vi v2), (3, vi v3)]) dX17_cue_154 (by decide) rfl ?_
  refine r_iload_n (pc := 156) dX17_cue_156 5 rfl rfl ?_
  refine r_if_eq (pc := 157) (tgt := 173) dX17_cue_157 (by decide) h (fun e157 h => ?_) (fun e157 h => ?_)
  · refine r_iload_n (pc := 173) dX17_cue_173 6 rfl rfl ?_
    refine r_if_eq (pc := 174) (tgt := 190) dX17_cue_174 (by decide) h (fun e174 h => ?_) (fun e174 h => ?_)
    · refine r_new (pc := 190) dX17_cue_190 q1171 rfl h (fun x190 st e190 h => ?_)
      refine r_dup (pc := 193) dX17_cue_193 rfl ?_
      refine r_iload_n (pc := 194) dX17_cue_194 4 rfl rfl ?_
      refine r_iload (pc := 195) dX17_cue_195 0 rfl ?_
      refine r_callV (pc := 197) (rest := [vr x190]) (lkI dX17_cue_197 q1173 q1154 q1155 rfl (fun _ => sX20_init) ad_X20_init) (by decide) (Nat.le_of_ble_eq_true rfl) rfl h (fun u197 st e197 h => ?_)
      exact r_areturn (pc := 200) dX17_cue_200 rfl rfl h
    · refine r_new (pc := 177) dX17_cue_177 q1162 rfl h (fun x177 st e177 h => ?_)
      refine r_dup (pc := 180) dX17_cue_180 rfl ?_
      refine r_iload_n (pc := 181) dX17_cue_181 4 rfl rfl ?_
      refine r_iload (pc := 182) dX17_cue_182 0 rfl ?_
      refine r_callV (pc := 184) (rest := [vr x177]) (lkI dX17_cue_184 q1164 q1165 q1166 rfl (fun _ => sX22_init) ad_X22_init) (by decide) (Nat.le_of_ble_eq_true rfl) rfl h (fun u184 st e184 h => ?_)
      refine r_goto (pc := 187) (tgt := 200) dX17_cue_187 (by decide) ?_
      exact r_areturn (pc := 200) dX17_cue_200 rfl rfl h
  · refine r_new (pc := 160) dX17_cue_160 q1148 rfl h (fun x160 st e160 h => ?_)
    refine r_dup (pc := 163) dX17_cue_163 rfl ?_
    refine r_iload_n (pc := 164) dX17_cue_164 4 rfl rfl ?_
    refine r_iload (pc := 165) dX17_cue_165 0 rfl ?_
    refine r_callV (pc := 167) (rest := [vr x160]) (lkI dX17_cue_167 q1150 q1151 q1152 rfl (fun _ => sX21_init) ad_X21_init) (by decide) (Nat.le_of_ble_eq_true rfl) rfl h (fun u167 st e167 h => ?_)
    refine r_goto (pc := 170) (tgt := 200) dX17_cue_170 (by decide) ?_
    exact r_areturn (pc := 200) dX17_cue_200 rfl rfl h
theorem sX17_cue_50 {st0 : Mem} {fin : (Rf ⊕ Nat) × Mem} (v0 : Rf) (v1 : Int32) (v2 : Int32) (v3 : Int32) (v4 : Int32) (k0 : Rf) (k1 : Int32) (st : Mem) (h : bX17_cue_50 v0 v1 v2 v3 v4 k0 k1 st = some fin) : G (cX17_cue, "HouseClaps$CueReader", "cue", 22, (some (.object "HouseClaps$Cue")), 8) st0 trAx fin 50 [(0, vr v0), (1, vi v1), (2, vi v2), (3, vi v3), (4, vi v4)] [vi k1, vr k0] st := by
  unfold bX17_cue_50 at h
  refine r_iconst (pc := 50) (v := 1) dX17_cue_50 (by decide) ?_
  refine r_callVx (pc := 51) (rest := []) (lkV dX17_cue_51 q1111 xd_X17_need (vc_of vt_X17_need q782 (fun _ => sX5_need)) adx_X17_need) (by decide) (Nat.le_of_ble_eq_true rfl) rfl (by decide) (fun _ => rfl) h (fun u51 st e51 h => ?_)
  refine r_aload_n (pc := 54) dX17_cue_54 0 rfl rfl ?_
  refine r_callV (pc := 55) (rest := []) (lkV dX17_cue_55 q1104 xd_X17_go (vc_of vt_X17_go q493 (fun _ => sX5_go)) adx_X17_go) (by decide) (Nat.le_of_ble_eq_true rfl) rfl h (fun u55 st e55 h => ?_)
  refine r_iload_n (pc := 58) dX17_cue_58 2 rfl rfl ?_
  refine r_if_ne (pc := 59) (tgt := 80) dX17_cue_59 (by decide) h (fun e59 h => ?_) (fun e59 h => ?_)
  · exact r_sub (env' := [(0, vr v0), (1, vi v1), (2, vi v2), (3, vi v3)]) [0, 1, 2, 3] rfl (sX17_cue_80 _ _ _ _ _ h)
  · refine r_iload_n (pc := 62) dX17_cue_62 3 rfl rfl ?_
    refine r_if_ne (pc := 63) (tgt := 80) dX17_cue_63 (by decide) h (fun e63 h => ?_) (fun e63 h => ?_)
    · exact r_sub (env' := [(0, vr v0), (1, vi v1), (2, vi v2), (3, vi v3)]) [0, 1, 2, 3] rfl (sX17_cue_80 _ _ _ _ _ h)
    · refine r_iload (pc := 66) dX17_cue_66 4 rfl ?_
      refine r_if_ne (pc := 68) (tgt := 80) dX17_cue_68 (by decide) h (fun e68 h => ?_) (fun e68 h => ?_)
      · exact r_sub (env' := [(0, vr v0), (1, vi v1), (2, vi v2), (3, vi v3)]) [0, 1, 2, 3] rfl (sX17_cue_80 _ _ _ _ _ h)
      · refine r_new (pc := 71) dX17_cue_71 q1129 rfl h (fun x71 st e71 h => ?_)
        refine r_dup (pc := 74) dX17_cue_74 rfl ?_
        refine r_iload_n (pc := 75) dX17_cue_75 1 rfl rfl ?_
        refine r_callV (pc := 76) (rest := [vr x71]) (lkI dX17_cue_76 q1131 q1132 q1133 rfl (fun _ => sX19_init) ad_X19_init) (by decide) (Nat.le_of_ble_eq_true rfl) rfl h (fun u76 st e76 h => ?_)
        exact r_areturn (pc := 79) dX17_cue_79 rfl rfl h
theorem sX17_cue_45 {st0 : Mem} {fin : (Rf ⊕ Nat) × Mem} (v0 : Rf) (v1 : Int32) (v2 : Int32) (v3 : Int32) (v4 : Int32) (k0 : Rf) (st : Mem) (h : bX17_cue_45 v0 v1 v2 v3 v4 k0 st = some fin) : G (cX17_cue, "HouseClaps$CueReader", "cue", 22, (some (.object "HouseClaps$Cue")), 8) st0 trAx fin 45 [(0, vr v0), (1, vi v1), (2, vi v2), (3, vi v3), (4, vi v4)] [vr k0] st := by
  unfold bX17_cue_45 at h
  refine r_iconst (pc := 45) (v := 1) dX17_cue_45 (by decide) ?_
  refine r_goto (pc := 46) (tgt := 50) dX17_cue_46 (by decide) ?_
  exact sX17_cue_50 _ _ _ _ _ _ _ _ h
theorem sX17_cue {a0 : Rf} {a1 : Int32} {st : Mem} {fin : (Rf ⊕ Nat) × Mem} (h : fX17_cue a0 a1 st = some fin) : Con yX17_cue 22 [vr a0, vi a1] st trAx fin := by
  refine Con.mk (cc := cX17_cue) (n := 8) (own := "HouseClaps$CueReader") (nm := "cue") (ret := (some (.object "HouseClaps$Cue"))) (env := [(0, vr a0), (1, vi a1)]) q1124 rfl rfl rfl (by decide) ⟨Nat.le_of_ble_eq_true rfl, by decide⟩ rfl ?_
  unfold fX17_cue at h
  refine r_aload_n (pc := 0) dX17_cue_0 0 rfl rfl ?_
  refine r_ldcS (pc := 1) dX17_cue_1 1 rfl ?_
  refine r_callI (pc := 3) (rest := []) (lkV dX17_cue_3 q1108 xd_X17_is (vc_of vt_X17_is q764 (fun _ => sX5_is)) adx_X17_is) (by decide) (Nat.le_of_ble_eq_true rfl) rfl h (fun x3 st e3 h => ?_)
  refine r_istore_n (pc := 6) (env' := [(2, vi x3), (0, vr a0), (1, vi a1)]) dX17_cue_6 rfl (by decide) rfl ?_
  refine r_aload_n (pc := 7) dX17_cue_7 1 rfl rfl ?_
  refine r_ldcS (pc := 8) dX17_cue_8 2 rfl ?_
  refine r_callI (pc := 10) (rest := []) (lkV dX17_cue_10 q1108 xd_X17_is (vc_of vt_X17_is q764 (fun _ => sX5_is)) adx_X17_is) (by decide) (Nat.le_of_ble_eq_true rfl) rfl h (fun x10 st e10 h => ?_)
  refine r_istore_n (pc := 13) (env' := [(3, vi x10), (2, vi x3), (0, vr a0), (1, vi a1)]) dX17_cue_13 rfl (by decide) rfl ?_
  refine r_aload_n (pc := 14) dX17_cue_14 2 rfl rfl ?_
  refine r_ldcS (pc := 15) dX17_cue_15 3 rfl ?_
  refine r_callI (pc := 17) (rest := []) (lkV dX17_cue_17 q1108 xd_X17_is (vc_of vt_X17_is q764 (fun _ => sX5_is)) adx_X17_is) (by decide) (Nat.le_of_ble_eq_true rfl) rfl h (fun x17 st e17 h => ?_)
  refine r_istore (pc := 20) (env' := [(4, vi x17), (3, vi x10), (2, vi x3), (0, vr a0), (1, vi a1)]) dX17_cue_20 (by decide) rfl ?_
  refine r_aload_n (pc := 22) dX17_cue_22 3 rfl rfl ?_
  refine r_iload_n (pc := 23) dX17_cue_23 2 rfl rfl ?_
  refine r_if_ne (pc := 24) (tgt := 45) dX17_cue_24 (by decide) h (fun e24 h => ?_) (fun e24 h => ?_)
  · exact r_sub (env' := [(0, vr a0), (1, vi a1), (2, vi x3), (3, vi x10), (4, vi x17)]) [3, 4, 2, 1, 0] rfl (sX17_cue_45 _ _ _ _ _ _ _ h)
  · refine r_iload_n (pc := 27) dX17_cue_27 1 rfl rfl ?_
    refine r_if_ne (pc := 28) (tgt := 45) dX17_cue_28 (by decide) h (fun e28 h => ?_) (fun e28 h => ?_)
    · exact r_sub (env' := [(0, vr a0), (1, vi a1), (2, vi x3), (3, vi x10), (4, vi x17)]) [3, 4, 2, 1, 0] rfl (sX17_cue_45 _ _ _ _ _ _ _ h)
    · refine r_iload (pc := 31) dX17_cue_31 0 rfl ?_
      refine r_if_ne (pc := 33) (tgt := 45) dX17_cue_33 (by decide) h (fun e33 h => ?_) (fun e33 h => ?_)
      · exact r_sub (env' := [(0, vr a0), (1, vi a1), (2, vi x3), (3, vi x10), (4, vi x17)]) [3, 4, 2, 1, 0] rfl (sX17_cue_45 _ _ _ _ _ _ _ h)
      · refine r_aload_n (pc := 36) dX17_cue_36 3 rfl rfl ?_
        refine r_ldcS (pc := 37) dX17_cue_37 4 rfl ?_
        refine r_callI (pc := 39) (rest := [vr a0]) (lkV dX17_cue_39 q1108 xd_X17_is (vc_of vt_X17_is q764 (fun _ => sX5_is)) adx_X17_is) (by decide) (Nat.le_of_ble_eq_true rfl) rfl h (fun x39 st e39 h => ?_)
        refine r_if_eq (pc := 42) (tgt := 49) dX17_cue_42 (by decide) h (fun e42 h => ?_) (fun e42 h => ?_)
        · refine r_iconst (pc := 49) (v := 0) dX17_cue_49 (by decide) ?_
          exact r_sub (env' := [(0, vr a0), (1, vi a1), (2, vi x3), (3, vi x10), (4, vi x17)]) [3, 4, 2, 1, 0] rfl (sX17_cue_50 _ _ _ _ _ _ _ _ h)
        · exact r_sub (env' := [(0, vr a0), (1, vi a1), (2, vi x3), (3, vi x10), (4, vi x17)]) [3, 4, 2, 1, 0] rfl (sX17_cue_45 _ _ _ _ _ _ _ h)
theorem sX6_compare_49 {st0 : Mem} {fin : (Rf ⊕ Nat) × Mem} (v0 : Rf) (v1 : Int32) (v2 : Int32) (v3 : Int32) (k0 : Rf) (k1 : Int32) (st : Mem) (h : bX6_compare_49 v0 v1 v2 v3 k0 k1 st = some fin) : G (cX6_compare, "HouseClaps$HouseReader", "compare", 22, (some (.object "HouseClaps$Cond")), 6) st0 trAx fin 49 [(0, vr v0), (1, vi v1), (2, vi v2), (3, vi v3)] [vi k1, vr k0] st := by
  unfold bX6_compare_49 at h
  refine r_iconst (pc := 49) (v := 1) dX6_compare_49 (by decide) ?_
  refine r_callVx (pc := 50) (rest := []) (lkV dX6_compare_50 q778 xd_X6_need (vc_of vt_X6_need q782 (fun _ => sX5_need)) adx_X6_need) (by decide) (Nat.le_of_ble_eq_true rfl) rfl (by decide) (fun _ => rfl) h (fun u50 st e50 h => ?_)
  refine r_aload_n (pc := 53) dX6_compare_53 0 rfl rfl ?_
  refine r_gI (pc := 54) dX6_compare_54 q449 fd_131 (r_same q450) h (fun x54 e54 h => ?_)
  refine r_istore (pc := 57) (env' := [(4, vi x54), (0, vr v0), (1, vi v1), (2, vi v2), (3, vi v3)]) dX6_compare_57 (by decide) rfl ?_
  refine r_aload_n (pc := 59) dX6_compare_59 1 rfl rfl ?_
  refine r_callV (pc := 60) (rest := []) (lkV dX6_compare_60 q489 xd_X6_go (vc_of vt_X6_go q493 (fun _ => sX5_go)) adx_X6_go) (by decide) (Nat.le_of_ble_eq_true rfl) rfl h (fun u60 st e60 h => ?_)
  refine r_aload_n (pc := 63) dX6_compare_63 1 rfl rfl ?_
  refine r_iconst (pc := 64) (v := 0) dX6_compare_64 (by decide) ?_
  refine r_sipush (pc := 65) (v := 999) dX6_compare_65 (by decide) ?_
  refine r_callIx (pc := 68) (rest := []) (lkV dX6_compare_68 q914 xd_X6_number (vc_of vt_X6_number q918 (fun _ => sX5_number)) adx_X6_number) (by decide) (Nat.le_of_ble_eq_true rfl) rfl (by decide) (fun _ => rfl) h (fun x68 st e68 h => ?_)
  refine r_istore (pc := 71) (env' := [(5, vi x68), (4, vi x54), (0, vr v0), (1, vi v1), (2, vi v2), (3, vi v3)]) dX6_compare_71 (by decide) rfl ?_
  refine r_iload_n (pc := 73) dX6_compare_73 3 rfl rfl ?_
  refine r_iconst (pc := 74) (v := (-1)) dX6_compare_74 (by decide) ?_
  refine r_icmp_eq (pc := 75) (tgt := 94) dX6_compare_75 (by decide) h (fun e75 h => ?_) (fun e75 h => ?_)
  · refine r_iload_n (pc := 94) dX6_compare_94 4 rfl rfl ?_
    refine r_if_eq (pc := 95) (tgt := 112) dX6_compare_95 (by decide) h (fun e95 h => ?_) (fun e95 h => ?_)
    · refine r_new (pc := 112) dX6_compare_112 q962 rfl h (fun x112 st e112 h => ?_)
      refine r_dup (pc := 115) dX6_compare_115 rfl ?_
      refine r_iload (pc := 116) dX6_compare_116 1 rfl ?_
      refine r_iload (pc := 118) dX6_compare_118 0 rfl ?_
      refine r_callV (pc := 120) (rest := [vr x112]) (lkI dX6_compare_120 q964 q965 q966 rfl (fun _ => sX13_init) ad_X13_init) (by decide) (Nat.le_of_ble_eq_true rfl) rfl h (fun u120 st e120 h => ?_)
      exact r_areturn (pc := 123) dX6_compare_123 rfl rfl h
    · refine r_new (pc := 98) dX6_compare_98 q953 rfl h (fun x98 st e98 h => ?_)
      refine r_dup (pc := 101) dX6_compare_101 rfl ?_
      refine r_iload (pc := 102) dX6_compare_102 1 rfl ?_
      refine r_iload (pc := 104) dX6_compare_104 0 rfl ?_
      refine r_callV (pc := 106) (rest := [vr x98]) (lkI dX6_compare_106 q955 q956 q957 rfl (fun _ => sX12_init) ad_X12_init) (by decide) (Nat.le_of_ble_eq_true rfl) rfl h (fun u106 st e106 h => ?_)
      refine r_goto (pc := 109) (tgt := 123) dX6_compare_109 (by decide) ?_
      exact r_areturn (pc := 123) dX6_compare_123 rfl rfl h
  · refine r_new (pc := 78) dX6_compare_78 q931 rfl h (fun x78 st e78 h => ?_)
    refine r_dup (pc := 81) dX6_compare_81 rfl ?_
    refine r_iload_n (pc := 82) dX6_compare_82 3 rfl rfl ?_
    refine r_iload_n (pc := 83) dX6_compare_83 5 rfl rfl ?_
    refine r_iload (pc := 84) dX6_compare_84 1 rfl ?_
    refine r_iload (pc := 86) dX6_compare_86 0 rfl ?_
    refine r_callV (pc := 88) (rest := [vr x78]) (lkI dX6_compare_88 q933 q934 q935 rfl (fun _ => sX11_init) ad_X11_init) (by decide) (Nat.le_of_ble_eq_true rfl) rfl h (fun u88 st e88 h => ?_)
    refine r_goto (pc := 91) (tgt := 123) dX6_compare_91 (by decide) ?_
    exact r_areturn (pc := 123) dX6_compare_123 rfl rfl h
theorem sX6_compare_44 {st0 : Mem} {fin : (Rf ⊕ Nat) × Mem} (v0 : Rf) (v1 : Int32) (v2 : Int32) (v3 : Int32) (k0 : Rf) (st : Mem) (h : bX6_compare_44 v0 v1 v2 v3 k0 st = some fin) : G (cX6_compare, "HouseClaps$HouseReader", "compare", 22, (some (.object "HouseClaps$Cond")), 6) st0 trAx fin 44 [(0, vr v0), (1, vi v1), (2, vi v2), (3, vi v3)] [vr k0] st := by
  unfold bX6_compare_44 at h
  refine r_iconst (pc := 44) (v := 1) dX6_compare_44 (by decide) ?_
  refine r_goto (pc := 45) (tgt := 49) dX6_compare_45 (by decide) ?_
  exact sX6_compare_49 _ _ _ _ _ _ _ h
theorem sX6_compare_15 {st0 : Mem} {fin : (Rf ⊕ Nat) × Mem} (v0 : Rf) (v1 : Int32) (v2 : Int32) (k0 : Int32) (st : Mem) (h : bX6_compare_15 v0 v1 v2 k0 st = some fin) : G (cX6_compare, "HouseClaps$HouseReader", "compare", 22, (some (.object "HouseClaps$Cond")), 6) st0 trAx fin 15 [(0, vr v0), (1, vi v1), (2, vi v2)] [vi k0] st := by
  unfold bX6_compare_15 at h
  refine r_istore_n (pc := 15) (env' := [(3, vi k0), (0, vr v0), (1, vi v1), (2, vi v2)]) dX6_compare_15 rfl (by decide) rfl ?_
  refine r_aload_n (pc := 16) dX6_compare_16 1 rfl rfl ?_
  refine r_aload_n (pc := 17) dX6_compare_17 1 rfl rfl ?_
  refine r_bipush (pc := 18) (v := 60) dX6_compare_18 (by decide) ?_
  refine r_callI (pc := 20) (rest := [vr v0]) (lkV dX6_compare_20 q878 xd_X6_isSign (vc_of vt_X6_isSign q882 (fun _ => sX5_isSign)) adx_X6_isSign) (by decide) (Nat.le_of_ble_eq_true rfl) rfl h (fun x20 st e20 h => ?_)
  refine r_if_ne (pc := 23) (tgt := 44) dX6_compare_23 (by decide) h (fun e23 h => ?_) (fun e23 h => ?_)
  · exact r_sub (env' := [(0, vr v0), (1, vi v1), (2, vi v2), (3, vi k0)]) [1, 2, 3, 0] rfl (sX6_compare_44 _ _ _ _ _ _ h)
  · refine r_aload_n (pc := 26) dX6_compare_26 1 rfl rfl ?_
    refine r_bipush (pc := 27) (v := 61) dX6_compare_27 (by decide) ?_
    refine r_callI (pc := 29) (rest := [vr v0]) (lkV dX6_compare_29 q878 xd_X6_isSign (vc_of vt_X6_isSign q882 (fun _ => sX5_isSign)) adx_X6_isSign) (by decide) (Nat.le_of_ble_eq_true rfl) rfl h (fun x29 st e29 h => ?_)
    refine r_if_ne (pc := 32) (tgt := 44) dX6_compare_32 (by decide) h (fun e32 h => ?_) (fun e32 h => ?_)
    · exact r_sub (env' := [(0, vr v0), (1, vi v1), (2, vi v2), (3, vi k0)]) [1, 2, 3, 0] rfl (sX6_compare_44 _ _ _ _ _ _ h)
    · refine r_aload_n (pc := 35) dX6_compare_35 1 rfl rfl ?_
      refine r_bipush (pc := 36) (v := 62) dX6_compare_36 (by decide) ?_
      refine r_callI (pc := 38) (rest := [vr v0]) (lkV dX6_compare_38 q878 xd_X6_isSign (vc_of vt_X6_isSign q882 (fun _ => sX5_isSign)) adx_X6_isSign) (by decide) (Nat.le_of_ble_eq_true rfl) rfl h (fun x38 st e38 h => ?_)
      refine r_if_eq (pc := 41) (tgt := 48) dX6_compare_41 (by decide) h (fun e41 h => ?_) (fun e41 h => ?_)
      · refine r_iconst (pc := 48) (v := 0) dX6_compare_48 (by decide) ?_
        exact r_sub (env' := [(0, vr v0), (1, vi v1), (2, vi v2), (3, vi k0)]) [1, 2, 3, 0] rfl (sX6_compare_49 _ _ _ _ _ _ _ h)
      · exact r_sub (env' := [(0, vr v0), (1, vi v1), (2, vi v2), (3, vi k0)]) [1, 2, 3, 0] rfl (sX6_compare_44 _ _ _ _ _ _ h)
theorem sX6_compare {a0 : Rf} {a1 : Int32} {a2 : Int32} {st : Mem} {fin : (Rf ⊕ Nat) × Mem} (h : fX6_compare a0 a1 a2 st = some fin) : Con yX6_compare 22 [vr a0, vi a1, vi a2] st trAx fin := by
  refine Con.mk (cc := cX6_compare) (n := 6) (own := "HouseClaps$HouseReader") (nm := "compare") (ret := (some (.object "HouseClaps$Cond"))) (env := [(0, vr a0), (1, vi a1), (2, vi a2)]) q913 rfl rfl rfl (by decide) ⟨Nat.le_of_ble_eq_true rfl, by decide⟩ rfl ?_
  unfold fX6_compare at h
  refine r_iload_n (pc := 0) dX6_compare_0 1 rfl rfl ?_
  refine r_iconst (pc := 1) (v := (-1)) dX6_compare_1 (by decide) ?_
  refine r_icmp_ne (pc := 2) (tgt := 9) dX6_compare_2 (by decide) h (fun e2 h => ?_) (fun e2 h => ?_)
  · refine r_aload_n (pc := 9) dX6_compare_9 0 rfl rfl ?_
    refine r_iconst (pc := 10) (v := 1) dX6_compare_10 (by decide) ?_
    refine r_iconst (pc := 11) (v := 2) dX6_compare_11 (by decide) ?_
    refine r_callIx (pc := 12) (rest := []) (lkV dX6_compare_12 q914 xd_X6_number (vc_of vt_X6_number q918 (fun _ => sX5_number)) adx_X6_number) (by decide) (Nat.le_of_ble_eq_true rfl) rfl (by decide) (fun _ => rfl) h (fun x12 st e12 h => ?_)
    exact sX6_compare_15 _ _ _ _ _ h
  · refine r_iconst (pc := 5) (v := 0) dX6_compare_5 (by decide) ?_
    refine r_goto (pc := 6) (tgt := 15) dX6_compare_6 (by decide) ?_
    exact sX6_compare_15 _ _ _ _ _ h
theorem sX6_once_131 {st0 : Mem} {fin : (Unit ⊕ Nat) × Mem} (v0 : Rf) (v1 : Int32) (st : Mem) (h : bX6_once_131 v0 v1 st = some fin) : G (cX6_once, "HouseClaps$HouseReader", "once", 22, none, 2) st0 trVx fin 131 [(0, vr v0), (1, vi v1)] [] st := by
  unfold bX6_once_131 at h
  refine r_iload_n (pc := 131) dX6_once_131 1 rfl rfl ?_
  refine r_iconst (pc := 132) (v := 2) dX6_once_132 (by decide) ?_
  refine r_icmp_ne (pc := 133) (tgt := 144) dX6_once_133 (by decide) h (fun e133 h => ?_) (fun e133 h => ?_)
  · exact r_return_ (pc := 144) dX6_once_144 rfl h
  · refine r_aload_n (pc := 136) dX6_once_136 0 rfl rfl ?_
    refine r_gA (pc := 137) dX6_once_137 q431 fd_133 same_rf h (fun x137 e137 h => ?_)
    refine r_iconst (pc := 140) (v := 1) dX6_once_140 (by decide) ?_
    refine r_pIN (pc := 141) dX6_once_141 q169 fd_33 same_rf rfl h (fun st e141 h => ?_)
    exact r_return_ (pc := 144) dX6_once_144 rfl h
theorem sX6_once_111 {st0 : Mem} {fin : (Unit ⊕ Nat) × Mem} (v0 : Rf) (v1 : Int32) (st : Mem) (h : bX6_once_111 v0 v1 st = some fin) : G (cX6_once, "HouseClaps$HouseReader", "once", 22, none, 2) st0 trVx fin 111 [(0, vr v0), (1, vi v1)] [] st := by
  unfold bX6_once_111 at h
  refine r_iload_n (pc := 111) dX6_once_111 1 rfl rfl ?_
  refine r_iconst (pc := 112) (v := 1) dX6_once_112 (by decide) ?_
  refine r_icmp_ne (pc := 113) (tgt := 131) dX6_once_113 (by decide) h (fun e113 h => ?_) (fun e113 h => ?_)
  · exact sX6_once_131 _ _ _ h
  · refine r_aload_n (pc := 116) dX6_once_116 0 rfl rfl ?_
    refine r_gA (pc := 117) dX6_once_117 q431 fd_133 same_rf h (fun x117 e117 h => ?_)
    refine r_aload_n (pc := 120) dX6_once_120 0 rfl rfl ?_
    refine r_iconst (pc := 121) (v := 0) dX6_once_121 (by decide) ?_
    refine r_sipush (pc := 122) (v := 600) dX6_once_122 (by decide) ?_
    refine r_callIx (pc := 125) (rest := [vr x117]) (lkV dX6_once_125 q914 xd_X6_number (vc_of vt_X6_number q918 (fun _ => sX5_number)) adx_X6_number) (by decide) (Nat.le_of_ble_eq_true rfl) rfl (by decide) (fun _ => rfl) h (fun x125 st e125 h => ?_)
    refine r_pIN (pc := 128) dX6_once_128 q164 fd_31 same_rf rfl h (fun st e128 h => ?_)
    exact sX6_once_131 _ _ _ h
theorem sX6_once_73 {st0 : Mem} {fin : (Unit ⊕ Nat) × Mem} (v0 : Rf) (v1 : Int32) (k0 : Rf) (k1 : Int32) (st : Mem) (h : bX6_once_73 v0 v1 k0 k1 st = some fin) : G (cX6_once, "HouseClaps$HouseReader", "once", 22, none, 2) st0 trVx fin 73 [(0, vr v0), (1, vi v1)] [vi k1, vr k0] st := by
  unfold bX6_once_73 at h
  refine r_iconst (pc := 73) (v := 3) dX6_once_73 (by decide) ?_
  refine r_callVx (pc := 74) (rest := []) (lkV dX6_once_74 q778 xd_X6_need (vc_of vt_X6_need q782 (fun _ => sX5_need)) adx_X6_need) (by decide) (Nat.le_of_ble_eq_true rfl) rfl (by decide) (fun _ => rfl) h (fun u74 st e74 h => ?_)
  refine r_aload_n (pc := 77) dX6_once_77 0 rfl rfl ?_
  refine r_dup (pc := 78) dX6_once_78 rfl ?_
  refine r_gI (pc := 79) dX6_once_79 q432 fd_134 same_rf h (fun x79 e79 h => ?_)
  refine r_iconst (pc := 82) (v := 1) dX6_once_82 (by decide) ?_
  refine r_iload_n (pc := 83) dX6_once_83 1 rfl rfl ?_
  refine r_ishl (pc := 84) dX6_once_84 ?_
  refine r_ior (pc := 85) dX6_once_85 ?_
  refine r_pI (pc := 86) dX6_once_86 q432 fd_134 same_rf rfl h (fun st e86 h => ?_)
  refine r_aload_n (pc := 89) dX6_once_89 0 rfl rfl ?_
  refine r_callV (pc := 90) (rest := []) (lkV dX6_once_90 q489 xd_X6_go (vc_of vt_X6_go q493 (fun _ => sX5_go)) adx_X6_go) (by decide) (Nat.le_of_ble_eq_true rfl) rfl h (fun u90 st e90 h => ?_)
  refine r_iload_n (pc := 93) dX6_once_93 1 rfl rfl ?_
  refine r_if_ne (pc := 94) (tgt := 111) dX6_once_94 (by decide) h (fun e94 h => ?_) (fun e94 h => ?_)
  · exact sX6_once_111 _ _ _ h
  · refine r_aload_n (pc := 97) dX6_once_97 0 rfl rfl ?_
    refine r_gA (pc := 98) dX6_once_98 q431 fd_133 same_rf h (fun x98 e98 h => ?_)
    refine r_aload_n (pc := 101) dX6_once_101 0 rfl rfl ?_
    refine r_iconst (pc := 102) (v := 1) dX6_once_102 (by decide) ?_
    refine r_bipush (pc := 103) (v := 64) dX6_once_103 (by decide) ?_
    refine r_callIx (pc := 105) (rest := [vr x98]) (lkV dX6_once_105 q914 xd_X6_number (vc_of vt_X6_number q918 (fun _ => sX5_number)) adx_X6_number) (by decide) (Nat.le_of_ble_eq_true rfl) rfl (by decide) (fun _ => rfl) h (fun x105 st e105 h => ?_)
    refine r_pIN (pc := 108) dX6_once_108 q159 fd_30 same_rf rfl h (fun st e108 h => ?_)
    exact sX6_once_111 _ _ _ h
theorem sX6_once_52 {st0 : Mem} {fin : (Unit ⊕ Nat) × Mem} (v0 : Rf) (v1 : Int32) (k0 : Rf) (k1 : Int32) (st : Mem) (h : bX6_once_52 v0 v1 k0 k1 st = some fin) : G (cX6_once, "HouseClaps$HouseReader", "once", 22, none, 2) st0 trVx fin 52 [(0, vr v0), (1, vi v1)] [vi k1, vr k0] st := by
  unfold bX6_once_52 at h
  refine r_iconst (pc := 52) (v := 1) dX6_once_52 (by decide) ?_
  refine r_callVx (pc := 53) (rest := []) (lkV dX6_once_53 q778 xd_X6_need (vc_of vt_X6_need q782 (fun _ => sX5_need)) adx_X6_need) (by decide) (Nat.le_of_ble_eq_true rfl) rfl (by decide) (fun _ => rfl) h (fun u53 st e53 h => ?_)
  refine r_aload_n (pc := 56) dX6_once_56 0 rfl rfl ?_
  refine r_aload_n (pc := 57) dX6_once_57 0 rfl rfl ?_
  refine r_gI (pc := 58) dX6_once_58 q432 fd_134 same_rf h (fun x58 e58 h => ?_)
  refine r_iload_n (pc := 61) dX6_once_61 1 rfl rfl ?_
  refine r_callI (pc := 62) (rest := [vr v0]) (lkSN dX6_once_62 q1016 q1017 q85 (fun _ => sX1_has) ad_X1_has) (by decide) (Nat.le_of_ble_eq_true rfl) rfl h (fun x62 st e62 h => ?_)
  refine r_if_ne (pc := 65) (tgt := 72) dX6_once_65 (by decide) h (fun e65 h => ?_) (fun e65 h => ?_)
  · refine r_iconst (pc := 72) (v := 0) dX6_once_72 (by decide) ?_
    exact sX6_once_73 _ _ _ _ _ h
  · refine r_iconst (pc := 68) (v := 1) dX6_once_68 (by decide) ?_
    refine r_goto (pc := 69) (tgt := 73) dX6_once_69 (by decide) ?_
    exact sX6_once_73 _ _ _ _ _ h
theorem sX6_once_40 {st0 : Mem} {fin : (Unit ⊕ Nat) × Mem} (v0 : Rf) (k0 : Int32) (st : Mem) (h : bX6_once_40 v0 k0 st = some fin) : G (cX6_once, "HouseClaps$HouseReader", "once", 22, none, 2) st0 trVx fin 40 [(0, vr v0)] [vi k0] st := by
  unfold bX6_once_40 at h
  refine r_istore_n (pc := 40) (env' := [(1, vi k0), (0, vr v0)]) dX6_once_40 rfl (by decide) rfl ?_
  refine r_aload_n (pc := 41) dX6_once_41 1 rfl rfl ?_
  refine r_iload_n (pc := 42) dX6_once_42 0 rfl rfl ?_
  refine r_iconst (pc := 43) (v := (-1)) dX6_once_43 (by decide) ?_
  refine r_icmp_eq (pc := 44) (tgt := 51) dX6_once_44 (by decide) h (fun e44 h => ?_) (fun e44 h => ?_)
  · refine r_iconst (pc := 51) (v := 0) dX6_once_51 (by decide) ?_
    exact r_sub (env' := [(0, vr v0), (1, vi k0)]) [1, 0] rfl (sX6_once_52 _ _ _ _ _ h)
  · refine r_iconst (pc := 47) (v := 1) dX6_once_47 (by decide) ?_
    refine r_goto (pc := 48) (tgt := 52) dX6_once_48 (by decide) ?_
    exact r_sub (env' := [(0, vr v0), (1, vi k0)]) [1, 0] rfl (sX6_once_52 _ _ _ _ _ h)
theorem sX6_once {a0 : Rf} {st : Mem} {fin : (Unit ⊕ Nat) × Mem} (h : fX6_once a0 st = some fin) : Con yX6_once 22 [vr a0] st trVx fin := by
  refine Con.mk (cc := cX6_once) (n := 2) (own := "HouseClaps$HouseReader") (nm := "once") (ret := none) (env := [(0, vr a0)]) q1023 rfl rfl rfl (by decide) ⟨Nat.le_of_ble_eq_true rfl, by decide⟩ rfl ?_
  unfold fX6_once at h
  refine r_aload_n (pc := 0) dX6_once_0 0 rfl rfl ?_
  refine r_ldcS (pc := 1) dX6_once_1 10 rfl ?_
  refine r_callI (pc := 3) (rest := []) (lkV dX6_once_3 q760 xd_X6_is (vc_of vt_X6_is q764 (fun _ => sX5_is)) adx_X6_is) (by decide) (Nat.le_of_ble_eq_true rfl) rfl h (fun x3 st e3 h => ?_)
  refine r_if_eq (pc := 6) (tgt := 13) dX6_once_6 (by decide) h (fun e6 h => ?_) (fun e6 h => ?_)
  · refine r_aload_n (pc := 13) dX6_once_13 0 rfl rfl ?_
    refine r_ldcS (pc := 14) dX6_once_14 11 rfl ?_
    refine r_callI (pc := 16) (rest := []) (lkV dX6_once_16 q760 xd_X6_is (vc_of vt_X6_is q764 (fun _ => sX5_is)) adx_X6_is) (by decide) (Nat.le_of_ble_eq_true rfl) rfl h (fun x16 st e16 h => ?_)
    refine r_if_eq (pc := 19) (tgt := 26) dX6_once_19 (by decide) h (fun e19 h => ?_) (fun e19 h => ?_)
    · refine r_aload_n (pc := 26) dX6_once_26 0 rfl rfl ?_
      refine r_ldcS (pc := 27) dX6_once_27 12 rfl ?_
      refine r_callI (pc := 29) (rest := []) (lkV dX6_once_29 q760 xd_X6_is (vc_of vt_X6_is q764 (fun _ => sX5_is)) adx_X6_is) (by decide) (Nat.le_of_ble_eq_true rfl) rfl h (fun x29 st e29 h => ?_)
      refine r_if_eq (pc := 32) (tgt := 39) dX6_once_32 (by decide) h (fun e32 h => ?_) (fun e32 h => ?_)
      · refine r_iconst (pc := 39) (v := (-1)) dX6_once_39 (by decide) ?_
        exact sX6_once_40 _ _ _ h
      · refine r_iconst (pc := 35) (v := 2) dX6_once_35 (by decide) ?_
        refine r_goto (pc := 36) (tgt := 40) dX6_once_36 (by decide) ?_
        exact sX6_once_40 _ _ _ h
    · refine r_iconst (pc := 22) (v := 1) dX6_once_22 (by decide) ?_
      refine r_goto (pc := 23) (tgt := 40) dX6_once_23 (by decide) ?_
      exact sX6_once_40 _ _ _ h
  · refine r_iconst (pc := 9) (v := 0) dX6_once_9 (by decide) ?_
    refine r_goto (pc := 10) (tgt := 40) dX6_once_10 (by decide) ?_
    exact sX6_once_40 _ _ _ h
theorem sX1_again_66B {st0 : Mem} {fin : Int32 × Mem} {kk54 : Rf → Int32 → Int32 → Mem → Option (Int32 × Mem)} {kk66 : Rf → Int32 → Int32 → Int32 → Mem → Option (Int32 × Mem)} (hk54 : ∀ (v0 : Rf) (v1 : Int32) (v3 : Int32) (st : Mem), kk54 v0 v1 v3 st = some fin → G (cX1_again, "HouseClaps", "again", 80, (some .int), 5) st0 trI fin 54 [(0, vr v0), (1, vi v1), (3, vi v3)] [] st) (hk66 : ∀ (v0 : Rf) (v1 : Int32) (v3 : Int32) (v4 : Int32) (st : Mem), kk66 v0 v1 v3 v4 st = some fin → G (cX1_again, "HouseClaps", "again", 80, (some .int), 5) st0 trI fin 66 [(0, vr v0), (1, vi v1), (3, vi v3), (4, vi v4)] [] st) (v0 : Rf) (v1 : Int32) (v3 : Int32) (v4 : Int32) (st : Mem) (h : bX1_again_66B kk54 kk66 v0 v1 v3 v4 st = some fin) : G (cX1_again, "HouseClaps", "again", 80, (some .int), 5) st0 trI fin 66 [(0, vr v0), (1, vi v1), (3, vi v3), (4, vi v4)] [] st := by
  unfold bX1_again_66B at h
  refine r_iload (pc := 66) dX1_again_66 3 rfl ?_
  refine r_sipush (pc := 68) (v := 600) dX1_again_68 (by decide) ?_
  refine r_icmp_gt (pc := 71) (tgt := 103) dX1_again_71 (by decide) h (fun e71 h => ?_) (fun e71 h => ?_)
  · refine r_iinc (pc := 103) (env' := [(3, vi (v3 + 1)), (0, vr v0), (1, vi v1), (4, vi v4)]) (cst := 1) dX1_again_103 2 rfl (by decide) (by decide) rfl ?_
    refine r_goto (pc := 106) (tgt := 54) dX1_again_106 (by decide) ?_
    exact r_sub (env' := [(0, vr v0), (1, vi v1), (3, vi (v3 + 1))]) [1, 2, 0] rfl (hk54 _ _ _ _ h)
  · refine r_aload_n (pc := 74) dX1_again_74 0 rfl rfl ?_
    refine r_iload_n (pc := 75) dX1_again_75 2 rfl rfl ?_
    refine r_iload (pc := 76) dX1_again_76 3 rfl ?_
    refine r_callI (pc := 78) (rest := []) (lkV dX1_again_78 q1450 xd_X1_areLike (vc_of vt_X1_areLike q1452 (fun _ => sX1_areLike)) adx_X1_areLike) (by decide) (Nat.le_of_ble_eq_true rfl) rfl h (fun x78 st e78 h => ?_)
    refine r_if_eq (pc := 81) (tgt := 97) dX1_again_81 (by decide) h (fun e81 h => ?_) (fun e81 h => ?_)
    · refine r_iinc (pc := 97) (env' := [(4, vi (v4 + 1)), (0, vr v0), (1, vi v1), (3, vi v3)]) (cst := 1) dX1_again_97 3 rfl (by decide) (by decide) rfl ?_
      refine r_goto (pc := 100) (tgt := 66) dX1_again_100 (by decide) ?_
      exact r_sub (env' := [(0, vr v0), (1, vi v1), (3, vi v3), (4, vi (v4 + 1))]) [1, 2, 3, 0] rfl (hk66 _ _ _ _ _ h)
    · refine r_iload_n (pc := 84) dX1_again_84 1 rfl rfl ?_
      refine r_if_ne (pc := 85) (tgt := 92) dX1_again_85 (by decide) h (fun e85 h => ?_) (fun e85 h => ?_)
      · refine r_iload (pc := 92) dX1_again_92 3 rfl ?_
        refine r_iload_n (pc := 94) dX1_again_94 2 rfl rfl ?_
        refine r_isub (pc := 95) dX1_again_95 ?_
        exact r_ireturn (pc := 96) dX1_again_96 rfl rfl h
      · refine r_iload_n (pc := 88) dX1_again_88 2 rfl rfl ?_
        refine r_goto (pc := 89) (tgt := 96) dX1_again_89 (by decide) ?_
        exact r_ireturn (pc := 96) dX1_again_96 rfl rfl h
theorem sX1_again_66 {st0 : Mem} {fin : Int32 × Mem} {kk54 : Rf → Int32 → Int32 → Mem → Option (Int32 × Mem)} (hk54 : ∀ (v0 : Rf) (v1 : Int32) (v3 : Int32) (st : Mem), kk54 v0 v1 v3 st = some fin → G (cX1_again, "HouseClaps", "again", 80, (some .int), 5) st0 trI fin 54 [(0, vr v0), (1, vi v1), (3, vi v3)] [] st) (n : Nat) : ∀ (v0 : Rf) (v1 : Int32) (v3 : Int32) (v4 : Int32) (st : Mem), bX1_again_66 kk54 n v0 v1 v3 v4 st = some fin → G (cX1_again, "HouseClaps", "again", 80, (some .int), 5) st0 trI fin 66 [(0, vr v0), (1, vi v1), (3, vi v3), (4, vi v4)] [] st := by
  induction n with
  | zero => intro v0 v1 v3 v4 st h; cases h
  | succ n ih => intro v0 v1 v3 v4 st h; exact sX1_again_66B hk54  ih v0 v1 v3 v4 st h
theorem sX1_again_54B {st0 : Mem} {fin : Int32 × Mem} {kk54 : Rf → Int32 → Int32 → Mem → Option (Int32 × Mem)} (hk54 : ∀ (v0 : Rf) (v1 : Int32) (v3 : Int32) (st : Mem), kk54 v0 v1 v3 st = some fin → G (cX1_again, "HouseClaps", "again", 80, (some .int), 5) st0 trI fin 54 [(0, vr v0), (1, vi v1), (3, vi v3)] [] st) (v0 : Rf) (v1 : Int32) (v3 : Int32) (st : Mem) (h : bX1_again_54B kk54 v0 v1 v3 st = some fin) : G (cX1_again, "HouseClaps", "again", 80, (some .int), 5) st0 trI fin 54 [(0, vr v0), (1, vi v1), (3, vi v3)] [] st := by
  unfold bX1_again_54B at h
  refine r_iload_n (pc := 54) dX1_again_54 2 rfl rfl ?_
  refine r_sipush (pc := 55) (v := 600) dX1_again_55 (by decide) ?_
  refine r_icmp_ge (pc := 58) (tgt := 109) dX1_again_58 (by decide) h (fun e58 h => ?_) (fun e58 h => ?_)
  · refine r_iconst (pc := 109) (v := (-1)) dX1_again_109 (by decide) ?_
    exact r_ireturn (pc := 110) dX1_again_110 rfl rfl h
  · refine r_iload_n (pc := 61) dX1_again_61 2 rfl rfl ?_
    refine r_iconst (pc := 62) (v := 1) dX1_again_62 (by decide) ?_
    refine r_iadd (pc := 63) dX1_again_63 ?_
    refine r_istore (pc := 64) (env' := [(4, vi (v3 + (1 : Int32))), (0, vr v0), (1, vi v1), (3, vi v3)]) dX1_again_64 (by decide) rfl ?_
    exact r_sub (env' := [(0, vr v0), (1, vi v1), (3, vi v3), (4, vi (v3 + (1 : Int32)))]) [1, 2, 3, 0] rfl (sX1_again_66 hk54 hcFuel _ _ _ _ _ h)
theorem sX1_again_54 {st0 : Mem} {fin : Int32 × Mem} (n : Nat) : ∀ (v0 : Rf) (v1 : Int32) (v3 : Int32) (st : Mem), bX1_again_54 n v0 v1 v3 st = some fin → G (cX1_again, "HouseClaps", "again", 80, (some .int), 5) st0 trI fin 54 [(0, vr v0), (1, vi v1), (3, vi v3)] [] st := by
  induction n with
  | zero => intro v0 v1 v3 st h; cases h
  | succ n ih => intro v0 v1 v3 st h; exact sX1_again_54B  ih v0 v1 v3 st h
theorem sX1_again_24B {st0 : Mem} {fin : Int32 × Mem} {kk24 : Rf → Int32 → Rf → Mem → Option (Int32 × Mem)} (hk24 : ∀ (v0 : Rf) (v1 : Int32) (v2 : Rf) (st : Mem), kk24 v0 v1 v2 st = some fin → G (cX1_again, "HouseClaps", "again", 80, (some .int), 5) st0 trI fin 24 [(0, vr v0), (1, vi v1), (2, vr v2)] [] st) (v0 : Rf) (v1 : Int32) (v2 : Rf) (st : Mem) (h : bX1_again_24B kk24 v0 v1 v2 st = some fin) : G (cX1_again, "HouseClaps", "again", 80, (some .int), 5) st0 trI fin 24 [(0, vr v0), (1, vi v1), (2, vr v2)] [] st := by
  unfold bX1_again_24B at h
  refine r_aload_n (pc := 24) dX1_again_24 2 rfl rfl ?_
  refine r_gIN (pc := 25) dX1_again_25 q268 fd_44 same_rf h (fun x25 e25 h => ?_)
  refine r_sipush (pc := 28) (v := 600) dX1_again_28 (by decide) ?_
  refine r_icmp_ge (pc := 31) (tgt := 49) dX1_again_31 (by decide) h (fun e31 h => ?_) (fun e31 h => ?_)
  · refine r_aload_n (pc := 49) dX1_again_49 0 rfl rfl ?_
    refine r_callI (pc := 50) (rest := []) (lkV dX1_again_50 q1428 xd_X1_quiet (vc_of vt_X1_quiet q1430 (fun _ => sX1_quiet)) adx_X1_quiet) (by decide) (Nat.le_of_ble_eq_true rfl) rfl h (fun x50 st e50 h => ?_)
    refine r_istore_n (pc := 53) (env' := [(3, vi x50), (0, vr v0), (1, vi v1), (2, vr v2)]) dX1_again_53 rfl (by decide) rfl ?_
    exact r_sub (env' := [(0, vr v0), (1, vi v1), (3, vi x50)]) [1, 2, 0] rfl (sX1_again_54 hcFuel _ _ _ _ h)
  · refine r_aload_n (pc := 34) dX1_again_34 2 rfl rfl ?_
    refine r_callV (pc := 35) (rest := []) (lkV dX1_again_35 q1402 xd_X3_step (vc_of vt_X3_step q1315 (fun _ => sX3_step)) adx_X3_step) (by decide) (Nat.le_of_ble_eq_true rfl) rfl h (fun u35 st e35 h => ?_)
    refine r_aload_n (pc := 38) dX1_again_38 2 rfl rfl ?_
    refine r_aload_n (pc := 39) dX1_again_39 0 rfl rfl ?_
    refine r_gA (pc := 40) dX1_again_40 q324 fd_10 same_rf h (fun x40 e40 h => ?_)
    refine r_callV (pc := 43) (rest := []) (lkV dX1_again_43 q1424 xd_X3_pack (vc_of vt_X3_pack q1425 (fun _ => sX3_pack)) adx_X3_pack) (by decide) (Nat.le_of_ble_eq_true rfl) rfl h (fun u43 st e43 h => ?_)
    refine r_goto (pc := 46) (tgt := 24) dX1_again_46 (by decide) ?_
    exact hk24 _ _ _ _ h
theorem sX1_again_24 {st0 : Mem} {fin : Int32 × Mem} (n : Nat) : ∀ (v0 : Rf) (v1 : Int32) (v2 : Rf) (st : Mem), bX1_again_24 n v0 v1 v2 st = some fin → G (cX1_again, "HouseClaps", "again", 80, (some .int), 5) st0 trI fin 24 [(0, vr v0), (1, vi v1), (2, vr v2)] [] st := by
  induction n with
  | zero => intro v0 v1 v2 st h; cases h
  | succ n ih => intro v0 v1 v2 st h; exact sX1_again_24B  ih v0 v1 v2 st h
theorem sX1_again {a0 : Rf} {a1 : Int32} {st : Mem} {fin : Int32 × Mem} (h : fX1_again a0 a1 st = some fin) : Con yX1_again 80 [vr a0, vi a1] st trI fin := by
  refine Con.mk (cc := cX1_again) (n := 5) (own := "HouseClaps") (nm := "again") (ret := (some .int)) (env := [(0, vr a0), (1, vi a1)]) q1423 rfl rfl rfl (by decide) ⟨Nat.le_of_ble_eq_true rfl, by decide⟩ rfl ?_
  unfold fX1_again at h
  refine r_iload_n (pc := 0) dX1_again_0 1 rfl rfl ?_
  refine r_iconst (pc := 1) (v := 0) dX1_again_1 (by decide) ?_
  refine r_iconst (pc := 2) (v := 1) dX1_again_2 (by decide) ?_
  refine r_callI (pc := 3) (rest := []) (lkS dX1_again_3 q1055 q928 q85 (fun _ => sX1_isIn) ad_X1_isIn) (by decide) (Nat.le_of_ble_eq_true rfl) rfl h (fun x3 st e3 h => ?_)
  refine r_if_ne (pc := 6) (tgt := 11) dX1_again_6 (by decide) h (fun e6 h => ?_) (fun e6 h => ?_)
  · refine r_aload_n (pc := 11) dX1_again_11 0 rfl rfl ?_
    refine r_callA (pc := 12) (rest := []) (lkV dX1_again_12 q1241 xd_X1_tonight (vc_of vt_X1_tonight q1243 (fun _ => sX1_tonight)) adx_X1_tonight) (by decide) (Nat.le_of_ble_eq_true rfl) rfl h (fun x12 st e12 h => ?_)
    refine r_astore_n (pc := 15) (env' := [(2, vr x12), (0, vr a0), (1, vi a1)]) dX1_again_15 rfl (by decide) rfl ?_
    refine r_aload_n (pc := 16) dX1_again_16 0 rfl rfl ?_
    refine r_aload_n (pc := 17) dX1_again_17 1 rfl rfl ?_
    refine r_gA (pc := 18) dX1_again_18 q324 fd_10 same_rf h (fun x18 e18 h => ?_)
    refine r_callV (pc := 21) (rest := []) (lkV dX1_again_21 q1424 xd_X3_pack (vc_of vt_X3_pack q1425 (fun _ => sX3_pack)) adx_X3_pack) (by decide) (Nat.le_of_ble_eq_true rfl) rfl h (fun u21 st e21 h => ?_)
    exact r_sub (env' := [(0, vr a0), (1, vi a1), (2, vr x12)]) [1, 2, 0] rfl (sX1_again_24 hcFuel _ _ _ _ h)
  · refine r_iconst (pc := 9) (v := (-1)) dX1_again_9 (by decide) ?_
    exact r_ireturn (pc := 10) dX1_again_10 rfl rfl h
theorem sX1_calls_56 {st0 : Mem} {fin : Int32 × Mem} {kk30 : Int32 → Rf → Int32 → Int32 → Mem → Option (Int32 × Mem)} (hk30 : ∀ (v1 : Int32) (v2 : Rf) (v3 : Int32) (v4 : Int32) (st : Mem), kk30 v1 v2 v3 v4 st = some fin → G (cX1_calls, "HouseClaps", "calls", 80, (some .int), 5) st0 trI fin 30 [(1, vi v1), (2, vr v2), (3, vi v3), (4, vi v4)] [] st) (v1 : Int32) (v2 : Rf) (v4 : Int32) (st : Mem) (h : bX1_calls_56 kk30 v1 v2 v4 st = some fin) : G (cX1_calls, "HouseClaps", "calls", 80, (some .int), 5) st0 trI fin 56 [(1, vi v1), (2, vr v2), (4, vi v4)] [] st := by
  unfold bX1_calls_56 at h
  refine r_aload_n (pc := 56) dX1_calls_56 1 rfl rfl ?_
  refine r_callI (pc := 57) (rest := []) (lkV dX1_calls_57 q1411 xd_X3_isUp (vc_of vt_X3_isUp q1412 (fun _ => sX3_isUp)) adx_X3_isUp) (by decide) (Nat.le_of_ble_eq_true rfl) rfl h (fun x57 st e57 h => ?_)
  refine r_istore_n (pc := 60) (env' := [(3, vi x57), (1, vi v1), (2, vr v2), (4, vi v4)]) dX1_calls_60 rfl (by decide) rfl ?_
  refine r_goto (pc := 61) (tgt := 30) dX1_calls_61 (by decide) ?_
  exact r_sub (env' := [(1, vi v1), (2, vr v2), (3, vi x57), (4, vi v4)]) [1, 2, 0, 3] rfl (hk30 _ _ _ _ _ h)
theorem sX1_calls_30B {st0 : Mem} {fin : Int32 × Mem} {kk30 : Int32 → Rf → Int32 → Int32 → Mem → Option (Int32 × Mem)} (hk30 : ∀ (v1 : Int32) (v2 : Rf) (v3 : Int32) (v4 : Int32) (st : Mem), kk30 v1 v2 v3 v4 st = some fin → G (cX1_calls, "HouseClaps", "calls", 80, (some .int), 5) st0 trI fin 30 [(1, vi v1), (2, vr v2), (3, vi v3), (4, vi v4)] [] st) (v1 : Int32) (v2 : Rf) (v3 : Int32) (v4 : Int32) (st : Mem) (h : bX1_calls_30B kk30 v1 v2 v3 v4 st = some fin) : G (cX1_calls, "HouseClaps", "calls", 80, (some .int), 5) st0 trI fin 30 [(1, vi v1), (2, vr v2), (3, vi v3), (4, vi v4)] [] st := by
  unfold bX1_calls_30B at h
  refine r_aload_n (pc := 30) dX1_calls_30 1 rfl rfl ?_
  refine r_gIN (pc := 31) dX1_calls_31 q268 fd_44 same_rf h (fun x31 e31 h => ?_)
  refine r_iload_n (pc := 34) dX1_calls_34 0 rfl rfl ?_
  refine r_icmp_ge (pc := 35) (tgt := 64) dX1_calls_35 (by decide) h (fun e35 h => ?_) (fun e35 h => ?_)
  · refine r_iload (pc := 64) dX1_calls_64 3 rfl ?_
    exact r_ireturn (pc := 66) dX1_calls_66 rfl rfl h
  · refine r_aload_n (pc := 38) dX1_calls_38 1 rfl rfl ?_
    refine r_callV (pc := 39) (rest := []) (lkV dX1_calls_39 q1402 xd_X3_step (vc_of vt_X3_step q1315 (fun _ => sX3_step)) adx_X3_step) (by decide) (Nat.le_of_ble_eq_true rfl) rfl h (fun u39 st e39 h => ?_)
    refine r_aload_n (pc := 42) dX1_calls_42 1 rfl rfl ?_
    refine r_callI (pc := 43) (rest := []) (lkV dX1_calls_43 q1411 xd_X3_isUp (vc_of vt_X3_isUp q1412 (fun _ => sX3_isUp)) adx_X3_isUp) (by decide) (Nat.le_of_ble_eq_true rfl) rfl h (fun x43 st e43 h => ?_)
    refine r_if_eq (pc := 46) (tgt := 56) dX1_calls_46 (by decide) h (fun e46 h => ?_) (fun e46 h => ?_)
    · exact r_sub (env' := [(1, vi v1), (2, vr v2), (4, vi v4)]) [0, 1, 3] rfl (sX1_calls_56 hk30 _ _ _ _ h)
    · refine r_iload_n (pc := 49) dX1_calls_49 2 rfl rfl ?_
      refine r_if_ne (pc := 50) (tgt := 56) dX1_calls_50 (by decide) h (fun e50 h => ?_) (fun e50 h => ?_)
      · exact r_sub (env' := [(1, vi v1), (2, vr v2), (4, vi v4)]) [0, 1, 3] rfl (sX1_calls_56 hk30 _ _ _ _ h)
      · refine r_iinc (pc := 53) (env' := [(4, vi (v4 + 1)), (1, vi v1), (2, vr v2), (3, vi v3)]) (cst := 1) dX1_calls_53 3 rfl (by decide) (by decide) rfl ?_
        exact r_sub (env' := [(1, vi v1), (2, vr v2), (4, vi (v4 + 1))]) [1, 2, 0] rfl (sX1_calls_56 hk30 _ _ _ _ h)
theorem sX1_calls_30 {st0 : Mem} {fin : Int32 × Mem} (n : Nat) : ∀ (v1 : Int32) (v2 : Rf) (v3 : Int32) (v4 : Int32) (st : Mem), bX1_calls_30 n v1 v2 v3 v4 st = some fin → G (cX1_calls, "HouseClaps", "calls", 80, (some .int), 5) st0 trI fin 30 [(1, vi v1), (2, vr v2), (3, vi v3), (4, vi v4)] [] st := by
  induction n with
  | zero => intro v1 v2 v3 v4 st h; cases h
  | succ n ih => intro v1 v2 v3 v4 st h; exact sX1_calls_30B  ih v1 v2 v3 v4 st h
theorem sX1_calls_28 {st0 : Mem} {fin : Int32 × Mem} (v1 : Int32) (v2 : Rf) (v3 : Int32) (k0 : Int32) (st : Mem) (h : bX1_calls_28 v1 v2 v3 k0 st = some fin) : G (cX1_calls, "HouseClaps", "calls", 80, (some .int), 5) st0 trI fin 28 [(1, vi v1), (2, vr v2), (3, vi v3)] [vi k0] st := by
  unfold bX1_calls_28 at h
  refine r_istore (pc := 28) (env' := [(4, vi k0), (1, vi v1), (2, vr v2), (3, vi v3)]) dX1_calls_28 (by decide) rfl ?_
  exact r_sub (env' := [(1, vi v1), (2, vr v2), (3, vi v3), (4, vi k0)]) [1, 2, 3, 0] rfl (sX1_calls_30 hcFuel _ _ _ _ _ h)
theorem sX1_calls {a0 : Rf} {a1 : Int32} {st : Mem} {fin : Int32 × Mem} (h : fX1_calls a0 a1 st = some fin) : Con yX1_calls 80 [vr a0, vi a1] st trI fin := by
  refine Con.mk (cc := cX1_calls) (n := 5) (own := "HouseClaps") (nm := "calls") (ret := (some .int)) (env := [(0, vr a0), (1, vi a1)]) q1419 rfl rfl rfl (by decide) ⟨Nat.le_of_ble_eq_true rfl, by decide⟩ rfl ?_
  unfold fX1_calls at h
  refine r_iload_n (pc := 0) dX1_calls_0 1 rfl rfl ?_
  refine r_callI (pc := 1) (rest := []) (lkS dX1_calls_1 q1238 q1239 q85 (fun _ => sX1_isMoment) ad_X1_isMoment) (by decide) (Nat.le_of_ble_eq_true rfl) rfl h (fun x1 st e1 h => ?_)
  refine r_if_ne (pc := 4) (tgt := 9) dX1_calls_4 (by decide) h (fun e4 h => ?_) (fun e4 h => ?_)
  · refine r_aload_n (pc := 9) dX1_calls_9 0 rfl rfl ?_
    refine r_callA (pc := 10) (rest := []) (lkV dX1_calls_10 q1241 xd_X1_tonight (vc_of vt_X1_tonight q1243 (fun _ => sX1_tonight)) adx_X1_tonight) (by decide) (Nat.le_of_ble_eq_true rfl) rfl h (fun x10 st e10 h => ?_)
    refine r_astore_n (pc := 13) (env' := [(2, vr x10), (0, vr a0), (1, vi a1)]) dX1_calls_13 rfl (by decide) rfl ?_
    refine r_aload_n (pc := 14) dX1_calls_14 0 rfl rfl ?_
    refine r_callI (pc := 15) (rest := []) (lkV dX1_calls_15 q1411 xd_X3_isUp (vc_of vt_X3_isUp q1412 (fun _ => sX3_isUp)) adx_X3_isUp) (by decide) (Nat.le_of_ble_eq_true rfl) rfl h (fun x15 st e15 h => ?_)
    refine r_istore_n (pc := 18) (env' := [(3, vi x15), (2, vr x10), (0, vr a0), (1, vi a1)]) dX1_calls_18 rfl (by decide) rfl ?_
    refine r_iload_n (pc := 19) dX1_calls_19 0 rfl rfl ?_
    refine r_if_eq (pc := 20) (tgt := 27) dX1_calls_20 (by decide) h (fun e20 h => ?_) (fun e20 h => ?_)
    · refine r_iconst (pc := 27) (v := 0) dX1_calls_27 (by decide) ?_
      exact r_sub (env' := [(1, vi a1), (2, vr x10), (3, vi x15)]) [3, 1, 0] rfl (sX1_calls_28 _ _ _ _ _ h)
    · refine r_iconst (pc := 23) (v := 1) dX1_calls_23 (by decide) ?_
      refine r_goto (pc := 24) (tgt := 28) dX1_calls_24 (by decide) ?_
      exact r_sub (env' := [(1, vi a1), (2, vr x10), (3, vi x15)]) [3, 1, 0] rfl (sX1_calls_28 _ _ _ _ _ h)
  · refine r_iconst (pc := 7) (v := (-1)) dX1_calls_7 (by decide) ?_
    exact r_ireturn (pc := 8) dX1_calls_8 rfl rfl h
theorem sX1_parts_74B {st0 : Mem} {fin : Int32 × Mem} {kk71 : Rf → Rf → Rf → Mem → Option (Int32 × Mem)} {kk74 : Rf → Rf → Rf → Int32 → Mem → Option (Int32 × Mem)} (hk71 : ∀ (v0 : Rf) (v3 : Rf) (v4 : Rf) (st : Mem), kk71 v0 v3 v4 st = some fin → G (cX1_parts, "HouseClaps", "parts", 80, (some .int), 6) st0 trI fin 71 [(0, vr v0), (3, vr v3), (4, vr v4)] [] st) (hk74 : ∀ (v0 : Rf) (v3 : Rf) (v4 : Rf) (v5 : Int32) (st : Mem), kk74 v0 v3 v4 v5 st = some fin → G (cX1_parts, "HouseClaps", "parts", 80, (some .int), 6) st0 trI fin 74 [(0, vr v0), (3, vr v3), (4, vr v4), (5, vi v5)] [] st) (v0 : Rf) (v3 : Rf) (v4 : Rf) (v5 : Int32) (st : Mem) (h : bX1_parts_74B kk71 kk74 v0 v3 v4 v5 st = some fin) : G (cX1_parts, "HouseClaps", "parts", 80, (some .int), 6) st0 trI fin 74 [(0, vr v0), (3, vr v3), (4, vr v4), (5, vi v5)] [] st := by
  unfold bX1_parts_74B at h
  refine r_iload (pc := 74) dX1_parts_74 3 rfl ?_
  refine r_aload_n (pc := 76) dX1_parts_76 0 rfl rfl ?_
  refine r_gA (pc := 77) dX1_parts_77 q318 fd_4 same_rf h (fun x77 e77 h => ?_)
  refine r_callI (pc := 80) (rest := [vi v5]) (lkV dX1_parts_80 q1535 xd_X2_size (vc_of vt_X2_size q1039 (fun _ => sX2_size)) adx_X2_size) (by decide) (Nat.le_of_ble_eq_true rfl) rfl h (fun x80 st e80 h => ?_)
  refine r_icmp_ge (pc := 83) (tgt := 115) dX1_parts_83 (by decide) h (fun e83 h => ?_) (fun e83 h => ?_)
  · refine r_aload_n (pc := 115) dX1_parts_115 1 rfl rfl ?_
    refine r_gIN (pc := 116) dX1_parts_116 q268 fd_44 same_rf h (fun x116 e116 h => ?_)
    refine r_bipush (pc := 119) (v := 60) dX1_parts_119 (by decide) ?_
    refine r_icmp_ne (pc := 121) (tgt := 126) dX1_parts_121 (by decide) h (fun e121 h => ?_) (fun e121 h => ?_)
    · refine r_aload_n (pc := 126) dX1_parts_126 1 rfl rfl ?_
      refine r_callV (pc := 127) (rest := []) (lkV dX1_parts_127 q1402 xd_X3_step (vc_of vt_X3_step q1315 (fun _ => sX3_step)) adx_X3_step) (by decide) (Nat.le_of_ble_eq_true rfl) rfl h (fun u127 st e127 h => ?_)
      refine r_aload (pc := 130) dX1_parts_130 2 rfl ?_
      refine r_callV (pc := 132) (rest := []) (lkV dX1_parts_132 q1402 xd_X3_step (vc_of vt_X3_step q1315 (fun _ => sX3_step)) adx_X3_step) (by decide) (Nat.le_of_ble_eq_true rfl) rfl h (fun u132 st e132 h => ?_)
      refine r_goto (pc := 135) (tgt := 71) dX1_parts_135 (by decide) ?_
      exact r_sub (env' := [(0, vr v0), (3, vr v3), (4, vr v4)]) [0, 1, 2] rfl (hk71 _ _ _ _ h)
    · refine r_iconst (pc := 124) (v := (-1)) dX1_parts_124 (by decide) ?_
      exact r_ireturn (pc := 125) dX1_parts_125 rfl rfl h
  · refine r_aload_n (pc := 86) dX1_parts_86 1 rfl rfl ?_
    refine r_gAN (pc := 87) dX1_parts_87 q276 fd_49 same_rf h (fun x87 e87 h => ?_)
    refine r_iload (pc := 90) dX1_parts_90 3 rfl ?_
    refine r_iaload (pc := 92) dX1_parts_92 h (fun x92 e92 h => ?_)
    refine r_aload (pc := 93) dX1_parts_93 2 rfl ?_
    refine r_gAN (pc := 95) dX1_parts_95 q276 fd_49 same_rf h (fun x95 e95 h => ?_)
    refine r_iload (pc := 98) dX1_parts_98 3 rfl ?_
    refine r_iaload (pc := 100) dX1_parts_100 h (fun x100 e100 h => ?_)
    refine r_icmp_eq (pc := 101) (tgt := 109) dX1_parts_101 (by decide) h (fun e101 h => ?_) (fun e101 h => ?_)
    · refine r_iinc (pc := 109) (env' := [(5, vi (v5 + 1)), (0, vr v0), (3, vr v3), (4, vr v4)]) (cst := 1) dX1_parts_109 3 rfl (by decide) (by decide) rfl ?_
      refine r_goto (pc := 112) (tgt := 74) dX1_parts_112 (by decide) ?_
      exact r_sub (env' := [(0, vr v0), (3, vr v3), (4, vr v4), (5, vi (v5 + 1))]) [1, 2, 3, 0] rfl (hk74 _ _ _ _ _ h)
    · refine r_aload_n (pc := 104) dX1_parts_104 1 rfl rfl ?_
      refine r_gIN (pc := 105) dX1_parts_105 q268 fd_44 same_rf h (fun x105 e105 h => ?_)
      exact r_ireturn (pc := 108) dX1_parts_108 rfl rfl h
theorem sX1_parts_74 {st0 : Mem} {fin : Int32 × Mem} {kk71 : Rf → Rf → Rf → Mem → Option (Int32 × Mem)} (hk71 : ∀ (v0 : Rf) (v3 : Rf) (v4 : Rf) (st : Mem), kk71 v0 v3 v4 st = some fin → G (cX1_parts, "HouseClaps", "parts", 80, (some .int), 6) st0 trI fin 71 [(0, vr v0), (3, vr v3), (4, vr v4)] [] st) (n : Nat) : ∀ (v0 : Rf) (v3 : Rf) (v4 : Rf) (v5 : Int32) (st : Mem), bX1_parts_74 kk71 n v0 v3 v4 v5 st = some fin → G (cX1_parts, "HouseClaps", "parts", 80, (some .int), 6) st0 trI fin 74 [(0, vr v0), (3, vr v3), (4, vr v4), (5, vi v5)] [] st := by
  induction n with
  | zero => intro v0 v3 v4 v5 st h; cases h
  | succ n ih => intro v0 v3 v4 v5 st h; exact sX1_parts_74B hk71  ih v0 v3 v4 v5 st h
theorem sX1_parts_71B {st0 : Mem} {fin : Int32 × Mem} {kk71 : Rf → Rf → Rf → Mem → Option (Int32 × Mem)} (hk71 : ∀ (v0 : Rf) (v3 : Rf) (v4 : Rf) (st : Mem), kk71 v0 v3 v4 st = some fin → G (cX1_parts, "HouseClaps", "parts", 80, (some .int), 6) st0 trI fin 71 [(0, vr v0), (3, vr v3), (4, vr v4)] [] st) (v0 : Rf) (v3 : Rf) (v4 : Rf) (st : Mem) (h : bX1_parts_71B kk71 v0 v3 v4 st = some fin) : G (cX1_parts, "HouseClaps", "parts", 80, (some .int), 6) st0 trI fin 71 [(0, vr v0), (3, vr v3), (4, vr v4)] [] st := by
  unfold bX1_parts_71B at h
  refine r_iconst (pc := 71) (v := 0) dX1_parts_71 (by decide) ?_
  refine r_istore (pc := 72) (env' := [(5, vi (0 : Int32)), (0, vr v0), (3, vr v3), (4, vr v4)]) dX1_parts_72 (by decide) rfl ?_
  exact r_sub (env' := [(0, vr v0), (3, vr v3), (4, vr v4), (5, vi (0 : Int32))]) [1, 2, 3, 0] rfl (sX1_parts_74 hk71 hcFuel _ _ _ _ _ h)
theorem sX1_parts_71 {st0 : Mem} {fin : Int32 × Mem} (n : Nat) : ∀ (v0 : Rf) (v3 : Rf) (v4 : Rf) (st : Mem), bX1_parts_71 n v0 v3 v4 st = some fin → G (cX1_parts, "HouseClaps", "parts", 80, (some .int), 6) st0 trI fin 71 [(0, vr v0), (3, vr v3), (4, vr v4)] [] st := by
  induction n with
  | zero => intro v0 v3 v4 st h; cases h
  | succ n ih => intro v0 v3 v4 st h; exact sX1_parts_71B  ih v0 v3 v4 st h
theorem sX1_parts {a0 : Rf} {a1 : Int32} {a2 : Int32} {st : Mem} {fin : Int32 × Mem} (h : fX1_parts a0 a1 a2 st = some fin) : Con yX1_parts 80 [vr a0, vi a1, vi a2] st trI fin := by
  refine Con.mk (cc := cX1_parts) (n := 6) (own := "HouseClaps") (nm := "parts") (ret := (some .int)) (env := [(0, vr a0), (1, vi a1), (2, vi a2)]) q1548 rfl rfl rfl (by decide) ⟨Nat.le_of_ble_eq_true rfl, by decide⟩ rfl ?_
  unfold fX1_parts at h
  refine r_aload_n (pc := 0) dX1_parts_0 0 rfl rfl ?_
  refine r_gA (pc := 1) dX1_parts_1 q318 fd_4 same_rf h (fun x1 e1 h => ?_)
  refine r_iload_n (pc := 4) dX1_parts_4 1 rfl rfl ?_
  refine r_callI (pc := 5) (rest := []) (lkV dX1_parts_5 q1060 xd_X2_isSeat (vc_of vt_X2_isSeat q1061 (fun _ => sX2_isSeat)) adx_X2_isSeat) (by decide) (Nat.le_of_ble_eq_true rfl) rfl h (fun x5 st e5 h => ?_)
  refine r_if_eq (pc := 8) (tgt := 22) dX1_parts_8 (by decide) h (fun e8 h => ?_) (fun e8 h => ?_)
  · refine r_iconst (pc := 22) (v := (-1)) dX1_parts_22 (by decide) ?_
    exact r_ireturn (pc := 23) dX1_parts_23 rfl rfl h
  · refine r_aload_n (pc := 11) dX1_parts_11 0 rfl rfl ?_
    refine r_gA (pc := 12) dX1_parts_12 q318 fd_4 same_rf h (fun x12 e12 h => ?_)
    refine r_iload_n (pc := 15) dX1_parts_15 2 rfl rfl ?_
    refine r_callI (pc := 16) (rest := []) (lkV dX1_parts_16 q1060 xd_X2_isSeat (vc_of vt_X2_isSeat q1061 (fun _ => sX2_isSeat)) adx_X2_isSeat) (by decide) (Nat.le_of_ble_eq_true rfl) rfl h (fun x16 st e16 h => ?_)
    refine r_if_ne (pc := 19) (tgt := 24) dX1_parts_19 (by decide) h (fun e19 h => ?_) (fun e19 h => ?_)
    · refine r_aload_n (pc := 24) dX1_parts_24 0 rfl rfl ?_
      refine r_gA (pc := 25) dX1_parts_25 q322 fd_8 same_rf h (fun x25 e25 h => ?_)
      refine r_aload_n (pc := 28) dX1_parts_28 0 rfl rfl ?_
      refine r_gA (pc := 29) dX1_parts_29 q318 fd_4 same_rf h (fun x29 e29 h => ?_)
      refine r_aload_n (pc := 32) dX1_parts_32 0 rfl rfl ?_
      refine r_gA (pc := 33) dX1_parts_33 q321 fd_7 same_rf h (fun x33 e33 h => ?_)
      refine r_lconst (pc := 36) (v := 1) dX1_parts_36 (by decide) ?_
      refine r_iload_n (pc := 37) dX1_parts_37 1 rfl rfl ?_
      refine r_lshl (pc := 38) dX1_parts_38 ?_
      refine r_aload_n (pc := 39) dX1_parts_39 0 rfl rfl ?_
      refine r_gJ (pc := 40) dX1_parts_40 q320 fd_6 same_rf h (fun x40 e40 h => ?_)
      refine r_callA (pc := 43) (rest := []) (lkV dX1_parts_43 q1245 xd_X3_begin (vc_of vt_X3_begin q1246 (fun _ => sX3_begin)) adx_X3_begin) (by decide) (Nat.le_of_ble_eq_true rfl) rfl h (fun x43 st e43 h => ?_)
      refine r_astore_n (pc := 46) (env' := [(3, vr x43), (0, vr a0), (1, vi a1), (2, vi a2)]) dX1_parts_46 rfl (by decide) rfl ?_
      refine r_aload_n (pc := 47) dX1_parts_47 1 rfl rfl ?_
      refine r_gA (pc := 48) dX1_parts_48 q323 fd_9 same_rf h (fun x48 e48 h => ?_)
      refine r_aload_n (pc := 51) dX1_parts_51 1 rfl rfl ?_
      refine r_gA (pc := 52) dX1_parts_52 q318 fd_4 same_rf h (fun x52 e52 h => ?_)
      refine r_aload_n (pc := 55) dX1_parts_55 1 rfl rfl ?_
      refine r_gA (pc := 56) dX1_parts_56 q321 fd_7 same_rf h (fun x56 e56 h => ?_)
      refine r_lconst (pc := 59) (v := 1) dX1_parts_59 (by decide) ?_
      refine r_iload_n (pc := 60) dX1_parts_60 3 rfl rfl ?_
      refine r_lshl (pc := 61) dX1_parts_61 ?_
      refine r_aload_n (pc := 62) dX1_parts_62 1 rfl rfl ?_
      refine r_gJ (pc := 63) dX1_parts_63 q320 fd_6 same_rf h (fun x63 e63 h => ?_)
      refine r_callA (pc := 66) (rest := []) (lkV dX1_parts_66 q1245 xd_X3_begin (vc_of vt_X3_begin q1246 (fun _ => sX3_begin)) adx_X3_begin) (by decide) (Nat.le_of_ble_eq_true rfl) rfl h (fun x66 st e66 h => ?_)
      refine r_astore (pc := 69) (env' := [(4, vr x66), (3, vr x43), (0, vr a0), (1, vi a1), (2, vi a2)]) dX1_parts_69 (by decide) rfl ?_
      exact r_sub (env' := [(0, vr a0), (3, vr x43), (4, vr x66)]) [2, 1, 0] rfl (sX1_parts_71 hcFuel _ _ _ _ h)
    · refine r_iconst (pc := 22) (v := (-1)) dX1_parts_22 (by decide) ?_
      exact r_ireturn (pc := 23) dX1_parts_23 rfl rfl h
theorem sX1_stands_45 {st0 : Mem} {fin : Int32 × Mem} (v1 : Int32) (v2 : Rf) (st : Mem) (h : bX1_stands_45 v1 v2 st = some fin) : G (cX1_stands, "HouseClaps", "stands", 80, (some .int), 3) st0 trI fin 45 [(1, vi v1), (2, vr v2)] [] st := by
  unfold bX1_stands_45 at h
  refine r_aload_n (pc := 45) dX1_stands_45 1 rfl rfl ?_
  refine r_gAN (pc := 46) dX1_stands_46 q276 fd_49 same_rf h (fun x46 e46 h => ?_)
  refine r_iload_n (pc := 49) dX1_stands_49 0 rfl rfl ?_
  refine r_iaload (pc := 50) dX1_stands_50 h (fun x50 e50 h => ?_)
  refine r_iconst (pc := 51) (v := 2) dX1_stands_51 (by decide) ?_
  refine r_icmp_ne (pc := 52) (tgt := 62) dX1_stands_52 (by decide) h (fun e52 h => ?_) (fun e52 h => ?_)
  · refine r_iconst (pc := 62) (v := (-1)) dX1_stands_62 (by decide) ?_
    exact r_ireturn (pc := 63) dX1_stands_63 rfl rfl h
  · refine r_aload_n (pc := 55) dX1_stands_55 1 rfl rfl ?_
    refine r_gIN (pc := 56) dX1_stands_56 q268 fd_44 same_rf h (fun x56 e56 h => ?_)
    refine r_goto (pc := 59) (tgt := 63) dX1_stands_59 (by decide) ?_
    exact r_ireturn (pc := 63) dX1_stands_63 rfl rfl h
theorem sX1_stands_18B {st0 : Mem} {fin : Int32 × Mem} {kk18 : Int32 → Rf → Mem → Option (Int32 × Mem)} (hk18 : ∀ (v1 : Int32) (v2 : Rf) (st : Mem), kk18 v1 v2 st = some fin → G (cX1_stands, "HouseClaps", "stands", 80, (some .int), 3) st0 trI fin 18 [(1, vi v1), (2, vr v2)] [] st) (v1 : Int32) (v2 : Rf) (st : Mem) (h : bX1_stands_18B kk18 v1 v2 st = some fin) : G (cX1_stands, "HouseClaps", "stands", 80, (some .int), 3) st0 trI fin 18 [(1, vi v1), (2, vr v2)] [] st := by
  unfold bX1_stands_18B at h
  refine r_aload_n (pc := 18) dX1_stands_18 1 rfl rfl ?_
  refine r_gAN (pc := 19) dX1_stands_19 q276 fd_49 same_rf h (fun x19 e19 h => ?_)
  refine r_iload_n (pc := 22) dX1_stands_22 0 rfl rfl ?_
  refine r_iaload (pc := 23) dX1_stands_23 h (fun x23 e23 h => ?_)
  refine r_iconst (pc := 24) (v := 2) dX1_stands_24 (by decide) ?_
  refine r_icmp_ge (pc := 25) (tgt := 45) dX1_stands_25 (by decide) h (fun e25 h => ?_) (fun e25 h => ?_)
  · exact sX1_stands_45 _ _ _ h
  · refine r_aload_n (pc := 28) dX1_stands_28 1 rfl rfl ?_
    refine r_gIN (pc := 29) dX1_stands_29 q268 fd_44 same_rf h (fun x29 e29 h => ?_)
    refine r_sipush (pc := 32) (v := 600) dX1_stands_32 (by decide) ?_
    refine r_icmp_ge (pc := 35) (tgt := 45) dX1_stands_35 (by decide) h (fun e35 h => ?_) (fun e35 h => ?_)
    · exact sX1_stands_45 _ _ _ h
    · refine r_aload_n (pc := 38) dX1_stands_38 1 rfl rfl ?_
      refine r_callV (pc := 39) (rest := []) (lkV dX1_stands_39 q1402 xd_X3_step (vc_of vt_X3_step q1315 (fun _ => sX3_step)) adx_X3_step) (by decide) (Nat.le_of_ble_eq_true rfl) rfl h (fun u39 st e39 h => ?_)
      refine r_goto (pc := 42) (tgt := 18) dX1_stands_42 (by decide) ?_
      exact hk18 _ _ _ h
theorem sX1_stands_18 {st0 : Mem} {fin : Int32 × Mem} (n : Nat) : ∀ (v1 : Int32) (v2 : Rf) (st : Mem), bX1_stands_18 n v1 v2 st = some fin → G (cX1_stands, "HouseClaps", "stands", 80, (some .int), 3) st0 trI fin 18 [(1, vi v1), (2, vr v2)] [] st := by
  induction n with
  | zero => intro v1 v2 st h; cases h
  | succ n ih => intro v1 v2 st h; exact sX1_stands_18B  ih v1 v2 st h
theorem sX1_stands {a0 : Rf} {a1 : Int32} {st : Mem} {fin : Int32 × Mem} (h : fX1_stands a0 a1 st = some fin) : Con yX1_stands 80 [vr a0, vi a1] st trI fin := by
  refine Con.mk (cc := cX1_stands) (n := 3) (own := "HouseClaps") (nm := "stands") (ret := (some .int)) (env := [(0, vr a0), (1, vi a1)]) q1401 rfl rfl rfl (by decide) ⟨Nat.le_of_ble_eq_true rfl, by decide⟩ rfl ?_
  unfold fX1_stands at h
  refine r_aload_n (pc := 0) dX1_stands_0 0 rfl rfl ?_
  refine r_gA (pc := 1) dX1_stands_1 q318 fd_4 same_rf h (fun x1 e1 h => ?_)
  refine r_iload_n (pc := 4) dX1_stands_4 1 rfl rfl ?_
  refine r_callI (pc := 5) (rest := []) (lkV dX1_stands_5 q1060 xd_X2_isSeat (vc_of vt_X2_isSeat q1061 (fun _ => sX2_isSeat)) adx_X2_isSeat) (by decide) (Nat.le_of_ble_eq_true rfl) rfl h (fun x5 st e5 h => ?_)
  refine r_if_ne (pc := 8) (tgt := 13) dX1_stands_8 (by decide) h (fun e8 h => ?_) (fun e8 h => ?_)
  · refine r_aload_n (pc := 13) dX1_stands_13 0 rfl rfl ?_
    refine r_callA (pc := 14) (rest := []) (lkV dX1_stands_14 q1241 xd_X1_tonight (vc_of vt_X1_tonight q1243 (fun _ => sX1_tonight)) adx_X1_tonight) (by decide) (Nat.le_of_ble_eq_true rfl) rfl h (fun x14 st e14 h => ?_)
    refine r_astore_n (pc := 17) (env' := [(2, vr x14), (0, vr a0), (1, vi a1)]) dX1_stands_17 rfl (by decide) rfl ?_
    exact r_sub (env' := [(1, vi a1), (2, vr x14)]) [2, 0] rfl (sX1_stands_18 hcFuel _ _ _ h)
  · refine r_iconst (pc := 11) (v := (-1)) dX1_stands_11 (by decide) ?_
    exact r_ireturn (pc := 12) dX1_stands_12 rfl rfl h
theorem sX1_up_29 {st0 : Mem} {fin : Int32 × Mem} (v1 : Rf) (st : Mem) (h : bX1_up_29 v1 st = some fin) : G (cX1_up, "HouseClaps", "up", 80, (some .int), 2) st0 trI fin 29 [(1, vr v1)] [] st := by
  unfold bX1_up_29 at h
  refine r_aload_n (pc := 29) dX1_up_29 0 rfl rfl ?_
  refine r_callI (pc := 30) (rest := []) (lkV dX1_up_30 q1411 xd_X3_isUp (vc_of vt_X3_isUp q1412 (fun _ => sX3_isUp)) adx_X3_isUp) (by decide) (Nat.le_of_ble_eq_true rfl) rfl h (fun x30 st e30 h => ?_)
  refine r_if_eq (pc := 33) (tgt := 43) dX1_up_33 (by decide) h (fun e33 h => ?_) (fun e33 h => ?_)
  · refine r_iconst (pc := 43) (v := (-1)) dX1_up_43 (by decide) ?_
    exact r_ireturn (pc := 44) dX1_up_44 rfl rfl h
  · refine r_aload_n (pc := 36) dX1_up_36 0 rfl rfl ?_
    refine r_gIN (pc := 37) dX1_up_37 q268 fd_44 same_rf h (fun x37 e37 h => ?_)
    refine r_goto (pc := 40) (tgt := 44) dX1_up_40 (by decide) ?_
    exact r_ireturn (pc := 44) dX1_up_44 rfl rfl h
theorem sX1_up_5B {st0 : Mem} {fin : Int32 × Mem} {kk5 : Rf → Mem → Option (Int32 × Mem)} (hk5 : ∀ (v1 : Rf) (st : Mem), kk5 v1 st = some fin → G (cX1_up, "HouseClaps", "up", 80, (some .int), 2) st0 trI fin 5 [(1, vr v1)] [] st) (v1 : Rf) (st : Mem) (h : bX1_up_5B kk5 v1 st = some fin) : G (cX1_up, "HouseClaps", "up", 80, (some .int), 2) st0 trI fin 5 [(1, vr v1)] [] st := by
  unfold bX1_up_5B at h
  refine r_aload_n (pc := 5) dX1_up_5 0 rfl rfl ?_
  refine r_callI (pc := 6) (rest := []) (lkV dX1_up_6 q1411 xd_X3_isUp (vc_of vt_X3_isUp q1412 (fun _ => sX3_isUp)) adx_X3_isUp) (by decide) (Nat.le_of_ble_eq_true rfl) rfl h (fun x6 st e6 h => ?_)
  refine r_if_ne (pc := 9) (tgt := 29) dX1_up_9 (by decide) h (fun e9 h => ?_) (fun e9 h => ?_)
  · exact sX1_up_29 _ _ h
  · refine r_aload_n (pc := 12) dX1_up_12 0 rfl rfl ?_
    refine r_gIN (pc := 13) dX1_up_13 q268 fd_44 same_rf h (fun x13 e13 h => ?_)
    refine r_sipush (pc := 16) (v := 600) dX1_up_16 (by decide) ?_
    refine r_icmp_ge (pc := 19) (tgt := 29) dX1_up_19 (by decide) h (fun e19 h => ?_) (fun e19 h => ?_)
    · exact sX1_up_29 _ _ h
    · refine r_aload_n (pc := 22) dX1_up_22 0 rfl rfl ?_
      refine r_callV (pc := 23) (rest := []) (lkV dX1_up_23 q1402 xd_X3_step (vc_of vt_X3_step q1315 (fun _ => sX3_step)) adx_X3_step) (by decide) (Nat.le_of_ble_eq_true rfl) rfl h (fun u23 st e23 h => ?_)
      refine r_goto (pc := 26) (tgt := 5) dX1_up_26 (by decide) ?_
      exact hk5 _ _ h
theorem sX1_up_5 {st0 : Mem} {fin : Int32 × Mem} (n : Nat) : ∀ (v1 : Rf) (st : Mem), bX1_up_5 n v1 st = some fin → G (cX1_up, "HouseClaps", "up", 80, (some .int), 2) st0 trI fin 5 [(1, vr v1)] [] st := by
  induction n with
  | zero => intro v1 st h; cases h
  | succ n ih => intro v1 st h; exact sX1_up_5B  ih v1 st h
theorem sX1_up {a0 : Rf} {st : Mem} {fin : Int32 × Mem} (h : fX1_up a0 st = some fin) : Con yX1_up 80 [vr a0] st trI fin := by
  refine Con.mk (cc := cX1_up) (n := 2) (own := "HouseClaps") (nm := "up") (ret := (some .int)) (env := [(0, vr a0)]) q1410 rfl rfl rfl (by decide) ⟨Nat.le_of_ble_eq_true rfl, by decide⟩ rfl ?_
  unfold fX1_up at h
  refine r_aload_n (pc := 0) dX1_up_0 0 rfl rfl ?_
  refine r_callA (pc := 1) (rest := []) (lkV dX1_up_1 q1241 xd_X1_tonight (vc_of vt_X1_tonight q1243 (fun _ => sX1_tonight)) adx_X1_tonight) (by decide) (Nat.le_of_ble_eq_true rfl) rfl h (fun x1 st e1 h => ?_)
  refine r_astore_n (pc := 4) (env' := [(1, vr x1), (0, vr a0)]) dX1_up_4 rfl (by decide) rfl ?_
  exact r_sub (env' := [(1, vr x1)]) [0] rfl (sX1_up_5 hcFuel _ _ h)
theorem sX3_height_6B {st0 : Mem} {fin : Int32 × Mem} {kk6 : Rf → Int32 → Mem → Option (Int32 × Mem)} (hk6 : ∀ (v0 : Rf) (v1 : Int32) (st : Mem), kk6 v0 v1 st = some fin → G (cX3_height, "HouseClaps$Night", "height", 80, (some .int), 2) st0 trI fin 6 [(0, vr v0), (1, vi v1)] [] st) (v0 : Rf) (v1 : Int32) (st : Mem) (h : bX3_height_6B kk6 v0 v1 st = some fin) : G (cX3_height, "HouseClaps$Night", "height", 80, (some .int), 2) st0 trI fin 6 [(0, vr v0), (1, vi v1)] [] st := by
  unfold bX3_height_6B at h
  refine r_aload_n (pc := 6) dX3_height_6 0 rfl rfl ?_
  refine r_gI (pc := 7) dX3_height_7 q267 fd_44 same_rf h (fun x7 e7 h => ?_)
  refine r_bipush (pc := 10) (v := 60) dX3_height_10 (by decide) ?_
  refine r_icmp_ge (pc := 12) (tgt := 32) dX3_height_12 (by decide) h (fun e12 h => ?_) (fun e12 h => ?_)
  · refine r_iload_n (pc := 32) dX3_height_32 1 rfl rfl ?_
    exact r_ireturn (pc := 33) dX3_height_33 rfl rfl h
  · refine r_aload_n (pc := 15) dX3_height_15 0 rfl rfl ?_
    refine r_callV (pc := 16) (rest := []) (lkV dX3_height_16 q1314 xd_X3_step (vc_of vt_X3_step q1315 (fun _ => sX3_step)) adx_X3_step) (by decide) (Nat.le_of_ble_eq_true rfl) rfl h (fun u16 st e16 h => ?_)
    refine r_iload_n (pc := 19) dX3_height_19 1 rfl rfl ?_
    refine r_aload_n (pc := 20) dX3_height_20 0 rfl rfl ?_
    refine r_iconst (pc := 21) (v := 2) dX3_height_21 (by decide) ?_
    refine r_callI (pc := 22) (rest := [vi v1]) (lkV dX3_height_22 q1415 xd_X3_many (vc_of vt_X3_many q1382 (fun _ => sX3_many)) adx_X3_many) (by decide) (Nat.le_of_ble_eq_true rfl) rfl h (fun x22 st e22 h => ?_)
    refine r_mmaxI (pc := 25) dX3_height_25 q1371 (by decide) (Nat.le_of_ble_eq_true rfl) ?_
    refine r_istore_n (pc := 28) (env' := [(1, vi (mmaxI v1 x22)), (0, vr v0)]) dX3_height_28 rfl (by decide) rfl ?_
    refine r_goto (pc := 29) (tgt := 6) dX3_height_29 (by decide) ?_
    exact r_sub (env' := [(0, vr v0), (1, vi (mmaxI v1 x22))]) [1, 0] rfl (hk6 _ _ _ h)
theorem sX3_height_6 {st0 : Mem} {fin : Int32 × Mem} (n : Nat) : ∀ (v0 : Rf) (v1 : Int32) (st : Mem), bX3_height_6 n v0 v1 st = some fin → G (cX3_height, "HouseClaps$Night", "height", 80, (some .int), 2) st0 trI fin 6 [(0, vr v0), (1, vi v1)] [] st := by
  induction n with
  | zero => intro v0 v1 st h; cases h
  | succ n ih => intro v0 v1 st h; exact sX3_height_6B  ih v0 v1 st h
theorem sX3_height {a0 : Rf} {st : Mem} {fin : Int32 × Mem} (h : fX3_height a0 st = some fin) : Con yX3_height 80 [vr a0] st trI fin := by
  refine Con.mk (cc := cX3_height) (n := 2) (own := "HouseClaps$Night") (nm := "height") (ret := (some .int)) (env := [(0, vr a0)]) q1465 rfl rfl rfl (by decide) ⟨Nat.le_of_ble_eq_true rfl, by decide⟩ rfl ?_
  unfold fX3_height at h
  refine r_aload_n (pc := 0) dX3_height_0 0 rfl rfl ?_
  refine r_iconst (pc := 1) (v := 2) dX3_height_1 (by decide) ?_
  refine r_callI (pc := 2) (rest := []) (lkV dX3_height_2 q1415 xd_X3_many (vc_of vt_X3_many q1382 (fun _ => sX3_many)) adx_X3_many) (by decide) (Nat.le_of_ble_eq_true rfl) rfl h (fun x2 st e2 h => ?_)
  refine r_istore_n (pc := 5) (env' := [(1, vi x2), (0, vr a0)]) dX3_height_5 rfl (by decide) rfl ?_
  exact r_sub (env' := [(0, vr a0), (1, vi x2)]) [1, 0] rfl (sX3_height_6 hcFuel _ _ _ h)
theorem sX3_to_0B {st0 : Mem} {fin : Rf × Mem} {kk0 : Rf → Int32 → Mem → Option (Rf × Mem)} (hk0 : ∀ (v0 : Rf) (v1 : Int32) (st : Mem), kk0 v0 v1 st = some fin → G (cX3_to, "HouseClaps$Night", "to", 80, (some (.object "HouseClaps$Night")), 2) st0 trA fin 0 [(0, vr v0), (1, vi v1)] [] st) (v0 : Rf) (v1 : Int32) (st : Mem) (h : bX3_to_0B kk0 v0 v1 st = some fin) : G (cX3_to, "HouseClaps$Night", "to", 80, (some (.object "HouseClaps$Night")), 2) st0 trA fin 0 [(0, vr v0), (1, vi v1)] [] st := by
  unfold bX3_to_0B at h
  refine r_aload_n (pc := 0) dX3_to_0 0 rfl rfl ?_
  refine r_gI (pc := 1) dX3_to_1 q267 fd_44 same_rf h (fun x1 e1 h => ?_)
  refine r_iload_n (pc := 4) dX3_to_4 1 rfl rfl ?_
  refine r_icmp_ge (pc := 5) (tgt := 15) dX3_to_5 (by decide) h (fun e5 h => ?_) (fun e5 h => ?_)
  · refine r_aload_n (pc := 15) dX3_to_15 0 rfl rfl ?_
    exact r_areturn (pc := 16) dX3_to_16 rfl rfl h
  · refine r_aload_n (pc := 8) dX3_to_8 0 rfl rfl ?_
    refine r_callV (pc := 9) (rest := []) (lkV dX3_to_9 q1314 xd_X3_step (vc_of vt_X3_step q1315 (fun _ => sX3_step)) adx_X3_step) (by decide) (Nat.le_of_ble_eq_true rfl) rfl h (fun u9 st e9 h => ?_)
    refine r_goto (pc := 12) (tgt := 0) dX3_to_12 (by decide) ?_
    exact hk0 _ _ _ h
theorem sX3_to_0 {st0 : Mem} {fin : Rf × Mem} (n : Nat) : ∀ (v0 : Rf) (v1 : Int32) (st : Mem), bX3_to_0 n v0 v1 st = some fin → G (cX3_to, "HouseClaps$Night", "to", 80, (some (.object "HouseClaps$Night")), 2) st0 trA fin 0 [(0, vr v0), (1, vi v1)] [] st := by
  induction n with
  | zero => intro v0 v1 st h; cases h
  | succ n ih => intro v0 v1 st h; exact sX3_to_0B  ih v0 v1 st h
theorem sX3_to {a0 : Rf} {a1 : Int32} {st : Mem} {fin : Rf × Mem} (h : fX3_to a0 a1 st = some fin) : Con yX3_to 80 [vr a0, vi a1] st trA fin := by
  refine Con.mk (cc := cX3_to) (n := 2) (own := "HouseClaps$Night") (nm := "to") (ret := (some (.object "HouseClaps$Night"))) (env := [(0, vr a0), (1, vi a1)]) q1313 rfl rfl rfl (by decide) ⟨Nat.le_of_ble_eq_true rfl, by decide⟩ rfl ?_
  unfold fX3_to at h
  exact r_sub (env' := [(0, vr a0), (1, vi a1)]) [0, 1] rfl (sX3_to_0 hcFuel _ _ _ h)
theorem sX17_read_42 {st0 : Mem} {fin : (Rf ⊕ Nat) × Mem} {kk6 : Rf → Int32 → Mem → Option ((Rf ⊕ Nat) × Mem)} (hk6 : ∀ (v0 : Rf) (v1 : Int32) (st : Mem), kk6 v0 v1 st = some fin → G (cX17_read, "HouseClaps$CueReader", "read", 24, (some (.object "java/util/ArrayList")), 2) st0 trAx fin 6 [(0, vr v0), (1, vi v1)] [] st) (v0 : Rf) (v1 : Int32) (k0 : Rf) (k1 : Int32) (st : Mem) (h : bX17_read_42 kk6 v0 v1 k0 k1 st = some fin) : G (cX17_read, "HouseClaps$CueReader", "read", 24, (some (.object "java/util/ArrayList")), 2) st0 trAx fin 42 [(0, vr v0), (1, vi v1)] [vi k1, vr k0] st := by
  unfold bX17_read_42 at h
  refine r_iconst (pc := 42) (v := 4) dX17_read_42 (by decide) ?_
  refine r_callVx (pc := 43) (rest := []) (lkV dX17_read_43 q1111 xd_X17_need (vc_of vt_X17_need q782 (fun _ => sX5_need)) adx_X17_need) (by decide) (Nat.le_of_ble_eq_true rfl) rfl (by decide) (fun _ => rfl) h (fun u43 st e43 h => ?_)
  refine r_aload_n (pc := 46) dX17_read_46 0 rfl rfl ?_
  refine r_callV (pc := 47) (rest := []) (lkV dX17_read_47 q1104 xd_X17_go (vc_of vt_X17_go q493 (fun _ => sX5_go)) adx_X17_go) (by decide) (Nat.le_of_ble_eq_true rfl) rfl h (fun u47 st e47 h => ?_)
  refine r_aload_n (pc := 50) dX17_read_50 0 rfl rfl ?_
  refine r_iload_n (pc := 51) dX17_read_51 1 rfl rfl ?_
  refine r_sipush (pc := 52) (v := 600) dX17_read_52 (by decide) ?_
  refine r_callIx (pc := 55) (rest := []) (lkV dX17_read_55 q1118 xd_X17_number (vc_of vt_X17_number q918 (fun _ => sX5_number)) adx_X17_number) (by decide) (Nat.le_of_ble_eq_true rfl) rfl (by decide) (fun _ => rfl) h (fun x55 st e55 h => ?_)
  refine r_istore_n (pc := 58) (env' := [(1, vi x55), (0, vr v0)]) dX17_read_58 rfl (by decide) rfl ?_
  refine r_aload_n (pc := 59) dX17_read_59 1 rfl rfl ?_
  refine r_gA (pc := 60) dX17_read_60 q1085 fd_149 same_rf h (fun x60 e60 h => ?_)
  refine r_aload_n (pc := 63) dX17_read_63 1 rfl rfl ?_
  refine r_iload_n (pc := 64) dX17_read_64 0 rfl rfl ?_
  refine r_callAx (pc := 65) (rest := [vr x60]) (lkV dX17_read_65 q1121 xd_X17_cue (vc_of vt_X17_cue q1123 (fun _ => sX17_cue)) adx_X17_cue) (by decide) (Nat.le_of_ble_eq_true rfl) rfl (by decide) (fun _ => rfl) h (fun x65 st e65 h => ?_)
  refine r_callI (pc := 68) (rest := []) (lkV dX17_read_68 q1177 xd_J3_add_2 (vc_of vt_J3_add_2 q1178 (fun _ => sJ3_add)) adx_J3_add_2) (by decide) (Nat.le_of_ble_eq_true rfl) rfl h (fun x68 st e68 h => ?_)
  refine r_pop (pc := 71) dX17_read_71 rfl ?_
  refine r_aload_n (pc := 72) dX17_read_72 1 rfl rfl ?_
  refine r_callVx (pc := 73) (rest := []) (lkV dX17_read_73 q1230 xd_X17_end (vc_of vt_X17_end q1031 (fun _ => sX5_end)) adx_X17_end) (by decide) (Nat.le_of_ble_eq_true rfl) rfl (by decide) (fun _ => rfl) h (fun u73 st e73 h => ?_)
  refine r_goto (pc := 76) (tgt := 6) dX17_read_76 (by decide) ?_
  exact r_sub (env' := [(0, vr v0), (1, vi x55)]) [1, 0] rfl (hk6 _ _ _ h)
theorem sX17_read_6B {st0 : Mem} {fin : (Rf ⊕ Nat) × Mem} {kk6 : Rf → Int32 → Mem → Option ((Rf ⊕ Nat) × Mem)} (hk6 : ∀ (v0 : Rf) (v1 : Int32) (st : Mem), kk6 v0 v1 st = some fin → G (cX17_read, "HouseClaps$CueReader", "read", 24, (some (.object "java/util/ArrayList")), 2) st0 trAx fin 6 [(0, vr v0), (1, vi v1)] [] st) (v0 : Rf) (v1 : Int32) (st : Mem) (h : bX17_read_6B kk6 v0 v1 st = some fin) : G (cX17_read, "HouseClaps$CueReader", "read", 24, (some (.object "java/util/ArrayList")), 2) st0 trAx fin 6 [(0, vr v0), (1, vi v1)] [] st := by
  unfold bX17_read_6B at h
  refine r_aload_n (pc := 6) dX17_read_6 0 rfl rfl ?_
  refine r_gI (pc := 7) dX17_read_7 q443 fd_128 (r_same q444) h (fun x7 e7 h => ?_)
  refine r_if_eq (pc := 10) (tgt := 79) dX17_read_10 (by decide) h (fun e10 h => ?_) (fun e10 h => ?_)
  · refine r_aload_n (pc := 79) dX17_read_79 0 rfl rfl ?_
    refine r_gA (pc := 80) dX17_read_80 q1085 fd_149 same_rf h (fun x80 e80 h => ?_)
    exact r_areturn (pc := 83) dX17_read_83 rfl rfl h
  · refine r_aload_n (pc := 13) dX17_read_13 0 rfl rfl ?_
    refine r_aload_n (pc := 14) dX17_read_14 0 rfl rfl ?_
    refine r_ldcS (pc := 15) dX17_read_15 0 rfl ?_
    refine r_callI (pc := 17) (rest := [vr v0]) (lkV dX17_read_17 q1108 xd_X17_is (vc_of vt_X17_is q764 (fun _ => sX5_is)) adx_X17_is) (by decide) (Nat.le_of_ble_eq_true rfl) rfl h (fun x17 st e17 h => ?_)
    refine r_iconst (pc := 20) (v := 1) dX17_read_20 (by decide) ?_
    refine r_callVx (pc := 21) (rest := []) (lkV dX17_read_21 q1111 xd_X17_need (vc_of vt_X17_need q782 (fun _ => sX5_need)) adx_X17_need) (by decide) (Nat.le_of_ble_eq_true rfl) rfl (by decide) (fun _ => rfl) h (fun u21 st e21 h => ?_)
    refine r_aload_n (pc := 24) dX17_read_24 0 rfl rfl ?_
    refine r_aload_n (pc := 25) dX17_read_25 0 rfl rfl ?_
    refine r_gA (pc := 26) dX17_read_26 q1085 fd_149 same_rf h (fun x26 e26 h => ?_)
    refine r_callI (pc := 29) (rest := [vr v0]) (lkV dX17_read_29 q1114 xd_J3_size (vc_of vt_J3_size q1115 (fun _ => sJ3_size)) adx_J3_size) (by decide) (Nat.le_of_ble_eq_true rfl) rfl h (fun x29 st e29 h => ?_)
    refine r_bipush (pc := 32) (v := 30) dX17_read_32 (by decide) ?_
    refine r_icmp_ge (pc := 34) (tgt := 41) dX17_read_34 (by decide) h (fun e34 h => ?_) (fun e34 h => ?_)
    · refine r_iconst (pc := 41) (v := 0) dX17_read_41 (by decide) ?_
      exact sX17_read_42 hk6 _ _ _ _ _ h
    · refine r_iconst (pc := 37) (v := 1) dX17_read_37 (by decide) ?_
      refine r_goto (pc := 38) (tgt := 42) dX17_read_38 (by decide) ?_
      exact sX17_read_42 hk6 _ _ _ _ _ h
theorem sX17_read_6 {st0 : Mem} {fin : (Rf ⊕ Nat) × Mem} (n : Nat) : ∀ (v0 : Rf) (v1 : Int32) (st : Mem), bX17_read_6 n v0 v1 st = some fin → G (cX17_read, "HouseClaps$CueReader", "read", 24, (some (.object "java/util/ArrayList")), 2) st0 trAx fin 6 [(0, vr v0), (1, vi v1)] [] st := by
  induction n with
  | zero => intro v0 v1 st h; cases h
  | succ n ih => intro v0 v1 st h; exact sX17_read_6B  ih v0 v1 st h
theorem sX17_read {a0 : Rf} {st : Mem} {fin : (Rf ⊕ Nat) × Mem} (h : fX17_read a0 st = some fin) : Con yX17_read 24 [vr a0] st trAx fin := by
  refine Con.mk (cc := cX17_read) (n := 2) (own := "HouseClaps$CueReader") (nm := "read") (ret := (some (.object "java/util/ArrayList"))) (env := [(0, vr a0)]) q1103 rfl rfl rfl (by decide) ⟨Nat.le_of_ble_eq_true rfl, by decide⟩ rfl ?_
  unfold fX17_read at h
  refine r_aload_n (pc := 0) dX17_read_0 0 rfl rfl ?_
  refine r_callV (pc := 1) (rest := []) (lkV dX17_read_1 q1104 xd_X17_go (vc_of vt_X17_go q493 (fun _ => sX5_go)) adx_X17_go) (by decide) (Nat.le_of_ble_eq_true rfl) rfl h (fun u1 st e1 h => ?_)
  refine r_iconst (pc := 4) (v := 0) dX17_read_4 (by decide) ?_
  refine r_istore_n (pc := 5) (env' := [(1, vi (0 : Int32)), (0, vr a0)]) dX17_read_5 rfl (by decide) rfl ?_
  exact r_sub (env' := [(0, vr a0), (1, vi (0 : Int32))]) [1, 0] rfl (sX17_read_6 hcFuel _ _ _ h)
theorem sX6_one_173 {st0 : Mem} {fin : (Rf ⊕ Nat) × Mem} {rc : Rf → Mem → Option ((Rf ⊕ Nat) × Mem)} {lr : Nat} (hlr : 24 ≤ lr) (hrc : ∀ (a : Rf) (st : Mem) (fin : (Rf ⊕ Nat) × Mem), rc a st = some fin → Con yX6_one lr [vr a] st trAx fin) (v0 : Rf) (v5 : Rf) (st : Mem) (h : bX6_one_173 rc v0 v5 st = some fin) : G (cX6_one, "HouseClaps$HouseReader", "one", (lr + 3), (some (.object "HouseClaps$Cond")), 6) st0 trAx fin 173 [(0, vr v0), (5, vr v5)] [] st := by
  unfold bX6_one_173 at h
  refine r_aload_n (pc := 173) dX6_one_173 0 rfl rfl ?_
  refine r_dup (pc := 174) dX6_one_174 rfl ?_
  refine r_gI (pc := 175) dX6_one_175 q436 fd_138 same_rf h (fun x175 e175 h => ?_)
  refine r_iconst (pc := 178) (v := 1) dX6_one_178 (by decide) ?_
  refine r_isub (pc := 179) dX6_one_179 ?_
  refine r_pI (pc := 180) dX6_one_180 q436 fd_138 same_rf rfl h (fun st e180 h => ?_)
  refine r_aload (pc := 183) dX6_one_183 1 rfl ?_
  exact r_areturn (pc := 185) dX6_one_185 rfl rfl h
theorem sX6_one_88 {st0 : Mem} {fin : (Rf ⊕ Nat) × Mem} {rc : Rf → Mem → Option ((Rf ⊕ Nat) × Mem)} {lr : Nat} (hlr : 24 ≤ lr) (hrc : ∀ (a : Rf) (st : Mem) (fin : (Rf ⊕ Nat) × Mem), rc a st = some fin → Con yX6_one lr [vr a] st trAx fin) (v0 : Rf) (v1 : Int32) (v2 : Int32) (v3 : Int32) (v4 : Int32) (k0 : Rf) (k1 : Int32) (st : Mem) (h : bX6_one_88 rc v0 v1 v2 v3 v4 k0 k1 st = some fin) : G (cX6_one, "HouseClaps$HouseReader", "one", (lr + 3), (some (.object "HouseClaps$Cond")), 6) st0 trAx fin 88 [(0, vr v0), (1, vi v1), (2, vi v2), (3, vi v3), (4, vi v4)] [vi k1, vr k0] st := by
  unfold bX6_one_88 at h
  refine r_iconst (pc := 88) (v := 4) dX6_one_88 (by decide) ?_
  refine r_callVx (pc := 89) (rest := []) (lkV dX6_one_89 q778 xd_X6_need (vc_of vt_X6_need q782 (fun _ => sX5_need)) adx_X6_need) (by omega) (Nat.le_of_ble_eq_true rfl) rfl (by decide) (fun _ => rfl) h (fun u89 st e89 h => ?_)
  refine r_aload_n (pc := 92) dX6_one_92 0 rfl rfl ?_
  refine r_dup (pc := 93) dX6_one_93 rfl ?_
  refine r_gI (pc := 94) dX6_one_94 q435 fd_137 same_rf h (fun x94 e94 h => ?_)
  refine r_iconst (pc := 97) (v := 1) dX6_one_97 (by decide) ?_
  refine r_iadd (pc := 98) dX6_one_98 ?_
  refine r_pI (pc := 99) dX6_one_99 q435 fd_137 same_rf rfl h (fun st e99 h => ?_)
  refine r_aload_n (pc := 102) dX6_one_102 0 rfl rfl ?_
  refine r_dup (pc := 103) dX6_one_103 rfl ?_
  refine r_gI (pc := 104) dX6_one_104 q436 fd_138 same_rf h (fun x104 e104 h => ?_)
  refine r_iconst (pc := 107) (v := 1) dX6_one_107 (by decide) ?_
  refine r_iadd (pc := 108) dX6_one_108 ?_
  refine r_pI (pc := 109) dX6_one_109 q436 fd_138 same_rf rfl h (fun st e109 h => ?_)
  refine r_aload_n (pc := 112) dX6_one_112 0 rfl rfl ?_
  refine r_callV (pc := 113) (rest := []) (lkV dX6_one_113 q489 xd_X6_go (vc_of vt_X6_go q493 (fun _ => sX5_go)) adx_X6_go) (by omega) (Nat.le_of_ble_eq_true rfl) rfl h (fun u113 st e113 h => ?_)
  refine r_iload_n (pc := 116) dX6_one_116 1 rfl rfl ?_
  refine r_if_eq (pc := 117) (tgt := 144) dX6_one_117 (by decide) h (fun e117 h => ?_) (fun e117 h => ?_)
  · refine r_iload_n (pc := 144) dX6_one_144 2 rfl rfl ?_
    refine r_if_eq (pc := 145) (tgt := 164) dX6_one_145 (by decide) h (fun e145 h => ?_) (fun e145 h => ?_)
    · refine r_aload_n (pc := 164) dX6_one_164 0 rfl rfl ?_
      refine r_iload (pc := 165) dX6_one_165 4 rfl ?_
      refine r_iload_n (pc := 167) dX6_one_167 3 rfl rfl ?_
      refine r_callAx (pc := 168) (rest := []) (lkV dX6_one_168 q910 xd_X6_compare (vc_of vt_X6_compare q912 (fun _ => sX6_compare)) adx_X6_compare) (by omega) (Nat.le_of_ble_eq_true rfl) rfl (by decide) (fun _ => rfl) h (fun x168 st e168 h => ?_)
      refine r_astore (pc := 171) (env' := [(5, vr x168), (0, vr v0), (1, vi v1), (2, vi v2), (3, vi v3), (4, vi v4)]) dX6_one_171 (by decide) rfl ?_
      exact r_sub (env' := [(0, vr v0), (5, vr x168)]) [1, 0] rfl (sX6_one_173 hlr hrc _ _ _ h)
    · refine r_new (pc := 148) dX6_one_148 q897 rfl h (fun x148 st e148 h => ?_)
      refine r_dup (pc := 151) dX6_one_151 rfl ?_
      refine r_aload_n (pc := 152) dX6_one_152 0 rfl rfl ?_
      refine r_callAx (pc := 153) (rest := [vr x148, vr x148]) (lkV dX6_one_153 q874 xd_X6_one (vc_of vt_X6_one q876 (fun _ => hrc _ _ _)) adx_X6_one) (by omega) (Nat.le_of_ble_eq_true rfl) rfl (by decide) (fun _ => rfl) h (fun x153 st e153 h => ?_)
      refine r_callV (pc := 156) (rest := [vr x148]) (lkI dX6_one_156 q899 q900 q901 rfl (fun _ => sX9_init) ad_X9_init) (by omega) (Nat.le_of_ble_eq_true rfl) rfl h (fun u156 st e156 h => ?_)
      refine r_astore (pc := 159) (env' := [(5, vr x148), (0, vr v0), (1, vi v1), (2, vi v2), (3, vi v3), (4, vi v4)]) dX6_one_159 (by decide) rfl ?_
      refine r_goto (pc := 161) (tgt := 173) dX6_one_161 (by decide) ?_
      exact r_sub (env' := [(0, vr v0), (5, vr x148)]) [1, 0] rfl (sX6_one_173 hlr hrc _ _ _ h)
  · refine r_aload_n (pc := 120) dX6_one_120 0 rfl rfl ?_
    refine r_callAx (pc := 121) (rest := []) (lkV dX6_one_121 q866 xd_X6_or (vc_of vt_X6_or q868 (fun _ => sX6_or hlr hrc)) adx_X6_or) (by omega) (Nat.le_of_ble_eq_true rfl) rfl (by decide) (fun _ => rfl) h (fun x121 st e121 h => ?_)
    refine r_astore (pc := 124) (env' := [(5, vr x121), (0, vr v0), (1, vi v1), (2, vi v2), (3, vi v3), (4, vi v4)]) dX6_one_124 (by decide) rfl ?_
    refine r_aload_n (pc := 126) dX6_one_126 1 rfl rfl ?_
    refine r_aload_n (pc := 127) dX6_one_127 1 rfl rfl ?_
    refine r_bipush (pc := 128) (v := 41) dX6_one_128 (by decide) ?_
    refine r_callI (pc := 130) (rest := [vr v0]) (lkV dX6_one_130 q878 xd_X6_isSign (vc_of vt_X6_isSign q882 (fun _ => sX5_isSign)) adx_X6_isSign) (by omega) (Nat.le_of_ble_eq_true rfl) rfl h (fun x130 st e130 h => ?_)
    refine r_iconst (pc := 133) (v := 1) dX6_one_133 (by decide) ?_
    refine r_callVx (pc := 134) (rest := []) (lkV dX6_one_134 q778 xd_X6_need (vc_of vt_X6_need q782 (fun _ => sX5_need)) adx_X6_need) (by omega) (Nat.le_of_ble_eq_true rfl) rfl (by decide) (fun _ => rfl) h (fun u134 st e134 h => ?_)
    refine r_aload_n (pc := 137) dX6_one_137 1 rfl rfl ?_
    refine r_callV (pc := 138) (rest := []) (lkV dX6_one_138 q489 xd_X6_go (vc_of vt_X6_go q493 (fun _ => sX5_go)) adx_X6_go) (by omega) (Nat.le_of_ble_eq_true rfl) rfl h (fun u138 st e138 h => ?_)
    refine r_goto (pc := 141) (tgt := 173) dX6_one_141 (by decide) ?_
    exact r_sub (env' := [(0, vr v0), (5, vr x121)]) [1, 0] rfl (sX6_one_173 hlr hrc _ _ _ h)
theorem sX6_one_87 {st0 : Mem} {fin : (Rf ⊕ Nat) × Mem} {rc : Rf → Mem → Option ((Rf ⊕ Nat) × Mem)} {lr : Nat} (hlr : 24 ≤ lr) (hrc : ∀ (a : Rf) (st : Mem) (fin : (Rf ⊕ Nat) × Mem), rc a st = some fin → Con yX6_one lr [vr a] st trAx fin) (v0 : Rf) (v1 : Int32) (v2 : Int32) (v3 : Int32) (v4 : Int32) (k0 : Rf) (st : Mem) (h : bX6_one_87 rc v0 v1 v2 v3 v4 k0 st = some fin) : G (cX6_one, "HouseClaps$HouseReader", "one", (lr + 3), (some (.object "HouseClaps$Cond")), 6) st0 trAx fin 87 [(0, vr v0), (1, vi v1), (2, vi v2), (3, vi v3), (4, vi v4)] [vr k0] st := by
  unfold bX6_one_87 at h
  refine r_iconst (pc := 87) (v := 0) dX6_one_87 (by decide) ?_
  exact sX6_one_88 hlr hrc _ _ _ _ _ _ _ _ h
theorem sX6_one_60 {st0 : Mem} {fin : (Rf ⊕ Nat) × Mem} {rc : Rf → Mem → Option ((Rf ⊕ Nat) × Mem)} {lr : Nat} (hlr : 24 ≤ lr) (hrc : ∀ (a : Rf) (st : Mem) (fin : (Rf ⊕ Nat) × Mem), rc a st = some fin → Con yX6_one lr [vr a] st trAx fin) (v0 : Rf) (v1 : Int32) (v2 : Int32) (v3 : Int32) (v4 : Int32) (k0 : Rf) (k1 : Int32) (st : Mem) (h : bX6_one_60 rc v0 v1 v2 v3 v4 k0 k1 st = some fin) : G (cX6_one, "HouseClaps$HouseReader", "one", (lr + 3), (some (.object "HouseClaps$Cond")), 6) st0 trAx fin 60 [(0, vr v0), (1, vi v1), (2, vi v2), (3, vi v3), (4, vi v4)] [vi k1, vr k0] st := by
  unfold bX6_one_60 at h
  refine r_iconst (pc := 60) (v := 1) dX6_one_60 (by decide) ?_
  refine r_callVx (pc := 61) (rest := []) (lkV dX6_one_61 q778 xd_X6_need (vc_of vt_X6_need q782 (fun _ => sX5_need)) adx_X6_need) (by omega) (Nat.le_of_ble_eq_true rfl) rfl (by decide) (fun _ => rfl) h (fun u61 st e61 h => ?_)
  refine r_aload_n (pc := 64) dX6_one_64 0 rfl rfl ?_
  refine r_aload_n (pc := 65) dX6_one_65 0 rfl rfl ?_
  refine r_gI (pc := 66) dX6_one_66 q435 fd_137 same_rf h (fun x66 e66 h => ?_)
  refine r_bipush (pc := 69) (v := 20) dX6_one_69 (by decide) ?_
  refine r_icmp_ge (pc := 71) (tgt := 87) dX6_one_71 (by decide) h (fun e71 h => ?_) (fun e71 h => ?_)
  · exact sX6_one_87 hlr hrc _ _ _ _ _ _ _ h
  · refine r_aload_n (pc := 74) dX6_one_74 0 rfl rfl ?_
    refine r_gI (pc := 75) dX6_one_75 q436 fd_138 same_rf h (fun x75 e75 h => ?_)
    refine r_bipush (pc := 78) (v := 8) dX6_one_78 (by decide) ?_
    refine r_icmp_ge (pc := 80) (tgt := 87) dX6_one_80 (by decide) h (fun e80 h => ?_) (fun e80 h => ?_)
    · exact sX6_one_87 hlr hrc _ _ _ _ _ _ _ h
    · refine r_iconst (pc := 83) (v := 1) dX6_one_83 (by decide) ?_
      refine r_goto (pc := 84) (tgt := 88) dX6_one_84 (by decide) ?_
      exact sX6_one_88 hlr hrc _ _ _ _ _ _ _ _ h
theorem sX6_one_55 {st0 : Mem} {fin : (Rf ⊕ Nat) × Mem} {rc : Rf → Mem → Option ((Rf ⊕ Nat) × Mem)} {lr : Nat} (hlr : 24 ≤ lr) (hrc : ∀ (a : Rf) (st : Mem) (fin : (Rf ⊕ Nat) × Mem), rc a st = some fin → Con yX6_one lr [vr a] st trAx fin) (v0 : Rf) (v1 : Int32) (v2 : Int32) (v3 : Int32) (v4 : Int32) (k0 : Rf) (st : Mem) (h : bX6_one_55 rc v0 v1 v2 v3 v4 k0 st = some fin) : G (cX6_one, "HouseClaps$HouseReader", "one", (lr + 3), (some (.object "HouseClaps$Cond")), 6) st0 trAx fin 55 [(0, vr v0), (1, vi v1), (2, vi v2), (3, vi v3), (4, vi v4)] [vr k0] st := by
  unfold bX6_one_55 at h
  refine r_iconst (pc := 55) (v := 1) dX6_one_55 (by decide) ?_
  refine r_goto (pc := 56) (tgt := 60) dX6_one_56 (by decide) ?_
  exact sX6_one_60 hlr hrc _ _ _ _ _ _ _ _ h
theorem sX6_one {rc : Rf → Mem → Option ((Rf ⊕ Nat) × Mem)} {lr : Nat} (hlr : 24 ≤ lr) (hrc : ∀ (a : Rf) (st : Mem) (fin : (Rf ⊕ Nat) × Mem), rc a st = some fin → Con yX6_one lr [vr a] st trAx fin) {a0 : Rf} {st : Mem} {fin : (Rf ⊕ Nat) × Mem} (h : fX6_one rc a0 st = some fin) : Con yX6_one (lr + 3) [vr a0] st trAx fin := by
  refine Con.mk (cc := cX6_one) (n := 6) (own := "HouseClaps$HouseReader") (nm := "one") (ret := (some (.object "HouseClaps$Cond"))) (env := [(0, vr a0)]) q877 rfl rfl rfl (by decide) ⟨Nat.le_of_ble_eq_true rfl, by decide⟩ rfl ?_
  unfold fX6_one at h
  refine r_aload_n (pc := 0) dX6_one_0 0 rfl rfl ?_
  refine r_bipush (pc := 1) (v := 40) dX6_one_1 (by decide) ?_
  refine r_callI (pc := 3) (rest := []) (lkV dX6_one_3 q878 xd_X6_isSign (vc_of vt_X6_isSign q882 (fun _ => sX5_isSign)) adx_X6_isSign) (by omega) (Nat.le_of_ble_eq_true rfl) rfl h (fun x3 st e3 h => ?_)
  refine r_istore_n (pc := 6) (env' := [(1, vi x3), (0, vr a0)]) dX6_one_6 rfl (by decide) rfl ?_
  refine r_aload_n (pc := 7) dX6_one_7 1 rfl rfl ?_
  refine r_ldcS (pc := 8) dX6_one_8 21 rfl ?_
  refine r_callI (pc := 10) (rest := []) (lkV dX6_one_10 q760 xd_X6_is (vc_of vt_X6_is q764 (fun _ => sX5_is)) adx_X6_is) (by omega) (Nat.le_of_ble_eq_true rfl) rfl h (fun x10 st e10 h => ?_)
  refine r_istore_n (pc := 13) (env' := [(2, vi x10), (1, vi x3), (0, vr a0)]) dX6_one_13 rfl (by decide) rfl ?_
  refine r_aload_n (pc := 14) dX6_one_14 2 rfl rfl ?_
  refine r_ldcS (pc := 15) dX6_one_15 22 rfl ?_
  refine r_callI (pc := 17) (rest := []) (lkV dX6_one_17 q760 xd_X6_is (vc_of vt_X6_is q764 (fun _ => sX5_is)) adx_X6_is) (by omega) (Nat.le_of_ble_eq_true rfl) rfl h (fun x17 st e17 h => ?_)
  refine r_istore_n (pc := 20) (env' := [(3, vi x17), (2, vi x10), (1, vi x3), (0, vr a0)]) dX6_one_20 rfl (by decide) rfl ?_
  refine r_aload_n (pc := 21) dX6_one_21 3 rfl rfl ?_
  refine r_callI (pc := 22) (rest := []) (lkV dX6_one_22 q886 xd_X6_areaAtHand (vc_of vt_X6_areaAtHand q888 (fun _ => sX6_areaAtHand)) adx_X6_areaAtHand) (by omega) (Nat.le_of_ble_eq_true rfl) rfl h (fun x22 st e22 h => ?_)
  refine r_istore (pc := 25) (env' := [(4, vi x22), (3, vi x17), (2, vi x10), (1, vi x3), (0, vr a0)]) dX6_one_25 (by decide) rfl ?_
  refine r_aload_n (pc := 27) dX6_one_27 4 rfl rfl ?_
  refine r_iload_n (pc := 28) dX6_one_28 3 rfl rfl ?_
  refine r_if_ne (pc := 29) (tgt := 55) dX6_one_29 (by decide) h (fun e29 h => ?_) (fun e29 h => ?_)
  · exact r_sub (env' := [(0, vr a0), (1, vi x3), (2, vi x10), (3, vi x17), (4, vi x22)]) [4, 3, 2, 1, 0] rfl (sX6_one_55 hlr hrc _ _ _ _ _ _ _ h)
  · refine r_iload_n (pc := 32) dX6_one_32 2 rfl rfl ?_
    refine r_if_ne (pc := 33) (tgt := 55) dX6_one_33 (by decide) h (fun e33 h => ?_) (fun e33 h => ?_)
    · exact r_sub (env' := [(0, vr a0), (1, vi x3), (2, vi x10), (3, vi x17), (4, vi x22)]) [4, 3, 2, 1, 0] rfl (sX6_one_55 hlr hrc _ _ _ _ _ _ _ h)
    · refine r_iload_n (pc := 36) dX6_one_36 1 rfl rfl ?_
      refine r_if_ne (pc := 37) (tgt := 55) dX6_one_37 (by decide) h (fun e37 h => ?_) (fun e37 h => ?_)
      · exact r_sub (env' := [(0, vr a0), (1, vi x3), (2, vi x10), (3, vi x17), (4, vi x22)]) [4, 3, 2, 1, 0] rfl (sX6_one_55 hlr hrc _ _ _ _ _ _ _ h)
      · refine r_aload_n (pc := 40) dX6_one_40 4 rfl rfl ?_
        refine r_ldcS (pc := 41) dX6_one_41 23 rfl ?_
        refine r_callI (pc := 43) (rest := [vr a0]) (lkV dX6_one_43 q760 xd_X6_is (vc_of vt_X6_is q764 (fun _ => sX5_is)) adx_X6_is) (by omega) (Nat.le_of_ble_eq_true rfl) rfl h (fun x43 st e43 h => ?_)
        refine r_if_ne (pc := 46) (tgt := 55) dX6_one_46 (by decide) h (fun e46 h => ?_) (fun e46 h => ?_)
        · exact r_sub (env' := [(0, vr a0), (1, vi x3), (2, vi x10), (3, vi x17), (4, vi x22)]) [4, 3, 2, 1, 0] rfl (sX6_one_55 hlr hrc _ _ _ _ _ _ _ h)
        · refine r_iload (pc := 49) dX6_one_49 0 rfl ?_
          refine r_iconst (pc := 51) (v := (-1)) dX6_one_51 (by decide) ?_
          refine r_icmp_eq (pc := 52) (tgt := 59) dX6_one_52 (by decide) h (fun e52 h => ?_) (fun e52 h => ?_)
          · refine r_iconst (pc := 59) (v := 0) dX6_one_59 (by decide) ?_
            exact r_sub (env' := [(0, vr a0), (1, vi x3), (2, vi x10), (3, vi x17), (4, vi x22)]) [4, 3, 2, 1, 0] rfl (sX6_one_60 hlr hrc _ _ _ _ _ _ _ _ h)
          · exact r_sub (env' := [(0, vr a0), (1, vi x3), (2, vi x10), (3, vi x17), (4, vi x22)]) [4, 3, 2, 1, 0] rfl (sX6_one_55 hlr hrc _ _ _ _ _ _ _ h)
theorem sX1_anyway {a0 : Rf} {a1 : Int32} {st : Mem} {fin : Int32 × Mem} (h : fX1_anyway a0 a1 st = some fin) : Con yX1_anyway 82 [vr a0, vi a1] st trI fin := by
  refine Con.mk (cc := cX1_anyway) (n := 2) (own := "HouseClaps") (nm := "anyway") (ret := (some .int)) (env := [(0, vr a0), (1, vi a1)]) q1406 rfl rfl rfl (by decide) ⟨Nat.le_of_ble_eq_true rfl, by decide⟩ rfl ?_
  unfold fX1_anyway at h
  refine r_iload_n (pc := 0) dX1_anyway_0 1 rfl rfl ?_
  refine r_callI (pc := 1) (rest := []) (lkS dX1_anyway_1 q1238 q1239 q85 (fun _ => sX1_isMoment) ad_X1_isMoment) (by decide) (Nat.le_of_ble_eq_true rfl) rfl h (fun x1 st e1 h => ?_)
  refine r_if_ne (pc := 4) (tgt := 9) dX1_anyway_4 (by decide) h (fun e4 h => ?_) (fun e4 h => ?_)
  · refine r_aload_n (pc := 9) dX1_anyway_9 0 rfl rfl ?_
    refine r_callA (pc := 10) (rest := []) (lkV dX1_anyway_10 q1241 xd_X1_tonight (vc_of vt_X1_tonight q1243 (fun _ => sX1_tonight)) adx_X1_tonight) (by decide) (Nat.le_of_ble_eq_true rfl) rfl h (fun x10 st e10 h => ?_)
    refine r_iload_n (pc := 13) dX1_anyway_13 1 rfl rfl ?_
    refine r_callA (pc := 14) (rest := []) (lkV dX1_anyway_14 q1310 xd_X3_to (vc_of vt_X3_to q1311 (fun _ => sX3_to)) adx_X3_to) (by decide) (Nat.le_of_ble_eq_true rfl) rfl h (fun x14 st e14 h => ?_)
    refine r_gAN (pc := 17) dX1_anyway_17 q283 fd_53 same_rf h (fun x17 e17 h => ?_)
    refine r_iconst (pc := 20) (v := 2) dX1_anyway_20 (by decide) ?_
    refine r_laload (pc := 21) dX1_anyway_21 h (fun x21 e21 h => ?_)
    refine r_aload_n (pc := 22) dX1_anyway_22 0 rfl rfl ?_
    refine r_gA (pc := 23) dX1_anyway_23 q323 fd_9 same_rf h (fun x23 e23 h => ?_)
    refine r_aload_n (pc := 26) dX1_anyway_26 0 rfl rfl ?_
    refine r_gA (pc := 27) dX1_anyway_27 q318 fd_4 same_rf h (fun x27 e27 h => ?_)
    refine r_aload_n (pc := 30) dX1_anyway_30 0 rfl rfl ?_
    refine r_gA (pc := 31) dX1_anyway_31 q321 fd_7 same_rf h (fun x31 e31 h => ?_)
    refine r_lconst (pc := 34) (v := 0) dX1_anyway_34 (by decide) ?_
    refine r_aload_n (pc := 35) dX1_anyway_35 0 rfl rfl ?_
    refine r_gJ (pc := 36) dX1_anyway_36 q320 fd_6 same_rf h (fun x36 e36 h => ?_)
    refine r_callA (pc := 39) (rest := [vj x21]) (lkV dX1_anyway_39 q1245 xd_X3_begin (vc_of vt_X3_begin q1246 (fun _ => sX3_begin)) adx_X3_begin) (by decide) (Nat.le_of_ble_eq_true rfl) rfl h (fun x39 st e39 h => ?_)
    refine r_iload_n (pc := 42) dX1_anyway_42 1 rfl rfl ?_
    refine r_callA (pc := 43) (rest := [vj x21]) (lkV dX1_anyway_43 q1310 xd_X3_to (vc_of vt_X3_to q1311 (fun _ => sX3_to)) adx_X3_to) (by decide) (Nat.le_of_ble_eq_true rfl) rfl h (fun x43 st e43 h => ?_)
    refine r_gAN (pc := 46) dX1_anyway_46 q283 fd_53 same_rf h (fun x46 e46 h => ?_)
    refine r_iconst (pc := 49) (v := 2) dX1_anyway_49 (by decide) ?_
    refine r_laload (pc := 50) dX1_anyway_50 h (fun x50 e50 h => ?_)
    refine r_land (pc := 51) dX1_anyway_51 ?_
    refine r_callI (pc := 52) (rest := []) (lkS dX1_anyway_52 q1372 q1351 q126 (fun _ => sJ18_bitCount) ad_J18_bitCount) (by decide) (Nat.le_of_ble_eq_true rfl) rfl h (fun x52 st e52 h => ?_)
    exact r_ireturn (pc := 55) dX1_anyway_55 rfl rfl h
  · refine r_iconst (pc := 7) (v := (-1)) dX1_anyway_7 (by decide) ?_
    exact r_ireturn (pc := 8) dX1_anyway_8 rfl rfl h
theorem sX1_at {a0 : Rf} {a1 : Int32} {a2 : Int32} {a3 : Int32} {st : Mem} {fin : Int32 × Mem} (h : fX1_at a0 a1 a2 a3 st = some fin) : Con yX1_at 82 [vr a0, vi a1, vi a2, vi a3] st trI fin := by
  refine Con.mk (cc := cX1_at) (n := 5) (own := "HouseClaps") (nm := "at") (ret := (some .int)) (env := [(0, vr a0), (1, vi a1), (2, vi a2), (3, vi a3)]) q1376 rfl rfl rfl (by decide) ⟨Nat.le_of_ble_eq_true rfl, by decide⟩ rfl ?_
  unfold fX1_at at h
  refine r_aload_n (pc := 0) dX1_at_0 0 rfl rfl ?_
  refine r_gA (pc := 1) dX1_at_1 q318 fd_4 same_rf h (fun x1 e1 h => ?_)
  refine r_iload_n (pc := 4) dX1_at_4 1 rfl rfl ?_
  refine r_callI (pc := 5) (rest := []) (lkV dX1_at_5 q1060 xd_X2_isSeat (vc_of vt_X2_isSeat q1061 (fun _ => sX2_isSeat)) adx_X2_isSeat) (by decide) (Nat.le_of_ble_eq_true rfl) rfl h (fun x5 st e5 h => ?_)
  refine r_if_eq (pc := 8) (tgt := 27) dX1_at_8 (by decide) h (fun e8 h => ?_) (fun e8 h => ?_)
  · refine r_iconst (pc := 27) (v := (-1)) dX1_at_27 (by decide) ?_
    exact r_ireturn (pc := 28) dX1_at_28 rfl rfl h
  · refine r_iload_n (pc := 11) dX1_at_11 2 rfl rfl ?_
    refine r_callI (pc := 12) (rest := []) (lkS dX1_at_12 q1238 q1239 q85 (fun _ => sX1_isMoment) ad_X1_isMoment) (by decide) (Nat.le_of_ble_eq_true rfl) rfl h (fun x12 st e12 h => ?_)
    refine r_if_eq (pc := 15) (tgt := 27) dX1_at_15 (by decide) h (fun e15 h => ?_) (fun e15 h => ?_)
    · refine r_iconst (pc := 27) (v := (-1)) dX1_at_27 (by decide) ?_
      exact r_ireturn (pc := 28) dX1_at_28 rfl rfl h
    · refine r_iload_n (pc := 18) dX1_at_18 3 rfl rfl ?_
      refine r_iconst (pc := 19) (v := 0) dX1_at_19 (by decide) ?_
      refine r_iconst (pc := 20) (v := 1) dX1_at_20 (by decide) ?_
      refine r_callI (pc := 21) (rest := []) (lkS dX1_at_21 q1055 q928 q85 (fun _ => sX1_isIn) ad_X1_isIn) (by decide) (Nat.le_of_ble_eq_true rfl) rfl h (fun x21 st e21 h => ?_)
      refine r_if_ne (pc := 24) (tgt := 29) dX1_at_24 (by decide) h (fun e24 h => ?_) (fun e24 h => ?_)
      · refine r_aload_n (pc := 29) dX1_at_29 0 rfl rfl ?_
        refine r_callA (pc := 30) (rest := []) (lkV dX1_at_30 q1241 xd_X1_tonight (vc_of vt_X1_tonight q1243 (fun _ => sX1_tonight)) adx_X1_tonight) (by decide) (Nat.le_of_ble_eq_true rfl) rfl h (fun x30 st e30 h => ?_)
        refine r_iload_n (pc := 33) dX1_at_33 2 rfl rfl ?_
        refine r_callA (pc := 34) (rest := []) (lkV dX1_at_34 q1310 xd_X3_to (vc_of vt_X3_to q1311 (fun _ => sX3_to)) adx_X3_to) (by decide) (Nat.le_of_ble_eq_true rfl) rfl h (fun x34 st e34 h => ?_)
        refine r_astore (pc := 37) (env' := [(4, vr x34), (0, vr a0), (1, vi a1), (2, vi a2), (3, vi a3)]) dX1_at_37 (by decide) rfl ?_
        refine r_iload_n (pc := 39) dX1_at_39 4 rfl rfl ?_
        refine r_if_ne (pc := 40) (tgt := 53) dX1_at_40 (by decide) h (fun e40 h => ?_) (fun e40 h => ?_)
        · refine r_aload (pc := 53) dX1_at_53 0 rfl ?_
          refine r_gAN (pc := 55) dX1_at_55 q280 fd_51 same_rf h (fun x55 e55 h => ?_)
          refine r_iload_n (pc := 58) dX1_at_58 2 rfl rfl ?_
          refine r_iaload (pc := 59) dX1_at_59 h (fun x59 e59 h => ?_)
          exact r_ireturn (pc := 60) dX1_at_60 rfl rfl h
        · refine r_aload (pc := 43) dX1_at_43 0 rfl ?_
          refine r_gAN (pc := 45) dX1_at_45 q276 fd_49 same_rf h (fun x45 e45 h => ?_)
          refine r_iload_n (pc := 48) dX1_at_48 2 rfl rfl ?_
          refine r_iaload (pc := 49) dX1_at_49 h (fun x49 e49 h => ?_)
          refine r_goto (pc := 50) (tgt := 60) dX1_at_50 (by decide) ?_
          exact r_ireturn (pc := 60) dX1_at_60 rfl rfl h
      · refine r_iconst (pc := 27) (v := (-1)) dX1_at_27 (by decide) ?_
        exact r_ireturn (pc := 28) dX1_at_28 rfl rfl h
theorem sX1_began_197 {st0 : Mem} {fin : Int32 × Mem} {kk79 : Rf → Int32 → Int32 → Int32 → Int32 → Mem → Option (Int32 × Mem)} (hk79 : ∀ (v0 : Rf) (v1 : Int32) (v2 : Int32) (v3 : Int32) (v4 : Int32) (st : Mem), kk79 v0 v1 v2 v3 v4 st = some fin → G (cX1_began, "HouseClaps", "began", 82, (some .int), 6) st0 trI fin 79 [(0, vr v0), (1, vi v1), (2, vi v2), (3, vi v3), (4, vi v4)] [] st) (v0 : Rf) (v1 : Int32) (v2 : Int32) (v3 : Int32) (v4 : Int32) (st : Mem) (h : bX1_began_197 kk79 v0 v1 v2 v3 v4 st = some fin) : G (cX1_began, "HouseClaps", "began", 82, (some .int), 6) st0 trI fin 197 [(0, vr v0), (1, vi v1), (2, vi v2), (3, vi v3), (4, vi v4)] [] st := by
  unfold bX1_began_197 at h
  refine r_iinc (pc := 197) (env' := [(4, vi (v4 + 1)), (0, vr v0), (1, vi v1), (2, vi v2), (3, vi v3)]) (cst := 1) dX1_began_197 4 rfl (by decide) (by decide) rfl ?_
  refine r_goto (pc := 200) (tgt := 79) dX1_began_200 (by decide) ?_
  exact r_sub (env' := [(0, vr v0), (1, vi v1), (2, vi v2), (3, vi v3), (4, vi (v4 + 1))]) [1, 2, 3, 4, 0] rfl (hk79 _ _ _ _ _ _ h)
theorem sX1_began_191 {st0 : Mem} {fin : Int32 × Mem} {kk79 : Rf → Int32 → Int32 → Int32 → Int32 → Mem → Option (Int32 × Mem)} {kk89 : Rf → Int32 → Int32 → Int32 → Int32 → Int32 → Mem → Option (Int32 × Mem)} (hk79 : ∀ (v0 : Rf) (v1 : Int32) (v2 : Int32) (v3 : Int32) (v4 : Int32) (st : Mem), kk79 v0 v1 v2 v3 v4 st = some fin → G (cX1_began, "HouseClaps", "began", 82, (some .int), 6) st0 trI fin 79 [(0, vr v0), (1, vi v1), (2, vi v2), (3, vi v3), (4, vi v4)] [] st) (hk89 : ∀ (v0 : Rf) (v1 : Int32) (v2 : Int32) (v3 : Int32) (v4 : Int32) (v5 : Int32) (st : Mem), kk89 v0 v1 v2 v3 v4 v5 st = some fin → G (cX1_began, "HouseClaps", "began", 82, (some .int), 6) st0 trI fin 89 [(0, vr v0), (1, vi v1), (2, vi v2), (3, vi v3), (4, vi v4), (5, vi v5)] [] st) (v0 : Rf) (v1 : Int32) (v2 : Int32) (v3 : Int32) (v4 : Int32) (v5 : Int32) (st : Mem) (h : bX1_began_191 kk79 kk89 v0 v1 v2 v3 v4 v5 st = some fin) : G (cX1_began, "HouseClaps", "began", 82, (some .int), 6) st0 trI fin 191 [(0, vr v0), (1, vi v1), (2, vi v2), (3, vi v3), (4, vi v4), (5, vi v5)] [] st := by
  unfold bX1_began_191 at h
  refine r_iinc (pc := 191) (env' := [(5, vi (v5 + 1)), (0, vr v0), (1, vi v1), (2, vi v2), (3, vi v3), (4, vi v4)]) (cst := 1) dX1_began_191 5 rfl (by decide) (by decide) rfl ?_
  refine r_goto (pc := 194) (tgt := 89) dX1_began_194 (by decide) ?_
  exact r_sub (env' := [(0, vr v0), (1, vi v1), (2, vi v2), (3, vi v3), (4, vi v4), (5, vi (v5 + 1))]) [1, 2, 3, 4, 5, 0] rfl (hk89 _ _ _ _ _ _ _ h)
theorem sX1_began_188 {st0 : Mem} {fin : Int32 × Mem} {kk79 : Rf → Int32 → Int32 → Int32 → Int32 → Mem → Option (Int32 × Mem)} {kk89 : Rf → Int32 → Int32 → Int32 → Int32 → Int32 → Mem → Option (Int32 × Mem)} (hk79 : ∀ (v0 : Rf) (v1 : Int32) (v2 : Int32) (v3 : Int32) (v4 : Int32) (st : Mem), kk79 v0 v1 v2 v3 v4 st = some fin → G (cX1_began, "HouseClaps", "began", 82, (some .int), 6) st0 trI fin 79 [(0, vr v0), (1, vi v1), (2, vi v2), (3, vi v3), (4, vi v4)] [] st) (hk89 : ∀ (v0 : Rf) (v1 : Int32) (v2 : Int32) (v3 : Int32) (v4 : Int32) (v5 : Int32) (st : Mem), kk89 v0 v1 v2 v3 v4 v5 st = some fin → G (cX1_began, "HouseClaps", "began", 82, (some .int), 6) st0 trI fin 89 [(0, vr v0), (1, vi v1), (2, vi v2), (3, vi v3), (4, vi v4), (5, vi v5)] [] st) (v0 : Rf) (v1 : Int32) (v2 : Int32) (v3 : Int32) (v4 : Int32) (v5 : Int32) (st : Mem) (h : bX1_began_188 kk79 kk89 v0 v1 v2 v3 v4 v5 st = some fin) : G (cX1_began, "HouseClaps", "began", 82, (some .int), 6) st0 trI fin 188 [(0, vr v0), (1, vi v1), (2, vi v2), (3, vi v3), (4, vi v4), (5, vi v5)] [] st := by
  unfold bX1_began_188 at h
  refine r_iinc (pc := 188) (env' := [(3, vi (v3 + 1)), (0, vr v0), (1, vi v1), (2, vi v2), (4, vi v4), (5, vi v5)]) (cst := 1) dX1_began_188 3 rfl (by decide) (by decide) rfl ?_
  exact r_sub (env' := [(0, vr v0), (1, vi v1), (2, vi v2), (3, vi (v3 + 1)), (4, vi v4), (5, vi v5)]) [1, 2, 3, 0, 4, 5] rfl (sX1_began_191 hk79 hk89 _ _ _ _ _ _ _ h)
theorem sX1_began_185 {st0 : Mem} {fin : Int32 × Mem} {kk79 : Rf → Int32 → Int32 → Int32 → Int32 → Mem → Option (Int32 × Mem)} {kk89 : Rf → Int32 → Int32 → Int32 → Int32 → Int32 → Mem → Option (Int32 × Mem)} (hk79 : ∀ (v0 : Rf) (v1 : Int32) (v2 : Int32) (v3 : Int32) (v4 : Int32) (st : Mem), kk79 v0 v1 v2 v3 v4 st = some fin → G (cX1_began, "HouseClaps", "began", 82, (some .int), 6) st0 trI fin 79 [(0, vr v0), (1, vi v1), (2, vi v2), (3, vi v3), (4, vi v4)] [] st) (hk89 : ∀ (v0 : Rf) (v1 : Int32) (v2 : Int32) (v3 : Int32) (v4 : Int32) (v5 : Int32) (st : Mem), kk89 v0 v1 v2 v3 v4 v5 st = some fin → G (cX1_began, "HouseClaps", "began", 82, (some .int), 6) st0 trI fin 89 [(0, vr v0), (1, vi v1), (2, vi v2), (3, vi v3), (4, vi v4), (5, vi v5)] [] st) (v0 : Rf) (v1 : Int32) (v2 : Int32) (v3 : Int32) (v4 : Int32) (v5 : Int32) (k0 : Rf) (k1 : Int32) (st : Mem) (h : bX1_began_185 kk79 kk89 v0 v1 v2 v3 v4 v5 k0 k1 st = some fin) : G (cX1_began, "HouseClaps", "began", 82, (some .int), 6) st0 trI fin 185 [(0, vr v0), (1, vi v1), (2, vi v2), (3, vi v3), (4, vi v4), (5, vi v5)] [vi k1, vr k0] st := by
  unfold bX1_began_185 at h
  refine r_pI (pc := 185) dX1_began_185 q335 fd_21 same_rf rfl h (fun st e185 h => ?_)
  exact sX1_began_188 hk79 hk89 _ _ _ _ _ _ _ h
theorem sX1_began_89B {st0 : Mem} {fin : Int32 × Mem} {kk79 : Rf → Int32 → Int32 → Int32 → Int32 → Mem → Option (Int32 × Mem)} {kk89 : Rf → Int32 → Int32 → Int32 → Int32 → Int32 → Mem → Option (Int32 × Mem)} (hk79 : ∀ (v0 : Rf) (v1 : Int32) (v2 : Int32) (v3 : Int32) (v4 : Int32) (st : Mem), kk79 v0 v1 v2 v3 v4 st = some fin → G (cX1_began, "HouseClaps", "began", 82, (some .int), 6) st0 trI fin 79 [(0, vr v0), (1, vi v1), (2, vi v2), (3, vi v3), (4, vi v4)] [] st) (hk89 : ∀ (v0 : Rf) (v1 : Int32) (v2 : Int32) (v3 : Int32) (v4 : Int32) (v5 : Int32) (st : Mem), kk89 v0 v1 v2 v3 v4 v5 st = some fin → G (cX1_began, "HouseClaps", "began", 82, (some .int), 6) st0 trI fin 89 [(0, vr v0), (1, vi v1), (2, vi v2), (3, vi v3), (4, vi v4), (5, vi v5)] [] st) (v0 : Rf) (v1 : Int32) (v2 : Int32) (v3 : Int32) (v4 : Int32) (v5 : Int32) (st : Mem) (h : bX1_began_89B kk79 kk89 v0 v1 v2 v3 v4 v5 st = some fin) : G (cX1_began, "HouseClaps", "began", 82, (some .int), 6) st0 trI fin 89 [(0, vr v0), (1, vi v1), (2, vi v2), (3, vi v3), (4, vi v4), (5, vi v5)] [] st := by
  unfold bX1_began_89B at h
  refine r_iload (pc := 89) dX1_began_89 5 rfl ?_
  refine r_iload_n (pc := 91) dX1_began_91 2 rfl rfl ?_
  refine r_icmp_ge (pc := 92) (tgt := 197) dX1_began_92 (by decide) h (fun e92 h => ?_) (fun e92 h => ?_)
  · exact r_sub (env' := [(0, vr v0), (1, vi v1), (2, vi v2), (3, vi v3), (4, vi v4)]) [0, 1, 2, 3, 4] rfl (sX1_began_197 hk79 _ _ _ _ _ _ h)
  · refine r_aload_n (pc := 95) dX1_began_95 0 rfl rfl ?_
    refine r_gA (pc := 96) dX1_began_96 q318 fd_4 same_rf h (fun x96 e96 h => ?_)
    refine r_iload (pc := 99) dX1_began_99 4 rfl ?_
    refine r_callI (pc := 101) (rest := []) (lkV dX1_began_101 q1060 xd_X2_isSeat (vc_of vt_X2_isSeat q1061 (fun _ => sX2_isSeat)) adx_X2_isSeat) (by decide) (Nat.le_of_ble_eq_true rfl) rfl h (fun x101 st e101 h => ?_)
    refine r_if_eq (pc := 104) (tgt := 197) dX1_began_104 (by decide) h (fun e104 h => ?_) (fun e104 h => ?_)
    · exact r_sub (env' := [(0, vr v0), (1, vi v1), (2, vi v2), (3, vi v3), (4, vi v4)]) [0, 1, 2, 3, 4] rfl (sX1_began_197 hk79 _ _ _ _ _ _ h)
    · refine r_aload_n (pc := 107) dX1_began_107 0 rfl rfl ?_
      refine r_gA (pc := 108) dX1_began_108 q318 fd_4 same_rf h (fun x108 e108 h => ?_)
      refine r_iload (pc := 111) dX1_began_111 5 rfl ?_
      refine r_callI (pc := 113) (rest := []) (lkV dX1_began_113 q1060 xd_X2_isSeat (vc_of vt_X2_isSeat q1061 (fun _ => sX2_isSeat)) adx_X2_isSeat) (by decide) (Nat.le_of_ble_eq_true rfl) rfl h (fun x113 st e113 h => ?_)
      refine r_if_eq (pc := 116) (tgt := 191) dX1_began_116 (by decide) h (fun e116 h => ?_) (fun e116 h => ?_)
      · exact sX1_began_191 hk79 hk89 _ _ _ _ _ _ _ h
      · refine r_aload_n (pc := 119) dX1_began_119 0 rfl rfl ?_
        refine r_aload_n (pc := 120) dX1_began_120 0 rfl rfl ?_
        refine r_gA (pc := 121) dX1_began_121 q322 fd_8 same_rf h (fun x121 e121 h => ?_)
        refine r_aload_n (pc := 124) dX1_began_124 0 rfl rfl ?_
        refine r_gA (pc := 125) dX1_began_125 q318 fd_4 same_rf h (fun x125 e125 h => ?_)
        refine r_aload_n (pc := 128) dX1_began_128 0 rfl rfl ?_
        refine r_gA (pc := 129) dX1_began_129 q321 fd_7 same_rf h (fun x129 e129 h => ?_)
        refine r_lconst (pc := 132) (v := 1) dX1_began_132 (by decide) ?_
        refine r_iload (pc := 133) dX1_began_133 4 rfl ?_
        refine r_lshl (pc := 135) dX1_began_135 ?_
        refine r_lconst (pc := 136) (v := 1) dX1_began_136 (by decide) ?_
        refine r_iload (pc := 137) dX1_began_137 5 rfl ?_
        refine r_lshl (pc := 139) dX1_began_139 ?_
        refine r_lor (pc := 140) dX1_began_140 ?_
        refine r_aload_n (pc := 141) dX1_began_141 0 rfl rfl ?_
        refine r_gJ (pc := 142) dX1_began_142 q320 fd_6 same_rf h (fun x142 e142 h => ?_)
        refine r_callA (pc := 145) (rest := [vr v0]) (lkV dX1_began_145 q1245 xd_X3_begin (vc_of vt_X3_begin q1246 (fun _ => sX3_begin)) adx_X3_begin) (by decide) (Nat.le_of_ble_eq_true rfl) rfl h (fun x145 st e145 h => ?_)
        refine r_iload_n (pc := 148) dX1_began_148 1 rfl rfl ?_
        refine r_callA (pc := 149) (rest := [vr v0]) (lkV dX1_began_149 q1310 xd_X3_to (vc_of vt_X3_to q1311 (fun _ => sX3_to)) adx_X3_to) (by decide) (Nat.le_of_ble_eq_true rfl) rfl h (fun x149 st e149 h => ?_)
        refine r_callI (pc := 152) (rest := []) (lkV dX1_began_152 q1537 xd_X1_isLikeSketch (vc_of vt_X1_isLikeSketch q1539 (fun _ => sX1_isLikeSketch)) adx_X1_isLikeSketch) (by decide) (Nat.le_of_ble_eq_true rfl) rfl h (fun x152 st e152 h => ?_)
        refine r_if_ne (pc := 155) (tgt := 161) dX1_began_155 (by decide) h (fun e155 h => ?_) (fun e155 h => ?_)
        · refine r_iload_n (pc := 161) dX1_began_161 3 rfl rfl ?_
          refine r_if_ne (pc := 162) (tgt := 188) dX1_began_162 (by decide) h (fun e162 h => ?_) (fun e162 h => ?_)
          · exact sX1_began_188 hk79 hk89 _ _ _ _ _ _ _ h
          · refine r_aload_n (pc := 165) dX1_began_165 0 rfl rfl ?_
            refine r_iload (pc := 166) dX1_began_166 4 rfl ?_
            refine r_pI (pc := 168) dX1_began_168 q334 fd_20 same_rf rfl h (fun st e168 h => ?_)
            refine r_aload_n (pc := 171) dX1_began_171 0 rfl rfl ?_
            refine r_iload (pc := 172) dX1_began_172 5 rfl ?_
            refine r_iload (pc := 174) dX1_began_174 4 rfl ?_
            refine r_icmp_ne (pc := 176) (tgt := 183) dX1_began_176 (by decide) h (fun e176 h => ?_) (fun e176 h => ?_)
            · refine r_iload (pc := 183) dX1_began_183 5 rfl ?_
              exact sX1_began_185 hk79 hk89 _ _ _ _ _ _ _ _ _ h
            · refine r_iconst (pc := 179) (v := (-1)) dX1_began_179 (by decide) ?_
              refine r_goto (pc := 180) (tgt := 185) dX1_began_180 (by decide) ?_
              exact sX1_began_185 hk79 hk89 _ _ _ _ _ _ _ _ _ h
        · refine r_goto (pc := 158) (tgt := 191) dX1_began_158 (by decide) ?_
          exact sX1_began_191 hk79 hk89 _ _ _ _ _ _ _ h
theorem sX1_began_89 {st0 : Mem} {fin : Int32 × Mem} {kk79 : Rf → Int32 → Int32 → Int32 → Int32 → Mem → Option (Int32 × Mem)} (hk79 : ∀ (v0 : Rf) (v1 : Int32) (v2 : Int32) (v3 : Int32) (v4 : Int32) (st : Mem), kk79 v0 v1 v2 v3 v4 st = some fin → G (cX1_began, "HouseClaps", "began", 82, (some .int), 6) st0 trI fin 79 [(0, vr v0), (1, vi v1), (2, vi v2), (3, vi v3), (4, vi v4)] [] st) (n : Nat) : ∀ (v0 : Rf) (v1 : Int32) (v2 : Int32) (v3 : Int32) (v4 : Int32) (v5 : Int32) (st : Mem), bX1_began_89 kk79 n v0 v1 v2 v3 v4 v5 st = some fin → G (cX1_began, "HouseClaps", "began", 82, (some .int), 6) st0 trI fin 89 [(0, vr v0), (1, vi v1), (2, vi v2), (3, vi v3), (4, vi v4), (5, vi v5)] [] st := by
  induction n with
  | zero => intro v0 v1 v2 v3 v4 v5 st h; cases h
  | succ n ih => intro v0 v1 v2 v3 v4 v5 st h; exact sX1_began_89B hk79  ih v0 v1 v2 v3 v4 v5 st h
theorem sX1_began_79B {st0 : Mem} {fin : Int32 × Mem} {kk79 : Rf → Int32 → Int32 → Int32 → Int32 → Mem → Option (Int32 × Mem)} (hk79 : ∀ (v0 : Rf) (v1 : Int32) (v2 : Int32) (v3 : Int32) (v4 : Int32) (st : Mem), kk79 v0 v1 v2 v3 v4 st = some fin → G (cX1_began, "HouseClaps", "began", 82, (some .int), 6) st0 trI fin 79 [(0, vr v0), (1, vi v1), (2, vi v2), (3, vi v3), (4, vi v4)] [] st) (v0 : Rf) (v1 : Int32) (v2 : Int32) (v3 : Int32) (v4 : Int32) (st : Mem) (h : bX1_began_79B kk79 v0 v1 v2 v3 v4 st = some fin) : G (cX1_began, "HouseClaps", "began", 82, (some .int), 6) st0 trI fin 79 [(0, vr v0), (1, vi v1), (2, vi v2), (3, vi v3), (4, vi v4)] [] st := by
  unfold bX1_began_79B at h
  refine r_iload (pc := 79) dX1_began_79 4 rfl ?_
  refine r_iload_n (pc := 81) dX1_began_81 2 rfl rfl ?_
  refine r_icmp_ge (pc := 82) (tgt := 203) dX1_began_82 (by decide) h (fun e82 h => ?_) (fun e82 h => ?_)
  · refine r_iload_n (pc := 203) dX1_began_203 3 rfl rfl ?_
    exact r_ireturn (pc := 204) dX1_began_204 rfl rfl h
  · refine r_iload (pc := 85) dX1_began_85 4 rfl ?_
    refine r_istore (pc := 87) (env' := [(5, vi v4), (0, vr v0), (1, vi v1), (2, vi v2), (3, vi v3), (4, vi v4)]) dX1_began_87 (by decide) rfl ?_
    exact r_sub (env' := [(0, vr v0), (1, vi v1), (2, vi v2), (3, vi v3), (4, vi v4), (5, vi v4)]) [1, 2, 3, 4, 5, 0] rfl (sX1_began_89 hk79 hcFuel _ _ _ _ _ _ _ h)
theorem sX1_began_79 {st0 : Mem} {fin : Int32 × Mem} (n : Nat) : ∀ (v0 : Rf) (v1 : Int32) (v2 : Int32) (v3 : Int32) (v4 : Int32) (st : Mem), bX1_began_79 n v0 v1 v2 v3 v4 st = some fin → G (cX1_began, "HouseClaps", "began", 82, (some .int), 6) st0 trI fin 79 [(0, vr v0), (1, vi v1), (2, vi v2), (3, vi v3), (4, vi v4)] [] st := by
  induction n with
  | zero => intro v0 v1 v2 v3 v4 st h; cases h
  | succ n ih => intro v0 v1 v2 v3 v4 st h; exact sX1_began_79B  ih v0 v1 v2 v3 v4 st h
theorem sX1_began_42B {st0 : Mem} {fin : Int32 × Mem} {kk42 : Rf → Int32 → Int32 → Int32 → Mem → Option (Int32 × Mem)} (hk42 : ∀ (v0 : Rf) (v1 : Int32) (v2 : Int32) (v3 : Int32) (st : Mem), kk42 v0 v1 v2 v3 st = some fin → G (cX1_began, "HouseClaps", "began", 82, (some .int), 6) st0 trI fin 42 [(0, vr v0), (1, vi v1), (2, vi v2), (3, vi v3)] [] st) (v0 : Rf) (v1 : Int32) (v2 : Int32) (v3 : Int32) (st : Mem) (h : bX1_began_42B kk42 v0 v1 v2 v3 st = some fin) : G (cX1_began, "HouseClaps", "began", 82, (some .int), 6) st0 trI fin 42 [(0, vr v0), (1, vi v1), (2, vi v2), (3, vi v3)] [] st := by
  unfold bX1_began_42B at h
  refine r_iload_n (pc := 42) dX1_began_42 3 rfl rfl ?_
  refine r_iload_n (pc := 43) dX1_began_43 2 rfl rfl ?_
  refine r_icmp_ge (pc := 44) (tgt := 64) dX1_began_44 (by decide) h (fun e44 h => ?_) (fun e44 h => ?_)
  · refine r_iconst (pc := 64) (v := 0) dX1_began_64 (by decide) ?_
    refine r_istore_n (pc := 65) (env' := [(3, vi (0 : Int32)), (0, vr v0), (1, vi v1), (2, vi v2)]) dX1_began_65 rfl (by decide) rfl ?_
    refine r_aload_n (pc := 66) dX1_began_66 1 rfl rfl ?_
    refine r_iconst (pc := 67) (v := (-1)) dX1_began_67 (by decide) ?_
    refine r_pI (pc := 68) dX1_began_68 q334 fd_20 same_rf rfl h (fun st e68 h => ?_)
    refine r_aload_n (pc := 71) dX1_began_71 1 rfl rfl ?_
    refine r_iconst (pc := 72) (v := (-1)) dX1_began_72 (by decide) ?_
    refine r_pI (pc := 73) dX1_began_73 q335 fd_21 same_rf rfl h (fun st e73 h => ?_)
    refine r_iconst (pc := 76) (v := 0) dX1_began_76 (by decide) ?_
    refine r_istore (pc := 77) (env' := [(4, vi (0 : Int32)), (3, vi (0 : Int32)), (0, vr v0), (1, vi v1), (2, vi v2)]) dX1_began_77 (by decide) rfl ?_
    exact r_sub (env' := [(0, vr v0), (1, vi v1), (2, vi v2), (3, vi (0 : Int32)), (4, vi (0 : Int32))]) [2, 3, 4, 1, 0] rfl (sX1_began_79 hcFuel _ _ _ _ _ _ h)
  · refine r_aload_n (pc := 47) dX1_began_47 0 rfl rfl ?_
    refine r_iload_n (pc := 48) dX1_began_48 3 rfl rfl ?_
    refine r_callI (pc := 49) (rest := []) (lkV dX1_began_49 q1474 xd_X1_byteAt (vc_of vt_X1_byteAt q1476 (fun _ => sX1_byteAt)) adx_X1_byteAt) (by decide) (Nat.le_of_ble_eq_true rfl) rfl h (fun x49 st e49 h => ?_)
    refine r_iconst (pc := 52) (v := 3) dX1_began_52 (by decide) ?_
    refine r_icmp_le (pc := 53) (tgt := 58) dX1_began_53 (by decide) h (fun e53 h => ?_) (fun e53 h => ?_)
    · refine r_iinc (pc := 58) (env' := [(3, vi (v3 + 1)), (0, vr v0), (1, vi v1), (2, vi v2)]) (cst := 1) dX1_began_58 3 rfl (by decide) (by decide) rfl ?_
      refine r_goto (pc := 61) (tgt := 42) dX1_began_61 (by decide) ?_
      exact r_sub (env' := [(0, vr v0), (1, vi v1), (2, vi v2), (3, vi (v3 + 1))]) [1, 2, 3, 0] rfl (hk42 _ _ _ _ _ h)
    · refine r_iconst (pc := 56) (v := (-1)) dX1_began_56 (by decide) ?_
      exact r_ireturn (pc := 57) dX1_began_57 rfl rfl h
theorem sX1_began_42 {st0 : Mem} {fin : Int32 × Mem} (n : Nat) : ∀ (v0 : Rf) (v1 : Int32) (v2 : Int32) (v3 : Int32) (st : Mem), bX1_began_42 n v0 v1 v2 v3 st = some fin → G (cX1_began, "HouseClaps", "began", 82, (some .int), 6) st0 trI fin 42 [(0, vr v0), (1, vi v1), (2, vi v2), (3, vi v3)] [] st := by
  induction n with
  | zero => intro v0 v1 v2 v3 st h; cases h
  | succ n ih => intro v0 v1 v2 v3 st h; exact sX1_began_42B  ih v0 v1 v2 v3 st h
theorem sX1_began {a0 : Rf} {a1 : Int32} {st : Mem} {fin : Int32 × Mem} (h : fX1_began a0 a1 st = some fin) : Con yX1_began 82 [vr a0, vi a1] st trI fin := by
  refine Con.mk (cc := cX1_began) (n := 6) (own := "HouseClaps") (nm := "began") (ret := (some .int)) (env := [(0, vr a0), (1, vi a1)]) q1534 rfl rfl rfl (by decide) ⟨Nat.le_of_ble_eq_true rfl, by decide⟩ rfl ?_
  unfold fX1_began at h
  refine r_aload_n (pc := 0) dX1_began_0 0 rfl rfl ?_
  refine r_callI (pc := 1) (rest := []) (lkV dX1_began_1 q415 xd_X1_take (vc_of vt_X1_take q417 (fun _ => sX1_take)) adx_X1_take) (by decide) (Nat.le_of_ble_eq_true rfl) rfl h (fun x1 st e1 h => ?_)
  refine r_istore_n (pc := 4) (env' := [(2, vi x1), (0, vr a0), (1, vi a1)]) dX1_began_4 rfl (by decide) rfl ?_
  refine r_iload_n (pc := 5) dX1_began_5 0 rfl rfl ?_
  refine r_aload_n (pc := 6) dX1_began_6 1 rfl rfl ?_
  refine r_gA (pc := 7) dX1_began_7 q318 fd_4 same_rf h (fun x7 e7 h => ?_)
  refine r_callI (pc := 10) (rest := [vi x1]) (lkV dX1_began_10 q1535 xd_X2_size (vc_of vt_X2_size q1039 (fun _ => sX2_size)) adx_X2_size) (by decide) (Nat.le_of_ble_eq_true rfl) rfl h (fun x10 st e10 h => ?_)
  refine r_icmp_ne (pc := 13) (tgt := 38) dX1_began_13 (by decide) h (fun e13 h => ?_) (fun e13 h => ?_)
  · refine r_iconst (pc := 38) (v := (-1)) dX1_began_38 (by decide) ?_
    exact r_ireturn (pc := 39) dX1_began_39 rfl rfl h
  · refine r_iload_n (pc := 16) dX1_began_16 2 rfl rfl ?_
    refine r_iconst (pc := 17) (v := 0) dX1_began_17 (by decide) ?_
    refine r_bipush (pc := 18) (v := 60) dX1_began_18 (by decide) ?_
    refine r_callI (pc := 20) (rest := []) (lkS dX1_began_20 q1055 q928 q85 (fun _ => sX1_isIn) ad_X1_isIn) (by decide) (Nat.le_of_ble_eq_true rfl) rfl h (fun x20 st e20 h => ?_)
    refine r_if_eq (pc := 23) (tgt := 38) dX1_began_23 (by decide) h (fun e23 h => ?_) (fun e23 h => ?_)
    · refine r_iconst (pc := 38) (v := (-1)) dX1_began_38 (by decide) ?_
      exact r_ireturn (pc := 39) dX1_began_39 rfl rfl h
    · refine r_aload_n (pc := 26) dX1_began_26 1 rfl rfl ?_
      refine r_gA (pc := 27) dX1_began_27 q318 fd_4 same_rf h (fun x27 e27 h => ?_)
      refine r_callI (pc := 30) (rest := []) (lkV dX1_began_30 q1536 xd_X2_seats (vc_of vt_X2_seats q1386 (fun _ => sX2_seats)) adx_X2_seats) (by decide) (Nat.le_of_ble_eq_true rfl) rfl h (fun x30 st e30 h => ?_)
      refine r_bipush (pc := 33) (v := 24) dX1_began_33 (by decide) ?_
      refine r_icmp_le (pc := 35) (tgt := 40) dX1_began_35 (by decide) h (fun e35 h => ?_) (fun e35 h => ?_)
      · refine r_iconst (pc := 40) (v := 0) dX1_began_40 (by decide) ?_
        refine r_istore_n (pc := 41) (env' := [(3, vi (0 : Int32)), (2, vi x1), (0, vr a0), (1, vi a1)]) dX1_began_41 rfl (by decide) rfl ?_
        exact r_sub (env' := [(0, vr a0), (1, vi a1), (2, vi x1), (3, vi (0 : Int32))]) [2, 3, 1, 0] rfl (sX1_began_42 hcFuel _ _ _ _ _ h)
      · refine r_iconst (pc := 38) (v := (-1)) dX1_began_38 (by decide) ?_
        exact r_ireturn (pc := 39) dX1_began_39 rfl rfl h
theorem sX1_heightOf {a0 : Rf} {a1 : Rf} {a2 : Int64} {a4 : Int64} {st : Mem} {fin : Int32 × Mem} (h : fX1_heightOf a0 a1 a2 a4 st = some fin) : Con yX1_heightOf 82 [vr a0, vr a1, vj a2, vj a4] st trI fin := by
  refine Con.mk (cc := cX1_heightOf) (n := 6) (own := "HouseClaps") (nm := "heightOf") (ret := (some .int)) (env := [(0, vr a0), (1, vr a1), (2, vj a2), (4, vj a4)]) q1461 rfl rfl rfl (by decide) ⟨Nat.le_of_ble_eq_true rfl, by decide⟩ rfl ?_
  unfold fX1_heightOf at h
  refine r_aload_n (pc := 0) dX1_heightOf_0 0 rfl rfl ?_
  refine r_gA (pc := 1) dX1_heightOf_1 q322 fd_8 same_rf h (fun x1 e1 h => ?_)
  refine r_aload_n (pc := 4) dX1_heightOf_4 1 rfl rfl ?_
  refine r_aload_n (pc := 5) dX1_heightOf_5 0 rfl rfl ?_
  refine r_gA (pc := 6) dX1_heightOf_6 q321 fd_7 same_rf h (fun x6 e6 h => ?_)
  refine r_lload_n (pc := 9) dX1_heightOf_9 2 rfl rfl ?_
  refine r_lload (pc := 10) dX1_heightOf_10 3 rfl ?_
  refine r_callA (pc := 12) (rest := []) (lkV dX1_heightOf_12 q1245 xd_X3_begin (vc_of vt_X3_begin q1246 (fun _ => sX3_begin)) adx_X3_begin) (by decide) (Nat.le_of_ble_eq_true rfl) rfl h (fun x12 st e12 h => ?_)
  refine r_callI (pc := 15) (rest := []) (lkV dX1_heightOf_15 q1462 xd_X3_height (vc_of vt_X3_height q1463 (fun _ => sX3_height)) adx_X3_height) (by decide) (Nat.le_of_ble_eq_true rfl) rfl h (fun x15 st e15 h => ?_)
  exact r_ireturn (pc := 18) dX1_heightOf_18 rfl rfl h
theorem sX1_many_31 {st0 : Mem} {fin : Int32 × Mem} (st : Mem) (h : bX1_many_31  st = some fin) : G (cX1_many, "HouseClaps", "many", 82, (some .int), 3) st0 trI fin 31 [] [] st := by
  unfold bX1_many_31 at h
  refine r_iconst (pc := 31) (v := (-1)) dX1_many_31 (by decide) ?_
  exact r_ireturn (pc := 32) dX1_many_32 rfl rfl h
theorem sX1_many {a0 : Rf} {a1 : Int32} {a2 : Int32} {st : Mem} {fin : Int32 × Mem} (h : fX1_many a0 a1 a2 st = some fin) : Con yX1_many 82 [vr a0, vi a1, vi a2] st trI fin := by
  refine Con.mk (cc := cX1_many) (n := 3) (own := "HouseClaps") (nm := "many") (ret := (some .int)) (env := [(0, vr a0), (1, vi a1), (2, vi a2)]) q1380 rfl rfl rfl (by decide) ⟨Nat.le_of_ble_eq_true rfl, by decide⟩ rfl ?_
  unfold fX1_many at h
  refine r_iload_n (pc := 0) dX1_many_0 1 rfl rfl ?_
  refine r_callI (pc := 1) (rest := []) (lkS dX1_many_1 q1238 q1239 q85 (fun _ => sX1_isMoment) ad_X1_isMoment) (by decide) (Nat.le_of_ble_eq_true rfl) rfl h (fun x1 st e1 h => ?_)
  refine r_if_eq (pc := 4) (tgt := 31) dX1_many_4 (by decide) h (fun e4 h => ?_) (fun e4 h => ?_)
  · exact r_sub (env' := []) [] rfl (sX1_many_31 _ h)
  · refine r_iload_n (pc := 7) dX1_many_7 2 rfl rfl ?_
    refine r_iconst (pc := 8) (v := 0) dX1_many_8 (by decide) ?_
    refine r_iconst (pc := 9) (v := 2) dX1_many_9 (by decide) ?_
    refine r_callI (pc := 10) (rest := []) (lkS dX1_many_10 q1055 q928 q85 (fun _ => sX1_isIn) ad_X1_isIn) (by decide) (Nat.le_of_ble_eq_true rfl) rfl h (fun x10 st e10 h => ?_)
    refine r_if_eq (pc := 13) (tgt := 31) dX1_many_13 (by decide) h (fun e13 h => ?_) (fun e13 h => ?_)
    · exact r_sub (env' := []) [] rfl (sX1_many_31 _ h)
    · refine r_aload_n (pc := 16) dX1_many_16 0 rfl rfl ?_
      refine r_callA (pc := 17) (rest := []) (lkV dX1_many_17 q1241 xd_X1_tonight (vc_of vt_X1_tonight q1243 (fun _ => sX1_tonight)) adx_X1_tonight) (by decide) (Nat.le_of_ble_eq_true rfl) rfl h (fun x17 st e17 h => ?_)
      refine r_iload_n (pc := 20) dX1_many_20 1 rfl rfl ?_
      refine r_callA (pc := 21) (rest := []) (lkV dX1_many_21 q1310 xd_X3_to (vc_of vt_X3_to q1311 (fun _ => sX3_to)) adx_X3_to) (by decide) (Nat.le_of_ble_eq_true rfl) rfl h (fun x21 st e21 h => ?_)
      refine r_iload_n (pc := 24) dX1_many_24 2 rfl rfl ?_
      refine r_callI (pc := 25) (rest := []) (lkV dX1_many_25 q1381 xd_X3_many (vc_of vt_X3_many q1382 (fun _ => sX3_many)) adx_X3_many) (by decide) (Nat.le_of_ble_eq_true rfl) rfl h (fun x25 st e25 h => ?_)
      refine r_goto (pc := 28) (tgt := 32) dX1_many_28 (by decide) ?_
      exact r_ireturn (pc := 32) dX1_many_32 rfl rfl h
theorem sX1_sees {a0 : Rf} {a1 : Int32} {a2 : Int32} {a3 : Int32} {a4 : Int32} {st : Mem} {fin : Int32 × Mem} (h : fX1_sees a0 a1 a2 a3 a4 st = some fin) : Con yX1_sees 82 [vr a0, vi a1, vi a2, vi a3, vi a4] st trI fin := by
  refine Con.mk (cc := cX1_sees) (n := 5) (own := "HouseClaps") (nm := "sees") (ret := (some .int)) (env := [(0, vr a0), (1, vi a1), (2, vi a2), (3, vi a3), (4, vi a4)]) q1237 rfl rfl rfl (by decide) ⟨Nat.le_of_ble_eq_true rfl, by decide⟩ rfl ?_
  unfold fX1_sees at h
  refine r_aload_n (pc := 0) dX1_sees_0 0 rfl rfl ?_
  refine r_gA (pc := 1) dX1_sees_1 q318 fd_4 same_rf h (fun x1 e1 h => ?_)
  refine r_iload_n (pc := 4) dX1_sees_4 1 rfl rfl ?_
  refine r_callI (pc := 5) (rest := []) (lkV dX1_sees_5 q1060 xd_X2_isSeat (vc_of vt_X2_isSeat q1061 (fun _ => sX2_isSeat)) adx_X2_isSeat) (by decide) (Nat.le_of_ble_eq_true rfl) rfl h (fun x5 st e5 h => ?_)
  refine r_if_eq (pc := 8) (tgt := 37) dX1_sees_8 (by decide) h (fun e8 h => ?_) (fun e8 h => ?_)
  · refine r_iconst (pc := 37) (v := (-1)) dX1_sees_37 (by decide) ?_
    exact r_ireturn (pc := 38) dX1_sees_38 rfl rfl h
  · refine r_iload_n (pc := 11) dX1_sees_11 2 rfl rfl ?_
    refine r_callI (pc := 12) (rest := []) (lkS dX1_sees_12 q1238 q1239 q85 (fun _ => sX1_isMoment) ad_X1_isMoment) (by decide) (Nat.le_of_ble_eq_true rfl) rfl h (fun x12 st e12 h => ?_)
    refine r_if_eq (pc := 15) (tgt := 37) dX1_sees_15 (by decide) h (fun e15 h => ?_) (fun e15 h => ?_)
    · refine r_iconst (pc := 37) (v := (-1)) dX1_sees_37 (by decide) ?_
      exact r_ireturn (pc := 38) dX1_sees_38 rfl rfl h
    · refine r_iload_n (pc := 18) dX1_sees_18 3 rfl rfl ?_
      refine r_iconst (pc := 19) (v := 0) dX1_sees_19 (by decide) ?_
      refine r_iconst (pc := 20) (v := 5) dX1_sees_20 (by decide) ?_
      refine r_callI (pc := 21) (rest := []) (lkS dX1_sees_21 q1055 q928 q85 (fun _ => sX1_isIn) ad_X1_isIn) (by decide) (Nat.le_of_ble_eq_true rfl) rfl h (fun x21 st e21 h => ?_)
      refine r_if_eq (pc := 24) (tgt := 37) dX1_sees_24 (by decide) h (fun e24 h => ?_) (fun e24 h => ?_)
      · refine r_iconst (pc := 37) (v := (-1)) dX1_sees_37 (by decide) ?_
        exact r_ireturn (pc := 38) dX1_sees_38 rfl rfl h
      · refine r_iload (pc := 27) dX1_sees_27 4 rfl ?_
        refine r_iconst (pc := 29) (v := 1) dX1_sees_29 (by decide) ?_
        refine r_iconst (pc := 30) (v := 2) dX1_sees_30 (by decide) ?_
        refine r_callI (pc := 31) (rest := []) (lkS dX1_sees_31 q1055 q928 q85 (fun _ => sX1_isIn) ad_X1_isIn) (by decide) (Nat.le_of_ble_eq_true rfl) rfl h (fun x31 st e31 h => ?_)
        refine r_if_ne (pc := 34) (tgt := 39) dX1_sees_34 (by decide) h (fun e34 h => ?_) (fun e34 h => ?_)
        · refine r_aload_n (pc := 39) dX1_sees_39 0 rfl rfl ?_
          refine r_gA (pc := 40) dX1_sees_40 q318 fd_4 same_rf h (fun x40 e40 h => ?_)
          refine r_gAN (pc := 43) dX1_sees_43 q197 fd_40 same_rf h (fun x43 e43 h => ?_)
          refine r_iload_n (pc := 46) dX1_sees_46 3 rfl rfl ?_
          refine r_aaload (pc := 47) dX1_sees_47 h (fun x47 e47 h => ?_)
          refine r_iload_n (pc := 48) dX1_sees_48 1 rfl rfl ?_
          refine r_laload (pc := 49) dX1_sees_49 h (fun x49 e49 h => ?_)
          refine r_aload_n (pc := 50) dX1_sees_50 0 rfl rfl ?_
          refine r_callA (pc := 51) (rest := [vj x49]) (lkV dX1_sees_51 q1241 xd_X1_tonight (vc_of vt_X1_tonight q1243 (fun _ => sX1_tonight)) adx_X1_tonight) (by decide) (Nat.le_of_ble_eq_true rfl) rfl h (fun x51 st e51 h => ?_)
          refine r_iload_n (pc := 54) dX1_sees_54 2 rfl rfl ?_
          refine r_callA (pc := 55) (rest := [vj x49]) (lkV dX1_sees_55 q1310 xd_X3_to (vc_of vt_X3_to q1311 (fun _ => sX3_to)) adx_X3_to) (by decide) (Nat.le_of_ble_eq_true rfl) rfl h (fun x55 st e55 h => ?_)
          refine r_gAN (pc := 58) dX1_sees_58 q283 fd_53 same_rf h (fun x58 e58 h => ?_)
          refine r_iload (pc := 61) dX1_sees_61 4 rfl ?_
          refine r_laload (pc := 63) dX1_sees_63 h (fun x63 e63 h => ?_)
          refine r_land (pc := 64) dX1_sees_64 ?_
          refine r_callI (pc := 65) (rest := []) (lkS dX1_sees_65 q1372 q1351 q126 (fun _ => sJ18_bitCount) ad_J18_bitCount) (by decide) (Nat.le_of_ble_eq_true rfl) rfl h (fun x65 st e65 h => ?_)
          exact r_ireturn (pc := 68) dX1_sees_68 rfl rfl h
        · refine r_iconst (pc := 37) (v := (-1)) dX1_sees_37 (by decide) ?_
          exact r_ireturn (pc := 38) dX1_sees_38 rfl rfl h
theorem sX1_would_70 {st0 : Mem} {fin : Int32 × Mem} (v0 : Rf) (v1 : Int32) (v2 : Int32) (k0 : Rf) (st : Mem) (h : bX1_would_70 v0 v1 v2 k0 st = some fin) : G (cX1_would, "HouseClaps", "would", 82, (some .int), 5) st0 trI fin 70 [(0, vr v0), (1, vi v1), (2, vi v2)] [vr k0] st := by
  unfold bX1_would_70 at h
  refine r_astore (pc := 70) (env' := [(4, vr k0), (0, vr v0), (1, vi v1), (2, vi v2)]) dX1_would_70 (by decide) rfl ?_
  refine r_aload (pc := 72) dX1_would_72 0 rfl ?_
  refine r_ifnonnull (pc := 74) (tgt := 79) dX1_would_74 (by decide) h (fun e74 h => ?_) (fun e74 h => ?_)
  · refine r_aload (pc := 79) dX1_would_79 0 rfl ?_
    refine r_aload_n (pc := 81) dX1_would_81 1 rfl rfl ?_
    refine r_callA (pc := 82) (rest := [vr k0]) (lkV dX1_would_82 q1241 xd_X1_tonight (vc_of vt_X1_tonight q1243 (fun _ => sX1_tonight)) adx_X1_tonight) (by decide) (Nat.le_of_ble_eq_true rfl) rfl h (fun x82 st e82 h => ?_)
    refine r_iload_n (pc := 85) dX1_would_85 3 rfl rfl ?_
    refine r_callA (pc := 86) (rest := [vr k0]) (lkV dX1_would_86 q1310 xd_X3_to (vc_of vt_X3_to q1311 (fun _ => sX3_to)) adx_X3_to) (by decide) (Nat.le_of_ble_eq_true rfl) rfl h (fun x86 st e86 h => ?_)
    refine r_callA (pc := 89) (rest := [vr k0]) (lkV dX1_would_89 q1393 xd_X3_asked (vc_of vt_X3_asked q1394 (fun _ => sX3_asked)) adx_X3_asked) (by decide) (Nat.le_of_ble_eq_true rfl) rfl h (fun x89 st e89 h => ?_)
    refine r_iload_n (pc := 92) dX1_would_92 2 rfl rfl ?_
    refine r_callI (pc := 93) (rest := []) (lkV dX1_would_93 q1397 xd_X8_holds (fun _ => vcvX8_holds 60 _ _ _ _ _) adx_X8_holds) (by omega) (Nat.le_of_ble_eq_true rfl) rfl h (fun x93 st e93 h => ?_)
    refine r_if_eq (pc := 96) (tgt := 103) dX1_would_96 (by decide) h (fun e96 h => ?_) (fun e96 h => ?_)
    · refine r_iconst (pc := 103) (v := 0) dX1_would_103 (by decide) ?_
      exact r_ireturn (pc := 104) dX1_would_104 rfl rfl h
    · refine r_iconst (pc := 99) (v := 1) dX1_would_99 (by decide) ?_
      refine r_goto (pc := 100) (tgt := 104) dX1_would_100 (by decide) ?_
      exact r_ireturn (pc := 104) dX1_would_104 rfl rfl h
  · refine r_iconst (pc := 77) (v := (-1)) dX1_would_77 (by decide) ?_
    exact r_ireturn (pc := 78) dX1_would_78 rfl rfl h
theorem sX1_would {a0 : Rf} {a1 : Int32} {a2 : Int32} {a3 : Int32} {st : Mem} {fin : Int32 × Mem} (h : fX1_would a0 a1 a2 a3 st = some fin) : Con yX1_would 82 [vr a0, vi a1, vi a2, vi a3] st trI fin := by
  refine Con.mk (cc := cX1_would) (n := 5) (own := "HouseClaps") (nm := "would") (ret := (some .int)) (env := [(0, vr a0), (1, vi a1), (2, vi a2), (3, vi a3)]) q1392 rfl rfl rfl (by decide) ⟨Nat.le_of_ble_eq_true rfl, by decide⟩ rfl ?_
  unfold fX1_would at h
  refine r_aload_n (pc := 0) dX1_would_0 0 rfl rfl ?_
  refine r_gA (pc := 1) dX1_would_1 q318 fd_4 same_rf h (fun x1 e1 h => ?_)
  refine r_iload_n (pc := 4) dX1_would_4 1 rfl rfl ?_
  refine r_callI (pc := 5) (rest := []) (lkV dX1_would_5 q1060 xd_X2_isSeat (vc_of vt_X2_isSeat q1061 (fun _ => sX2_isSeat)) adx_X2_isSeat) (by decide) (Nat.le_of_ble_eq_true rfl) rfl h (fun x5 st e5 h => ?_)
  refine r_if_eq (pc := 8) (tgt := 27) dX1_would_8 (by decide) h (fun e8 h => ?_) (fun e8 h => ?_)
  · refine r_iconst (pc := 27) (v := (-1)) dX1_would_27 (by decide) ?_
    exact r_ireturn (pc := 28) dX1_would_28 rfl rfl h
  · refine r_iload_n (pc := 11) dX1_would_11 2 rfl rfl ?_
    refine r_callI (pc := 12) (rest := []) (lkS dX1_would_12 q1238 q1239 q85 (fun _ => sX1_isMoment) ad_X1_isMoment) (by decide) (Nat.le_of_ble_eq_true rfl) rfl h (fun x12 st e12 h => ?_)
    refine r_if_eq (pc := 15) (tgt := 27) dX1_would_15 (by decide) h (fun e15 h => ?_) (fun e15 h => ?_)
    · refine r_iconst (pc := 27) (v := (-1)) dX1_would_27 (by decide) ?_
      exact r_ireturn (pc := 28) dX1_would_28 rfl rfl h
    · refine r_iload_n (pc := 18) dX1_would_18 3 rfl rfl ?_
      refine r_iconst (pc := 19) (v := 0) dX1_would_19 (by decide) ?_
      refine r_iconst (pc := 20) (v := 1) dX1_would_20 (by decide) ?_
      refine r_callI (pc := 21) (rest := []) (lkS dX1_would_21 q1055 q928 q85 (fun _ => sX1_isIn) ad_X1_isIn) (by decide) (Nat.le_of_ble_eq_true rfl) rfl h (fun x21 st e21 h => ?_)
      refine r_if_ne (pc := 24) (tgt := 29) dX1_would_24 (by decide) h (fun e24 h => ?_) (fun e24 h => ?_)
      · refine r_iload_n (pc := 29) dX1_would_29 3 rfl rfl ?_
        refine r_if_ne (pc := 30) (tgt := 53) dX1_would_30 (by decide) h (fun e30 h => ?_) (fun e30 h => ?_)
        · refine r_aload_n (pc := 53) dX1_would_53 0 rfl rfl ?_
          refine r_gA (pc := 54) dX1_would_54 q318 fd_4 same_rf h (fun x54 e54 h => ?_)
          refine r_gAN (pc := 57) dX1_would_57 q191 fd_38 same_rf h (fun x57 e57 h => ?_)
          refine r_aload_n (pc := 60) dX1_would_60 0 rfl rfl ?_
          refine r_gA (pc := 61) dX1_would_61 q318 fd_4 same_rf h (fun x61 e61 h => ?_)
          refine r_gAN (pc := 64) dX1_would_64 q176 fd_34 same_rf h (fun x64 e64 h => ?_)
          refine r_iload_n (pc := 67) dX1_would_67 1 rfl rfl ?_
          refine r_iaload (pc := 68) dX1_would_68 h (fun x68 e68 h => ?_)
          refine r_aaload (pc := 69) dX1_would_69 h (fun x69 e69 h => ?_)
          exact r_sub (env' := [(0, vr a0), (1, vi a1), (2, vi a2)]) [0, 1, 2] rfl (sX1_would_70 _ _ _ _ _ h)
        · refine r_aload_n (pc := 33) dX1_would_33 0 rfl rfl ?_
          refine r_gA (pc := 34) dX1_would_34 q318 fd_4 same_rf h (fun x34 e34 h => ?_)
          refine r_gAN (pc := 37) dX1_would_37 q187 fd_37 same_rf h (fun x37 e37 h => ?_)
          refine r_aload_n (pc := 40) dX1_would_40 0 rfl rfl ?_
          refine r_gA (pc := 41) dX1_would_41 q318 fd_4 same_rf h (fun x41 e41 h => ?_)
          refine r_gAN (pc := 44) dX1_would_44 q176 fd_34 same_rf h (fun x44 e44 h => ?_)
          refine r_iload_n (pc := 47) dX1_would_47 1 rfl rfl ?_
          refine r_iaload (pc := 48) dX1_would_48 h (fun x48 e48 h => ?_)
          refine r_aaload (pc := 49) dX1_would_49 h (fun x49 e49 h => ?_)
          refine r_goto (pc := 50) (tgt := 70) dX1_would_50 (by decide) ?_
          exact r_sub (env' := [(0, vr a0), (1, vi a1), (2, vi a2)]) [0, 1, 2] rfl (sX1_would_70 _ _ _ _ _ h)
      · refine r_iconst (pc := 27) (v := (-1)) dX1_would_27 (by decide) ?_
        exact r_ireturn (pc := 28) dX1_would_28 rfl rfl h
theorem sX1_cues_41 {st0 : Mem} {fin : Int32 × Mem} (v0 : Rf) (k0 : Rf) (st : Mem) (h : bX1_cues_41 v0 k0 st = some fin) : G (cX1_cues, "HouseClaps", "cues", 26, (some .int), 3) st0 trI fin 41 [(0, vr v0)] [vr k0] st := by
  unfold bX1_cues_41 at h
  refine r_astore_n (pc := 41) (env' := [(2, vr k0), (0, vr v0)]) dX1_cues_41 rfl (by decide) rfl ?_
  refine r_aload_n (pc := 42) dX1_cues_42 1 rfl rfl ?_
  refine r_aload_n (pc := 43) dX1_cues_43 0 rfl rfl ?_
  refine r_gIN (pc := 44) dX1_cues_44 q830 fd_139 same_rf h (fun x44 e44 h => ?_)
  refine r_pI (pc := 47) dX1_cues_47 q317 fd_3 same_rf rfl h (fun st e47 h => ?_)
  refine r_iconst (pc := 50) (v := (-1)) dX1_cues_50 (by decide) ?_
  refine r_aload_n (pc := 51) dX1_cues_51 0 rfl rfl ?_
  refine r_gIN (pc := 52) dX1_cues_52 q832 fd_140 same_rf h (fun x52 e52 h => ?_)
  refine r_isub (pc := 55) dX1_cues_55 ?_
  exact r_ireturn (pc := 56) dX1_cues_56 rfl rfl h
theorem sX1_cues {a0 : Rf} {st : Mem} {fin : Int32 × Mem} (h : fX1_cues a0 st = some fin) : Con yX1_cues 26 [vr a0] st trI fin := by
  refine Con.mkW (cc := cX1_cues) (n := 3) (own := "HouseClaps") (nm := "cues") (ret := (some .int)) (env := [(0, vr a0)]) q1075 rfl rfl rfl (by decide) ⟨Nat.le_of_ble_eq_true rfl, by decide⟩ rfl ?_
  unfold fX1_cues at h
  refine r_aload_n (pc := 0) dX1_cues_0 0 rfl rfl ?_
  refine r_callI (pc := 1) (rest := []) (lkV dX1_cues_1 q415 xd_X1_take (vc_of vt_X1_take q417 (fun _ => sX1_take)) adx_X1_take) (by decide) (Nat.le_of_ble_eq_true rfl) rfl h (fun x1 st e1 h => ?_)
  refine r_istore_n (pc := 4) (env' := [(1, vi x1), (0, vr a0)]) dX1_cues_4 rfl (by decide) rfl ?_
  refine r_aload_n (pc := 5) dX1_cues_5 1 rfl rfl ?_
  refine r_iconst (pc := 6) (v := 0) dX1_cues_6 (by decide) ?_
  refine r_pI (pc := 7) dX1_cues_7 q317 fd_3 same_rf rfl h (fun st e7 h => ?_)
  refine r_aload_n (pc := 10) dX1_cues_10 1 rfl rfl ?_
  refine r_new (pc := 11) dX1_cues_11 q1076 rfl h (fun x11 st e11 h => ?_)
  refine r_dup (pc := 14) dX1_cues_14 rfl ?_
  refine r_aload_n (pc := 15) dX1_cues_15 1 rfl rfl ?_
  refine r_gA (pc := 16) dX1_cues_16 q315 fd_1 same_rf h (fun x16 e16 h => ?_)
  refine r_iload_n (pc := 19) dX1_cues_19 0 rfl rfl ?_
  refine r_aload_n (pc := 20) dX1_cues_20 1 rfl rfl ?_
  refine r_gA (pc := 21) dX1_cues_21 q318 fd_4 same_rf h (fun x21 e21 h => ?_)
  refine r_callV (pc := 24) (rest := [vr x11, vr a0]) (lkI dX1_cues_24 q1078 q1079 q1080 rfl (fun _ => sX17_init) ad_X17_init) (by decide) (Nat.le_of_ble_eq_true rfl) rfl h (fun u24 st e24 h => ?_)
  refine r_callAC (pc := 27) (rest := [vr a0]) (env' := [(0, vr a0)]) [1] rfl (lkV dX1_cues_27 q1100 xd_X17_read (vc_of vt_X17_read q1101 (fun _ => sX17_read)) adx_X17_read) (by decide) (Nat.le_of_ble_eq_true rfl) rfl rfl ⟨by decide, by decide⟩ q414 ⟨rfl, by decide, by decide⟩ h (fun z27 st e27 h => sX1_cues_41 _ _ _ h) (fun x27 st e27 h => ?_)
  refine r_pA (pc := 30) dX1_cues_30 q321 fd_7 same_rf rfl h (fun st e30 h => ?_)
  refine r_aload_n (pc := 33) dX1_cues_33 1 rfl rfl ?_
  refine r_gA (pc := 34) dX1_cues_34 q321 fd_7 same_rf h (fun x34 e34 h => ?_)
  refine r_callI (pc := 37) (rest := []) (lkV dX1_cues_37 q1233 xd_J3_size (vc_of vt_J3_size q1115 (fun _ => sJ3_size)) adx_J3_size) (by decide) (Nat.le_of_ble_eq_true rfl) rfl h (fun x37 st e37 h => ?_)
  exact r_ireturn (pc := 40) dX1_cues_40 rfl rfl h
theorem sX6_oneR (d : Nat) : ∀ (a : Rf) (st : Mem) (fin : (Rf ⊕ Nat) × Mem), fX6_oneR d a st = some fin → Con yX6_one (24 + 4 * d) [vr a] st trAx fin := by
  induction d with
  | zero => intro a st fin h; cases h
  | succ d ih => intro a st fin h; exact Con.up (by omega) (sX6_one (by omega) ih h)
theorem sX6_law_80 {st0 : Mem} {fin : (Unit ⊕ Nat) × Mem} (v0 : Rf) (v1 : Rf) (v2 : Int32) (v3 : Int32) (k0 : Rf) (k1 : Int32) (st : Mem) (h : bX6_law_80 v0 v1 v2 v3 k0 k1 st = some fin) : G (cX6_law, "HouseClaps$HouseReader", "law", 148, none, 4) st0 trVx fin 80 [(0, vr v0), (1, vr v1), (2, vi v2), (3, vi v3)] [vi k1, vr k0] st := by
  unfold bX6_law_80 at h
  refine r_iconst (pc := 80) (v := 3) dX6_law_80 (by decide) ?_
  refine r_callVx (pc := 81) (rest := []) (lkV dX6_law_81 q778 xd_X6_need (vc_of vt_X6_need q782 (fun _ => sX5_need)) adx_X6_need) (by decide) (Nat.le_of_ble_eq_true rfl) rfl (by decide) (fun _ => rfl) h (fun u81 st e81 h => ?_)
  refine r_aload_n (pc := 84) dX6_law_84 0 rfl rfl ?_
  refine r_callV (pc := 85) (rest := []) (lkV dX6_law_85 q489 xd_X6_go (vc_of vt_X6_go q493 (fun _ => sX5_go)) adx_X6_go) (by decide) (Nat.le_of_ble_eq_true rfl) rfl h (fun u85 st e85 h => ?_)
  refine r_aload_n (pc := 88) dX6_law_88 0 rfl rfl ?_
  refine r_iconst (pc := 89) (v := 0) dX6_law_89 (by decide) ?_
  refine r_pI (pc := 90) dX6_law_90 q435 fd_137 same_rf rfl h (fun st e90 h => ?_)
  refine r_aload_n (pc := 93) dX6_law_93 0 rfl rfl ?_
  refine r_iconst (pc := 94) (v := 0) dX6_law_94 (by decide) ?_
  refine r_pI (pc := 95) dX6_law_95 q436 fd_138 same_rf rfl h (fun st e95 h => ?_)
  refine r_aload_n (pc := 98) dX6_law_98 1 rfl rfl ?_
  refine r_iload_n (pc := 99) dX6_law_99 3 rfl rfl ?_
  refine r_aload_n (pc := 100) dX6_law_100 0 rfl rfl ?_
  refine r_callAx (pc := 101) (rest := [vi v3, vr v1]) (lkV dX6_law_101 q866 xd_X6_or (vc_of vt_X6_or q868 (fun _ => sX6_or (by decide) (sX6_oneR 30))) adx_X6_or) (by omega) (Nat.le_of_ble_eq_true rfl) rfl (by decide) (fun _ => rfl) h (fun x101 st e101 h => ?_)
  refine r_aastore (pc := 104) dX6_law_104 h (fun st e104 h => ?_)
  refine r_aload_n (pc := 105) dX6_law_105 0 rfl rfl ?_
  refine r_gA (pc := 106) dX6_law_106 q431 fd_133 same_rf h (fun x106 e106 h => ?_)
  refine r_gAN (pc := 109) dX6_law_109 q193 fd_39 same_rf h (fun x109 e109 h => ?_)
  refine r_iload_n (pc := 112) dX6_law_112 2 rfl rfl ?_
  refine r_iload_n (pc := 113) dX6_law_113 3 rfl rfl ?_
  refine r_iadd (pc := 114) dX6_law_114 ?_
  refine r_aload_n (pc := 115) dX6_law_115 0 rfl rfl ?_
  refine r_gI (pc := 116) dX6_law_116 q435 fd_137 same_rf h (fun x116 e116 h => ?_)
  refine r_iastore (pc := 119) dX6_law_119 h (fun st e119 h => ?_)
  exact r_return_ (pc := 120) dX6_law_120 rfl h
theorem sX6_law_52 {st0 : Mem} {fin : (Unit ⊕ Nat) × Mem} (v0 : Rf) (v1 : Rf) (v2 : Int32) (k0 : Rf) (k1 : Int32) (st : Mem) (h : bX6_law_52 v0 v1 v2 k0 k1 st = some fin) : G (cX6_law, "HouseClaps$HouseReader", "law", 148, none, 4) st0 trVx fin 52 [(0, vr v0), (1, vr v1), (2, vi v2)] [vi k1, vr k0] st := by
  unfold bX6_law_52 at h
  refine r_iconst (pc := 52) (v := 2) dX6_law_52 (by decide) ?_
  refine r_callVx (pc := 53) (rest := []) (lkV dX6_law_53 q778 xd_X6_need (vc_of vt_X6_need q782 (fun _ => sX5_need)) adx_X6_need) (by decide) (Nat.le_of_ble_eq_true rfl) rfl (by decide) (fun _ => rfl) h (fun u53 st e53 h => ?_)
  refine r_aload_n (pc := 56) dX6_law_56 0 rfl rfl ?_
  refine r_gA (pc := 57) dX6_law_57 q452 fd_132 (r_same q453) h (fun x57 e57 h => ?_)
  refine r_iconst (pc := 60) (v := 0) dX6_law_60 (by decide) ?_
  refine r_callI (pc := 61) (rest := []) (lkV dX6_law_61 q850 xd_J4_charAt (vc_of vt_J4_charAt q851 (fun _ => sJ4_charAt)) adx_J4_charAt) (by decide) (Nat.le_of_ble_eq_true rfl) rfl h (fun x61 st e61 h => ?_)
  refine r_bipush (pc := 64) (v := 97) dX6_law_64 (by decide) ?_
  refine r_isub (pc := 66) dX6_law_66 ?_
  refine r_istore_n (pc := 67) (env' := [(3, vi (x61 - (97 : Int32))), (0, vr v0), (1, vr v1), (2, vi v2)]) dX6_law_67 rfl (by decide) rfl ?_
  refine r_aload_n (pc := 68) dX6_law_68 1 rfl rfl ?_
  refine r_aload_n (pc := 69) dX6_law_69 2 rfl rfl ?_
  refine r_iload_n (pc := 70) dX6_law_70 0 rfl rfl ?_
  refine r_aaload (pc := 71) dX6_law_71 h (fun x71 e71 h => ?_)
  refine r_ifnonnull (pc := 72) (tgt := 79) dX6_law_72 (by decide) h (fun e72 h => ?_) (fun e72 h => ?_)
  · refine r_iconst (pc := 79) (v := 0) dX6_law_79 (by decide) ?_
    exact r_sub (env' := [(0, vr v0), (1, vr v1), (2, vi v2), (3, vi (x61 - (97 : Int32)))]) [1, 2, 3, 0] rfl (sX6_law_80 _ _ _ _ _ _ _ h)
  · refine r_iconst (pc := 75) (v := 1) dX6_law_75 (by decide) ?_
    refine r_goto (pc := 76) (tgt := 80) dX6_law_76 (by decide) ?_
    exact r_sub (env' := [(0, vr v0), (1, vr v1), (2, vi v2), (3, vi (x61 - (97 : Int32)))]) [1, 2, 3, 0] rfl (sX6_law_80 _ _ _ _ _ _ _ h)
theorem sX6_law_51 {st0 : Mem} {fin : (Unit ⊕ Nat) × Mem} (v0 : Rf) (v1 : Rf) (v2 : Int32) (k0 : Rf) (st : Mem) (h : bX6_law_51 v0 v1 v2 k0 st = some fin) : G (cX6_law, "HouseClaps$HouseReader", "law", 148, none, 4) st0 trVx fin 51 [(0, vr v0), (1, vr v1), (2, vi v2)] [vr k0] st := by
  unfold bX6_law_51 at h
  refine r_iconst (pc := 51) (v := 0) dX6_law_51 (by decide) ?_
  exact sX6_law_52 _ _ _ _ _ _ h
theorem sX6_law_18 {st0 : Mem} {fin : (Unit ⊕ Nat) × Mem} (v0 : Rf) (v1 : Rf) (v2 : Int32) (k0 : Rf) (k1 : Int32) (st : Mem) (h : bX6_law_18 v0 v1 v2 k0 k1 st = some fin) : G (cX6_law, "HouseClaps$HouseReader", "law", 148, none, 4) st0 trVx fin 18 [(0, vr v0), (1, vr v1), (2, vi v2)] [vi k1, vr k0] st := by
  unfold bX6_law_18 at h
  refine r_iconst (pc := 18) (v := 1) dX6_law_18 (by decide) ?_
  refine r_callVx (pc := 19) (rest := []) (lkV dX6_law_19 q778 xd_X6_need (vc_of vt_X6_need q782 (fun _ => sX5_need)) adx_X6_need) (by decide) (Nat.le_of_ble_eq_true rfl) rfl (by decide) (fun _ => rfl) h (fun u19 st e19 h => ?_)
  refine r_aload_n (pc := 22) dX6_law_22 0 rfl rfl ?_
  refine r_aload_n (pc := 23) dX6_law_23 0 rfl rfl ?_
  refine r_gA (pc := 24) dX6_law_24 q452 fd_132 (r_same q453) h (fun x24 e24 h => ?_)
  refine r_callI (pc := 27) (rest := [vr v0]) (lkV dX6_law_27 q849 xd_J4_length (vc_of vt_J4_length q521 (fun _ => sJ4_length)) adx_J4_length) (by decide) (Nat.le_of_ble_eq_true rfl) rfl h (fun x27 st e27 h => ?_)
  refine r_iconst (pc := 30) (v := 1) dX6_law_30 (by decide) ?_
  refine r_icmp_ne (pc := 31) (tgt := 51) dX6_law_31 (by decide) h (fun e31 h => ?_) (fun e31 h => ?_)
  · exact sX6_law_51 _ _ _ _ _ h
  · refine r_aload_n (pc := 34) dX6_law_34 0 rfl rfl ?_
    refine r_gA (pc := 35) dX6_law_35 q452 fd_132 (r_same q453) h (fun x35 e35 h => ?_)
    refine r_iconst (pc := 38) (v := 0) dX6_law_38 (by decide) ?_
    refine r_callI (pc := 39) (rest := [vr v0]) (lkV dX6_law_39 q850 xd_J4_charAt (vc_of vt_J4_charAt q851 (fun _ => sJ4_charAt)) adx_J4_charAt) (by decide) (Nat.le_of_ble_eq_true rfl) rfl h (fun x39 st e39 h => ?_)
    refine r_bipush (pc := 42) (v := 102) dX6_law_42 (by decide) ?_
    refine r_icmp_gt (pc := 44) (tgt := 51) dX6_law_44 (by decide) h (fun e44 h => ?_) (fun e44 h => ?_)
    · exact sX6_law_51 _ _ _ _ _ h
    · refine r_iconst (pc := 47) (v := 1) dX6_law_47 (by decide) ?_
      refine r_goto (pc := 48) (tgt := 52) dX6_law_48 (by decide) ?_
      exact sX6_law_52 _ _ _ _ _ _ h
theorem sX6_law {a0 : Rf} {a1 : Rf} {a2 : Int32} {st : Mem} {fin : (Unit ⊕ Nat) × Mem} (h : fX6_law a0 a1 a2 st = some fin) : Con yX6_law 148 [vr a0, vr a1, vi a2] st trVx fin := by
  refine Con.mk (cc := cX6_law) (n := 4) (own := "HouseClaps$HouseReader") (nm := "law") (ret := none) (env := [(0, vr a0), (1, vr a1), (2, vi a2)]) q865 rfl rfl rfl (by decide) ⟨Nat.le_of_ble_eq_true rfl, by decide⟩ rfl ?_
  unfold fX6_law at h
  refine r_aload_n (pc := 0) dX6_law_0 0 rfl rfl ?_
  refine r_callV (pc := 1) (rest := []) (lkV dX6_law_1 q489 xd_X6_go (vc_of vt_X6_go q493 (fun _ => sX5_go)) adx_X6_go) (by decide) (Nat.le_of_ble_eq_true rfl) rfl h (fun u1 st e1 h => ?_)
  refine r_aload_n (pc := 4) dX6_law_4 0 rfl rfl ?_
  refine r_aload_n (pc := 5) dX6_law_5 0 rfl rfl ?_
  refine r_gI (pc := 6) dX6_law_6 q441 fd_128 (r_same q442) h (fun x6 e6 h => ?_)
  refine r_iconst (pc := 9) (v := 2) dX6_law_9 (by decide) ?_
  refine r_icmp_ne (pc := 10) (tgt := 17) dX6_law_10 (by decide) h (fun e10 h => ?_) (fun e10 h => ?_)
  · refine r_iconst (pc := 17) (v := 0) dX6_law_17 (by decide) ?_
    exact sX6_law_18 _ _ _ _ _ _ h
  · refine r_iconst (pc := 13) (v := 1) dX6_law_13 (by decide) ?_
    refine r_goto (pc := 14) (tgt := 18) dX6_law_14 (by decide) ?_
    exact sX6_law_18 _ _ _ _ _ _ h
theorem sX1_arrangeOnce_119 {st0 : Mem} {fin : Int32 × Mem} {kk2 : Rf → Int32 → Int32 → Mem → Option (Int32 × Mem)} {kk17 : Rf → Int32 → Int32 → Int32 → Mem → Option (Int32 × Mem)} (hk2 : ∀ (v0 : Rf) (v1 : Int32) (v2 : Int32) (st : Mem), kk2 v0 v1 v2 st = some fin → G (cX1_arrangeOnce, "HouseClaps", "arrangeOnce", 84, (some .int), 5) st0 trI fin 2 [(0, vr v0), (1, vi v1), (2, vi v2)] [] st) (hk17 : ∀ (v0 : Rf) (v1 : Int32) (v2 : Int32) (v3 : Int32) (st : Mem), kk17 v0 v1 v2 v3 st = some fin → G (cX1_arrangeOnce, "HouseClaps", "arrangeOnce", 84, (some .int), 5) st0 trI fin 17 [(0, vr v0), (1, vi v1), (2, vi v2), (3, vi v3)] [] st) (v0 : Rf) (v1 : Int32) (v2 : Int32) (v3 : Int32) (st : Mem) (h : bX1_arrangeOnce_119 kk2 kk17 v0 v1 v2 v3 st = some fin) : G (cX1_arrangeOnce, "HouseClaps", "arrangeOnce", 84, (some .int), 5) st0 trI fin 119 [(0, vr v0), (1, vi v1), (2, vi v2), (3, vi v3)] [] st := by
  unfold bX1_arrangeOnce_119 at h
  refine r_iinc (pc := 119) (env' := [(3, vi (v3 + 1)), (0, vr v0), (1, vi v1), (2, vi v2)]) (cst := 1) dX1_arrangeOnce_119 3 rfl (by decide) (by decide) rfl ?_
  refine r_goto (pc := 122) (tgt := 17) dX1_arrangeOnce_122 (by decide) ?_
  exact r_sub (env' := [(0, vr v0), (1, vi v1), (2, vi v2), (3, vi (v3 + 1))]) [1, 2, 3, 0] rfl (hk17 _ _ _ _ _ h)
theorem sX1_arrangeOnce_17B {st0 : Mem} {fin : Int32 × Mem} {kk2 : Rf → Int32 → Int32 → Mem → Option (Int32 × Mem)} {kk17 : Rf → Int32 → Int32 → Int32 → Mem → Option (Int32 × Mem)} (hk2 : ∀ (v0 : Rf) (v1 : Int32) (v2 : Int32) (st : Mem), kk2 v0 v1 v2 st = some fin → G (cX1_arrangeOnce, "HouseClaps", "arrangeOnce", 84, (some .int), 5) st0 trI fin 2 [(0, vr v0), (1, vi v1), (2, vi v2)] [] st) (hk17 : ∀ (v0 : Rf) (v1 : Int32) (v2 : Int32) (v3 : Int32) (st : Mem), kk17 v0 v1 v2 v3 st = some fin → G (cX1_arrangeOnce, "HouseClaps", "arrangeOnce", 84, (some .int), 5) st0 trI fin 17 [(0, vr v0), (1, vi v1), (2, vi v2), (3, vi v3)] [] st) (v0 : Rf) (v1 : Int32) (v2 : Int32) (v3 : Int32) (st : Mem) (h : bX1_arrangeOnce_17B kk2 kk17 v0 v1 v2 v3 st = some fin) : G (cX1_arrangeOnce, "HouseClaps", "arrangeOnce", 84, (some .int), 5) st0 trI fin 17 [(0, vr v0), (1, vi v1), (2, vi v2), (3, vi v3)] [] st := by
  unfold bX1_arrangeOnce_17B at h
  refine r_iload_n (pc := 17) dX1_arrangeOnce_17 3 rfl rfl ?_
  refine r_aload_n (pc := 18) dX1_arrangeOnce_18 0 rfl rfl ?_
  refine r_gA (pc := 19) dX1_arrangeOnce_19 q318 fd_4 same_rf h (fun x19 e19 h => ?_)
  refine r_callI (pc := 22) (rest := [vi v3]) (lkV dX1_arrangeOnce_22 q1535 xd_X2_size (vc_of vt_X2_size q1039 (fun _ => sX2_size)) adx_X2_size) (by decide) (Nat.le_of_ble_eq_true rfl) rfl h (fun x22 st e22 h => ?_)
  refine r_icmp_ge (pc := 25) (tgt := 125) dX1_arrangeOnce_25 (by decide) h (fun e25 h => ?_) (fun e25 h => ?_)
  · refine r_iinc (pc := 125) (env' := [(2, vi (v2 + 1)), (0, vr v0), (1, vi v1), (3, vi v3)]) (cst := 1) dX1_arrangeOnce_125 2 rfl (by decide) (by decide) rfl ?_
    refine r_goto (pc := 128) (tgt := 2) dX1_arrangeOnce_128 (by decide) ?_
    exact r_sub (env' := [(0, vr v0), (1, vi v1), (2, vi (v2 + 1))]) [1, 2, 0] rfl (hk2 _ _ _ _ h)
  · refine r_aload_n (pc := 28) dX1_arrangeOnce_28 0 rfl rfl ?_
    refine r_gA (pc := 29) dX1_arrangeOnce_29 q318 fd_4 same_rf h (fun x29 e29 h => ?_)
    refine r_iload_n (pc := 32) dX1_arrangeOnce_32 2 rfl rfl ?_
    refine r_callI (pc := 33) (rest := []) (lkV dX1_arrangeOnce_33 q1060 xd_X2_isSeat (vc_of vt_X2_isSeat q1061 (fun _ => sX2_isSeat)) adx_X2_isSeat) (by decide) (Nat.le_of_ble_eq_true rfl) rfl h (fun x33 st e33 h => ?_)
    refine r_if_eq (pc := 36) (tgt := 119) dX1_arrangeOnce_36 (by decide) h (fun e36 h => ?_) (fun e36 h => ?_)
    · exact sX1_arrangeOnce_119 hk2 hk17 _ _ _ _ _ h
    · refine r_aload_n (pc := 39) dX1_arrangeOnce_39 0 rfl rfl ?_
      refine r_gA (pc := 40) dX1_arrangeOnce_40 q318 fd_4 same_rf h (fun x40 e40 h => ?_)
      refine r_iload_n (pc := 43) dX1_arrangeOnce_43 3 rfl rfl ?_
      refine r_callI (pc := 44) (rest := []) (lkV dX1_arrangeOnce_44 q1060 xd_X2_isSeat (vc_of vt_X2_isSeat q1061 (fun _ => sX2_isSeat)) adx_X2_isSeat) (by decide) (Nat.le_of_ble_eq_true rfl) rfl h (fun x44 st e44 h => ?_)
      refine r_if_eq (pc := 47) (tgt := 119) dX1_arrangeOnce_47 (by decide) h (fun e47 h => ?_) (fun e47 h => ?_)
      · exact sX1_arrangeOnce_119 hk2 hk17 _ _ _ _ _ h
      · refine r_aload_n (pc := 50) dX1_arrangeOnce_50 0 rfl rfl ?_
        refine r_gA (pc := 51) dX1_arrangeOnce_51 q318 fd_4 same_rf h (fun x51 e51 h => ?_)
        refine r_gAN (pc := 54) dX1_arrangeOnce_54 q176 fd_34 same_rf h (fun x54 e54 h => ?_)
        refine r_iload_n (pc := 57) dX1_arrangeOnce_57 2 rfl rfl ?_
        refine r_iaload (pc := 58) dX1_arrangeOnce_58 h (fun x58 e58 h => ?_)
        refine r_aload_n (pc := 59) dX1_arrangeOnce_59 0 rfl rfl ?_
        refine r_gA (pc := 60) dX1_arrangeOnce_60 q318 fd_4 same_rf h (fun x60 e60 h => ?_)
        refine r_gAN (pc := 63) dX1_arrangeOnce_63 q176 fd_34 same_rf h (fun x63 e63 h => ?_)
        refine r_iload_n (pc := 66) dX1_arrangeOnce_66 3 rfl rfl ?_
        refine r_iaload (pc := 67) dX1_arrangeOnce_67 h (fun x67 e67 h => ?_)
        refine r_icmp_ne (pc := 68) (tgt := 74) dX1_arrangeOnce_68 (by decide) h (fun e68 h => ?_) (fun e68 h => ?_)
        · refine r_aload_n (pc := 74) dX1_arrangeOnce_74 0 rfl rfl ?_
          refine r_gA (pc := 75) dX1_arrangeOnce_75 q318 fd_4 same_rf h (fun x75 e75 h => ?_)
          refine r_iload_n (pc := 78) dX1_arrangeOnce_78 2 rfl rfl ?_
          refine r_iload_n (pc := 79) dX1_arrangeOnce_79 3 rfl rfl ?_
          refine r_callV (pc := 80) (rest := []) (lkV dX1_arrangeOnce_80 q1564 xd_X2_swap (vc_of vt_X2_swap q1561 (fun _ => sX2_swap)) adx_X2_swap) (by decide) (Nat.le_of_ble_eq_true rfl) rfl h (fun u80 st e80 h => ?_)
          refine r_aload_n (pc := 83) dX1_arrangeOnce_83 0 rfl rfl ?_
          refine r_aload_n (pc := 84) dX1_arrangeOnce_84 0 rfl rfl ?_
          refine r_gA (pc := 85) dX1_arrangeOnce_85 q318 fd_4 same_rf h (fun x85 e85 h => ?_)
          refine r_aload_n (pc := 88) dX1_arrangeOnce_88 0 rfl rfl ?_
          refine r_gJ (pc := 89) dX1_arrangeOnce_89 q319 fd_5 same_rf h (fun x89 e89 h => ?_)
          refine r_aload_n (pc := 92) dX1_arrangeOnce_92 0 rfl rfl ?_
          refine r_gJ (pc := 93) dX1_arrangeOnce_93 q320 fd_6 same_rf h (fun x93 e93 h => ?_)
          refine r_callI (pc := 96) (rest := []) (lkV dX1_arrangeOnce_96 q1458 xd_X1_heightOf (vc_of vt_X1_heightOf q1460 (fun _ => sX1_heightOf)) adx_X1_heightOf) (by decide) (Nat.le_of_ble_eq_true rfl) rfl h (fun x96 st e96 h => ?_)
          refine r_istore (pc := 99) (env' := [(4, vi x96), (0, vr v0), (1, vi v1), (2, vi v2), (3, vi v3)]) dX1_arrangeOnce_99 (by decide) rfl ?_
          refine r_iload (pc := 101) dX1_arrangeOnce_101 0 rfl ?_
          refine r_iload_n (pc := 103) dX1_arrangeOnce_103 2 rfl rfl ?_
          refine r_icmp_le (pc := 104) (tgt := 110) dX1_arrangeOnce_104 (by decide) h (fun e104 h => ?_) (fun e104 h => ?_)
          · refine r_aload_n (pc := 110) dX1_arrangeOnce_110 1 rfl rfl ?_
            refine r_gA (pc := 111) dX1_arrangeOnce_111 q318 fd_4 same_rf h (fun x111 e111 h => ?_)
            refine r_iload_n (pc := 114) dX1_arrangeOnce_114 3 rfl rfl ?_
            refine r_iload_n (pc := 115) dX1_arrangeOnce_115 4 rfl rfl ?_
            refine r_callV (pc := 116) (rest := []) (lkV dX1_arrangeOnce_116 q1564 xd_X2_swap (vc_of vt_X2_swap q1561 (fun _ => sX2_swap)) adx_X2_swap) (by decide) (Nat.le_of_ble_eq_true rfl) rfl h (fun u116 st e116 h => ?_)
            exact r_sub (env' := [(0, vr v0), (1, vi v1), (2, vi v2), (3, vi v3)]) [1, 2, 3, 4] rfl (sX1_arrangeOnce_119 hk2 hk17 _ _ _ _ _ h)
          · refine r_iload (pc := 107) dX1_arrangeOnce_107 0 rfl ?_
            exact r_ireturn (pc := 109) dX1_arrangeOnce_109 rfl rfl h
        · refine r_goto (pc := 71) (tgt := 119) dX1_arrangeOnce_71 (by decide) ?_
          exact sX1_arrangeOnce_119 hk2 hk17 _ _ _ _ _ h
theorem sX1_arrangeOnce_17 {st0 : Mem} {fin : Int32 × Mem} {kk2 : Rf → Int32 → Int32 → Mem → Option (Int32 × Mem)} (hk2 : ∀ (v0 : Rf) (v1 : Int32) (v2 : Int32) (st : Mem), kk2 v0 v1 v2 st = some fin → G (cX1_arrangeOnce, "HouseClaps", "arrangeOnce", 84, (some .int), 5) st0 trI fin 2 [(0, vr v0), (1, vi v1), (2, vi v2)] [] st) (n : Nat) : ∀ (v0 : Rf) (v1 : Int32) (v2 : Int32) (v3 : Int32) (st : Mem), bX1_arrangeOnce_17 kk2 n v0 v1 v2 v3 st = some fin → G (cX1_arrangeOnce, "HouseClaps", "arrangeOnce", 84, (some .int), 5) st0 trI fin 17 [(0, vr v0), (1, vi v1), (2, vi v2), (3, vi v3)] [] st := by
  induction n with
  | zero => intro v0 v1 v2 v3 st h; cases h
  | succ n ih => intro v0 v1 v2 v3 st h; exact sX1_arrangeOnce_17B hk2  ih v0 v1 v2 v3 st h
theorem sX1_arrangeOnce_2B {st0 : Mem} {fin : Int32 × Mem} {kk2 : Rf → Int32 → Int32 → Mem → Option (Int32 × Mem)} (hk2 : ∀ (v0 : Rf) (v1 : Int32) (v2 : Int32) (st : Mem), kk2 v0 v1 v2 st = some fin → G (cX1_arrangeOnce, "HouseClaps", "arrangeOnce", 84, (some .int), 5) st0 trI fin 2 [(0, vr v0), (1, vi v1), (2, vi v2)] [] st) (v0 : Rf) (v1 : Int32) (v2 : Int32) (st : Mem) (h : bX1_arrangeOnce_2B kk2 v0 v1 v2 st = some fin) : G (cX1_arrangeOnce, "HouseClaps", "arrangeOnce", 84, (some .int), 5) st0 trI fin 2 [(0, vr v0), (1, vi v1), (2, vi v2)] [] st := by
  unfold bX1_arrangeOnce_2B at h
  refine r_iload_n (pc := 2) dX1_arrangeOnce_2 2 rfl rfl ?_
  refine r_aload_n (pc := 3) dX1_arrangeOnce_3 0 rfl rfl ?_
  refine r_gA (pc := 4) dX1_arrangeOnce_4 q318 fd_4 same_rf h (fun x4 e4 h => ?_)
  refine r_callI (pc := 7) (rest := [vi v2]) (lkV dX1_arrangeOnce_7 q1535 xd_X2_size (vc_of vt_X2_size q1039 (fun _ => sX2_size)) adx_X2_size) (by decide) (Nat.le_of_ble_eq_true rfl) rfl h (fun x7 st e7 h => ?_)
  refine r_icmp_ge (pc := 10) (tgt := 131) dX1_arrangeOnce_10 (by decide) h (fun e10 h => ?_) (fun e10 h => ?_)
  · refine r_iload_n (pc := 131) dX1_arrangeOnce_131 1 rfl rfl ?_
    exact r_ireturn (pc := 132) dX1_arrangeOnce_132 rfl rfl h
  · refine r_iload_n (pc := 13) dX1_arrangeOnce_13 2 rfl rfl ?_
    refine r_iconst (pc := 14) (v := 1) dX1_arrangeOnce_14 (by decide) ?_
    refine r_iadd (pc := 15) dX1_arrangeOnce_15 ?_
    refine r_istore_n (pc := 16) (env' := [(3, vi (v2 + (1 : Int32))), (0, vr v0), (1, vi v1), (2, vi v2)]) dX1_arrangeOnce_16 rfl (by decide) rfl ?_
    exact r_sub (env' := [(0, vr v0), (1, vi v1), (2, vi v2), (3, vi (v2 + (1 : Int32)))]) [1, 2, 3, 0] rfl (sX1_arrangeOnce_17 hk2 hcFuel _ _ _ _ _ h)
theorem sX1_arrangeOnce_2 {st0 : Mem} {fin : Int32 × Mem} (n : Nat) : ∀ (v0 : Rf) (v1 : Int32) (v2 : Int32) (st : Mem), bX1_arrangeOnce_2 n v0 v1 v2 st = some fin → G (cX1_arrangeOnce, "HouseClaps", "arrangeOnce", 84, (some .int), 5) st0 trI fin 2 [(0, vr v0), (1, vi v1), (2, vi v2)] [] st := by
  induction n with
  | zero => intro v0 v1 v2 st h; cases h
  | succ n ih => intro v0 v1 v2 st h; exact sX1_arrangeOnce_2B  ih v0 v1 v2 st h
theorem sX1_arrangeOnce {a0 : Rf} {a1 : Int32} {st : Mem} {fin : Int32 × Mem} (h : fX1_arrangeOnce a0 a1 st = some fin) : Con yX1_arrangeOnce 84 [vr a0, vi a1] st trI fin := by
  refine Con.mk (cc := cX1_arrangeOnce) (n := 5) (own := "HouseClaps") (nm := "arrangeOnce") (ret := (some .int)) (env := [(0, vr a0), (1, vi a1)]) q1594 rfl rfl rfl (by decide) ⟨Nat.le_of_ble_eq_true rfl, by decide⟩ rfl ?_
  unfold fX1_arrangeOnce at h
  refine r_iconst (pc := 0) (v := 0) dX1_arrangeOnce_0 (by decide) ?_
  refine r_istore_n (pc := 1) (env' := [(2, vi (0 : Int32)), (0, vr a0), (1, vi a1)]) dX1_arrangeOnce_1 rfl (by decide) rfl ?_
  exact r_sub (env' := [(0, vr a0), (1, vi a1), (2, vi (0 : Int32))]) [1, 2, 0] rfl (sX1_arrangeOnce_2 hcFuel _ _ _ _ h)
theorem sX1_carries {a0 : Rf} {a1 : Int32} {st : Mem} {fin : Int32 × Mem} (h : fX1_carries a0 a1 st = some fin) : Con yX1_carries 84 [vr a0, vi a1] st trI fin := by
  refine Con.mk (cc := cX1_carries) (n := 3) (own := "HouseClaps") (nm := "carries") (ret := (some .int)) (env := [(0, vr a0), (1, vi a1)]) q1457 rfl rfl rfl (by decide) ⟨Nat.le_of_ble_eq_true rfl, by decide⟩ rfl ?_
  unfold fX1_carries at h
  refine r_iload_n (pc := 0) dX1_carries_0 1 rfl rfl ?_
  refine r_iconst (pc := 1) (v := 0) dX1_carries_1 (by decide) ?_
  refine r_iconst (pc := 2) (v := 1) dX1_carries_2 (by decide) ?_
  refine r_callI (pc := 3) (rest := []) (lkS dX1_carries_3 q1055 q928 q85 (fun _ => sX1_isIn) ad_X1_isIn) (by decide) (Nat.le_of_ble_eq_true rfl) rfl h (fun x3 st e3 h => ?_)
  refine r_if_ne (pc := 6) (tgt := 11) dX1_carries_6 (by decide) h (fun e6 h => ?_) (fun e6 h => ?_)
  · refine r_aload_n (pc := 11) dX1_carries_11 0 rfl rfl ?_
    refine r_aload_n (pc := 12) dX1_carries_12 0 rfl rfl ?_
    refine r_gA (pc := 13) dX1_carries_13 q318 fd_4 same_rf h (fun x13 e13 h => ?_)
    refine r_aload_n (pc := 16) dX1_carries_16 0 rfl rfl ?_
    refine r_gJ (pc := 17) dX1_carries_17 q319 fd_5 same_rf h (fun x17 e17 h => ?_)
    refine r_aload_n (pc := 20) dX1_carries_20 0 rfl rfl ?_
    refine r_gJ (pc := 21) dX1_carries_21 q320 fd_6 same_rf h (fun x21 e21 h => ?_)
    refine r_callI (pc := 24) (rest := []) (lkV dX1_carries_24 q1458 xd_X1_heightOf (vc_of vt_X1_heightOf q1460 (fun _ => sX1_heightOf)) adx_X1_heightOf) (by decide) (Nat.le_of_ble_eq_true rfl) rfl h (fun x24 st e24 h => ?_)
    refine r_istore_n (pc := 27) (env' := [(2, vi x24), (0, vr a0), (1, vi a1)]) dX1_carries_27 rfl (by decide) rfl ?_
    refine r_iload_n (pc := 28) dX1_carries_28 2 rfl rfl ?_
    refine r_iconst (pc := 29) (v := 1) dX1_carries_29 (by decide) ?_
    refine r_icmp_ne (pc := 30) (tgt := 37) dX1_carries_30 (by decide) h (fun e30 h => ?_) (fun e30 h => ?_)
    · refine r_iload_n (pc := 37) dX1_carries_37 0 rfl rfl ?_
      refine r_aload_n (pc := 38) dX1_carries_38 1 rfl rfl ?_
      refine r_gA (pc := 39) dX1_carries_39 q318 fd_4 same_rf h (fun x39 e39 h => ?_)
      refine r_gIN (pc := 42) dX1_carries_42 q161 fd_30 same_rf h (fun x42 e42 h => ?_)
      refine r_icmp_lt (pc := 45) (tgt := 52) dX1_carries_45 (by decide) h (fun e45 h => ?_) (fun e45 h => ?_)
      · refine r_iconst (pc := 52) (v := 0) dX1_carries_52 (by decide) ?_
        exact r_ireturn (pc := 53) dX1_carries_53 rfl rfl h
      · refine r_iconst (pc := 48) (v := 1) dX1_carries_48 (by decide) ?_
        refine r_goto (pc := 49) (tgt := 53) dX1_carries_49 (by decide) ?_
        exact r_ireturn (pc := 53) dX1_carries_53 rfl rfl h
    · refine r_iload_n (pc := 33) dX1_carries_33 0 rfl rfl ?_
      refine r_goto (pc := 34) (tgt := 53) dX1_carries_34 (by decide) ?_
      exact r_ireturn (pc := 53) dX1_carries_53 rfl rfl h
  · refine r_iconst (pc := 9) (v := (-1)) dX1_carries_9 (by decide) ?_
    exact r_ireturn (pc := 10) dX1_carries_10 rfl rfl h
theorem sX1_hush_97 {st0 : Mem} {fin : Int32 × Mem} {kk37 : Rf → Int32 → Int32 → Int32 → Mem → Option (Int32 × Mem)} (hk37 : ∀ (v0 : Rf) (v1 : Int32) (v2 : Int32) (v3 : Int32) (st : Mem), kk37 v0 v1 v2 v3 st = some fin → G (cX1_hush, "HouseClaps", "hush", 84, (some .int), 4) st0 trI fin 37 [(0, vr v0), (1, vi v1), (2, vi v2), (3, vi v3)] [] st) (v0 : Rf) (v1 : Int32) (v2 : Int32) (v3 : Int32) (st : Mem) (h : bX1_hush_97 kk37 v0 v1 v2 v3 st = some fin) : G (cX1_hush, "HouseClaps", "hush", 84, (some .int), 4) st0 trI fin 97 [(0, vr v0), (1, vi v1), (2, vi v2), (3, vi v3)] [] st := by
  unfold bX1_hush_97 at h
  refine r_iinc (pc := 97) (env' := [(3, vi (v3 + 1)), (0, vr v0), (1, vi v1), (2, vi v2)]) (cst := 1) dX1_hush_97 3 rfl (by decide) (by decide) rfl ?_
  refine r_goto (pc := 100) (tgt := 37) dX1_hush_100 (by decide) ?_
  exact r_sub (env' := [(0, vr v0), (1, vi v1), (2, vi v2), (3, vi (v3 + 1))]) [1, 2, 3, 0] rfl (hk37 _ _ _ _ _ h)
theorem sX1_hush_63 {st0 : Mem} {fin : Int32 × Mem} {kk37 : Rf → Int32 → Int32 → Int32 → Mem → Option (Int32 × Mem)} (hk37 : ∀ (v0 : Rf) (v1 : Int32) (v2 : Int32) (v3 : Int32) (st : Mem), kk37 v0 v1 v2 v3 st = some fin → G (cX1_hush, "HouseClaps", "hush", 84, (some .int), 4) st0 trI fin 37 [(0, vr v0), (1, vi v1), (2, vi v2), (3, vi v3)] [] st) (v0 : Rf) (v1 : Int32) (v2 : Int32) (v3 : Int32) (st : Mem) (h : bX1_hush_63 kk37 v0 v1 v2 v3 st = some fin) : G (cX1_hush, "HouseClaps", "hush", 84, (some .int), 4) st0 trI fin 63 [(0, vr v0), (1, vi v1), (2, vi v2), (3, vi v3)] [] st := by
  unfold bX1_hush_63 at h
  refine r_aload_n (pc := 63) dX1_hush_63 0 rfl rfl ?_
  refine r_aload_n (pc := 64) dX1_hush_64 0 rfl rfl ?_
  refine r_gA (pc := 65) dX1_hush_65 q318 fd_4 same_rf h (fun x65 e65 h => ?_)
  refine r_aload_n (pc := 68) dX1_hush_68 0 rfl rfl ?_
  refine r_gJ (pc := 69) dX1_hush_69 q319 fd_5 same_rf h (fun x69 e69 h => ?_)
  refine r_aload_n (pc := 72) dX1_hush_72 0 rfl rfl ?_
  refine r_gJ (pc := 73) dX1_hush_73 q320 fd_6 same_rf h (fun x73 e73 h => ?_)
  refine r_aload_n (pc := 76) dX1_hush_76 0 rfl rfl ?_
  refine r_iload_n (pc := 77) dX1_hush_77 3 rfl rfl ?_
  refine r_callJ (pc := 78) (rest := [vj x73, vj x69, vr x65, vr v0]) (lkV dX1_hush_78 q1491 xd_X1_handsOf (vc_of vt_X1_handsOf q1493 (fun _ => sX1_handsOf)) adx_X1_handsOf) (by decide) (Nat.le_of_ble_eq_true rfl) rfl h (fun x78 st e78 h => ?_)
  refine r_lor (pc := 81) dX1_hush_81 ?_
  refine r_callI (pc := 82) (rest := []) (lkV dX1_hush_82 q1458 xd_X1_heightOf (vc_of vt_X1_heightOf q1460 (fun _ => sX1_heightOf)) adx_X1_heightOf) (by decide) (Nat.le_of_ble_eq_true rfl) rfl h (fun x82 st e82 h => ?_)
  refine r_aload_n (pc := 85) dX1_hush_85 0 rfl rfl ?_
  refine r_gA (pc := 86) dX1_hush_86 q318 fd_4 same_rf h (fun x86 e86 h => ?_)
  refine r_gIN (pc := 89) dX1_hush_89 q161 fd_30 same_rf h (fun x89 e89 h => ?_)
  refine r_icmp_ge (pc := 92) (tgt := 97) dX1_hush_92 (by decide) h (fun e92 h => ?_) (fun e92 h => ?_)
  · exact sX1_hush_97 hk37 _ _ _ _ _ h
  · refine r_iload_n (pc := 95) dX1_hush_95 3 rfl rfl ?_
    refine r_istore_n (pc := 96) (env' := [(2, vi v3), (0, vr v0), (1, vi v1), (3, vi v3)]) dX1_hush_96 rfl (by decide) rfl ?_
    exact r_sub (env' := [(0, vr v0), (1, vi v1), (2, vi v3), (3, vi v3)]) [1, 2, 0, 3] rfl (sX1_hush_97 hk37 _ _ _ _ _ h)
theorem sX1_hush_37B {st0 : Mem} {fin : Int32 × Mem} {kk37 : Rf → Int32 → Int32 → Int32 → Mem → Option (Int32 × Mem)} (hk37 : ∀ (v0 : Rf) (v1 : Int32) (v2 : Int32) (v3 : Int32) (st : Mem), kk37 v0 v1 v2 v3 st = some fin → G (cX1_hush, "HouseClaps", "hush", 84, (some .int), 4) st0 trI fin 37 [(0, vr v0), (1, vi v1), (2, vi v2), (3, vi v3)] [] st) (v0 : Rf) (v1 : Int32) (v2 : Int32) (v3 : Int32) (st : Mem) (h : bX1_hush_37B kk37 v0 v1 v2 v3 st = some fin) : G (cX1_hush, "HouseClaps", "hush", 84, (some .int), 4) st0 trI fin 37 [(0, vr v0), (1, vi v1), (2, vi v2), (3, vi v3)] [] st := by
  unfold bX1_hush_37B at h
  refine r_iload_n (pc := 37) dX1_hush_37 3 rfl rfl ?_
  refine r_iconst (pc := 38) (v := 1) dX1_hush_38 (by decide) ?_
  refine r_iload_n (pc := 39) dX1_hush_39 1 rfl rfl ?_
  refine r_ishl (pc := 40) dX1_hush_40 ?_
  refine r_icmp_ge (pc := 41) (tgt := 103) dX1_hush_41 (by decide) h (fun e41 h => ?_) (fun e41 h => ?_)
  · refine r_iload_n (pc := 103) dX1_hush_103 2 rfl rfl ?_
    exact r_ireturn (pc := 104) dX1_hush_104 rfl rfl h
  · refine r_iload_n (pc := 44) dX1_hush_44 2 rfl rfl ?_
    refine r_iconst (pc := 45) (v := (-1)) dX1_hush_45 (by decide) ?_
    refine r_icmp_eq (pc := 46) (tgt := 63) dX1_hush_46 (by decide) h (fun e46 h => ?_) (fun e46 h => ?_)
    · exact sX1_hush_63 hk37 _ _ _ _ _ h
    · refine r_iload_n (pc := 49) dX1_hush_49 3 rfl rfl ?_
      refine r_callI (pc := 50) (rest := []) (lkS dX1_hush_50 q1485 q1486 q127 (fun _ => sJ19_bitCount) ad_J19_bitCount) (by decide) (Nat.le_of_ble_eq_true rfl) rfl h (fun x50 st e50 h => ?_)
      refine r_iload_n (pc := 53) dX1_hush_53 2 rfl rfl ?_
      refine r_callI (pc := 54) (rest := [vi x50]) (lkS dX1_hush_54 q1485 q1486 q127 (fun _ => sJ19_bitCount) ad_J19_bitCount) (by decide) (Nat.le_of_ble_eq_true rfl) rfl h (fun x54 st e54 h => ?_)
      refine r_icmp_lt (pc := 57) (tgt := 63) dX1_hush_57 (by decide) h (fun e57 h => ?_) (fun e57 h => ?_)
      · exact sX1_hush_63 hk37 _ _ _ _ _ h
      · refine r_goto (pc := 60) (tgt := 97) dX1_hush_60 (by decide) ?_
        exact sX1_hush_97 hk37 _ _ _ _ _ h
theorem sX1_hush_37 {st0 : Mem} {fin : Int32 × Mem} (n : Nat) : ∀ (v0 : Rf) (v1 : Int32) (v2 : Int32) (v3 : Int32) (st : Mem), bX1_hush_37 n v0 v1 v2 v3 st = some fin → G (cX1_hush, "HouseClaps", "hush", 84, (some .int), 4) st0 trI fin 37 [(0, vr v0), (1, vi v1), (2, vi v2), (3, vi v3)] [] st := by
  induction n with
  | zero => intro v0 v1 v2 v3 st h; cases h
  | succ n ih => intro v0 v1 v2 v3 st h; exact sX1_hush_37B  ih v0 v1 v2 v3 st h
theorem sX1_hush {a0 : Rf} {st : Mem} {fin : Int32 × Mem} (h : fX1_hush a0 st = some fin) : Con yX1_hush 84 [vr a0] st trI fin := by
  refine Con.mk (cc := cX1_hush) (n := 4) (own := "HouseClaps") (nm := "hush") (ret := (some .int)) (env := [(0, vr a0)]) q1506 rfl rfl rfl (by decide) ⟨Nat.le_of_ble_eq_true rfl, by decide⟩ rfl ?_
  unfold fX1_hush at h
  refine r_aload_n (pc := 0) dX1_hush_0 0 rfl rfl ?_
  refine r_callI (pc := 1) (rest := []) (lkV dX1_hush_1 q415 xd_X1_take (vc_of vt_X1_take q417 (fun _ => sX1_take)) adx_X1_take) (by decide) (Nat.le_of_ble_eq_true rfl) rfl h (fun x1 st e1 h => ?_)
  refine r_istore_n (pc := 4) (env' := [(1, vi x1), (0, vr a0)]) dX1_hush_4 rfl (by decide) rfl ?_
  refine r_iload_n (pc := 5) dX1_hush_5 0 rfl rfl ?_
  refine r_iconst (pc := 6) (v := 1) dX1_hush_6 (by decide) ?_
  refine r_bipush (pc := 7) (v := 8) dX1_hush_7 (by decide) ?_
  refine r_callI (pc := 9) (rest := []) (lkS dX1_hush_9 q1055 q928 q85 (fun _ => sX1_isIn) ad_X1_isIn) (by decide) (Nat.le_of_ble_eq_true rfl) rfl h (fun x9 st e9 h => ?_)
  refine r_if_eq (pc := 12) (tgt := 30) dX1_hush_12 (by decide) h (fun e12 h => ?_) (fun e12 h => ?_)
  · refine r_bipush (pc := 30) (v := (-2)) dX1_hush_30 (by decide) ?_
    exact r_ireturn (pc := 32) dX1_hush_32 rfl rfl h
  · refine r_aload_n (pc := 15) dX1_hush_15 1 rfl rfl ?_
    refine r_iconst (pc := 16) (v := 0) dX1_hush_16 (by decide) ?_
    refine r_iload_n (pc := 17) dX1_hush_17 0 rfl rfl ?_
    refine r_aload_n (pc := 18) dX1_hush_18 1 rfl rfl ?_
    refine r_gA (pc := 19) dX1_hush_19 q325 fd_11 same_rf h (fun x19 e19 h => ?_)
    refine r_lconst (pc := 22) (v := 0) dX1_hush_22 (by decide) ?_
    refine r_callI (pc := 23) (rest := []) (lkV dX1_hush_23 q1470 xd_X1_takesSeats (vc_of vt_X1_takesSeats q1472 (fun _ => sX1_takesSeats)) adx_X1_takesSeats) (by decide) (Nat.le_of_ble_eq_true rfl) rfl h (fun x23 st e23 h => ?_)
    refine r_iconst (pc := 26) (v := (-1)) dX1_hush_26 (by decide) ?_
    refine r_icmp_ne (pc := 27) (tgt := 33) dX1_hush_27 (by decide) h (fun e27 h => ?_) (fun e27 h => ?_)
    · refine r_iconst (pc := 33) (v := (-1)) dX1_hush_33 (by decide) ?_
      refine r_istore_n (pc := 34) (env' := [(2, vi (-1 : Int32)), (1, vi x1), (0, vr a0)]) dX1_hush_34 rfl (by decide) rfl ?_
      refine r_iconst (pc := 35) (v := 0) dX1_hush_35 (by decide) ?_
      refine r_istore_n (pc := 36) (env' := [(3, vi (0 : Int32)), (2, vi (-1 : Int32)), (1, vi x1), (0, vr a0)]) dX1_hush_36 rfl (by decide) rfl ?_
      exact r_sub (env' := [(0, vr a0), (1, vi x1), (2, vi (-1 : Int32)), (3, vi (0 : Int32))]) [3, 2, 1, 0] rfl (sX1_hush_37 hcFuel _ _ _ _ _ h)
    · refine r_bipush (pc := 30) (v := (-2)) dX1_hush_30 (by decide) ?_
      exact r_ireturn (pc := 32) dX1_hush_32 rfl rfl h
theorem sX1_isCarried {a0 : Rf} {a1 : Rf} {a2 : Int64} {st : Mem} {fin : Int32 × Mem} (h : fX1_isCarried a0 a1 a2 st = some fin) : Con yX1_isCarried 84 [vr a0, vr a1, vj a2] st trI fin := by
  refine Con.mk (cc := cX1_isCarried) (n := 4) (own := "HouseClaps") (nm := "isCarried") (ret := (some .boolean)) (env := [(0, vr a0), (1, vr a1), (2, vj a2)]) q1498 rfl rfl rfl (by decide) ⟨Nat.le_of_ble_eq_true rfl, by decide⟩ rfl ?_
  unfold fX1_isCarried at h
  refine r_aload_n (pc := 0) dX1_isCarried_0 0 rfl rfl ?_
  refine r_aload_n (pc := 1) dX1_isCarried_1 1 rfl rfl ?_
  refine r_lload_n (pc := 2) dX1_isCarried_2 2 rfl rfl ?_
  refine r_aload_n (pc := 3) dX1_isCarried_3 0 rfl rfl ?_
  refine r_gJ (pc := 4) dX1_isCarried_4 q320 fd_6 same_rf h (fun x4 e4 h => ?_)
  refine r_callI (pc := 7) (rest := []) (lkV dX1_isCarried_7 q1458 xd_X1_heightOf (vc_of vt_X1_heightOf q1460 (fun _ => sX1_heightOf)) adx_X1_heightOf) (by decide) (Nat.le_of_ble_eq_true rfl) rfl h (fun x7 st e7 h => ?_)
  refine r_aload_n (pc := 10) dX1_isCarried_10 1 rfl rfl ?_
  refine r_gIN (pc := 11) dX1_isCarried_11 q161 fd_30 same_rf h (fun x11 e11 h => ?_)
  refine r_icmp_lt (pc := 14) (tgt := 21) dX1_isCarried_14 (by decide) h (fun e14 h => ?_) (fun e14 h => ?_)
  · refine r_iconst (pc := 21) (v := 0) dX1_isCarried_21 (by decide) ?_
    exact r_ireturn (pc := 22) dX1_isCarried_22 rfl rfl h
  · refine r_iconst (pc := 17) (v := 1) dX1_isCarried_17 (by decide) ?_
    refine r_goto (pc := 18) (tgt := 22) dX1_isCarried_18 (by decide) ?_
    exact r_ireturn (pc := 22) dX1_isCarried_22 rfl rfl h
theorem sX1_sides_309 {st0 : Mem} {fin : Int32 × Mem} {kk207 : Rf → Int32 → Int32 → Int32 → Int32 → Mem → Option (Int32 × Mem)} (hk207 : ∀ (v0 : Rf) (v2 : Int32) (v3 : Int32) (v4 : Int32) (v5 : Int32) (st : Mem), kk207 v0 v2 v3 v4 v5 st = some fin → G (cX1_sides, "HouseClaps", "sides", 84, (some .int), 8) st0 trI fin 207 [(0, vr v0), (2, vi v2), (3, vi v3), (4, vi v4), (5, vi v5)] [] st) (v0 : Rf) (v2 : Int32) (v3 : Int32) (v4 : Int32) (v5 : Int32) (st : Mem) (h : bX1_sides_309 kk207 v0 v2 v3 v4 v5 st = some fin) : G (cX1_sides, "HouseClaps", "sides", 84, (some .int), 8) st0 trI fin 309 [(0, vr v0), (2, vi v2), (3, vi v3), (4, vi v4), (5, vi v5)] [] st := by
  unfold bX1_sides_309 at h
  refine r_iinc (pc := 309) (env' := [(5, vi (v5 + 1)), (0, vr v0), (2, vi v2), (3, vi v3), (4, vi v4)]) (cst := 1) dX1_sides_309 4 rfl (by decide) (by decide) rfl ?_
  refine r_goto (pc := 312) (tgt := 207) dX1_sides_312 (by decide) ?_
  exact r_sub (env' := [(0, vr v0), (2, vi v2), (3, vi v3), (4, vi v4), (5, vi (v5 + 1))]) [1, 2, 3, 4, 0] rfl (hk207 _ _ _ _ _ _ h)
theorem sX1_sides_219B {st0 : Mem} {fin : Int32 × Mem} {kk207 : Rf → Int32 → Int32 → Int32 → Int32 → Mem → Option (Int32 × Mem)} {kk219 : Rf → Int32 → Int32 → Int32 → Int32 → Int32 → Int32 → Mem → Option (Int32 × Mem)} (hk207 : ∀ (v0 : Rf) (v2 : Int32) (v3 : Int32) (v4 : Int32) (v5 : Int32) (st : Mem), kk207 v0 v2 v3 v4 v5 st = some fin → G (cX1_sides, "HouseClaps", "sides", 84, (some .int), 8) st0 trI fin 207 [(0, vr v0), (2, vi v2), (3, vi v3), (4, vi v4), (5, vi v5)] [] st) (hk219 : ∀ (v0 : Rf) (v2 : Int32) (v3 : Int32) (v4 : Int32) (v5 : Int32) (v6 : Int32) (v7 : Int32) (st : Mem), kk219 v0 v2 v3 v4 v5 v6 v7 st = some fin → G (cX1_sides, "HouseClaps", "sides", 84, (some .int), 8) st0 trI fin 219 [(0, vr v0), (2, vi v2), (3, vi v3), (4, vi v4), (5, vi v5), (6, vi v6), (7, vi v7)] [] st) (v0 : Rf) (v2 : Int32) (v3 : Int32) (v4 : Int32) (v5 : Int32) (v6 : Int32) (v7 : Int32) (st : Mem) (h : bX1_sides_219B kk207 kk219 v0 v2 v3 v4 v5 v6 v7 st = some fin) : G (cX1_sides, "HouseClaps", "sides", 84, (some .int), 8) st0 trI fin 219 [(0, vr v0), (2, vi v2), (3, vi v3), (4, vi v4), (5, vi v5), (6, vi v6), (7, vi v7)] [] st := by
  unfold bX1_sides_219B at h
  refine r_iload (pc := 219) dX1_sides_219 6 rfl ?_
  refine r_iload_n (pc := 221) dX1_sides_221 1 rfl rfl ?_
  refine r_icmp_ge (pc := 222) (tgt := 274) dX1_sides_222 (by decide) h (fun e222 h => ?_) (fun e222 h => ?_)
  · refine r_iload (pc := 274) dX1_sides_274 5 rfl ?_
    refine r_aload_n (pc := 276) dX1_sides_276 0 rfl rfl ?_
    refine r_gA (pc := 277) dX1_sides_277 q333 fd_19 same_rf h (fun x277 e277 h => ?_)
    refine r_iconst (pc := 280) (v := 0) dX1_sides_280 (by decide) ?_
    refine r_iaload (pc := 281) dX1_sides_281 h (fun x281 e281 h => ?_)
    refine r_icmp_lt (pc := 282) (tgt := 288) dX1_sides_282 (by decide) h (fun e282 h => ?_) (fun e282 h => ?_)
    · refine r_aload_n (pc := 288) dX1_sides_288 0 rfl rfl ?_
      refine r_gA (pc := 289) dX1_sides_289 q333 fd_19 same_rf h (fun x289 e289 h => ?_)
      refine r_iconst (pc := 292) (v := 0) dX1_sides_292 (by decide) ?_
      refine r_iload (pc := 293) dX1_sides_293 5 rfl ?_
      refine r_iastore (pc := 295) dX1_sides_295 h (fun st e295 h => ?_)
      refine r_aload_n (pc := 296) dX1_sides_296 0 rfl rfl ?_
      refine r_gA (pc := 297) dX1_sides_297 q333 fd_19 same_rf h (fun x297 e297 h => ?_)
      refine r_iconst (pc := 300) (v := 2) dX1_sides_300 (by decide) ?_
      refine r_aload_n (pc := 301) dX1_sides_301 0 rfl rfl ?_
      refine r_gA (pc := 302) dX1_sides_302 q332 fd_18 same_rf h (fun x302 e302 h => ?_)
      refine r_iload (pc := 305) dX1_sides_305 4 rfl ?_
      refine r_iaload (pc := 307) dX1_sides_307 h (fun x307 e307 h => ?_)
      refine r_iastore (pc := 308) dX1_sides_308 h (fun st e308 h => ?_)
      exact r_sub (env' := [(0, vr v0), (2, vi v2), (3, vi v3), (4, vi v4), (5, vi v5)]) [0, 1, 2, 3, 4] rfl (sX1_sides_309 hk207 _ _ _ _ _ _ h)
    · refine r_goto (pc := 285) (tgt := 309) dX1_sides_285 (by decide) ?_
      exact r_sub (env' := [(0, vr v0), (2, vi v2), (3, vi v3), (4, vi v4), (5, vi v5)]) [0, 1, 2, 3, 4] rfl (sX1_sides_309 hk207 _ _ _ _ _ _ h)
  · refine r_iload (pc := 225) dX1_sides_225 5 rfl ?_
    refine r_aload_n (pc := 227) dX1_sides_227 0 rfl rfl ?_
    refine r_aload_n (pc := 228) dX1_sides_228 0 rfl rfl ?_
    refine r_gA (pc := 229) dX1_sides_229 q318 fd_4 same_rf h (fun x229 e229 h => ?_)
    refine r_aload_n (pc := 232) dX1_sides_232 0 rfl rfl ?_
    refine r_gJ (pc := 233) dX1_sides_233 q319 fd_5 same_rf h (fun x233 e233 h => ?_)
    refine r_lconst (pc := 236) (v := 1) dX1_sides_236 (by decide) ?_
    refine r_aload_n (pc := 237) dX1_sides_237 0 rfl rfl ?_
    refine r_gA (pc := 238) dX1_sides_238 q325 fd_11 same_rf h (fun x238 e238 h => ?_)
    refine r_iload (pc := 241) dX1_sides_241 6 rfl ?_
    refine r_iaload (pc := 243) dX1_sides_243 h (fun x243 e243 h => ?_)
    refine r_lshl (pc := 244) dX1_sides_244 ?_
    refine r_lor (pc := 245) dX1_sides_245 ?_
    refine r_aload_n (pc := 246) dX1_sides_246 0 rfl rfl ?_
    refine r_gJ (pc := 247) dX1_sides_247 q320 fd_6 same_rf h (fun x247 e247 h => ?_)
    refine r_lconst (pc := 250) (v := 1) dX1_sides_250 (by decide) ?_
    refine r_aload_n (pc := 251) dX1_sides_251 0 rfl rfl ?_
    refine r_gA (pc := 252) dX1_sides_252 q332 fd_18 same_rf h (fun x252 e252 h => ?_)
    refine r_iload (pc := 255) dX1_sides_255 4 rfl ?_
    refine r_iaload (pc := 257) dX1_sides_257 h (fun x257 e257 h => ?_)
    refine r_lshl (pc := 258) dX1_sides_258 ?_
    refine r_lor (pc := 259) dX1_sides_259 ?_
    refine r_callI (pc := 260) (rest := [vi v6]) (lkV dX1_sides_260 q1458 xd_X1_heightOf (vc_of vt_X1_heightOf q1460 (fun _ => sX1_heightOf)) adx_X1_heightOf) (by decide) (Nat.le_of_ble_eq_true rfl) rfl h (fun x260 st e260 h => ?_)
    refine r_mmaxI (pc := 263) dX1_sides_263 q1432 (by decide) (Nat.le_of_ble_eq_true rfl) ?_
    refine r_istore (pc := 266) (env' := [(6, vi (mmaxI v6 x260)), (0, vr v0), (2, vi v2), (3, vi v3), (4, vi v4), (5, vi v5), (7, vi v7)]) dX1_sides_266 (by decide) rfl ?_
    refine r_iinc (pc := 268) (env' := [(7, vi (v7 + 1)), (6, vi (mmaxI v6 x260)), (0, vr v0), (2, vi v2), (3, vi v3), (4, vi v4), (5, vi v5)]) (cst := 1) dX1_sides_268 6 rfl (by decide) (by decide) rfl ?_
    refine r_goto (pc := 271) (tgt := 219) dX1_sides_271 (by decide) ?_
    exact r_sub (env' := [(0, vr v0), (2, vi v2), (3, vi v3), (4, vi v4), (5, vi v5), (6, vi (mmaxI v6 x260)), (7, vi (v7 + 1))]) [2, 3, 4, 5, 6, 1, 0] rfl (hk219 _ _ _ _ _ _ _ _ h)
theorem sX1_sides_219 {st0 : Mem} {fin : Int32 × Mem} {kk207 : Rf → Int32 → Int32 → Int32 → Int32 → Mem → Option (Int32 × Mem)} (hk207 : ∀ (v0 : Rf) (v2 : Int32) (v3 : Int32) (v4 : Int32) (v5 : Int32) (st : Mem), kk207 v0 v2 v3 v4 v5 st = some fin → G (cX1_sides, "HouseClaps", "sides", 84, (some .int), 8) st0 trI fin 207 [(0, vr v0), (2, vi v2), (3, vi v3), (4, vi v4), (5, vi v5)] [] st) (n : Nat) : ∀ (v0 : Rf) (v2 : Int32) (v3 : Int32) (v4 : Int32) (v5 : Int32) (v6 : Int32) (v7 : Int32) (st : Mem), bX1_sides_219 kk207 n v0 v2 v3 v4 v5 v6 v7 st = some fin → G (cX1_sides, "HouseClaps", "sides", 84, (some .int), 8) st0 trI fin 219 [(0, vr v0), (2, vi v2), (3, vi v3), (4, vi v4), (5, vi v5), (6, vi v6), (7, vi v7)] [] st := by
  induction n with
  | zero => intro v0 v2 v3 v4 v5 v6 v7 st h; cases h
  | succ n ih => intro v0 v2 v3 v4 v5 v6 v7 st h; exact sX1_sides_219B hk207  ih v0 v2 v3 v4 v5 v6 v7 st h
theorem sX1_sides_207B {st0 : Mem} {fin : Int32 × Mem} {kk207 : Rf → Int32 → Int32 → Int32 → Int32 → Mem → Option (Int32 × Mem)} (hk207 : ∀ (v0 : Rf) (v2 : Int32) (v3 : Int32) (v4 : Int32) (v5 : Int32) (st : Mem), kk207 v0 v2 v3 v4 v5 st = some fin → G (cX1_sides, "HouseClaps", "sides", 84, (some .int), 8) st0 trI fin 207 [(0, vr v0), (2, vi v2), (3, vi v3), (4, vi v4), (5, vi v5)] [] st) (v0 : Rf) (v2 : Int32) (v3 : Int32) (v4 : Int32) (v5 : Int32) (st : Mem) (h : bX1_sides_207B kk207 v0 v2 v3 v4 v5 st = some fin) : G (cX1_sides, "HouseClaps", "sides", 84, (some .int), 8) st0 trI fin 207 [(0, vr v0), (2, vi v2), (3, vi v3), (4, vi v4), (5, vi v5)] [] st := by
  unfold bX1_sides_207B at h
  refine r_iload (pc := 207) dX1_sides_207 4 rfl ?_
  refine r_iload_n (pc := 209) dX1_sides_209 2 rfl rfl ?_
  refine r_icmp_ge (pc := 210) (tgt := 315) dX1_sides_210 (by decide) h (fun e210 h => ?_) (fun e210 h => ?_)
  · refine r_iload (pc := 315) dX1_sides_315 3 rfl ?_
    exact r_ireturn (pc := 317) dX1_sides_317 rfl rfl h
  · refine r_iconst (pc := 213) (v := (-1)) dX1_sides_213 (by decide) ?_
    refine r_istore (pc := 214) (env' := [(6, vi (-1 : Int32)), (0, vr v0), (2, vi v2), (3, vi v3), (4, vi v4), (5, vi v5)]) dX1_sides_214 (by decide) rfl ?_
    refine r_iconst (pc := 216) (v := 0) dX1_sides_216 (by decide) ?_
    refine r_istore (pc := 217) (env' := [(7, vi (0 : Int32)), (6, vi (-1 : Int32)), (0, vr v0), (2, vi v2), (3, vi v3), (4, vi v4), (5, vi v5)]) dX1_sides_217 (by decide) rfl ?_
    exact r_sub (env' := [(0, vr v0), (2, vi v2), (3, vi v3), (4, vi v4), (5, vi v5), (6, vi (-1 : Int32)), (7, vi (0 : Int32))]) [2, 3, 4, 5, 6, 1, 0] rfl (sX1_sides_219 hk207 hcFuel _ _ _ _ _ _ _ _ h)
theorem sX1_sides_207 {st0 : Mem} {fin : Int32 × Mem} (n : Nat) : ∀ (v0 : Rf) (v2 : Int32) (v3 : Int32) (v4 : Int32) (v5 : Int32) (st : Mem), bX1_sides_207 n v0 v2 v3 v4 v5 st = some fin → G (cX1_sides, "HouseClaps", "sides", 84, (some .int), 8) st0 trI fin 207 [(0, vr v0), (2, vi v2), (3, vi v3), (4, vi v4), (5, vi v5)] [] st := by
  induction n with
  | zero => intro v0 v2 v3 v4 v5 st h; cases h
  | succ n ih => intro v0 v2 v3 v4 v5 st h; exact sX1_sides_207B  ih v0 v2 v3 v4 v5 st h
theorem sX1_sides_190 {st0 : Mem} {fin : Int32 × Mem} {kk95 : Rf → Int32 → Int32 → Int32 → Int32 → Mem → Option (Int32 × Mem)} (hk95 : ∀ (v0 : Rf) (v2 : Int32) (v3 : Int32) (v4 : Int32) (v5 : Int32) (st : Mem), kk95 v0 v2 v3 v4 v5 st = some fin → G (cX1_sides, "HouseClaps", "sides", 84, (some .int), 8) st0 trI fin 95 [(0, vr v0), (2, vi v2), (3, vi v3), (4, vi v4), (5, vi v5)] [] st) (v0 : Rf) (v2 : Int32) (v3 : Int32) (v4 : Int32) (v5 : Int32) (st : Mem) (h : bX1_sides_190 kk95 v0 v2 v3 v4 v5 st = some fin) : G (cX1_sides, "HouseClaps", "sides", 84, (some .int), 8) st0 trI fin 190 [(0, vr v0), (2, vi v2), (3, vi v3), (4, vi v4), (5, vi v5)] [] st := by
  unfold bX1_sides_190 at h
  refine r_iinc (pc := 190) (env' := [(5, vi (v5 + 1)), (0, vr v0), (2, vi v2), (3, vi v3), (4, vi v4)]) (cst := 1) dX1_sides_190 4 rfl (by decide) (by decide) rfl ?_
  refine r_goto (pc := 193) (tgt := 95) dX1_sides_193 (by decide) ?_
  exact r_sub (env' := [(0, vr v0), (2, vi v2), (3, vi v3), (4, vi v4), (5, vi (v5 + 1))]) [1, 2, 3, 4, 0] rfl (hk95 _ _ _ _ _ _ h)
theorem sX1_sides_108B {st0 : Mem} {fin : Int32 × Mem} {kk95 : Rf → Int32 → Int32 → Int32 → Int32 → Mem → Option (Int32 × Mem)} {kk108 : Rf → Int32 → Int32 → Int32 → Int32 → Int32 → Int32 → Mem → Option (Int32 × Mem)} (hk95 : ∀ (v0 : Rf) (v2 : Int32) (v3 : Int32) (v4 : Int32) (v5 : Int32) (st : Mem), kk95 v0 v2 v3 v4 v5 st = some fin → G (cX1_sides, "HouseClaps", "sides", 84, (some .int), 8) st0 trI fin 95 [(0, vr v0), (2, vi v2), (3, vi v3), (4, vi v4), (5, vi v5)] [] st) (hk108 : ∀ (v0 : Rf) (v2 : Int32) (v3 : Int32) (v4 : Int32) (v5 : Int32) (v6 : Int32) (v7 : Int32) (st : Mem), kk108 v0 v2 v3 v4 v5 v6 v7 st = some fin → G (cX1_sides, "HouseClaps", "sides", 84, (some .int), 8) st0 trI fin 108 [(0, vr v0), (2, vi v2), (3, vi v3), (4, vi v4), (5, vi v5), (6, vi v6), (7, vi v7)] [] st) (v0 : Rf) (v2 : Int32) (v3 : Int32) (v4 : Int32) (v5 : Int32) (v6 : Int32) (v7 : Int32) (st : Mem) (h : bX1_sides_108B kk95 kk108 v0 v2 v3 v4 v5 v6 v7 st = some fin) : G (cX1_sides, "HouseClaps", "sides", 84, (some .int), 8) st0 trI fin 108 [(0, vr v0), (2, vi v2), (3, vi v3), (4, vi v4), (5, vi v5), (6, vi v6), (7, vi v7)] [] st := by
  unfold bX1_sides_108B at h
  refine r_iload (pc := 108) dX1_sides_108 6 rfl ?_
  refine r_iload_n (pc := 110) dX1_sides_110 2 rfl rfl ?_
  refine r_icmp_ge (pc := 111) (tgt := 163) dX1_sides_111 (by decide) h (fun e111 h => ?_) (fun e111 h => ?_)
  · refine r_iload (pc := 163) dX1_sides_163 5 rfl ?_
    refine r_iload (pc := 165) dX1_sides_165 3 rfl ?_
    refine r_icmp_gt (pc := 167) (tgt := 173) dX1_sides_167 (by decide) h (fun e167 h => ?_) (fun e167 h => ?_)
    · refine r_iload (pc := 173) dX1_sides_173 5 rfl ?_
      refine r_istore (pc := 175) (env' := [(4, vi v6), (0, vr v0), (2, vi v2), (3, vi v3), (5, vi v5), (6, vi v6), (7, vi v7)]) dX1_sides_175 (by decide) rfl ?_
      refine r_aload_n (pc := 177) dX1_sides_177 1 rfl rfl ?_
      refine r_gA (pc := 178) dX1_sides_178 q333 fd_19 same_rf h (fun x178 e178 h => ?_)
      refine r_iconst (pc := 181) (v := 1) dX1_sides_181 (by decide) ?_
      refine r_aload_n (pc := 182) dX1_sides_182 1 rfl rfl ?_
      refine r_gA (pc := 183) dX1_sides_183 q325 fd_11 same_rf h (fun x183 e183 h => ?_)
      refine r_iload (pc := 186) dX1_sides_186 4 rfl ?_
      refine r_iaload (pc := 188) dX1_sides_188 h (fun x188 e188 h => ?_)
      refine r_iastore (pc := 189) dX1_sides_189 h (fun st e189 h => ?_)
      exact r_sub (env' := [(0, vr v0), (2, vi v2), (3, vi v3), (4, vi v6), (5, vi v5)]) [1, 2, 3, 0, 4] rfl (sX1_sides_190 hk95 _ _ _ _ _ _ h)
    · refine r_goto (pc := 170) (tgt := 190) dX1_sides_170 (by decide) ?_
      exact r_sub (env' := [(0, vr v0), (2, vi v2), (3, vi v3), (4, vi v4), (5, vi v5)]) [0, 1, 2, 3, 4] rfl (sX1_sides_190 hk95 _ _ _ _ _ _ h)
  · refine r_iload (pc := 114) dX1_sides_114 5 rfl ?_
    refine r_aload_n (pc := 116) dX1_sides_116 0 rfl rfl ?_
    refine r_aload_n (pc := 117) dX1_sides_117 0 rfl rfl ?_
    refine r_gA (pc := 118) dX1_sides_118 q318 fd_4 same_rf h (fun x118 e118 h => ?_)
    refine r_aload_n (pc := 121) dX1_sides_121 0 rfl rfl ?_
    refine r_gJ (pc := 122) dX1_sides_122 q319 fd_5 same_rf h (fun x122 e122 h => ?_)
    refine r_lconst (pc := 125) (v := 1) dX1_sides_125 (by decide) ?_
    refine r_aload_n (pc := 126) dX1_sides_126 0 rfl rfl ?_
    refine r_gA (pc := 127) dX1_sides_127 q325 fd_11 same_rf h (fun x127 e127 h => ?_)
    refine r_iload (pc := 130) dX1_sides_130 4 rfl ?_
    refine r_iaload (pc := 132) dX1_sides_132 h (fun x132 e132 h => ?_)
    refine r_lshl (pc := 133) dX1_sides_133 ?_
    refine r_lor (pc := 134) dX1_sides_134 ?_
    refine r_aload_n (pc := 135) dX1_sides_135 0 rfl rfl ?_
    refine r_gJ (pc := 136) dX1_sides_136 q320 fd_6 same_rf h (fun x136 e136 h => ?_)
    refine r_lconst (pc := 139) (v := 1) dX1_sides_139 (by decide) ?_
    refine r_aload_n (pc := 140) dX1_sides_140 0 rfl rfl ?_
    refine r_gA (pc := 141) dX1_sides_141 q332 fd_18 same_rf h (fun x141 e141 h => ?_)
    refine r_iload (pc := 144) dX1_sides_144 6 rfl ?_
    refine r_iaload (pc := 146) dX1_sides_146 h (fun x146 e146 h => ?_)
    refine r_lshl (pc := 147) dX1_sides_147 ?_
    refine r_lor (pc := 148) dX1_sides_148 ?_
    refine r_callI (pc := 149) (rest := [vi v6]) (lkV dX1_sides_149 q1458 xd_X1_heightOf (vc_of vt_X1_heightOf q1460 (fun _ => sX1_heightOf)) adx_X1_heightOf) (by decide) (Nat.le_of_ble_eq_true rfl) rfl h (fun x149 st e149 h => ?_)
    refine r_mminI (pc := 152) dX1_sides_152 q1526 (by decide) (Nat.le_of_ble_eq_true rfl) ?_
    refine r_istore (pc := 155) (env' := [(6, vi (mminI v6 x149)), (0, vr v0), (2, vi v2), (3, vi v3), (4, vi v4), (5, vi v5), (7, vi v7)]) dX1_sides_155 (by decide) rfl ?_
    refine r_iinc (pc := 157) (env' := [(7, vi (v7 + 1)), (6, vi (mminI v6 x149)), (0, vr v0), (2, vi v2), (3, vi v3), (4, vi v4), (5, vi v5)]) (cst := 1) dX1_sides_157 6 rfl (by decide) (by decide) rfl ?_
    refine r_goto (pc := 160) (tgt := 108) dX1_sides_160 (by decide) ?_
    exact r_sub (env' := [(0, vr v0), (2, vi v2), (3, vi v3), (4, vi v4), (5, vi v5), (6, vi (mminI v6 x149)), (7, vi (v7 + 1))]) [2, 3, 4, 5, 6, 1, 0] rfl (hk108 _ _ _ _ _ _ _ _ h)
theorem sX1_sides_108 {st0 : Mem} {fin : Int32 × Mem} {kk95 : Rf → Int32 → Int32 → Int32 → Int32 → Mem → Option (Int32 × Mem)} (hk95 : ∀ (v0 : Rf) (v2 : Int32) (v3 : Int32) (v4 : Int32) (v5 : Int32) (st : Mem), kk95 v0 v2 v3 v4 v5 st = some fin → G (cX1_sides, "HouseClaps", "sides", 84, (some .int), 8) st0 trI fin 95 [(0, vr v0), (2, vi v2), (3, vi v3), (4, vi v4), (5, vi v5)] [] st) (n : Nat) : ∀ (v0 : Rf) (v2 : Int32) (v3 : Int32) (v4 : Int32) (v5 : Int32) (v6 : Int32) (v7 : Int32) (st : Mem), bX1_sides_108 kk95 n v0 v2 v3 v4 v5 v6 v7 st = some fin → G (cX1_sides, "HouseClaps", "sides", 84, (some .int), 8) st0 trI fin 108 [(0, vr v0), (2, vi v2), (3, vi v3), (4, vi v4), (5, vi v5), (6, vi v6), (7, vi v7)] [] st := by
  induction n with
  | zero => intro v0 v2 v3 v4 v5 v6 v7 st h; cases h
  | succ n ih => intro v0 v2 v3 v4 v5 v6 v7 st h; exact sX1_sides_108B hk95  ih v0 v2 v3 v4 v5 v6 v7 st h
theorem sX1_sides_95B {st0 : Mem} {fin : Int32 × Mem} {kk95 : Rf → Int32 → Int32 → Int32 → Int32 → Mem → Option (Int32 × Mem)} (hk95 : ∀ (v0 : Rf) (v2 : Int32) (v3 : Int32) (v4 : Int32) (v5 : Int32) (st : Mem), kk95 v0 v2 v3 v4 v5 st = some fin → G (cX1_sides, "HouseClaps", "sides", 84, (some .int), 8) st0 trI fin 95 [(0, vr v0), (2, vi v2), (3, vi v3), (4, vi v4), (5, vi v5)] [] st) (v0 : Rf) (v2 : Int32) (v3 : Int32) (v4 : Int32) (v5 : Int32) (st : Mem) (h : bX1_sides_95B kk95 v0 v2 v3 v4 v5 st = some fin) : G (cX1_sides, "HouseClaps", "sides", 84, (some .int), 8) st0 trI fin 95 [(0, vr v0), (2, vi v2), (3, vi v3), (4, vi v4), (5, vi v5)] [] st := by
  unfold bX1_sides_95B at h
  refine r_iload (pc := 95) dX1_sides_95 4 rfl ?_
  refine r_iload_n (pc := 97) dX1_sides_97 1 rfl rfl ?_
  refine r_icmp_ge (pc := 98) (tgt := 196) dX1_sides_98 (by decide) h (fun e98 h => ?_) (fun e98 h => ?_)
  · refine r_aload_n (pc := 196) dX1_sides_196 0 rfl rfl ?_
    refine r_gA (pc := 197) dX1_sides_197 q333 fd_19 same_rf h (fun x197 e197 h => ?_)
    refine r_iconst (pc := 200) (v := 0) dX1_sides_200 (by decide) ?_
    refine r_bipush (pc := 201) (v := 65) dX1_sides_201 (by decide) ?_
    refine r_iastore (pc := 203) dX1_sides_203 h (fun st e203 h => ?_)
    refine r_iconst (pc := 204) (v := 0) dX1_sides_204 (by decide) ?_
    refine r_istore (pc := 205) (env' := [(5, vi (0 : Int32)), (0, vr v0), (2, vi v2), (3, vi v3), (4, vi v4)]) dX1_sides_205 (by decide) rfl ?_
    exact r_sub (env' := [(0, vr v0), (2, vi v2), (3, vi v3), (4, vi v4), (5, vi (0 : Int32))]) [1, 2, 3, 4, 0] rfl (sX1_sides_207 hcFuel _ _ _ _ _ _ h)
  · refine r_bipush (pc := 101) (v := 65) dX1_sides_101 (by decide) ?_
    refine r_istore (pc := 103) (env' := [(6, vi (65 : Int32)), (0, vr v0), (2, vi v2), (3, vi v3), (4, vi v4), (5, vi v5)]) dX1_sides_103 (by decide) rfl ?_
    refine r_iconst (pc := 105) (v := 0) dX1_sides_105 (by decide) ?_
    refine r_istore (pc := 106) (env' := [(7, vi (0 : Int32)), (6, vi (65 : Int32)), (0, vr v0), (2, vi v2), (3, vi v3), (4, vi v4), (5, vi v5)]) dX1_sides_106 (by decide) rfl ?_
    exact r_sub (env' := [(0, vr v0), (2, vi v2), (3, vi v3), (4, vi v4), (5, vi v5), (6, vi (65 : Int32)), (7, vi (0 : Int32))]) [2, 3, 4, 5, 6, 1, 0] rfl (sX1_sides_108 hk95 hcFuel _ _ _ _ _ _ _ _ h)
theorem sX1_sides_95 {st0 : Mem} {fin : Int32 × Mem} (n : Nat) : ∀ (v0 : Rf) (v2 : Int32) (v3 : Int32) (v4 : Int32) (v5 : Int32) (st : Mem), bX1_sides_95 n v0 v2 v3 v4 v5 st = some fin → G (cX1_sides, "HouseClaps", "sides", 84, (some .int), 8) st0 trI fin 95 [(0, vr v0), (2, vi v2), (3, vi v3), (4, vi v4), (5, vi v5)] [] st := by
  induction n with
  | zero => intro v0 v2 v3 v4 v5 st h; cases h
  | succ n ih => intro v0 v2 v3 v4 v5 st h; exact sX1_sides_95B  ih v0 v2 v3 v4 v5 st h
theorem sX1_sides_18 {st0 : Mem} {fin : Int32 × Mem} (v0 : Rf) (v1 : Int32) (k0 : Int32) (st : Mem) (h : bX1_sides_18 v0 v1 k0 st = some fin) : G (cX1_sides, "HouseClaps", "sides", 84, (some .int), 8) st0 trI fin 18 [(0, vr v0), (1, vi v1)] [vi k0] st := by
  unfold bX1_sides_18 at h
  refine r_istore_n (pc := 18) (env' := [(2, vi k0), (0, vr v0), (1, vi v1)]) dX1_sides_18 rfl (by decide) rfl ?_
  refine r_iload_n (pc := 19) dX1_sides_19 2 rfl rfl ?_
  refine r_iconst (pc := 20) (v := 1) dX1_sides_20 (by decide) ?_
  refine r_isub (pc := 21) dX1_sides_21 ?_
  refine r_iload_n (pc := 22) dX1_sides_22 0 rfl rfl ?_
  refine r_isub (pc := 23) dX1_sides_23 ?_
  refine r_nameI h (fun y24 e24 h => ?_)
  refine r_istore_n (pc := 24) (env' := [(3, vi y24), (2, vi k0), (0, vr v0), (1, vi v1)]) dX1_sides_24 rfl (by decide) rfl ?_
  refine r_iload_n (pc := 25) dX1_sides_25 1 rfl rfl ?_
  refine r_iconst (pc := 26) (v := 1) dX1_sides_26 (by decide) ?_
  refine r_bipush (pc := 27) (v := 6) dX1_sides_27 (by decide) ?_
  refine r_callI (pc := 29) (rest := []) (lkS dX1_sides_29 q1055 q928 q85 (fun _ => sX1_isIn) ad_X1_isIn) (by decide) (Nat.le_of_ble_eq_true rfl) rfl h (fun x29 st e29 h => ?_)
  refine r_if_eq (pc := 32) (tgt := 60) dX1_sides_32 (by decide) h (fun e32 h => ?_) (fun e32 h => ?_)
  · refine r_iconst (pc := 60) (v := (-1)) dX1_sides_60 (by decide) ?_
    exact r_ireturn (pc := 61) dX1_sides_61 rfl rfl h
  · refine r_iload_n (pc := 35) dX1_sides_35 0 rfl rfl ?_
    refine r_iconst (pc := 36) (v := 1) dX1_sides_36 (by decide) ?_
    refine r_bipush (pc := 37) (v := 6) dX1_sides_37 (by decide) ?_
    refine r_callI (pc := 39) (rest := []) (lkS dX1_sides_39 q1055 q928 q85 (fun _ => sX1_isIn) ad_X1_isIn) (by decide) (Nat.le_of_ble_eq_true rfl) rfl h (fun x39 st e39 h => ?_)
    refine r_if_eq (pc := 42) (tgt := 60) dX1_sides_42 (by decide) h (fun e42 h => ?_) (fun e42 h => ?_)
    · refine r_iconst (pc := 60) (v := (-1)) dX1_sides_60 (by decide) ?_
      exact r_ireturn (pc := 61) dX1_sides_61 rfl rfl h
    · refine r_aload_n (pc := 45) dX1_sides_45 2 rfl rfl ?_
      refine r_iconst (pc := 46) (v := 1) dX1_sides_46 (by decide) ?_
      refine r_iload_n (pc := 47) dX1_sides_47 1 rfl rfl ?_
      refine r_aload_n (pc := 48) dX1_sides_48 2 rfl rfl ?_
      refine r_gA (pc := 49) dX1_sides_49 q325 fd_11 same_rf h (fun x49 e49 h => ?_)
      refine r_lconst (pc := 52) (v := 0) dX1_sides_52 (by decide) ?_
      refine r_callI (pc := 53) (rest := []) (lkV dX1_sides_53 q1470 xd_X1_takesSeats (vc_of vt_X1_takesSeats q1472 (fun _ => sX1_takesSeats)) adx_X1_takesSeats) (by decide) (Nat.le_of_ble_eq_true rfl) rfl h (fun x53 st e53 h => ?_)
      refine r_iconst (pc := 56) (v := (-1)) dX1_sides_56 (by decide) ?_
      refine r_icmp_ne (pc := 57) (tgt := 62) dX1_sides_57 (by decide) h (fun e57 h => ?_) (fun e57 h => ?_)
      · refine r_aload_n (pc := 62) dX1_sides_62 2 rfl rfl ?_
        refine r_iconst (pc := 63) (v := 1) dX1_sides_63 (by decide) ?_
        refine r_iload_n (pc := 64) dX1_sides_64 1 rfl rfl ?_
        refine r_iadd (pc := 65) dX1_sides_65 ?_
        refine r_iload_n (pc := 66) dX1_sides_66 0 rfl rfl ?_
        refine r_aload_n (pc := 67) dX1_sides_67 2 rfl rfl ?_
        refine r_gA (pc := 68) dX1_sides_68 q332 fd_18 same_rf h (fun x68 e68 h => ?_)
        refine r_aload_n (pc := 71) dX1_sides_71 2 rfl rfl ?_
        refine r_iconst (pc := 72) (v := 1) dX1_sides_72 (by decide) ?_
        refine r_iload_n (pc := 73) dX1_sides_73 1 rfl rfl ?_
        refine r_ishl (pc := 74) dX1_sides_74 ?_
        refine r_iconst (pc := 75) (v := 1) dX1_sides_75 (by decide) ?_
        refine r_isub (pc := 76) dX1_sides_76 ?_
        refine r_callJ (pc := 77) (rest := [vr x68, vi y24, vi ((1 : Int32) + k0), vr v0]) (lkV dX1_sides_77 q1491 xd_X1_handsOf (vc_of vt_X1_handsOf q1493 (fun _ => sX1_handsOf)) adx_X1_handsOf) (by decide) (Nat.le_of_ble_eq_true rfl) rfl h (fun x77 st e77 h => ?_)
        refine r_callI (pc := 80) (rest := []) (lkV dX1_sides_80 q1470 xd_X1_takesSeats (vc_of vt_X1_takesSeats q1472 (fun _ => sX1_takesSeats)) adx_X1_takesSeats) (by decide) (Nat.le_of_ble_eq_true rfl) rfl h (fun x80 st e80 h => ?_)
        refine r_iconst (pc := 83) (v := (-1)) dX1_sides_83 (by decide) ?_
        refine r_icmp_ne (pc := 84) (tgt := 89) dX1_sides_84 (by decide) h (fun e84 h => ?_) (fun e84 h => ?_)
        · refine r_iconst (pc := 89) (v := (-1)) dX1_sides_89 (by decide) ?_
          refine r_istore (pc := 90) (env' := [(4, vi (-1 : Int32)), (3, vi y24), (2, vi k0), (0, vr v0), (1, vi v1)]) dX1_sides_90 (by decide) rfl ?_
          refine r_iconst (pc := 92) (v := 0) dX1_sides_92 (by decide) ?_
          refine r_istore (pc := 93) (env' := [(5, vi (0 : Int32)), (4, vi (-1 : Int32)), (3, vi y24), (2, vi k0), (0, vr v0), (1, vi v1)]) dX1_sides_93 (by decide) rfl ?_
          exact r_sub (env' := [(0, vr v0), (2, vi k0), (3, vi y24), (4, vi (-1 : Int32)), (5, vi (0 : Int32))]) [4, 3, 2, 1, 0] rfl (sX1_sides_95 hcFuel _ _ _ _ _ _ h)
        · refine r_iconst (pc := 87) (v := (-1)) dX1_sides_87 (by decide) ?_
          exact r_ireturn (pc := 88) dX1_sides_88 rfl rfl h
      · refine r_iconst (pc := 60) (v := (-1)) dX1_sides_60 (by decide) ?_
        exact r_ireturn (pc := 61) dX1_sides_61 rfl rfl h
theorem sX1_sides {a0 : Rf} {st : Mem} {fin : Int32 × Mem} (h : fX1_sides a0 st = some fin) : Con yX1_sides 84 [vr a0] st trI fin := by
  refine Con.mk (cc := cX1_sides) (n := 8) (own := "HouseClaps") (nm := "sides") (ret := (some .int)) (env := [(0, vr a0)]) q1525 rfl rfl rfl (by decide) ⟨Nat.le_of_ble_eq_true rfl, by decide⟩ rfl ?_
  unfold fX1_sides at h
  refine r_aload_n (pc := 0) dX1_sides_0 0 rfl rfl ?_
  refine r_callI (pc := 1) (rest := []) (lkV dX1_sides_1 q415 xd_X1_take (vc_of vt_X1_take q417 (fun _ => sX1_take)) adx_X1_take) (by decide) (Nat.le_of_ble_eq_true rfl) rfl h (fun x1 st e1 h => ?_)
  refine r_istore_n (pc := 4) (env' := [(1, vi x1), (0, vr a0)]) dX1_sides_4 rfl (by decide) rfl ?_
  refine r_iload_n (pc := 5) dX1_sides_5 0 rfl rfl ?_
  refine r_if_ne (pc := 6) (tgt := 13) dX1_sides_6 (by decide) h (fun e6 h => ?_) (fun e6 h => ?_)
  · refine r_aload_n (pc := 13) dX1_sides_13 1 rfl rfl ?_
    refine r_iconst (pc := 14) (v := 0) dX1_sides_14 (by decide) ?_
    refine r_callI (pc := 15) (rest := []) (lkV dX1_sides_15 q1474 xd_X1_byteAt (vc_of vt_X1_byteAt q1476 (fun _ => sX1_byteAt)) adx_X1_byteAt) (by decide) (Nat.le_of_ble_eq_true rfl) rfl h (fun x15 st e15 h => ?_)
    exact r_sub (env' := [(0, vr a0), (1, vi x1)]) [1, 0] rfl (sX1_sides_18 _ _ _ _ h)
  · refine r_iconst (pc := 9) (v := 0) dX1_sides_9 (by decide) ?_
    refine r_goto (pc := 10) (tgt := 18) dX1_sides_10 (by decide) ?_
    exact r_sub (env' := [(0, vr a0), (1, vi x1)]) [1, 0] rfl (sX1_sides_18 _ _ _ _ h)
theorem sX1_starts {a0 : Rf} {a1 : Int32} {st : Mem} {fin : Int32 × Mem} (h : fX1_starts a0 a1 st = some fin) : Con yX1_starts 84 [vr a0, vi a1] st trI fin := by
  refine Con.mk (cc := cX1_starts) (n := 2) (own := "HouseClaps") (nm := "starts") (ret := (some .int)) (env := [(0, vr a0), (1, vi a1)]) q1572 rfl rfl rfl (by decide) ⟨Nat.le_of_ble_eq_true rfl, by decide⟩ rfl ?_
  unfold fX1_starts at h
  refine r_aload_n (pc := 0) dX1_starts_0 0 rfl rfl ?_
  refine r_gA (pc := 1) dX1_starts_1 q318 fd_4 same_rf h (fun x1 e1 h => ?_)
  refine r_iload_n (pc := 4) dX1_starts_4 1 rfl rfl ?_
  refine r_callI (pc := 5) (rest := []) (lkV dX1_starts_5 q1060 xd_X2_isSeat (vc_of vt_X2_isSeat q1061 (fun _ => sX2_isSeat)) adx_X2_isSeat) (by decide) (Nat.le_of_ble_eq_true rfl) rfl h (fun x5 st e5 h => ?_)
  refine r_if_eq (pc := 8) (tgt := 29) dX1_starts_8 (by decide) h (fun e8 h => ?_) (fun e8 h => ?_)
  · refine r_iconst (pc := 29) (v := (-1)) dX1_starts_29 (by decide) ?_
    exact r_ireturn (pc := 30) dX1_starts_30 rfl rfl h
  · refine r_aload_n (pc := 11) dX1_starts_11 0 rfl rfl ?_
    refine r_aload_n (pc := 12) dX1_starts_12 0 rfl rfl ?_
    refine r_gA (pc := 13) dX1_starts_13 q318 fd_4 same_rf h (fun x13 e13 h => ?_)
    refine r_lconst (pc := 16) (v := 1) dX1_starts_16 (by decide) ?_
    refine r_iload_n (pc := 17) dX1_starts_17 1 rfl rfl ?_
    refine r_lshl (pc := 18) dX1_starts_18 ?_
    refine r_aload_n (pc := 19) dX1_starts_19 0 rfl rfl ?_
    refine r_gJ (pc := 20) dX1_starts_20 q320 fd_6 same_rf h (fun x20 e20 h => ?_)
    refine r_callI (pc := 23) (rest := []) (lkV dX1_starts_23 q1458 xd_X1_heightOf (vc_of vt_X1_heightOf q1460 (fun _ => sX1_heightOf)) adx_X1_heightOf) (by decide) (Nat.le_of_ble_eq_true rfl) rfl h (fun x23 st e23 h => ?_)
    refine r_goto (pc := 26) (tgt := 30) dX1_starts_26 (by decide) ?_
    exact r_ireturn (pc := 30) dX1_starts_30 rfl rfl h
theorem sX1_worth_166 {st0 : Mem} {fin : Int32 × Mem} {kk85 : Rf → Int32 → Int32 → Mem → Option (Int32 × Mem)} {kk99 : Rf → Int32 → Int32 → Int32 → Mem → Option (Int32 × Mem)} (hk85 : ∀ (v0 : Rf) (v1 : Int32) (v2 : Int32) (st : Mem), kk85 v0 v1 v2 st = some fin → G (cX1_worth, "HouseClaps", "worth", 84, (some .int), 5) st0 trI fin 85 [(0, vr v0), (1, vi v1), (2, vi v2)] [] st) (hk99 : ∀ (v0 : Rf) (v1 : Int32) (v2 : Int32) (v3 : Int32) (st : Mem), kk99 v0 v1 v2 v3 st = some fin → G (cX1_worth, "HouseClaps", "worth", 84, (some .int), 5) st0 trI fin 99 [(0, vr v0), (1, vi v1), (2, vi v2), (3, vi v3)] [] st) (v0 : Rf) (v1 : Int32) (v2 : Int32) (v3 : Int32) (st : Mem) (h : bX1_worth_166 kk85 kk99 v0 v1 v2 v3 st = some fin) : G (cX1_worth, "HouseClaps", "worth", 84, (some .int), 5) st0 trI fin 166 [(0, vr v0), (1, vi v1), (2, vi v2), (3, vi v3)] [] st := by
  unfold bX1_worth_166 at h
  refine r_iinc (pc := 166) (env' := [(3, vi (v3 + 1)), (0, vr v0), (1, vi v1), (2, vi v2)]) (cst := 1) dX1_worth_166 3 rfl (by decide) (by decide) rfl ?_
  refine r_goto (pc := 169) (tgt := 99) dX1_worth_169 (by decide) ?_
  exact r_sub (env' := [(0, vr v0), (1, vi v1), (2, vi v2), (3, vi (v3 + 1))]) [1, 2, 3, 0] rfl (hk99 _ _ _ _ _ h)
theorem sX1_worth_99B {st0 : Mem} {fin : Int32 × Mem} {kk85 : Rf → Int32 → Int32 → Mem → Option (Int32 × Mem)} {kk99 : Rf → Int32 → Int32 → Int32 → Mem → Option (Int32 × Mem)} (hk85 : ∀ (v0 : Rf) (v1 : Int32) (v2 : Int32) (st : Mem), kk85 v0 v1 v2 st = some fin → G (cX1_worth, "HouseClaps", "worth", 84, (some .int), 5) st0 trI fin 85 [(0, vr v0), (1, vi v1), (2, vi v2)] [] st) (hk99 : ∀ (v0 : Rf) (v1 : Int32) (v2 : Int32) (v3 : Int32) (st : Mem), kk99 v0 v1 v2 v3 st = some fin → G (cX1_worth, "HouseClaps", "worth", 84, (some .int), 5) st0 trI fin 99 [(0, vr v0), (1, vi v1), (2, vi v2), (3, vi v3)] [] st) (v0 : Rf) (v1 : Int32) (v2 : Int32) (v3 : Int32) (st : Mem) (h : bX1_worth_99B kk85 kk99 v0 v1 v2 v3 st = some fin) : G (cX1_worth, "HouseClaps", "worth", 84, (some .int), 5) st0 trI fin 99 [(0, vr v0), (1, vi v1), (2, vi v2), (3, vi v3)] [] st := by
  unfold bX1_worth_99B at h
  refine r_iload_n (pc := 99) dX1_worth_99 3 rfl rfl ?_
  refine r_iconst (pc := 100) (v := 1) dX1_worth_100 (by decide) ?_
  refine r_iload_n (pc := 101) dX1_worth_101 1 rfl rfl ?_
  refine r_ishl (pc := 102) dX1_worth_102 ?_
  refine r_icmp_ge (pc := 103) (tgt := 172) dX1_worth_103 (by decide) h (fun e103 h => ?_) (fun e103 h => ?_)
  · refine r_iinc (pc := 172) (env' := [(2, vi (v2 + 1)), (0, vr v0), (1, vi v1), (3, vi v3)]) (cst := 1) dX1_worth_172 2 rfl (by decide) (by decide) rfl ?_
    refine r_goto (pc := 175) (tgt := 85) dX1_worth_175 (by decide) ?_
    exact r_sub (env' := [(0, vr v0), (1, vi v1), (2, vi (v2 + 1))]) [1, 2, 0] rfl (hk85 _ _ _ _ h)
  · refine r_iload_n (pc := 106) dX1_worth_106 3 rfl rfl ?_
    refine r_iload_n (pc := 107) dX1_worth_107 2 rfl rfl ?_
    refine r_callI (pc := 108) (rest := []) (lkS dX1_worth_108 q1483 q1017 q85 (fun _ => sX1_has) ad_X1_has) (by decide) (Nat.le_of_ble_eq_true rfl) rfl h (fun x108 st e108 h => ?_)
    refine r_if_eq (pc := 111) (tgt := 117) dX1_worth_111 (by decide) h (fun e111 h => ?_) (fun e111 h => ?_)
    · refine r_iload_n (pc := 117) dX1_worth_117 3 rfl rfl ?_
      refine r_callI (pc := 118) (rest := []) (lkS dX1_worth_118 q1485 q1486 q127 (fun _ => sJ19_bitCount) ad_J19_bitCount) (by decide) (Nat.le_of_ble_eq_true rfl) rfl h (fun x118 st e118 h => ?_)
      refine r_istore (pc := 121) (env' := [(4, vi x118), (0, vr v0), (1, vi v1), (2, vi v2), (3, vi v3)]) dX1_worth_121 (by decide) rfl ?_
      refine r_aload_n (pc := 123) dX1_worth_123 1 rfl rfl ?_
      refine r_gA (pc := 124) dX1_worth_124 q329 fd_15 same_rf h (fun x124 e124 h => ?_)
      refine r_iload_n (pc := 127) dX1_worth_127 3 rfl rfl ?_
      refine r_dup2_11 (pc := 128) dX1_worth_128 rfl rfl ?_
      refine r_laload (pc := 129) dX1_worth_129 h (fun x129 e129 h => ?_)
      refine r_iload (pc := 130) dX1_worth_130 0 rfl ?_
      refine r_callJ (pc := 132) (rest := [vj x129, vi v2, vr x124]) (lkS dX1_worth_132 q1519 q1520 q85 (fun _ => sX1_factorial) ad_X1_factorial) (by decide) (Nat.le_of_ble_eq_true rfl) rfl h (fun x132 st e132 h => ?_)
      refine r_iload_n (pc := 135) dX1_worth_135 2 rfl rfl ?_
      refine r_iload (pc := 136) dX1_worth_136 0 rfl ?_
      refine r_isub (pc := 138) dX1_worth_138 ?_
      refine r_iconst (pc := 139) (v := 1) dX1_worth_139 (by decide) ?_
      refine r_isub (pc := 140) dX1_worth_140 ?_
      refine r_callJ (pc := 141) (rest := [vj x132, vj x129, vi v2, vr x124]) (lkS dX1_worth_141 q1519 q1520 q85 (fun _ => sX1_factorial) ad_X1_factorial) (by decide) (Nat.le_of_ble_eq_true rfl) rfl h (fun x141 st e141 h => ?_)
      refine r_lmul (pc := 144) dX1_worth_144 ?_
      refine r_aload_n (pc := 145) dX1_worth_145 1 rfl rfl ?_
      refine r_gA (pc := 146) dX1_worth_146 q328 fd_14 same_rf h (fun x146 e146 h => ?_)
      refine r_iload_n (pc := 149) dX1_worth_149 4 rfl rfl ?_
      refine r_iconst (pc := 150) (v := 1) dX1_worth_150 (by decide) ?_
      refine r_iload_n (pc := 151) dX1_worth_151 3 rfl rfl ?_
      refine r_ishl (pc := 152) dX1_worth_152 ?_
      refine r_ior (pc := 153) dX1_worth_153 ?_
      refine r_iaload (pc := 154) dX1_worth_154 h (fun x154 e154 h => ?_)
      refine r_aload_n (pc := 155) dX1_worth_155 1 rfl rfl ?_
      refine r_gA (pc := 156) dX1_worth_156 q328 fd_14 same_rf h (fun x156 e156 h => ?_)
      refine r_iload_n (pc := 159) dX1_worth_159 4 rfl rfl ?_
      refine r_iaload (pc := 160) dX1_worth_160 h (fun x160 e160 h => ?_)
      refine r_isub (pc := 161) dX1_worth_161 ?_
      refine r_i2l (pc := 162) dX1_worth_162 ?_
      refine r_lmul (pc := 163) dX1_worth_163 ?_
      refine r_ladd (pc := 164) dX1_worth_164 ?_
      refine r_lastore (pc := 165) dX1_worth_165 h (fun st e165 h => ?_)
      exact r_sub (env' := [(0, vr v0), (1, vi v1), (2, vi v2), (3, vi v3)]) [1, 2, 3, 4] rfl (sX1_worth_166 hk85 hk99 _ _ _ _ _ h)
    · refine r_goto (pc := 114) (tgt := 166) dX1_worth_114 (by decide) ?_
      exact sX1_worth_166 hk85 hk99 _ _ _ _ _ h
theorem sX1_worth_99 {st0 : Mem} {fin : Int32 × Mem} {kk85 : Rf → Int32 → Int32 → Mem → Option (Int32 × Mem)} (hk85 : ∀ (v0 : Rf) (v1 : Int32) (v2 : Int32) (st : Mem), kk85 v0 v1 v2 st = some fin → G (cX1_worth, "HouseClaps", "worth", 84, (some .int), 5) st0 trI fin 85 [(0, vr v0), (1, vi v1), (2, vi v2)] [] st) (n : Nat) : ∀ (v0 : Rf) (v1 : Int32) (v2 : Int32) (v3 : Int32) (st : Mem), bX1_worth_99 kk85 n v0 v1 v2 v3 st = some fin → G (cX1_worth, "HouseClaps", "worth", 84, (some .int), 5) st0 trI fin 99 [(0, vr v0), (1, vi v1), (2, vi v2), (3, vi v3)] [] st := by
  induction n with
  | zero => intro v0 v1 v2 v3 st h; cases h
  | succ n ih => intro v0 v1 v2 v3 st h; exact sX1_worth_99B hk85  ih v0 v1 v2 v3 st h
theorem sX1_worth_85B {st0 : Mem} {fin : Int32 × Mem} {kk85 : Rf → Int32 → Int32 → Mem → Option (Int32 × Mem)} (hk85 : ∀ (v0 : Rf) (v1 : Int32) (v2 : Int32) (st : Mem), kk85 v0 v1 v2 st = some fin → G (cX1_worth, "HouseClaps", "worth", 84, (some .int), 5) st0 trI fin 85 [(0, vr v0), (1, vi v1), (2, vi v2)] [] st) (v0 : Rf) (v1 : Int32) (v2 : Int32) (st : Mem) (h : bX1_worth_85B kk85 v0 v1 v2 st = some fin) : G (cX1_worth, "HouseClaps", "worth", 84, (some .int), 5) st0 trI fin 85 [(0, vr v0), (1, vi v1), (2, vi v2)] [] st := by
  unfold bX1_worth_85B at h
  refine r_iload_n (pc := 85) dX1_worth_85 2 rfl rfl ?_
  refine r_iload_n (pc := 86) dX1_worth_86 1 rfl rfl ?_
  refine r_icmp_ge (pc := 87) (tgt := 178) dX1_worth_87 (by decide) h (fun e87 h => ?_) (fun e87 h => ?_)
  · refine r_aload_n (pc := 178) dX1_worth_178 0 rfl rfl ?_
    refine r_gA (pc := 179) dX1_worth_179 q328 fd_14 same_rf h (fun x179 e179 h => ?_)
    refine r_iconst (pc := 182) (v := 1) dX1_worth_182 (by decide) ?_
    refine r_iload_n (pc := 183) dX1_worth_183 1 rfl rfl ?_
    refine r_ishl (pc := 184) dX1_worth_184 ?_
    refine r_iconst (pc := 185) (v := 1) dX1_worth_185 (by decide) ?_
    refine r_isub (pc := 186) dX1_worth_186 ?_
    refine r_iaload (pc := 187) dX1_worth_187 h (fun x187 e187 h => ?_)
    exact r_ireturn (pc := 188) dX1_worth_188 rfl rfl h
  · refine r_aload_n (pc := 90) dX1_worth_90 0 rfl rfl ?_
    refine r_gA (pc := 91) dX1_worth_91 q329 fd_15 same_rf h (fun x91 e91 h => ?_)
    refine r_iload_n (pc := 94) dX1_worth_94 2 rfl rfl ?_
    refine r_lconst (pc := 95) (v := 0) dX1_worth_95 (by decide) ?_
    refine r_lastore (pc := 96) dX1_worth_96 h (fun st e96 h => ?_)
    refine r_iconst (pc := 97) (v := 0) dX1_worth_97 (by decide) ?_
    refine r_istore_n (pc := 98) (env' := [(3, vi (0 : Int32)), (0, vr v0), (1, vi v1), (2, vi v2)]) dX1_worth_98 rfl (by decide) rfl ?_
    exact r_sub (env' := [(0, vr v0), (1, vi v1), (2, vi v2), (3, vi (0 : Int32))]) [1, 2, 3, 0] rfl (sX1_worth_99 hk85 hcFuel _ _ _ _ _ h)
theorem sX1_worth_85 {st0 : Mem} {fin : Int32 × Mem} (n : Nat) : ∀ (v0 : Rf) (v1 : Int32) (v2 : Int32) (st : Mem), bX1_worth_85 n v0 v1 v2 st = some fin → G (cX1_worth, "HouseClaps", "worth", 84, (some .int), 5) st0 trI fin 85 [(0, vr v0), (1, vi v1), (2, vi v2)] [] st := by
  induction n with
  | zero => intro v0 v1 v2 st h; cases h
  | succ n ih => intro v0 v1 v2 st h; exact sX1_worth_85B  ih v0 v1 v2 st h
theorem sX1_worth_34B {st0 : Mem} {fin : Int32 × Mem} {kk34 : Rf → Int32 → Int32 → Mem → Option (Int32 × Mem)} (hk34 : ∀ (v0 : Rf) (v1 : Int32) (v2 : Int32) (st : Mem), kk34 v0 v1 v2 st = some fin → G (cX1_worth, "HouseClaps", "worth", 84, (some .int), 5) st0 trI fin 34 [(0, vr v0), (1, vi v1), (2, vi v2)] [] st) (v0 : Rf) (v1 : Int32) (v2 : Int32) (st : Mem) (h : bX1_worth_34B kk34 v0 v1 v2 st = some fin) : G (cX1_worth, "HouseClaps", "worth", 84, (some .int), 5) st0 trI fin 34 [(0, vr v0), (1, vi v1), (2, vi v2)] [] st := by
  unfold bX1_worth_34B at h
  refine r_iload_n (pc := 34) dX1_worth_34 2 rfl rfl ?_
  refine r_iconst (pc := 35) (v := 1) dX1_worth_35 (by decide) ?_
  refine r_iload_n (pc := 36) dX1_worth_36 1 rfl rfl ?_
  refine r_ishl (pc := 37) dX1_worth_37 ?_
  refine r_icmp_ge (pc := 38) (tgt := 70) dX1_worth_38 (by decide) h (fun e38 h => ?_) (fun e38 h => ?_)
  · refine r_aload_n (pc := 70) dX1_worth_70 0 rfl rfl ?_
    refine r_iload_n (pc := 71) dX1_worth_71 1 rfl rfl ?_
    refine r_pI (pc := 72) dX1_worth_72 q330 fd_16 same_rf rfl h (fun st e72 h => ?_)
    refine r_aload_n (pc := 75) dX1_worth_75 0 rfl rfl ?_
    refine r_iload_n (pc := 76) dX1_worth_76 1 rfl rfl ?_
    refine r_callJ (pc := 77) (rest := [vr v0]) (lkS dX1_worth_77 q1519 q1520 q85 (fun _ => sX1_factorial) ad_X1_factorial) (by decide) (Nat.le_of_ble_eq_true rfl) rfl h (fun x77 st e77 h => ?_)
    refine r_pJ (pc := 80) dX1_worth_80 q331 fd_17 same_rf rfl h (fun st e80 h => ?_)
    refine r_iconst (pc := 83) (v := 0) dX1_worth_83 (by decide) ?_
    refine r_istore_n (pc := 84) (env' := [(2, vi (0 : Int32)), (0, vr v0), (1, vi v1)]) dX1_worth_84 rfl (by decide) rfl ?_
    exact r_sub (env' := [(0, vr v0), (1, vi v1), (2, vi (0 : Int32))]) [1, 2, 0] rfl (sX1_worth_85 hcFuel _ _ _ _ h)
  · refine r_aload_n (pc := 41) dX1_worth_41 0 rfl rfl ?_
    refine r_gA (pc := 42) dX1_worth_42 q328 fd_14 same_rf h (fun x42 e42 h => ?_)
    refine r_iload_n (pc := 45) dX1_worth_45 2 rfl rfl ?_
    refine r_aload_n (pc := 46) dX1_worth_46 0 rfl rfl ?_
    refine r_aload_n (pc := 47) dX1_worth_47 0 rfl rfl ?_
    refine r_gA (pc := 48) dX1_worth_48 q318 fd_4 same_rf h (fun x48 e48 h => ?_)
    refine r_aload_n (pc := 51) dX1_worth_51 0 rfl rfl ?_
    refine r_iload_n (pc := 52) dX1_worth_52 2 rfl rfl ?_
    refine r_callJ (pc := 53) (rest := [vr x48, vr v0, vi v2, vr x42]) (lkV dX1_worth_53 q1491 xd_X1_handsOf (vc_of vt_X1_handsOf q1493 (fun _ => sX1_handsOf)) adx_X1_handsOf) (by decide) (Nat.le_of_ble_eq_true rfl) rfl h (fun x53 st e53 h => ?_)
    refine r_aload_n (pc := 56) dX1_worth_56 0 rfl rfl ?_
    refine r_gJ (pc := 57) dX1_worth_57 q320 fd_6 same_rf h (fun x57 e57 h => ?_)
    refine r_callI (pc := 60) (rest := [vi v2, vr x42]) (lkV dX1_worth_60 q1458 xd_X1_heightOf (vc_of vt_X1_heightOf q1460 (fun _ => sX1_heightOf)) adx_X1_heightOf) (by decide) (Nat.le_of_ble_eq_true rfl) rfl h (fun x60 st e60 h => ?_)
    refine r_iastore (pc := 63) dX1_worth_63 h (fun st e63 h => ?_)
    refine r_iinc (pc := 64) (env' := [(2, vi (v2 + 1)), (0, vr v0), (1, vi v1)]) (cst := 1) dX1_worth_64 2 rfl (by decide) (by decide) rfl ?_
    refine r_goto (pc := 67) (tgt := 34) dX1_worth_67 (by decide) ?_
    exact r_sub (env' := [(0, vr v0), (1, vi v1), (2, vi (v2 + 1))]) [1, 2, 0] rfl (hk34 _ _ _ _ h)
theorem sX1_worth_34 {st0 : Mem} {fin : Int32 × Mem} (n : Nat) : ∀ (v0 : Rf) (v1 : Int32) (v2 : Int32) (st : Mem), bX1_worth_34 n v0 v1 v2 st = some fin → G (cX1_worth, "HouseClaps", "worth", 84, (some .int), 5) st0 trI fin 34 [(0, vr v0), (1, vi v1), (2, vi v2)] [] st := by
  induction n with
  | zero => intro v0 v1 v2 st h; cases h
  | succ n ih => intro v0 v1 v2 st h; exact sX1_worth_34B  ih v0 v1 v2 st h
theorem sX1_worth {a0 : Rf} {st : Mem} {fin : Int32 × Mem} (h : fX1_worth a0 st = some fin) : Con yX1_worth 84 [vr a0] st trI fin := by
  refine Con.mk (cc := cX1_worth) (n := 5) (own := "HouseClaps") (nm := "worth") (ret := (some .int)) (env := [(0, vr a0)]) q1518 rfl rfl rfl (by decide) ⟨Nat.le_of_ble_eq_true rfl, by decide⟩ rfl ?_
  unfold fX1_worth at h
  refine r_aload_n (pc := 0) dX1_worth_0 0 rfl rfl ?_
  refine r_callI (pc := 1) (rest := []) (lkV dX1_worth_1 q415 xd_X1_take (vc_of vt_X1_take q417 (fun _ => sX1_take)) adx_X1_take) (by decide) (Nat.le_of_ble_eq_true rfl) rfl h (fun x1 st e1 h => ?_)
  refine r_istore_n (pc := 4) (env' := [(1, vi x1), (0, vr a0)]) dX1_worth_4 rfl (by decide) rfl ?_
  refine r_iload_n (pc := 5) dX1_worth_5 0 rfl rfl ?_
  refine r_iconst (pc := 6) (v := 1) dX1_worth_6 (by decide) ?_
  refine r_bipush (pc := 7) (v := 8) dX1_worth_7 (by decide) ?_
  refine r_callI (pc := 9) (rest := []) (lkS dX1_worth_9 q1055 q928 q85 (fun _ => sX1_isIn) ad_X1_isIn) (by decide) (Nat.le_of_ble_eq_true rfl) rfl h (fun x9 st e9 h => ?_)
  refine r_if_eq (pc := 12) (tgt := 30) dX1_worth_12 (by decide) h (fun e12 h => ?_) (fun e12 h => ?_)
  · refine r_iconst (pc := 30) (v := (-1)) dX1_worth_30 (by decide) ?_
    exact r_ireturn (pc := 31) dX1_worth_31 rfl rfl h
  · refine r_aload_n (pc := 15) dX1_worth_15 1 rfl rfl ?_
    refine r_iconst (pc := 16) (v := 0) dX1_worth_16 (by decide) ?_
    refine r_iload_n (pc := 17) dX1_worth_17 0 rfl rfl ?_
    refine r_aload_n (pc := 18) dX1_worth_18 1 rfl rfl ?_
    refine r_gA (pc := 19) dX1_worth_19 q325 fd_11 same_rf h (fun x19 e19 h => ?_)
    refine r_lconst (pc := 22) (v := 0) dX1_worth_22 (by decide) ?_
    refine r_callI (pc := 23) (rest := []) (lkV dX1_worth_23 q1470 xd_X1_takesSeats (vc_of vt_X1_takesSeats q1472 (fun _ => sX1_takesSeats)) adx_X1_takesSeats) (by decide) (Nat.le_of_ble_eq_true rfl) rfl h (fun x23 st e23 h => ?_)
    refine r_iconst (pc := 26) (v := (-1)) dX1_worth_26 (by decide) ?_
    refine r_icmp_ne (pc := 27) (tgt := 32) dX1_worth_27 (by decide) h (fun e27 h => ?_) (fun e27 h => ?_)
    · refine r_iconst (pc := 32) (v := 0) dX1_worth_32 (by decide) ?_
      refine r_istore_n (pc := 33) (env' := [(2, vi (0 : Int32)), (1, vi x1), (0, vr a0)]) dX1_worth_33 rfl (by decide) rfl ?_
      exact r_sub (env' := [(0, vr a0), (1, vi x1), (2, vi (0 : Int32))]) [2, 1, 0] rfl (sX1_worth_34 hcFuel _ _ _ _ h)
    · refine r_iconst (pc := 30) (v := (-1)) dX1_worth_30 (by decide) ?_
      exact r_ireturn (pc := 31) dX1_worth_31 rfl rfl h
theorem sX6_read_146 {st0 : Mem} {fin : (Rf ⊕ Nat) × Mem} {kk4 : Rf → Mem → Option ((Rf ⊕ Nat) × Mem)} (hk4 : ∀ (v0 : Rf) (st : Mem), kk4 v0 st = some fin → G (cX6_read, "HouseClaps$HouseReader", "read", 150, (some (.object "HouseClaps$House")), 1) st0 trAx fin 4 [(0, vr v0)] [] st) (v0 : Rf) (st : Mem) (h : bX6_read_146 kk4 v0 st = some fin) : G (cX6_read, "HouseClaps$HouseReader", "read", 150, (some (.object "HouseClaps$House")), 1) st0 trAx fin 146 [(0, vr v0)] [] st := by
  unfold bX6_read_146 at h
  refine r_aload_n (pc := 146) dX6_read_146 0 rfl rfl ?_
  refine r_callVx (pc := 147) (rest := []) (lkV dX6_read_147 q1027 xd_X6_end (vc_of vt_X6_end q1031 (fun _ => sX5_end)) adx_X6_end) (by decide) (Nat.le_of_ble_eq_true rfl) rfl (by decide) (fun _ => rfl) h (fun u147 st e147 h => ?_)
  refine r_aload_n (pc := 150) dX6_read_150 0 rfl rfl ?_
  refine r_gA (pc := 151) dX6_read_151 q431 fd_133 same_rf h (fun x151 e151 h => ?_)
  refine r_dup (pc := 154) dX6_read_154 rfl ?_
  refine r_gIN (pc := 155) dX6_read_155 q166 fd_32 same_rf h (fun x155 e155 h => ?_)
  refine r_iconst (pc := 158) (v := 1) dX6_read_158 (by decide) ?_
  refine r_iadd (pc := 159) dX6_read_159 ?_
  refine r_pIN (pc := 160) dX6_read_160 q166 fd_32 same_rf rfl h (fun st e160 h => ?_)
  refine r_goto (pc := 163) (tgt := 4) dX6_read_163 (by decide) ?_
  exact hk4 _ _ h
theorem sX6_read_4B {st0 : Mem} {fin : (Rf ⊕ Nat) × Mem} {kk4 : Rf → Mem → Option ((Rf ⊕ Nat) × Mem)} (hk4 : ∀ (v0 : Rf) (st : Mem), kk4 v0 st = some fin → G (cX6_read, "HouseClaps$HouseReader", "read", 150, (some (.object "HouseClaps$House")), 1) st0 trAx fin 4 [(0, vr v0)] [] st) (v0 : Rf) (st : Mem) (h : bX6_read_4B kk4 v0 st = some fin) : G (cX6_read, "HouseClaps$HouseReader", "read", 150, (some (.object "HouseClaps$House")), 1) st0 trAx fin 4 [(0, vr v0)] [] st := by
  unfold bX6_read_4B at h
  refine r_aload_n (pc := 4) dX6_read_4 0 rfl rfl ?_
  refine r_gI (pc := 5) dX6_read_5 q441 fd_128 (r_same q442) h (fun x5 e5 h => ?_)
  refine r_if_eq (pc := 8) (tgt := 166) dX6_read_8 (by decide) h (fun e8 h => ?_) (fun e8 h => ?_)
  · refine r_aload_n (pc := 166) dX6_read_166 0 rfl rfl ?_
    refine r_gA (pc := 167) dX6_read_167 q431 fd_133 same_rf h (fun x167 e167 h => ?_)
    refine r_callA (pc := 170) (rest := []) (lkV dX6_read_170 q1034 xd_X2_open (vc_of vt_X2_open q1035 (fun _ => sX2_open)) adx_X2_open) (by decide) (Nat.le_of_ble_eq_true rfl) rfl h (fun x170 st e170 h => ?_)
    exact r_areturn (pc := 173) dX6_read_173 rfl rfl h
  · refine r_aload_n (pc := 11) dX6_read_11 0 rfl rfl ?_
    refine r_ldcS (pc := 12) dX6_read_12 5 rfl ?_
    refine r_callI (pc := 14) (rest := []) (lkV dX6_read_14 q760 xd_X6_is (vc_of vt_X6_is q764 (fun _ => sX5_is)) adx_X6_is) (by decide) (Nat.le_of_ble_eq_true rfl) rfl h (fun x14 st e14 h => ?_)
    refine r_if_eq (pc := 17) (tgt := 27) dX6_read_17 (by decide) h (fun e17 h => ?_) (fun e17 h => ?_)
    · refine r_aload_n (pc := 27) dX6_read_27 0 rfl rfl ?_
      refine r_ldcS (pc := 28) dX6_read_28 6 rfl ?_
      refine r_callI (pc := 30) (rest := []) (lkV dX6_read_30 q760 xd_X6_is (vc_of vt_X6_is q764 (fun _ => sX5_is)) adx_X6_is) (by decide) (Nat.le_of_ble_eq_true rfl) rfl h (fun x30 st e30 h => ?_)
      refine r_if_eq (pc := 33) (tgt := 51) dX6_read_33 (by decide) h (fun e33 h => ?_) (fun e33 h => ?_)
      · refine r_aload_n (pc := 51) dX6_read_51 0 rfl rfl ?_
        refine r_ldcS (pc := 52) dX6_read_52 7 rfl ?_
        refine r_callI (pc := 54) (rest := []) (lkV dX6_read_54 q760 xd_X6_is (vc_of vt_X6_is q764 (fun _ => sX5_is)) adx_X6_is) (by decide) (Nat.le_of_ble_eq_true rfl) rfl h (fun x54 st e54 h => ?_)
        refine r_if_eq (pc := 57) (tgt := 76) dX6_read_57 (by decide) h (fun e57 h => ?_) (fun e57 h => ?_)
        · refine r_aload_n (pc := 76) dX6_read_76 0 rfl rfl ?_
          refine r_ldcS (pc := 77) dX6_read_77 8 rfl ?_
          refine r_callI (pc := 79) (rest := []) (lkV dX6_read_79 q760 xd_X6_is (vc_of vt_X6_is q764 (fun _ => sX5_is)) adx_X6_is) (by decide) (Nat.le_of_ble_eq_true rfl) rfl h (fun x79 st e79 h => ?_)
          refine r_if_eq (pc := 82) (tgt := 109) dX6_read_82 (by decide) h (fun e82 h => ?_) (fun e82 h => ?_)
          · refine r_aload_n (pc := 109) dX6_read_109 0 rfl rfl ?_
            refine r_ldcS (pc := 110) dX6_read_110 9 rfl ?_
            refine r_callI (pc := 112) (rest := []) (lkV dX6_read_112 q760 xd_X6_is (vc_of vt_X6_is q764 (fun _ => sX5_is)) adx_X6_is) (by decide) (Nat.le_of_ble_eq_true rfl) rfl h (fun x112 st e112 h => ?_)
            refine r_if_eq (pc := 115) (tgt := 142) dX6_read_115 (by decide) h (fun e115 h => ?_) (fun e115 h => ?_)
            · refine r_aload_n (pc := 142) dX6_read_142 0 rfl rfl ?_
              refine r_callVx (pc := 143) (rest := []) (lkV dX6_read_143 q1020 xd_X6_once (vc_of vt_X6_once q1022 (fun _ => sX6_once)) adx_X6_once) (by decide) (Nat.le_of_ble_eq_true rfl) rfl (by decide) (fun _ => rfl) h (fun u143 st e143 h => ?_)
              exact sX6_read_146 hk4 _ _ h
            · refine r_aload_n (pc := 118) dX6_read_118 0 rfl rfl ?_
              refine r_gA (pc := 119) dX6_read_119 q431 fd_133 same_rf h (fun x119 e119 h => ?_)
              refine r_gAN (pc := 122) dX6_read_122 q181 fd_36 same_rf h (fun x122 e122 h => ?_)
              refine r_aload_n (pc := 125) dX6_read_125 0 rfl rfl ?_
              refine r_iconst (pc := 126) (v := 0) dX6_read_126 (by decide) ?_
              refine r_callIx (pc := 127) (rest := [vr x122]) (lkV dX6_read_127 q1008 xd_X6_rowTold (vc_of vt_X6_rowTold q1010 (fun _ => sX6_rowTold)) adx_X6_rowTold) (by decide) (Nat.le_of_ble_eq_true rfl) rfl (by decide) (fun _ => rfl) h (fun x127 st e127 h => ?_)
              refine r_aload_n (pc := 130) dX6_read_130 0 rfl rfl ?_
              refine r_iconst (pc := 131) (v := 0) dX6_read_131 (by decide) ?_
              refine r_sipush (pc := 132) (v := 600) dX6_read_132 (by decide) ?_
              refine r_callIx (pc := 135) (rest := [vi x127, vr x122]) (lkV dX6_read_135 q914 xd_X6_number (vc_of vt_X6_number q918 (fun _ => sX5_number)) adx_X6_number) (by decide) (Nat.le_of_ble_eq_true rfl) rfl (by decide) (fun _ => rfl) h (fun x135 st e135 h => ?_)
              refine r_iastore (pc := 138) dX6_read_138 h (fun st e138 h => ?_)
              refine r_goto (pc := 139) (tgt := 146) dX6_read_139 (by decide) ?_
              exact sX6_read_146 hk4 _ _ h
          · refine r_aload_n (pc := 85) dX6_read_85 0 rfl rfl ?_
            refine r_gA (pc := 86) dX6_read_86 q431 fd_133 same_rf h (fun x86 e86 h => ?_)
            refine r_gAN (pc := 89) dX6_read_89 q178 fd_35 same_rf h (fun x89 e89 h => ?_)
            refine r_aload_n (pc := 92) dX6_read_92 0 rfl rfl ?_
            refine r_iconst (pc := 93) (v := 1) dX6_read_93 (by decide) ?_
            refine r_callIx (pc := 94) (rest := [vr x89]) (lkV dX6_read_94 q1008 xd_X6_rowTold (vc_of vt_X6_rowTold q1010 (fun _ => sX6_rowTold)) adx_X6_rowTold) (by decide) (Nat.le_of_ble_eq_true rfl) rfl (by decide) (fun _ => rfl) h (fun x94 st e94 h => ?_)
            refine r_aload_n (pc := 97) dX6_read_97 0 rfl rfl ?_
            refine r_iconst (pc := 98) (v := 0) dX6_read_98 (by decide) ?_
            refine r_sipush (pc := 99) (v := 999) dX6_read_99 (by decide) ?_
            refine r_callIx (pc := 102) (rest := [vi x94, vr x89]) (lkV dX6_read_102 q914 xd_X6_number (vc_of vt_X6_number q918 (fun _ => sX5_number)) adx_X6_number) (by decide) (Nat.le_of_ble_eq_true rfl) rfl (by decide) (fun _ => rfl) h (fun x102 st e102 h => ?_)
            refine r_iastore (pc := 105) dX6_read_105 h (fun st e105 h => ?_)
            refine r_goto (pc := 106) (tgt := 146) dX6_read_106 (by decide) ?_
            exact sX6_read_146 hk4 _ _ h
        · refine r_aload_n (pc := 60) dX6_read_60 0 rfl rfl ?_
          refine r_aload_n (pc := 61) dX6_read_61 0 rfl rfl ?_
          refine r_gA (pc := 62) dX6_read_62 q431 fd_133 same_rf h (fun x62 e62 h => ?_)
          refine r_gAN (pc := 65) dX6_read_65 q189 fd_38 same_rf h (fun x65 e65 h => ?_)
          refine r_bipush (pc := 68) (v := 6) dX6_read_68 (by decide) ?_
          refine r_callVx (pc := 70) (rest := []) (lkV dX6_read_70 q862 xd_X6_law (vc_of vt_X6_law q864 (fun _ => sX6_law)) adx_X6_law) (by decide) (Nat.le_of_ble_eq_true rfl) rfl (by decide) (fun _ => rfl) h (fun u70 st e70 h => ?_)
          refine r_goto (pc := 73) (tgt := 146) dX6_read_73 (by decide) ?_
          exact sX6_read_146 hk4 _ _ h
      · refine r_aload_n (pc := 36) dX6_read_36 0 rfl rfl ?_
        refine r_aload_n (pc := 37) dX6_read_37 0 rfl rfl ?_
        refine r_gA (pc := 38) dX6_read_38 q431 fd_133 same_rf h (fun x38 e38 h => ?_)
        refine r_gAN (pc := 41) dX6_read_41 q185 fd_37 same_rf h (fun x41 e41 h => ?_)
        refine r_iconst (pc := 44) (v := 0) dX6_read_44 (by decide) ?_
        refine r_callVx (pc := 45) (rest := []) (lkV dX6_read_45 q862 xd_X6_law (vc_of vt_X6_law q864 (fun _ => sX6_law)) adx_X6_law) (by decide) (Nat.le_of_ble_eq_true rfl) rfl (by decide) (fun _ => rfl) h (fun u45 st e45 h => ?_)
        refine r_goto (pc := 48) (tgt := 146) dX6_read_48 (by decide) ?_
        exact sX6_read_146 hk4 _ _ h
    · refine r_aload_n (pc := 20) dX6_read_20 0 rfl rfl ?_
      refine r_callVx (pc := 21) (rest := []) (lkV dX6_read_21 q774 xd_X6_row (vc_of vt_X6_row q776 (fun _ => sX6_row)) adx_X6_row) (by decide) (Nat.le_of_ble_eq_true rfl) rfl (by decide) (fun _ => rfl) h (fun u21 st e21 h => ?_)
      refine r_goto (pc := 24) (tgt := 146) dX6_read_24 (by decide) ?_
      exact sX6_read_146 hk4 _ _ h
theorem sX6_read_4 {st0 : Mem} {fin : (Rf ⊕ Nat) × Mem} (n : Nat) : ∀ (v0 : Rf) (st : Mem), bX6_read_4 n v0 st = some fin → G (cX6_read, "HouseClaps$HouseReader", "read", 150, (some (.object "HouseClaps$House")), 1) st0 trAx fin 4 [(0, vr v0)] [] st := by
  induction n with
  | zero => intro v0 st h; cases h
  | succ n ih => intro v0 st h; exact sX6_read_4B  ih v0 st h
theorem sX6_read {a0 : Rf} {st : Mem} {fin : (Rf ⊕ Nat) × Mem} (h : fX6_read a0 st = some fin) : Con yX6_read 150 [vr a0] st trAx fin := by
  refine Con.mk (cc := cX6_read) (n := 1) (own := "HouseClaps$HouseReader") (nm := "read") (ret := (some (.object "HouseClaps$House"))) (env := [(0, vr a0)]) q488 rfl rfl rfl (by decide) ⟨Nat.le_of_ble_eq_true rfl, by decide⟩ rfl ?_
  unfold fX6_read at h
  refine r_aload_n (pc := 0) dX6_read_0 0 rfl rfl ?_
  refine r_callV (pc := 1) (rest := []) (lkV dX6_read_1 q489 xd_X6_go (vc_of vt_X6_go q493 (fun _ => sX5_go)) adx_X6_go) (by decide) (Nat.le_of_ble_eq_true rfl) rfl h (fun u1 st e1 h => ?_)
  exact sX6_read_4 hcFuel _ _ h
theorem sX1_arrange_49B {st0 : Mem} {fin : Int32 × Mem} {kk49 : Rf → Int32 → Mem → Option (Int32 × Mem)} (hk49 : ∀ (v0 : Rf) (v1 : Int32) (st : Mem), kk49 v0 v1 st = some fin → G (cX1_arrange, "HouseClaps", "arrange", 86, (some .int), 3) st0 trI fin 49 [(0, vr v0), (1, vi v1)] [] st) (v0 : Rf) (v1 : Int32) (st : Mem) (h : bX1_arrange_49B kk49 v0 v1 st = some fin) : G (cX1_arrange, "HouseClaps", "arrange", 86, (some .int), 3) st0 trI fin 49 [(0, vr v0), (1, vi v1)] [] st := by
  unfold bX1_arrange_49B at h
  refine r_aload_n (pc := 49) dX1_arrange_49 0 rfl rfl ?_
  refine r_gI (pc := 50) dX1_arrange_50 q337 fd_23 same_rf h (fun x50 e50 h => ?_)
  refine r_bipush (pc := 53) (v := 20) dX1_arrange_53 (by decide) ?_
  refine r_icmp_ge (pc := 55) (tgt := 86) dX1_arrange_55 (by decide) h (fun e55 h => ?_) (fun e55 h => ?_)
  · refine r_iload_n (pc := 86) dX1_arrange_86 1 rfl rfl ?_
    exact r_ireturn (pc := 87) dX1_arrange_87 rfl rfl h
  · refine r_aload_n (pc := 58) dX1_arrange_58 0 rfl rfl ?_
    refine r_iload_n (pc := 59) dX1_arrange_59 1 rfl rfl ?_
    refine r_callI (pc := 60) (rest := []) (lkV dX1_arrange_60 q1591 xd_X1_arrangeOnce (vc_of vt_X1_arrangeOnce q1593 (fun _ => sX1_arrangeOnce)) adx_X1_arrangeOnce) (by decide) (Nat.le_of_ble_eq_true rfl) rfl h (fun x60 st e60 h => ?_)
    refine r_istore_n (pc := 63) (env' := [(2, vi x60), (0, vr v0), (1, vi v1)]) dX1_arrange_63 rfl (by decide) rfl ?_
    refine r_iload_n (pc := 64) dX1_arrange_64 0 rfl rfl ?_
    refine r_iload_n (pc := 65) dX1_arrange_65 2 rfl rfl ?_
    refine r_icmp_ne (pc := 66) (tgt := 71) dX1_arrange_66 (by decide) h (fun e66 h => ?_) (fun e66 h => ?_)
    · refine r_iload_n (pc := 71) dX1_arrange_71 0 rfl rfl ?_
      refine r_istore_n (pc := 72) (env' := [(1, vi x60), (2, vi x60), (0, vr v0)]) dX1_arrange_72 rfl (by decide) rfl ?_
      refine r_aload_n (pc := 73) dX1_arrange_73 2 rfl rfl ?_
      refine r_dup (pc := 74) dX1_arrange_74 rfl ?_
      refine r_gI (pc := 75) dX1_arrange_75 q337 fd_23 same_rf h (fun x75 e75 h => ?_)
      refine r_iconst (pc := 78) (v := 1) dX1_arrange_78 (by decide) ?_
      refine r_iadd (pc := 79) dX1_arrange_79 ?_
      refine r_pI (pc := 80) dX1_arrange_80 q337 fd_23 same_rf rfl h (fun st e80 h => ?_)
      refine r_goto (pc := 83) (tgt := 49) dX1_arrange_83 (by decide) ?_
      exact r_sub (env' := [(0, vr v0), (1, vi x60)]) [2, 0] rfl (hk49 _ _ _ h)
    · refine r_iload_n (pc := 69) dX1_arrange_69 2 rfl rfl ?_
      exact r_ireturn (pc := 70) dX1_arrange_70 rfl rfl h
theorem sX1_arrange_49 {st0 : Mem} {fin : Int32 × Mem} (n : Nat) : ∀ (v0 : Rf) (v1 : Int32) (st : Mem), bX1_arrange_49 n v0 v1 st = some fin → G (cX1_arrange, "HouseClaps", "arrange", 86, (some .int), 3) st0 trI fin 49 [(0, vr v0), (1, vi v1)] [] st := by
  induction n with
  | zero => intro v0 v1 st h; cases h
  | succ n ih => intro v0 v1 st h; exact sX1_arrange_49B  ih v0 v1 st h
theorem sX1_arrange {a0 : Rf} {st : Mem} {fin : Int32 × Mem} (h : fX1_arrange a0 st = some fin) : Con yX1_arrange 86 [vr a0] st trI fin := by
  refine Con.mk (cc := cX1_arrange) (n := 3) (own := "HouseClaps") (nm := "arrange") (ret := (some .int)) (env := [(0, vr a0)]) q1590 rfl rfl rfl (by decide) ⟨Nat.le_of_ble_eq_true rfl, by decide⟩ rfl ?_
  unfold fX1_arrange at h
  refine r_aload_n (pc := 0) dX1_arrange_0 0 rfl rfl ?_
  refine r_gA (pc := 1) dX1_arrange_1 q318 fd_4 same_rf h (fun x1 e1 h => ?_)
  refine r_callI (pc := 4) (rest := []) (lkV dX1_arrange_4 q1536 xd_X2_seats (vc_of vt_X2_seats q1386 (fun _ => sX2_seats)) adx_X2_seats) (by decide) (Nat.le_of_ble_eq_true rfl) rfl h (fun x4 st e4 h => ?_)
  refine r_bipush (pc := 7) (v := 24) dX1_arrange_7 (by decide) ?_
  refine r_icmp_le (pc := 9) (tgt := 14) dX1_arrange_9 (by decide) h (fun e9 h => ?_) (fun e9 h => ?_)
  · refine r_aload_n (pc := 14) dX1_arrange_14 0 rfl rfl ?_
    refine r_aload_n (pc := 15) dX1_arrange_15 0 rfl rfl ?_
    refine r_gA (pc := 16) dX1_arrange_16 q318 fd_4 same_rf h (fun x16 e16 h => ?_)
    refine r_iconst (pc := 19) (v := 0) dX1_arrange_19 (by decide) ?_
    refine r_iconst (pc := 20) (v := 0) dX1_arrange_20 (by decide) ?_
    refine r_callA (pc := 21) (rest := [vr a0]) (lkV dX1_arrange_21 q1553 xd_X2_exchanged (vc_of vt_X2_exchanged q1554 (fun _ => sX2_exchanged)) adx_X2_exchanged) (by decide) (Nat.le_of_ble_eq_true rfl) rfl h (fun x21 st e21 h => ?_)
    refine r_pA (pc := 24) dX1_arrange_24 q318 fd_4 same_rf rfl h (fun st e24 h => ?_)
    refine r_aload_n (pc := 27) dX1_arrange_27 0 rfl rfl ?_
    refine r_aload_n (pc := 28) dX1_arrange_28 0 rfl rfl ?_
    refine r_gA (pc := 29) dX1_arrange_29 q318 fd_4 same_rf h (fun x29 e29 h => ?_)
    refine r_aload_n (pc := 32) dX1_arrange_32 0 rfl rfl ?_
    refine r_gJ (pc := 33) dX1_arrange_33 q319 fd_5 same_rf h (fun x33 e33 h => ?_)
    refine r_aload_n (pc := 36) dX1_arrange_36 0 rfl rfl ?_
    refine r_gJ (pc := 37) dX1_arrange_37 q320 fd_6 same_rf h (fun x37 e37 h => ?_)
    refine r_callI (pc := 40) (rest := []) (lkV dX1_arrange_40 q1458 xd_X1_heightOf (vc_of vt_X1_heightOf q1460 (fun _ => sX1_heightOf)) adx_X1_heightOf) (by decide) (Nat.le_of_ble_eq_true rfl) rfl h (fun x40 st e40 h => ?_)
    refine r_istore_n (pc := 43) (env' := [(1, vi x40), (0, vr a0)]) dX1_arrange_43 rfl (by decide) rfl ?_
    refine r_aload_n (pc := 44) dX1_arrange_44 1 rfl rfl ?_
    refine r_iconst (pc := 45) (v := 0) dX1_arrange_45 (by decide) ?_
    refine r_pI (pc := 46) dX1_arrange_46 q337 fd_23 same_rf rfl h (fun st e46 h => ?_)
    exact r_sub (env' := [(0, vr a0), (1, vi x40)]) [1, 0] rfl (sX1_arrange_49 hcFuel _ _ _ h)
  · refine r_iconst (pc := 12) (v := (-1)) dX1_arrange_12 (by decide) ?_
    exact r_ireturn (pc := 13) dX1_arrange_13 rfl rfl h
theorem sX1_cheapest_122 {st0 : Mem} {fin : Int32 × Mem} {kk37 : Rf → Int32 → Int32 → Int32 → Mem → Option (Int32 × Mem)} (hk37 : ∀ (v0 : Rf) (v1 : Int32) (v2 : Int32) (v3 : Int32) (st : Mem), kk37 v0 v1 v2 v3 st = some fin → G (cX1_cheapest, "HouseClaps", "cheapest", 86, (some .int), 6) st0 trI fin 37 [(0, vr v0), (1, vi v1), (2, vi v2), (3, vi v3)] [] st) (v0 : Rf) (v1 : Int32) (v2 : Int32) (v3 : Int32) (st : Mem) (h : bX1_cheapest_122 kk37 v0 v1 v2 v3 st = some fin) : G (cX1_cheapest, "HouseClaps", "cheapest", 86, (some .int), 6) st0 trI fin 122 [(0, vr v0), (1, vi v1), (2, vi v2), (3, vi v3)] [] st := by
  unfold bX1_cheapest_122 at h
  refine r_iinc (pc := 122) (env' := [(3, vi (v3 + 1)), (0, vr v0), (1, vi v1), (2, vi v2)]) (cst := 1) dX1_cheapest_122 3 rfl (by decide) (by decide) rfl ?_
  refine r_goto (pc := 125) (tgt := 37) dX1_cheapest_125 (by decide) ?_
  exact r_sub (env' := [(0, vr v0), (1, vi v1), (2, vi v2), (3, vi (v3 + 1))]) [1, 2, 3, 0] rfl (hk37 _ _ _ _ _ h)
theorem sX1_cheapest_92 {st0 : Mem} {fin : Int32 × Mem} {kk37 : Rf → Int32 → Int32 → Int32 → Mem → Option (Int32 × Mem)} (hk37 : ∀ (v0 : Rf) (v1 : Int32) (v2 : Int32) (v3 : Int32) (st : Mem), kk37 v0 v1 v2 v3 st = some fin → G (cX1_cheapest, "HouseClaps", "cheapest", 86, (some .int), 6) st0 trI fin 37 [(0, vr v0), (1, vi v1), (2, vi v2), (3, vi v3)] [] st) (v0 : Rf) (v1 : Int32) (v2 : Int32) (v3 : Int32) (k0 : Int32) (st : Mem) (h : bX1_cheapest_92 kk37 v0 v1 v2 v3 k0 st = some fin) : G (cX1_cheapest, "HouseClaps", "cheapest", 86, (some .int), 6) st0 trI fin 92 [(0, vr v0), (1, vi v1), (2, vi v2), (3, vi v3)] [vi k0] st := by
  unfold bX1_cheapest_92 at h
  refine r_istore (pc := 92) (env' := [(5, vi k0), (0, vr v0), (1, vi v1), (2, vi v2), (3, vi v3)]) dX1_cheapest_92 (by decide) rfl ?_
  refine r_iload (pc := 94) dX1_cheapest_94 0 rfl ?_
  refine r_if_ne (pc := 96) (tgt := 122) dX1_cheapest_96 (by decide) h (fun e96 h => ?_) (fun e96 h => ?_)
  · exact r_sub (env' := [(0, vr v0), (1, vi v1), (2, vi v2), (3, vi v3)]) [1, 2, 3, 4] rfl (sX1_cheapest_122 hk37 _ _ _ _ _ h)
  · refine r_aload_n (pc := 99) dX1_cheapest_99 1 rfl rfl ?_
    refine r_aload_n (pc := 100) dX1_cheapest_100 1 rfl rfl ?_
    refine r_gA (pc := 101) dX1_cheapest_101 q318 fd_4 same_rf h (fun x101 e101 h => ?_)
    refine r_aload_n (pc := 104) dX1_cheapest_104 1 rfl rfl ?_
    refine r_gJ (pc := 105) dX1_cheapest_105 q319 fd_5 same_rf h (fun x105 e105 h => ?_)
    refine r_aload_n (pc := 108) dX1_cheapest_108 1 rfl rfl ?_
    refine r_iload_n (pc := 109) dX1_cheapest_109 4 rfl rfl ?_
    refine r_callJ (pc := 110) (rest := [vj x105, vr x101, vr v0]) (lkV dX1_cheapest_110 q1491 xd_X1_handsOf (vc_of vt_X1_handsOf q1493 (fun _ => sX1_handsOf)) adx_X1_handsOf) (by decide) (Nat.le_of_ble_eq_true rfl) rfl h (fun x110 st e110 h => ?_)
    refine r_lor (pc := 113) dX1_cheapest_113 ?_
    refine r_callI (pc := 114) (rest := []) (lkV dX1_cheapest_114 q1495 xd_X1_isCarried (vc_of vt_X1_isCarried q1497 (fun _ => sX1_isCarried)) adx_X1_isCarried) (by decide) (Nat.le_of_ble_eq_true rfl) rfl h (fun x114 st e114 h => ?_)
    refine r_if_eq (pc := 117) (tgt := 122) dX1_cheapest_117 (by decide) h (fun e117 h => ?_) (fun e117 h => ?_)
    · exact r_sub (env' := [(0, vr v0), (1, vi v1), (2, vi v2), (3, vi v3)]) [1, 2, 3, 4] rfl (sX1_cheapest_122 hk37 _ _ _ _ _ h)
    · refine r_iload_n (pc := 120) dX1_cheapest_120 4 rfl rfl ?_
      refine r_istore_n (pc := 121) (env' := [(2, vi v3), (5, vi k0), (0, vr v0), (1, vi v1), (3, vi v3)]) dX1_cheapest_121 rfl (by decide) rfl ?_
      exact r_sub (env' := [(0, vr v0), (1, vi v1), (2, vi v3), (3, vi v3)]) [2, 3, 0, 4] rfl (sX1_cheapest_122 hk37 _ _ _ _ _ h)
theorem sX1_cheapest_91 {st0 : Mem} {fin : Int32 × Mem} {kk37 : Rf → Int32 → Int32 → Int32 → Mem → Option (Int32 × Mem)} (hk37 : ∀ (v0 : Rf) (v1 : Int32) (v2 : Int32) (v3 : Int32) (st : Mem), kk37 v0 v1 v2 v3 st = some fin → G (cX1_cheapest, "HouseClaps", "cheapest", 86, (some .int), 6) st0 trI fin 37 [(0, vr v0), (1, vi v1), (2, vi v2), (3, vi v3)] [] st) (v0 : Rf) (v1 : Int32) (v2 : Int32) (v3 : Int32) (st : Mem) (h : bX1_cheapest_91 kk37 v0 v1 v2 v3 st = some fin) : G (cX1_cheapest, "HouseClaps", "cheapest", 86, (some .int), 6) st0 trI fin 91 [(0, vr v0), (1, vi v1), (2, vi v2), (3, vi v3)] [] st := by
  unfold bX1_cheapest_91 at h
  refine r_iconst (pc := 91) (v := 0) dX1_cheapest_91 (by decide) ?_
  exact sX1_cheapest_92 hk37 _ _ _ _ _ _ h
theorem sX1_cheapest_87 {st0 : Mem} {fin : Int32 × Mem} {kk37 : Rf → Int32 → Int32 → Int32 → Mem → Option (Int32 × Mem)} (hk37 : ∀ (v0 : Rf) (v1 : Int32) (v2 : Int32) (v3 : Int32) (st : Mem), kk37 v0 v1 v2 v3 st = some fin → G (cX1_cheapest, "HouseClaps", "cheapest", 86, (some .int), 6) st0 trI fin 37 [(0, vr v0), (1, vi v1), (2, vi v2), (3, vi v3)] [] st) (v0 : Rf) (v1 : Int32) (v2 : Int32) (v3 : Int32) (st : Mem) (h : bX1_cheapest_87 kk37 v0 v1 v2 v3 st = some fin) : G (cX1_cheapest, "HouseClaps", "cheapest", 86, (some .int), 6) st0 trI fin 87 [(0, vr v0), (1, vi v1), (2, vi v2), (3, vi v3)] [] st := by
  unfold bX1_cheapest_87 at h
  refine r_iconst (pc := 87) (v := 1) dX1_cheapest_87 (by decide) ?_
  refine r_goto (pc := 88) (tgt := 92) dX1_cheapest_88 (by decide) ?_
  exact sX1_cheapest_92 hk37 _ _ _ _ _ _ h
theorem sX1_cheapest_37B {st0 : Mem} {fin : Int32 × Mem} {kk37 : Rf → Int32 → Int32 → Int32 → Mem → Option (Int32 × Mem)} (hk37 : ∀ (v0 : Rf) (v1 : Int32) (v2 : Int32) (v3 : Int32) (st : Mem), kk37 v0 v1 v2 v3 st = some fin → G (cX1_cheapest, "HouseClaps", "cheapest", 86, (some .int), 6) st0 trI fin 37 [(0, vr v0), (1, vi v1), (2, vi v2), (3, vi v3)] [] st) (v0 : Rf) (v1 : Int32) (v2 : Int32) (v3 : Int32) (st : Mem) (h : bX1_cheapest_37B kk37 v0 v1 v2 v3 st = some fin) : G (cX1_cheapest, "HouseClaps", "cheapest", 86, (some .int), 6) st0 trI fin 37 [(0, vr v0), (1, vi v1), (2, vi v2), (3, vi v3)] [] st := by
  unfold bX1_cheapest_37B at h
  refine r_iload_n (pc := 37) dX1_cheapest_37 3 rfl rfl ?_
  refine r_iconst (pc := 38) (v := 1) dX1_cheapest_38 (by decide) ?_
  refine r_iload_n (pc := 39) dX1_cheapest_39 1 rfl rfl ?_
  refine r_ishl (pc := 40) dX1_cheapest_40 ?_
  refine r_icmp_ge (pc := 41) (tgt := 128) dX1_cheapest_41 (by decide) h (fun e41 h => ?_) (fun e41 h => ?_)
  · refine r_iload_n (pc := 128) dX1_cheapest_128 2 rfl rfl ?_
    refine r_iconst (pc := 129) (v := (-1)) dX1_cheapest_129 (by decide) ?_
    refine r_icmp_ne (pc := 130) (tgt := 135) dX1_cheapest_130 (by decide) h (fun e130 h => ?_) (fun e130 h => ?_)
    · refine r_aload_n (pc := 135) dX1_cheapest_135 0 rfl rfl ?_
      refine r_iload_n (pc := 136) dX1_cheapest_136 2 rfl rfl ?_
      refine r_pI (pc := 137) dX1_cheapest_137 q326 fd_12 same_rf rfl h (fun st e137 h => ?_)
      refine r_aload_n (pc := 140) dX1_cheapest_140 0 rfl rfl ?_
      refine r_iload_n (pc := 141) dX1_cheapest_141 2 rfl rfl ?_
      refine r_callI (pc := 142) (rest := []) (lkV dX1_cheapest_142 q1479 xd_X1_priceOf (vc_of vt_X1_priceOf q1481 (fun _ => sX1_priceOf)) adx_X1_priceOf) (by decide) (Nat.le_of_ble_eq_true rfl) rfl h (fun x142 st e142 h => ?_)
      exact r_ireturn (pc := 145) dX1_cheapest_145 rfl rfl h
    · refine r_iconst (pc := 133) (v := (-1)) dX1_cheapest_133 (by decide) ?_
      exact r_ireturn (pc := 134) dX1_cheapest_134 rfl rfl h
  · refine r_aload_n (pc := 44) dX1_cheapest_44 0 rfl rfl ?_
    refine r_iload_n (pc := 45) dX1_cheapest_45 3 rfl rfl ?_
    refine r_callI (pc := 46) (rest := []) (lkV dX1_cheapest_46 q1479 xd_X1_priceOf (vc_of vt_X1_priceOf q1481 (fun _ => sX1_priceOf)) adx_X1_priceOf) (by decide) (Nat.le_of_ble_eq_true rfl) rfl h (fun x46 st e46 h => ?_)
    refine r_istore (pc := 49) (env' := [(4, vi x46), (0, vr v0), (1, vi v1), (2, vi v2), (3, vi v3)]) dX1_cheapest_49 (by decide) rfl ?_
    refine r_iload_n (pc := 51) dX1_cheapest_51 3 rfl rfl ?_
    refine r_iconst (pc := 52) (v := (-1)) dX1_cheapest_52 (by decide) ?_
    refine r_icmp_eq (pc := 53) (tgt := 91) dX1_cheapest_53 (by decide) h (fun e53 h => ?_) (fun e53 h => ?_)
    · exact r_sub (env' := [(0, vr v0), (1, vi v1), (2, vi v2), (3, vi v3)]) [1, 2, 3, 4] rfl (sX1_cheapest_91 hk37 _ _ _ _ _ h)
    · refine r_iload (pc := 56) dX1_cheapest_56 0 rfl ?_
      refine r_aload_n (pc := 58) dX1_cheapest_58 1 rfl rfl ?_
      refine r_iload_n (pc := 59) dX1_cheapest_59 3 rfl rfl ?_
      refine r_callI (pc := 60) (rest := [vi x46]) (lkV dX1_cheapest_60 q1479 xd_X1_priceOf (vc_of vt_X1_priceOf q1481 (fun _ => sX1_priceOf)) adx_X1_priceOf) (by decide) (Nat.le_of_ble_eq_true rfl) rfl h (fun x60 st e60 h => ?_)
      refine r_icmp_gt (pc := 63) (tgt := 87) dX1_cheapest_63 (by decide) h (fun e63 h => ?_) (fun e63 h => ?_)
      · exact r_sub (env' := [(0, vr v0), (1, vi v1), (2, vi v2), (3, vi v3)]) [1, 2, 3, 4] rfl (sX1_cheapest_87 hk37 _ _ _ _ _ h)
      · refine r_iload (pc := 66) dX1_cheapest_66 0 rfl ?_
        refine r_aload_n (pc := 68) dX1_cheapest_68 1 rfl rfl ?_
        refine r_iload_n (pc := 69) dX1_cheapest_69 3 rfl rfl ?_
        refine r_callI (pc := 70) (rest := [vi x46]) (lkV dX1_cheapest_70 q1479 xd_X1_priceOf (vc_of vt_X1_priceOf q1481 (fun _ => sX1_priceOf)) adx_X1_priceOf) (by decide) (Nat.le_of_ble_eq_true rfl) rfl h (fun x70 st e70 h => ?_)
        refine r_icmp_ne (pc := 73) (tgt := 91) dX1_cheapest_73 (by decide) h (fun e73 h => ?_) (fun e73 h => ?_)
        · exact r_sub (env' := [(0, vr v0), (1, vi v1), (2, vi v2), (3, vi v3)]) [1, 2, 3, 4] rfl (sX1_cheapest_91 hk37 _ _ _ _ _ h)
        · refine r_iload_n (pc := 76) dX1_cheapest_76 4 rfl rfl ?_
          refine r_callI (pc := 77) (rest := []) (lkS dX1_cheapest_77 q1485 q1486 q127 (fun _ => sJ19_bitCount) ad_J19_bitCount) (by decide) (Nat.le_of_ble_eq_true rfl) rfl h (fun x77 st e77 h => ?_)
          refine r_iload_n (pc := 80) dX1_cheapest_80 3 rfl rfl ?_
          refine r_callI (pc := 81) (rest := [vi x77]) (lkS dX1_cheapest_81 q1485 q1486 q127 (fun _ => sJ19_bitCount) ad_J19_bitCount) (by decide) (Nat.le_of_ble_eq_true rfl) rfl h (fun x81 st e81 h => ?_)
          refine r_icmp_lt (pc := 84) (tgt := 91) dX1_cheapest_84 (by decide) h (fun e84 h => ?_) (fun e84 h => ?_)
          · exact r_sub (env' := [(0, vr v0), (1, vi v1), (2, vi v2), (3, vi v3)]) [1, 2, 3, 4] rfl (sX1_cheapest_91 hk37 _ _ _ _ _ h)
          · exact r_sub (env' := [(0, vr v0), (1, vi v1), (2, vi v2), (3, vi v3)]) [1, 2, 3, 4] rfl (sX1_cheapest_87 hk37 _ _ _ _ _ h)
theorem sX1_cheapest_37 {st0 : Mem} {fin : Int32 × Mem} (n : Nat) : ∀ (v0 : Rf) (v1 : Int32) (v2 : Int32) (v3 : Int32) (st : Mem), bX1_cheapest_37 n v0 v1 v2 v3 st = some fin → G (cX1_cheapest, "HouseClaps", "cheapest", 86, (some .int), 6) st0 trI fin 37 [(0, vr v0), (1, vi v1), (2, vi v2), (3, vi v3)] [] st := by
  induction n with
  | zero => intro v0 v1 v2 v3 st h; cases h
  | succ n ih => intro v0 v1 v2 v3 st h; exact sX1_cheapest_37B  ih v0 v1 v2 v3 st h
theorem sX1_cheapest {a0 : Rf} {st : Mem} {fin : Int32 × Mem} (h : fX1_cheapest a0 st = some fin) : Con yX1_cheapest 86 [vr a0] st trI fin := by
  refine Con.mk (cc := cX1_cheapest) (n := 6) (own := "HouseClaps") (nm := "cheapest") (ret := (some .int)) (env := [(0, vr a0)]) q1469 rfl rfl rfl (by decide) ⟨Nat.le_of_ble_eq_true rfl, by decide⟩ rfl ?_
  unfold fX1_cheapest at h
  refine r_aload_n (pc := 0) dX1_cheapest_0 0 rfl rfl ?_
  refine r_callI (pc := 1) (rest := []) (lkV dX1_cheapest_1 q415 xd_X1_take (vc_of vt_X1_take q417 (fun _ => sX1_take)) adx_X1_take) (by decide) (Nat.le_of_ble_eq_true rfl) rfl h (fun x1 st e1 h => ?_)
  refine r_istore_n (pc := 4) (env' := [(1, vi x1), (0, vr a0)]) dX1_cheapest_4 rfl (by decide) rfl ?_
  refine r_iload_n (pc := 5) dX1_cheapest_5 0 rfl rfl ?_
  refine r_iconst (pc := 6) (v := 1) dX1_cheapest_6 (by decide) ?_
  refine r_bipush (pc := 7) (v := 8) dX1_cheapest_7 (by decide) ?_
  refine r_callI (pc := 9) (rest := []) (lkS dX1_cheapest_9 q1055 q928 q85 (fun _ => sX1_isIn) ad_X1_isIn) (by decide) (Nat.le_of_ble_eq_true rfl) rfl h (fun x9 st e9 h => ?_)
  refine r_if_eq (pc := 12) (tgt := 30) dX1_cheapest_12 (by decide) h (fun e12 h => ?_) (fun e12 h => ?_)
  · refine r_bipush (pc := 30) (v := (-2)) dX1_cheapest_30 (by decide) ?_
    exact r_ireturn (pc := 32) dX1_cheapest_32 rfl rfl h
  · refine r_aload_n (pc := 15) dX1_cheapest_15 1 rfl rfl ?_
    refine r_iconst (pc := 16) (v := 0) dX1_cheapest_16 (by decide) ?_
    refine r_iload_n (pc := 17) dX1_cheapest_17 0 rfl rfl ?_
    refine r_aload_n (pc := 18) dX1_cheapest_18 1 rfl rfl ?_
    refine r_gA (pc := 19) dX1_cheapest_19 q325 fd_11 same_rf h (fun x19 e19 h => ?_)
    refine r_lconst (pc := 22) (v := 0) dX1_cheapest_22 (by decide) ?_
    refine r_callI (pc := 23) (rest := []) (lkV dX1_cheapest_23 q1470 xd_X1_takesSeats (vc_of vt_X1_takesSeats q1472 (fun _ => sX1_takesSeats)) adx_X1_takesSeats) (by decide) (Nat.le_of_ble_eq_true rfl) rfl h (fun x23 st e23 h => ?_)
    refine r_iconst (pc := 26) (v := (-1)) dX1_cheapest_26 (by decide) ?_
    refine r_icmp_ne (pc := 27) (tgt := 33) dX1_cheapest_27 (by decide) h (fun e27 h => ?_) (fun e27 h => ?_)
    · refine r_iconst (pc := 33) (v := (-1)) dX1_cheapest_33 (by decide) ?_
      refine r_istore_n (pc := 34) (env' := [(2, vi (-1 : Int32)), (1, vi x1), (0, vr a0)]) dX1_cheapest_34 rfl (by decide) rfl ?_
      refine r_iconst (pc := 35) (v := 0) dX1_cheapest_35 (by decide) ?_
      refine r_istore_n (pc := 36) (env' := [(3, vi (0 : Int32)), (2, vi (-1 : Int32)), (1, vi x1), (0, vr a0)]) dX1_cheapest_36 rfl (by decide) rfl ?_
      exact r_sub (env' := [(0, vr a0), (1, vi x1), (2, vi (-1 : Int32)), (3, vi (0 : Int32))]) [3, 2, 1, 0] rfl (sX1_cheapest_37 hcFuel _ _ _ _ _ h)
    · refine r_bipush (pc := 30) (v := (-2)) dX1_cheapest_30 (by decide) ?_
      exact r_ireturn (pc := 32) dX1_cheapest_32 rfl rfl h
theorem sX1_coalitions_123 {st0 : Mem} {fin : Int32 × Mem} {kk77 : Rf → Int32 → Int32 → Int32 → Int32 → Mem → Option (Int32 × Mem)} (hk77 : ∀ (v0 : Rf) (v1 : Int32) (v2 : Int32) (v3 : Int32) (v4 : Int32) (st : Mem), kk77 v0 v1 v2 v3 v4 st = some fin → G (cX1_coalitions, "HouseClaps", "coalitions", 86, (some .int), 5) st0 trI fin 77 [(0, vr v0), (1, vi v1), (2, vi v2), (3, vi v3), (4, vi v4)] [] st) (v0 : Rf) (v1 : Int32) (v2 : Int32) (v3 : Int32) (v4 : Int32) (st : Mem) (h : bX1_coalitions_123 kk77 v0 v1 v2 v3 v4 st = some fin) : G (cX1_coalitions, "HouseClaps", "coalitions", 86, (some .int), 5) st0 trI fin 123 [(0, vr v0), (1, vi v1), (2, vi v2), (3, vi v3), (4, vi v4)] [] st := by
  unfold bX1_coalitions_123 at h
  refine r_iinc (pc := 123) (env' := [(4, vi (v4 + 1)), (0, vr v0), (1, vi v1), (2, vi v2), (3, vi v3)]) (cst := 1) dX1_coalitions_123 4 rfl (by decide) (by decide) rfl ?_
  refine r_goto (pc := 126) (tgt := 77) dX1_coalitions_126 (by decide) ?_
  exact r_sub (env' := [(0, vr v0), (1, vi v1), (2, vi v2), (3, vi v3), (4, vi (v4 + 1))]) [1, 2, 3, 4, 0] rfl (hk77 _ _ _ _ _ _ h)
theorem sX1_coalitions_112 {st0 : Mem} {fin : Int32 × Mem} {kk77 : Rf → Int32 → Int32 → Int32 → Int32 → Mem → Option (Int32 × Mem)} (hk77 : ∀ (v0 : Rf) (v1 : Int32) (v2 : Int32) (v3 : Int32) (v4 : Int32) (st : Mem), kk77 v0 v1 v2 v3 v4 st = some fin → G (cX1_coalitions, "HouseClaps", "coalitions", 86, (some .int), 5) st0 trI fin 77 [(0, vr v0), (1, vi v1), (2, vi v2), (3, vi v3), (4, vi v4)] [] st) (v0 : Rf) (v1 : Int32) (v2 : Int32) (v3 : Int32) (v4 : Int32) (st : Mem) (h : bX1_coalitions_112 kk77 v0 v1 v2 v3 v4 st = some fin) : G (cX1_coalitions, "HouseClaps", "coalitions", 86, (some .int), 5) st0 trI fin 112 [(0, vr v0), (1, vi v1), (2, vi v2), (3, vi v3), (4, vi v4)] [] st := by
  unfold bX1_coalitions_112 at h
  refine r_iload_n (pc := 112) dX1_coalitions_112 3 rfl rfl ?_
  refine r_iload_n (pc := 113) dX1_coalitions_113 1 rfl rfl ?_
  refine r_icmp_ne (pc := 114) (tgt := 120) dX1_coalitions_114 (by decide) h (fun e114 h => ?_) (fun e114 h => ?_)
  · refine r_iinc (pc := 120) (env' := [(3, vi (v3 + 1)), (0, vr v0), (1, vi v1), (2, vi v2), (4, vi v4)]) (cst := 1) dX1_coalitions_120 3 rfl (by decide) (by decide) rfl ?_
    exact r_sub (env' := [(0, vr v0), (1, vi v1), (2, vi v2), (3, vi (v3 + 1)), (4, vi v4)]) [1, 2, 3, 0, 4] rfl (sX1_coalitions_123 hk77 _ _ _ _ _ _ h)
  · refine r_iload (pc := 117) dX1_coalitions_117 4 rfl ?_
    exact r_ireturn (pc := 119) dX1_coalitions_119 rfl rfl h
theorem sX1_coalitions_77B {st0 : Mem} {fin : Int32 × Mem} {kk77 : Rf → Int32 → Int32 → Int32 → Int32 → Mem → Option (Int32 × Mem)} (hk77 : ∀ (v0 : Rf) (v1 : Int32) (v2 : Int32) (v3 : Int32) (v4 : Int32) (st : Mem), kk77 v0 v1 v2 v3 v4 st = some fin → G (cX1_coalitions, "HouseClaps", "coalitions", 86, (some .int), 5) st0 trI fin 77 [(0, vr v0), (1, vi v1), (2, vi v2), (3, vi v3), (4, vi v4)] [] st) (v0 : Rf) (v1 : Int32) (v2 : Int32) (v3 : Int32) (v4 : Int32) (st : Mem) (h : bX1_coalitions_77B kk77 v0 v1 v2 v3 v4 st = some fin) : G (cX1_coalitions, "HouseClaps", "coalitions", 86, (some .int), 5) st0 trI fin 77 [(0, vr v0), (1, vi v1), (2, vi v2), (3, vi v3), (4, vi v4)] [] st := by
  unfold bX1_coalitions_77B at h
  refine r_iload (pc := 77) dX1_coalitions_77 4 rfl ?_
  refine r_iconst (pc := 79) (v := 1) dX1_coalitions_79 (by decide) ?_
  refine r_iload_n (pc := 80) dX1_coalitions_80 2 rfl rfl ?_
  refine r_ishl (pc := 81) dX1_coalitions_81 ?_
  refine r_icmp_ge (pc := 82) (tgt := 129) dX1_coalitions_82 (by decide) h (fun e82 h => ?_) (fun e82 h => ?_)
  · refine r_iload_n (pc := 129) dX1_coalitions_129 1 rfl rfl ?_
    refine r_iconst (pc := 130) (v := (-1)) dX1_coalitions_130 (by decide) ?_
    refine r_icmp_ne (pc := 131) (tgt := 138) dX1_coalitions_131 (by decide) h (fun e131 h => ?_) (fun e131 h => ?_)
    · refine r_iconst (pc := 138) (v := (-1)) dX1_coalitions_138 (by decide) ?_
      exact r_ireturn (pc := 139) dX1_coalitions_139 rfl rfl h
    · refine r_iload_n (pc := 134) dX1_coalitions_134 3 rfl rfl ?_
      refine r_goto (pc := 135) (tgt := 139) dX1_coalitions_135 (by decide) ?_
      exact r_ireturn (pc := 139) dX1_coalitions_139 rfl rfl h
  · refine r_aload_n (pc := 85) dX1_coalitions_85 0 rfl rfl ?_
    refine r_gA (pc := 86) dX1_coalitions_86 q327 fd_13 same_rf h (fun x86 e86 h => ?_)
    refine r_iload (pc := 89) dX1_coalitions_89 4 rfl ?_
    refine r_baload (pc := 91) dX1_coalitions_91 h (fun x91 e91 h => ?_)
    refine r_if_eq (pc := 92) (tgt := 123) dX1_coalitions_92 (by decide) h (fun e92 h => ?_) (fun e92 h => ?_)
    · exact sX1_coalitions_123 hk77 _ _ _ _ _ _ h
    · refine r_iload (pc := 95) dX1_coalitions_95 4 rfl ?_
      refine r_if_le (pc := 97) (tgt := 112) dX1_coalitions_97 (by decide) h (fun e97 h => ?_) (fun e97 h => ?_)
      · exact sX1_coalitions_112 hk77 _ _ _ _ _ _ h
      · refine r_aload_n (pc := 100) dX1_coalitions_100 0 rfl rfl ?_
        refine r_iload (pc := 101) dX1_coalitions_101 4 rfl ?_
        refine r_callI (pc := 103) (rest := []) (lkV dX1_coalitions_103 q1511 xd_X1_isBare (vc_of vt_X1_isBare q1513 (fun _ => sX1_isBare)) adx_X1_isBare) (by decide) (Nat.le_of_ble_eq_true rfl) rfl h (fun x103 st e103 h => ?_)
        refine r_if_ne (pc := 106) (tgt := 112) dX1_coalitions_106 (by decide) h (fun e106 h => ?_) (fun e106 h => ?_)
        · exact sX1_coalitions_112 hk77 _ _ _ _ _ _ h
        · refine r_goto (pc := 109) (tgt := 123) dX1_coalitions_109 (by decide) ?_
          exact sX1_coalitions_123 hk77 _ _ _ _ _ _ h
theorem sX1_coalitions_77 {st0 : Mem} {fin : Int32 × Mem} (n : Nat) : ∀ (v0 : Rf) (v1 : Int32) (v2 : Int32) (v3 : Int32) (v4 : Int32) (st : Mem), bX1_coalitions_77 n v0 v1 v2 v3 v4 st = some fin → G (cX1_coalitions, "HouseClaps", "coalitions", 86, (some .int), 5) st0 trI fin 77 [(0, vr v0), (1, vi v1), (2, vi v2), (3, vi v3), (4, vi v4)] [] st := by
  induction n with
  | zero => intro v0 v1 v2 v3 v4 st h; cases h
  | succ n ih => intro v0 v1 v2 v3 v4 st h; exact sX1_coalitions_77B  ih v0 v1 v2 v3 v4 st h
theorem sX1_coalitions_35B {st0 : Mem} {fin : Int32 × Mem} {kk35 : Rf → Int32 → Int32 → Int32 → Mem → Option (Int32 × Mem)} (hk35 : ∀ (v0 : Rf) (v1 : Int32) (v2 : Int32) (v3 : Int32) (st : Mem), kk35 v0 v1 v2 v3 st = some fin → G (cX1_coalitions, "HouseClaps", "coalitions", 86, (some .int), 5) st0 trI fin 35 [(0, vr v0), (1, vi v1), (2, vi v2), (3, vi v3)] [] st) (v0 : Rf) (v1 : Int32) (v2 : Int32) (v3 : Int32) (st : Mem) (h : bX1_coalitions_35B kk35 v0 v1 v2 v3 st = some fin) : G (cX1_coalitions, "HouseClaps", "coalitions", 86, (some .int), 5) st0 trI fin 35 [(0, vr v0), (1, vi v1), (2, vi v2), (3, vi v3)] [] st := by
  unfold bX1_coalitions_35B at h
  refine r_iload_n (pc := 35) dX1_coalitions_35 3 rfl rfl ?_
  refine r_iconst (pc := 36) (v := 1) dX1_coalitions_36 (by decide) ?_
  refine r_iload_n (pc := 37) dX1_coalitions_37 2 rfl rfl ?_
  refine r_ishl (pc := 38) dX1_coalitions_38 ?_
  refine r_icmp_ge (pc := 39) (tgt := 72) dX1_coalitions_39 (by decide) h (fun e39 h => ?_) (fun e39 h => ?_)
  · refine r_iconst (pc := 72) (v := 0) dX1_coalitions_72 (by decide) ?_
    refine r_istore_n (pc := 73) (env' := [(3, vi (0 : Int32)), (0, vr v0), (1, vi v1), (2, vi v2)]) dX1_coalitions_73 rfl (by decide) rfl ?_
    refine r_iconst (pc := 74) (v := 0) dX1_coalitions_74 (by decide) ?_
    refine r_istore (pc := 75) (env' := [(4, vi (0 : Int32)), (3, vi (0 : Int32)), (0, vr v0), (1, vi v1), (2, vi v2)]) dX1_coalitions_75 (by decide) rfl ?_
    exact r_sub (env' := [(0, vr v0), (1, vi v1), (2, vi v2), (3, vi (0 : Int32)), (4, vi (0 : Int32))]) [2, 3, 4, 1, 0] rfl (sX1_coalitions_77 hcFuel _ _ _ _ _ _ h)
  · refine r_aload_n (pc := 42) dX1_coalitions_42 0 rfl rfl ?_
    refine r_gA (pc := 43) dX1_coalitions_43 q327 fd_13 same_rf h (fun x43 e43 h => ?_)
    refine r_iload_n (pc := 46) dX1_coalitions_46 3 rfl rfl ?_
    refine r_aload_n (pc := 47) dX1_coalitions_47 0 rfl rfl ?_
    refine r_aload_n (pc := 48) dX1_coalitions_48 0 rfl rfl ?_
    refine r_gA (pc := 49) dX1_coalitions_49 q318 fd_4 same_rf h (fun x49 e49 h => ?_)
    refine r_aload_n (pc := 52) dX1_coalitions_52 0 rfl rfl ?_
    refine r_gJ (pc := 53) dX1_coalitions_53 q319 fd_5 same_rf h (fun x53 e53 h => ?_)
    refine r_aload_n (pc := 56) dX1_coalitions_56 0 rfl rfl ?_
    refine r_iload_n (pc := 57) dX1_coalitions_57 3 rfl rfl ?_
    refine r_callJ (pc := 58) (rest := [vj x53, vr x49, vr v0, vi v3, vr x43]) (lkV dX1_coalitions_58 q1491 xd_X1_handsOf (vc_of vt_X1_handsOf q1493 (fun _ => sX1_handsOf)) adx_X1_handsOf) (by decide) (Nat.le_of_ble_eq_true rfl) rfl h (fun x58 st e58 h => ?_)
    refine r_lor (pc := 61) dX1_coalitions_61 ?_
    refine r_callI (pc := 62) (rest := [vi v3, vr x43]) (lkV dX1_coalitions_62 q1495 xd_X1_isCarried (vc_of vt_X1_isCarried q1497 (fun _ => sX1_isCarried)) adx_X1_isCarried) (by decide) (Nat.le_of_ble_eq_true rfl) rfl h (fun x62 st e62 h => ?_)
    refine r_bastore (pc := 65) dX1_coalitions_65 h (fun st e65 h => ?_)
    refine r_iinc (pc := 66) (env' := [(3, vi (v3 + 1)), (0, vr v0), (1, vi v1), (2, vi v2)]) (cst := 1) dX1_coalitions_66 3 rfl (by decide) (by decide) rfl ?_
    refine r_goto (pc := 69) (tgt := 35) dX1_coalitions_69 (by decide) ?_
    exact r_sub (env' := [(0, vr v0), (1, vi v1), (2, vi v2), (3, vi (v3 + 1))]) [1, 2, 3, 0] rfl (hk35 _ _ _ _ _ h)
theorem sX1_coalitions_35 {st0 : Mem} {fin : Int32 × Mem} (n : Nat) : ∀ (v0 : Rf) (v1 : Int32) (v2 : Int32) (v3 : Int32) (st : Mem), bX1_coalitions_35 n v0 v1 v2 v3 st = some fin → G (cX1_coalitions, "HouseClaps", "coalitions", 86, (some .int), 5) st0 trI fin 35 [(0, vr v0), (1, vi v1), (2, vi v2), (3, vi v3)] [] st := by
  induction n with
  | zero => intro v0 v1 v2 v3 st h; cases h
  | succ n ih => intro v0 v1 v2 v3 st h; exact sX1_coalitions_35B  ih v0 v1 v2 v3 st h
theorem sX1_coalitions {a0 : Rf} {a1 : Int32} {st : Mem} {fin : Int32 × Mem} (h : fX1_coalitions a0 a1 st = some fin) : Con yX1_coalitions 86 [vr a0, vi a1] st trI fin := by
  refine Con.mk (cc := cX1_coalitions) (n := 5) (own := "HouseClaps") (nm := "coalitions") (ret := (some .int)) (env := [(0, vr a0), (1, vi a1)]) q1510 rfl rfl rfl (by decide) ⟨Nat.le_of_ble_eq_true rfl, by decide⟩ rfl ?_
  unfold fX1_coalitions at h
  refine r_aload_n (pc := 0) dX1_coalitions_0 0 rfl rfl ?_
  refine r_callI (pc := 1) (rest := []) (lkV dX1_coalitions_1 q415 xd_X1_take (vc_of vt_X1_take q417 (fun _ => sX1_take)) adx_X1_take) (by decide) (Nat.le_of_ble_eq_true rfl) rfl h (fun x1 st e1 h => ?_)
  refine r_istore_n (pc := 4) (env' := [(2, vi x1), (0, vr a0), (1, vi a1)]) dX1_coalitions_4 rfl (by decide) rfl ?_
  refine r_iload_n (pc := 5) dX1_coalitions_5 0 rfl rfl ?_
  refine r_iconst (pc := 6) (v := 1) dX1_coalitions_6 (by decide) ?_
  refine r_bipush (pc := 7) (v := 8) dX1_coalitions_7 (by decide) ?_
  refine r_callI (pc := 9) (rest := []) (lkS dX1_coalitions_9 q1055 q928 q85 (fun _ => sX1_isIn) ad_X1_isIn) (by decide) (Nat.le_of_ble_eq_true rfl) rfl h (fun x9 st e9 h => ?_)
  refine r_if_eq (pc := 12) (tgt := 30) dX1_coalitions_12 (by decide) h (fun e12 h => ?_) (fun e12 h => ?_)
  · refine r_bipush (pc := 30) (v := (-2)) dX1_coalitions_30 (by decide) ?_
    exact r_ireturn (pc := 32) dX1_coalitions_32 rfl rfl h
  · refine r_aload_n (pc := 15) dX1_coalitions_15 1 rfl rfl ?_
    refine r_iconst (pc := 16) (v := 0) dX1_coalitions_16 (by decide) ?_
    refine r_iload_n (pc := 17) dX1_coalitions_17 0 rfl rfl ?_
    refine r_aload_n (pc := 18) dX1_coalitions_18 1 rfl rfl ?_
    refine r_gA (pc := 19) dX1_coalitions_19 q325 fd_11 same_rf h (fun x19 e19 h => ?_)
    refine r_lconst (pc := 22) (v := 0) dX1_coalitions_22 (by decide) ?_
    refine r_callI (pc := 23) (rest := []) (lkV dX1_coalitions_23 q1470 xd_X1_takesSeats (vc_of vt_X1_takesSeats q1472 (fun _ => sX1_takesSeats)) adx_X1_takesSeats) (by decide) (Nat.le_of_ble_eq_true rfl) rfl h (fun x23 st e23 h => ?_)
    refine r_iconst (pc := 26) (v := (-1)) dX1_coalitions_26 (by decide) ?_
    refine r_icmp_ne (pc := 27) (tgt := 33) dX1_coalitions_27 (by decide) h (fun e27 h => ?_) (fun e27 h => ?_)
    · refine r_iconst (pc := 33) (v := 0) dX1_coalitions_33 (by decide) ?_
      refine r_istore_n (pc := 34) (env' := [(3, vi (0 : Int32)), (2, vi x1), (0, vr a0), (1, vi a1)]) dX1_coalitions_34 rfl (by decide) rfl ?_
      exact r_sub (env' := [(0, vr a0), (1, vi a1), (2, vi x1), (3, vi (0 : Int32))]) [2, 3, 1, 0] rfl (sX1_coalitions_35 hcFuel _ _ _ _ _ h)
    · refine r_bipush (pc := 30) (v := (-2)) dX1_coalitions_30 (by decide) ?_
      exact r_ireturn (pc := 32) dX1_coalitions_32 rfl rfl h
theorem sX1_exchanged_144 {st0 : Mem} {fin : Int32 × Mem} {kk41 : Rf → Rf → Int32 → Mem → Option (Int32 × Mem)} {kk56 : Rf → Rf → Int32 → Int32 → Mem → Option (Int32 × Mem)} (hk41 : ∀ (v0 : Rf) (v1 : Rf) (v2 : Int32) (st : Mem), kk41 v0 v1 v2 st = some fin → G (cX1_exchanged, "HouseClaps", "exchanged", 86, (some .int), 4) st0 trI fin 41 [(0, vr v0), (1, vr v1), (2, vi v2)] [] st) (hk56 : ∀ (v0 : Rf) (v1 : Rf) (v2 : Int32) (v3 : Int32) (st : Mem), kk56 v0 v1 v2 v3 st = some fin → G (cX1_exchanged, "HouseClaps", "exchanged", 86, (some .int), 4) st0 trI fin 56 [(0, vr v0), (1, vr v1), (2, vi v2), (3, vi v3)] [] st) (v0 : Rf) (v1 : Rf) (v2 : Int32) (v3 : Int32) (st : Mem) (h : bX1_exchanged_144 kk41 kk56 v0 v1 v2 v3 st = some fin) : G (cX1_exchanged, "HouseClaps", "exchanged", 86, (some .int), 4) st0 trI fin 144 [(0, vr v0), (1, vr v1), (2, vi v2), (3, vi v3)] [] st := by
  unfold bX1_exchanged_144 at h
  refine r_iinc (pc := 144) (env' := [(3, vi (v3 + 1)), (0, vr v0), (1, vr v1), (2, vi v2)]) (cst := 1) dX1_exchanged_144 3 rfl (by decide) (by decide) rfl ?_
  refine r_goto (pc := 147) (tgt := 56) dX1_exchanged_147 (by decide) ?_
  exact r_sub (env' := [(0, vr v0), (1, vr v1), (2, vi v2), (3, vi (v3 + 1))]) [1, 2, 3, 0] rfl (hk56 _ _ _ _ _ h)
theorem sX1_exchanged_56B {st0 : Mem} {fin : Int32 × Mem} {kk41 : Rf → Rf → Int32 → Mem → Option (Int32 × Mem)} {kk56 : Rf → Rf → Int32 → Int32 → Mem → Option (Int32 × Mem)} (hk41 : ∀ (v0 : Rf) (v1 : Rf) (v2 : Int32) (st : Mem), kk41 v0 v1 v2 st = some fin → G (cX1_exchanged, "HouseClaps", "exchanged", 86, (some .int), 4) st0 trI fin 41 [(0, vr v0), (1, vr v1), (2, vi v2)] [] st) (hk56 : ∀ (v0 : Rf) (v1 : Rf) (v2 : Int32) (v3 : Int32) (st : Mem), kk56 v0 v1 v2 v3 st = some fin → G (cX1_exchanged, "HouseClaps", "exchanged", 86, (some .int), 4) st0 trI fin 56 [(0, vr v0), (1, vr v1), (2, vi v2), (3, vi v3)] [] st) (v0 : Rf) (v1 : Rf) (v2 : Int32) (v3 : Int32) (st : Mem) (h : bX1_exchanged_56B kk41 kk56 v0 v1 v2 v3 st = some fin) : G (cX1_exchanged, "HouseClaps", "exchanged", 86, (some .int), 4) st0 trI fin 56 [(0, vr v0), (1, vr v1), (2, vi v2), (3, vi v3)] [] st := by
  unfold bX1_exchanged_56B at h
  refine r_iload_n (pc := 56) dX1_exchanged_56 3 rfl rfl ?_
  refine r_aload_n (pc := 57) dX1_exchanged_57 0 rfl rfl ?_
  refine r_gA (pc := 58) dX1_exchanged_58 q318 fd_4 same_rf h (fun x58 e58 h => ?_)
  refine r_callI (pc := 61) (rest := [vi v3]) (lkV dX1_exchanged_61 q1535 xd_X2_size (vc_of vt_X2_size q1039 (fun _ => sX2_size)) adx_X2_size) (by decide) (Nat.le_of_ble_eq_true rfl) rfl h (fun x61 st e61 h => ?_)
  refine r_icmp_ge (pc := 64) (tgt := 150) dX1_exchanged_64 (by decide) h (fun e64 h => ?_) (fun e64 h => ?_)
  · refine r_iinc (pc := 150) (env' := [(2, vi (v2 + 1)), (0, vr v0), (1, vr v1), (3, vi v3)]) (cst := 1) dX1_exchanged_150 2 rfl (by decide) (by decide) rfl ?_
    refine r_goto (pc := 153) (tgt := 41) dX1_exchanged_153 (by decide) ?_
    exact r_sub (env' := [(0, vr v0), (1, vr v1), (2, vi (v2 + 1))]) [1, 2, 0] rfl (hk41 _ _ _ _ h)
  · refine r_aload_n (pc := 67) dX1_exchanged_67 0 rfl rfl ?_
    refine r_gA (pc := 68) dX1_exchanged_68 q318 fd_4 same_rf h (fun x68 e68 h => ?_)
    refine r_iload_n (pc := 71) dX1_exchanged_71 2 rfl rfl ?_
    refine r_callI (pc := 72) (rest := []) (lkV dX1_exchanged_72 q1060 xd_X2_isSeat (vc_of vt_X2_isSeat q1061 (fun _ => sX2_isSeat)) adx_X2_isSeat) (by decide) (Nat.le_of_ble_eq_true rfl) rfl h (fun x72 st e72 h => ?_)
    refine r_if_eq (pc := 75) (tgt := 144) dX1_exchanged_75 (by decide) h (fun e75 h => ?_) (fun e75 h => ?_)
    · exact sX1_exchanged_144 hk41 hk56 _ _ _ _ _ h
    · refine r_aload_n (pc := 78) dX1_exchanged_78 0 rfl rfl ?_
      refine r_gA (pc := 79) dX1_exchanged_79 q318 fd_4 same_rf h (fun x79 e79 h => ?_)
      refine r_iload_n (pc := 82) dX1_exchanged_82 3 rfl rfl ?_
      refine r_callI (pc := 83) (rest := []) (lkV dX1_exchanged_83 q1060 xd_X2_isSeat (vc_of vt_X2_isSeat q1061 (fun _ => sX2_isSeat)) adx_X2_isSeat) (by decide) (Nat.le_of_ble_eq_true rfl) rfl h (fun x83 st e83 h => ?_)
      refine r_if_eq (pc := 86) (tgt := 144) dX1_exchanged_86 (by decide) h (fun e86 h => ?_) (fun e86 h => ?_)
      · exact sX1_exchanged_144 hk41 hk56 _ _ _ _ _ h
      · refine r_aload_n (pc := 89) dX1_exchanged_89 0 rfl rfl ?_
        refine r_gA (pc := 90) dX1_exchanged_90 q318 fd_4 same_rf h (fun x90 e90 h => ?_)
        refine r_gAN (pc := 93) dX1_exchanged_93 q176 fd_34 same_rf h (fun x93 e93 h => ?_)
        refine r_iload_n (pc := 96) dX1_exchanged_96 2 rfl rfl ?_
        refine r_iaload (pc := 97) dX1_exchanged_97 h (fun x97 e97 h => ?_)
        refine r_aload_n (pc := 98) dX1_exchanged_98 0 rfl rfl ?_
        refine r_gA (pc := 99) dX1_exchanged_99 q318 fd_4 same_rf h (fun x99 e99 h => ?_)
        refine r_gAN (pc := 102) dX1_exchanged_102 q176 fd_34 same_rf h (fun x102 e102 h => ?_)
        refine r_iload_n (pc := 105) dX1_exchanged_105 3 rfl rfl ?_
        refine r_iaload (pc := 106) dX1_exchanged_106 h (fun x106 e106 h => ?_)
        refine r_icmp_ne (pc := 107) (tgt := 113) dX1_exchanged_107 (by decide) h (fun e107 h => ?_) (fun e107 h => ?_)
        · refine r_aload_n (pc := 113) dX1_exchanged_113 1 rfl rfl ?_
          refine r_iload_n (pc := 114) dX1_exchanged_114 2 rfl rfl ?_
          refine r_iload_n (pc := 115) dX1_exchanged_115 3 rfl rfl ?_
          refine r_callV (pc := 116) (rest := []) (lkV dX1_exchanged_116 q1564 xd_X2_swap (vc_of vt_X2_swap q1561 (fun _ => sX2_swap)) adx_X2_swap) (by decide) (Nat.le_of_ble_eq_true rfl) rfl h (fun u116 st e116 h => ?_)
          refine r_aload_n (pc := 119) dX1_exchanged_119 0 rfl rfl ?_
          refine r_aload_n (pc := 120) dX1_exchanged_120 1 rfl rfl ?_
          refine r_aload_n (pc := 121) dX1_exchanged_121 0 rfl rfl ?_
          refine r_gJ (pc := 122) dX1_exchanged_122 q319 fd_5 same_rf h (fun x122 e122 h => ?_)
          refine r_callI (pc := 125) (rest := []) (lkV dX1_exchanged_125 q1495 xd_X1_isCarried (vc_of vt_X1_isCarried q1497 (fun _ => sX1_isCarried)) adx_X1_isCarried) (by decide) (Nat.le_of_ble_eq_true rfl) rfl h (fun x125 st e125 h => ?_)
          refine r_if_eq (pc := 128) (tgt := 138) dX1_exchanged_128 (by decide) h (fun e128 h => ?_) (fun e128 h => ?_)
          · refine r_aload_n (pc := 138) dX1_exchanged_138 1 rfl rfl ?_
            refine r_iload_n (pc := 139) dX1_exchanged_139 2 rfl rfl ?_
            refine r_iload_n (pc := 140) dX1_exchanged_140 3 rfl rfl ?_
            refine r_callV (pc := 141) (rest := []) (lkV dX1_exchanged_141 q1564 xd_X2_swap (vc_of vt_X2_swap q1561 (fun _ => sX2_swap)) adx_X2_swap) (by decide) (Nat.le_of_ble_eq_true rfl) rfl h (fun u141 st e141 h => ?_)
            exact sX1_exchanged_144 hk41 hk56 _ _ _ _ _ h
          · refine r_bipush (pc := 131) (v := 100) dX1_exchanged_131 (by decide) ?_
            refine r_iload_n (pc := 133) dX1_exchanged_133 2 rfl rfl ?_
            refine r_imul (pc := 134) dX1_exchanged_134 ?_
            refine r_iload_n (pc := 135) dX1_exchanged_135 3 rfl rfl ?_
            refine r_iadd (pc := 136) dX1_exchanged_136 ?_
            exact r_ireturn (pc := 137) dX1_exchanged_137 rfl rfl h
        · refine r_goto (pc := 110) (tgt := 144) dX1_exchanged_110 (by decide) ?_
          exact sX1_exchanged_144 hk41 hk56 _ _ _ _ _ h
theorem sX1_exchanged_56 {st0 : Mem} {fin : Int32 × Mem} {kk41 : Rf → Rf → Int32 → Mem → Option (Int32 × Mem)} (hk41 : ∀ (v0 : Rf) (v1 : Rf) (v2 : Int32) (st : Mem), kk41 v0 v1 v2 st = some fin → G (cX1_exchanged, "HouseClaps", "exchanged", 86, (some .int), 4) st0 trI fin 41 [(0, vr v0), (1, vr v1), (2, vi v2)] [] st) (n : Nat) : ∀ (v0 : Rf) (v1 : Rf) (v2 : Int32) (v3 : Int32) (st : Mem), bX1_exchanged_56 kk41 n v0 v1 v2 v3 st = some fin → G (cX1_exchanged, "HouseClaps", "exchanged", 86, (some .int), 4) st0 trI fin 56 [(0, vr v0), (1, vr v1), (2, vi v2), (3, vi v3)] [] st := by
  induction n with
  | zero => intro v0 v1 v2 v3 st h; cases h
  | succ n ih => intro v0 v1 v2 v3 st h; exact sX1_exchanged_56B hk41  ih v0 v1 v2 v3 st h
theorem sX1_exchanged_41B {st0 : Mem} {fin : Int32 × Mem} {kk41 : Rf → Rf → Int32 → Mem → Option (Int32 × Mem)} (hk41 : ∀ (v0 : Rf) (v1 : Rf) (v2 : Int32) (st : Mem), kk41 v0 v1 v2 st = some fin → G (cX1_exchanged, "HouseClaps", "exchanged", 86, (some .int), 4) st0 trI fin 41 [(0, vr v0), (1, vr v1), (2, vi v2)] [] st) (v0 : Rf) (v1 : Rf) (v2 : Int32) (st : Mem) (h : bX1_exchanged_41B kk41 v0 v1 v2 st = some fin) : G (cX1_exchanged, "HouseClaps", "exchanged", 86, (some .int), 4) st0 trI fin 41 [(0, vr v0), (1, vr v1), (2, vi v2)] [] st := by
  unfold bX1_exchanged_41B at h
  refine r_iload_n (pc := 41) dX1_exchanged_41 2 rfl rfl ?_
  refine r_aload_n (pc := 42) dX1_exchanged_42 0 rfl rfl ?_
  refine r_gA (pc := 43) dX1_exchanged_43 q318 fd_4 same_rf h (fun x43 e43 h => ?_)
  refine r_callI (pc := 46) (rest := [vi v2]) (lkV dX1_exchanged_46 q1535 xd_X2_size (vc_of vt_X2_size q1039 (fun _ => sX2_size)) adx_X2_size) (by decide) (Nat.le_of_ble_eq_true rfl) rfl h (fun x46 st e46 h => ?_)
  refine r_icmp_ge (pc := 49) (tgt := 156) dX1_exchanged_49 (by decide) h (fun e49 h => ?_) (fun e49 h => ?_)
  · refine r_iconst (pc := 156) (v := (-1)) dX1_exchanged_156 (by decide) ?_
    exact r_ireturn (pc := 157) dX1_exchanged_157 rfl rfl h
  · refine r_iload_n (pc := 52) dX1_exchanged_52 2 rfl rfl ?_
    refine r_iconst (pc := 53) (v := 1) dX1_exchanged_53 (by decide) ?_
    refine r_iadd (pc := 54) dX1_exchanged_54 ?_
    refine r_istore_n (pc := 55) (env' := [(3, vi (v2 + (1 : Int32))), (0, vr v0), (1, vr v1), (2, vi v2)]) dX1_exchanged_55 rfl (by decide) rfl ?_
    exact r_sub (env' := [(0, vr v0), (1, vr v1), (2, vi v2), (3, vi (v2 + (1 : Int32)))]) [1, 2, 3, 0] rfl (sX1_exchanged_56 hk41 hcFuel _ _ _ _ _ h)
theorem sX1_exchanged_41 {st0 : Mem} {fin : Int32 × Mem} (n : Nat) : ∀ (v0 : Rf) (v1 : Rf) (v2 : Int32) (st : Mem), bX1_exchanged_41 n v0 v1 v2 st = some fin → G (cX1_exchanged, "HouseClaps", "exchanged", 86, (some .int), 4) st0 trI fin 41 [(0, vr v0), (1, vr v1), (2, vi v2)] [] st := by
  induction n with
  | zero => intro v0 v1 v2 st h; cases h
  | succ n ih => intro v0 v1 v2 st h; exact sX1_exchanged_41B  ih v0 v1 v2 st h
theorem sX1_exchanged {a0 : Rf} {st : Mem} {fin : Int32 × Mem} (h : fX1_exchanged a0 st = some fin) : Con yX1_exchanged 86 [vr a0] st trI fin := by
  refine Con.mk (cc := cX1_exchanged) (n := 4) (own := "HouseClaps") (nm := "exchanged") (ret := (some .int)) (env := [(0, vr a0)]) q1552 rfl rfl rfl (by decide) ⟨Nat.le_of_ble_eq_true rfl, by decide⟩ rfl ?_
  unfold fX1_exchanged at h
  refine r_aload_n (pc := 0) dX1_exchanged_0 0 rfl rfl ?_
  refine r_gA (pc := 1) dX1_exchanged_1 q318 fd_4 same_rf h (fun x1 e1 h => ?_)
  refine r_callI (pc := 4) (rest := []) (lkV dX1_exchanged_4 q1536 xd_X2_seats (vc_of vt_X2_seats q1386 (fun _ => sX2_seats)) adx_X2_seats) (by decide) (Nat.le_of_ble_eq_true rfl) rfl h (fun x4 st e4 h => ?_)
  refine r_bipush (pc := 7) (v := 24) dX1_exchanged_7 (by decide) ?_
  refine r_icmp_gt (pc := 9) (tgt := 27) dX1_exchanged_9 (by decide) h (fun e9 h => ?_) (fun e9 h => ?_)
  · refine r_iconst (pc := 27) (v := (-1)) dX1_exchanged_27 (by decide) ?_
    exact r_ireturn (pc := 28) dX1_exchanged_28 rfl rfl h
  · refine r_aload_n (pc := 12) dX1_exchanged_12 0 rfl rfl ?_
    refine r_aload_n (pc := 13) dX1_exchanged_13 0 rfl rfl ?_
    refine r_gA (pc := 14) dX1_exchanged_14 q318 fd_4 same_rf h (fun x14 e14 h => ?_)
    refine r_aload_n (pc := 17) dX1_exchanged_17 0 rfl rfl ?_
    refine r_gJ (pc := 18) dX1_exchanged_18 q319 fd_5 same_rf h (fun x18 e18 h => ?_)
    refine r_callI (pc := 21) (rest := []) (lkV dX1_exchanged_21 q1495 xd_X1_isCarried (vc_of vt_X1_isCarried q1497 (fun _ => sX1_isCarried)) adx_X1_isCarried) (by decide) (Nat.le_of_ble_eq_true rfl) rfl h (fun x21 st e21 h => ?_)
    refine r_if_eq (pc := 24) (tgt := 29) dX1_exchanged_24 (by decide) h (fun e24 h => ?_) (fun e24 h => ?_)
    · refine r_aload_n (pc := 29) dX1_exchanged_29 0 rfl rfl ?_
      refine r_gA (pc := 30) dX1_exchanged_30 q318 fd_4 same_rf h (fun x30 e30 h => ?_)
      refine r_iconst (pc := 33) (v := 0) dX1_exchanged_33 (by decide) ?_
      refine r_iconst (pc := 34) (v := 0) dX1_exchanged_34 (by decide) ?_
      refine r_callA (pc := 35) (rest := []) (lkV dX1_exchanged_35 q1553 xd_X2_exchanged (vc_of vt_X2_exchanged q1554 (fun _ => sX2_exchanged)) adx_X2_exchanged) (by decide) (Nat.le_of_ble_eq_true rfl) rfl h (fun x35 st e35 h => ?_)
      refine r_astore_n (pc := 38) (env' := [(1, vr x35), (0, vr a0)]) dX1_exchanged_38 rfl (by decide) rfl ?_
      refine r_iconst (pc := 39) (v := 0) dX1_exchanged_39 (by decide) ?_
      refine r_istore_n (pc := 40) (env' := [(2, vi (0 : Int32)), (1, vr x35), (0, vr a0)]) dX1_exchanged_40 rfl (by decide) rfl ?_
      exact r_sub (env' := [(0, vr a0), (1, vr x35), (2, vi (0 : Int32))]) [2, 1, 0] rfl (sX1_exchanged_41 hcFuel _ _ _ _ h)
    · refine r_iconst (pc := 27) (v := (-1)) dX1_exchanged_27 (by decide) ?_
      exact r_ireturn (pc := 28) dX1_exchanged_28 rfl rfl h
theorem sX1_leader_120 {st0 : Mem} {fin : Int32 × Mem} {kk28 : Rf → Int32 → Int32 → Int32 → Int32 → Mem → Option (Int32 × Mem)} (hk28 : ∀ (v0 : Rf) (v1 : Int32) (v2 : Int32) (v3 : Int32) (v4 : Int32) (st : Mem), kk28 v0 v1 v2 v3 v4 st = some fin → G (cX1_leader, "HouseClaps", "leader", 86, (some .int), 6) st0 trI fin 28 [(0, vr v0), (1, vi v1), (2, vi v2), (3, vi v3), (4, vi v4)] [] st) (v0 : Rf) (v1 : Int32) (v2 : Int32) (v3 : Int32) (v4 : Int32) (st : Mem) (h : bX1_leader_120 kk28 v0 v1 v2 v3 v4 st = some fin) : G (cX1_leader, "HouseClaps", "leader", 86, (some .int), 6) st0 trI fin 120 [(0, vr v0), (1, vi v1), (2, vi v2), (3, vi v3), (4, vi v4)] [] st := by
  unfold bX1_leader_120 at h
  refine r_iinc (pc := 120) (env' := [(4, vi (v4 + 1)), (0, vr v0), (1, vi v1), (2, vi v2), (3, vi v3)]) (cst := 1) dX1_leader_120 4 rfl (by decide) (by decide) rfl ?_
  refine r_goto (pc := 123) (tgt := 28) dX1_leader_123 (by decide) ?_
  exact r_sub (env' := [(0, vr v0), (1, vi v1), (2, vi v2), (3, vi v3), (4, vi (v4 + 1))]) [1, 2, 3, 4, 0] rfl (hk28 _ _ _ _ _ _ h)
theorem sX1_leader_114 {st0 : Mem} {fin : Int32 × Mem} {kk28 : Rf → Int32 → Int32 → Int32 → Int32 → Mem → Option (Int32 × Mem)} (hk28 : ∀ (v0 : Rf) (v1 : Int32) (v2 : Int32) (v3 : Int32) (v4 : Int32) (st : Mem), kk28 v0 v1 v2 v3 v4 st = some fin → G (cX1_leader, "HouseClaps", "leader", 86, (some .int), 6) st0 trI fin 28 [(0, vr v0), (1, vi v1), (2, vi v2), (3, vi v3), (4, vi v4)] [] st) (v0 : Rf) (v1 : Int32) (v4 : Int32) (v5 : Int32) (st : Mem) (h : bX1_leader_114 kk28 v0 v1 v4 v5 st = some fin) : G (cX1_leader, "HouseClaps", "leader", 86, (some .int), 6) st0 trI fin 114 [(0, vr v0), (1, vi v1), (4, vi v4), (5, vi v5)] [] st := by
  unfold bX1_leader_114 at h
  refine r_iload (pc := 114) dX1_leader_114 2 rfl ?_
  refine r_istore_n (pc := 116) (env' := [(2, vi v4), (0, vr v0), (1, vi v1), (4, vi v4), (5, vi v5)]) dX1_leader_116 rfl (by decide) rfl ?_
  refine r_iload (pc := 117) dX1_leader_117 4 rfl ?_
  refine r_istore_n (pc := 119) (env' := [(3, vi v5), (2, vi v4), (0, vr v0), (1, vi v1), (4, vi v4), (5, vi v5)]) dX1_leader_119 rfl (by decide) rfl ?_
  exact r_sub (env' := [(0, vr v0), (1, vi v1), (2, vi v4), (3, vi v5), (4, vi v4)]) [2, 3, 1, 0, 4] rfl (sX1_leader_120 hk28 _ _ _ _ _ _ h)
theorem sX1_leader_28B {st0 : Mem} {fin : Int32 × Mem} {kk28 : Rf → Int32 → Int32 → Int32 → Int32 → Mem → Option (Int32 × Mem)} (hk28 : ∀ (v0 : Rf) (v1 : Int32) (v2 : Int32) (v3 : Int32) (v4 : Int32) (st : Mem), kk28 v0 v1 v2 v3 v4 st = some fin → G (cX1_leader, "HouseClaps", "leader", 86, (some .int), 6) st0 trI fin 28 [(0, vr v0), (1, vi v1), (2, vi v2), (3, vi v3), (4, vi v4)] [] st) (v0 : Rf) (v1 : Int32) (v2 : Int32) (v3 : Int32) (v4 : Int32) (st : Mem) (h : bX1_leader_28B kk28 v0 v1 v2 v3 v4 st = some fin) : G (cX1_leader, "HouseClaps", "leader", 86, (some .int), 6) st0 trI fin 28 [(0, vr v0), (1, vi v1), (2, vi v2), (3, vi v3), (4, vi v4)] [] st := by
  unfold bX1_leader_28B at h
  refine r_iload (pc := 28) dX1_leader_28 4 rfl ?_
  refine r_aload_n (pc := 30) dX1_leader_30 0 rfl rfl ?_
  refine r_gA (pc := 31) dX1_leader_31 q318 fd_4 same_rf h (fun x31 e31 h => ?_)
  refine r_callI (pc := 34) (rest := [vi v4]) (lkV dX1_leader_34 q1535 xd_X2_size (vc_of vt_X2_size q1039 (fun _ => sX2_size)) adx_X2_size) (by decide) (Nat.le_of_ble_eq_true rfl) rfl h (fun x34 st e34 h => ?_)
  refine r_icmp_ge (pc := 37) (tgt := 126) dX1_leader_37 (by decide) h (fun e37 h => ?_) (fun e37 h => ?_)
  · refine r_iload_n (pc := 126) dX1_leader_126 1 rfl rfl ?_
    refine r_if_ne (pc := 127) (tgt := 134) dX1_leader_127 (by decide) h (fun e127 h => ?_) (fun e127 h => ?_)
    · refine r_iload_n (pc := 134) dX1_leader_134 3 rfl rfl ?_
      exact r_ireturn (pc := 135) dX1_leader_135 rfl rfl h
    · refine r_iload_n (pc := 130) dX1_leader_130 2 rfl rfl ?_
      refine r_goto (pc := 131) (tgt := 135) dX1_leader_131 (by decide) ?_
      exact r_ireturn (pc := 135) dX1_leader_135 rfl rfl h
  · refine r_aload_n (pc := 40) dX1_leader_40 0 rfl rfl ?_
    refine r_gA (pc := 41) dX1_leader_41 q318 fd_4 same_rf h (fun x41 e41 h => ?_)
    refine r_iload (pc := 44) dX1_leader_44 4 rfl ?_
    refine r_callI (pc := 46) (rest := []) (lkV dX1_leader_46 q1060 xd_X2_isSeat (vc_of vt_X2_isSeat q1061 (fun _ => sX2_isSeat)) adx_X2_isSeat) (by decide) (Nat.le_of_ble_eq_true rfl) rfl h (fun x46 st e46 h => ?_)
    refine r_if_ne (pc := 49) (tgt := 55) dX1_leader_49 (by decide) h (fun e49 h => ?_) (fun e49 h => ?_)
    · refine r_aload_n (pc := 55) dX1_leader_55 0 rfl rfl ?_
      refine r_iload (pc := 56) dX1_leader_56 4 rfl ?_
      refine r_callI (pc := 58) (rest := []) (lkV dX1_leader_58 q1577 xd_X1_starts (vc_of vt_X1_starts q1570 (fun _ => sX1_starts)) adx_X1_starts) (by decide) (Nat.le_of_ble_eq_true rfl) rfl h (fun x58 st e58 h => ?_)
      refine r_istore (pc := 61) (env' := [(5, vi x58), (0, vr v0), (1, vi v1), (2, vi v2), (3, vi v3), (4, vi v4)]) dX1_leader_61 (by decide) rfl ?_
      refine r_iload (pc := 63) dX1_leader_63 0 rfl ?_
      refine r_iload_n (pc := 65) dX1_leader_65 4 rfl rfl ?_
      refine r_icmp_lt (pc := 66) (tgt := 120) dX1_leader_66 (by decide) h (fun e66 h => ?_) (fun e66 h => ?_)
      · exact r_sub (env' := [(0, vr v0), (1, vi v1), (2, vi v2), (3, vi v3), (4, vi v4)]) [1, 2, 3, 4, 5] rfl (sX1_leader_120 hk28 _ _ _ _ _ _ h)
      · refine r_iload (pc := 69) dX1_leader_69 0 rfl ?_
        refine r_iload_n (pc := 71) dX1_leader_71 4 rfl rfl ?_
        refine r_icmp_ne (pc := 72) (tgt := 114) dX1_leader_72 (by decide) h (fun e72 h => ?_) (fun e72 h => ?_)
        · exact r_sub (env' := [(0, vr v0), (1, vi v1), (4, vi v4), (5, vi x58)]) [1, 2, 5, 0] rfl (sX1_leader_114 hk28 _ _ _ _ _ h)
        · refine r_aload_n (pc := 75) dX1_leader_75 1 rfl rfl ?_
          refine r_gA (pc := 76) dX1_leader_76 q318 fd_4 same_rf h (fun x76 e76 h => ?_)
          refine r_gAN (pc := 79) dX1_leader_79 q179 fd_35 same_rf h (fun x79 e79 h => ?_)
          refine r_aload_n (pc := 82) dX1_leader_82 1 rfl rfl ?_
          refine r_gA (pc := 83) dX1_leader_83 q318 fd_4 same_rf h (fun x83 e83 h => ?_)
          refine r_iload (pc := 86) dX1_leader_86 5 rfl ?_
          refine r_callI (pc := 88) (rest := [vr x79]) (lkV dX1_leader_88 q1484 xd_X2_row (vc_of vt_X2_row q1300 (fun _ => sX2_row)) adx_X2_row) (by decide) (Nat.le_of_ble_eq_true rfl) rfl h (fun x88 st e88 h => ?_)
          refine r_iaload (pc := 91) dX1_leader_91 h (fun x91 e91 h => ?_)
          refine r_aload_n (pc := 92) dX1_leader_92 1 rfl rfl ?_
          refine r_gA (pc := 93) dX1_leader_93 q318 fd_4 same_rf h (fun x93 e93 h => ?_)
          refine r_gAN (pc := 96) dX1_leader_96 q179 fd_35 same_rf h (fun x96 e96 h => ?_)
          refine r_aload_n (pc := 99) dX1_leader_99 1 rfl rfl ?_
          refine r_gA (pc := 100) dX1_leader_100 q318 fd_4 same_rf h (fun x100 e100 h => ?_)
          refine r_iload_n (pc := 103) dX1_leader_103 3 rfl rfl ?_
          refine r_callI (pc := 104) (rest := [vr x96, vi x91]) (lkV dX1_leader_104 q1484 xd_X2_row (vc_of vt_X2_row q1300 (fun _ => sX2_row)) adx_X2_row) (by decide) (Nat.le_of_ble_eq_true rfl) rfl h (fun x104 st e104 h => ?_)
          refine r_iaload (pc := 107) dX1_leader_107 h (fun x107 e107 h => ?_)
          refine r_icmp_lt (pc := 108) (tgt := 114) dX1_leader_108 (by decide) h (fun e108 h => ?_) (fun e108 h => ?_)
          · exact r_sub (env' := [(0, vr v0), (1, vi v1), (4, vi v4), (5, vi x58)]) [1, 2, 5, 0] rfl (sX1_leader_114 hk28 _ _ _ _ _ h)
          · refine r_goto (pc := 111) (tgt := 120) dX1_leader_111 (by decide) ?_
            exact r_sub (env' := [(0, vr v0), (1, vi v1), (2, vi v2), (3, vi v3), (4, vi v4)]) [1, 2, 3, 4, 5] rfl (sX1_leader_120 hk28 _ _ _ _ _ _ h)
    · refine r_goto (pc := 52) (tgt := 120) dX1_leader_52 (by decide) ?_
      exact sX1_leader_120 hk28 _ _ _ _ _ _ h
theorem sX1_leader_28 {st0 : Mem} {fin : Int32 × Mem} (n : Nat) : ∀ (v0 : Rf) (v1 : Int32) (v2 : Int32) (v3 : Int32) (v4 : Int32) (st : Mem), bX1_leader_28 n v0 v1 v2 v3 v4 st = some fin → G (cX1_leader, "HouseClaps", "leader", 86, (some .int), 6) st0 trI fin 28 [(0, vr v0), (1, vi v1), (2, vi v2), (3, vi v3), (4, vi v4)] [] st := by
  induction n with
  | zero => intro v0 v1 v2 v3 v4 st h; cases h
  | succ n ih => intro v0 v1 v2 v3 v4 st h; exact sX1_leader_28B  ih v0 v1 v2 v3 v4 st h
theorem sX1_leader {a0 : Rf} {a1 : Int32} {st : Mem} {fin : Int32 × Mem} (h : fX1_leader a0 a1 st = some fin) : Con yX1_leader 86 [vr a0, vi a1] st trI fin := by
  refine Con.mk (cc := cX1_leader) (n := 6) (own := "HouseClaps") (nm := "leader") (ret := (some .int)) (env := [(0, vr a0), (1, vi a1)]) q1576 rfl rfl rfl (by decide) ⟨Nat.le_of_ble_eq_true rfl, by decide⟩ rfl ?_
  unfold fX1_leader at h
  refine r_iload_n (pc := 0) dX1_leader_0 1 rfl rfl ?_
  refine r_iconst (pc := 1) (v := 0) dX1_leader_1 (by decide) ?_
  refine r_iconst (pc := 2) (v := 1) dX1_leader_2 (by decide) ?_
  refine r_callI (pc := 3) (rest := []) (lkS dX1_leader_3 q1055 q928 q85 (fun _ => sX1_isIn) ad_X1_isIn) (by decide) (Nat.le_of_ble_eq_true rfl) rfl h (fun x3 st e3 h => ?_)
  refine r_if_eq (pc := 6) (tgt := 19) dX1_leader_6 (by decide) h (fun e6 h => ?_) (fun e6 h => ?_)
  · refine r_iconst (pc := 19) (v := (-1)) dX1_leader_19 (by decide) ?_
    exact r_ireturn (pc := 20) dX1_leader_20 rfl rfl h
  · refine r_aload_n (pc := 9) dX1_leader_9 0 rfl rfl ?_
    refine r_gA (pc := 10) dX1_leader_10 q318 fd_4 same_rf h (fun x10 e10 h => ?_)
    refine r_callI (pc := 13) (rest := []) (lkV dX1_leader_13 q1536 xd_X2_seats (vc_of vt_X2_seats q1386 (fun _ => sX2_seats)) adx_X2_seats) (by decide) (Nat.le_of_ble_eq_true rfl) rfl h (fun x13 st e13 h => ?_)
    refine r_if_ne (pc := 16) (tgt := 21) dX1_leader_16 (by decide) h (fun e16 h => ?_) (fun e16 h => ?_)
    · refine r_iconst (pc := 21) (v := (-1)) dX1_leader_21 (by decide) ?_
      refine r_istore_n (pc := 22) (env' := [(2, vi (-1 : Int32)), (0, vr a0), (1, vi a1)]) dX1_leader_22 rfl (by decide) rfl ?_
      refine r_iconst (pc := 23) (v := (-1)) dX1_leader_23 (by decide) ?_
      refine r_istore_n (pc := 24) (env' := [(3, vi (-1 : Int32)), (2, vi (-1 : Int32)), (0, vr a0), (1, vi a1)]) dX1_leader_24 rfl (by decide) rfl ?_
      refine r_iconst (pc := 25) (v := 0) dX1_leader_25 (by decide) ?_
      refine r_istore (pc := 26) (env' := [(4, vi (0 : Int32)), (3, vi (-1 : Int32)), (2, vi (-1 : Int32)), (0, vr a0), (1, vi a1)]) dX1_leader_26 (by decide) rfl ?_
      exact r_sub (env' := [(0, vr a0), (1, vi a1), (2, vi (-1 : Int32)), (3, vi (-1 : Int32)), (4, vi (0 : Int32))]) [3, 4, 2, 1, 0] rfl (sX1_leader_28 hcFuel _ _ _ _ _ _ h)
    · refine r_iconst (pc := 19) (v := (-1)) dX1_leader_19 (by decide) ?_
      exact r_ireturn (pc := 20) dX1_leader_20 rfl rfl h
theorem sX1_house_58 {st0 : Mem} {fin : Int32 × Mem} (v0 : Rf) (k0 : Rf) (st : Mem) (h : bX1_house_58 v0 k0 st = some fin) : G (cX1_house, "HouseClaps", "house", 152, (some .int), 3) st0 trI fin 58 [(0, vr v0)] [vr k0] st := by
  unfold bX1_house_58 at h
  refine r_astore_n (pc := 58) (env' := [(2, vr k0), (0, vr v0)]) dX1_house_58 rfl (by decide) rfl ?_
  refine r_aload_n (pc := 59) dX1_house_59 1 rfl rfl ?_
  refine r_aload_n (pc := 60) dX1_house_60 0 rfl rfl ?_
  refine r_gIN (pc := 61) dX1_house_61 q830 fd_139 same_rf h (fun x61 e61 h => ?_)
  refine r_pI (pc := 64) dX1_house_64 q317 fd_3 same_rf rfl h (fun st e64 h => ?_)
  refine r_iconst (pc := 67) (v := (-1)) dX1_house_67 (by decide) ?_
  refine r_aload_n (pc := 68) dX1_house_68 0 rfl rfl ?_
  refine r_gIN (pc := 69) dX1_house_69 q832 fd_140 same_rf h (fun x69 e69 h => ?_)
  refine r_isub (pc := 72) dX1_house_72 ?_
  exact r_ireturn (pc := 73) dX1_house_73 rfl rfl h
theorem sX1_house {a0 : Rf} {st : Mem} {fin : Int32 × Mem} (h : fX1_house a0 st = some fin) : Con yX1_house 152 [vr a0] st trI fin := by
  refine Con.mkW (cc := cX1_house) (n := 3) (own := "HouseClaps") (nm := "house") (ret := (some .int)) (env := [(0, vr a0)]) q413 rfl rfl rfl (by decide) ⟨Nat.le_of_ble_eq_true rfl, by decide⟩ rfl ?_
  unfold fX1_house at h
  refine r_aload_n (pc := 0) dX1_house_0 0 rfl rfl ?_
  refine r_callI (pc := 1) (rest := []) (lkV dX1_house_1 q415 xd_X1_take (vc_of vt_X1_take q417 (fun _ => sX1_take)) adx_X1_take) (by decide) (Nat.le_of_ble_eq_true rfl) rfl h (fun x1 st e1 h => ?_)
  refine r_istore_n (pc := 4) (env' := [(1, vi x1), (0, vr a0)]) dX1_house_4 rfl (by decide) rfl ?_
  refine r_aload_n (pc := 5) dX1_house_5 1 rfl rfl ?_
  refine r_iconst (pc := 6) (v := 0) dX1_house_6 (by decide) ?_
  refine r_pI (pc := 7) dX1_house_7 q317 fd_3 same_rf rfl h (fun st e7 h => ?_)
  refine r_aload_n (pc := 10) dX1_house_10 1 rfl rfl ?_
  refine r_new (pc := 11) dX1_house_11 q419 rfl h (fun x11 st e11 h => ?_)
  refine r_dup (pc := 14) dX1_house_14 rfl ?_
  refine r_aload_n (pc := 15) dX1_house_15 1 rfl rfl ?_
  refine r_gA (pc := 16) dX1_house_16 q315 fd_1 same_rf h (fun x16 e16 h => ?_)
  refine r_iload_n (pc := 19) dX1_house_19 0 rfl rfl ?_
  refine r_callV (pc := 20) (rest := [vr x11, vr a0]) (lkI dX1_house_20 q421 q422 q423 rfl (fun _ => sX6_init) ad_X6_init) (by decide) (Nat.le_of_ble_eq_true rfl) rfl h (fun u20 st e20 h => ?_)
  refine r_callAC (pc := 23) (rest := [vr a0]) (env' := [(0, vr a0)]) [1] rfl (lkV dX1_house_23 q485 xd_X6_read (vc_of vt_X6_read q486 (fun _ => sX6_read)) adx_X6_read) (by decide) (Nat.le_of_ble_eq_true rfl) rfl rfl ⟨by decide, by decide⟩ q414 ⟨rfl, by decide, by decide⟩ h (fun z23 st e23 h => sX1_house_58 _ _ _ h) (fun x23 st e23 h => ?_)
  refine r_pA (pc := 26) dX1_house_26 q318 fd_4 same_rf rfl h (fun st e26 h => ?_)
  refine r_aload_n (pc := 29) dX1_house_29 1 rfl rfl ?_
  refine r_lconst (pc := 30) (v := 0) dX1_house_30 (by decide) ?_
  refine r_pJ (pc := 31) dX1_house_31 q319 fd_5 same_rf rfl h (fun st e31 h => ?_)
  refine r_aload_n (pc := 34) dX1_house_34 1 rfl rfl ?_
  refine r_lconst (pc := 35) (v := 0) dX1_house_35 (by decide) ?_
  refine r_pJ (pc := 36) dX1_house_36 q320 fd_6 same_rf rfl h (fun st e36 h => ?_)
  refine r_aload_n (pc := 39) dX1_house_39 1 rfl rfl ?_
  refine r_new (pc := 40) dX1_house_40 q228 rfl h (fun x40 st e40 h => ?_)
  refine r_dup (pc := 43) dX1_house_43 rfl ?_
  refine r_callV (pc := 44) (rest := [vr x40, vr a0]) (lkI dX1_house_44 q230 q231 q232 rfl (fun _ => sJ3_init) ad_J3_init) (by decide) (Nat.le_of_ble_eq_true rfl) rfl h (fun u44 st e44 h => ?_)
  refine r_pA (pc := 47) dX1_house_47 q321 fd_7 same_rf rfl h (fun st e47 h => ?_)
  refine r_aload_n (pc := 50) dX1_house_50 1 rfl rfl ?_
  refine r_gA (pc := 51) dX1_house_51 q318 fd_4 same_rf h (fun x51 e51 h => ?_)
  refine r_gIN (pc := 54) dX1_house_54 q168 fd_32 same_rf h (fun x54 e54 h => ?_)
  exact r_ireturn (pc := 57) dX1_house_57 rfl rfl h
