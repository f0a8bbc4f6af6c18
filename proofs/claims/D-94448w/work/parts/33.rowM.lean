set_option maxRecDepth 100000
theorem sX4_areLike_68 {st0 : Mem} {fin : Int32 × Mem} (st : Mem) (h : bX4_areLike_68  st = some fin) : G (cX4_areLike, "HouseClapsModel", "areLike", 6, (some .boolean), 3) st0 trI fin 68 [] [] st := by
  unfold bX4_areLike_68 at h
  refine r_iconst (pc := 68) (v := 0) dX4_areLike_68 (by decide) ?_
  exact r_ireturn (pc := 69) dX4_areLike_69 rfl rfl h
theorem sX4_areLike {a0 : Rf} {a1 : Int32} {a2 : Int32} {st : Mem} {fin : Int32 × Mem} (h : fX4_areLike a0 a1 a2 st = some fin) : Con yX4_areLike 6 [vr a0, vi a1, vi a2] st trI fin := by
  refine Con.mk (cc := cX4_areLike) (n := 3) (own := "HouseClapsModel") (nm := "areLike") (ret := (some .boolean)) (env := [(0, vr a0), (1, vi a1), (2, vi a2)]) q2178 rfl rfl rfl (by decide) ⟨Nat.le_of_ble_eq_true rfl, by decide⟩ rfl ?_
  unfold fX4_areLike at h
  refine r_aload_n (pc := 0) dX4_areLike_0 0 rfl rfl ?_
  refine r_gA (pc := 1) dX4_areLike_1 q1730 fd_87 same_rf h (fun x1 e1 h => ?_)
  refine r_iload_n (pc := 4) dX4_areLike_4 1 rfl rfl ?_
  refine r_laload (pc := 5) dX4_areLike_5 h (fun x5 e5 h => ?_)
  refine r_aload_n (pc := 6) dX4_areLike_6 0 rfl rfl ?_
  refine r_gA (pc := 7) dX4_areLike_7 q1730 fd_87 same_rf h (fun x7 e7 h => ?_)
  refine r_iload_n (pc := 10) dX4_areLike_10 2 rfl rfl ?_
  refine r_laload (pc := 11) dX4_areLike_11 h (fun x11 e11 h => ?_)
  refine r_lcmp_ne (pc := 12) (tgt := 68) dX4_areLike_12 dX4_areLike_13 (by decide) h (fun e13 h => ?_) (fun e13 h => ?_)
  · exact r_sub (env' := []) [] rfl (sX4_areLike_68 _ h)
  · refine r_aload_n (pc := 16) dX4_areLike_16 0 rfl rfl ?_
    refine r_gA (pc := 17) dX4_areLike_17 q1731 fd_88 same_rf h (fun x17 e17 h => ?_)
    refine r_iload_n (pc := 20) dX4_areLike_20 1 rfl rfl ?_
    refine r_laload (pc := 21) dX4_areLike_21 h (fun x21 e21 h => ?_)
    refine r_aload_n (pc := 22) dX4_areLike_22 0 rfl rfl ?_
    refine r_gA (pc := 23) dX4_areLike_23 q1731 fd_88 same_rf h (fun x23 e23 h => ?_)
    refine r_iload_n (pc := 26) dX4_areLike_26 2 rfl rfl ?_
    refine r_laload (pc := 27) dX4_areLike_27 h (fun x27 e27 h => ?_)
    refine r_lcmp_ne (pc := 28) (tgt := 68) dX4_areLike_28 dX4_areLike_29 (by decide) h (fun e29 h => ?_) (fun e29 h => ?_)
    · exact r_sub (env' := []) [] rfl (sX4_areLike_68 _ h)
    · refine r_aload_n (pc := 32) dX4_areLike_32 0 rfl rfl ?_
      refine r_gA (pc := 33) dX4_areLike_33 q1732 fd_89 same_rf h (fun x33 e33 h => ?_)
      refine r_iload_n (pc := 36) dX4_areLike_36 1 rfl rfl ?_
      refine r_laload (pc := 37) dX4_areLike_37 h (fun x37 e37 h => ?_)
      refine r_aload_n (pc := 38) dX4_areLike_38 0 rfl rfl ?_
      refine r_gA (pc := 39) dX4_areLike_39 q1732 fd_89 same_rf h (fun x39 e39 h => ?_)
      refine r_iload_n (pc := 42) dX4_areLike_42 2 rfl rfl ?_
      refine r_laload (pc := 43) dX4_areLike_43 h (fun x43 e43 h => ?_)
      refine r_lcmp_ne (pc := 44) (tgt := 68) dX4_areLike_44 dX4_areLike_45 (by decide) h (fun e45 h => ?_) (fun e45 h => ?_)
      · exact r_sub (env' := []) [] rfl (sX4_areLike_68 _ h)
      · refine r_aload_n (pc := 48) dX4_areLike_48 0 rfl rfl ?_
        refine r_gA (pc := 49) dX4_areLike_49 q1733 fd_90 same_rf h (fun x49 e49 h => ?_)
        refine r_iload_n (pc := 52) dX4_areLike_52 1 rfl rfl ?_
        refine r_laload (pc := 53) dX4_areLike_53 h (fun x53 e53 h => ?_)
        refine r_aload_n (pc := 54) dX4_areLike_54 0 rfl rfl ?_
        refine r_gA (pc := 55) dX4_areLike_55 q1733 fd_90 same_rf h (fun x55 e55 h => ?_)
        refine r_iload_n (pc := 58) dX4_areLike_58 2 rfl rfl ?_
        refine r_laload (pc := 59) dX4_areLike_59 h (fun x59 e59 h => ?_)
        refine r_lcmp_ne (pc := 60) (tgt := 68) dX4_areLike_60 dX4_areLike_61 (by decide) h (fun e61 h => ?_) (fun e61 h => ?_)
        · exact r_sub (env' := []) [] rfl (sX4_areLike_68 _ h)
        · refine r_iconst (pc := 64) (v := 1) dX4_areLike_64 (by decide) ?_
          refine r_goto (pc := 65) (tgt := 69) dX4_areLike_65 (by decide) ?_
          exact r_ireturn (pc := 69) dX4_areLike_69 rfl rfl h
theorem sX4_arranged {a0 : Rf} {st : Mem} {fin : Int32 × Mem} (h : fX4_arranged a0 st = some fin) : Con yX4_arranged 6 [vr a0] st trI fin := by
  refine Con.mk (cc := cX4_arranged) (n := 1) (own := "HouseClapsModel") (nm := "arranged") (ret := (some .int)) (env := [(0, vr a0)]) q2278 rfl rfl rfl (by decide) ⟨Nat.le_of_ble_eq_true rfl, by decide⟩ rfl ?_
  unfold fX4_arranged at h
  refine r_aload_n (pc := 0) dX4_arranged_0 0 rfl rfl ?_
  refine r_iconst (pc := 1) (v := 0) dX4_arranged_1 (by decide) ?_
  refine r_pI (pc := 2) dX4_arranged_2 q1698 fd_55 same_rf rfl h (fun st e2 h => ?_)
  refine r_aload_n (pc := 5) dX4_arranged_5 0 rfl rfl ?_
  refine r_gI (pc := 6) dX4_arranged_6 q1761 fd_118 same_rf h (fun x6 e6 h => ?_)
  exact r_ireturn (pc := 9) dX4_arranged_9 rfl rfl h
theorem sX4_bad {a0 : Rf} {a1 : Int32} {st : Mem} {fin : Int32 × Mem} (h : fX4_bad a0 a1 st = some fin) : Con yX4_bad 6 [vr a0, vi a1] st trI fin := by
  refine Con.mk (cc := cX4_bad) (n := 2) (own := "HouseClapsModel") (nm := "bad") (ret := (some .boolean)) (env := [(0, vr a0), (1, vi a1)]) q1944 rfl rfl rfl (by decide) ⟨Nat.le_of_ble_eq_true rfl, by decide⟩ rfl ?_
  unfold fX4_bad at h
  refine r_aload_n (pc := 0) dX4_bad_0 0 rfl rfl ?_
  refine r_iload_n (pc := 1) dX4_bad_1 1 rfl rfl ?_
  refine r_pI (pc := 2) dX4_bad_2 q1711 fd_68 same_rf rfl h (fun st e2 h => ?_)
  refine r_aload_n (pc := 5) dX4_bad_5 0 rfl rfl ?_
  refine r_aload_n (pc := 6) dX4_bad_6 0 rfl rfl ?_
  refine r_gI (pc := 7) dX4_bad_7 q1708 fd_65 same_rf h (fun x7 e7 h => ?_)
  refine r_pI (pc := 10) dX4_bad_10 q1712 fd_69 same_rf rfl h (fun st e10 h => ?_)
  refine r_iconst (pc := 13) (v := 0) dX4_bad_13 (by decide) ?_
  exact r_ireturn (pc := 14) dX4_bad_14 rfl rfl h
theorem sX4_beganAt {a0 : Rf} {a1 : Int32} {st : Mem} {fin : Int32 × Mem} (h : fX4_beganAt a0 a1 st = some fin) : Con yX4_beganAt 6 [vr a0, vi a1] st trI fin := by
  refine Con.mk (cc := cX4_beganAt) (n := 2) (own := "HouseClapsModel") (nm := "beganAt") (ret := (some .int)) (env := [(0, vr a0), (1, vi a1)]) q2246 rfl rfl rfl (by decide) ⟨Nat.le_of_ble_eq_true rfl, by decide⟩ rfl ?_
  unfold fX4_beganAt at h
  refine r_aload_n (pc := 0) dX4_beganAt_0 0 rfl rfl ?_
  refine r_iconst (pc := 1) (v := 0) dX4_beganAt_1 (by decide) ?_
  refine r_pI (pc := 2) dX4_beganAt_2 q1698 fd_55 same_rf rfl h (fun st e2 h => ?_)
  refine r_iload_n (pc := 5) dX4_beganAt_5 1 rfl rfl ?_
  refine r_if_ne (pc := 6) (tgt := 16) dX4_beganAt_6 (by decide) h (fun e6 h => ?_) (fun e6 h => ?_)
  · refine r_iload_n (pc := 16) dX4_beganAt_16 1 rfl rfl ?_
    refine r_iconst (pc := 17) (v := 1) dX4_beganAt_17 (by decide) ?_
    refine r_icmp_ne (pc := 18) (tgt := 28) dX4_beganAt_18 (by decide) h (fun e18 h => ?_) (fun e18 h => ?_)
    · refine r_iconst (pc := 28) (v := (-1)) dX4_beganAt_28 (by decide) ?_
      exact r_ireturn (pc := 29) dX4_beganAt_29 rfl rfl h
    · refine r_aload_n (pc := 21) dX4_beganAt_21 0 rfl rfl ?_
      refine r_gI (pc := 22) dX4_beganAt_22 q1758 fd_115 same_rf h (fun x22 e22 h => ?_)
      refine r_goto (pc := 25) (tgt := 29) dX4_beganAt_25 (by decide) ?_
      exact r_ireturn (pc := 29) dX4_beganAt_29 rfl rfl h
  · refine r_aload_n (pc := 9) dX4_beganAt_9 0 rfl rfl ?_
    refine r_gI (pc := 10) dX4_beganAt_10 q1757 fd_114 same_rf h (fun x10 e10 h => ?_)
    refine r_goto (pc := 13) (tgt := 29) dX4_beganAt_13 (by decide) ?_
    exact r_ireturn (pc := 29) dX4_beganAt_29 rfl rfl h
theorem sX4_binds {a0 : Int32} {st : Mem} {fin : Int32 × Mem} (h : fX4_binds a0 st = some fin) : Con yX4_binds 6 [vi a0] st trI fin := by
  refine Con.mk (cc := cX4_binds) (n := 1) (own := "HouseClapsModel") (nm := "binds") (ret := (some .int)) (env := [(0, vi a0)]) q2004 rfl rfl rfl (by decide) ⟨Nat.le_of_ble_eq_true rfl, by decide⟩ rfl ?_
  unfold fX4_binds at h
  refine r_iload_n (pc := 0) dX4_binds_0 0 rfl rfl ?_
  refine r_iconst (pc := 1) (v := 3) dX4_binds_1 (by decide) ?_
  refine r_icmp_ne (pc := 2) (tgt := 9) dX4_binds_2 (by decide) h (fun e2 h => ?_) (fun e2 h => ?_)
  · refine r_iload_n (pc := 9) dX4_binds_9 0 rfl rfl ?_
    refine r_iconst (pc := 10) (v := 4) dX4_binds_10 (by decide) ?_
    refine r_icmp_ne (pc := 11) (tgt := 18) dX4_binds_11 (by decide) h (fun e11 h => ?_) (fun e11 h => ?_)
    · refine r_iconst (pc := 18) (v := 1) dX4_binds_18 (by decide) ?_
      exact r_ireturn (pc := 19) dX4_binds_19 rfl rfl h
    · refine r_iconst (pc := 14) (v := 2) dX4_binds_14 (by decide) ?_
      refine r_goto (pc := 15) (tgt := 19) dX4_binds_15 (by decide) ?_
      exact r_ireturn (pc := 19) dX4_binds_19 rfl rfl h
  · refine r_iconst (pc := 5) (v := 3) dX4_binds_5 (by decide) ?_
    refine r_goto (pc := 6) (tgt := 19) dX4_binds_6 (by decide) ?_
    exact r_ireturn (pc := 19) dX4_binds_19 rfl rfl h
theorem sX4_bits {a0 : Int64} {st : Mem} {fin : Int32 × Mem} (h : fX4_bits a0 st = some fin) : Con yX4_bits 6 [vj a0] st trI fin := by
  refine Con.mk (cc := cX4_bits) (n := 4) (own := "HouseClapsModel") (nm := "bits") (ret := (some .int)) (env := [(0, vj a0)]) q2134 rfl rfl rfl (by decide) ⟨Nat.le_of_ble_eq_true rfl, by decide⟩ rfl ?_
  unfold fX4_bits at h
  refine r_lload_n (pc := 0) dX4_bits_0 0 rfl rfl ?_
  refine r_lload_n (pc := 1) dX4_bits_1 0 rfl rfl ?_
  refine r_iconst (pc := 2) (v := 1) dX4_bits_2 (by decide) ?_
  refine r_lushr (pc := 3) dX4_bits_3 ?_
  refine r_ldc2 (pc := 4) dX4_bits_4 q2135 ?_
  refine r_land (pc := 7) dX4_bits_7 ?_
  refine r_lsub (pc := 8) dX4_bits_8 ?_
  refine r_nameJ h (fun y9 e9 h => ?_)
  refine r_lstore_n (pc := 9) (env' := [(2, vj y9), (0, vj a0)]) dX4_bits_9 rfl (by decide) rfl ?_
  refine r_lload_n (pc := 10) dX4_bits_10 0 rfl rfl ?_
  refine r_ldc2 (pc := 11) dX4_bits_11 q2136 ?_
  refine r_land (pc := 14) dX4_bits_14 ?_
  refine r_lload_n (pc := 15) dX4_bits_15 0 rfl rfl ?_
  refine r_iconst (pc := 16) (v := 2) dX4_bits_16 (by decide) ?_
  refine r_lushr (pc := 17) dX4_bits_17 ?_
  refine r_ldc2 (pc := 18) dX4_bits_18 q2136 ?_
  refine r_land (pc := 21) dX4_bits_21 ?_
  refine r_ladd (pc := 22) dX4_bits_22 ?_
  refine r_nameJ h (fun y23 e23 h => ?_)
  refine r_lstore_n (pc := 23) (env' := [(2, vj y23), (0, vj a0)]) dX4_bits_23 rfl (by decide) rfl ?_
  refine r_lload_n (pc := 24) dX4_bits_24 0 rfl rfl ?_
  refine r_lload_n (pc := 25) dX4_bits_25 0 rfl rfl ?_
  refine r_iconst (pc := 26) (v := 4) dX4_bits_26 (by decide) ?_
  refine r_lushr (pc := 27) dX4_bits_27 ?_
  refine r_ladd (pc := 28) dX4_bits_28 ?_
  refine r_ldc2 (pc := 29) dX4_bits_29 q2137 ?_
  refine r_land (pc := 32) dX4_bits_32 ?_
  refine r_nameJ h (fun y33 e33 h => ?_)
  refine r_lstore_n (pc := 33) (env' := [(2, vj y33), (0, vj a0)]) dX4_bits_33 rfl (by decide) rfl ?_
  refine r_lload_n (pc := 34) dX4_bits_34 0 rfl rfl ?_
  refine r_ldc2 (pc := 35) dX4_bits_35 q2138 ?_
  refine r_lmul (pc := 38) dX4_bits_38 ?_
  refine r_bipush (pc := 39) (v := 56) dX4_bits_39 (by decide) ?_
  refine r_lushr (pc := 41) dX4_bits_41 ?_
  refine r_l2i (pc := 42) dX4_bits_42 ?_
  exact r_ireturn (pc := 43) dX4_bits_43 rfl rfl h
theorem sX4_bought {a0 : Rf} {st : Mem} {fin : Int32 × Mem} (h : fX4_bought a0 st = some fin) : Con yX4_bought 6 [vr a0] st trI fin := by
  refine Con.mk (cc := cX4_bought) (n := 1) (own := "HouseClapsModel") (nm := "bought") (ret := (some .int)) (env := [(0, vr a0)]) q2207 rfl rfl rfl (by decide) ⟨Nat.le_of_ble_eq_true rfl, by decide⟩ rfl ?_
  unfold fX4_bought at h
  refine r_aload_n (pc := 0) dX4_bought_0 0 rfl rfl ?_
  refine r_iconst (pc := 1) (v := 0) dX4_bought_1 (by decide) ?_
  refine r_pI (pc := 2) dX4_bought_2 q1698 fd_55 same_rf rfl h (fun st e2 h => ?_)
  refine r_aload_n (pc := 5) dX4_bought_5 0 rfl rfl ?_
  refine r_gI (pc := 6) dX4_bought_6 q1746 fd_103 same_rf h (fun x6 e6 h => ?_)
  exact r_ireturn (pc := 9) dX4_bought_9 rfl rfl h
theorem sX4_change {a0 : Rf} {a1 : Int32} {a2 : Int32} {st : Mem} {fin : Unit × Mem} (h : fX4_change a0 a1 a2 st = some fin) : Con yX4_change 6 [vr a0, vi a1, vi a2] st trV fin := by
  refine Con.mk (cc := cX4_change) (n := 4) (own := "HouseClapsModel") (nm := "change") (ret := none) (env := [(0, vr a0), (1, vi a1), (2, vi a2)]) q2262 rfl rfl rfl (by decide) ⟨Nat.le_of_ble_eq_true rfl, by decide⟩ rfl ?_
  unfold fX4_change at h
  refine r_aload_n (pc := 0) dX4_change_0 0 rfl rfl ?_
  refine r_gA (pc := 1) dX4_change_1 q1704 fd_61 same_rf h (fun x1 e1 h => ?_)
  refine r_bipush (pc := 4) (v := 6) dX4_change_4 (by decide) ?_
  refine r_iload_n (pc := 6) dX4_change_6 1 rfl rfl ?_
  refine r_iadd (pc := 7) dX4_change_7 ?_
  refine r_iaload (pc := 8) dX4_change_8 h (fun x8 e8 h => ?_)
  refine r_istore_n (pc := 9) (env' := [(3, vi x8), (0, vr a0), (1, vi a1), (2, vi a2)]) dX4_change_9 rfl (by decide) rfl ?_
  refine r_aload_n (pc := 10) dX4_change_10 1 rfl rfl ?_
  refine r_gA (pc := 11) dX4_change_11 q1704 fd_61 same_rf h (fun x11 e11 h => ?_)
  refine r_bipush (pc := 14) (v := 6) dX4_change_14 (by decide) ?_
  refine r_iload_n (pc := 16) dX4_change_16 2 rfl rfl ?_
  refine r_iadd (pc := 17) dX4_change_17 ?_
  refine r_aload_n (pc := 18) dX4_change_18 1 rfl rfl ?_
  refine r_gA (pc := 19) dX4_change_19 q1704 fd_61 same_rf h (fun x19 e19 h => ?_)
  refine r_bipush (pc := 22) (v := 6) dX4_change_22 (by decide) ?_
  refine r_iload_n (pc := 24) dX4_change_24 3 rfl rfl ?_
  refine r_iadd (pc := 25) dX4_change_25 ?_
  refine r_iaload (pc := 26) dX4_change_26 h (fun x26 e26 h => ?_)
  refine r_iastore (pc := 27) dX4_change_27 h (fun st e27 h => ?_)
  refine r_aload_n (pc := 28) dX4_change_28 1 rfl rfl ?_
  refine r_gA (pc := 29) dX4_change_29 q1704 fd_61 same_rf h (fun x29 e29 h => ?_)
  refine r_bipush (pc := 32) (v := 6) dX4_change_32 (by decide) ?_
  refine r_iload_n (pc := 34) dX4_change_34 3 rfl rfl ?_
  refine r_iadd (pc := 35) dX4_change_35 ?_
  refine r_iload_n (pc := 36) dX4_change_36 0 rfl rfl ?_
  refine r_iastore (pc := 37) dX4_change_37 h (fun st e37 h => ?_)
  exact r_return_ (pc := 38) dX4_change_38 rfl h
theorem sX4_draw {a0 : Rf} {a1 : Int32} {st : Mem} {fin : Int32 × Mem} (h : fX4_draw a0 a1 st = some fin) : Con yX4_draw 6 [vr a0, vi a1] st trI fin := by
  refine Con.mk (cc := cX4_draw) (n := 2) (own := "HouseClapsModel") (nm := "draw") (ret := (some .int)) (env := [(0, vr a0), (1, vi a1)]) q2294 rfl rfl rfl (by decide) ⟨Nat.le_of_ble_eq_true rfl, by decide⟩ rfl ?_
  unfold fX4_draw at h
  refine r_aload_n (pc := 0) dX4_draw_0 0 rfl rfl ?_
  refine r_aload_n (pc := 1) dX4_draw_1 0 rfl rfl ?_
  refine r_gI (pc := 2) dX4_draw_2 q1762 fd_119 same_rf h (fun x2 e2 h => ?_)
  refine r_ldc_w (pc := 5) dX4_draw_5 q2295 ?_
  refine r_imul (pc := 8) dX4_draw_8 ?_
  refine r_sipush (pc := 9) (v := 12345) dX4_draw_9 (by decide) ?_
  refine r_iadd (pc := 12) dX4_draw_12 ?_
  refine r_pI (pc := 13) dX4_draw_13 q1762 fd_119 same_rf rfl h (fun st e13 h => ?_)
  refine r_aload_n (pc := 16) dX4_draw_16 0 rfl rfl ?_
  refine r_gI (pc := 17) dX4_draw_17 q1762 fd_119 same_rf h (fun x17 e17 h => ?_)
  refine r_bipush (pc := 20) (v := 8) dX4_draw_20 (by decide) ?_
  refine r_iushr (pc := 22) dX4_draw_22 ?_
  refine r_iload_n (pc := 23) dX4_draw_23 1 rfl rfl ?_
  refine r_irem (pc := 24) dX4_draw_24 h (fun x24 e24 h => ?_)
  exact r_ireturn (pc := 25) dX4_draw_25 rfl rfl h
theorem sX4_end {a0 : Rf} {a1 : Int32} {st : Mem} {fin : Int32 × Mem} (h : fX4_end a0 a1 st = some fin) : Con yX4_end 6 [vr a0, vi a1] st trI fin := by
  refine Con.mk (cc := cX4_end) (n := 2) (own := "HouseClapsModel") (nm := "end") (ret := (some .boolean)) (env := [(0, vr a0), (1, vi a1)]) q1688 rfl rfl rfl (by decide) ⟨Nat.le_of_ble_eq_true rfl, by decide⟩ rfl ?_
  unfold fX4_end at h
  refine r_aload_n (pc := 0) dX4_end_0 0 rfl rfl ?_
  refine r_iconst (pc := 1) (v := 0) dX4_end_1 (by decide) ?_
  refine r_pI (pc := 2) dX4_end_2 q1698 fd_55 same_rf rfl h (fun st e2 h => ?_)
  refine r_iload_n (pc := 5) dX4_end_5 1 rfl rfl ?_
  refine r_if_lt (pc := 6) (tgt := 17) dX4_end_6 (by decide) h (fun e6 h => ?_) (fun e6 h => ?_)
  · refine r_iconst (pc := 17) (v := 0) dX4_end_17 (by decide) ?_
    exact r_ireturn (pc := 18) dX4_end_18 rfl rfl h
  · refine r_iload_n (pc := 9) dX4_end_9 1 rfl rfl ?_
    refine r_aload_n (pc := 10) dX4_end_10 0 rfl rfl ?_
    refine r_gI (pc := 11) dX4_end_11 q1700 fd_57 same_rf h (fun x11 e11 h => ?_)
    refine r_icmp_le (pc := 14) (tgt := 19) dX4_end_14 (by decide) h (fun e14 h => ?_) (fun e14 h => ?_)
    · refine r_aload_n (pc := 19) dX4_end_19 0 rfl rfl ?_
      refine r_iload_n (pc := 20) dX4_end_20 1 rfl rfl ?_
      refine r_pI (pc := 21) dX4_end_21 q1700 fd_57 same_rf rfl h (fun st e21 h => ?_)
      refine r_iconst (pc := 24) (v := 1) dX4_end_24 (by decide) ?_
      exact r_ireturn (pc := 25) dX4_end_25 rfl rfl h
    · refine r_iconst (pc := 17) (v := 0) dX4_end_17 (by decide) ?_
      exact r_ireturn (pc := 18) dX4_end_18 rfl rfl h
theorem sX4_fault {a0 : Rf} {st : Mem} {fin : Int32 × Mem} (h : fX4_fault a0 st = some fin) : Con yX4_fault 6 [vr a0] st trI fin := by
  refine Con.mk (cc := cX4_fault) (n := 1) (own := "HouseClapsModel") (nm := "fault") (ret := (some .int)) (env := [(0, vr a0)]) q2035 rfl rfl rfl (by decide) ⟨Nat.le_of_ble_eq_true rfl, by decide⟩ rfl ?_
  unfold fX4_fault at h
  refine r_aload_n (pc := 0) dX4_fault_0 0 rfl rfl ?_
  refine r_iconst (pc := 1) (v := 0) dX4_fault_1 (by decide) ?_
  refine r_pI (pc := 2) dX4_fault_2 q1698 fd_55 same_rf rfl h (fun st e2 h => ?_)
  refine r_aload_n (pc := 5) dX4_fault_5 0 rfl rfl ?_
  refine r_gI (pc := 6) dX4_fault_6 q1711 fd_68 same_rf h (fun x6 e6 h => ?_)
  exact r_ireturn (pc := 9) dX4_fault_9 rfl rfl h
theorem sX4_four_3B {st0 : Mem} {fin : Unit × Mem} {kk3 : Rf → Int32 → Int32 → Mem → Option (Unit × Mem)} (hk3 : ∀ (v0 : Rf) (v1 : Int32) (v2 : Int32) (st : Mem), kk3 v0 v1 v2 st = some fin → G (cX4_four, "HouseClapsModel", "four", 6, none, 3) st0 trV fin 3 [(0, vr v0), (1, vi v1), (2, vi v2)] [] st) (v0 : Rf) (v1 : Int32) (v2 : Int32) (st : Mem) (h : bX4_four_3B kk3 v0 v1 v2 st = some fin) : G (cX4_four, "HouseClapsModel", "four", 6, none, 3) st0 trV fin 3 [(0, vr v0), (1, vi v1), (2, vi v2)] [] st := by
  unfold bX4_four_3B at h
  refine r_iload_n (pc := 3) dX4_four_3 2 rfl rfl ?_
  refine r_if_lt (pc := 4) (tgt := 36) dX4_four_4 (by decide) h (fun e4 h => ?_) (fun e4 h => ?_)
  · exact r_return_ (pc := 36) dX4_four_36 rfl h
  · refine r_aload_n (pc := 7) dX4_four_7 0 rfl rfl ?_
    refine r_gA (pc := 8) dX4_four_8 q1699 fd_56 same_rf h (fun x8 e8 h => ?_)
    refine r_aload_n (pc := 11) dX4_four_11 0 rfl rfl ?_
    refine r_gI (pc := 12) dX4_four_12 q1700 fd_57 same_rf h (fun x12 e12 h => ?_)
    refine r_iload_n (pc := 15) dX4_four_15 1 rfl rfl ?_
    refine r_iload_n (pc := 16) dX4_four_16 2 rfl rfl ?_
    refine r_ishr (pc := 17) dX4_four_17 ?_
    refine r_i2b (pc := 18) dX4_four_18 ?_
    refine r_bastore (pc := 19) dX4_four_19 h (fun st e19 h => ?_)
    refine r_aload_n (pc := 20) dX4_four_20 0 rfl rfl ?_
    refine r_dup (pc := 21) dX4_four_21 rfl ?_
    refine r_gI (pc := 22) dX4_four_22 q1700 fd_57 same_rf h (fun x22 e22 h => ?_)
    refine r_iconst (pc := 25) (v := 1) dX4_four_25 (by decide) ?_
    refine r_iadd (pc := 26) dX4_four_26 ?_
    refine r_pI (pc := 27) dX4_four_27 q1700 fd_57 same_rf rfl h (fun st e27 h => ?_)
    refine r_iinc (pc := 30) (env' := [(2, vi (v2 + (-8))), (0, vr v0), (1, vi v1)]) (cst := (-8)) dX4_four_30 2 rfl (by decide) (by decide) rfl ?_
    refine r_goto (pc := 33) (tgt := 3) dX4_four_33 (by decide) ?_
    exact r_sub (env' := [(0, vr v0), (1, vi v1), (2, vi (v2 + (-8)))]) [1, 2, 0] rfl (hk3 _ _ _ _ h)
theorem sX4_four_3 {st0 : Mem} {fin : Unit × Mem} (n : Nat) : ∀ (v0 : Rf) (v1 : Int32) (v2 : Int32) (st : Mem), bX4_four_3 n v0 v1 v2 st = some fin → G (cX4_four, "HouseClapsModel", "four", 6, none, 3) st0 trV fin 3 [(0, vr v0), (1, vi v1), (2, vi v2)] [] st := by
  induction n with
  | zero => intro v0 v1 v2 st h; cases h
  | succ n ih => intro v0 v1 v2 st h; exact sX4_four_3B  ih v0 v1 v2 st h
theorem sX4_four {a0 : Rf} {a1 : Int32} {st : Mem} {fin : Unit × Mem} (h : fX4_four a0 a1 st = some fin) : Con yX4_four 6 [vr a0, vi a1] st trV fin := by
  refine Con.mk (cc := cX4_four) (n := 3) (own := "HouseClapsModel") (nm := "four") (ret := none) (env := [(0, vr a0), (1, vi a1)]) q1684 rfl rfl rfl (by decide) ⟨Nat.le_of_ble_eq_true rfl, by decide⟩ rfl ?_
  unfold fX4_four at h
  refine r_bipush (pc := 0) (v := 24) dX4_four_0 (by decide) ?_
  refine r_istore_n (pc := 2) (env' := [(2, vi (24 : Int32)), (0, vr a0), (1, vi a1)]) dX4_four_2 rfl (by decide) rfl ?_
  exact r_sub (env' := [(0, vr a0), (1, vi a1), (2, vi (24 : Int32))]) [1, 2, 0] rfl (sX4_four_3 hcFuel _ _ _ _ h)
theorem sX4_has {a0 : Int32} {a1 : Int32} {st : Mem} {fin : Int32 × Mem} (h : fX4_has a0 a1 st = some fin) : Con yX4_has 6 [vi a0, vi a1] st trI fin := by
  refine Con.mk (cc := cX4_has) (n := 2) (own := "HouseClapsModel") (nm := "has") (ret := (some .boolean)) (env := [(0, vi a0), (1, vi a1)]) q2019 rfl rfl rfl (by decide) ⟨Nat.le_of_ble_eq_true rfl, by decide⟩ rfl ?_
  unfold fX4_has at h
  refine r_iload_n (pc := 0) dX4_has_0 0 rfl rfl ?_
  refine r_iload_n (pc := 1) dX4_has_1 1 rfl rfl ?_
  refine r_ishr (pc := 2) dX4_has_2 ?_
  refine r_iconst (pc := 3) (v := 1) dX4_has_3 (by decide) ?_
  refine r_iand (pc := 4) dX4_has_4 ?_
  refine r_iconst (pc := 5) (v := 1) dX4_has_5 (by decide) ?_
  refine r_icmp_ne (pc := 6) (tgt := 13) dX4_has_6 (by decide) h (fun e6 h => ?_) (fun e6 h => ?_)
  · refine r_iconst (pc := 13) (v := 0) dX4_has_13 (by decide) ?_
    exact r_ireturn (pc := 14) dX4_has_14 rfl rfl h
  · refine r_iconst (pc := 9) (v := 1) dX4_has_9 (by decide) ?_
    refine r_goto (pc := 10) (tgt := 14) dX4_has_10 (by decide) ?_
    exact r_ireturn (pc := 14) dX4_has_14 rfl rfl h
theorem sX4_holds {a0 : Int64} {a2 : Int32} {st : Mem} {fin : Int32 × Mem} (h : fX4_holds a0 a2 st = some fin) : Con yX4_holds 6 [vj a0, vi a2] st trI fin := by
  refine Con.mk (cc := cX4_holds) (n := 3) (own := "HouseClapsModel") (nm := "holds") (ret := (some .boolean)) (env := [(0, vj a0), (2, vi a2)]) q2054 rfl rfl rfl (by decide) ⟨Nat.le_of_ble_eq_true rfl, by decide⟩ rfl ?_
  unfold fX4_holds at h
  refine r_lload_n (pc := 0) dX4_holds_0 0 rfl rfl ?_
  refine r_iload_n (pc := 1) dX4_holds_1 1 rfl rfl ?_
  refine r_lshr (pc := 2) dX4_holds_2 ?_
  refine r_lconst (pc := 3) (v := 1) dX4_holds_3 (by decide) ?_
  refine r_land (pc := 4) dX4_holds_4 ?_
  refine r_lconst (pc := 5) (v := 1) dX4_holds_5 (by decide) ?_
  refine r_lcmp_ne (pc := 6) (tgt := 14) dX4_holds_6 dX4_holds_7 (by decide) h (fun e7 h => ?_) (fun e7 h => ?_)
  · refine r_iconst (pc := 14) (v := 0) dX4_holds_14 (by decide) ?_
    exact r_ireturn (pc := 15) dX4_holds_15 rfl rfl h
  · refine r_iconst (pc := 10) (v := 1) dX4_holds_10 (by decide) ?_
    refine r_goto (pc := 11) (tgt := 15) dX4_holds_11 (by decide) ?_
    exact r_ireturn (pc := 15) dX4_holds_15 rfl rfl h
theorem sX4_isDigit_16 {st0 : Mem} {fin : Int32 × Mem} (st : Mem) (h : bX4_isDigit_16  st = some fin) : G (cX4_isDigit, "HouseClapsModel", "isDigit", 6, (some .boolean), 1) st0 trI fin 16 [] [] st := by
  unfold bX4_isDigit_16 at h
  refine r_iconst (pc := 16) (v := 0) dX4_isDigit_16 (by decide) ?_
  exact r_ireturn (pc := 17) dX4_isDigit_17 rfl rfl h
theorem sX4_isDigit {a0 : Int32} {st : Mem} {fin : Int32 × Mem} (h : fX4_isDigit a0 st = some fin) : Con yX4_isDigit 6 [vi a0] st trI fin := by
  refine Con.mk (cc := cX4_isDigit) (n := 1) (own := "HouseClapsModel") (nm := "isDigit") (ret := (some .boolean)) (env := [(0, vi a0)]) q1927 rfl rfl rfl (by decide) ⟨Nat.le_of_ble_eq_true rfl, by decide⟩ rfl ?_
  unfold fX4_isDigit at h
  refine r_iload_n (pc := 0) dX4_isDigit_0 0 rfl rfl ?_
  refine r_bipush (pc := 1) (v := 48) dX4_isDigit_1 (by decide) ?_
  refine r_icmp_lt (pc := 3) (tgt := 16) dX4_isDigit_3 (by decide) h (fun e3 h => ?_) (fun e3 h => ?_)
  · exact r_sub (env' := []) [] rfl (sX4_isDigit_16 _ h)
  · refine r_iload_n (pc := 6) dX4_isDigit_6 0 rfl rfl ?_
    refine r_bipush (pc := 7) (v := 57) dX4_isDigit_7 (by decide) ?_
    refine r_icmp_gt (pc := 9) (tgt := 16) dX4_isDigit_9 (by decide) h (fun e9 h => ?_) (fun e9 h => ?_)
    · exact r_sub (env' := []) [] rfl (sX4_isDigit_16 _ h)
    · refine r_iconst (pc := 12) (v := 1) dX4_isDigit_12 (by decide) ?_
      refine r_goto (pc := 13) (tgt := 17) dX4_isDigit_13 (by decide) ?_
      exact r_ireturn (pc := 17) dX4_isDigit_17 rfl rfl h
theorem sX4_isIn_14 {st0 : Mem} {fin : Int32 × Mem} (st : Mem) (h : bX4_isIn_14  st = some fin) : G (cX4_isIn, "HouseClapsModel", "isIn", 6, (some .boolean), 3) st0 trI fin 14 [] [] st := by
  unfold bX4_isIn_14 at h
  refine r_iconst (pc := 14) (v := 0) dX4_isIn_14 (by decide) ?_
  exact r_ireturn (pc := 15) dX4_isIn_15 rfl rfl h
theorem sX4_isIn {a0 : Int32} {a1 : Int32} {a2 : Int32} {st : Mem} {fin : Int32 × Mem} (h : fX4_isIn a0 a1 a2 st = some fin) : Con yX4_isIn 6 [vi a0, vi a1, vi a2] st trI fin := by
  refine Con.mk (cc := cX4_isIn) (n := 3) (own := "HouseClapsModel") (nm := "isIn") (ret := (some .boolean)) (env := [(0, vi a0), (1, vi a1), (2, vi a2)]) q1951 rfl rfl rfl (by decide) ⟨Nat.le_of_ble_eq_true rfl, by decide⟩ rfl ?_
  unfold fX4_isIn at h
  refine r_iload_n (pc := 0) dX4_isIn_0 0 rfl rfl ?_
  refine r_iload_n (pc := 1) dX4_isIn_1 1 rfl rfl ?_
  refine r_icmp_lt (pc := 2) (tgt := 14) dX4_isIn_2 (by decide) h (fun e2 h => ?_) (fun e2 h => ?_)
  · exact r_sub (env' := []) [] rfl (sX4_isIn_14 _ h)
  · refine r_iload_n (pc := 5) dX4_isIn_5 0 rfl rfl ?_
    refine r_iload_n (pc := 6) dX4_isIn_6 2 rfl rfl ?_
    refine r_icmp_gt (pc := 7) (tgt := 14) dX4_isIn_7 (by decide) h (fun e7 h => ?_) (fun e7 h => ?_)
    · exact r_sub (env' := []) [] rfl (sX4_isIn_14 _ h)
    · refine r_iconst (pc := 10) (v := 1) dX4_isIn_10 (by decide) ?_
      refine r_goto (pc := 11) (tgt := 15) dX4_isIn_11 (by decide) ?_
      exact r_ireturn (pc := 15) dX4_isIn_15 rfl rfl h
theorem sX4_isOpen_2B {st0 : Mem} {fin : Int32 × Mem} {kk2 : Rf → Int32 → Mem → Option (Int32 × Mem)} (hk2 : ∀ (v0 : Rf) (v1 : Int32) (st : Mem), kk2 v0 v1 st = some fin → G (cX4_isOpen, "HouseClapsModel", "isOpen", 6, (some .boolean), 2) st0 trI fin 2 [(0, vr v0), (1, vi v1)] [] st) (v0 : Rf) (v1 : Int32) (st : Mem) (h : bX4_isOpen_2B kk2 v0 v1 st = some fin) : G (cX4_isOpen, "HouseClapsModel", "isOpen", 6, (some .boolean), 2) st0 trI fin 2 [(0, vr v0), (1, vi v1)] [] st := by
  unfold bX4_isOpen_2B at h
  refine r_iload_n (pc := 2) dX4_isOpen_2 1 rfl rfl ?_
  refine r_aload_n (pc := 3) dX4_isOpen_3 0 rfl rfl ?_
  refine r_gI (pc := 4) dX4_isOpen_4 q1725 fd_82 same_rf h (fun x4 e4 h => ?_)
  refine r_icmp_ge (pc := 7) (tgt := 29) dX4_isOpen_7 (by decide) h (fun e7 h => ?_) (fun e7 h => ?_)
  · refine r_iconst (pc := 29) (v := 0) dX4_isOpen_29 (by decide) ?_
    exact r_ireturn (pc := 30) dX4_isOpen_30 rfl rfl h
  · refine r_aload_n (pc := 10) dX4_isOpen_10 0 rfl rfl ?_
    refine r_gA (pc := 11) dX4_isOpen_11 q1722 fd_79 same_rf h (fun x11 e11 h => ?_)
    refine r_iload_n (pc := 14) dX4_isOpen_14 1 rfl rfl ?_
    refine r_iaload (pc := 15) dX4_isOpen_15 h (fun x15 e15 h => ?_)
    refine r_bipush (pc := 16) (v := 6) dX4_isOpen_16 (by decide) ?_
    refine r_icmp_ne (pc := 18) (tgt := 23) dX4_isOpen_18 (by decide) h (fun e18 h => ?_) (fun e18 h => ?_)
    · refine r_iinc (pc := 23) (env' := [(1, vi (v1 + 1)), (0, vr v0)]) (cst := 1) dX4_isOpen_23 1 rfl (by decide) (by decide) rfl ?_
      refine r_goto (pc := 26) (tgt := 2) dX4_isOpen_26 (by decide) ?_
      exact r_sub (env' := [(0, vr v0), (1, vi (v1 + 1))]) [1, 0] rfl (hk2 _ _ _ h)
    · refine r_iconst (pc := 21) (v := 1) dX4_isOpen_21 (by decide) ?_
      exact r_ireturn (pc := 22) dX4_isOpen_22 rfl rfl h
theorem sX4_isOpen_2 {st0 : Mem} {fin : Int32 × Mem} (n : Nat) : ∀ (v0 : Rf) (v1 : Int32) (st : Mem), bX4_isOpen_2 n v0 v1 st = some fin → G (cX4_isOpen, "HouseClapsModel", "isOpen", 6, (some .boolean), 2) st0 trI fin 2 [(0, vr v0), (1, vi v1)] [] st := by
  induction n with
  | zero => intro v0 v1 st h; cases h
  | succ n ih => intro v0 v1 st h; exact sX4_isOpen_2B  ih v0 v1 st h
theorem sX4_isOpen {a0 : Rf} {st : Mem} {fin : Int32 × Mem} (h : fX4_isOpen a0 st = some fin) : Con yX4_isOpen 6 [vr a0] st trI fin := by
  refine Con.mk (cc := cX4_isOpen) (n := 2) (own := "HouseClapsModel") (nm := "isOpen") (ret := (some .boolean)) (env := [(0, vr a0)]) q2008 rfl rfl rfl (by decide) ⟨Nat.le_of_ble_eq_true rfl, by decide⟩ rfl ?_
  unfold fX4_isOpen at h
  refine r_iconst (pc := 0) (v := 0) dX4_isOpen_0 (by decide) ?_
  refine r_istore_n (pc := 1) (env' := [(1, vi (0 : Int32)), (0, vr a0)]) dX4_isOpen_1 rfl (by decide) rfl ?_
  exact r_sub (env' := [(0, vr a0), (1, vi (0 : Int32))]) [1, 0] rfl (sX4_isOpen_2 hcFuel _ _ _ h)
theorem sX4_isSign_20 {st0 : Mem} {fin : Int32 × Mem} (st : Mem) (h : bX4_isSign_20  st = some fin) : G (cX4_isSign, "HouseClapsModel", "isSign", 6, (some .boolean), 2) st0 trI fin 20 [] [] st := by
  unfold bX4_isSign_20 at h
  refine r_iconst (pc := 20) (v := 0) dX4_isSign_20 (by decide) ?_
  exact r_ireturn (pc := 21) dX4_isSign_21 rfl rfl h
theorem sX4_isSign {a0 : Rf} {a1 : Int32} {st : Mem} {fin : Int32 × Mem} (h : fX4_isSign a0 a1 st = some fin) : Con yX4_isSign 6 [vr a0, vi a1] st trI fin := by
  refine Con.mk (cc := cX4_isSign) (n := 2) (own := "HouseClapsModel") (nm := "isSign") (ret := (some .boolean)) (env := [(0, vr a0), (1, vi a1)]) q1981 rfl rfl rfl (by decide) ⟨Nat.le_of_ble_eq_true rfl, by decide⟩ rfl ?_
  unfold fX4_isSign at h
  refine r_aload_n (pc := 0) dX4_isSign_0 0 rfl rfl ?_
  refine r_gI (pc := 1) dX4_isSign_1 q1707 fd_64 same_rf h (fun x1 e1 h => ?_)
  refine r_iconst (pc := 4) (v := 3) dX4_isSign_4 (by decide) ?_
  refine r_icmp_ne (pc := 5) (tgt := 20) dX4_isSign_5 (by decide) h (fun e5 h => ?_) (fun e5 h => ?_)
  · exact r_sub (env' := []) [] rfl (sX4_isSign_20 _ h)
  · refine r_aload_n (pc := 8) dX4_isSign_8 0 rfl rfl ?_
    refine r_gI (pc := 9) dX4_isSign_9 q1710 fd_67 same_rf h (fun x9 e9 h => ?_)
    refine r_iload_n (pc := 12) dX4_isSign_12 1 rfl rfl ?_
    refine r_icmp_ne (pc := 13) (tgt := 20) dX4_isSign_13 (by decide) h (fun e13 h => ?_) (fun e13 h => ?_)
    · exact r_sub (env' := []) [] rfl (sX4_isSign_20 _ h)
    · refine r_iconst (pc := 16) (v := 1) dX4_isSign_16 (by decide) ?_
      refine r_goto (pc := 17) (tgt := 21) dX4_isSign_17 (by decide) ?_
      exact r_ireturn (pc := 21) dX4_isSign_21 rfl rfl h
theorem sX4_isSmall_16 {st0 : Mem} {fin : Int32 × Mem} (st : Mem) (h : bX4_isSmall_16  st = some fin) : G (cX4_isSmall, "HouseClapsModel", "isSmall", 6, (some .boolean), 1) st0 trI fin 16 [] [] st := by
  unfold bX4_isSmall_16 at h
  refine r_iconst (pc := 16) (v := 0) dX4_isSmall_16 (by decide) ?_
  exact r_ireturn (pc := 17) dX4_isSmall_17 rfl rfl h
theorem sX4_isSmall {a0 : Int32} {st : Mem} {fin : Int32 × Mem} (h : fX4_isSmall a0 st = some fin) : Con yX4_isSmall 6 [vi a0] st trI fin := by
  refine Con.mk (cc := cX4_isSmall) (n := 1) (own := "HouseClapsModel") (nm := "isSmall") (ret := (some .boolean)) (env := [(0, vi a0)]) q1924 rfl rfl rfl (by decide) ⟨Nat.le_of_ble_eq_true rfl, by decide⟩ rfl ?_
  unfold fX4_isSmall at h
  refine r_iload_n (pc := 0) dX4_isSmall_0 0 rfl rfl ?_
  refine r_bipush (pc := 1) (v := 97) dX4_isSmall_1 (by decide) ?_
  refine r_icmp_lt (pc := 3) (tgt := 16) dX4_isSmall_3 (by decide) h (fun e3 h => ?_) (fun e3 h => ?_)
  · exact r_sub (env' := []) [] rfl (sX4_isSmall_16 _ h)
  · refine r_iload_n (pc := 6) dX4_isSmall_6 0 rfl rfl ?_
    refine r_bipush (pc := 7) (v := 122) dX4_isSmall_7 (by decide) ?_
    refine r_icmp_gt (pc := 9) (tgt := 16) dX4_isSmall_9 (by decide) h (fun e9 h => ?_) (fun e9 h => ?_)
    · exact r_sub (env' := []) [] rfl (sX4_isSmall_16 _ h)
    · refine r_iconst (pc := 12) (v := 1) dX4_isSmall_12 (by decide) ?_
      refine r_goto (pc := 13) (tgt := 17) dX4_isSmall_13 (by decide) ?_
      exact r_ireturn (pc := 17) dX4_isSmall_17 rfl rfl h
theorem sX4_isWord_21 {st0 : Mem} {fin : Int32 × Mem} (st : Mem) (h : bX4_isWord_21  st = some fin) : G (cX4_isWord, "HouseClapsModel", "isWord", 6, (some .boolean), 3) st0 trI fin 21 [] [] st := by
  unfold bX4_isWord_21 at h
  refine r_iconst (pc := 21) (v := 0) dX4_isWord_21 (by decide) ?_
  exact r_ireturn (pc := 22) dX4_isWord_22 rfl rfl h
theorem sX4_isWord {a0 : Rf} {a1 : Int64} {st : Mem} {fin : Int32 × Mem} (h : fX4_isWord a0 a1 st = some fin) : Con yX4_isWord 6 [vr a0, vj a1] st trI fin := by
  refine Con.mk (cc := cX4_isWord) (n := 3) (own := "HouseClapsModel") (nm := "isWord") (ret := (some .boolean)) (env := [(0, vr a0), (1, vj a1)]) q1936 rfl rfl rfl (by decide) ⟨Nat.le_of_ble_eq_true rfl, by decide⟩ rfl ?_
  unfold fX4_isWord at h
  refine r_aload_n (pc := 0) dX4_isWord_0 0 rfl rfl ?_
  refine r_gI (pc := 1) dX4_isWord_1 q1707 fd_64 same_rf h (fun x1 e1 h => ?_)
  refine r_iconst (pc := 4) (v := 1) dX4_isWord_4 (by decide) ?_
  refine r_icmp_ne (pc := 5) (tgt := 21) dX4_isWord_5 (by decide) h (fun e5 h => ?_) (fun e5 h => ?_)
  · exact r_sub (env' := []) [] rfl (sX4_isWord_21 _ h)
  · refine r_aload_n (pc := 8) dX4_isWord_8 0 rfl rfl ?_
    refine r_gJ (pc := 9) dX4_isWord_9 q1713 fd_70 same_rf h (fun x9 e9 h => ?_)
    refine r_lload_n (pc := 12) dX4_isWord_12 1 rfl rfl ?_
    refine r_lcmp_ne (pc := 13) (tgt := 21) dX4_isWord_13 dX4_isWord_14 (by decide) h (fun e14 h => ?_) (fun e14 h => ?_)
    · exact r_sub (env' := []) [] rfl (sX4_isWord_21 _ h)
    · refine r_iconst (pc := 17) (v := 1) dX4_isWord_17 (by decide) ?_
      refine r_goto (pc := 18) (tgt := 22) dX4_isWord_18 (by decide) ?_
      exact r_ireturn (pc := 22) dX4_isWord_22 rfl rfl h
theorem sX4_octet {a0 : Rf} {a1 : Int32} {st : Mem} {fin : Int32 × Mem} (h : fX4_octet a0 a1 st = some fin) : Con yX4_octet 6 [vr a0, vi a1] st trI fin := by
  refine Con.mk (cc := cX4_octet) (n := 2) (own := "HouseClapsModel") (nm := "octet") (ret := (some .int)) (env := [(0, vr a0), (1, vi a1)]) q1948 rfl rfl rfl (by decide) ⟨Nat.le_of_ble_eq_true rfl, by decide⟩ rfl ?_
  unfold fX4_octet at h
  refine r_aload_n (pc := 0) dX4_octet_0 0 rfl rfl ?_
  refine r_gA (pc := 1) dX4_octet_1 q1699 fd_56 same_rf h (fun x1 e1 h => ?_)
  refine r_iload_n (pc := 4) dX4_octet_4 1 rfl rfl ?_
  refine r_baload (pc := 5) dX4_octet_5 h (fun x5 e5 h => ?_)
  refine r_sipush (pc := 6) (v := 255) dX4_octet_6 (by decide) ?_
  refine r_iand (pc := 9) dX4_octet_9 ?_
  exact r_ireturn (pc := 10) dX4_octet_10 rfl rfl h
theorem sX4_opened_39 {st0 : Mem} {fin : Int32 × Mem} {kk4 : Rf → Int32 → Int32 → Mem → Option (Int32 × Mem)} (hk4 : ∀ (v0 : Rf) (v1 : Int32) (v2 : Int32) (st : Mem), kk4 v0 v1 v2 st = some fin → G (cX4_opened, "HouseClapsModel", "opened", 6, (some .int), 3) st0 trI fin 4 [(0, vr v0), (1, vi v1), (2, vi v2)] [] st) (v0 : Rf) (v2 : Int32) (k0 : Int32) (k1 : Int32) (st : Mem) (h : bX4_opened_39 kk4 v0 v2 k0 k1 st = some fin) : G (cX4_opened, "HouseClapsModel", "opened", 6, (some .int), 3) st0 trI fin 39 [(0, vr v0), (2, vi v2)] [vi k1, vi k0] st := by
  unfold bX4_opened_39 at h
  refine r_iadd (pc := 39) dX4_opened_39 ?_
  refine r_istore_n (pc := 40) (env' := [(1, vi (k0 + k1)), (0, vr v0), (2, vi v2)]) dX4_opened_40 rfl (by decide) rfl ?_
  refine r_iinc (pc := 41) (env' := [(2, vi (v2 + 1)), (1, vi (k0 + k1)), (0, vr v0)]) (cst := 1) dX4_opened_41 2 rfl (by decide) (by decide) rfl ?_
  refine r_goto (pc := 44) (tgt := 4) dX4_opened_44 (by decide) ?_
  exact r_sub (env' := [(0, vr v0), (1, vi (k0 + k1)), (2, vi (v2 + 1))]) [2, 1, 0] rfl (hk4 _ _ _ _ h)
theorem sX4_opened_34 {st0 : Mem} {fin : Int32 × Mem} {kk4 : Rf → Int32 → Int32 → Mem → Option (Int32 × Mem)} (hk4 : ∀ (v0 : Rf) (v1 : Int32) (v2 : Int32) (st : Mem), kk4 v0 v1 v2 st = some fin → G (cX4_opened, "HouseClapsModel", "opened", 6, (some .int), 3) st0 trI fin 4 [(0, vr v0), (1, vi v1), (2, vi v2)] [] st) (v0 : Rf) (v2 : Int32) (k0 : Int32) (st : Mem) (h : bX4_opened_34 kk4 v0 v2 k0 st = some fin) : G (cX4_opened, "HouseClapsModel", "opened", 6, (some .int), 3) st0 trI fin 34 [(0, vr v0), (2, vi v2)] [vi k0] st := by
  unfold bX4_opened_34 at h
  refine r_iconst (pc := 34) (v := 1) dX4_opened_34 (by decide) ?_
  refine r_goto (pc := 35) (tgt := 39) dX4_opened_35 (by decide) ?_
  exact sX4_opened_39 hk4 _ _ _ _ _ h
theorem sX4_opened_4B {st0 : Mem} {fin : Int32 × Mem} {kk4 : Rf → Int32 → Int32 → Mem → Option (Int32 × Mem)} (hk4 : ∀ (v0 : Rf) (v1 : Int32) (v2 : Int32) (st : Mem), kk4 v0 v1 v2 st = some fin → G (cX4_opened, "HouseClapsModel", "opened", 6, (some .int), 3) st0 trI fin 4 [(0, vr v0), (1, vi v1), (2, vi v2)] [] st) (v0 : Rf) (v1 : Int32) (v2 : Int32) (st : Mem) (h : bX4_opened_4B kk4 v0 v1 v2 st = some fin) : G (cX4_opened, "HouseClapsModel", "opened", 6, (some .int), 3) st0 trI fin 4 [(0, vr v0), (1, vi v1), (2, vi v2)] [] st := by
  unfold bX4_opened_4B at h
  refine r_iload_n (pc := 4) dX4_opened_4 2 rfl rfl ?_
  refine r_aload_n (pc := 5) dX4_opened_5 0 rfl rfl ?_
  refine r_gI (pc := 6) dX4_opened_6 q1725 fd_82 same_rf h (fun x6 e6 h => ?_)
  refine r_icmp_ge (pc := 9) (tgt := 47) dX4_opened_9 (by decide) h (fun e9 h => ?_) (fun e9 h => ?_)
  · refine r_iload_n (pc := 47) dX4_opened_47 1 rfl rfl ?_
    exact r_ireturn (pc := 48) dX4_opened_48 rfl rfl h
  · refine r_iload_n (pc := 12) dX4_opened_12 1 rfl rfl ?_
    refine r_aload_n (pc := 13) dX4_opened_13 0 rfl rfl ?_
    refine r_gA (pc := 14) dX4_opened_14 q1722 fd_79 same_rf h (fun x14 e14 h => ?_)
    refine r_iload_n (pc := 17) dX4_opened_17 2 rfl rfl ?_
    refine r_iaload (pc := 18) dX4_opened_18 h (fun x18 e18 h => ?_)
    refine r_iconst (pc := 19) (v := 3) dX4_opened_19 (by decide) ?_
    refine r_icmp_eq (pc := 20) (tgt := 34) dX4_opened_20 (by decide) h (fun e20 h => ?_) (fun e20 h => ?_)
    · exact r_sub (env' := [(0, vr v0), (2, vi v2)]) [0, 2] rfl (sX4_opened_34 hk4 _ _ _ _ h)
    · refine r_aload_n (pc := 23) dX4_opened_23 0 rfl rfl ?_
      refine r_gA (pc := 24) dX4_opened_24 q1722 fd_79 same_rf h (fun x24 e24 h => ?_)
      refine r_iload_n (pc := 27) dX4_opened_27 2 rfl rfl ?_
      refine r_iaload (pc := 28) dX4_opened_28 h (fun x28 e28 h => ?_)
      refine r_bipush (pc := 29) (v := 6) dX4_opened_29 (by decide) ?_
      refine r_icmp_ne (pc := 31) (tgt := 38) dX4_opened_31 (by decide) h (fun e31 h => ?_) (fun e31 h => ?_)
      · refine r_iconst (pc := 38) (v := 0) dX4_opened_38 (by decide) ?_
        exact r_sub (env' := [(0, vr v0), (2, vi v2)]) [0, 2] rfl (sX4_opened_39 hk4 _ _ _ _ _ h)
      · exact r_sub (env' := [(0, vr v0), (2, vi v2)]) [0, 2] rfl (sX4_opened_34 hk4 _ _ _ _ h)
theorem sX4_opened_4 {st0 : Mem} {fin : Int32 × Mem} (n : Nat) : ∀ (v0 : Rf) (v1 : Int32) (v2 : Int32) (st : Mem), bX4_opened_4 n v0 v1 v2 st = some fin → G (cX4_opened, "HouseClapsModel", "opened", 6, (some .int), 3) st0 trI fin 4 [(0, vr v0), (1, vi v1), (2, vi v2)] [] st := by
  induction n with
  | zero => intro v0 v1 v2 st h; cases h
  | succ n ih => intro v0 v1 v2 st h; exact sX4_opened_4B  ih v0 v1 v2 st h
theorem sX4_opened {a0 : Rf} {st : Mem} {fin : Int32 × Mem} (h : fX4_opened a0 st = some fin) : Con yX4_opened 6 [vr a0] st trI fin := by
  refine Con.mk (cc := cX4_opened) (n := 3) (own := "HouseClapsModel") (nm := "opened") (ret := (some .int)) (env := [(0, vr a0)]) q1985 rfl rfl rfl (by decide) ⟨Nat.le_of_ble_eq_true rfl, by decide⟩ rfl ?_
  unfold fX4_opened at h
  refine r_iconst (pc := 0) (v := 0) dX4_opened_0 (by decide) ?_
  refine r_istore_n (pc := 1) (env' := [(1, vi (0 : Int32)), (0, vr a0)]) dX4_opened_1 rfl (by decide) rfl ?_
  refine r_iconst (pc := 2) (v := 0) dX4_opened_2 (by decide) ?_
  refine r_istore_n (pc := 3) (env' := [(2, vi (0 : Int32)), (1, vi (0 : Int32)), (0, vr a0)]) dX4_opened_3 rfl (by decide) rfl ?_
  exact r_sub (env' := [(0, vr a0), (1, vi (0 : Int32)), (2, vi (0 : Int32))]) [2, 1, 0] rfl (sX4_opened_4 hcFuel _ _ _ _ h)
theorem sX4_orders_4B {st0 : Mem} {fin : Int64 × Mem} {kk4 : Int32 → Int64 → Int32 → Mem → Option (Int64 × Mem)} (hk4 : ∀ (v0 : Int32) (v1 : Int64) (v3 : Int32) (st : Mem), kk4 v0 v1 v3 st = some fin → G (cX4_orders, "HouseClapsModel", "orders", 6, (some .long), 4) st0 trJ fin 4 [(0, vi v0), (1, vj v1), (3, vi v3)] [] st) (v0 : Int32) (v1 : Int64) (v3 : Int32) (st : Mem) (h : bX4_orders_4B kk4 v0 v1 v3 st = some fin) : G (cX4_orders, "HouseClapsModel", "orders", 6, (some .long), 4) st0 trJ fin 4 [(0, vi v0), (1, vj v1), (3, vi v3)] [] st := by
  unfold bX4_orders_4B at h
  refine r_iload_n (pc := 4) dX4_orders_4 2 rfl rfl ?_
  refine r_iload_n (pc := 5) dX4_orders_5 0 rfl rfl ?_
  refine r_icmp_gt (pc := 6) (tgt := 20) dX4_orders_6 (by decide) h (fun e6 h => ?_) (fun e6 h => ?_)
  · refine r_lload_n (pc := 20) dX4_orders_20 1 rfl rfl ?_
    exact r_lreturn (pc := 21) dX4_orders_21 rfl h
  · refine r_lload_n (pc := 9) dX4_orders_9 1 rfl rfl ?_
    refine r_iload_n (pc := 10) dX4_orders_10 2 rfl rfl ?_
    refine r_i2l (pc := 11) dX4_orders_11 ?_
    refine r_lmul (pc := 12) dX4_orders_12 ?_
    refine r_nameJ h (fun y13 e13 h => ?_)
    refine r_lstore_n (pc := 13) (env' := [(1, vj y13), (0, vi v0), (3, vi v3)]) dX4_orders_13 rfl (by decide) rfl ?_
    refine r_iinc (pc := 14) (env' := [(3, vi (v3 + 1)), (1, vj y13), (0, vi v0)]) (cst := 1) dX4_orders_14 2 rfl (by decide) (by decide) rfl ?_
    refine r_goto (pc := 17) (tgt := 4) dX4_orders_17 (by decide) ?_
    exact r_sub (env' := [(0, vi v0), (1, vj y13), (3, vi (v3 + 1))]) [2, 1, 0] rfl (hk4 _ _ _ _ h)
theorem sX4_orders_4 {st0 : Mem} {fin : Int64 × Mem} (n : Nat) : ∀ (v0 : Int32) (v1 : Int64) (v3 : Int32) (st : Mem), bX4_orders_4 n v0 v1 v3 st = some fin → G (cX4_orders, "HouseClapsModel", "orders", 6, (some .long), 4) st0 trJ fin 4 [(0, vi v0), (1, vj v1), (3, vi v3)] [] st := by
  induction n with
  | zero => intro v0 v1 v3 st h; cases h
  | succ n ih => intro v0 v1 v3 st h; exact sX4_orders_4B  ih v0 v1 v3 st h
theorem sX4_orders {a0 : Int32} {st : Mem} {fin : Int64 × Mem} (h : fX4_orders a0 st = some fin) : Con yX4_orders 6 [vi a0] st trJ fin := by
  refine Con.mk (cc := cX4_orders) (n := 4) (own := "HouseClapsModel") (nm := "orders") (ret := (some .long)) (env := [(0, vi a0)]) q2222 rfl rfl rfl (by decide) ⟨Nat.le_of_ble_eq_true rfl, by decide⟩ rfl ?_
  unfold fX4_orders at h
  refine r_lconst (pc := 0) (v := 1) dX4_orders_0 (by decide) ?_
  refine r_lstore_n (pc := 1) (env' := [(1, vj (1 : Int64)), (0, vi a0)]) dX4_orders_1 rfl (by decide) rfl ?_
  refine r_iconst (pc := 2) (v := 2) dX4_orders_2 (by decide) ?_
  refine r_istore_n (pc := 3) (env' := [(3, vi (2 : Int32)), (1, vj (1 : Int64)), (0, vi a0)]) dX4_orders_3 rfl (by decide) rfl ?_
  exact r_sub (env' := [(0, vi a0), (1, vj (1 : Int64)), (3, vi (2 : Int32))]) [2, 1, 0] rfl (sX4_orders_4 hcFuel _ _ _ _ h)
theorem sX4_peek {a0 : Rf} {st : Mem} {fin : Int32 × Mem} (h : fX4_peek a0 st = some fin) : Con yX4_peek 6 [vr a0] st trI fin := by
  refine Con.mk (cc := cX4_peek) (n := 1) (own := "HouseClapsModel") (nm := "peek") (ret := (some .int)) (env := [(0, vr a0)]) q1921 rfl rfl rfl (by decide) ⟨Nat.le_of_ble_eq_true rfl, by decide⟩ rfl ?_
  unfold fX4_peek at h
  refine r_aload_n (pc := 0) dX4_peek_0 0 rfl rfl ?_
  refine r_gI (pc := 1) dX4_peek_1 q1702 fd_59 same_rf h (fun x1 e1 h => ?_)
  refine r_aload_n (pc := 4) dX4_peek_4 0 rfl rfl ?_
  refine r_gI (pc := 5) dX4_peek_5 q1701 fd_58 same_rf h (fun x5 e5 h => ?_)
  refine r_icmp_ge (pc := 8) (tgt := 27) dX4_peek_8 (by decide) h (fun e8 h => ?_) (fun e8 h => ?_)
  · refine r_iconst (pc := 27) (v := (-1)) dX4_peek_27 (by decide) ?_
    exact r_ireturn (pc := 28) dX4_peek_28 rfl rfl h
  · refine r_aload_n (pc := 11) dX4_peek_11 0 rfl rfl ?_
    refine r_gA (pc := 12) dX4_peek_12 q1699 fd_56 same_rf h (fun x12 e12 h => ?_)
    refine r_aload_n (pc := 15) dX4_peek_15 0 rfl rfl ?_
    refine r_gI (pc := 16) dX4_peek_16 q1702 fd_59 same_rf h (fun x16 e16 h => ?_)
    refine r_baload (pc := 19) dX4_peek_19 h (fun x19 e19 h => ?_)
    refine r_sipush (pc := 20) (v := 255) dX4_peek_20 (by decide) ?_
    refine r_iand (pc := 23) dX4_peek_23 ?_
    refine r_goto (pc := 24) (tgt := 28) dX4_peek_24 (by decide) ?_
    exact r_ireturn (pc := 28) dX4_peek_28 rfl rfl h
theorem sX4_plainHouse_24B {st0 : Mem} {fin : Unit × Mem} {kk24 : Rf → Int32 → Mem → Option (Unit × Mem)} (hk24 : ∀ (v0 : Rf) (v1 : Int32) (st : Mem), kk24 v0 v1 st = some fin → G (cX4_plainHouse, "HouseClapsModel", "plainHouse", 6, none, 2) st0 trV fin 24 [(0, vr v0), (1, vi v1)] [] st) (v0 : Rf) (v1 : Int32) (st : Mem) (h : bX4_plainHouse_24B kk24 v0 v1 st = some fin) : G (cX4_plainHouse, "HouseClapsModel", "plainHouse", 6, none, 2) st0 trV fin 24 [(0, vr v0), (1, vi v1)] [] st := by
  unfold bX4_plainHouse_24B at h
  refine r_iload_n (pc := 24) dX4_plainHouse_24 1 rfl rfl ?_
  refine r_bipush (pc := 25) (v := 8) dX4_plainHouse_25 (by decide) ?_
  refine r_icmp_ge (pc := 27) (tgt := 47) dX4_plainHouse_27 (by decide) h (fun e27 h => ?_) (fun e27 h => ?_)
  · refine r_aload_n (pc := 47) dX4_plainHouse_47 0 rfl rfl ?_
    refine r_gA (pc := 48) dX4_plainHouse_48 q1705 fd_62 same_rf h (fun x48 e48 h => ?_)
    refine r_iconst (pc := 51) (v := 3) dX4_plainHouse_51 (by decide) ?_
    refine r_iconst (pc := 52) (v := 1) dX4_plainHouse_52 (by decide) ?_
    refine r_iastore (pc := 53) dX4_plainHouse_53 h (fun st e53 h => ?_)
    refine r_aload_n (pc := 54) dX4_plainHouse_54 0 rfl rfl ?_
    refine r_gA (pc := 55) dX4_plainHouse_55 q1705 fd_62 same_rf h (fun x55 e55 h => ?_)
    refine r_iconst (pc := 58) (v := 4) dX4_plainHouse_58 (by decide) ?_
    refine r_sipush (pc := 59) (v := 600) dX4_plainHouse_59 (by decide) ?_
    refine r_iastore (pc := 62) dX4_plainHouse_62 h (fun st e62 h => ?_)
    exact r_return_ (pc := 63) dX4_plainHouse_63 rfl h
  · refine r_aload_n (pc := 30) dX4_plainHouse_30 0 rfl rfl ?_
    refine r_gA (pc := 31) dX4_plainHouse_31 q1705 fd_62 same_rf h (fun x31 e31 h => ?_)
    refine r_bipush (pc := 34) (v := 70) dX4_plainHouse_34 (by decide) ?_
    refine r_iload_n (pc := 36) dX4_plainHouse_36 1 rfl rfl ?_
    refine r_iadd (pc := 37) dX4_plainHouse_37 ?_
    refine r_bipush (pc := 38) (v := 10) dX4_plainHouse_38 (by decide) ?_
    refine r_iastore (pc := 40) dX4_plainHouse_40 h (fun st e40 h => ?_)
    refine r_iinc (pc := 41) (env' := [(1, vi (v1 + 1)), (0, vr v0)]) (cst := 1) dX4_plainHouse_41 1 rfl (by decide) (by decide) rfl ?_
    refine r_goto (pc := 44) (tgt := 24) dX4_plainHouse_44 (by decide) ?_
    exact r_sub (env' := [(0, vr v0), (1, vi (v1 + 1))]) [1, 0] rfl (hk24 _ _ _ h)
theorem sX4_plainHouse_24 {st0 : Mem} {fin : Unit × Mem} (n : Nat) : ∀ (v0 : Rf) (v1 : Int32) (st : Mem), bX4_plainHouse_24 n v0 v1 st = some fin → G (cX4_plainHouse, "HouseClapsModel", "plainHouse", 6, none, 2) st0 trV fin 24 [(0, vr v0), (1, vi v1)] [] st := by
  induction n with
  | zero => intro v0 v1 st h; cases h
  | succ n ih => intro v0 v1 st h; exact sX4_plainHouse_24B  ih v0 v1 st h
theorem sX4_plainHouse_2B {st0 : Mem} {fin : Unit × Mem} {kk2 : Rf → Int32 → Mem → Option (Unit × Mem)} (hk2 : ∀ (v0 : Rf) (v1 : Int32) (st : Mem), kk2 v0 v1 st = some fin → G (cX4_plainHouse, "HouseClapsModel", "plainHouse", 6, none, 2) st0 trV fin 2 [(0, vr v0), (1, vi v1)] [] st) (v0 : Rf) (v1 : Int32) (st : Mem) (h : bX4_plainHouse_2B kk2 v0 v1 st = some fin) : G (cX4_plainHouse, "HouseClapsModel", "plainHouse", 6, none, 2) st0 trV fin 2 [(0, vr v0), (1, vi v1)] [] st := by
  unfold bX4_plainHouse_2B at h
  refine r_iload_n (pc := 2) dX4_plainHouse_2 1 rfl rfl ?_
  refine r_sipush (pc := 3) (v := 590) dX4_plainHouse_3 (by decide) ?_
  refine r_icmp_ge (pc := 6) (tgt := 22) dX4_plainHouse_6 (by decide) h (fun e6 h => ?_) (fun e6 h => ?_)
  · refine r_iconst (pc := 22) (v := 0) dX4_plainHouse_22 (by decide) ?_
    refine r_istore_n (pc := 23) (env' := [(1, vi (0 : Int32)), (0, vr v0)]) dX4_plainHouse_23 rfl (by decide) rfl ?_
    exact r_sub (env' := [(0, vr v0), (1, vi (0 : Int32))]) [1, 0] rfl (sX4_plainHouse_24 hcFuel _ _ _ h)
  · refine r_aload_n (pc := 9) dX4_plainHouse_9 0 rfl rfl ?_
    refine r_gA (pc := 10) dX4_plainHouse_10 q1705 fd_62 same_rf h (fun x10 e10 h => ?_)
    refine r_iload_n (pc := 13) dX4_plainHouse_13 1 rfl rfl ?_
    refine r_iconst (pc := 14) (v := 0) dX4_plainHouse_14 (by decide) ?_
    refine r_iastore (pc := 15) dX4_plainHouse_15 h (fun st e15 h => ?_)
    refine r_iinc (pc := 16) (env' := [(1, vi (v1 + 1)), (0, vr v0)]) (cst := 1) dX4_plainHouse_16 1 rfl (by decide) (by decide) rfl ?_
    refine r_goto (pc := 19) (tgt := 2) dX4_plainHouse_19 (by decide) ?_
    exact r_sub (env' := [(0, vr v0), (1, vi (v1 + 1))]) [1, 0] rfl (hk2 _ _ _ h)
theorem sX4_plainHouse_2 {st0 : Mem} {fin : Unit × Mem} (n : Nat) : ∀ (v0 : Rf) (v1 : Int32) (st : Mem), bX4_plainHouse_2 n v0 v1 st = some fin → G (cX4_plainHouse, "HouseClapsModel", "plainHouse", 6, none, 2) st0 trV fin 2 [(0, vr v0), (1, vi v1)] [] st := by
  induction n with
  | zero => intro v0 v1 st h; cases h
  | succ n ih => intro v0 v1 st h; exact sX4_plainHouse_2B  ih v0 v1 st h
theorem sX4_plainHouse {a0 : Rf} {st : Mem} {fin : Unit × Mem} (h : fX4_plainHouse a0 st = some fin) : Con yX4_plainHouse 6 [vr a0] st trV fin := by
  refine Con.mk (cc := cX4_plainHouse) (n := 2) (own := "HouseClapsModel") (nm := "plainHouse") (ret := none) (env := [(0, vr a0)]) q1697 rfl rfl rfl (by decide) ⟨Nat.le_of_ble_eq_true rfl, by decide⟩ rfl ?_
  unfold fX4_plainHouse at h
  refine r_iconst (pc := 0) (v := 0) dX4_plainHouse_0 (by decide) ?_
  refine r_istore_n (pc := 1) (env' := [(1, vi (0 : Int32)), (0, vr a0)]) dX4_plainHouse_1 rfl (by decide) rfl ?_
  exact r_sub (env' := [(0, vr a0), (1, vi (0 : Int32))]) [1, 0] rfl (sX4_plainHouse_2 hcFuel _ _ _ h)
theorem sX4_price {a0 : Rf} {a1 : Int32} {st : Mem} {fin : Int32 × Mem} (h : fX4_price a0 a1 st = some fin) : Con yX4_price 6 [vr a0, vi a1] st trI fin := by
  refine Con.mk (cc := cX4_price) (n := 2) (own := "HouseClapsModel") (nm := "price") (ret := (some .int)) (env := [(0, vr a0), (1, vi a1)]) q2051 rfl rfl rfl (by decide) ⟨Nat.le_of_ble_eq_true rfl, by decide⟩ rfl ?_
  unfold fX4_price at h
  refine r_aload_n (pc := 0) dX4_price_0 0 rfl rfl ?_
  refine r_gA (pc := 1) dX4_price_1 q1704 fd_61 same_rf h (fun x1 e1 h => ?_)
  refine r_bipush (pc := 4) (v := 70) dX4_price_4 (by decide) ?_
  refine r_iload_n (pc := 6) dX4_price_6 1 rfl rfl ?_
  refine r_aload_n (pc := 7) dX4_price_7 0 rfl rfl ?_
  refine r_gA (pc := 8) dX4_price_8 q1704 fd_61 same_rf h (fun x8 e8 h => ?_)
  refine r_iconst (pc := 11) (v := 1) dX4_price_11 (by decide) ?_
  refine r_iaload (pc := 12) dX4_price_12 h (fun x12 e12 h => ?_)
  refine r_idiv (pc := 13) dX4_price_13 h (fun x13 e13 h => ?_)
  refine r_iadd (pc := 14) dX4_price_14 ?_
  refine r_iaload (pc := 15) dX4_price_15 h (fun x15 e15 h => ?_)
  exact r_ireturn (pc := 16) dX4_price_16 rfl rfl h
theorem sX4_taken {a0 : Rf} {a1 : Int32} {st : Mem} {fin : Unit × Mem} (h : fX4_taken a0 a1 st = some fin) : Con yX4_taken 6 [vr a0, vi a1] st trV fin := by
  refine Con.mk (cc := cX4_taken) (n := 2) (own := "HouseClapsModel") (nm := "taken") (ret := none) (env := [(0, vr a0), (1, vi a1)]) q1913 rfl rfl rfl (by decide) ⟨Nat.le_of_ble_eq_true rfl, by decide⟩ rfl ?_
  unfold fX4_taken at h
  refine r_aload_n (pc := 0) dX4_taken_0 0 rfl rfl ?_
  refine r_aload_n (pc := 1) dX4_taken_1 0 rfl rfl ?_
  refine r_gI (pc := 2) dX4_taken_2 q1700 fd_57 same_rf h (fun x2 e2 h => ?_)
  refine r_pI (pc := 5) dX4_taken_5 q1701 fd_58 same_rf rfl h (fun st e5 h => ?_)
  refine r_aload_n (pc := 8) dX4_taken_8 0 rfl rfl ?_
  refine r_iconst (pc := 9) (v := 0) dX4_taken_9 (by decide) ?_
  refine r_pI (pc := 10) dX4_taken_10 q1700 fd_57 same_rf rfl h (fun st e10 h => ?_)
  refine r_aload_n (pc := 13) dX4_taken_13 0 rfl rfl ?_
  refine r_iconst (pc := 14) (v := 0) dX4_taken_14 (by decide) ?_
  refine r_pI (pc := 15) dX4_taken_15 q1702 fd_59 same_rf rfl h (fun st e15 h => ?_)
  refine r_aload_n (pc := 18) dX4_taken_18 0 rfl rfl ?_
  refine r_iload_n (pc := 19) dX4_taken_19 1 rfl rfl ?_
  refine r_pI (pc := 20) dX4_taken_20 q1703 fd_60 same_rf rfl h (fun st e20 h => ?_)
  exact r_return_ (pc := 23) dX4_taken_23 rfl h
theorem sX4_thrown {a0 : Rf} {st : Mem} {fin : Int32 × Mem} (h : fX4_thrown a0 st = some fin) : Con yX4_thrown 6 [vr a0] st trI fin := by
  refine Con.mk (cc := cX4_thrown) (n := 1) (own := "HouseClapsModel") (nm := "thrown") (ret := (some .int)) (env := [(0, vr a0)]) q1675 rfl rfl rfl (by decide) ⟨Nat.le_of_ble_eq_true rfl, by decide⟩ rfl ?_
  unfold fX4_thrown at h
  refine r_aload_n (pc := 0) dX4_thrown_0 0 rfl rfl ?_
  refine r_gI (pc := 1) dX4_thrown_1 q1698 fd_55 same_rf h (fun x1 e1 h => ?_)
  exact r_ireturn (pc := 4) dX4_thrown_4 rfl rfl h
theorem sX4_throwsIf_10 {st0 : Mem} {fin : Int32 × Mem} (v1 : Int32) (k0 : Rf) (k1 : Int32) (st : Mem) (h : bX4_throwsIf_10 v1 k0 k1 st = some fin) : G (cX4_throwsIf, "HouseClapsModel", "throwsIf", 6, (some .boolean), 2) st0 trI fin 10 [(1, vi v1)] [vi k1, vr k0] st := by
  unfold bX4_throwsIf_10 at h
  refine r_pI (pc := 10) dX4_throwsIf_10 q1698 fd_55 same_rf rfl h (fun st e10 h => ?_)
  refine r_iload_n (pc := 13) dX4_throwsIf_13 0 rfl rfl ?_
  exact r_ireturn (pc := 14) dX4_throwsIf_14 rfl rfl h
theorem sX4_throwsIf {a0 : Rf} {a1 : Int32} {st : Mem} {fin : Int32 × Mem} (h : fX4_throwsIf a0 a1 st = some fin) : Con yX4_throwsIf 6 [vr a0, vi a1] st trI fin := by
  refine Con.mk (cc := cX4_throwsIf) (n := 2) (own := "HouseClapsModel") (nm := "throwsIf") (ret := (some .boolean)) (env := [(0, vr a0), (1, vi a1)]) q2047 rfl rfl rfl (by decide) ⟨Nat.le_of_ble_eq_true rfl, by decide⟩ rfl ?_
  unfold fX4_throwsIf at h
  refine r_aload_n (pc := 0) dX4_throwsIf_0 0 rfl rfl ?_
  refine r_iload_n (pc := 1) dX4_throwsIf_1 1 rfl rfl ?_
  refine r_if_eq (pc := 2) (tgt := 9) dX4_throwsIf_2 (by decide) h (fun e2 h => ?_) (fun e2 h => ?_)
  · refine r_iconst (pc := 9) (v := 0) dX4_throwsIf_9 (by decide) ?_
    exact r_sub (env' := [(1, vi a1)]) [1] rfl (sX4_throwsIf_10 _ _ _ _ h)
  · refine r_iconst (pc := 5) (v := 1) dX4_throwsIf_5 (by decide) ?_
    refine r_goto (pc := 6) (tgt := 10) dX4_throwsIf_6 (by decide) ?_
    exact r_sub (env' := [(1, vi a1)]) [1] rfl (sX4_throwsIf_10 _ _ _ _ h)
theorem sX4_write {a0 : Rf} {a1 : Int32} {st : Mem} {fin : Unit × Mem} (h : fX4_write a0 a1 st = some fin) : Con yX4_write 6 [vr a0, vi a1] st trV fin := by
  refine Con.mk (cc := cX4_write) (n := 2) (own := "HouseClapsModel") (nm := "write") (ret := none) (env := [(0, vr a0), (1, vi a1)]) q1997 rfl rfl rfl (by decide) ⟨Nat.le_of_ble_eq_true rfl, by decide⟩ rfl ?_
  unfold fX4_write at h
  refine r_aload_n (pc := 0) dX4_write_0 0 rfl rfl ?_
  refine r_gA (pc := 1) dX4_write_1 q1721 fd_78 same_rf h (fun x1 e1 h => ?_)
  refine r_aload_n (pc := 4) dX4_write_4 0 rfl rfl ?_
  refine r_gI (pc := 5) dX4_write_5 q1724 fd_81 same_rf h (fun x5 e5 h => ?_)
  refine r_iload_n (pc := 8) dX4_write_8 1 rfl rfl ?_
  refine r_iastore (pc := 9) dX4_write_9 h (fun st e9 h => ?_)
  refine r_aload_n (pc := 10) dX4_write_10 0 rfl rfl ?_
  refine r_dup (pc := 11) dX4_write_11 rfl ?_
  refine r_gI (pc := 12) dX4_write_12 q1724 fd_81 same_rf h (fun x12 e12 h => ?_)
  refine r_iconst (pc := 15) (v := 1) dX4_write_15 (by decide) ?_
  refine r_iadd (pc := 16) dX4_write_16 ?_
  refine r_pI (pc := 17) dX4_write_17 q1724 fd_81 same_rf rfl h (fun st e17 h => ?_)
  exact r_return_ (pc := 20) dX4_write_20 rfl h
theorem sX4_atom {a0 : Rf} {st : Mem} {fin : Int32 × Mem} (h : fX4_atom a0 st = some fin) : Con yX4_atom 8 [vr a0] st trI fin := by
  refine Con.mk (cc := cX4_atom) (n := 1) (own := "HouseClapsModel") (nm := "atom") (ret := (some .int)) (env := [(0, vr a0)]) q1969 rfl rfl rfl (by decide) ⟨Nat.le_of_ble_eq_true rfl, by decide⟩ rfl ?_
  unfold fX4_atom at h
  refine r_aload_n (pc := 0) dX4_atom_0 0 rfl rfl ?_
  refine r_ldc2 (pc := 1) dX4_atom_1 q1970 ?_
  refine r_callI (pc := 4) (rest := []) (lkV dX4_atom_4 q1933 xd_X4_isWord (vc_of vt_X4_isWord q1935 (fun _ => sX4_isWord)) adx_X4_isWord) (by decide) (Nat.le_of_ble_eq_true rfl) rfl h (fun x4 st e4 h => ?_)
  refine r_if_eq (pc := 7) (tgt := 14) dX4_atom_7 (by decide) h (fun e7 h => ?_) (fun e7 h => ?_)
  · refine r_aload_n (pc := 14) dX4_atom_14 0 rfl rfl ?_
    refine r_ldc2 (pc := 15) dX4_atom_15 q1971 ?_
    refine r_callI (pc := 18) (rest := []) (lkV dX4_atom_18 q1933 xd_X4_isWord (vc_of vt_X4_isWord q1935 (fun _ => sX4_isWord)) adx_X4_isWord) (by decide) (Nat.le_of_ble_eq_true rfl) rfl h (fun x18 st e18 h => ?_)
    refine r_if_eq (pc := 21) (tgt := 28) dX4_atom_21 (by decide) h (fun e21 h => ?_) (fun e21 h => ?_)
    · refine r_aload_n (pc := 28) dX4_atom_28 0 rfl rfl ?_
      refine r_ldc2 (pc := 29) dX4_atom_29 q1972 ?_
      refine r_callI (pc := 32) (rest := []) (lkV dX4_atom_32 q1933 xd_X4_isWord (vc_of vt_X4_isWord q1935 (fun _ => sX4_isWord)) adx_X4_isWord) (by decide) (Nat.le_of_ble_eq_true rfl) rfl h (fun x32 st e32 h => ?_)
      refine r_if_eq (pc := 35) (tgt := 42) dX4_atom_35 (by decide) h (fun e35 h => ?_) (fun e35 h => ?_)
      · refine r_aload_n (pc := 42) dX4_atom_42 0 rfl rfl ?_
        refine r_ldc2 (pc := 43) dX4_atom_43 q1973 ?_
        refine r_callI (pc := 46) (rest := []) (lkV dX4_atom_46 q1933 xd_X4_isWord (vc_of vt_X4_isWord q1935 (fun _ => sX4_isWord)) adx_X4_isWord) (by decide) (Nat.le_of_ble_eq_true rfl) rfl h (fun x46 st e46 h => ?_)
        refine r_if_eq (pc := 49) (tgt := 56) dX4_atom_49 (by decide) h (fun e49 h => ?_) (fun e49 h => ?_)
        · refine r_aload_n (pc := 56) dX4_atom_56 0 rfl rfl ?_
          refine r_ldc2 (pc := 57) dX4_atom_57 q1974 ?_
          refine r_callI (pc := 60) (rest := []) (lkV dX4_atom_60 q1933 xd_X4_isWord (vc_of vt_X4_isWord q1935 (fun _ => sX4_isWord)) adx_X4_isWord) (by decide) (Nat.le_of_ble_eq_true rfl) rfl h (fun x60 st e60 h => ?_)
          refine r_if_eq (pc := 63) (tgt := 70) dX4_atom_63 (by decide) h (fun e63 h => ?_) (fun e63 h => ?_)
          · refine r_aload_n (pc := 70) dX4_atom_70 0 rfl rfl ?_
            refine r_ldc2 (pc := 71) dX4_atom_71 q1975 ?_
            refine r_callI (pc := 74) (rest := []) (lkV dX4_atom_74 q1933 xd_X4_isWord (vc_of vt_X4_isWord q1935 (fun _ => sX4_isWord)) adx_X4_isWord) (by decide) (Nat.le_of_ble_eq_true rfl) rfl h (fun x74 st e74 h => ?_)
            refine r_if_eq (pc := 77) (tgt := 84) dX4_atom_77 (by decide) h (fun e77 h => ?_) (fun e77 h => ?_)
            · refine r_aload_n (pc := 84) dX4_atom_84 0 rfl rfl ?_
              refine r_ldc2 (pc := 85) dX4_atom_85 q1976 ?_
              refine r_callI (pc := 88) (rest := []) (lkV dX4_atom_88 q1933 xd_X4_isWord (vc_of vt_X4_isWord q1935 (fun _ => sX4_isWord)) adx_X4_isWord) (by decide) (Nat.le_of_ble_eq_true rfl) rfl h (fun x88 st e88 h => ?_)
              refine r_if_eq (pc := 91) (tgt := 99) dX4_atom_91 (by decide) h (fun e91 h => ?_) (fun e91 h => ?_)
              · refine r_aload_n (pc := 99) dX4_atom_99 0 rfl rfl ?_
                refine r_ldc2 (pc := 100) dX4_atom_100 q1977 ?_
                refine r_callI (pc := 103) (rest := []) (lkV dX4_atom_103 q1933 xd_X4_isWord (vc_of vt_X4_isWord q1935 (fun _ => sX4_isWord)) adx_X4_isWord) (by decide) (Nat.le_of_ble_eq_true rfl) rfl h (fun x103 st e103 h => ?_)
                refine r_if_eq (pc := 106) (tgt := 114) dX4_atom_106 (by decide) h (fun e106 h => ?_) (fun e106 h => ?_)
                · refine r_iconst (pc := 114) (v := (-1)) dX4_atom_114 (by decide) ?_
                  exact r_ireturn (pc := 115) dX4_atom_115 rfl rfl h
                · refine r_bipush (pc := 109) (v := 7) dX4_atom_109 (by decide) ?_
                  refine r_goto (pc := 111) (tgt := 115) dX4_atom_111 (by decide) ?_
                  exact r_ireturn (pc := 115) dX4_atom_115 rfl rfl h
              · refine r_bipush (pc := 94) (v := 6) dX4_atom_94 (by decide) ?_
                refine r_goto (pc := 96) (tgt := 115) dX4_atom_96 (by decide) ?_
                exact r_ireturn (pc := 115) dX4_atom_115 rfl rfl h
            · refine r_iconst (pc := 80) (v := 5) dX4_atom_80 (by decide) ?_
              refine r_goto (pc := 81) (tgt := 115) dX4_atom_81 (by decide) ?_
              exact r_ireturn (pc := 115) dX4_atom_115 rfl rfl h
          · refine r_iconst (pc := 66) (v := 4) dX4_atom_66 (by decide) ?_
            refine r_goto (pc := 67) (tgt := 115) dX4_atom_67 (by decide) ?_
            exact r_ireturn (pc := 115) dX4_atom_115 rfl rfl h
        · refine r_iconst (pc := 52) (v := 3) dX4_atom_52 (by decide) ?_
          refine r_goto (pc := 53) (tgt := 115) dX4_atom_53 (by decide) ?_
          exact r_ireturn (pc := 115) dX4_atom_115 rfl rfl h
      · refine r_iconst (pc := 38) (v := 2) dX4_atom_38 (by decide) ?_
        refine r_goto (pc := 39) (tgt := 115) dX4_atom_39 (by decide) ?_
        exact r_ireturn (pc := 115) dX4_atom_115 rfl rfl h
    · refine r_iconst (pc := 24) (v := 1) dX4_atom_24 (by decide) ?_
      refine r_goto (pc := 25) (tgt := 115) dX4_atom_25 (by decide) ?_
      exact r_ireturn (pc := 115) dX4_atom_115 rfl rfl h
  · refine r_iconst (pc := 10) (v := 0) dX4_atom_10 (by decide) ?_
    refine r_goto (pc := 11) (tgt := 115) dX4_atom_11 (by decide) ?_
    exact r_ireturn (pc := 115) dX4_atom_115 rfl rfl h
theorem sX4_bitsOf_37 {st0 : Mem} {fin : Int64 × Mem} {kk5 : Rf → Int32 → Int64 → Int32 → Mem → Option (Int64 × Mem)} (hk5 : ∀ (v0 : Rf) (v1 : Int32) (v2 : Int64) (v4 : Int32) (st : Mem), kk5 v0 v1 v2 v4 st = some fin → G (cX4_bitsOf, "HouseClapsModel", "bitsOf", 8, (some .long), 5) st0 trJ fin 5 [(0, vr v0), (1, vi v1), (2, vj v2), (4, vi v4)] [] st) (v0 : Rf) (v1 : Int32) (v4 : Int32) (k0 : Int64) (k1 : Int64) (st : Mem) (h : bX4_bitsOf_37 kk5 v0 v1 v4 k0 k1 st = some fin) : G (cX4_bitsOf, "HouseClapsModel", "bitsOf", 8, (some .long), 5) st0 trJ fin 37 [(0, vr v0), (1, vi v1), (4, vi v4)] [vj k1, vj k0] st := by
  unfold bX4_bitsOf_37 at h
  refine r_lor (pc := 37) dX4_bitsOf_37 ?_
  refine r_lstore_n (pc := 38) (env' := [(2, vj (k0 ||| k1)), (0, vr v0), (1, vi v1), (4, vi v4)]) dX4_bitsOf_38 rfl (by decide) rfl ?_
  refine r_iinc (pc := 39) (env' := [(4, vi (v4 + 1)), (2, vj (k0 ||| k1)), (0, vr v0), (1, vi v1)]) (cst := 1) dX4_bitsOf_39 3 rfl (by decide) (by decide) rfl ?_
  refine r_goto (pc := 42) (tgt := 5) dX4_bitsOf_42 (by decide) ?_
  exact r_sub (env' := [(0, vr v0), (1, vi v1), (2, vj (k0 ||| k1)), (4, vi (v4 + 1))]) [2, 3, 1, 0] rfl (hk5 _ _ _ _ _ h)
theorem sX4_bitsOf_5B {st0 : Mem} {fin : Int64 × Mem} {kk5 : Rf → Int32 → Int64 → Int32 → Mem → Option (Int64 × Mem)} (hk5 : ∀ (v0 : Rf) (v1 : Int32) (v2 : Int64) (v4 : Int32) (st : Mem), kk5 v0 v1 v2 v4 st = some fin → G (cX4_bitsOf, "HouseClapsModel", "bitsOf", 8, (some .long), 5) st0 trJ fin 5 [(0, vr v0), (1, vi v1), (2, vj v2), (4, vi v4)] [] st) (v0 : Rf) (v1 : Int32) (v2 : Int64) (v4 : Int32) (st : Mem) (h : bX4_bitsOf_5B kk5 v0 v1 v2 v4 st = some fin) : G (cX4_bitsOf, "HouseClapsModel", "bitsOf", 8, (some .long), 5) st0 trJ fin 5 [(0, vr v0), (1, vi v1), (2, vj v2), (4, vi v4)] [] st := by
  unfold bX4_bitsOf_5B at h
  refine r_iload (pc := 5) dX4_bitsOf_5 3 rfl ?_
  refine r_aload_n (pc := 7) dX4_bitsOf_7 0 rfl rfl ?_
  refine r_gI (pc := 8) dX4_bitsOf_8 q1745 fd_102 same_rf h (fun x8 e8 h => ?_)
  refine r_icmp_ge (pc := 11) (tgt := 45) dX4_bitsOf_11 (by decide) h (fun e11 h => ?_) (fun e11 h => ?_)
  · refine r_lload_n (pc := 45) dX4_bitsOf_45 2 rfl rfl ?_
    exact r_lreturn (pc := 46) dX4_bitsOf_46 rfl h
  · refine r_lload_n (pc := 14) dX4_bitsOf_14 2 rfl rfl ?_
    refine r_iload_n (pc := 15) dX4_bitsOf_15 1 rfl rfl ?_
    refine r_iload (pc := 16) dX4_bitsOf_16 3 rfl ?_
    refine r_callI (pc := 18) (rest := [vj v2]) (lkS dX4_bitsOf_18 q2017 q2018 q92 (fun _ => sX4_has) ad_X4_has) (by decide) (Nat.le_of_ble_eq_true rfl) rfl h (fun x18 st e18 h => ?_)
    refine r_if_eq (pc := 21) (tgt := 36) dX4_bitsOf_21 (by decide) h (fun e21 h => ?_) (fun e21 h => ?_)
    · refine r_lconst (pc := 36) (v := 0) dX4_bitsOf_36 (by decide) ?_
      exact r_sub (env' := [(0, vr v0), (1, vi v1), (4, vi v4)]) [0, 1, 3] rfl (sX4_bitsOf_37 hk5 _ _ _ _ _ _ h)
    · refine r_lconst (pc := 24) (v := 1) dX4_bitsOf_24 (by decide) ?_
      refine r_aload_n (pc := 25) dX4_bitsOf_25 0 rfl rfl ?_
      refine r_gA (pc := 26) dX4_bitsOf_26 q1744 fd_101 same_rf h (fun x26 e26 h => ?_)
      refine r_iload (pc := 29) dX4_bitsOf_29 3 rfl ?_
      refine r_iaload (pc := 31) dX4_bitsOf_31 h (fun x31 e31 h => ?_)
      refine r_lshl (pc := 32) dX4_bitsOf_32 ?_
      refine r_goto (pc := 33) (tgt := 37) dX4_bitsOf_33 (by decide) ?_
      exact r_sub (env' := [(0, vr v0), (1, vi v1), (4, vi v4)]) [0, 1, 3] rfl (sX4_bitsOf_37 hk5 _ _ _ _ _ _ h)
theorem sX4_bitsOf_5 {st0 : Mem} {fin : Int64 × Mem} (n : Nat) : ∀ (v0 : Rf) (v1 : Int32) (v2 : Int64) (v4 : Int32) (st : Mem), bX4_bitsOf_5 n v0 v1 v2 v4 st = some fin → G (cX4_bitsOf, "HouseClapsModel", "bitsOf", 8, (some .long), 5) st0 trJ fin 5 [(0, vr v0), (1, vi v1), (2, vj v2), (4, vi v4)] [] st := by
  induction n with
  | zero => intro v0 v1 v2 v4 st h; cases h
  | succ n ih => intro v0 v1 v2 v4 st h; exact sX4_bitsOf_5B  ih v0 v1 v2 v4 st h
theorem sX4_bitsOf {a0 : Rf} {a1 : Int32} {st : Mem} {fin : Int64 × Mem} (h : fX4_bitsOf a0 a1 st = some fin) : Con yX4_bitsOf 8 [vr a0, vi a1] st trJ fin := by
  refine Con.mk (cc := cX4_bitsOf) (n := 5) (own := "HouseClapsModel") (nm := "bitsOf") (ret := (some .long)) (env := [(0, vr a0), (1, vi a1)]) q2203 rfl rfl rfl (by decide) ⟨Nat.le_of_ble_eq_true rfl, by decide⟩ rfl ?_
  unfold fX4_bitsOf at h
  refine r_lconst (pc := 0) (v := 0) dX4_bitsOf_0 (by decide) ?_
  refine r_lstore_n (pc := 1) (env' := [(2, vj (0 : Int64)), (0, vr a0), (1, vi a1)]) dX4_bitsOf_1 rfl (by decide) rfl ?_
  refine r_iconst (pc := 2) (v := 0) dX4_bitsOf_2 (by decide) ?_
  refine r_istore (pc := 3) (env' := [(4, vi (0 : Int32)), (2, vj (0 : Int64)), (0, vr a0), (1, vi a1)]) dX4_bitsOf_3 (by decide) rfl ?_
  exact r_sub (env' := [(0, vr a0), (1, vi a1), (2, vj (0 : Int64)), (4, vi (0 : Int32))]) [2, 3, 1, 0] rfl (sX4_bitsOf_5 hcFuel _ _ _ _ _ h)
theorem sX4_count {a0 : Rf} {a1 : Int32} {st : Mem} {fin : Int32 × Mem} (h : fX4_count a0 a1 st = some fin) : Con yX4_count 8 [vr a0, vi a1] st trI fin := by
  refine Con.mk (cc := cX4_count) (n := 2) (own := "HouseClapsModel") (nm := "count") (ret := (some .int)) (env := [(0, vr a0), (1, vi a1)]) q2307 rfl rfl rfl (by decide) ⟨Nat.le_of_ble_eq_true rfl, by decide⟩ rfl ?_
  unfold fX4_count at h
  refine r_aload_n (pc := 0) dX4_count_0 0 rfl rfl ?_
  refine r_iconst (pc := 1) (v := 0) dX4_count_1 (by decide) ?_
  refine r_pI (pc := 2) dX4_count_2 q1698 fd_55 same_rf rfl h (fun st e2 h => ?_)
  refine r_iload_n (pc := 5) dX4_count_5 1 rfl rfl ?_
  refine r_iconst (pc := 6) (v := 0) dX4_count_6 (by decide) ?_
  refine r_iconst (pc := 7) (v := 5) dX4_count_7 (by decide) ?_
  refine r_callI (pc := 8) (rest := []) (lkS dX4_count_8 q1949 q1950 q92 (fun _ => sX4_isIn) ad_X4_isIn) (by decide) (Nat.le_of_ble_eq_true rfl) rfl h (fun x8 st e8 h => ?_)
  refine r_if_eq (pc := 11) (tgt := 21) dX4_count_11 (by decide) h (fun e11 h => ?_) (fun e11 h => ?_)
  · refine r_iload_n (pc := 21) dX4_count_21 1 rfl rfl ?_
    refine r_bipush (pc := 22) (v := 6) dX4_count_22 (by decide) ?_
    refine r_icmp_ne (pc := 24) (tgt := 37) dX4_count_24 (by decide) h (fun e24 h => ?_) (fun e24 h => ?_)
    · refine r_iload_n (pc := 37) dX4_count_37 1 rfl rfl ?_
      refine r_bipush (pc := 38) (v := 7) dX4_count_38 (by decide) ?_
      refine r_icmp_ne (pc := 40) (tgt := 53) dX4_count_40 (by decide) h (fun e40 h => ?_) (fun e40 h => ?_)
      · refine r_iload_n (pc := 53) dX4_count_53 1 rfl rfl ?_
        refine r_bipush (pc := 54) (v := 8) dX4_count_54 (by decide) ?_
        refine r_icmp_ne (pc := 56) (tgt := 66) dX4_count_56 (by decide) h (fun e56 h => ?_) (fun e56 h => ?_)
        · refine r_iload_n (pc := 66) dX4_count_66 1 rfl rfl ?_
          refine r_bipush (pc := 67) (v := 9) dX4_count_67 (by decide) ?_
          refine r_icmp_ne (pc := 69) (tgt := 83) dX4_count_69 (by decide) h (fun e69 h => ?_) (fun e69 h => ?_)
          · refine r_iconst (pc := 83) (v := (-1)) dX4_count_83 (by decide) ?_
            exact r_ireturn (pc := 84) dX4_count_84 rfl rfl h
          · refine r_aload_n (pc := 72) dX4_count_72 0 rfl rfl ?_
            refine r_gA (pc := 73) dX4_count_73 q1704 fd_61 same_rf h (fun x73 e73 h => ?_)
            refine r_sipush (pc := 76) (v := 590) dX4_count_76 (by decide) ?_
            refine r_iaload (pc := 79) dX4_count_79 h (fun x79 e79 h => ?_)
            refine r_goto (pc := 80) (tgt := 84) dX4_count_80 (by decide) ?_
            exact r_ireturn (pc := 84) dX4_count_84 rfl rfl h
        · refine r_aload_n (pc := 59) dX4_count_59 0 rfl rfl ?_
          refine r_gI (pc := 60) dX4_count_60 q1700 fd_57 same_rf h (fun x60 e60 h => ?_)
          refine r_goto (pc := 63) (tgt := 84) dX4_count_63 (by decide) ?_
          exact r_ireturn (pc := 84) dX4_count_84 rfl rfl h
      · refine r_aload_n (pc := 43) dX4_count_43 0 rfl rfl ?_
        refine r_gJ (pc := 44) dX4_count_44 q1715 fd_72 same_rf h (fun x44 e44 h => ?_)
        refine r_callI (pc := 47) (rest := []) (lkS dX4_count_47 q2132 q2133 q92 (fun _ => sX4_bits) ad_X4_bits) (by decide) (Nat.le_of_ble_eq_true rfl) rfl h (fun x47 st e47 h => ?_)
        refine r_goto (pc := 50) (tgt := 84) dX4_count_50 (by decide) ?_
        exact r_ireturn (pc := 84) dX4_count_84 rfl rfl h
    · refine r_aload_n (pc := 27) dX4_count_27 0 rfl rfl ?_
      refine r_gJ (pc := 28) dX4_count_28 q1714 fd_71 same_rf h (fun x28 e28 h => ?_)
      refine r_callI (pc := 31) (rest := []) (lkS dX4_count_31 q2132 q2133 q92 (fun _ => sX4_bits) ad_X4_bits) (by decide) (Nat.le_of_ble_eq_true rfl) rfl h (fun x31 st e31 h => ?_)
      refine r_goto (pc := 34) (tgt := 84) dX4_count_34 (by decide) ?_
      exact r_ireturn (pc := 84) dX4_count_84 rfl rfl h
  · refine r_aload_n (pc := 14) dX4_count_14 0 rfl rfl ?_
    refine r_gA (pc := 15) dX4_count_15 q1704 fd_61 same_rf h (fun x15 e15 h => ?_)
    refine r_iload_n (pc := 18) dX4_count_18 1 rfl rfl ?_
    refine r_iaload (pc := 19) dX4_count_19 h (fun x19 e19 h => ?_)
    exact r_ireturn (pc := 20) dX4_count_20 rfl rfl h
theorem sX4_cue_33 {st0 : Mem} {fin : Int32 × Mem} (v0 : Rf) (v1 : Int32) (v2 : Int32) (k0 : Rf) (k1 : Int32) (st : Mem) (h : bX4_cue_33 v0 v1 v2 k0 k1 st = some fin) : G (cX4_cue, "HouseClapsModel", "cue", 8, (some .int), 3) st0 trI fin 33 [(0, vr v0), (1, vi v1), (2, vi v2)] [vi k1, vr k0] st := by
  unfold bX4_cue_33 at h
  refine r_callI (pc := 33) (rest := []) (lkV dX4_cue_33 q2044 xd_X4_throwsIf (vc_of vt_X4_throwsIf q2046 (fun _ => sX4_throwsIf)) adx_X4_throwsIf) (by decide) (Nat.le_of_ble_eq_true rfl) rfl h (fun x33 st e33 h => ?_)
  refine r_if_eq (pc := 36) (tgt := 43) dX4_cue_36 (by decide) h (fun e36 h => ?_) (fun e36 h => ?_)
  · refine r_aload_n (pc := 43) dX4_cue_43 0 rfl rfl ?_
    refine r_gA (pc := 44) dX4_cue_44 q1704 fd_61 same_rf h (fun x44 e44 h => ?_)
    refine r_sipush (pc := 47) (v := 591) dX4_cue_47 (by decide) ?_
    refine r_iconst (pc := 50) (v := 3) dX4_cue_50 (by decide) ?_
    refine r_iload_n (pc := 51) dX4_cue_51 1 rfl rfl ?_
    refine r_imul (pc := 52) dX4_cue_52 ?_
    refine r_iadd (pc := 53) dX4_cue_53 ?_
    refine r_iload_n (pc := 54) dX4_cue_54 2 rfl rfl ?_
    refine r_iadd (pc := 55) dX4_cue_55 ?_
    refine r_iaload (pc := 56) dX4_cue_56 h (fun x56 e56 h => ?_)
    exact r_ireturn (pc := 57) dX4_cue_57 rfl rfl h
  · refine r_iconst (pc := 39) (v := 0) dX4_cue_39 (by decide) ?_
    refine r_goto (pc := 40) (tgt := 57) dX4_cue_40 (by decide) ?_
    exact r_ireturn (pc := 57) dX4_cue_57 rfl rfl h
theorem sX4_cue_28 {st0 : Mem} {fin : Int32 × Mem} (v0 : Rf) (v1 : Int32) (v2 : Int32) (k0 : Rf) (st : Mem) (h : bX4_cue_28 v0 v1 v2 k0 st = some fin) : G (cX4_cue, "HouseClapsModel", "cue", 8, (some .int), 3) st0 trI fin 28 [(0, vr v0), (1, vi v1), (2, vi v2)] [vr k0] st := by
  unfold bX4_cue_28 at h
  refine r_iconst (pc := 28) (v := 1) dX4_cue_28 (by decide) ?_
  refine r_goto (pc := 29) (tgt := 33) dX4_cue_29 (by decide) ?_
  exact sX4_cue_33 _ _ _ _ _ _ h
theorem sX4_cue {a0 : Rf} {a1 : Int32} {a2 : Int32} {st : Mem} {fin : Int32 × Mem} (h : fX4_cue a0 a1 a2 st = some fin) : Con yX4_cue 8 [vr a0, vi a1, vi a2] st trI fin := by
  refine Con.mk (cc := cX4_cue) (n := 3) (own := "HouseClapsModel") (nm := "cue") (ret := (some .int)) (env := [(0, vr a0), (1, vi a1), (2, vi a2)]) q2088 rfl rfl rfl (by decide) ⟨Nat.le_of_ble_eq_true rfl, by decide⟩ rfl ?_
  unfold fX4_cue at h
  refine r_aload_n (pc := 0) dX4_cue_0 0 rfl rfl ?_
  refine r_iload_n (pc := 1) dX4_cue_1 1 rfl rfl ?_
  refine r_iconst (pc := 2) (v := 0) dX4_cue_2 (by decide) ?_
  refine r_aload_n (pc := 3) dX4_cue_3 0 rfl rfl ?_
  refine r_gA (pc := 4) dX4_cue_4 q1704 fd_61 same_rf h (fun x4 e4 h => ?_)
  refine r_sipush (pc := 7) (v := 590) dX4_cue_7 (by decide) ?_
  refine r_iaload (pc := 10) dX4_cue_10 h (fun x10 e10 h => ?_)
  refine r_iconst (pc := 11) (v := 1) dX4_cue_11 (by decide) ?_
  refine r_isub (pc := 12) dX4_cue_12 ?_
  refine r_callI (pc := 13) (rest := [vr a0]) (lkS dX4_cue_13 q1949 q1950 q92 (fun _ => sX4_isIn) ad_X4_isIn) (by decide) (Nat.le_of_ble_eq_true rfl) rfl h (fun x13 st e13 h => ?_)
  refine r_if_eq (pc := 16) (tgt := 28) dX4_cue_16 (by decide) h (fun e16 h => ?_) (fun e16 h => ?_)
  · exact sX4_cue_28 _ _ _ _ _ h
  · refine r_iload_n (pc := 19) dX4_cue_19 2 rfl rfl ?_
    refine r_iconst (pc := 20) (v := 0) dX4_cue_20 (by decide) ?_
    refine r_iconst (pc := 21) (v := 2) dX4_cue_21 (by decide) ?_
    refine r_callI (pc := 22) (rest := [vr a0]) (lkS dX4_cue_22 q1949 q1950 q92 (fun _ => sX4_isIn) ad_X4_isIn) (by decide) (Nat.le_of_ble_eq_true rfl) rfl h (fun x22 st e22 h => ?_)
    refine r_if_ne (pc := 25) (tgt := 32) dX4_cue_25 (by decide) h (fun e25 h => ?_) (fun e25 h => ?_)
    · refine r_iconst (pc := 32) (v := 0) dX4_cue_32 (by decide) ?_
      exact sX4_cue_33 _ _ _ _ _ _ h
    · exact sX4_cue_28 _ _ _ _ _ h
theorem sX4_feed {a0 : Rf} {a1 : Int32} {a2 : Int32} {a3 : Int32} {a4 : Int32} {a5 : Int32} {st : Mem} {fin : Int32 × Mem} (h : fX4_feed a0 a1 a2 a3 a4 a5 st = some fin) : Con yX4_feed 8 [vr a0, vi a1, vi a2, vi a3, vi a4, vi a5] st trI fin := by
  refine Con.mk (cc := cX4_feed) (n := 6) (own := "HouseClapsModel") (nm := "feed") (ret := (some .int)) (env := [(0, vr a0), (1, vi a1), (2, vi a2), (3, vi a3), (4, vi a4), (5, vi a5)]) q1679 rfl rfl rfl (by decide) ⟨Nat.le_of_ble_eq_true rfl, by decide⟩ rfl ?_
  unfold fX4_feed at h
  refine r_aload_n (pc := 0) dX4_feed_0 0 rfl rfl ?_
  refine r_iconst (pc := 1) (v := 0) dX4_feed_1 (by decide) ?_
  refine r_pI (pc := 2) dX4_feed_2 q1698 fd_55 same_rf rfl h (fun st e2 h => ?_)
  refine r_aload_n (pc := 5) dX4_feed_5 0 rfl rfl ?_
  refine r_gI (pc := 6) dX4_feed_6 q1700 fd_57 same_rf h (fun x6 e6 h => ?_)
  refine r_bipush (pc := 9) (v := 20) dX4_feed_9 (by decide) ?_
  refine r_iadd (pc := 11) dX4_feed_11 ?_
  refine r_sipush (pc := 12) (v := 940) dX4_feed_12 (by decide) ?_
  refine r_icmp_le (pc := 15) (tgt := 20) dX4_feed_15 (by decide) h (fun e15 h => ?_) (fun e15 h => ?_)
  · refine r_aload_n (pc := 20) dX4_feed_20 0 rfl rfl ?_
    refine r_iload_n (pc := 21) dX4_feed_21 1 rfl rfl ?_
    refine r_callV (pc := 22) (rest := []) (lkV dX4_feed_22 q1680 xd_X4_four (vc_of vt_X4_four q1682 (fun _ => sX4_four)) adx_X4_four) (by decide) (Nat.le_of_ble_eq_true rfl) rfl h (fun u22 st e22 h => ?_)
    refine r_aload_n (pc := 25) dX4_feed_25 0 rfl rfl ?_
    refine r_iload_n (pc := 26) dX4_feed_26 2 rfl rfl ?_
    refine r_callV (pc := 27) (rest := []) (lkV dX4_feed_27 q1680 xd_X4_four (vc_of vt_X4_four q1682 (fun _ => sX4_four)) adx_X4_four) (by decide) (Nat.le_of_ble_eq_true rfl) rfl h (fun u27 st e27 h => ?_)
    refine r_aload_n (pc := 30) dX4_feed_30 0 rfl rfl ?_
    refine r_iload_n (pc := 31) dX4_feed_31 3 rfl rfl ?_
    refine r_callV (pc := 32) (rest := []) (lkV dX4_feed_32 q1680 xd_X4_four (vc_of vt_X4_four q1682 (fun _ => sX4_four)) adx_X4_four) (by decide) (Nat.le_of_ble_eq_true rfl) rfl h (fun u32 st e32 h => ?_)
    refine r_aload_n (pc := 35) dX4_feed_35 0 rfl rfl ?_
    refine r_iload (pc := 36) dX4_feed_36 4 rfl ?_
    refine r_callV (pc := 38) (rest := []) (lkV dX4_feed_38 q1680 xd_X4_four (vc_of vt_X4_four q1682 (fun _ => sX4_four)) adx_X4_four) (by decide) (Nat.le_of_ble_eq_true rfl) rfl h (fun u38 st e38 h => ?_)
    refine r_aload_n (pc := 41) dX4_feed_41 0 rfl rfl ?_
    refine r_iload (pc := 42) dX4_feed_42 5 rfl ?_
    refine r_callV (pc := 44) (rest := []) (lkV dX4_feed_44 q1680 xd_X4_four (vc_of vt_X4_four q1682 (fun _ => sX4_four)) adx_X4_four) (by decide) (Nat.le_of_ble_eq_true rfl) rfl h (fun u44 st e44 h => ?_)
    refine r_aload_n (pc := 47) dX4_feed_47 0 rfl rfl ?_
    refine r_gI (pc := 48) dX4_feed_48 q1700 fd_57 same_rf h (fun x48 e48 h => ?_)
    exact r_ireturn (pc := 51) dX4_feed_51 rfl rfl h
  · refine r_iconst (pc := 18) (v := (-1)) dX4_feed_18 (by decide) ?_
    exact r_ireturn (pc := 19) dX4_feed_19 rfl rfl h
theorem sX4_heldOf_16 {st0 : Mem} {fin : Int32 × Mem} (v0 : Rf) (v1 : Int32) (k0 : Int32) (st : Mem) (h : bX4_heldOf_16 v0 v1 k0 st = some fin) : G (cX4_heldOf, "HouseClapsModel", "heldOf", 8, (some .int), 2) st0 trI fin 16 [(0, vr v0), (1, vi v1)] [vi k0] st := by
  unfold bX4_heldOf_16 at h
  refine r_aload_n (pc := 16) dX4_heldOf_16 0 rfl rfl ?_
  refine r_gJ (pc := 17) dX4_heldOf_17 q1739 fd_96 same_rf h (fun x17 e17 h => ?_)
  refine r_iload_n (pc := 20) dX4_heldOf_20 1 rfl rfl ?_
  refine r_callI (pc := 21) (rest := [vi k0]) (lkS dX4_heldOf_21 q2052 q2053 q92 (fun _ => sX4_holds) ad_X4_holds) (by decide) (Nat.le_of_ble_eq_true rfl) rfl h (fun x21 st e21 h => ?_)
  refine r_if_eq (pc := 24) (tgt := 31) dX4_heldOf_24 (by decide) h (fun e24 h => ?_) (fun e24 h => ?_)
  · refine r_iconst (pc := 31) (v := 0) dX4_heldOf_31 (by decide) ?_
    refine r_iadd (pc := 32) dX4_heldOf_32 ?_
    exact r_ireturn (pc := 33) dX4_heldOf_33 rfl rfl h
  · refine r_iconst (pc := 27) (v := 2) dX4_heldOf_27 (by decide) ?_
    refine r_goto (pc := 28) (tgt := 32) dX4_heldOf_28 (by decide) ?_
    refine r_iadd (pc := 32) dX4_heldOf_32 ?_
    exact r_ireturn (pc := 33) dX4_heldOf_33 rfl rfl h
theorem sX4_heldOf {a0 : Rf} {a1 : Int32} {st : Mem} {fin : Int32 × Mem} (h : fX4_heldOf a0 a1 st = some fin) : Con yX4_heldOf 8 [vr a0, vi a1] st trI fin := by
  refine Con.mk (cc := cX4_heldOf) (n := 2) (own := "HouseClapsModel") (nm := "heldOf") (ret := (some .int)) (env := [(0, vr a0), (1, vi a1)]) q2123 rfl rfl rfl (by decide) ⟨Nat.le_of_ble_eq_true rfl, by decide⟩ rfl ?_
  unfold fX4_heldOf at h
  refine r_aload_n (pc := 0) dX4_heldOf_0 0 rfl rfl ?_
  refine r_gJ (pc := 1) dX4_heldOf_1 q1738 fd_95 same_rf h (fun x1 e1 h => ?_)
  refine r_iload_n (pc := 4) dX4_heldOf_4 1 rfl rfl ?_
  refine r_callI (pc := 5) (rest := []) (lkS dX4_heldOf_5 q2052 q2053 q92 (fun _ => sX4_holds) ad_X4_holds) (by decide) (Nat.le_of_ble_eq_true rfl) rfl h (fun x5 st e5 h => ?_)
  refine r_if_eq (pc := 8) (tgt := 15) dX4_heldOf_8 (by decide) h (fun e8 h => ?_) (fun e8 h => ?_)
  · refine r_iconst (pc := 15) (v := 0) dX4_heldOf_15 (by decide) ?_
    exact sX4_heldOf_16 _ _ _ _ h
  · refine r_iconst (pc := 11) (v := 1) dX4_heldOf_11 (by decide) ?_
    refine r_goto (pc := 12) (tgt := 16) dX4_heldOf_12 (by decide) ?_
    exact sX4_heldOf_16 _ _ _ _ h
theorem sX4_image_18B {st0 : Mem} {fin : Int32 × Mem} {kk18 : Rf → Int32 → Int32 → Mem → Option (Int32 × Mem)} (hk18 : ∀ (v0 : Rf) (v1 : Int32) (v2 : Int32) (st : Mem), kk18 v0 v1 v2 st = some fin → G (cX4_image, "HouseClapsModel", "image", 8, (some .boolean), 3) st0 trI fin 18 [(0, vr v0), (1, vi v1), (2, vi v2)] [] st) (v0 : Rf) (v1 : Int32) (v2 : Int32) (st : Mem) (h : bX4_image_18B kk18 v0 v1 v2 st = some fin) : G (cX4_image, "HouseClapsModel", "image", 8, (some .boolean), 3) st0 trI fin 18 [(0, vr v0), (1, vi v1), (2, vi v2)] [] st := by
  unfold bX4_image_18B at h
  refine r_iload_n (pc := 18) dX4_image_18 2 rfl rfl ?_
  refine r_sipush (pc := 19) (v := 681) dX4_image_19 (by decide) ?_
  refine r_icmp_ge (pc := 22) (tgt := 49) dX4_image_22 (by decide) h (fun e22 h => ?_) (fun e22 h => ?_)
  · refine r_aload_n (pc := 49) dX4_image_49 0 rfl rfl ?_
    refine r_gA (pc := 50) dX4_image_50 q1764 fd_121 same_rf h (fun x50 e50 h => ?_)
    refine r_iload_n (pc := 53) dX4_image_53 1 rfl rfl ?_
    refine r_aload_n (pc := 54) dX4_image_54 0 rfl rfl ?_
    refine r_gJ (pc := 55) dX4_image_55 q1714 fd_71 same_rf h (fun x55 e55 h => ?_)
    refine r_lastore (pc := 58) dX4_image_58 h (fun st e58 h => ?_)
    refine r_aload_n (pc := 59) dX4_image_59 0 rfl rfl ?_
    refine r_gA (pc := 60) dX4_image_60 q1765 fd_122 same_rf h (fun x60 e60 h => ?_)
    refine r_iload_n (pc := 63) dX4_image_63 1 rfl rfl ?_
    refine r_aload_n (pc := 64) dX4_image_64 0 rfl rfl ?_
    refine r_gJ (pc := 65) dX4_image_65 q1715 fd_72 same_rf h (fun x65 e65 h => ?_)
    refine r_lastore (pc := 68) dX4_image_68 h (fun st e68 h => ?_)
    refine r_aload_n (pc := 69) dX4_image_69 0 rfl rfl ?_
    refine r_gA (pc := 70) dX4_image_70 q1766 fd_123 same_rf h (fun x70 e70 h => ?_)
    refine r_iload_n (pc := 73) dX4_image_73 1 rfl rfl ?_
    refine r_iconst (pc := 74) (v := 1) dX4_image_74 (by decide) ?_
    refine r_bastore (pc := 75) dX4_image_75 h (fun st e75 h => ?_)
    refine r_iconst (pc := 76) (v := 1) dX4_image_76 (by decide) ?_
    exact r_ireturn (pc := 77) dX4_image_77 rfl rfl h
  · refine r_aload_n (pc := 25) dX4_image_25 0 rfl rfl ?_
    refine r_gA (pc := 26) dX4_image_26 q1763 fd_120 same_rf h (fun x26 e26 h => ?_)
    refine r_sipush (pc := 29) (v := 681) dX4_image_29 (by decide) ?_
    refine r_iload_n (pc := 32) dX4_image_32 1 rfl rfl ?_
    refine r_imul (pc := 33) dX4_image_33 ?_
    refine r_iload_n (pc := 34) dX4_image_34 2 rfl rfl ?_
    refine r_iadd (pc := 35) dX4_image_35 ?_
    refine r_aload_n (pc := 36) dX4_image_36 0 rfl rfl ?_
    refine r_gA (pc := 37) dX4_image_37 q1704 fd_61 same_rf h (fun x37 e37 h => ?_)
    refine r_iload_n (pc := 40) dX4_image_40 2 rfl rfl ?_
    refine r_iaload (pc := 41) dX4_image_41 h (fun x41 e41 h => ?_)
    refine r_iastore (pc := 42) dX4_image_42 h (fun st e42 h => ?_)
    refine r_iinc (pc := 43) (env' := [(2, vi (v2 + 1)), (0, vr v0), (1, vi v1)]) (cst := 1) dX4_image_43 2 rfl (by decide) (by decide) rfl ?_
    refine r_goto (pc := 46) (tgt := 18) dX4_image_46 (by decide) ?_
    exact r_sub (env' := [(0, vr v0), (1, vi v1), (2, vi (v2 + 1))]) [1, 2, 0] rfl (hk18 _ _ _ _ h)
theorem sX4_image_18 {st0 : Mem} {fin : Int32 × Mem} (n : Nat) : ∀ (v0 : Rf) (v1 : Int32) (v2 : Int32) (st : Mem), bX4_image_18 n v0 v1 v2 st = some fin → G (cX4_image, "HouseClapsModel", "image", 8, (some .boolean), 3) st0 trI fin 18 [(0, vr v0), (1, vi v1), (2, vi v2)] [] st := by
  induction n with
  | zero => intro v0 v1 v2 st h; cases h
  | succ n ih => intro v0 v1 v2 st h; exact sX4_image_18B  ih v0 v1 v2 st h
theorem sX4_image {a0 : Rf} {a1 : Int32} {st : Mem} {fin : Int32 × Mem} (h : fX4_image a0 a1 st = some fin) : Con yX4_image 8 [vr a0, vi a1] st trI fin := by
  refine Con.mk (cc := cX4_image) (n := 3) (own := "HouseClapsModel") (nm := "image") (ret := (some .boolean)) (env := [(0, vr a0), (1, vi a1)]) q2299 rfl rfl rfl (by decide) ⟨Nat.le_of_ble_eq_true rfl, by decide⟩ rfl ?_
  unfold fX4_image at h
  refine r_aload_n (pc := 0) dX4_image_0 0 rfl rfl ?_
  refine r_iconst (pc := 1) (v := 0) dX4_image_1 (by decide) ?_
  refine r_pI (pc := 2) dX4_image_2 q1698 fd_55 same_rf rfl h (fun st e2 h => ?_)
  refine r_iload_n (pc := 5) dX4_image_5 1 rfl rfl ?_
  refine r_iconst (pc := 6) (v := 0) dX4_image_6 (by decide) ?_
  refine r_iconst (pc := 7) (v := 1) dX4_image_7 (by decide) ?_
  refine r_callI (pc := 8) (rest := []) (lkS dX4_image_8 q1949 q1950 q92 (fun _ => sX4_isIn) ad_X4_isIn) (by decide) (Nat.le_of_ble_eq_true rfl) rfl h (fun x8 st e8 h => ?_)
  refine r_if_ne (pc := 11) (tgt := 16) dX4_image_11 (by decide) h (fun e11 h => ?_) (fun e11 h => ?_)
  · refine r_iconst (pc := 16) (v := 0) dX4_image_16 (by decide) ?_
    refine r_istore_n (pc := 17) (env' := [(2, vi (0 : Int32)), (0, vr a0), (1, vi a1)]) dX4_image_17 rfl (by decide) rfl ?_
    exact r_sub (env' := [(0, vr a0), (1, vi a1), (2, vi (0 : Int32))]) [1, 2, 0] rfl (sX4_image_18 hcFuel _ _ _ _ h)
  · refine r_iconst (pc := 14) (v := 0) dX4_image_14 (by decide) ?_
    exact r_ireturn (pc := 15) dX4_image_15 rfl rfl h
theorem sX4_init_221B {st0 : Mem} {fin : Unit × Mem} {kk221 : Rf → Int32 → Mem → Option (Unit × Mem)} (hk221 : ∀ (v0 : Rf) (v1 : Int32) (st : Mem), kk221 v0 v1 st = some fin → G (cX4_init, "HouseClapsModel", "<init>", 8, none, 2) st0 trV fin 221 [(0, vr v0), (1, vi v1)] [] st) (v0 : Rf) (v1 : Int32) (st : Mem) (h : bX4_init_221B kk221 v0 v1 st = some fin) : G (cX4_init, "HouseClapsModel", "<init>", 8, none, 2) st0 trV fin 221 [(0, vr v0), (1, vi v1)] [] st := by
  unfold bX4_init_221B at h
  refine r_iload_n (pc := 221) dX4_init_221 1 rfl rfl ?_
  refine r_sipush (pc := 222) (v := 590) dX4_init_222 (by decide) ?_
  refine r_icmp_ge (pc := 225) (tgt := 246) dX4_init_225 (by decide) h (fun e225 h => ?_) (fun e225 h => ?_)
  · exact r_return_ (pc := 246) dX4_init_246 rfl h
  · refine r_aload_n (pc := 228) dX4_init_228 0 rfl rfl ?_
    refine r_gA (pc := 229) dX4_init_229 q1704 fd_61 same_rf h (fun x229 e229 h => ?_)
    refine r_iload_n (pc := 232) dX4_init_232 1 rfl rfl ?_
    refine r_aload_n (pc := 233) dX4_init_233 0 rfl rfl ?_
    refine r_gA (pc := 234) dX4_init_234 q1705 fd_62 same_rf h (fun x234 e234 h => ?_)
    refine r_iload_n (pc := 237) dX4_init_237 1 rfl rfl ?_
    refine r_iaload (pc := 238) dX4_init_238 h (fun x238 e238 h => ?_)
    refine r_iastore (pc := 239) dX4_init_239 h (fun st e239 h => ?_)
    refine r_iinc (pc := 240) (env' := [(1, vi (v1 + 1)), (0, vr v0)]) (cst := 1) dX4_init_240 1 rfl (by decide) (by decide) rfl ?_
    refine r_goto (pc := 243) (tgt := 221) dX4_init_243 (by decide) ?_
    exact r_sub (env' := [(0, vr v0), (1, vi (v1 + 1))]) [1, 0] rfl (hk221 _ _ _ h)
theorem sX4_init_221 {st0 : Mem} {fin : Unit × Mem} (n : Nat) : ∀ (v0 : Rf) (v1 : Int32) (st : Mem), bX4_init_221 n v0 v1 st = some fin → G (cX4_init, "HouseClapsModel", "<init>", 8, none, 2) st0 trV fin 221 [(0, vr v0), (1, vi v1)] [] st := by
  induction n with
  | zero => intro v0 v1 st h; cases h
  | succ n ih => intro v0 v1 st h; exact sX4_init_221B  ih v0 v1 st h
theorem sX4_init {a0 : Rf} {st : Mem} {fin : Unit × Mem} (h : fX4_init a0 st = some fin) : Con yX4_init 8 [vr a0] st trV fin := by
  refine Con.mk (cc := cX4_init) (n := 2) (own := "HouseClapsModel") (nm := "<init>") (ret := none) (env := [(0, vr a0)]) q1692 rfl rfl rfl (by decide) ⟨Nat.le_of_ble_eq_true rfl, by decide⟩ rfl ?_
  unfold fX4_init at h
  refine r_aload_n (pc := 0) dX4_init_0 0 rfl rfl ?_
  refine r_objInit (pc := 1) dX4_init_1 q1693 (by decide) (Nat.le_of_ble_eq_true rfl) h (fun h => ?_)
  refine r_aload_n (pc := 4) dX4_init_4 0 rfl rfl ?_
  refine r_sipush (pc := 5) (v := 940) dX4_init_5 (by decide) ?_
  refine r_newarray (pc := 8) dX4_init_8 ⟨rfl, by decide⟩ h (fun x8 st e8 h => ?_)
  refine r_pAF (pc := 10) dX4_init_10 q1699 fd_56 same_rf ⟨rfl, rfl⟩ h (fun st e10 h => ?_)
  refine r_aload_n (pc := 13) dX4_init_13 0 rfl rfl ?_
  refine r_sipush (pc := 14) (v := 681) dX4_init_14 (by decide) ?_
  refine r_newarray (pc := 17) dX4_init_17 ⟨rfl, by decide⟩ h (fun x17 st e17 h => ?_)
  refine r_pAF (pc := 19) dX4_init_19 q1704 fd_61 same_rf ⟨rfl, rfl⟩ h (fun st e19 h => ?_)
  refine r_aload_n (pc := 22) dX4_init_22 0 rfl rfl ?_
  refine r_sipush (pc := 23) (v := 590) dX4_init_23 (by decide) ?_
  refine r_newarray (pc := 26) dX4_init_26 ⟨rfl, by decide⟩ h (fun x26 st e26 h => ?_)
  refine r_pAF (pc := 28) dX4_init_28 q1705 fd_62 same_rf ⟨rfl, rfl⟩ h (fun st e28 h => ?_)
  refine r_aload_n (pc := 31) dX4_init_31 0 rfl rfl ?_
  refine r_bipush (pc := 32) (v := 90) dX4_init_32 (by decide) ?_
  refine r_newarray (pc := 34) dX4_init_34 ⟨rfl, by decide⟩ h (fun x34 st e34 h => ?_)
  refine r_pAF (pc := 36) dX4_init_36 q1706 fd_63 same_rf ⟨rfl, rfl⟩ h (fun st e36 h => ?_)
  refine r_aload_n (pc := 39) dX4_init_39 0 rfl rfl ?_
  refine r_bipush (pc := 40) (v := 64) dX4_init_40 (by decide) ?_
  refine r_newarray (pc := 42) dX4_init_42 ⟨rfl, by decide⟩ h (fun x42 st e42 h => ?_)
  refine r_pAF (pc := 44) dX4_init_44 q1721 fd_78 same_rf ⟨rfl, rfl⟩ h (fun st e44 h => ?_)
  refine r_aload_n (pc := 47) dX4_init_47 0 rfl rfl ?_
  refine r_bipush (pc := 48) (v := 30) dX4_init_48 (by decide) ?_
  refine r_newarray (pc := 50) dX4_init_50 ⟨rfl, by decide⟩ h (fun x50 st e50 h => ?_)
  refine r_pAF (pc := 52) dX4_init_52 q1722 fd_79 same_rf ⟨rfl, rfl⟩ h (fun st e52 h => ?_)
  refine r_aload_n (pc := 55) dX4_init_55 0 rfl rfl ?_
  refine r_bipush (pc := 56) (v := 64) dX4_init_56 (by decide) ?_
  refine r_newarray (pc := 58) dX4_init_58 ⟨rfl, by decide⟩ h (fun x58 st e58 h => ?_)
  refine r_pAF (pc := 60) dX4_init_60 q1723 fd_80 same_rf ⟨rfl, rfl⟩ h (fun st e60 h => ?_)
  refine r_aload_n (pc := 63) dX4_init_63 0 rfl rfl ?_
  refine r_sipush (pc := 64) (v := 384) dX4_init_64 (by decide) ?_
  refine r_newarray (pc := 67) dX4_init_67 ⟨rfl, by decide⟩ h (fun x67 st e67 h => ?_)
  refine r_pAF (pc := 69) dX4_init_69 q1727 fd_84 same_rf ⟨rfl, rfl⟩ h (fun st e69 h => ?_)
  refine r_aload_n (pc := 72) dX4_init_72 0 rfl rfl ?_
  refine r_iconst (pc := 73) (v := 1) dX4_init_73 (by decide) ?_
  refine r_pI (pc := 74) dX4_init_74 q1728 fd_85 same_rf rfl h (fun st e74 h => ?_)
  refine r_aload_n (pc := 77) dX4_init_77 0 rfl rfl ?_
  refine r_sipush (pc := 78) (v := 601) dX4_init_78 (by decide) ?_
  refine r_newarray (pc := 81) dX4_init_81 ⟨rfl, by decide⟩ h (fun x81 st e81 h => ?_)
  refine r_pAF (pc := 83) dX4_init_83 q1730 fd_87 same_rf ⟨rfl, rfl⟩ h (fun st e83 h => ?_)
  refine r_aload_n (pc := 86) dX4_init_86 0 rfl rfl ?_
  refine r_sipush (pc := 87) (v := 601) dX4_init_87 (by decide) ?_
  refine r_newarray (pc := 90) dX4_init_90 ⟨rfl, by decide⟩ h (fun x90 st e90 h => ?_)
  refine r_pAF (pc := 92) dX4_init_92 q1731 fd_88 same_rf ⟨rfl, rfl⟩ h (fun st e92 h => ?_)
  refine r_aload_n (pc := 95) dX4_init_95 0 rfl rfl ?_
  refine r_sipush (pc := 96) (v := 601) dX4_init_96 (by decide) ?_
  refine r_newarray (pc := 99) dX4_init_99 ⟨rfl, by decide⟩ h (fun x99 st e99 h => ?_)
  refine r_pAF (pc := 101) dX4_init_101 q1732 fd_89 same_rf ⟨rfl, rfl⟩ h (fun st e101 h => ?_)
  refine r_aload_n (pc := 104) dX4_init_104 0 rfl rfl ?_
  refine r_sipush (pc := 105) (v := 601) dX4_init_105 (by decide) ?_
  refine r_newarray (pc := 108) dX4_init_108 ⟨rfl, by decide⟩ h (fun x108 st e108 h => ?_)
  refine r_pAF (pc := 110) dX4_init_110 q1733 fd_90 same_rf ⟨rfl, rfl⟩ h (fun st e110 h => ?_)
  refine r_aload_n (pc := 113) dX4_init_113 0 rfl rfl ?_
  refine r_bipush (pc := 114) (v := 14) dX4_init_114 (by decide) ?_
  refine r_newarray (pc := 116) dX4_init_116 ⟨rfl, by decide⟩ h (fun x116 st e116 h => ?_)
  refine r_pAF (pc := 118) dX4_init_118 q1744 fd_101 same_rf ⟨rfl, rfl⟩ h (fun st e118 h => ?_)
  refine r_aload_n (pc := 121) dX4_init_121 0 rfl rfl ?_
  refine r_iconst (pc := 122) (v := (-1)) dX4_init_122 (by decide) ?_
  refine r_pI (pc := 123) dX4_init_123 q1746 fd_103 same_rf rfl h (fun st e123 h => ?_)
  refine r_aload_n (pc := 126) dX4_init_126 0 rfl rfl ?_
  refine r_sipush (pc := 127) (v := 256) dX4_init_127 (by decide) ?_
  refine r_newarray (pc := 130) dX4_init_130 ⟨rfl, by decide⟩ h (fun x130 st e130 h => ?_)
  refine r_pAF (pc := 132) dX4_init_132 q1747 fd_104 same_rf ⟨rfl, rfl⟩ h (fun st e132 h => ?_)
  refine r_aload_n (pc := 135) dX4_init_135 0 rfl rfl ?_
  refine r_sipush (pc := 136) (v := 256) dX4_init_136 (by decide) ?_
  refine r_newarray (pc := 139) dX4_init_139 ⟨rfl, by decide⟩ h (fun x139 st e139 h => ?_)
  refine r_pAF (pc := 141) dX4_init_141 q1748 fd_105 same_rf ⟨rfl, rfl⟩ h (fun st e141 h => ?_)
  refine r_aload_n (pc := 144) dX4_init_144 0 rfl rfl ?_
  refine r_bipush (pc := 145) (v := 8) dX4_init_145 (by decide) ?_
  refine r_newarray (pc := 147) dX4_init_147 ⟨rfl, by decide⟩ h (fun x147 st e147 h => ?_)
  refine r_pAF (pc := 149) dX4_init_149 q1749 fd_106 same_rf ⟨rfl, rfl⟩ h (fun st e149 h => ?_)
  refine r_aload_n (pc := 152) dX4_init_152 0 rfl rfl ?_
  refine r_iconst (pc := 153) (v := 3) dX4_init_153 (by decide) ?_
  refine r_newarray (pc := 154) dX4_init_154 ⟨rfl, by decide⟩ h (fun x154 st e154 h => ?_)
  refine r_pAF (pc := 156) dX4_init_156 q1752 fd_109 same_rf ⟨rfl, rfl⟩ h (fun st e156 h => ?_)
  refine r_aload_n (pc := 159) dX4_init_159 0 rfl rfl ?_
  refine r_iconst (pc := 160) (v := (-1)) dX4_init_160 (by decide) ?_
  refine r_pI (pc := 161) dX4_init_161 q1757 fd_114 same_rf rfl h (fun st e161 h => ?_)
  refine r_aload_n (pc := 164) dX4_init_164 0 rfl rfl ?_
  refine r_iconst (pc := 165) (v := (-1)) dX4_init_165 (by decide) ?_
  refine r_pI (pc := 166) dX4_init_166 q1758 fd_115 same_rf rfl h (fun st e166 h => ?_)
  refine r_aload_n (pc := 169) dX4_init_169 0 rfl rfl ?_
  refine r_bipush (pc := 170) (v := 61) dX4_init_170 (by decide) ?_
  refine r_newarray (pc := 172) dX4_init_172 ⟨rfl, by decide⟩ h (fun x172 st e172 h => ?_)
  refine r_pAF (pc := 174) dX4_init_174 q1759 fd_116 same_rf ⟨rfl, rfl⟩ h (fun st e174 h => ?_)
  refine r_aload_n (pc := 177) dX4_init_177 0 rfl rfl ?_
  refine r_bipush (pc := 178) (v := 61) dX4_init_178 (by decide) ?_
  refine r_newarray (pc := 180) dX4_init_180 ⟨rfl, by decide⟩ h (fun x180 st e180 h => ?_)
  refine r_pAF (pc := 182) dX4_init_182 q1760 fd_117 same_rf ⟨rfl, rfl⟩ h (fun st e182 h => ?_)
  refine r_aload_n (pc := 185) dX4_init_185 0 rfl rfl ?_
  refine r_sipush (pc := 186) (v := 1362) dX4_init_186 (by decide) ?_
  refine r_newarray (pc := 189) dX4_init_189 ⟨rfl, by decide⟩ h (fun x189 st e189 h => ?_)
  refine r_pAF (pc := 191) dX4_init_191 q1763 fd_120 same_rf ⟨rfl, rfl⟩ h (fun st e191 h => ?_)
  refine r_aload_n (pc := 194) dX4_init_194 0 rfl rfl ?_
  refine r_iconst (pc := 195) (v := 2) dX4_init_195 (by decide) ?_
  refine r_newarray (pc := 196) dX4_init_196 ⟨rfl, by decide⟩ h (fun x196 st e196 h => ?_)
  refine r_pAF (pc := 198) dX4_init_198 q1764 fd_121 same_rf ⟨rfl, rfl⟩ h (fun st e198 h => ?_)
  refine r_aload_n (pc := 201) dX4_init_201 0 rfl rfl ?_
  refine r_iconst (pc := 202) (v := 2) dX4_init_202 (by decide) ?_
  refine r_newarray (pc := 203) dX4_init_203 ⟨rfl, by decide⟩ h (fun x203 st e203 h => ?_)
  refine r_pAF (pc := 205) dX4_init_205 q1765 fd_122 same_rf ⟨rfl, rfl⟩ h (fun st e205 h => ?_)
  refine r_aload_n (pc := 208) dX4_init_208 0 rfl rfl ?_
  refine r_iconst (pc := 209) (v := 2) dX4_init_209 (by decide) ?_
  refine r_newarray (pc := 210) dX4_init_210 ⟨rfl, by decide⟩ h (fun x210 st e210 h => ?_)
  refine r_pAF (pc := 212) dX4_init_212 q1766 fd_123 same_rf ⟨rfl, rfl⟩ h (fun st e212 h => ?_)
  refine r_aload_n (pc := 215) dX4_init_215 0 rfl rfl ?_
  refine r_callV (pc := 216) (rest := []) (lkV dX4_init_216 q1694 xd_X4_plainHouse (vc_of vt_X4_plainHouse q1696 (fun _ => sX4_plainHouse)) adx_X4_plainHouse) (by decide) (Nat.le_of_ble_eq_true rfl) rfl h (fun u216 st e216 h => ?_)
  refine r_iconst (pc := 219) (v := 0) dX4_init_219 (by decide) ?_
  refine r_istore_n (pc := 220) (env' := [(1, vi (0 : Int32)), (0, vr a0)]) dX4_init_220 rfl (by decide) rfl ?_
  exact r_sub (env' := [(0, vr a0), (1, vi (0 : Int32))]) [1, 0] rfl (sX4_init_221 hcFuel _ _ _ h)
theorem sX4_isLaw_305 {st0 : Mem} {fin : Int32 × Mem} {kk6 : Rf → Int32 → Int32 → Int64 → Int64 → Int32 → Int32 → Int32 → Int32 → Mem → Option (Int32 × Mem)} (hk6 : ∀ (v0 : Rf) (v1 : Int32) (v2 : Int32) (v3 : Int64) (v5 : Int64) (v7 : Int32) (v8 : Int32) (v9 : Int32) (v10 : Int32) (st : Mem), kk6 v0 v1 v2 v3 v5 v7 v8 v9 v10 st = some fin → G (cX4_isLaw, "HouseClapsModel", "isLaw", 8, (some .boolean), 16) st0 trI fin 6 [(0, vr v0), (1, vi v1), (2, vi v2), (3, vj v3), (5, vj v5), (7, vi v7), (8, vi v8), (9, vi v9), (10, vi v10)] [] st) (v0 : Rf) (v1 : Int32) (v2 : Int32) (v3 : Int64) (v5 : Int64) (v7 : Int32) (v8 : Int32) (v9 : Int32) (v10 : Int32) (st : Mem) (h : bX4_isLaw_305 kk6 v0 v1 v2 v3 v5 v7 v8 v9 v10 st = some fin) : G (cX4_isLaw, "HouseClapsModel", "isLaw", 8, (some .boolean), 16) st0 trI fin 305 [(0, vr v0), (1, vi v1), (2, vi v2), (3, vj v3), (5, vj v5), (7, vi v7), (8, vi v8), (9, vi v9), (10, vi v10)] [] st := by
  unfold bX4_isLaw_305 at h
  refine r_iinc (pc := 305) (env' := [(10, vi (v10 + 1)), (0, vr v0), (1, vi v1), (2, vi v2), (3, vj v3), (5, vj v5), (7, vi v7), (8, vi v8), (9, vi v9)]) (cst := 1) dX4_isLaw_305 8 rfl (by decide) (by decide) rfl ?_
  refine r_goto (pc := 308) (tgt := 6) dX4_isLaw_308 (by decide) ?_
  exact r_sub (env' := [(0, vr v0), (1, vi v1), (2, vi v2), (3, vj v3), (5, vj v5), (7, vi v7), (8, vi v8), (9, vi v9), (10, vi (v10 + 1))]) [1, 2, 3, 4, 5, 6, 7, 8, 0] rfl (hk6 _ _ _ _ _ _ _ _ _ _ h)
theorem sX4_isLaw_160 {st0 : Mem} {fin : Int32 × Mem} {kk6 : Rf → Int32 → Int32 → Int64 → Int64 → Int32 → Int32 → Int32 → Int32 → Mem → Option (Int32 × Mem)} (hk6 : ∀ (v0 : Rf) (v1 : Int32) (v2 : Int32) (v3 : Int64) (v5 : Int64) (v7 : Int32) (v8 : Int32) (v9 : Int32) (v10 : Int32) (st : Mem), kk6 v0 v1 v2 v3 v5 v7 v8 v9 v10 st = some fin → G (cX4_isLaw, "HouseClapsModel", "isLaw", 8, (some .boolean), 16) st0 trI fin 6 [(0, vr v0), (1, vi v1), (2, vi v2), (3, vj v3), (5, vj v5), (7, vi v7), (8, vi v8), (9, vi v9), (10, vi v10)] [] st) (v0 : Rf) (v1 : Int32) (v2 : Int32) (v3 : Int64) (v5 : Int64) (v7 : Int32) (v8 : Int32) (v9 : Int32) (v10 : Int32) (k0 : Rf) (k1 : Int32) (k2 : Int32) (st : Mem) (h : bX4_isLaw_160 kk6 v0 v1 v2 v3 v5 v7 v8 v9 v10 k0 k1 k2 st = some fin) : G (cX4_isLaw, "HouseClapsModel", "isLaw", 8, (some .boolean), 16) st0 trI fin 160 [(0, vr v0), (1, vi v1), (2, vi v2), (3, vj v3), (5, vj v5), (7, vi v7), (8, vi v8), (9, vi v9), (10, vi v10)] [vi k2, vi k1, vr k0] st := by
  unfold bX4_isLaw_160 at h
  refine r_bastore (pc := 160) dX4_isLaw_160 h (fun st e160 h => ?_)
  refine r_goto (pc := 161) (tgt := 305) dX4_isLaw_161 (by decide) ?_
  exact sX4_isLaw_305 hk6 _ _ _ _ _ _ _ _ _ _ h
theorem sX4_isLaw_155 {st0 : Mem} {fin : Int32 × Mem} {kk6 : Rf → Int32 → Int32 → Int64 → Int64 → Int32 → Int32 → Int32 → Int32 → Mem → Option (Int32 × Mem)} (hk6 : ∀ (v0 : Rf) (v1 : Int32) (v2 : Int32) (v3 : Int64) (v5 : Int64) (v7 : Int32) (v8 : Int32) (v9 : Int32) (v10 : Int32) (st : Mem), kk6 v0 v1 v2 v3 v5 v7 v8 v9 v10 st = some fin → G (cX4_isLaw, "HouseClapsModel", "isLaw", 8, (some .boolean), 16) st0 trI fin 6 [(0, vr v0), (1, vi v1), (2, vi v2), (3, vj v3), (5, vj v5), (7, vi v7), (8, vi v8), (9, vi v9), (10, vi v10)] [] st) (v0 : Rf) (v1 : Int32) (v2 : Int32) (v3 : Int64) (v5 : Int64) (v7 : Int32) (v8 : Int32) (v9 : Int32) (v10 : Int32) (k0 : Rf) (k1 : Int32) (st : Mem) (h : bX4_isLaw_155 kk6 v0 v1 v2 v3 v5 v7 v8 v9 v10 k0 k1 st = some fin) : G (cX4_isLaw, "HouseClapsModel", "isLaw", 8, (some .boolean), 16) st0 trI fin 155 [(0, vr v0), (1, vi v1), (2, vi v2), (3, vj v3), (5, vj v5), (7, vi v7), (8, vi v8), (9, vi v9), (10, vi v10)] [vi k1, vr k0] st := by
  unfold bX4_isLaw_155 at h
  refine r_iconst (pc := 155) (v := 1) dX4_isLaw_155 (by decide) ?_
  refine r_goto (pc := 156) (tgt := 160) dX4_isLaw_156 (by decide) ?_
  exact sX4_isLaw_160 hk6 _ _ _ _ _ _ _ _ _ _ _ _ _ h
theorem sX4_isLaw_129 {st0 : Mem} {fin : Int32 × Mem} {kk6 : Rf → Int32 → Int32 → Int64 → Int64 → Int32 → Int32 → Int32 → Int32 → Mem → Option (Int32 × Mem)} (hk6 : ∀ (v0 : Rf) (v1 : Int32) (v2 : Int32) (v3 : Int64) (v5 : Int64) (v7 : Int32) (v8 : Int32) (v9 : Int32) (v10 : Int32) (st : Mem), kk6 v0 v1 v2 v3 v5 v7 v8 v9 v10 st = some fin → G (cX4_isLaw, "HouseClapsModel", "isLaw", 8, (some .boolean), 16) st0 trI fin 6 [(0, vr v0), (1, vi v1), (2, vi v2), (3, vj v3), (5, vj v5), (7, vi v7), (8, vi v8), (9, vi v9), (10, vi v10)] [] st) (v0 : Rf) (v1 : Int32) (v2 : Int32) (v3 : Int64) (v5 : Int64) (v7 : Int32) (v8 : Int32) (v9 : Int32) (v10 : Int32) (k0 : Rf) (k1 : Int32) (st : Mem) (h : bX4_isLaw_129 kk6 v0 v1 v2 v3 v5 v7 v8 v9 v10 k0 k1 st = some fin) : G (cX4_isLaw, "HouseClapsModel", "isLaw", 8, (some .boolean), 16) st0 trI fin 129 [(0, vr v0), (1, vi v1), (2, vi v2), (3, vj v3), (5, vj v5), (7, vi v7), (8, vi v8), (9, vi v9), (10, vi v10)] [vi k1, vr k0] st := by
  unfold bX4_isLaw_129 at h
  refine r_iconst (pc := 129) (v := 0) dX4_isLaw_129 (by decide) ?_
  refine r_goto (pc := 130) (tgt := 160) dX4_isLaw_130 (by decide) ?_
  exact sX4_isLaw_160 hk6 _ _ _ _ _ _ _ _ _ _ _ _ _ h
theorem sX4_isLaw_86 {st0 : Mem} {fin : Int32 × Mem} {kk6 : Rf → Int32 → Int32 → Int64 → Int64 → Int32 → Int32 → Int32 → Int32 → Mem → Option (Int32 × Mem)} (hk6 : ∀ (v0 : Rf) (v1 : Int32) (v2 : Int32) (v3 : Int64) (v5 : Int64) (v7 : Int32) (v8 : Int32) (v9 : Int32) (v10 : Int32) (st : Mem), kk6 v0 v1 v2 v3 v5 v7 v8 v9 v10 st = some fin → G (cX4_isLaw, "HouseClapsModel", "isLaw", 8, (some .boolean), 16) st0 trI fin 6 [(0, vr v0), (1, vi v1), (2, vi v2), (3, vj v3), (5, vj v5), (7, vi v7), (8, vi v8), (9, vi v9), (10, vi v10)] [] st) (v0 : Rf) (v1 : Int32) (v2 : Int32) (v3 : Int64) (v5 : Int64) (v7 : Int32) (v8 : Int32) (v9 : Int32) (v10 : Int32) (v12 : Int32) (st : Mem) (h : bX4_isLaw_86 kk6 v0 v1 v2 v3 v5 v7 v8 v9 v10 v12 st = some fin) : G (cX4_isLaw, "HouseClapsModel", "isLaw", 8, (some .boolean), 16) st0 trI fin 86 [(0, vr v0), (1, vi v1), (2, vi v2), (3, vj v3), (5, vj v5), (7, vi v7), (8, vi v8), (9, vi v9), (10, vi v10), (12, vi v12)] [] st := by
  unfold bX4_isLaw_86 at h
  refine r_iinc (pc := 86) (env' := [(9, vi (v9 + (-1))), (0, vr v0), (1, vi v1), (2, vi v2), (3, vj v3), (5, vj v5), (7, vi v7), (8, vi v8), (10, vi v10), (12, vi v12)]) (cst := (-1)) dX4_isLaw_86 7 rfl (by decide) (by decide) rfl ?_
  refine r_aload_n (pc := 89) dX4_isLaw_89 1 rfl rfl ?_
  refine r_gA (pc := 90) dX4_isLaw_90 q1723 fd_80 same_rf h (fun x90 e90 h => ?_)
  refine r_iload (pc := 93) dX4_isLaw_93 0 rfl ?_
  refine r_iconst (pc := 95) (v := 1) dX4_isLaw_95 (by decide) ?_
  refine r_isub (pc := 96) dX4_isLaw_96 ?_
  refine r_iload (pc := 97) dX4_isLaw_97 9 rfl ?_
  refine r_iconst (pc := 99) (v := 4) dX4_isLaw_99 (by decide) ?_
  refine r_icmp_ne (pc := 100) (tgt := 133) dX4_isLaw_100 (by decide) h (fun e100 h => ?_) (fun e100 h => ?_)
  · refine r_aload_n (pc := 133) dX4_isLaw_133 1 rfl rfl ?_
    refine r_gA (pc := 134) dX4_isLaw_134 q1723 fd_80 same_rf h (fun x134 e134 h => ?_)
    refine r_iload (pc := 137) dX4_isLaw_137 0 rfl ?_
    refine r_iconst (pc := 139) (v := 1) dX4_isLaw_139 (by decide) ?_
    refine r_isub (pc := 140) dX4_isLaw_140 ?_
    refine r_baload (pc := 141) dX4_isLaw_141 h (fun x141 e141 h => ?_)
    refine r_if_ne (pc := 142) (tgt := 155) dX4_isLaw_142 (by decide) h (fun e142 h => ?_) (fun e142 h => ?_)
    · exact r_sub (env' := [(0, vr v0), (1, vi v1), (2, vi v2), (3, vj v3), (5, vj v5), (7, vi v7), (8, vi v8), (9, vi (v9 + (-1))), (10, vi v10)]) [1, 2, 3, 4, 5, 6, 7, 0, 8] rfl (sX4_isLaw_155 hk6 _ _ _ _ _ _ _ _ _ _ _ _ h)
    · refine r_aload_n (pc := 145) dX4_isLaw_145 1 rfl rfl ?_
      refine r_gA (pc := 146) dX4_isLaw_146 q1723 fd_80 same_rf h (fun x146 e146 h => ?_)
      refine r_iload (pc := 149) dX4_isLaw_149 0 rfl ?_
      refine r_baload (pc := 151) dX4_isLaw_151 h (fun x151 e151 h => ?_)
      refine r_if_eq (pc := 152) (tgt := 159) dX4_isLaw_152 (by decide) h (fun e152 h => ?_) (fun e152 h => ?_)
      · refine r_iconst (pc := 159) (v := 0) dX4_isLaw_159 (by decide) ?_
        exact r_sub (env' := [(0, vr v0), (1, vi v1), (2, vi v2), (3, vj v3), (5, vj v5), (7, vi v7), (8, vi v8), (9, vi (v9 + (-1))), (10, vi v10)]) [1, 2, 3, 4, 5, 6, 7, 0, 8] rfl (sX4_isLaw_160 hk6 _ _ _ _ _ _ _ _ _ _ _ _ _ h)
      · exact r_sub (env' := [(0, vr v0), (1, vi v1), (2, vi v2), (3, vj v3), (5, vj v5), (7, vi v7), (8, vi v8), (9, vi (v9 + (-1))), (10, vi v10)]) [1, 2, 3, 4, 5, 6, 7, 0, 8] rfl (sX4_isLaw_155 hk6 _ _ _ _ _ _ _ _ _ _ _ _ h)
  · refine r_aload_n (pc := 103) dX4_isLaw_103 1 rfl rfl ?_
    refine r_gA (pc := 104) dX4_isLaw_104 q1723 fd_80 same_rf h (fun x104 e104 h => ?_)
    refine r_iload (pc := 107) dX4_isLaw_107 0 rfl ?_
    refine r_iconst (pc := 109) (v := 1) dX4_isLaw_109 (by decide) ?_
    refine r_isub (pc := 110) dX4_isLaw_110 ?_
    refine r_baload (pc := 111) dX4_isLaw_111 h (fun x111 e111 h => ?_)
    refine r_if_eq (pc := 112) (tgt := 129) dX4_isLaw_112 (by decide) h (fun e112 h => ?_) (fun e112 h => ?_)
    · exact r_sub (env' := [(0, vr v0), (1, vi v1), (2, vi v2), (3, vj v3), (5, vj v5), (7, vi v7), (8, vi v8), (9, vi (v9 + (-1))), (10, vi v10)]) [1, 2, 3, 4, 5, 6, 7, 0, 8] rfl (sX4_isLaw_129 hk6 _ _ _ _ _ _ _ _ _ _ _ _ h)
    · refine r_aload_n (pc := 115) dX4_isLaw_115 1 rfl rfl ?_
      refine r_gA (pc := 116) dX4_isLaw_116 q1723 fd_80 same_rf h (fun x116 e116 h => ?_)
      refine r_iload (pc := 119) dX4_isLaw_119 0 rfl ?_
      refine r_baload (pc := 121) dX4_isLaw_121 h (fun x121 e121 h => ?_)
      refine r_if_eq (pc := 122) (tgt := 129) dX4_isLaw_122 (by decide) h (fun e122 h => ?_) (fun e122 h => ?_)
      · exact r_sub (env' := [(0, vr v0), (1, vi v1), (2, vi v2), (3, vj v3), (5, vj v5), (7, vi v7), (8, vi v8), (9, vi (v9 + (-1))), (10, vi v10)]) [1, 2, 3, 4, 5, 6, 7, 0, 8] rfl (sX4_isLaw_129 hk6 _ _ _ _ _ _ _ _ _ _ _ _ h)
      · refine r_iconst (pc := 125) (v := 1) dX4_isLaw_125 (by decide) ?_
        refine r_goto (pc := 126) (tgt := 160) dX4_isLaw_126 (by decide) ?_
        exact r_sub (env' := [(0, vr v0), (1, vi v1), (2, vi v2), (3, vj v3), (5, vj v5), (7, vi v7), (8, vi v8), (9, vi (v9 + (-1))), (10, vi v10)]) [1, 2, 3, 4, 5, 6, 7, 0, 8] rfl (sX4_isLaw_160 hk6 _ _ _ _ _ _ _ _ _ _ _ _ _ h)
theorem sX4_isLaw_301 {st0 : Mem} {fin : Int32 × Mem} {kk6 : Rf → Int32 → Int32 → Int64 → Int64 → Int32 → Int32 → Int32 → Int32 → Mem → Option (Int32 × Mem)} (hk6 : ∀ (v0 : Rf) (v1 : Int32) (v2 : Int32) (v3 : Int64) (v5 : Int64) (v7 : Int32) (v8 : Int32) (v9 : Int32) (v10 : Int32) (st : Mem), kk6 v0 v1 v2 v3 v5 v7 v8 v9 v10 st = some fin → G (cX4_isLaw, "HouseClapsModel", "isLaw", 8, (some .boolean), 16) st0 trI fin 6 [(0, vr v0), (1, vi v1), (2, vi v2), (3, vj v3), (5, vj v5), (7, vi v7), (8, vi v8), (9, vi v9), (10, vi v10)] [] st) (v0 : Rf) (v1 : Int32) (v2 : Int32) (v3 : Int64) (v5 : Int64) (v7 : Int32) (v8 : Int32) (v9 : Int32) (v10 : Int32) (k0 : Rf) (k1 : Int32) (k2 : Int32) (st : Mem) (h : bX4_isLaw_301 kk6 v0 v1 v2 v3 v5 v7 v8 v9 v10 k0 k1 k2 st = some fin) : G (cX4_isLaw, "HouseClapsModel", "isLaw", 8, (some .boolean), 16) st0 trI fin 301 [(0, vr v0), (1, vi v1), (2, vi v2), (3, vj v3), (5, vj v5), (7, vi v7), (8, vi v8), (9, vi v9), (10, vi v10)] [vi k2, vi k1, vr k0] st := by
  unfold bX4_isLaw_301 at h
  refine r_bastore (pc := 301) dX4_isLaw_301 h (fun st e301 h => ?_)
  refine r_iinc (pc := 302) (env' := [(9, vi (v9 + 1)), (0, vr v0), (1, vi v1), (2, vi v2), (3, vj v3), (5, vj v5), (7, vi v7), (8, vi v8), (10, vi v10)]) (cst := 1) dX4_isLaw_302 7 rfl (by decide) (by decide) rfl ?_
  exact r_sub (env' := [(0, vr v0), (1, vi v1), (2, vi v2), (3, vj v3), (5, vj v5), (7, vi v7), (8, vi v8), (9, vi (v9 + 1)), (10, vi v10)]) [1, 2, 3, 4, 5, 6, 7, 0, 8] rfl (sX4_isLaw_305 hk6 _ _ _ _ _ _ _ _ _ _ h)
theorem sX4_isLaw_224 {st0 : Mem} {fin : Int32 × Mem} {kk6 : Rf → Int32 → Int32 → Int64 → Int64 → Int32 → Int32 → Int32 → Int32 → Mem → Option (Int32 × Mem)} (hk6 : ∀ (v0 : Rf) (v1 : Int32) (v2 : Int32) (v3 : Int64) (v5 : Int64) (v7 : Int32) (v8 : Int32) (v9 : Int32) (v10 : Int32) (st : Mem), kk6 v0 v1 v2 v3 v5 v7 v8 v9 v10 st = some fin → G (cX4_isLaw, "HouseClapsModel", "isLaw", 8, (some .boolean), 16) st0 trI fin 6 [(0, vr v0), (1, vi v1), (2, vi v2), (3, vj v3), (5, vj v5), (7, vi v7), (8, vi v8), (9, vi v9), (10, vi v10)] [] st) (v0 : Rf) (v1 : Int32) (v2 : Int32) (v3 : Int64) (v5 : Int64) (v7 : Int32) (v8 : Int32) (v9 : Int32) (v10 : Int32) (v11 : Int32) (k0 : Int32) (st : Mem) (h : bX4_isLaw_224 kk6 v0 v1 v2 v3 v5 v7 v8 v9 v10 v11 k0 st = some fin) : G (cX4_isLaw, "HouseClapsModel", "isLaw", 8, (some .boolean), 16) st0 trI fin 224 [(0, vr v0), (1, vi v1), (2, vi v2), (3, vj v3), (5, vj v5), (7, vi v7), (8, vi v8), (9, vi v9), (10, vi v10), (11, vi v11)] [vi k0] st := by
  unfold bX4_isLaw_224 at h
  refine r_istore (pc := 224) (env' := [(13, vi k0), (0, vr v0), (1, vi v1), (2, vi v2), (3, vj v3), (5, vj v5), (7, vi v7), (8, vi v8), (9, vi v9), (10, vi v10), (11, vi v11)]) dX4_isLaw_224 (by decide) rfl ?_
  refine r_iload (pc := 226) dX4_isLaw_226 10 rfl ?_
  refine r_bipush (pc := 228) (v := 8) dX4_isLaw_228 (by decide) ?_
  refine r_ishr (pc := 230) dX4_isLaw_230 ?_
  refine r_iconst (pc := 231) (v := 3) dX4_isLaw_231 (by decide) ?_
  refine r_iand (pc := 232) dX4_isLaw_232 ?_
  refine r_nameI h (fun y233 e233 h => ?_)
  refine r_istore (pc := 233) (env' := [(14, vi y233), (13, vi k0), (0, vr v0), (1, vi v1), (2, vi v2), (3, vj v3), (5, vj v5), (7, vi v7), (8, vi v8), (9, vi v9), (10, vi v10), (11, vi v11)]) dX4_isLaw_233 (by decide) rfl ?_
  refine r_iload (pc := 235) dX4_isLaw_235 11 rfl ?_
  refine r_bipush (pc := 237) (v := 10) dX4_isLaw_237 (by decide) ?_
  refine r_ishr (pc := 239) dX4_isLaw_239 ?_
  refine r_istore (pc := 240) (env' := [(15, vi (shrI v11 (10 : Int32))), (14, vi y233), (13, vi k0), (0, vr v0), (1, vi v1), (2, vi v2), (3, vj v3), (5, vj v5), (7, vi v7), (8, vi v8), (9, vi v9), (10, vi v10), (11, vi v11)]) dX4_isLaw_240 (by decide) rfl ?_
  refine r_aload_n (pc := 242) dX4_isLaw_242 3 rfl rfl ?_
  refine r_gA (pc := 243) dX4_isLaw_243 q1723 fd_80 same_rf h (fun x243 e243 h => ?_)
  refine r_iload (pc := 246) dX4_isLaw_246 10 rfl ?_
  refine r_iload (pc := 248) dX4_isLaw_248 1 rfl ?_
  refine r_if_ne (pc := 250) (tgt := 268) dX4_isLaw_250 (by decide) h (fun e250 h => ?_) (fun e250 h => ?_)
  · refine r_iload (pc := 268) dX4_isLaw_268 1 rfl ?_
    refine r_iconst (pc := 270) (v := 1) dX4_isLaw_270 (by decide) ?_
    refine r_icmp_ne (pc := 271) (tgt := 289) dX4_isLaw_271 (by decide) h (fun e271 h => ?_) (fun e271 h => ?_)
    · refine r_iload (pc := 289) dX4_isLaw_289 2 rfl ?_
      refine r_iload (pc := 291) dX4_isLaw_291 0 rfl ?_
      refine r_icmp_le (pc := 293) (tgt := 300) dX4_isLaw_293 (by decide) h (fun e293 h => ?_) (fun e293 h => ?_)
      · refine r_iconst (pc := 300) (v := 0) dX4_isLaw_300 (by decide) ?_
        exact r_sub (env' := [(0, vr v0), (1, vi v1), (2, vi v2), (3, vj v3), (5, vj v5), (7, vi v7), (8, vi v8), (9, vi v9), (10, vi v10)]) [3, 4, 5, 6, 7, 8, 9, 10, 11] rfl (sX4_isLaw_301 hk6 _ _ _ _ _ _ _ _ _ _ _ _ _ h)
      · refine r_iconst (pc := 296) (v := 1) dX4_isLaw_296 (by decide) ?_
        refine r_goto (pc := 297) (tgt := 301) dX4_isLaw_297 (by decide) ?_
        exact r_sub (env' := [(0, vr v0), (1, vi v1), (2, vi v2), (3, vj v3), (5, vj v5), (7, vi v7), (8, vi v8), (9, vi v9), (10, vi v10)]) [3, 4, 5, 6, 7, 8, 9, 10, 11] rfl (sX4_isLaw_301 hk6 _ _ _ _ _ _ _ _ _ _ _ _ _ h)
    · refine r_iload (pc := 274) dX4_isLaw_274 2 rfl ?_
      refine r_iload (pc := 276) dX4_isLaw_276 0 rfl ?_
      refine r_icmp_ne (pc := 278) (tgt := 285) dX4_isLaw_278 (by decide) h (fun e278 h => ?_) (fun e278 h => ?_)
      · refine r_iconst (pc := 285) (v := 0) dX4_isLaw_285 (by decide) ?_
        refine r_goto (pc := 286) (tgt := 301) dX4_isLaw_286 (by decide) ?_
        exact r_sub (env' := [(0, vr v0), (1, vi v1), (2, vi v2), (3, vj v3), (5, vj v5), (7, vi v7), (8, vi v8), (9, vi v9), (10, vi v10)]) [3, 4, 5, 6, 7, 8, 9, 10, 11] rfl (sX4_isLaw_301 hk6 _ _ _ _ _ _ _ _ _ _ _ _ _ h)
      · refine r_iconst (pc := 281) (v := 1) dX4_isLaw_281 (by decide) ?_
        refine r_goto (pc := 282) (tgt := 301) dX4_isLaw_282 (by decide) ?_
        exact r_sub (env' := [(0, vr v0), (1, vi v1), (2, vi v2), (3, vj v3), (5, vj v5), (7, vi v7), (8, vi v8), (9, vi v9), (10, vi v10)]) [3, 4, 5, 6, 7, 8, 9, 10, 11] rfl (sX4_isLaw_301 hk6 _ _ _ _ _ _ _ _ _ _ _ _ _ h)
  · refine r_iload (pc := 253) dX4_isLaw_253 2 rfl ?_
    refine r_iload (pc := 255) dX4_isLaw_255 0 rfl ?_
    refine r_icmp_ge (pc := 257) (tgt := 264) dX4_isLaw_257 (by decide) h (fun e257 h => ?_) (fun e257 h => ?_)
    · refine r_iconst (pc := 264) (v := 0) dX4_isLaw_264 (by decide) ?_
      refine r_goto (pc := 265) (tgt := 301) dX4_isLaw_265 (by decide) ?_
      exact r_sub (env' := [(0, vr v0), (1, vi v1), (2, vi v2), (3, vj v3), (5, vj v5), (7, vi v7), (8, vi v8), (9, vi v9), (10, vi v10)]) [3, 4, 5, 6, 7, 8, 9, 10, 11] rfl (sX4_isLaw_301 hk6 _ _ _ _ _ _ _ _ _ _ _ _ _ h)
    · refine r_iconst (pc := 260) (v := 1) dX4_isLaw_260 (by decide) ?_
      refine r_goto (pc := 261) (tgt := 301) dX4_isLaw_261 (by decide) ?_
      exact r_sub (env' := [(0, vr v0), (1, vi v1), (2, vi v2), (3, vj v3), (5, vj v5), (7, vi v7), (8, vi v8), (9, vi v9), (10, vi v10)]) [3, 4, 5, 6, 7, 8, 9, 10, 11] rfl (sX4_isLaw_301 hk6 _ _ _ _ _ _ _ _ _ _ _ _ _ h)
theorem sX4_isLaw_220 {st0 : Mem} {fin : Int32 × Mem} {kk6 : Rf → Int32 → Int32 → Int64 → Int64 → Int32 → Int32 → Int32 → Int32 → Mem → Option (Int32 × Mem)} (hk6 : ∀ (v0 : Rf) (v1 : Int32) (v2 : Int32) (v3 : Int64) (v5 : Int64) (v7 : Int32) (v8 : Int32) (v9 : Int32) (v10 : Int32) (st : Mem), kk6 v0 v1 v2 v3 v5 v7 v8 v9 v10 st = some fin → G (cX4_isLaw, "HouseClapsModel", "isLaw", 8, (some .boolean), 16) st0 trI fin 6 [(0, vr v0), (1, vi v1), (2, vi v2), (3, vj v3), (5, vj v5), (7, vi v7), (8, vi v8), (9, vi v9), (10, vi v10)] [] st) (v0 : Rf) (v1 : Int32) (v2 : Int32) (v3 : Int64) (v5 : Int64) (v7 : Int32) (v8 : Int32) (v9 : Int32) (v10 : Int32) (v11 : Int32) (k0 : Int64) (k1 : Int64) (st : Mem) (h : bX4_isLaw_220 kk6 v0 v1 v2 v3 v5 v7 v8 v9 v10 v11 k0 k1 st = some fin) : G (cX4_isLaw, "HouseClapsModel", "isLaw", 8, (some .boolean), 16) st0 trI fin 220 [(0, vr v0), (1, vi v1), (2, vi v2), (3, vj v3), (5, vj v5), (7, vi v7), (8, vi v8), (9, vi v9), (10, vi v10), (11, vi v11)] [vj k1, vj k0] st := by
  unfold bX4_isLaw_220 at h
  refine r_land (pc := 220) dX4_isLaw_220 ?_
  refine r_callI (pc := 221) (rest := []) (lkS dX4_isLaw_221 q2132 q2133 q92 (fun _ => sX4_bits) ad_X4_bits) (by decide) (Nat.le_of_ble_eq_true rfl) rfl h (fun x221 st e221 h => ?_)
  exact sX4_isLaw_224 hk6 _ _ _ _ _ _ _ _ _ _ _ _ h
theorem sX4_isLaw_70 {st0 : Mem} {fin : Int32 × Mem} {kk6 : Rf → Int32 → Int32 → Int64 → Int64 → Int32 → Int32 → Int32 → Int32 → Mem → Option (Int32 × Mem)} (hk6 : ∀ (v0 : Rf) (v1 : Int32) (v2 : Int32) (v3 : Int64) (v5 : Int64) (v7 : Int32) (v8 : Int32) (v9 : Int32) (v10 : Int32) (st : Mem), kk6 v0 v1 v2 v3 v5 v7 v8 v9 v10 st = some fin → G (cX4_isLaw, "HouseClapsModel", "isLaw", 8, (some .boolean), 16) st0 trI fin 6 [(0, vr v0), (1, vi v1), (2, vi v2), (3, vj v3), (5, vj v5), (7, vi v7), (8, vi v8), (9, vi v9), (10, vi v10)] [] st) (v0 : Rf) (v1 : Int32) (v2 : Int32) (v3 : Int64) (v5 : Int64) (v7 : Int32) (v8 : Int32) (v9 : Int32) (v10 : Int32) (k0 : Rf) (k1 : Int32) (k2 : Int32) (st : Mem) (h : bX4_isLaw_70 kk6 v0 v1 v2 v3 v5 v7 v8 v9 v10 k0 k1 k2 st = some fin) : G (cX4_isLaw, "HouseClapsModel", "isLaw", 8, (some .boolean), 16) st0 trI fin 70 [(0, vr v0), (1, vi v1), (2, vi v2), (3, vj v3), (5, vj v5), (7, vi v7), (8, vi v8), (9, vi v9), (10, vi v10)] [vi k2, vi k1, vr k0] st := by
  unfold bX4_isLaw_70 at h
  refine r_bastore (pc := 70) dX4_isLaw_70 h (fun st e70 h => ?_)
  refine r_goto (pc := 71) (tgt := 305) dX4_isLaw_71 (by decide) ?_
  exact sX4_isLaw_305 hk6 _ _ _ _ _ _ _ _ _ _ h
theorem sX4_isLaw_6B {st0 : Mem} {fin : Int32 × Mem} {kk6 : Rf → Int32 → Int32 → Int64 → Int64 → Int32 → Int32 → Int32 → Int32 → Mem → Option (Int32 × Mem)} (hk6 : ∀ (v0 : Rf) (v1 : Int32) (v2 : Int32) (v3 : Int64) (v5 : Int64) (v7 : Int32) (v8 : Int32) (v9 : Int32) (v10 : Int32) (st : Mem), kk6 v0 v1 v2 v3 v5 v7 v8 v9 v10 st = some fin → G (cX4_isLaw, "HouseClapsModel", "isLaw", 8, (some .boolean), 16) st0 trI fin 6 [(0, vr v0), (1, vi v1), (2, vi v2), (3, vj v3), (5, vj v5), (7, vi v7), (8, vi v8), (9, vi v9), (10, vi v10)] [] st) (v0 : Rf) (v1 : Int32) (v2 : Int32) (v3 : Int64) (v5 : Int64) (v7 : Int32) (v8 : Int32) (v9 : Int32) (v10 : Int32) (st : Mem) (h : bX4_isLaw_6B kk6 v0 v1 v2 v3 v5 v7 v8 v9 v10 st = some fin) : G (cX4_isLaw, "HouseClapsModel", "isLaw", 8, (some .boolean), 16) st0 trI fin 6 [(0, vr v0), (1, vi v1), (2, vi v2), (3, vj v3), (5, vj v5), (7, vi v7), (8, vi v8), (9, vi v9), (10, vi v10)] [] st := by
  unfold bX4_isLaw_6B at h
  refine r_iload (pc := 6) dX4_isLaw_6 8 rfl ?_
  refine r_aload_n (pc := 8) dX4_isLaw_8 0 rfl rfl ?_
  refine r_gA (pc := 9) dX4_isLaw_9 q1704 fd_61 same_rf h (fun x9 e9 h => ?_)
  refine r_iload_n (pc := 12) dX4_isLaw_12 1 rfl rfl ?_
  refine r_iconst (pc := 13) (v := 1) dX4_isLaw_13 (by decide) ?_
  refine r_iadd (pc := 14) dX4_isLaw_14 ?_
  refine r_iaload (pc := 15) dX4_isLaw_15 h (fun x15 e15 h => ?_)
  refine r_icmp_ge (pc := 16) (tgt := 311) dX4_isLaw_16 (by decide) h (fun e16 h => ?_) (fun e16 h => ?_)
  · refine r_aload_n (pc := 311) dX4_isLaw_311 0 rfl rfl ?_
    refine r_gA (pc := 312) dX4_isLaw_312 q1723 fd_80 same_rf h (fun x312 e312 h => ?_)
    refine r_iconst (pc := 315) (v := 0) dX4_isLaw_315 (by decide) ?_
    refine r_baload (pc := 316) dX4_isLaw_316 h (fun x316 e316 h => ?_)
    exact r_ireturn (pc := 317) dX4_isLaw_317 rfl rfl h
  · refine r_aload_n (pc := 19) dX4_isLaw_19 0 rfl rfl ?_
    refine r_gA (pc := 20) dX4_isLaw_20 q1704 fd_61 same_rf h (fun x20 e20 h => ?_)
    refine r_iload_n (pc := 23) dX4_isLaw_23 1 rfl rfl ?_
    refine r_iconst (pc := 24) (v := 2) dX4_isLaw_24 (by decide) ?_
    refine r_iadd (pc := 25) dX4_isLaw_25 ?_
    refine r_iload (pc := 26) dX4_isLaw_26 8 rfl ?_
    refine r_iadd (pc := 28) dX4_isLaw_28 ?_
    refine r_iaload (pc := 29) dX4_isLaw_29 h (fun x29 e29 h => ?_)
    refine r_istore (pc := 30) (env' := [(11, vi x29), (0, vr v0), (1, vi v1), (2, vi v2), (3, vj v3), (5, vj v5), (7, vi v7), (8, vi v8), (9, vi v9), (10, vi v10)]) dX4_isLaw_30 (by decide) rfl ?_
    refine r_iload (pc := 32) dX4_isLaw_32 0 rfl ?_
    refine r_bipush (pc := 34) (v := 7) dX4_isLaw_34 (by decide) ?_
    refine r_iand (pc := 36) dX4_isLaw_36 ?_
    refine r_istore (pc := 37) (env' := [(12, vi (x29 &&& (7 : Int32))), (11, vi x29), (0, vr v0), (1, vi v1), (2, vi v2), (3, vj v3), (5, vj v5), (7, vi v7), (8, vi v8), (9, vi v9), (10, vi v10)]) dX4_isLaw_37 (by decide) rfl ?_
    refine r_iload (pc := 39) dX4_isLaw_39 0 rfl ?_
    refine r_iconst (pc := 41) (v := 3) dX4_isLaw_41 (by decide) ?_
    refine r_icmp_ne (pc := 42) (tgt := 74) dX4_isLaw_42 (by decide) h (fun e42 h => ?_) (fun e42 h => ?_)
    · refine r_iload (pc := 74) dX4_isLaw_74 0 rfl ?_
      refine r_iconst (pc := 76) (v := 4) dX4_isLaw_76 (by decide) ?_
      refine r_icmp_eq (pc := 77) (tgt := 86) dX4_isLaw_77 (by decide) h (fun e77 h => ?_) (fun e77 h => ?_)
      · exact r_sub (env' := [(0, vr v0), (1, vi v1), (2, vi v2), (3, vj v3), (5, vj v5), (7, vi v7), (8, vi v8), (9, vi v9), (10, vi v10), (12, vi (x29 &&& (7 : Int32)))]) [2, 3, 4, 5, 6, 7, 8, 9, 10, 0] rfl (sX4_isLaw_86 hk6 _ _ _ _ _ _ _ _ _ _ _ h)
      · refine r_iload (pc := 80) dX4_isLaw_80 0 rfl ?_
        refine r_iconst (pc := 82) (v := 5) dX4_isLaw_82 (by decide) ?_
        refine r_icmp_ne (pc := 83) (tgt := 164) dX4_isLaw_83 (by decide) h (fun e83 h => ?_) (fun e83 h => ?_)
        · refine r_iload (pc := 164) dX4_isLaw_164 0 rfl ?_
          refine r_iconst (pc := 166) (v := 1) dX4_isLaw_166 (by decide) ?_
          refine r_icmp_ne (pc := 167) (tgt := 175) dX4_isLaw_167 (by decide) h (fun e167 h => ?_) (fun e167 h => ?_)
          · refine r_iload (pc := 175) dX4_isLaw_175 0 rfl ?_
            refine r_iconst (pc := 177) (v := 2) dX4_isLaw_177 (by decide) ?_
            refine r_icmp_ne (pc := 178) (tgt := 186) dX4_isLaw_178 (by decide) h (fun e178 h => ?_) (fun e178 h => ?_)
            · refine r_aload_n (pc := 186) dX4_isLaw_186 2 rfl rfl ?_
              refine r_gA (pc := 187) dX4_isLaw_187 q1727 fd_84 same_rf h (fun x187 e187 h => ?_)
              refine r_bipush (pc := 190) (v := 6) dX4_isLaw_190 (by decide) ?_
              refine r_iload_n (pc := 192) dX4_isLaw_192 4 rfl rfl ?_
              refine r_imul (pc := 193) dX4_isLaw_193 ?_
              refine r_iload (pc := 194) dX4_isLaw_194 1 rfl ?_
              refine r_iconst (pc := 196) (v := 3) dX4_isLaw_196 (by decide) ?_
              refine r_ishr (pc := 197) dX4_isLaw_197 ?_
              refine r_bipush (pc := 198) (v := 7) dX4_isLaw_198 (by decide) ?_
              refine r_iand (pc := 200) dX4_isLaw_200 ?_
              refine r_iadd (pc := 201) dX4_isLaw_201 ?_
              refine r_laload (pc := 202) dX4_isLaw_202 h (fun x202 e202 h => ?_)
              refine r_iload (pc := 203) dX4_isLaw_203 1 rfl ?_
              refine r_bipush (pc := 205) (v := 6) dX4_isLaw_205 (by decide) ?_
              refine r_ishr (pc := 207) dX4_isLaw_207 ?_
              refine r_iconst (pc := 208) (v := 3) dX4_isLaw_208 (by decide) ?_
              refine r_iand (pc := 209) dX4_isLaw_209 ?_
              refine r_iconst (pc := 210) (v := 1) dX4_isLaw_210 (by decide) ?_
              refine r_icmp_ne (pc := 211) (tgt := 218) dX4_isLaw_211 (by decide) h (fun e211 h => ?_) (fun e211 h => ?_)
              · refine r_lload (pc := 218) dX4_isLaw_218 6 rfl ?_
                exact r_sub (env' := [(0, vr v0), (1, vi v1), (2, vi v2), (3, vj v3), (5, vj v5), (7, vi v7), (8, vi v8), (9, vi v9), (10, vi v10), (11, vi x29)]) [2, 3, 4, 5, 6, 7, 8, 9, 10, 1] rfl (sX4_isLaw_220 hk6 _ _ _ _ _ _ _ _ _ _ _ _ _ h)
              · refine r_lload_n (pc := 214) dX4_isLaw_214 5 rfl rfl ?_
                refine r_goto (pc := 215) (tgt := 220) dX4_isLaw_215 (by decide) ?_
                exact r_sub (env' := [(0, vr v0), (1, vi v1), (2, vi v2), (3, vj v3), (5, vj v5), (7, vi v7), (8, vi v8), (9, vi v9), (10, vi v10), (11, vi x29)]) [2, 3, 4, 5, 6, 7, 8, 9, 10, 1] rfl (sX4_isLaw_220 hk6 _ _ _ _ _ _ _ _ _ _ _ _ _ h)
            · refine r_iload (pc := 181) dX4_isLaw_181 8 rfl ?_
              refine r_goto (pc := 183) (tgt := 224) dX4_isLaw_183 (by decide) ?_
              exact r_sub (env' := [(0, vr v0), (1, vi v1), (2, vi v2), (3, vj v3), (5, vj v5), (7, vi v7), (8, vi v8), (9, vi v9), (10, vi v10), (11, vi x29)]) [2, 3, 4, 5, 6, 7, 8, 9, 10, 1] rfl (sX4_isLaw_224 hk6 _ _ _ _ _ _ _ _ _ _ _ _ h)
          · refine r_iload (pc := 170) dX4_isLaw_170 7 rfl ?_
            refine r_goto (pc := 172) (tgt := 224) dX4_isLaw_172 (by decide) ?_
            exact r_sub (env' := [(0, vr v0), (1, vi v1), (2, vi v2), (3, vj v3), (5, vj v5), (7, vi v7), (8, vi v8), (9, vi v9), (10, vi v10), (11, vi x29)]) [2, 3, 4, 5, 6, 7, 8, 9, 10, 1] rfl (sX4_isLaw_224 hk6 _ _ _ _ _ _ _ _ _ _ _ _ h)
        · exact r_sub (env' := [(0, vr v0), (1, vi v1), (2, vi v2), (3, vj v3), (5, vj v5), (7, vi v7), (8, vi v8), (9, vi v9), (10, vi v10), (12, vi (x29 &&& (7 : Int32)))]) [2, 3, 4, 5, 6, 7, 8, 9, 10, 0] rfl (sX4_isLaw_86 hk6 _ _ _ _ _ _ _ _ _ _ _ h)
    · refine r_aload_n (pc := 45) dX4_isLaw_45 2 rfl rfl ?_
      refine r_gA (pc := 46) dX4_isLaw_46 q1723 fd_80 same_rf h (fun x46 e46 h => ?_)
      refine r_iload (pc := 49) dX4_isLaw_49 9 rfl ?_
      refine r_iconst (pc := 51) (v := 1) dX4_isLaw_51 (by decide) ?_
      refine r_isub (pc := 52) dX4_isLaw_52 ?_
      refine r_aload_n (pc := 53) dX4_isLaw_53 2 rfl rfl ?_
      refine r_gA (pc := 54) dX4_isLaw_54 q1723 fd_80 same_rf h (fun x54 e54 h => ?_)
      refine r_iload (pc := 57) dX4_isLaw_57 9 rfl ?_
      refine r_iconst (pc := 59) (v := 1) dX4_isLaw_59 (by decide) ?_
      refine r_isub (pc := 60) dX4_isLaw_60 ?_
      refine r_baload (pc := 61) dX4_isLaw_61 h (fun x61 e61 h => ?_)
      refine r_if_ne (pc := 62) (tgt := 69) dX4_isLaw_62 (by decide) h (fun e62 h => ?_) (fun e62 h => ?_)
      · refine r_iconst (pc := 69) (v := 0) dX4_isLaw_69 (by decide) ?_
        exact r_sub (env' := [(0, vr v0), (1, vi v1), (2, vi v2), (3, vj v3), (5, vj v5), (7, vi v7), (8, vi v8), (9, vi v9), (10, vi v10)]) [2, 3, 4, 5, 6, 7, 8, 9, 10] rfl (sX4_isLaw_70 hk6 _ _ _ _ _ _ _ _ _ _ _ _ _ h)
      · refine r_iconst (pc := 65) (v := 1) dX4_isLaw_65 (by decide) ?_
        refine r_goto (pc := 66) (tgt := 70) dX4_isLaw_66 (by decide) ?_
        exact r_sub (env' := [(0, vr v0), (1, vi v1), (2, vi v2), (3, vj v3), (5, vj v5), (7, vi v7), (8, vi v8), (9, vi v9), (10, vi v10)]) [2, 3, 4, 5, 6, 7, 8, 9, 10] rfl (sX4_isLaw_70 hk6 _ _ _ _ _ _ _ _ _ _ _ _ _ h)
theorem sX4_isLaw_6 {st0 : Mem} {fin : Int32 × Mem} (n : Nat) : ∀ (v0 : Rf) (v1 : Int32) (v2 : Int32) (v3 : Int64) (v5 : Int64) (v7 : Int32) (v8 : Int32) (v9 : Int32) (v10 : Int32) (st : Mem), bX4_isLaw_6 n v0 v1 v2 v3 v5 v7 v8 v9 v10 st = some fin → G (cX4_isLaw, "HouseClapsModel", "isLaw", 8, (some .boolean), 16) st0 trI fin 6 [(0, vr v0), (1, vi v1), (2, vi v2), (3, vj v3), (5, vj v5), (7, vi v7), (8, vi v8), (9, vi v9), (10, vi v10)] [] st := by
  induction n with
  | zero => intro v0 v1 v2 v3 v5 v7 v8 v9 v10 st h; cases h
  | succ n ih => intro v0 v1 v2 v3 v5 v7 v8 v9 v10 st h; exact sX4_isLaw_6B  ih v0 v1 v2 v3 v5 v7 v8 v9 v10 st h
theorem sX4_isLaw {a0 : Rf} {a1 : Int32} {a2 : Int32} {a3 : Int64} {a5 : Int64} {a7 : Int32} {a8 : Int32} {st : Mem} {fin : Int32 × Mem} (h : fX4_isLaw a0 a1 a2 a3 a5 a7 a8 st = some fin) : Con yX4_isLaw 8 [vr a0, vi a1, vi a2, vj a3, vj a5, vi a7, vi a8] st trI fin := by
  refine Con.mk (cc := cX4_isLaw) (n := 16) (own := "HouseClapsModel") (nm := "isLaw") (ret := (some .boolean)) (env := [(0, vr a0), (1, vi a1), (2, vi a2), (3, vj a3), (5, vj a5), (7, vi a7), (8, vi a8)]) q2131 rfl rfl rfl (by decide) ⟨Nat.le_of_ble_eq_true rfl, by decide⟩ rfl ?_
  unfold fX4_isLaw at h
  refine r_iconst (pc := 0) (v := 0) dX4_isLaw_0 (by decide) ?_
  refine r_istore (pc := 1) (env' := [(9, vi (0 : Int32)), (0, vr a0), (1, vi a1), (2, vi a2), (3, vj a3), (5, vj a5), (7, vi a7), (8, vi a8)]) dX4_isLaw_1 (by decide) rfl ?_
  refine r_iconst (pc := 3) (v := 0) dX4_isLaw_3 (by decide) ?_
  refine r_istore (pc := 4) (env' := [(10, vi (0 : Int32)), (9, vi (0 : Int32)), (0, vr a0), (1, vi a1), (2, vi a2), (3, vj a3), (5, vj a5), (7, vi a7), (8, vi a8)]) dX4_isLaw_4 (by decide) rfl ?_
  exact r_sub (env' := [(0, vr a0), (1, vi a1), (2, vi a2), (3, vj a3), (5, vj a5), (7, vi a7), (8, vi a8), (9, vi (0 : Int32)), (10, vi (0 : Int32))]) [2, 3, 4, 5, 6, 7, 8, 1, 0] rfl (sX4_isLaw_6 hcFuel _ _ _ _ _ _ _ _ _ _ h)
theorem sX4_isMoment {a0 : Int32} {st : Mem} {fin : Int32 × Mem} (h : fX4_isMoment a0 st = some fin) : Con yX4_isMoment 8 [vi a0] st trI fin := by
  refine Con.mk (cc := cX4_isMoment) (n := 1) (own := "HouseClapsModel") (nm := "isMoment") (ret := (some .boolean)) (env := [(0, vi a0)]) q2095 rfl rfl rfl (by decide) ⟨Nat.le_of_ble_eq_true rfl, by decide⟩ rfl ?_
  unfold fX4_isMoment at h
  refine r_iload_n (pc := 0) dX4_isMoment_0 0 rfl rfl ?_
  refine r_iconst (pc := 1) (v := 0) dX4_isMoment_1 (by decide) ?_
  refine r_sipush (pc := 2) (v := 600) dX4_isMoment_2 (by decide) ?_
  refine r_callI (pc := 5) (rest := []) (lkS dX4_isMoment_5 q1949 q1950 q92 (fun _ => sX4_isIn) ad_X4_isIn) (by decide) (Nat.le_of_ble_eq_true rfl) rfl h (fun x5 st e5 h => ?_)
  exact r_ireturn (pc := 8) dX4_isMoment_8 rfl rfl h
theorem sX4_isSeat_39 {st0 : Mem} {fin : Int32 × Mem} (st : Mem) (h : bX4_isSeat_39  st = some fin) : G (cX4_isSeat, "HouseClapsModel", "isSeat", 8, (some .boolean), 2) st0 trI fin 39 [] [] st := by
  unfold bX4_isSeat_39 at h
  refine r_iconst (pc := 39) (v := 0) dX4_isSeat_39 (by decide) ?_
  exact r_ireturn (pc := 40) dX4_isSeat_40 rfl rfl h
theorem sX4_isSeat {a0 : Rf} {a1 : Int32} {st : Mem} {fin : Int32 × Mem} (h : fX4_isSeat a0 a1 st = some fin) : Con yX4_isSeat 8 [vr a0, vi a1] st trI fin := by
  refine Con.mk (cc := cX4_isSeat) (n := 2) (own := "HouseClapsModel") (nm := "isSeat") (ret := (some .boolean)) (env := [(0, vr a0), (1, vi a1)]) q2043 rfl rfl rfl (by decide) ⟨Nat.le_of_ble_eq_true rfl, by decide⟩ rfl ?_
  unfold fX4_isSeat at h
  refine r_iload_n (pc := 0) dX4_isSeat_0 1 rfl rfl ?_
  refine r_iconst (pc := 1) (v := 0) dX4_isSeat_1 (by decide) ?_
  refine r_aload_n (pc := 2) dX4_isSeat_2 0 rfl rfl ?_
  refine r_gA (pc := 3) dX4_isSeat_3 q1704 fd_61 same_rf h (fun x3 e3 h => ?_)
  refine r_iconst (pc := 6) (v := 0) dX4_isSeat_6 (by decide) ?_
  refine r_iaload (pc := 7) dX4_isSeat_7 h (fun x7 e7 h => ?_)
  refine r_aload_n (pc := 8) dX4_isSeat_8 0 rfl rfl ?_
  refine r_gA (pc := 9) dX4_isSeat_9 q1704 fd_61 same_rf h (fun x9 e9 h => ?_)
  refine r_iconst (pc := 12) (v := 1) dX4_isSeat_12 (by decide) ?_
  refine r_iaload (pc := 13) dX4_isSeat_13 h (fun x13 e13 h => ?_)
  refine r_imul (pc := 14) dX4_isSeat_14 ?_
  refine r_iconst (pc := 15) (v := 1) dX4_isSeat_15 (by decide) ?_
  refine r_isub (pc := 16) dX4_isSeat_16 ?_
  refine r_callI (pc := 17) (rest := []) (lkS dX4_isSeat_17 q1949 q1950 q92 (fun _ => sX4_isIn) ad_X4_isIn) (by decide) (Nat.le_of_ble_eq_true rfl) rfl h (fun x17 st e17 h => ?_)
  refine r_if_eq (pc := 20) (tgt := 39) dX4_isSeat_20 (by decide) h (fun e20 h => ?_) (fun e20 h => ?_)
  · exact r_sub (env' := []) [] rfl (sX4_isSeat_39 _ h)
  · refine r_aload_n (pc := 23) dX4_isSeat_23 0 rfl rfl ?_
    refine r_gA (pc := 24) dX4_isSeat_24 q1704 fd_61 same_rf h (fun x24 e24 h => ?_)
    refine r_bipush (pc := 27) (v := 6) dX4_isSeat_27 (by decide) ?_
    refine r_iload_n (pc := 29) dX4_isSeat_29 1 rfl rfl ?_
    refine r_iadd (pc := 30) dX4_isSeat_30 ?_
    refine r_iaload (pc := 31) dX4_isSeat_31 h (fun x31 e31 h => ?_)
    refine r_if_le (pc := 32) (tgt := 39) dX4_isSeat_32 (by decide) h (fun e32 h => ?_) (fun e32 h => ?_)
    · exact r_sub (env' := []) [] rfl (sX4_isSeat_39 _ h)
    · refine r_iconst (pc := 35) (v := 1) dX4_isSeat_35 (by decide) ?_
      refine r_goto (pc := 36) (tgt := 40) dX4_isSeat_36 (by decide) ?_
      exact r_ireturn (pc := 40) dX4_isSeat_40 rfl rfl h
theorem sX4_isSeatAt_57 {st0 : Mem} {fin : Int32 × Mem} (st : Mem) (h : bX4_isSeatAt_57  st = some fin) : G (cX4_isSeatAt, "HouseClapsModel", "isSeatAt", 8, (some .boolean), 3) st0 trI fin 57 [] [] st := by
  unfold bX4_isSeatAt_57 at h
  refine r_iconst (pc := 57) (v := 0) dX4_isSeatAt_57 (by decide) ?_
  exact r_ireturn (pc := 58) dX4_isSeatAt_58 rfl rfl h
theorem sX4_isSeatAt {a0 : Rf} {a1 : Int32} {a2 : Int32} {st : Mem} {fin : Int32 × Mem} (h : fX4_isSeatAt a0 a1 a2 st = some fin) : Con yX4_isSeatAt 8 [vr a0, vi a1, vi a2] st trI fin := by
  refine Con.mk (cc := cX4_isSeatAt) (n := 3) (own := "HouseClapsModel") (nm := "isSeatAt") (ret := (some .boolean)) (env := [(0, vr a0), (1, vi a1), (2, vi a2)]) q2084 rfl rfl rfl (by decide) ⟨Nat.le_of_ble_eq_true rfl, by decide⟩ rfl ?_
  unfold fX4_isSeatAt at h
  refine r_iload_n (pc := 0) dX4_isSeatAt_0 1 rfl rfl ?_
  refine r_iconst (pc := 1) (v := 0) dX4_isSeatAt_1 (by decide) ?_
  refine r_aload_n (pc := 2) dX4_isSeatAt_2 0 rfl rfl ?_
  refine r_gA (pc := 3) dX4_isSeatAt_3 q1704 fd_61 same_rf h (fun x3 e3 h => ?_)
  refine r_iconst (pc := 6) (v := 0) dX4_isSeatAt_6 (by decide) ?_
  refine r_iaload (pc := 7) dX4_isSeatAt_7 h (fun x7 e7 h => ?_)
  refine r_iconst (pc := 8) (v := 1) dX4_isSeatAt_8 (by decide) ?_
  refine r_isub (pc := 9) dX4_isSeatAt_9 ?_
  refine r_callI (pc := 10) (rest := []) (lkS dX4_isSeatAt_10 q1949 q1950 q92 (fun _ => sX4_isIn) ad_X4_isIn) (by decide) (Nat.le_of_ble_eq_true rfl) rfl h (fun x10 st e10 h => ?_)
  refine r_if_eq (pc := 13) (tgt := 57) dX4_isSeatAt_13 (by decide) h (fun e13 h => ?_) (fun e13 h => ?_)
  · exact r_sub (env' := []) [] rfl (sX4_isSeatAt_57 _ h)
  · refine r_iload_n (pc := 16) dX4_isSeatAt_16 2 rfl rfl ?_
    refine r_iconst (pc := 17) (v := 0) dX4_isSeatAt_17 (by decide) ?_
    refine r_aload_n (pc := 18) dX4_isSeatAt_18 0 rfl rfl ?_
    refine r_gA (pc := 19) dX4_isSeatAt_19 q1704 fd_61 same_rf h (fun x19 e19 h => ?_)
    refine r_iconst (pc := 22) (v := 1) dX4_isSeatAt_22 (by decide) ?_
    refine r_iaload (pc := 23) dX4_isSeatAt_23 h (fun x23 e23 h => ?_)
    refine r_iconst (pc := 24) (v := 1) dX4_isSeatAt_24 (by decide) ?_
    refine r_isub (pc := 25) dX4_isSeatAt_25 ?_
    refine r_callI (pc := 26) (rest := []) (lkS dX4_isSeatAt_26 q1949 q1950 q92 (fun _ => sX4_isIn) ad_X4_isIn) (by decide) (Nat.le_of_ble_eq_true rfl) rfl h (fun x26 st e26 h => ?_)
    refine r_if_eq (pc := 29) (tgt := 57) dX4_isSeatAt_29 (by decide) h (fun e29 h => ?_) (fun e29 h => ?_)
    · exact r_sub (env' := []) [] rfl (sX4_isSeatAt_57 _ h)
    · refine r_aload_n (pc := 32) dX4_isSeatAt_32 0 rfl rfl ?_
      refine r_gA (pc := 33) dX4_isSeatAt_33 q1704 fd_61 same_rf h (fun x33 e33 h => ?_)
      refine r_bipush (pc := 36) (v := 6) dX4_isSeatAt_36 (by decide) ?_
      refine r_aload_n (pc := 38) dX4_isSeatAt_38 0 rfl rfl ?_
      refine r_gA (pc := 39) dX4_isSeatAt_39 q1704 fd_61 same_rf h (fun x39 e39 h => ?_)
      refine r_iconst (pc := 42) (v := 1) dX4_isSeatAt_42 (by decide) ?_
      refine r_iaload (pc := 43) dX4_isSeatAt_43 h (fun x43 e43 h => ?_)
      refine r_iload_n (pc := 44) dX4_isSeatAt_44 1 rfl rfl ?_
      refine r_imul (pc := 45) dX4_isSeatAt_45 ?_
      refine r_iadd (pc := 46) dX4_isSeatAt_46 ?_
      refine r_iload_n (pc := 47) dX4_isSeatAt_47 2 rfl rfl ?_
      refine r_iadd (pc := 48) dX4_isSeatAt_48 ?_
      refine r_iaload (pc := 49) dX4_isSeatAt_49 h (fun x49 e49 h => ?_)
      refine r_if_le (pc := 50) (tgt := 57) dX4_isSeatAt_50 (by decide) h (fun e50 h => ?_) (fun e50 h => ?_)
      · exact r_sub (env' := []) [] rfl (sX4_isSeatAt_57 _ h)
      · refine r_iconst (pc := 53) (v := 1) dX4_isSeatAt_53 (by decide) ?_
        refine r_goto (pc := 54) (tgt := 58) dX4_isSeatAt_54 (by decide) ?_
        exact r_ireturn (pc := 58) dX4_isSeatAt_58 rfl rfl h
theorem sX4_isUp {a0 : Rf} {a1 : Int32} {st : Mem} {fin : Int32 × Mem} (h : fX4_isUp a0 a1 st = some fin) : Con yX4_isUp 8 [vr a0, vi a1] st trI fin := by
  refine Con.mk (cc := cX4_isUp) (n := 2) (own := "HouseClapsModel") (nm := "isUp") (ret := (some .boolean)) (env := [(0, vr a0), (1, vi a1)]) q2166 rfl rfl rfl (by decide) ⟨Nat.le_of_ble_eq_true rfl, by decide⟩ rfl ?_
  unfold fX4_isUp at h
  refine r_aload_n (pc := 0) dX4_isUp_0 0 rfl rfl ?_
  refine r_gA (pc := 1) dX4_isUp_1 q1731 fd_88 same_rf h (fun x1 e1 h => ?_)
  refine r_iload_n (pc := 4) dX4_isUp_4 1 rfl rfl ?_
  refine r_laload (pc := 5) dX4_isUp_5 h (fun x5 e5 h => ?_)
  refine r_callI (pc := 6) (rest := []) (lkS dX4_isUp_6 q2132 q2133 q92 (fun _ => sX4_bits) ad_X4_bits) (by decide) (Nat.le_of_ble_eq_true rfl) rfl h (fun x6 st e6 h => ?_)
  refine r_aload_n (pc := 9) dX4_isUp_9 0 rfl rfl ?_
  refine r_gA (pc := 10) dX4_isUp_10 q1704 fd_61 same_rf h (fun x10 e10 h => ?_)
  refine r_iconst (pc := 13) (v := 3) dX4_isUp_13 (by decide) ?_
  refine r_iaload (pc := 14) dX4_isUp_14 h (fun x14 e14 h => ?_)
  refine r_icmp_lt (pc := 15) (tgt := 22) dX4_isUp_15 (by decide) h (fun e15 h => ?_) (fun e15 h => ?_)
  · refine r_iconst (pc := 22) (v := 0) dX4_isUp_22 (by decide) ?_
    exact r_ireturn (pc := 23) dX4_isUp_23 rfl rfl h
  · refine r_iconst (pc := 18) (v := 1) dX4_isUp_18 (by decide) ?_
    refine r_goto (pc := 19) (tgt := 23) dX4_isUp_19 (by decide) ?_
    exact r_ireturn (pc := 23) dX4_isUp_23 rfl rfl h
theorem sX4_law {a0 : Rf} {a1 : Int32} {a2 : Int32} {st : Mem} {fin : Int32 × Mem} (h : fX4_law a0 a1 a2 st = some fin) : Con yX4_law 8 [vr a0, vi a1, vi a2] st trI fin := by
  refine Con.mk (cc := cX4_law) (n := 4) (own := "HouseClapsModel") (nm := "law") (ret := (some .int)) (env := [(0, vr a0), (1, vi a1), (2, vi a2)]) q2058 rfl rfl rfl (by decide) ⟨Nat.le_of_ble_eq_true rfl, by decide⟩ rfl ?_
  unfold fX4_law at h
  refine r_aload_n (pc := 0) dX4_law_0 0 rfl rfl ?_
  refine r_iconst (pc := 1) (v := 0) dX4_law_1 (by decide) ?_
  refine r_pI (pc := 2) dX4_law_2 q1698 fd_55 same_rf rfl h (fun st e2 h => ?_)
  refine r_iload_n (pc := 5) dX4_law_5 1 rfl rfl ?_
  refine r_iconst (pc := 6) (v := 0) dX4_law_6 (by decide) ?_
  refine r_iconst (pc := 7) (v := 5) dX4_law_7 (by decide) ?_
  refine r_callI (pc := 8) (rest := []) (lkS dX4_law_8 q1949 q1950 q92 (fun _ => sX4_isIn) ad_X4_isIn) (by decide) (Nat.le_of_ble_eq_true rfl) rfl h (fun x8 st e8 h => ?_)
  refine r_if_eq (pc := 11) (tgt := 23) dX4_law_11 (by decide) h (fun e11 h => ?_) (fun e11 h => ?_)
  · refine r_iconst (pc := 23) (v := (-1)) dX4_law_23 (by decide) ?_
    exact r_ireturn (pc := 24) dX4_law_24 rfl rfl h
  · refine r_iload_n (pc := 14) dX4_law_14 2 rfl rfl ?_
    refine r_iconst (pc := 15) (v := 0) dX4_law_15 (by decide) ?_
    refine r_iconst (pc := 16) (v := 1) dX4_law_16 (by decide) ?_
    refine r_callI (pc := 17) (rest := []) (lkS dX4_law_17 q1949 q1950 q92 (fun _ => sX4_isIn) ad_X4_isIn) (by decide) (Nat.le_of_ble_eq_true rfl) rfl h (fun x17 st e17 h => ?_)
    refine r_if_ne (pc := 20) (tgt := 25) dX4_law_20 (by decide) h (fun e20 h => ?_) (fun e20 h => ?_)
    · refine r_aload_n (pc := 25) dX4_law_25 0 rfl rfl ?_
      refine r_gA (pc := 26) dX4_law_26 q1704 fd_61 same_rf h (fun x26 e26 h => ?_)
      refine r_bipush (pc := 29) (v := 86) dX4_law_29 (by decide) ?_
      refine r_bipush (pc := 31) (v := 42) dX4_law_31 (by decide) ?_
      refine r_iconst (pc := 33) (v := 2) dX4_law_33 (by decide) ?_
      refine r_iload_n (pc := 34) dX4_law_34 1 rfl rfl ?_
      refine r_imul (pc := 35) dX4_law_35 ?_
      refine r_iload_n (pc := 36) dX4_law_36 2 rfl rfl ?_
      refine r_iadd (pc := 37) dX4_law_37 ?_
      refine r_imul (pc := 38) dX4_law_38 ?_
      refine r_iadd (pc := 39) dX4_law_39 ?_
      refine r_iaload (pc := 40) dX4_law_40 h (fun x40 e40 h => ?_)
      refine r_istore_n (pc := 41) (env' := [(3, vi x40), (0, vr a0), (1, vi a1), (2, vi a2)]) dX4_law_41 rfl (by decide) rfl ?_
      refine r_iload_n (pc := 42) dX4_law_42 0 rfl rfl ?_
      refine r_if_ne (pc := 43) (tgt := 50) dX4_law_43 (by decide) h (fun e43 h => ?_) (fun e43 h => ?_)
      · refine r_iload_n (pc := 50) dX4_law_50 0 rfl rfl ?_
        exact r_ireturn (pc := 51) dX4_law_51 rfl rfl h
      · refine r_iconst (pc := 46) (v := (-1)) dX4_law_46 (by decide) ?_
        refine r_goto (pc := 47) (tgt := 51) dX4_law_47 (by decide) ?_
        exact r_ireturn (pc := 51) dX4_law_51 rfl rfl h
    · refine r_iconst (pc := 23) (v := (-1)) dX4_law_23 (by decide) ?_
      exact r_ireturn (pc := 24) dX4_law_24 rfl rfl h
theorem sX4_levelOf {a0 : Rf} {a1 : Int32} {st : Mem} {fin : Int32 × Mem} (h : fX4_levelOf a0 a1 st = some fin) : Con yX4_levelOf 8 [vr a0, vi a1] st trI fin := by
  refine Con.mk (cc := cX4_levelOf) (n := 2) (own := "HouseClapsModel") (nm := "levelOf") (ret := (some .int)) (env := [(0, vr a0), (1, vi a1)]) q2119 rfl rfl rfl (by decide) ⟨Nat.le_of_ble_eq_true rfl, by decide⟩ rfl ?_
  unfold fX4_levelOf at h
  refine r_aload_n (pc := 0) dX4_levelOf_0 0 rfl rfl ?_
  refine r_gJ (pc := 1) dX4_levelOf_1 q1737 fd_94 same_rf h (fun x1 e1 h => ?_)
  refine r_iload_n (pc := 4) dX4_levelOf_4 1 rfl rfl ?_
  refine r_callI (pc := 5) (rest := []) (lkS dX4_levelOf_5 q2052 q2053 q92 (fun _ => sX4_holds) ad_X4_holds) (by decide) (Nat.le_of_ble_eq_true rfl) rfl h (fun x5 st e5 h => ?_)
  refine r_if_eq (pc := 8) (tgt := 15) dX4_levelOf_8 (by decide) h (fun e8 h => ?_) (fun e8 h => ?_)
  · refine r_aload_n (pc := 15) dX4_levelOf_15 0 rfl rfl ?_
    refine r_gJ (pc := 16) dX4_levelOf_16 q1736 fd_93 same_rf h (fun x16 e16 h => ?_)
    refine r_iload_n (pc := 19) dX4_levelOf_19 1 rfl rfl ?_
    refine r_callI (pc := 20) (rest := []) (lkS dX4_levelOf_20 q2052 q2053 q92 (fun _ => sX4_holds) ad_X4_holds) (by decide) (Nat.le_of_ble_eq_true rfl) rfl h (fun x20 st e20 h => ?_)
    refine r_if_eq (pc := 23) (tgt := 30) dX4_levelOf_23 (by decide) h (fun e23 h => ?_) (fun e23 h => ?_)
    · refine r_iconst (pc := 30) (v := 0) dX4_levelOf_30 (by decide) ?_
      exact r_ireturn (pc := 31) dX4_levelOf_31 rfl rfl h
    · refine r_iconst (pc := 26) (v := 1) dX4_levelOf_26 (by decide) ?_
      refine r_goto (pc := 27) (tgt := 31) dX4_levelOf_27 (by decide) ?_
      exact r_ireturn (pc := 31) dX4_levelOf_31 rfl rfl h
  · refine r_iconst (pc := 11) (v := 2) dX4_levelOf_11 (by decide) ?_
    refine r_goto (pc := 12) (tgt := 31) dX4_levelOf_12 (by decide) ?_
    exact r_ireturn (pc := 31) dX4_levelOf_31 rfl rfl h
theorem sX4_next_18 {st0 : Mem} {fin : Unit × Mem} {kk0 : Rf → Mem → Option (Unit × Mem)} (hk0 : ∀ (v0 : Rf) (st : Mem), kk0 v0 st = some fin → G (cX4_next, "HouseClapsModel", "next", 8, none, 4) st0 trV fin 0 [(0, vr v0)] [] st) (v0 : Rf) (st : Mem) (h : bX4_next_18 kk0 v0 st = some fin) : G (cX4_next, "HouseClapsModel", "next", 8, none, 4) st0 trV fin 18 [(0, vr v0)] [] st := by
  unfold bX4_next_18 at h
  refine r_aload_n (pc := 18) dX4_next_18 0 rfl rfl ?_
  refine r_dup (pc := 19) dX4_next_19 rfl ?_
  refine r_gI (pc := 20) dX4_next_20 q1702 fd_59 same_rf h (fun x20 e20 h => ?_)
  refine r_iconst (pc := 23) (v := 1) dX4_next_23 (by decide) ?_
  refine r_iadd (pc := 24) dX4_next_24 ?_
  refine r_pI (pc := 25) dX4_next_25 q1702 fd_59 same_rf rfl h (fun st e25 h => ?_)
  refine r_goto (pc := 28) (tgt := 0) dX4_next_28 (by decide) ?_
  exact hk0 _ _ h
theorem sX4_next_275 {st0 : Mem} {fin : Unit × Mem} {kk181 : Rf → Int32 → Int32 → Mem → Option (Unit × Mem)} (hk181 : ∀ (v0 : Rf) (v2 : Int32) (v3 : Int32) (st : Mem), kk181 v0 v2 v3 st = some fin → G (cX4_next, "HouseClapsModel", "next", 8, none, 4) st0 trV fin 181 [(0, vr v0), (2, vi v2), (3, vi v3)] [] st) (v0 : Rf) (v2 : Int32) (v3 : Int32) (st : Mem) (h : bX4_next_275 kk181 v0 v2 v3 st = some fin) : G (cX4_next, "HouseClapsModel", "next", 8, none, 4) st0 trV fin 275 [(0, vr v0), (2, vi v2), (3, vi v3)] [] st := by
  unfold bX4_next_275 at h
  refine r_aload_n (pc := 275) dX4_next_275 0 rfl rfl ?_
  refine r_dup (pc := 276) dX4_next_276 rfl ?_
  refine r_gI (pc := 277) dX4_next_277 q1709 fd_66 same_rf h (fun x277 e277 h => ?_)
  refine r_iconst (pc := 280) (v := 1) dX4_next_280 (by decide) ?_
  refine r_iadd (pc := 281) dX4_next_281 ?_
  refine r_pI (pc := 282) dX4_next_282 q1709 fd_66 same_rf rfl h (fun st e282 h => ?_)
  refine r_aload_n (pc := 285) dX4_next_285 0 rfl rfl ?_
  refine r_dup (pc := 286) dX4_next_286 rfl ?_
  refine r_gI (pc := 287) dX4_next_287 q1702 fd_59 same_rf h (fun x287 e287 h => ?_)
  refine r_iconst (pc := 290) (v := 1) dX4_next_290 (by decide) ?_
  refine r_iadd (pc := 291) dX4_next_291 ?_
  refine r_pI (pc := 292) dX4_next_292 q1702 fd_59 same_rf rfl h (fun st e292 h => ?_)
  refine r_goto (pc := 295) (tgt := 181) dX4_next_295 (by decide) ?_
  exact hk181 _ _ _ _ h
theorem sX4_next_248 {st0 : Mem} {fin : Unit × Mem} {kk181 : Rf → Int32 → Int32 → Mem → Option (Unit × Mem)} (hk181 : ∀ (v0 : Rf) (v2 : Int32) (v3 : Int32) (st : Mem), kk181 v0 v2 v3 st = some fin → G (cX4_next, "HouseClapsModel", "next", 8, none, 4) st0 trV fin 181 [(0, vr v0), (2, vi v2), (3, vi v3)] [] st) (v0 : Rf) (v2 : Int32) (v3 : Int32) (st : Mem) (h : bX4_next_248 kk181 v0 v2 v3 st = some fin) : G (cX4_next, "HouseClapsModel", "next", 8, none, 4) st0 trV fin 248 [(0, vr v0), (2, vi v2), (3, vi v3)] [] st := by
  unfold bX4_next_248 at h
  refine r_aload_n (pc := 248) dX4_next_248 0 rfl rfl ?_
  refine r_gI (pc := 249) dX4_next_249 q1709 fd_66 same_rf h (fun x249 e249 h => ?_)
  refine r_iconst (pc := 252) (v := 3) dX4_next_252 (by decide) ?_
  refine r_icmp_ge (pc := 253) (tgt := 275) dX4_next_253 (by decide) h (fun e253 h => ?_) (fun e253 h => ?_)
  · exact sX4_next_275 hk181 _ _ _ _ h
  · refine r_aload_n (pc := 256) dX4_next_256 0 rfl rfl ?_
    refine r_bipush (pc := 257) (v := 10) dX4_next_257 (by decide) ?_
    refine r_aload_n (pc := 259) dX4_next_259 0 rfl rfl ?_
    refine r_gI (pc := 260) dX4_next_260 q1710 fd_67 same_rf h (fun x260 e260 h => ?_)
    refine r_imul (pc := 263) dX4_next_263 ?_
    refine r_aload_n (pc := 264) dX4_next_264 0 rfl rfl ?_
    refine r_callI (pc := 265) (rest := [vi ((10 : Int32) * x260), vr v0]) (lkV dX4_next_265 q1918 xd_X4_peek (vc_of vt_X4_peek q1920 (fun _ => sX4_peek)) adx_X4_peek) (by decide) (Nat.le_of_ble_eq_true rfl) rfl h (fun x265 st e265 h => ?_)
    refine r_iadd (pc := 268) dX4_next_268 ?_
    refine r_bipush (pc := 269) (v := 48) dX4_next_269 (by decide) ?_
    refine r_isub (pc := 271) dX4_next_271 ?_
    refine r_pI (pc := 272) dX4_next_272 q1710 fd_67 same_rf rfl h (fun st e272 h => ?_)
    exact sX4_next_275 hk181 _ _ _ _ h
theorem sX4_next_221 {st0 : Mem} {fin : Unit × Mem} {kk181 : Rf → Int32 → Int32 → Mem → Option (Unit × Mem)} (hk181 : ∀ (v0 : Rf) (v2 : Int32) (v3 : Int32) (st : Mem), kk181 v0 v2 v3 st = some fin → G (cX4_next, "HouseClapsModel", "next", 8, none, 4) st0 trV fin 181 [(0, vr v0), (2, vi v2), (3, vi v3)] [] st) (v0 : Rf) (v2 : Int32) (k0 : Int32) (st : Mem) (h : bX4_next_221 kk181 v0 v2 k0 st = some fin) : G (cX4_next, "HouseClapsModel", "next", 8, none, 4) st0 trV fin 221 [(0, vr v0), (2, vi v2)] [vi k0] st := by
  unfold bX4_next_221 at h
  refine r_istore_n (pc := 221) (env' := [(3, vi k0), (0, vr v0), (2, vi v2)]) dX4_next_221 rfl (by decide) rfl ?_
  refine r_aload_n (pc := 222) dX4_next_222 1 rfl rfl ?_
  refine r_gI (pc := 223) dX4_next_223 q1709 fd_66 same_rf h (fun x223 e223 h => ?_)
  refine r_bipush (pc := 226) (v := 8) dX4_next_226 (by decide) ?_
  refine r_icmp_ge (pc := 228) (tgt := 248) dX4_next_228 (by decide) h (fun e228 h => ?_) (fun e228 h => ?_)
  · exact r_sub (env' := [(0, vr v0), (2, vi v2), (3, vi k0)]) [1, 2, 0] rfl (sX4_next_248 hk181 _ _ _ _ h)
  · refine r_aload_n (pc := 231) dX4_next_231 1 rfl rfl ?_
    refine r_aload_n (pc := 232) dX4_next_232 1 rfl rfl ?_
    refine r_gJ (pc := 233) dX4_next_233 q1713 fd_70 same_rf h (fun x233 e233 h => ?_)
    refine r_bipush (pc := 236) (v := 8) dX4_next_236 (by decide) ?_
    refine r_lshl (pc := 238) dX4_next_238 ?_
    refine r_aload_n (pc := 239) dX4_next_239 1 rfl rfl ?_
    refine r_callI (pc := 240) (rest := [vj (shlL x233 (8 : Int32)), vr v0]) (lkV dX4_next_240 q1918 xd_X4_peek (vc_of vt_X4_peek q1920 (fun _ => sX4_peek)) adx_X4_peek) (by decide) (Nat.le_of_ble_eq_true rfl) rfl h (fun x240 st e240 h => ?_)
    refine r_i2l (pc := 243) dX4_next_243 ?_
    refine r_lor (pc := 244) dX4_next_244 ?_
    refine r_pJ (pc := 245) dX4_next_245 q1713 fd_70 same_rf rfl h (fun st e245 h => ?_)
    exact r_sub (env' := [(0, vr v0), (2, vi v2), (3, vi k0)]) [1, 2, 0] rfl (sX4_next_248 hk181 _ _ _ _ h)
theorem sX4_next_220 {st0 : Mem} {fin : Unit × Mem} {kk181 : Rf → Int32 → Int32 → Mem → Option (Unit × Mem)} (hk181 : ∀ (v0 : Rf) (v2 : Int32) (v3 : Int32) (st : Mem), kk181 v0 v2 v3 st = some fin → G (cX4_next, "HouseClapsModel", "next", 8, none, 4) st0 trV fin 181 [(0, vr v0), (2, vi v2), (3, vi v3)] [] st) (v0 : Rf) (v2 : Int32) (st : Mem) (h : bX4_next_220 kk181 v0 v2 st = some fin) : G (cX4_next, "HouseClapsModel", "next", 8, none, 4) st0 trV fin 220 [(0, vr v0), (2, vi v2)] [] st := by
  unfold bX4_next_220 at h
  refine r_iconst (pc := 220) (v := 0) dX4_next_220 (by decide) ?_
  exact sX4_next_221 hk181 _ _ _ _ h
theorem sX4_next_201 {st0 : Mem} {fin : Unit × Mem} {kk181 : Rf → Int32 → Int32 → Mem → Option (Unit × Mem)} (hk181 : ∀ (v0 : Rf) (v2 : Int32) (v3 : Int32) (st : Mem), kk181 v0 v2 v3 st = some fin → G (cX4_next, "HouseClapsModel", "next", 8, none, 4) st0 trV fin 181 [(0, vr v0), (2, vi v2), (3, vi v3)] [] st) (v0 : Rf) (v2 : Int32) (v3 : Int32) (st : Mem) (h : bX4_next_201 kk181 v0 v2 v3 st = some fin) : G (cX4_next, "HouseClapsModel", "next", 8, none, 4) st0 trV fin 201 [(0, vr v0), (2, vi v2), (3, vi v3)] [] st := by
  unfold bX4_next_201 at h
  refine r_iload_n (pc := 201) dX4_next_201 2 rfl rfl ?_
  refine r_if_eq (pc := 202) (tgt := 220) dX4_next_202 (by decide) h (fun e202 h => ?_) (fun e202 h => ?_)
  · exact r_sub (env' := [(0, vr v0), (2, vi v2)]) [0, 1] rfl (sX4_next_220 hk181 _ _ _ h)
  · refine r_aload_n (pc := 205) dX4_next_205 0 rfl rfl ?_
    refine r_callI (pc := 206) (rest := []) (lkV dX4_next_206 q1918 xd_X4_peek (vc_of vt_X4_peek q1920 (fun _ => sX4_peek)) adx_X4_peek) (by decide) (Nat.le_of_ble_eq_true rfl) rfl h (fun x206 st e206 h => ?_)
    refine r_callI (pc := 209) (rest := []) (lkS dX4_next_209 q1922 q1923 q92 (fun _ => sX4_isSmall) ad_X4_isSmall) (by decide) (Nat.le_of_ble_eq_true rfl) rfl h (fun x209 st e209 h => ?_)
    refine r_iload_n (pc := 212) dX4_next_212 1 rfl rfl ?_
    refine r_icmp_ne (pc := 213) (tgt := 220) dX4_next_213 (by decide) h (fun e213 h => ?_) (fun e213 h => ?_)
    · exact r_sub (env' := [(0, vr v0), (2, vi v2)]) [0, 1] rfl (sX4_next_220 hk181 _ _ _ h)
    · refine r_iconst (pc := 216) (v := 1) dX4_next_216 (by decide) ?_
      refine r_goto (pc := 217) (tgt := 221) dX4_next_217 (by decide) ?_
      exact r_sub (env' := [(0, vr v0), (2, vi v2)]) [0, 1] rfl (sX4_next_221 hk181 _ _ _ _ h)
theorem sX4_next_320 {st0 : Mem} {fin : Unit × Mem} (k0 : Rf) (st : Mem) (h : bX4_next_320 k0 st = some fin) : G (cX4_next, "HouseClapsModel", "next", 8, none, 4) st0 trV fin 320 [] [vr k0] st := by
  unfold bX4_next_320 at h
  refine r_iconst (pc := 320) (v := 4) dX4_next_320 (by decide) ?_
  refine r_goto (pc := 321) (tgt := 333) dX4_next_321 (by decide) ?_
  refine r_pI (pc := 333) dX4_next_333 q1707 fd_64 same_rf rfl h (fun st e333 h => ?_)
  exact r_return_ (pc := 336) dX4_next_336 rfl h
theorem sX4_next_317 {st0 : Mem} {fin : Unit × Mem} (v2 : Int32) (k0 : Rf) (k1 : Int32) (k2 : Int32) (st : Mem) (h : bX4_next_317 v2 k0 k1 k2 st = some fin) : G (cX4_next, "HouseClapsModel", "next", 8, none, 4) st0 trV fin 317 [(2, vi v2)] [vi k2, vi k1, vr k0] st := by
  unfold bX4_next_317 at h
  refine r_icmp_le (pc := 317) (tgt := 324) dX4_next_317 (by decide) h (fun e317 h => ?_) (fun e317 h => ?_)
  · refine r_iload_n (pc := 324) dX4_next_324 0 rfl rfl ?_
    refine r_if_eq (pc := 325) (tgt := 332) dX4_next_325 (by decide) h (fun e325 h => ?_) (fun e325 h => ?_)
    · refine r_iconst (pc := 332) (v := 2) dX4_next_332 (by decide) ?_
      refine r_pI (pc := 333) dX4_next_333 q1707 fd_64 same_rf rfl h (fun st e333 h => ?_)
      exact r_return_ (pc := 336) dX4_next_336 rfl h
    · refine r_iconst (pc := 328) (v := 1) dX4_next_328 (by decide) ?_
      refine r_goto (pc := 329) (tgt := 333) dX4_next_329 (by decide) ?_
      refine r_pI (pc := 333) dX4_next_333 q1707 fd_64 same_rf rfl h (fun st e333 h => ?_)
      exact r_return_ (pc := 336) dX4_next_336 rfl h
  · exact r_sub (env' := []) [] rfl (sX4_next_320 _ _ h)
theorem sX4_next_181B {st0 : Mem} {fin : Unit × Mem} {kk181 : Rf → Int32 → Int32 → Mem → Option (Unit × Mem)} (hk181 : ∀ (v0 : Rf) (v2 : Int32) (v3 : Int32) (st : Mem), kk181 v0 v2 v3 st = some fin → G (cX4_next, "HouseClapsModel", "next", 8, none, 4) st0 trV fin 181 [(0, vr v0), (2, vi v2), (3, vi v3)] [] st) (v0 : Rf) (v2 : Int32) (v3 : Int32) (st : Mem) (h : bX4_next_181B kk181 v0 v2 v3 st = some fin) : G (cX4_next, "HouseClapsModel", "next", 8, none, 4) st0 trV fin 181 [(0, vr v0), (2, vi v2), (3, vi v3)] [] st := by
  unfold bX4_next_181B at h
  refine r_aload_n (pc := 181) dX4_next_181 0 rfl rfl ?_
  refine r_callI (pc := 182) (rest := []) (lkV dX4_next_182 q1918 xd_X4_peek (vc_of vt_X4_peek q1920 (fun _ => sX4_peek)) adx_X4_peek) (by decide) (Nat.le_of_ble_eq_true rfl) rfl h (fun x182 st e182 h => ?_)
  refine r_callI (pc := 185) (rest := []) (lkS dX4_next_185 q1922 q1923 q92 (fun _ => sX4_isSmall) ad_X4_isSmall) (by decide) (Nat.le_of_ble_eq_true rfl) rfl h (fun x185 st e185 h => ?_)
  refine r_if_ne (pc := 188) (tgt := 201) dX4_next_188 (by decide) h (fun e188 h => ?_) (fun e188 h => ?_)
  · exact sX4_next_201 hk181 _ _ _ _ h
  · refine r_aload_n (pc := 191) dX4_next_191 0 rfl rfl ?_
    refine r_callI (pc := 192) (rest := []) (lkV dX4_next_192 q1918 xd_X4_peek (vc_of vt_X4_peek q1920 (fun _ => sX4_peek)) adx_X4_peek) (by decide) (Nat.le_of_ble_eq_true rfl) rfl h (fun x192 st e192 h => ?_)
    refine r_callI (pc := 195) (rest := []) (lkS dX4_next_195 q1925 q1926 q92 (fun _ => sX4_isDigit) ad_X4_isDigit) (by decide) (Nat.le_of_ble_eq_true rfl) rfl h (fun x195 st e195 h => ?_)
    refine r_if_eq (pc := 198) (tgt := 298) dX4_next_198 (by decide) h (fun e198 h => ?_) (fun e198 h => ?_)
    · refine r_aload_n (pc := 298) dX4_next_298 0 rfl rfl ?_
      refine r_iload_n (pc := 299) dX4_next_299 2 rfl rfl ?_
      refine r_if_eq (pc := 300) (tgt := 320) dX4_next_300 (by decide) h (fun e300 h => ?_) (fun e300 h => ?_)
      · exact r_sub (env' := []) [] rfl (sX4_next_320 _ _ h)
      · refine r_aload_n (pc := 303) dX4_next_303 0 rfl rfl ?_
        refine r_gI (pc := 304) dX4_next_304 q1709 fd_66 same_rf h (fun x304 e304 h => ?_)
        refine r_iload_n (pc := 307) dX4_next_307 1 rfl rfl ?_
        refine r_if_eq (pc := 308) (tgt := 316) dX4_next_308 (by decide) h (fun e308 h => ?_) (fun e308 h => ?_)
        · refine r_iconst (pc := 316) (v := 3) dX4_next_316 (by decide) ?_
          exact r_sub (env' := [(2, vi v2)]) [1] rfl (sX4_next_317 _ _ _ _ _ h)
        · refine r_bipush (pc := 311) (v := 8) dX4_next_311 (by decide) ?_
          refine r_goto (pc := 313) (tgt := 317) dX4_next_313 (by decide) ?_
          exact r_sub (env' := [(2, vi v2)]) [1] rfl (sX4_next_317 _ _ _ _ _ h)
    · exact sX4_next_201 hk181 _ _ _ _ h
theorem sX4_next_181 {st0 : Mem} {fin : Unit × Mem} (n : Nat) : ∀ (v0 : Rf) (v2 : Int32) (v3 : Int32) (st : Mem), bX4_next_181 n v0 v2 v3 st = some fin → G (cX4_next, "HouseClapsModel", "next", 8, none, 4) st0 trV fin 181 [(0, vr v0), (2, vi v2), (3, vi v3)] [] st := by
  induction n with
  | zero => intro v0 v2 v3 st h; cases h
  | succ n ih => intro v0 v2 v3 st h; exact sX4_next_181B  ih v0 v2 v3 st h
theorem sX4_next_164 {st0 : Mem} {fin : Unit × Mem} (v0 : Rf) (v1 : Int32) (st : Mem) (h : bX4_next_164 v0 v1 st = some fin) : G (cX4_next, "HouseClapsModel", "next", 8, none, 4) st0 trV fin 164 [(0, vr v0), (1, vi v1)] [] st := by
  unfold bX4_next_164 at h
  refine r_iload_n (pc := 164) dX4_next_164 1 rfl rfl ?_
  refine r_callI (pc := 165) (rest := []) (lkS dX4_next_165 q1922 q1923 q92 (fun _ => sX4_isSmall) ad_X4_isSmall) (by decide) (Nat.le_of_ble_eq_true rfl) rfl h (fun x165 st e165 h => ?_)
  refine r_istore_n (pc := 168) (env' := [(2, vi x165), (0, vr v0), (1, vi v1)]) dX4_next_168 rfl (by decide) rfl ?_
  refine r_iconst (pc := 169) (v := 1) dX4_next_169 (by decide) ?_
  refine r_istore_n (pc := 170) (env' := [(3, vi (1 : Int32)), (2, vi x165), (0, vr v0), (1, vi v1)]) dX4_next_170 rfl (by decide) rfl ?_
  refine r_aload_n (pc := 171) dX4_next_171 2 rfl rfl ?_
  refine r_lconst (pc := 172) (v := 0) dX4_next_172 (by decide) ?_
  refine r_pJ (pc := 173) dX4_next_173 q1713 fd_70 same_rf rfl h (fun st e173 h => ?_)
  refine r_aload_n (pc := 176) dX4_next_176 2 rfl rfl ?_
  refine r_iconst (pc := 177) (v := 0) dX4_next_177 (by decide) ?_
  refine r_pI (pc := 178) dX4_next_178 q1710 fd_67 same_rf rfl h (fun st e178 h => ?_)
  exact r_sub (env' := [(0, vr v0), (2, vi x165), (3, vi (1 : Int32))]) [2, 1, 0] rfl (sX4_next_181 hcFuel _ _ _ _ h)
theorem sX4_next_145 {st0 : Mem} {fin : Unit × Mem} (v0 : Rf) (v1 : Int32) (k0 : Rf) (k1 : Int32) (st : Mem) (h : bX4_next_145 v0 v1 k0 k1 st = some fin) : G (cX4_next, "HouseClapsModel", "next", 8, none, 4) st0 trV fin 145 [(0, vr v0), (1, vi v1)] [vi k1, vr k0] st := by
  unfold bX4_next_145 at h
  refine r_pI (pc := 145) dX4_next_145 q1707 fd_64 same_rf rfl h (fun st e145 h => ?_)
  refine r_aload_n (pc := 148) dX4_next_148 0 rfl rfl ?_
  refine r_iload_n (pc := 149) dX4_next_149 1 rfl rfl ?_
  refine r_pI (pc := 150) dX4_next_150 q1710 fd_67 same_rf rfl h (fun st e150 h => ?_)
  refine r_aload_n (pc := 153) dX4_next_153 0 rfl rfl ?_
  refine r_dup (pc := 154) dX4_next_154 rfl ?_
  refine r_gI (pc := 155) dX4_next_155 q1702 fd_59 same_rf h (fun x155 e155 h => ?_)
  refine r_iconst (pc := 158) (v := 1) dX4_next_158 (by decide) ?_
  refine r_iadd (pc := 159) dX4_next_159 ?_
  refine r_pI (pc := 160) dX4_next_160 q1702 fd_59 same_rf rfl h (fun st e160 h => ?_)
  exact r_return_ (pc := 163) dX4_next_163 rfl h
theorem sX4_next_140 {st0 : Mem} {fin : Unit × Mem} (v0 : Rf) (v1 : Int32) (k0 : Rf) (st : Mem) (h : bX4_next_140 v0 v1 k0 st = some fin) : G (cX4_next, "HouseClapsModel", "next", 8, none, 4) st0 trV fin 140 [(0, vr v0), (1, vi v1)] [vr k0] st := by
  unfold bX4_next_140 at h
  refine r_iconst (pc := 140) (v := 3) dX4_next_140 (by decide) ?_
  refine r_goto (pc := 141) (tgt := 145) dX4_next_141 (by decide) ?_
  exact sX4_next_145 _ _ _ _ _ h
theorem sX4_next_144 {st0 : Mem} {fin : Unit × Mem} (v0 : Rf) (v1 : Int32) (k0 : Rf) (st : Mem) (h : bX4_next_144 v0 v1 k0 st = some fin) : G (cX4_next, "HouseClapsModel", "next", 8, none, 4) st0 trV fin 144 [(0, vr v0), (1, vi v1)] [vr k0] st := by
  unfold bX4_next_144 at h
  refine r_iconst (pc := 144) (v := 4) dX4_next_144 (by decide) ?_
  exact sX4_next_145 _ _ _ _ _ h
theorem sX4_next_80 {st0 : Mem} {fin : Unit × Mem} (v0 : Rf) (st : Mem) (h : bX4_next_80 v0 st = some fin) : G (cX4_next, "HouseClapsModel", "next", 8, none, 4) st0 trV fin 80 [(0, vr v0)] [] st := by
  unfold bX4_next_80 at h
  refine r_aload_n (pc := 80) dX4_next_80 0 rfl rfl ?_
  refine r_callI (pc := 81) (rest := []) (lkV dX4_next_81 q1918 xd_X4_peek (vc_of vt_X4_peek q1920 (fun _ => sX4_peek)) adx_X4_peek) (by decide) (Nat.le_of_ble_eq_true rfl) rfl h (fun x81 st e81 h => ?_)
  refine r_istore_n (pc := 84) (env' := [(1, vi x81), (0, vr v0)]) dX4_next_84 rfl (by decide) rfl ?_
  refine r_iload_n (pc := 85) dX4_next_85 0 rfl rfl ?_
  refine r_if_ge (pc := 86) (tgt := 95) dX4_next_86 (by decide) h (fun e86 h => ?_) (fun e86 h => ?_)
  · refine r_iload_n (pc := 95) dX4_next_95 0 rfl rfl ?_
    refine r_callI (pc := 96) (rest := []) (lkS dX4_next_96 q1922 q1923 q92 (fun _ => sX4_isSmall) ad_X4_isSmall) (by decide) (Nat.le_of_ble_eq_true rfl) rfl h (fun x96 st e96 h => ?_)
    refine r_if_ne (pc := 99) (tgt := 164) dX4_next_99 (by decide) h (fun e99 h => ?_) (fun e99 h => ?_)
    · exact r_sub (env' := [(0, vr v0), (1, vi x81)]) [1, 0] rfl (sX4_next_164 _ _ _ h)
    · refine r_iload_n (pc := 102) dX4_next_102 0 rfl rfl ?_
      refine r_callI (pc := 103) (rest := []) (lkS dX4_next_103 q1925 q1926 q92 (fun _ => sX4_isDigit) ad_X4_isDigit) (by decide) (Nat.le_of_ble_eq_true rfl) rfl h (fun x103 st e103 h => ?_)
      refine r_if_ne (pc := 106) (tgt := 164) dX4_next_106 (by decide) h (fun e106 h => ?_) (fun e106 h => ?_)
      · exact r_sub (env' := [(0, vr v0), (1, vi x81)]) [1, 0] rfl (sX4_next_164 _ _ _ h)
      · refine r_aload_n (pc := 109) dX4_next_109 1 rfl rfl ?_
        refine r_iload_n (pc := 110) dX4_next_110 0 rfl rfl ?_
        refine r_bipush (pc := 111) (v := 59) dX4_next_111 (by decide) ?_
        refine r_icmp_eq (pc := 113) (tgt := 140) dX4_next_113 (by decide) h (fun e113 h => ?_) (fun e113 h => ?_)
        · exact r_sub (env' := [(0, vr v0), (1, vi x81)]) [1, 0] rfl (sX4_next_140 _ _ _ _ h)
        · refine r_iload_n (pc := 116) dX4_next_116 0 rfl rfl ?_
          refine r_bipush (pc := 117) (v := 40) dX4_next_117 (by decide) ?_
          refine r_icmp_eq (pc := 119) (tgt := 140) dX4_next_119 (by decide) h (fun e119 h => ?_) (fun e119 h => ?_)
          · exact r_sub (env' := [(0, vr v0), (1, vi x81)]) [1, 0] rfl (sX4_next_140 _ _ _ _ h)
          · refine r_iload_n (pc := 122) dX4_next_122 0 rfl rfl ?_
            refine r_bipush (pc := 123) (v := 41) dX4_next_123 (by decide) ?_
            refine r_icmp_eq (pc := 125) (tgt := 140) dX4_next_125 (by decide) h (fun e125 h => ?_) (fun e125 h => ?_)
            · exact r_sub (env' := [(0, vr v0), (1, vi x81)]) [1, 0] rfl (sX4_next_140 _ _ _ _ h)
            · refine r_iload_n (pc := 128) dX4_next_128 0 rfl rfl ?_
              refine r_bipush (pc := 129) (v := 60) dX4_next_129 (by decide) ?_
              refine r_icmp_lt (pc := 131) (tgt := 144) dX4_next_131 (by decide) h (fun e131 h => ?_) (fun e131 h => ?_)
              · exact r_sub (env' := [(0, vr v0), (1, vi x81)]) [1, 0] rfl (sX4_next_144 _ _ _ _ h)
              · refine r_iload_n (pc := 134) dX4_next_134 0 rfl rfl ?_
                refine r_bipush (pc := 135) (v := 62) dX4_next_135 (by decide) ?_
                refine r_icmp_gt (pc := 137) (tgt := 144) dX4_next_137 (by decide) h (fun e137 h => ?_) (fun e137 h => ?_)
                · exact r_sub (env' := [(0, vr v0), (1, vi x81)]) [1, 0] rfl (sX4_next_144 _ _ _ _ h)
                · exact r_sub (env' := [(0, vr v0), (1, vi x81)]) [1, 0] rfl (sX4_next_140 _ _ _ _ h)
  · refine r_aload_n (pc := 89) dX4_next_89 1 rfl rfl ?_
    refine r_iconst (pc := 90) (v := 0) dX4_next_90 (by decide) ?_
    refine r_pI (pc := 91) dX4_next_91 q1707 fd_64 same_rf rfl h (fun st e91 h => ?_)
    exact r_return_ (pc := 94) dX4_next_94 rfl h
theorem sX4_next_0B {st0 : Mem} {fin : Unit × Mem} {kk0 : Rf → Mem → Option (Unit × Mem)} (hk0 : ∀ (v0 : Rf) (st : Mem), kk0 v0 st = some fin → G (cX4_next, "HouseClapsModel", "next", 8, none, 4) st0 trV fin 0 [(0, vr v0)] [] st) (v0 : Rf) (st : Mem) (h : bX4_next_0B kk0 v0 st = some fin) : G (cX4_next, "HouseClapsModel", "next", 8, none, 4) st0 trV fin 0 [(0, vr v0)] [] st := by
  unfold bX4_next_0B at h
  refine r_aload_n (pc := 0) dX4_next_0 0 rfl rfl ?_
  refine r_callI (pc := 1) (rest := []) (lkV dX4_next_1 q1918 xd_X4_peek (vc_of vt_X4_peek q1920 (fun _ => sX4_peek)) adx_X4_peek) (by decide) (Nat.le_of_ble_eq_true rfl) rfl h (fun x1 st e1 h => ?_)
  refine r_bipush (pc := 4) (v := 32) dX4_next_4 (by decide) ?_
  refine r_icmp_eq (pc := 6) (tgt := 18) dX4_next_6 (by decide) h (fun e6 h => ?_) (fun e6 h => ?_)
  · exact sX4_next_18 hk0 _ _ h
  · refine r_aload_n (pc := 9) dX4_next_9 0 rfl rfl ?_
    refine r_callI (pc := 10) (rest := []) (lkV dX4_next_10 q1918 xd_X4_peek (vc_of vt_X4_peek q1920 (fun _ => sX4_peek)) adx_X4_peek) (by decide) (Nat.le_of_ble_eq_true rfl) rfl h (fun x10 st e10 h => ?_)
    refine r_bipush (pc := 13) (v := 10) dX4_next_13 (by decide) ?_
    refine r_icmp_ne (pc := 15) (tgt := 31) dX4_next_15 (by decide) h (fun e15 h => ?_) (fun e15 h => ?_)
    · refine r_aload_n (pc := 31) dX4_next_31 0 rfl rfl ?_
      refine r_aload_n (pc := 32) dX4_next_32 0 rfl rfl ?_
      refine r_gI (pc := 33) dX4_next_33 q1702 fd_59 same_rf h (fun x33 e33 h => ?_)
      refine r_pI (pc := 36) dX4_next_36 q1708 fd_65 same_rf rfl h (fun st e36 h => ?_)
      refine r_aload_n (pc := 39) dX4_next_39 0 rfl rfl ?_
      refine r_iconst (pc := 40) (v := 0) dX4_next_40 (by decide) ?_
      refine r_pI (pc := 41) dX4_next_41 q1709 fd_66 same_rf rfl h (fun st e41 h => ?_)
      refine r_aload_n (pc := 44) dX4_next_44 0 rfl rfl ?_
      refine r_gI (pc := 45) dX4_next_45 q1701 fd_58 same_rf h (fun x45 e45 h => ?_)
      refine r_aload_n (pc := 48) dX4_next_48 0 rfl rfl ?_
      refine r_gI (pc := 49) dX4_next_49 q1703 fd_60 same_rf h (fun x49 e49 h => ?_)
      refine r_icmp_le (pc := 52) (tgt := 80) dX4_next_52 (by decide) h (fun e52 h => ?_) (fun e52 h => ?_)
      · exact sX4_next_80 _ _ h
      · refine r_aload_n (pc := 55) dX4_next_55 0 rfl rfl ?_
        refine r_gI (pc := 56) dX4_next_56 q1702 fd_59 same_rf h (fun x56 e56 h => ?_)
        refine r_aload_n (pc := 59) dX4_next_59 0 rfl rfl ?_
        refine r_gI (pc := 60) dX4_next_60 q1703 fd_60 same_rf h (fun x60 e60 h => ?_)
        refine r_icmp_lt (pc := 63) (tgt := 80) dX4_next_63 (by decide) h (fun e63 h => ?_) (fun e63 h => ?_)
        · exact sX4_next_80 _ _ h
        · refine r_aload_n (pc := 66) dX4_next_66 0 rfl rfl ?_
          refine r_aload_n (pc := 67) dX4_next_67 0 rfl rfl ?_
          refine r_gI (pc := 68) dX4_next_68 q1703 fd_60 same_rf h (fun x68 e68 h => ?_)
          refine r_pI (pc := 71) dX4_next_71 q1708 fd_65 same_rf rfl h (fun st e71 h => ?_)
          refine r_aload_n (pc := 74) dX4_next_74 0 rfl rfl ?_
          refine r_iconst (pc := 75) (v := 4) dX4_next_75 (by decide) ?_
          refine r_pI (pc := 76) dX4_next_76 q1707 fd_64 same_rf rfl h (fun st e76 h => ?_)
          exact r_return_ (pc := 79) dX4_next_79 rfl h
    · exact sX4_next_18 hk0 _ _ h
theorem sX4_next_0 {st0 : Mem} {fin : Unit × Mem} (n : Nat) : ∀ (v0 : Rf) (st : Mem), bX4_next_0 n v0 st = some fin → G (cX4_next, "HouseClapsModel", "next", 8, none, 4) st0 trV fin 0 [(0, vr v0)] [] st := by
  induction n with
  | zero => intro v0 st h; cases h
  | succ n ih => intro v0 st h; exact sX4_next_0B  ih v0 st h
theorem sX4_next {a0 : Rf} {st : Mem} {fin : Unit × Mem} (h : fX4_next a0 st = some fin) : Con yX4_next 8 [vr a0] st trV fin := by
  refine Con.mk (cc := cX4_next) (n := 4) (own := "HouseClapsModel") (nm := "next") (ret := none) (env := [(0, vr a0)]) q1917 rfl rfl rfl (by decide) ⟨Nat.le_of_ble_eq_true rfl, by decide⟩ rfl ?_
  unfold fX4_next at h
  exact r_sub (env' := [(0, vr a0)]) [0] rfl (sX4_next_0 hcFuel _ _ h)
theorem sX4_restore_27B {st0 : Mem} {fin : Int32 × Mem} {kk27 : Rf → Int32 → Int32 → Mem → Option (Int32 × Mem)} (hk27 : ∀ (v0 : Rf) (v1 : Int32) (v2 : Int32) (st : Mem), kk27 v0 v1 v2 st = some fin → G (cX4_restore, "HouseClapsModel", "restore", 8, (some .boolean), 3) st0 trI fin 27 [(0, vr v0), (1, vi v1), (2, vi v2)] [] st) (v0 : Rf) (v1 : Int32) (v2 : Int32) (st : Mem) (h : bX4_restore_27B kk27 v0 v1 v2 st = some fin) : G (cX4_restore, "HouseClapsModel", "restore", 8, (some .boolean), 3) st0 trI fin 27 [(0, vr v0), (1, vi v1), (2, vi v2)] [] st := by
  unfold bX4_restore_27B at h
  refine r_iload_n (pc := 27) dX4_restore_27 2 rfl rfl ?_
  refine r_sipush (pc := 28) (v := 681) dX4_restore_28 (by decide) ?_
  refine r_icmp_ge (pc := 31) (tgt := 58) dX4_restore_31 (by decide) h (fun e31 h => ?_) (fun e31 h => ?_)
  · refine r_aload_n (pc := 58) dX4_restore_58 0 rfl rfl ?_
    refine r_aload_n (pc := 59) dX4_restore_59 0 rfl rfl ?_
    refine r_gA (pc := 60) dX4_restore_60 q1764 fd_121 same_rf h (fun x60 e60 h => ?_)
    refine r_iload_n (pc := 63) dX4_restore_63 1 rfl rfl ?_
    refine r_laload (pc := 64) dX4_restore_64 h (fun x64 e64 h => ?_)
    refine r_pJ (pc := 65) dX4_restore_65 q1714 fd_71 same_rf rfl h (fun st e65 h => ?_)
    refine r_aload_n (pc := 68) dX4_restore_68 0 rfl rfl ?_
    refine r_aload_n (pc := 69) dX4_restore_69 0 rfl rfl ?_
    refine r_gA (pc := 70) dX4_restore_70 q1765 fd_122 same_rf h (fun x70 e70 h => ?_)
    refine r_iload_n (pc := 73) dX4_restore_73 1 rfl rfl ?_
    refine r_laload (pc := 74) dX4_restore_74 h (fun x74 e74 h => ?_)
    refine r_pJ (pc := 75) dX4_restore_75 q1715 fd_72 same_rf rfl h (fun st e75 h => ?_)
    refine r_aload_n (pc := 78) dX4_restore_78 0 rfl rfl ?_
    refine r_iconst (pc := 79) (v := 1) dX4_restore_79 (by decide) ?_
    refine r_pI (pc := 80) dX4_restore_80 q1728 fd_85 same_rf rfl h (fun st e80 h => ?_)
    refine r_iconst (pc := 83) (v := 1) dX4_restore_83 (by decide) ?_
    exact r_ireturn (pc := 84) dX4_restore_84 rfl rfl h
  · refine r_aload_n (pc := 34) dX4_restore_34 0 rfl rfl ?_
    refine r_gA (pc := 35) dX4_restore_35 q1704 fd_61 same_rf h (fun x35 e35 h => ?_)
    refine r_iload_n (pc := 38) dX4_restore_38 2 rfl rfl ?_
    refine r_aload_n (pc := 39) dX4_restore_39 0 rfl rfl ?_
    refine r_gA (pc := 40) dX4_restore_40 q1763 fd_120 same_rf h (fun x40 e40 h => ?_)
    refine r_sipush (pc := 43) (v := 681) dX4_restore_43 (by decide) ?_
    refine r_iload_n (pc := 46) dX4_restore_46 1 rfl rfl ?_
    refine r_imul (pc := 47) dX4_restore_47 ?_
    refine r_iload_n (pc := 48) dX4_restore_48 2 rfl rfl ?_
    refine r_iadd (pc := 49) dX4_restore_49 ?_
    refine r_iaload (pc := 50) dX4_restore_50 h (fun x50 e50 h => ?_)
    refine r_iastore (pc := 51) dX4_restore_51 h (fun st e51 h => ?_)
    refine r_iinc (pc := 52) (env' := [(2, vi (v2 + 1)), (0, vr v0), (1, vi v1)]) (cst := 1) dX4_restore_52 2 rfl (by decide) (by decide) rfl ?_
    refine r_goto (pc := 55) (tgt := 27) dX4_restore_55 (by decide) ?_
    exact r_sub (env' := [(0, vr v0), (1, vi v1), (2, vi (v2 + 1))]) [1, 2, 0] rfl (hk27 _ _ _ _ h)
theorem sX4_restore_27 {st0 : Mem} {fin : Int32 × Mem} (n : Nat) : ∀ (v0 : Rf) (v1 : Int32) (v2 : Int32) (st : Mem), bX4_restore_27 n v0 v1 v2 st = some fin → G (cX4_restore, "HouseClapsModel", "restore", 8, (some .boolean), 3) st0 trI fin 27 [(0, vr v0), (1, vi v1), (2, vi v2)] [] st := by
  induction n with
  | zero => intro v0 v1 v2 st h; cases h
  | succ n ih => intro v0 v1 v2 st h; exact sX4_restore_27B  ih v0 v1 v2 st h
theorem sX4_restore {a0 : Rf} {a1 : Int32} {st : Mem} {fin : Int32 × Mem} (h : fX4_restore a0 a1 st = some fin) : Con yX4_restore 8 [vr a0, vi a1] st trI fin := by
  refine Con.mk (cc := cX4_restore) (n := 3) (own := "HouseClapsModel") (nm := "restore") (ret := (some .boolean)) (env := [(0, vr a0), (1, vi a1)]) q2303 rfl rfl rfl (by decide) ⟨Nat.le_of_ble_eq_true rfl, by decide⟩ rfl ?_
  unfold fX4_restore at h
  refine r_aload_n (pc := 0) dX4_restore_0 0 rfl rfl ?_
  refine r_iconst (pc := 1) (v := 0) dX4_restore_1 (by decide) ?_
  refine r_pI (pc := 2) dX4_restore_2 q1698 fd_55 same_rf rfl h (fun st e2 h => ?_)
  refine r_iload_n (pc := 5) dX4_restore_5 1 rfl rfl ?_
  refine r_iconst (pc := 6) (v := 0) dX4_restore_6 (by decide) ?_
  refine r_iconst (pc := 7) (v := 1) dX4_restore_7 (by decide) ?_
  refine r_callI (pc := 8) (rest := []) (lkS dX4_restore_8 q1949 q1950 q92 (fun _ => sX4_isIn) ad_X4_isIn) (by decide) (Nat.le_of_ble_eq_true rfl) rfl h (fun x8 st e8 h => ?_)
  refine r_if_eq (pc := 11) (tgt := 23) dX4_restore_11 (by decide) h (fun e11 h => ?_) (fun e11 h => ?_)
  · refine r_iconst (pc := 23) (v := 0) dX4_restore_23 (by decide) ?_
    exact r_ireturn (pc := 24) dX4_restore_24 rfl rfl h
  · refine r_aload_n (pc := 14) dX4_restore_14 0 rfl rfl ?_
    refine r_gA (pc := 15) dX4_restore_15 q1766 fd_123 same_rf h (fun x15 e15 h => ?_)
    refine r_iload_n (pc := 18) dX4_restore_18 1 rfl rfl ?_
    refine r_baload (pc := 19) dX4_restore_19 h (fun x19 e19 h => ?_)
    refine r_if_ne (pc := 20) (tgt := 25) dX4_restore_20 (by decide) h (fun e20 h => ?_) (fun e20 h => ?_)
    · refine r_iconst (pc := 25) (v := 0) dX4_restore_25 (by decide) ?_
      refine r_istore_n (pc := 26) (env' := [(2, vi (0 : Int32)), (0, vr a0), (1, vi a1)]) dX4_restore_26 rfl (by decide) rfl ?_
      exact r_sub (env' := [(0, vr a0), (1, vi a1), (2, vi (0 : Int32))]) [1, 2, 0] rfl (sX4_restore_27 hcFuel _ _ _ _ h)
    · refine r_iconst (pc := 23) (v := 0) dX4_restore_23 (by decide) ?_
      exact r_ireturn (pc := 24) dX4_restore_24 rfl rfl h
theorem sX4_side_30 {st0 : Mem} {fin : Int32 × Mem} (st : Mem) (h : bX4_side_30  st = some fin) : G (cX4_side, "HouseClapsModel", "side", 8, (some .int), 2) st0 trI fin 30 [] [] st := by
  unfold bX4_side_30 at h
  refine r_iconst (pc := 30) (v := (-1)) dX4_side_30 (by decide) ?_
  exact r_ireturn (pc := 31) dX4_side_31 rfl rfl h
theorem sX4_side {a0 : Rf} {a1 : Int32} {st : Mem} {fin : Int32 × Mem} (h : fX4_side a0 a1 st = some fin) : Con yX4_side 8 [vr a0, vi a1] st trI fin := by
  refine Con.mk (cc := cX4_side) (n := 2) (own := "HouseClapsModel") (nm := "side") (ret := (some .int)) (env := [(0, vr a0), (1, vi a1)]) q2234 rfl rfl rfl (by decide) ⟨Nat.le_of_ble_eq_true rfl, by decide⟩ rfl ?_
  unfold fX4_side at h
  refine r_aload_n (pc := 0) dX4_side_0 0 rfl rfl ?_
  refine r_iconst (pc := 1) (v := 0) dX4_side_1 (by decide) ?_
  refine r_pI (pc := 2) dX4_side_2 q1698 fd_55 same_rf rfl h (fun st e2 h => ?_)
  refine r_aload_n (pc := 5) dX4_side_5 0 rfl rfl ?_
  refine r_gI (pc := 6) dX4_side_6 q1753 fd_110 same_rf h (fun x6 e6 h => ?_)
  refine r_if_eq (pc := 9) (tgt := 30) dX4_side_9 (by decide) h (fun e9 h => ?_) (fun e9 h => ?_)
  · exact r_sub (env' := []) [] rfl (sX4_side_30 _ h)
  · refine r_iload_n (pc := 12) dX4_side_12 1 rfl rfl ?_
    refine r_iconst (pc := 13) (v := 0) dX4_side_13 (by decide) ?_
    refine r_iconst (pc := 14) (v := 2) dX4_side_14 (by decide) ?_
    refine r_callI (pc := 15) (rest := []) (lkS dX4_side_15 q1949 q1950 q92 (fun _ => sX4_isIn) ad_X4_isIn) (by decide) (Nat.le_of_ble_eq_true rfl) rfl h (fun x15 st e15 h => ?_)
    refine r_if_eq (pc := 18) (tgt := 30) dX4_side_18 (by decide) h (fun e18 h => ?_) (fun e18 h => ?_)
    · exact r_sub (env' := []) [] rfl (sX4_side_30 _ h)
    · refine r_aload_n (pc := 21) dX4_side_21 0 rfl rfl ?_
      refine r_gA (pc := 22) dX4_side_22 q1752 fd_109 same_rf h (fun x22 e22 h => ?_)
      refine r_iload_n (pc := 25) dX4_side_25 1 rfl rfl ?_
      refine r_iaload (pc := 26) dX4_side_26 h (fun x26 e26 h => ?_)
      refine r_goto (pc := 27) (tgt := 31) dX4_side_27 (by decide) ?_
      exact r_ireturn (pc := 31) dX4_side_31 rfl rfl h
theorem sX4_worthOf_109 {st0 : Mem} {fin : Int32 × Mem} (v5 : Int64) (k0 : Int64) (st : Mem) (h : bX4_worthOf_109 v5 k0 st = some fin) : G (cX4_worthOf, "HouseClapsModel", "worthOf", 8, (some .int), 9) st0 trI fin 109 [(5, vj v5)] [vj k0] st := by
  unfold bX4_worthOf_109 at h
  refine r_lload (pc := 109) dX4_worthOf_109 0 rfl ?_
  refine r_ldiv (pc := 111) dX4_worthOf_111 h (fun x111 e111 h => ?_)
  refine r_l2i (pc := 112) dX4_worthOf_112 ?_
  exact r_ireturn (pc := 113) dX4_worthOf_113 rfl rfl h
theorem sX4_worthOf_71B {st0 : Mem} {fin : Int32 × Mem} {kk71 : Rf → Int32 → Int32 → Int64 → Int64 → Mem → Option (Int32 × Mem)} (hk71 : ∀ (v0 : Rf) (v1 : Int32) (v2 : Int32) (v3 : Int64) (v5 : Int64) (st : Mem), kk71 v0 v1 v2 v3 v5 st = some fin → G (cX4_worthOf, "HouseClapsModel", "worthOf", 8, (some .int), 9) st0 trI fin 71 [(0, vr v0), (1, vi v1), (2, vi v2), (3, vj v3), (5, vj v5)] [] st) (v0 : Rf) (v1 : Int32) (v2 : Int32) (v3 : Int64) (v5 : Int64) (st : Mem) (h : bX4_worthOf_71B kk71 v0 v1 v2 v3 v5 st = some fin) : G (cX4_worthOf, "HouseClapsModel", "worthOf", 8, (some .int), 9) st0 trI fin 71 [(0, vr v0), (1, vi v1), (2, vi v2), (3, vj v3), (5, vj v5)] [] st := by
  unfold bX4_worthOf_71B at h
  refine r_lload_n (pc := 71) dX4_worthOf_71 3 rfl rfl ?_
  refine r_lconst (pc := 72) (v := 0) dX4_worthOf_72 (by decide) ?_
  refine r_lcmp_eq (pc := 73) (tgt := 92) dX4_worthOf_73 dX4_worthOf_74 (by decide) h (fun e74 h => ?_) (fun e74 h => ?_)
  · refine r_iload_n (pc := 92) dX4_worthOf_92 2 rfl rfl ?_
    refine r_if_ne (pc := 93) (tgt := 105) dX4_worthOf_93 (by decide) h (fun e93 h => ?_) (fun e93 h => ?_)
    · refine r_aload_n (pc := 105) dX4_worthOf_105 0 rfl rfl ?_
      refine r_gJ (pc := 106) dX4_worthOf_106 q1751 fd_108 same_rf h (fun x106 e106 h => ?_)
      exact r_sub (env' := [(5, vj v5)]) [4] rfl (sX4_worthOf_109 _ _ _ h)
    · refine r_aload_n (pc := 96) dX4_worthOf_96 0 rfl rfl ?_
      refine r_gA (pc := 97) dX4_worthOf_97 q1749 fd_106 same_rf h (fun x97 e97 h => ?_)
      refine r_iload_n (pc := 100) dX4_worthOf_100 1 rfl rfl ?_
      refine r_laload (pc := 101) dX4_worthOf_101 h (fun x101 e101 h => ?_)
      refine r_goto (pc := 102) (tgt := 109) dX4_worthOf_102 (by decide) ?_
      exact r_sub (env' := [(5, vj v5)]) [4] rfl (sX4_worthOf_109 _ _ _ h)
  · refine r_lload (pc := 77) dX4_worthOf_77 4 rfl ?_
    refine r_lload_n (pc := 79) dX4_worthOf_79 3 rfl rfl ?_
    refine r_lrem (pc := 80) dX4_worthOf_80 h (fun x80 e80 h => ?_)
    refine r_lstore (pc := 81) (env' := [(7, vj x80), (0, vr v0), (1, vi v1), (2, vi v2), (3, vj v3), (5, vj v5)]) dX4_worthOf_81 (by decide) rfl ?_
    refine r_lload_n (pc := 83) dX4_worthOf_83 4 rfl rfl ?_
    refine r_lstore (pc := 84) (env' := [(5, vj v3), (7, vj x80), (0, vr v0), (1, vi v1), (2, vi v2), (3, vj v3)]) dX4_worthOf_84 (by decide) rfl ?_
    refine r_lload (pc := 86) dX4_worthOf_86 1 rfl ?_
    refine r_lstore_n (pc := 88) (env' := [(3, vj x80), (5, vj v3), (7, vj x80), (0, vr v0), (1, vi v1), (2, vi v2)]) dX4_worthOf_88 rfl (by decide) rfl ?_
    refine r_goto (pc := 89) (tgt := 71) dX4_worthOf_89 (by decide) ?_
    exact r_sub (env' := [(0, vr v0), (1, vi v1), (2, vi v2), (3, vj x80), (5, vj v3)]) [3, 4, 5, 0, 1] rfl (hk71 _ _ _ _ _ _ h)
theorem sX4_worthOf_71 {st0 : Mem} {fin : Int32 × Mem} (n : Nat) : ∀ (v0 : Rf) (v1 : Int32) (v2 : Int32) (v3 : Int64) (v5 : Int64) (st : Mem), bX4_worthOf_71 n v0 v1 v2 v3 v5 st = some fin → G (cX4_worthOf, "HouseClapsModel", "worthOf", 8, (some .int), 9) st0 trI fin 71 [(0, vr v0), (1, vi v1), (2, vi v2), (3, vj v3), (5, vj v5)] [] st := by
  induction n with
  | zero => intro v0 v1 v2 v3 v5 st h; cases h
  | succ n ih => intro v0 v1 v2 v3 v5 st h; exact sX4_worthOf_71B  ih v0 v1 v2 v3 v5 st h
theorem sX4_worthOf_64 {st0 : Mem} {fin : Int32 × Mem} (v0 : Rf) (v1 : Int32) (v2 : Int32) (k0 : Int64) (st : Mem) (h : bX4_worthOf_64 v0 v1 v2 k0 st = some fin) : G (cX4_worthOf, "HouseClapsModel", "worthOf", 8, (some .int), 9) st0 trI fin 64 [(0, vr v0), (1, vi v1), (2, vi v2)] [vj k0] st := by
  unfold bX4_worthOf_64 at h
  refine r_lstore_n (pc := 64) (env' := [(3, vj k0), (0, vr v0), (1, vi v1), (2, vi v2)]) dX4_worthOf_64 rfl (by decide) rfl ?_
  refine r_aload_n (pc := 65) dX4_worthOf_65 1 rfl rfl ?_
  refine r_gJ (pc := 66) dX4_worthOf_66 q1751 fd_108 same_rf h (fun x66 e66 h => ?_)
  refine r_lstore (pc := 69) (env' := [(5, vj x66), (3, vj k0), (0, vr v0), (1, vi v1), (2, vi v2)]) dX4_worthOf_69 (by decide) rfl ?_
  exact r_sub (env' := [(0, vr v0), (1, vi v1), (2, vi v2), (3, vj k0), (5, vj x66)]) [2, 3, 4, 1, 0] rfl (sX4_worthOf_71 hcFuel _ _ _ _ _ _ h)
theorem sX4_worthOf_29 {st0 : Mem} {fin : Int32 × Mem} (v0 : Rf) (v1 : Int32) (v2 : Int32) (k0 : Rf) (k1 : Int32) (st : Mem) (h : bX4_worthOf_29 v0 v1 v2 k0 k1 st = some fin) : G (cX4_worthOf, "HouseClapsModel", "worthOf", 8, (some .int), 9) st0 trI fin 29 [(0, vr v0), (1, vi v1), (2, vi v2)] [vi k1, vr k0] st := by
  unfold bX4_worthOf_29 at h
  refine r_callI (pc := 29) (rest := []) (lkV dX4_worthOf_29 q2044 xd_X4_throwsIf (vc_of vt_X4_throwsIf q2046 (fun _ => sX4_throwsIf)) adx_X4_throwsIf) (by decide) (Nat.le_of_ble_eq_true rfl) rfl h (fun x29 st e29 h => ?_)
  refine r_if_eq (pc := 32) (tgt := 37) dX4_worthOf_32 (by decide) h (fun e32 h => ?_) (fun e32 h => ?_)
  · refine r_aload_n (pc := 37) dX4_worthOf_37 0 rfl rfl ?_
    refine r_gA (pc := 38) dX4_worthOf_38 q1749 fd_106 same_rf h (fun x38 e38 h => ?_)
    refine r_iload_n (pc := 41) dX4_worthOf_41 1 rfl rfl ?_
    refine r_laload (pc := 42) dX4_worthOf_42 h (fun x42 e42 h => ?_)
    refine r_lconst (pc := 43) (v := 0) dX4_worthOf_43 (by decide) ?_
    refine r_lcmp_ge (pc := 44) (tgt := 58) dX4_worthOf_44 dX4_worthOf_45 (by decide) h (fun e45 h => ?_) (fun e45 h => ?_)
    · refine r_aload_n (pc := 58) dX4_worthOf_58 0 rfl rfl ?_
      refine r_gA (pc := 59) dX4_worthOf_59 q1749 fd_106 same_rf h (fun x59 e59 h => ?_)
      refine r_iload_n (pc := 62) dX4_worthOf_62 1 rfl rfl ?_
      refine r_laload (pc := 63) dX4_worthOf_63 h (fun x63 e63 h => ?_)
      exact sX4_worthOf_64 _ _ _ _ _ h
    · refine r_aload_n (pc := 48) dX4_worthOf_48 0 rfl rfl ?_
      refine r_gA (pc := 49) dX4_worthOf_49 q1749 fd_106 same_rf h (fun x49 e49 h => ?_)
      refine r_iload_n (pc := 52) dX4_worthOf_52 1 rfl rfl ?_
      refine r_laload (pc := 53) dX4_worthOf_53 h (fun x53 e53 h => ?_)
      refine r_lneg (pc := 54) dX4_worthOf_54 ?_
      refine r_goto (pc := 55) (tgt := 64) dX4_worthOf_55 (by decide) ?_
      exact sX4_worthOf_64 _ _ _ _ _ h
  · refine r_iconst (pc := 35) (v := 0) dX4_worthOf_35 (by decide) ?_
    exact r_ireturn (pc := 36) dX4_worthOf_36 rfl rfl h
theorem sX4_worthOf_24 {st0 : Mem} {fin : Int32 × Mem} (v0 : Rf) (v1 : Int32) (v2 : Int32) (k0 : Rf) (st : Mem) (h : bX4_worthOf_24 v0 v1 v2 k0 st = some fin) : G (cX4_worthOf, "HouseClapsModel", "worthOf", 8, (some .int), 9) st0 trI fin 24 [(0, vr v0), (1, vi v1), (2, vi v2)] [vr k0] st := by
  unfold bX4_worthOf_24 at h
  refine r_iconst (pc := 24) (v := 1) dX4_worthOf_24 (by decide) ?_
  refine r_goto (pc := 25) (tgt := 29) dX4_worthOf_25 (by decide) ?_
  exact sX4_worthOf_29 _ _ _ _ _ _ h
theorem sX4_worthOf {a0 : Rf} {a1 : Int32} {a2 : Int32} {st : Mem} {fin : Int32 × Mem} (h : fX4_worthOf a0 a1 a2 st = some fin) : Con yX4_worthOf 8 [vr a0, vi a1, vi a2] st trI fin := by
  refine Con.mk (cc := cX4_worthOf) (n := 9) (own := "HouseClapsModel") (nm := "worthOf") (ret := (some .int)) (env := [(0, vr a0), (1, vi a1), (2, vi a2)]) q2226 rfl rfl rfl (by decide) ⟨Nat.le_of_ble_eq_true rfl, by decide⟩ rfl ?_
  unfold fX4_worthOf at h
  refine r_aload_n (pc := 0) dX4_worthOf_0 0 rfl rfl ?_
  refine r_iload_n (pc := 1) dX4_worthOf_1 1 rfl rfl ?_
  refine r_iconst (pc := 2) (v := 0) dX4_worthOf_2 (by decide) ?_
  refine r_aload_n (pc := 3) dX4_worthOf_3 0 rfl rfl ?_
  refine r_gI (pc := 4) dX4_worthOf_4 q1750 fd_107 same_rf h (fun x4 e4 h => ?_)
  refine r_iconst (pc := 7) (v := 1) dX4_worthOf_7 (by decide) ?_
  refine r_isub (pc := 8) dX4_worthOf_8 ?_
  refine r_callI (pc := 9) (rest := [vr a0]) (lkS dX4_worthOf_9 q1949 q1950 q92 (fun _ => sX4_isIn) ad_X4_isIn) (by decide) (Nat.le_of_ble_eq_true rfl) rfl h (fun x9 st e9 h => ?_)
  refine r_if_eq (pc := 12) (tgt := 24) dX4_worthOf_12 (by decide) h (fun e12 h => ?_) (fun e12 h => ?_)
  · exact sX4_worthOf_24 _ _ _ _ _ h
  · refine r_iload_n (pc := 15) dX4_worthOf_15 2 rfl rfl ?_
    refine r_iconst (pc := 16) (v := 0) dX4_worthOf_16 (by decide) ?_
    refine r_iconst (pc := 17) (v := 1) dX4_worthOf_17 (by decide) ?_
    refine r_callI (pc := 18) (rest := [vr a0]) (lkS dX4_worthOf_18 q1949 q1950 q92 (fun _ => sX4_isIn) ad_X4_isIn) (by decide) (Nat.le_of_ble_eq_true rfl) rfl h (fun x18 st e18 h => ?_)
    refine r_if_ne (pc := 21) (tgt := 28) dX4_worthOf_21 (by decide) h (fun e21 h => ?_) (fun e21 h => ?_)
    · refine r_iconst (pc := 28) (v := 0) dX4_worthOf_28 (by decide) ?_
      exact sX4_worthOf_29 _ _ _ _ _ _ h
    · exact sX4_worthOf_24 _ _ _ _ _ h
theorem sX4_writeDown_0B {st0 : Mem} {fin : Unit × Mem} {kk0 : Rf → Int32 → Mem → Option (Unit × Mem)} (hk0 : ∀ (v0 : Rf) (v1 : Int32) (st : Mem), kk0 v0 v1 st = some fin → G (cX4_writeDown, "HouseClapsModel", "writeDown", 8, none, 2) st0 trV fin 0 [(0, vr v0), (1, vi v1)] [] st) (v0 : Rf) (v1 : Int32) (st : Mem) (h : bX4_writeDown_0B kk0 v0 v1 st = some fin) : G (cX4_writeDown, "HouseClapsModel", "writeDown", 8, none, 2) st0 trV fin 0 [(0, vr v0), (1, vi v1)] [] st := by
  unfold bX4_writeDown_0B at h
  refine r_aload_n (pc := 0) dX4_writeDown_0 0 rfl rfl ?_
  refine r_gI (pc := 1) dX4_writeDown_1 q1725 fd_82 same_rf h (fun x1 e1 h => ?_)
  refine r_if_le (pc := 4) (tgt := 67) dX4_writeDown_4 (by decide) h (fun e4 h => ?_) (fun e4 h => ?_)
  · exact r_return_ (pc := 67) dX4_writeDown_67 rfl h
  · refine r_aload_n (pc := 7) dX4_writeDown_7 0 rfl rfl ?_
    refine r_gA (pc := 8) dX4_writeDown_8 q1722 fd_79 same_rf h (fun x8 e8 h => ?_)
    refine r_aload_n (pc := 11) dX4_writeDown_11 0 rfl rfl ?_
    refine r_gI (pc := 12) dX4_writeDown_12 q1725 fd_82 same_rf h (fun x12 e12 h => ?_)
    refine r_iconst (pc := 15) (v := 1) dX4_writeDown_15 (by decide) ?_
    refine r_isub (pc := 16) dX4_writeDown_16 ?_
    refine r_iaload (pc := 17) dX4_writeDown_17 h (fun x17 e17 h => ?_)
    refine r_bipush (pc := 18) (v := 6) dX4_writeDown_18 (by decide) ?_
    refine r_icmp_eq (pc := 20) (tgt := 67) dX4_writeDown_20 (by decide) h (fun e20 h => ?_) (fun e20 h => ?_)
    · exact r_return_ (pc := 67) dX4_writeDown_67 rfl h
    · refine r_aload_n (pc := 23) dX4_writeDown_23 0 rfl rfl ?_
      refine r_gA (pc := 24) dX4_writeDown_24 q1722 fd_79 same_rf h (fun x24 e24 h => ?_)
      refine r_aload_n (pc := 27) dX4_writeDown_27 0 rfl rfl ?_
      refine r_gI (pc := 28) dX4_writeDown_28 q1725 fd_82 same_rf h (fun x28 e28 h => ?_)
      refine r_iconst (pc := 31) (v := 1) dX4_writeDown_31 (by decide) ?_
      refine r_isub (pc := 32) dX4_writeDown_32 ?_
      refine r_iaload (pc := 33) dX4_writeDown_33 h (fun x33 e33 h => ?_)
      refine r_callI (pc := 34) (rest := []) (lkS dX4_writeDown_34 q2002 q2003 q92 (fun _ => sX4_binds) ad_X4_binds) (by decide) (Nat.le_of_ble_eq_true rfl) rfl h (fun x34 st e34 h => ?_)
      refine r_iload_n (pc := 37) dX4_writeDown_37 1 rfl rfl ?_
      refine r_icmp_lt (pc := 38) (tgt := 67) dX4_writeDown_38 (by decide) h (fun e38 h => ?_) (fun e38 h => ?_)
      · exact r_return_ (pc := 67) dX4_writeDown_67 rfl h
      · refine r_aload_n (pc := 41) dX4_writeDown_41 0 rfl rfl ?_
        refine r_dup (pc := 42) dX4_writeDown_42 rfl ?_
        refine r_gI (pc := 43) dX4_writeDown_43 q1725 fd_82 same_rf h (fun x43 e43 h => ?_)
        refine r_iconst (pc := 46) (v := 1) dX4_writeDown_46 (by decide) ?_
        refine r_isub (pc := 47) dX4_writeDown_47 ?_
        refine r_pI (pc := 48) dX4_writeDown_48 q1725 fd_82 same_rf rfl h (fun st e48 h => ?_)
        refine r_aload_n (pc := 51) dX4_writeDown_51 0 rfl rfl ?_
        refine r_aload_n (pc := 52) dX4_writeDown_52 0 rfl rfl ?_
        refine r_gA (pc := 53) dX4_writeDown_53 q1722 fd_79 same_rf h (fun x53 e53 h => ?_)
        refine r_aload_n (pc := 56) dX4_writeDown_56 0 rfl rfl ?_
        refine r_gI (pc := 57) dX4_writeDown_57 q1725 fd_82 same_rf h (fun x57 e57 h => ?_)
        refine r_iaload (pc := 60) dX4_writeDown_60 h (fun x60 e60 h => ?_)
        refine r_callV (pc := 61) (rest := []) (lkV dX4_writeDown_61 q1994 xd_X4_write (vc_of vt_X4_write q1996 (fun _ => sX4_write)) adx_X4_write) (by decide) (Nat.le_of_ble_eq_true rfl) rfl h (fun u61 st e61 h => ?_)
        refine r_goto (pc := 64) (tgt := 0) dX4_writeDown_64 (by decide) ?_
        exact hk0 _ _ _ h
theorem sX4_writeDown_0 {st0 : Mem} {fin : Unit × Mem} (n : Nat) : ∀ (v0 : Rf) (v1 : Int32) (st : Mem), bX4_writeDown_0 n v0 v1 st = some fin → G (cX4_writeDown, "HouseClapsModel", "writeDown", 8, none, 2) st0 trV fin 0 [(0, vr v0), (1, vi v1)] [] st := by
  induction n with
  | zero => intro v0 v1 st h; cases h
  | succ n ih => intro v0 v1 st h; exact sX4_writeDown_0B  ih v0 v1 st h
theorem sX4_writeDown {a0 : Rf} {a1 : Int32} {st : Mem} {fin : Unit × Mem} (h : fX4_writeDown a0 a1 st = some fin) : Con yX4_writeDown 8 [vr a0, vi a1] st trV fin := by
  refine Con.mk (cc := cX4_writeDown) (n := 2) (own := "HouseClapsModel") (nm := "writeDown") (ret := none) (env := [(0, vr a0), (1, vi a1)]) q2001 rfl rfl rfl (by decide) ⟨Nat.le_of_ble_eq_true rfl, by decide⟩ rfl ?_
  unfold fX4_writeDown at h
  exact r_sub (env' := [(0, vr a0), (1, vi a1)]) [0, 1] rfl (sX4_writeDown_0 hcFuel _ _ _ h)
theorem sX4_areUnlike_41 {st0 : Mem} {fin : Int32 × Mem} (st : Mem) (h : bX4_areUnlike_41  st = some fin) : G (cX4_areUnlike, "HouseClapsModel", "areUnlike", 10, (some .boolean), 3) st0 trI fin 41 [] [] st := by
  unfold bX4_areUnlike_41 at h
  refine r_iconst (pc := 41) (v := 0) dX4_areUnlike_41 (by decide) ?_
  exact r_ireturn (pc := 42) dX4_areUnlike_42 rfl rfl h
theorem sX4_areUnlike {a0 : Rf} {a1 : Int32} {a2 : Int32} {st : Mem} {fin : Int32 × Mem} (h : fX4_areUnlike a0 a1 a2 st = some fin) : Con yX4_areUnlike 10 [vr a0, vi a1, vi a2] st trI fin := by
  refine Con.mk (cc := cX4_areUnlike) (n := 3) (own := "HouseClapsModel") (nm := "areUnlike") (ret := (some .boolean)) (env := [(0, vr a0), (1, vi a1), (2, vi a2)]) q2258 rfl rfl rfl (by decide) ⟨Nat.le_of_ble_eq_true rfl, by decide⟩ rfl ?_
  unfold fX4_areUnlike at h
  refine r_aload_n (pc := 0) dX4_areUnlike_0 0 rfl rfl ?_
  refine r_iload_n (pc := 1) dX4_areUnlike_1 1 rfl rfl ?_
  refine r_callI (pc := 2) (rest := []) (lkV dX4_areUnlike_2 q2040 xd_X4_isSeat (vc_of vt_X4_isSeat q2042 (fun _ => sX4_isSeat)) adx_X4_isSeat) (by decide) (Nat.le_of_ble_eq_true rfl) rfl h (fun x2 st e2 h => ?_)
  refine r_if_eq (pc := 5) (tgt := 41) dX4_areUnlike_5 (by decide) h (fun e5 h => ?_) (fun e5 h => ?_)
  · exact r_sub (env' := []) [] rfl (sX4_areUnlike_41 _ h)
  · refine r_aload_n (pc := 8) dX4_areUnlike_8 0 rfl rfl ?_
    refine r_iload_n (pc := 9) dX4_areUnlike_9 2 rfl rfl ?_
    refine r_callI (pc := 10) (rest := []) (lkV dX4_areUnlike_10 q2040 xd_X4_isSeat (vc_of vt_X4_isSeat q2042 (fun _ => sX4_isSeat)) adx_X4_isSeat) (by decide) (Nat.le_of_ble_eq_true rfl) rfl h (fun x10 st e10 h => ?_)
    refine r_if_eq (pc := 13) (tgt := 41) dX4_areUnlike_13 (by decide) h (fun e13 h => ?_) (fun e13 h => ?_)
    · exact r_sub (env' := []) [] rfl (sX4_areUnlike_41 _ h)
    · refine r_aload_n (pc := 16) dX4_areUnlike_16 0 rfl rfl ?_
      refine r_gA (pc := 17) dX4_areUnlike_17 q1704 fd_61 same_rf h (fun x17 e17 h => ?_)
      refine r_bipush (pc := 20) (v := 6) dX4_areUnlike_20 (by decide) ?_
      refine r_iload_n (pc := 22) dX4_areUnlike_22 1 rfl rfl ?_
      refine r_iadd (pc := 23) dX4_areUnlike_23 ?_
      refine r_iaload (pc := 24) dX4_areUnlike_24 h (fun x24 e24 h => ?_)
      refine r_aload_n (pc := 25) dX4_areUnlike_25 0 rfl rfl ?_
      refine r_gA (pc := 26) dX4_areUnlike_26 q1704 fd_61 same_rf h (fun x26 e26 h => ?_)
      refine r_bipush (pc := 29) (v := 6) dX4_areUnlike_29 (by decide) ?_
      refine r_iload_n (pc := 31) dX4_areUnlike_31 2 rfl rfl ?_
      refine r_iadd (pc := 32) dX4_areUnlike_32 ?_
      refine r_iaload (pc := 33) dX4_areUnlike_33 h (fun x33 e33 h => ?_)
      refine r_icmp_eq (pc := 34) (tgt := 41) dX4_areUnlike_34 (by decide) h (fun e34 h => ?_) (fun e34 h => ?_)
      · exact r_sub (env' := []) [] rfl (sX4_areUnlike_41 _ h)
      · refine r_iconst (pc := 37) (v := 1) dX4_areUnlike_37 (by decide) ?_
        refine r_goto (pc := 38) (tgt := 42) dX4_areUnlike_38 (by decide) ?_
        exact r_ireturn (pc := 42) dX4_areUnlike_42 rfl rfl h
theorem sX4_bitAt {a0 : Rf} {a1 : Int32} {a2 : Int32} {st : Mem} {fin : Int64 × Mem} (h : fX4_bitAt a0 a1 a2 st = some fin) : Con yX4_bitAt 10 [vr a0, vi a1, vi a2] st trJ fin := by
  refine Con.mk (cc := cX4_bitAt) (n := 3) (own := "HouseClapsModel") (nm := "bitAt") (ret := (some .long)) (env := [(0, vr a0), (1, vi a1), (2, vi a2)]) q2111 rfl rfl rfl (by decide) ⟨Nat.le_of_ble_eq_true rfl, by decide⟩ rfl ?_
  unfold fX4_bitAt at h
  refine r_aload_n (pc := 0) dX4_bitAt_0 0 rfl rfl ?_
  refine r_iload_n (pc := 1) dX4_bitAt_1 1 rfl rfl ?_
  refine r_iload_n (pc := 2) dX4_bitAt_2 2 rfl rfl ?_
  refine r_callI (pc := 3) (rest := []) (lkV dX4_bitAt_3 q2081 xd_X4_isSeatAt (vc_of vt_X4_isSeatAt q2083 (fun _ => sX4_isSeatAt)) adx_X4_isSeatAt) (by decide) (Nat.le_of_ble_eq_true rfl) rfl h (fun x3 st e3 h => ?_)
  refine r_if_eq (pc := 6) (tgt := 24) dX4_bitAt_6 (by decide) h (fun e6 h => ?_) (fun e6 h => ?_)
  · refine r_lconst (pc := 24) (v := 0) dX4_bitAt_24 (by decide) ?_
    exact r_lreturn (pc := 25) dX4_bitAt_25 rfl h
  · refine r_lconst (pc := 9) (v := 1) dX4_bitAt_9 (by decide) ?_
    refine r_aload_n (pc := 10) dX4_bitAt_10 0 rfl rfl ?_
    refine r_gA (pc := 11) dX4_bitAt_11 q1704 fd_61 same_rf h (fun x11 e11 h => ?_)
    refine r_iconst (pc := 14) (v := 1) dX4_bitAt_14 (by decide) ?_
    refine r_iaload (pc := 15) dX4_bitAt_15 h (fun x15 e15 h => ?_)
    refine r_iload_n (pc := 16) dX4_bitAt_16 1 rfl rfl ?_
    refine r_imul (pc := 17) dX4_bitAt_17 ?_
    refine r_iload_n (pc := 18) dX4_bitAt_18 2 rfl rfl ?_
    refine r_iadd (pc := 19) dX4_bitAt_19 ?_
    refine r_lshl (pc := 20) dX4_bitAt_20 ?_
    refine r_goto (pc := 21) (tgt := 25) dX4_bitAt_21 (by decide) ?_
    exact r_lreturn (pc := 25) dX4_bitAt_25 rfl h
theorem sX4_drawn_103 {st0 : Mem} {fin : Int32 × Mem} {kk31 : Rf → Int32 → Int64 → Int32 → Mem → Option (Int32 × Mem)} {kk55 : Rf → Int32 → Int64 → Int32 → Int32 → Int32 → Mem → Option (Int32 × Mem)} (hk31 : ∀ (v0 : Rf) (v1 : Int32) (v3 : Int64) (v5 : Int32) (st : Mem), kk31 v0 v1 v3 v5 st = some fin → G (cX4_drawn, "HouseClapsModel", "drawn", 10, (some .boolean), 8) st0 trI fin 31 [(0, vr v0), (1, vi v1), (3, vj v3), (5, vi v5)] [] st) (hk55 : ∀ (v0 : Rf) (v1 : Int32) (v3 : Int64) (v5 : Int32) (v6 : Int32) (v7 : Int32) (st : Mem), kk55 v0 v1 v3 v5 v6 v7 st = some fin → G (cX4_drawn, "HouseClapsModel", "drawn", 10, (some .boolean), 8) st0 trI fin 55 [(0, vr v0), (1, vi v1), (3, vj v3), (5, vi v5), (6, vi v6), (7, vi v7)] [] st) (v0 : Rf) (v1 : Int32) (v3 : Int64) (v5 : Int32) (v7 : Int32) (k0 : Int32) (k1 : Int32) (st : Mem) (h : bX4_drawn_103 kk31 kk55 v0 v1 v3 v5 v7 k0 k1 st = some fin) : G (cX4_drawn, "HouseClapsModel", "drawn", 10, (some .boolean), 8) st0 trI fin 103 [(0, vr v0), (1, vi v1), (3, vj v3), (5, vi v5), (7, vi v7)] [vi k1, vi k0] st := by
  unfold bX4_drawn_103 at h
  refine r_isub (pc := 103) dX4_drawn_103 ?_
  refine r_istore (pc := 104) (env' := [(6, vi (k0 - k1)), (0, vr v0), (1, vi v1), (3, vj v3), (5, vi v5), (7, vi v7)]) dX4_drawn_104 (by decide) rfl ?_
  refine r_iinc (pc := 106) (env' := [(7, vi (v7 + 1)), (6, vi (k0 - k1)), (0, vr v0), (1, vi v1), (3, vj v3), (5, vi v5)]) (cst := 1) dX4_drawn_106 5 rfl (by decide) (by decide) rfl ?_
  refine r_goto (pc := 109) (tgt := 55) dX4_drawn_109 (by decide) ?_
  exact r_sub (env' := [(0, vr v0), (1, vi v1), (3, vj v3), (5, vi v5), (6, vi (k0 - k1)), (7, vi (v7 + 1))]) [2, 3, 4, 5, 1, 0] rfl (hk55 _ _ _ _ _ _ _ h)
theorem sX4_drawn_102 {st0 : Mem} {fin : Int32 × Mem} {kk31 : Rf → Int32 → Int64 → Int32 → Mem → Option (Int32 × Mem)} {kk55 : Rf → Int32 → Int64 → Int32 → Int32 → Int32 → Mem → Option (Int32 × Mem)} (hk31 : ∀ (v0 : Rf) (v1 : Int32) (v3 : Int64) (v5 : Int32) (st : Mem), kk31 v0 v1 v3 v5 st = some fin → G (cX4_drawn, "HouseClapsModel", "drawn", 10, (some .boolean), 8) st0 trI fin 31 [(0, vr v0), (1, vi v1), (3, vj v3), (5, vi v5)] [] st) (hk55 : ∀ (v0 : Rf) (v1 : Int32) (v3 : Int64) (v5 : Int32) (v6 : Int32) (v7 : Int32) (st : Mem), kk55 v0 v1 v3 v5 v6 v7 st = some fin → G (cX4_drawn, "HouseClapsModel", "drawn", 10, (some .boolean), 8) st0 trI fin 55 [(0, vr v0), (1, vi v1), (3, vj v3), (5, vi v5), (6, vi v6), (7, vi v7)] [] st) (v0 : Rf) (v1 : Int32) (v3 : Int64) (v5 : Int32) (v7 : Int32) (k0 : Int32) (st : Mem) (h : bX4_drawn_102 kk31 kk55 v0 v1 v3 v5 v7 k0 st = some fin) : G (cX4_drawn, "HouseClapsModel", "drawn", 10, (some .boolean), 8) st0 trI fin 102 [(0, vr v0), (1, vi v1), (3, vj v3), (5, vi v5), (7, vi v7)] [vi k0] st := by
  unfold bX4_drawn_102 at h
  refine r_iconst (pc := 102) (v := 0) dX4_drawn_102 (by decide) ?_
  exact sX4_drawn_103 hk31 hk55 _ _ _ _ _ _ _ _ h
theorem sX4_drawn_78 {st0 : Mem} {fin : Int32 × Mem} {kk31 : Rf → Int32 → Int64 → Int32 → Mem → Option (Int32 × Mem)} {kk55 : Rf → Int32 → Int64 → Int32 → Int32 → Int32 → Mem → Option (Int32 × Mem)} (hk31 : ∀ (v0 : Rf) (v1 : Int32) (v3 : Int64) (v5 : Int32) (st : Mem), kk31 v0 v1 v3 v5 st = some fin → G (cX4_drawn, "HouseClapsModel", "drawn", 10, (some .boolean), 8) st0 trI fin 31 [(0, vr v0), (1, vi v1), (3, vj v3), (5, vi v5)] [] st) (hk55 : ∀ (v0 : Rf) (v1 : Int32) (v3 : Int64) (v5 : Int32) (v6 : Int32) (v7 : Int32) (st : Mem), kk55 v0 v1 v3 v5 v6 v7 st = some fin → G (cX4_drawn, "HouseClapsModel", "drawn", 10, (some .boolean), 8) st0 trI fin 55 [(0, vr v0), (1, vi v1), (3, vj v3), (5, vi v5), (6, vi v6), (7, vi v7)] [] st) (v0 : Rf) (v1 : Int32) (v3 : Int64) (v5 : Int32) (v6 : Int32) (v7 : Int32) (st : Mem) (h : bX4_drawn_78 kk31 kk55 v0 v1 v3 v5 v6 v7 st = some fin) : G (cX4_drawn, "HouseClapsModel", "drawn", 10, (some .boolean), 8) st0 trI fin 78 [(0, vr v0), (1, vi v1), (3, vj v3), (5, vi v5), (6, vi v6), (7, vi v7)] [] st := by
  unfold bX4_drawn_78 at h
  refine r_iload (pc := 78) dX4_drawn_78 4 rfl ?_
  refine r_aload_n (pc := 80) dX4_drawn_80 0 rfl rfl ?_
  refine r_iload (pc := 81) dX4_drawn_81 5 rfl ?_
  refine r_callI (pc := 83) (rest := [vi v6]) (lkV dX4_drawn_83 q2040 xd_X4_isSeat (vc_of vt_X4_isSeat q2042 (fun _ => sX4_isSeat)) adx_X4_isSeat) (by decide) (Nat.le_of_ble_eq_true rfl) rfl h (fun x83 st e83 h => ?_)
  refine r_if_eq (pc := 86) (tgt := 102) dX4_drawn_86 (by decide) h (fun e86 h => ?_) (fun e86 h => ?_)
  · exact r_sub (env' := [(0, vr v0), (1, vi v1), (3, vj v3), (5, vi v5), (7, vi v7)]) [0, 1, 2, 3, 5] rfl (sX4_drawn_102 hk31 hk55 _ _ _ _ _ _ _ h)
  · refine r_lload_n (pc := 89) dX4_drawn_89 2 rfl rfl ?_
    refine r_iload (pc := 90) dX4_drawn_90 5 rfl ?_
    refine r_callI (pc := 92) (rest := [vi v6]) (lkS dX4_drawn_92 q2052 q2053 q92 (fun _ => sX4_holds) ad_X4_holds) (by decide) (Nat.le_of_ble_eq_true rfl) rfl h (fun x92 st e92 h => ?_)
    refine r_if_ne (pc := 95) (tgt := 102) dX4_drawn_95 (by decide) h (fun e95 h => ?_) (fun e95 h => ?_)
    · exact r_sub (env' := [(0, vr v0), (1, vi v1), (3, vj v3), (5, vi v5), (7, vi v7)]) [0, 1, 2, 3, 5] rfl (sX4_drawn_102 hk31 hk55 _ _ _ _ _ _ _ h)
    · refine r_iconst (pc := 98) (v := 1) dX4_drawn_98 (by decide) ?_
      refine r_goto (pc := 99) (tgt := 103) dX4_drawn_99 (by decide) ?_
      exact r_sub (env' := [(0, vr v0), (1, vi v1), (3, vj v3), (5, vi v5), (7, vi v7)]) [0, 1, 2, 3, 5] rfl (sX4_drawn_103 hk31 hk55 _ _ _ _ _ _ _ _ h)
theorem sX4_drawn_55B {st0 : Mem} {fin : Int32 × Mem} {kk31 : Rf → Int32 → Int64 → Int32 → Mem → Option (Int32 × Mem)} {kk55 : Rf → Int32 → Int64 → Int32 → Int32 → Int32 → Mem → Option (Int32 × Mem)} (hk31 : ∀ (v0 : Rf) (v1 : Int32) (v3 : Int64) (v5 : Int32) (st : Mem), kk31 v0 v1 v3 v5 st = some fin → G (cX4_drawn, "HouseClapsModel", "drawn", 10, (some .boolean), 8) st0 trI fin 31 [(0, vr v0), (1, vi v1), (3, vj v3), (5, vi v5)] [] st) (hk55 : ∀ (v0 : Rf) (v1 : Int32) (v3 : Int64) (v5 : Int32) (v6 : Int32) (v7 : Int32) (st : Mem), kk55 v0 v1 v3 v5 v6 v7 st = some fin → G (cX4_drawn, "HouseClapsModel", "drawn", 10, (some .boolean), 8) st0 trI fin 55 [(0, vr v0), (1, vi v1), (3, vj v3), (5, vi v5), (6, vi v6), (7, vi v7)] [] st) (v0 : Rf) (v1 : Int32) (v3 : Int64) (v5 : Int32) (v6 : Int32) (v7 : Int32) (st : Mem) (h : bX4_drawn_55B kk31 kk55 v0 v1 v3 v5 v6 v7 st = some fin) : G (cX4_drawn, "HouseClapsModel", "drawn", 10, (some .boolean), 8) st0 trI fin 55 [(0, vr v0), (1, vi v1), (3, vj v3), (5, vi v5), (6, vi v6), (7, vi v7)] [] st := by
  unfold bX4_drawn_55B at h
  refine r_aload_n (pc := 55) dX4_drawn_55 0 rfl rfl ?_
  refine r_iload (pc := 56) dX4_drawn_56 5 rfl ?_
  refine r_callI (pc := 58) (rest := []) (lkV dX4_drawn_58 q2040 xd_X4_isSeat (vc_of vt_X4_isSeat q2042 (fun _ => sX4_isSeat)) adx_X4_isSeat) (by decide) (Nat.le_of_ble_eq_true rfl) rfl h (fun x58 st e58 h => ?_)
  refine r_if_eq (pc := 61) (tgt := 78) dX4_drawn_61 (by decide) h (fun e61 h => ?_) (fun e61 h => ?_)
  · exact sX4_drawn_78 hk31 hk55 _ _ _ _ _ _ _ h
  · refine r_lload_n (pc := 64) dX4_drawn_64 2 rfl rfl ?_
    refine r_iload (pc := 65) dX4_drawn_65 5 rfl ?_
    refine r_callI (pc := 67) (rest := []) (lkS dX4_drawn_67 q2052 q2053 q92 (fun _ => sX4_holds) ad_X4_holds) (by decide) (Nat.le_of_ble_eq_true rfl) rfl h (fun x67 st e67 h => ?_)
    refine r_if_ne (pc := 70) (tgt := 78) dX4_drawn_70 (by decide) h (fun e70 h => ?_) (fun e70 h => ?_)
    · exact sX4_drawn_78 hk31 hk55 _ _ _ _ _ _ _ h
    · refine r_iload (pc := 73) dX4_drawn_73 4 rfl ?_
      refine r_if_le (pc := 75) (tgt := 112) dX4_drawn_75 (by decide) h (fun e75 h => ?_) (fun e75 h => ?_)
      · refine r_lload_n (pc := 112) dX4_drawn_112 2 rfl rfl ?_
        refine r_lconst (pc := 113) (v := 1) dX4_drawn_113 (by decide) ?_
        refine r_iload (pc := 114) dX4_drawn_114 5 rfl ?_
        refine r_lshl (pc := 116) dX4_drawn_116 ?_
        refine r_lor (pc := 117) dX4_drawn_117 ?_
        refine r_nameJ h (fun y118 e118 h => ?_)
        refine r_lstore_n (pc := 118) (env' := [(3, vj y118), (0, vr v0), (1, vi v1), (5, vi v5), (6, vi v6), (7, vi v7)]) dX4_drawn_118 rfl (by decide) rfl ?_
        refine r_iinc (pc := 119) (env' := [(5, vi (v5 + 1)), (3, vj y118), (0, vr v0), (1, vi v1), (6, vi v6), (7, vi v7)]) (cst := 1) dX4_drawn_119 3 rfl (by decide) (by decide) rfl ?_
        refine r_goto (pc := 122) (tgt := 31) dX4_drawn_122 (by decide) ?_
        exact r_sub (env' := [(0, vr v0), (1, vi v1), (3, vj y118), (5, vi (v5 + 1))]) [2, 3, 1, 0] rfl (hk31 _ _ _ _ _ h)
      · exact sX4_drawn_78 hk31 hk55 _ _ _ _ _ _ _ h
theorem sX4_drawn_55 {st0 : Mem} {fin : Int32 × Mem} {kk31 : Rf → Int32 → Int64 → Int32 → Mem → Option (Int32 × Mem)} (hk31 : ∀ (v0 : Rf) (v1 : Int32) (v3 : Int64) (v5 : Int32) (st : Mem), kk31 v0 v1 v3 v5 st = some fin → G (cX4_drawn, "HouseClapsModel", "drawn", 10, (some .boolean), 8) st0 trI fin 31 [(0, vr v0), (1, vi v1), (3, vj v3), (5, vi v5)] [] st) (n : Nat) : ∀ (v0 : Rf) (v1 : Int32) (v3 : Int64) (v5 : Int32) (v6 : Int32) (v7 : Int32) (st : Mem), bX4_drawn_55 kk31 n v0 v1 v3 v5 v6 v7 st = some fin → G (cX4_drawn, "HouseClapsModel", "drawn", 10, (some .boolean), 8) st0 trI fin 55 [(0, vr v0), (1, vi v1), (3, vj v3), (5, vi v5), (6, vi v6), (7, vi v7)] [] st := by
  induction n with
  | zero => intro v0 v1 v3 v5 v6 v7 st h; cases h
  | succ n ih => intro v0 v1 v3 v5 v6 v7 st h; exact sX4_drawn_55B hk31  ih v0 v1 v3 v5 v6 v7 st h
theorem sX4_drawn_31B {st0 : Mem} {fin : Int32 × Mem} {kk31 : Rf → Int32 → Int64 → Int32 → Mem → Option (Int32 × Mem)} (hk31 : ∀ (v0 : Rf) (v1 : Int32) (v3 : Int64) (v5 : Int32) (st : Mem), kk31 v0 v1 v3 v5 st = some fin → G (cX4_drawn, "HouseClapsModel", "drawn", 10, (some .boolean), 8) st0 trI fin 31 [(0, vr v0), (1, vi v1), (3, vj v3), (5, vi v5)] [] st) (v0 : Rf) (v1 : Int32) (v3 : Int64) (v5 : Int32) (st : Mem) (h : bX4_drawn_31B kk31 v0 v1 v3 v5 st = some fin) : G (cX4_drawn, "HouseClapsModel", "drawn", 10, (some .boolean), 8) st0 trI fin 31 [(0, vr v0), (1, vi v1), (3, vj v3), (5, vi v5)] [] st := by
  unfold bX4_drawn_31B at h
  refine r_iload (pc := 31) dX4_drawn_31 3 rfl ?_
  refine r_iload_n (pc := 33) dX4_drawn_33 1 rfl rfl ?_
  refine r_icmp_ge (pc := 34) (tgt := 125) dX4_drawn_34 (by decide) h (fun e34 h => ?_) (fun e34 h => ?_)
  · refine r_aload_n (pc := 125) dX4_drawn_125 0 rfl rfl ?_
    refine r_lload_n (pc := 126) dX4_drawn_126 2 rfl rfl ?_
    refine r_pJ (pc := 127) dX4_drawn_127 q1714 fd_71 same_rf rfl h (fun st e127 h => ?_)
    refine r_iconst (pc := 130) (v := 1) dX4_drawn_130 (by decide) ?_
    exact r_ireturn (pc := 131) dX4_drawn_131 rfl rfl h
  · refine r_aload_n (pc := 37) dX4_drawn_37 0 rfl rfl ?_
    refine r_aload_n (pc := 38) dX4_drawn_38 0 rfl rfl ?_
    refine r_gA (pc := 39) dX4_drawn_39 q1704 fd_61 same_rf h (fun x39 e39 h => ?_)
    refine r_iconst (pc := 42) (v := 2) dX4_drawn_42 (by decide) ?_
    refine r_iaload (pc := 43) dX4_drawn_43 h (fun x43 e43 h => ?_)
    refine r_iload (pc := 44) dX4_drawn_44 3 rfl ?_
    refine r_isub (pc := 46) dX4_drawn_46 ?_
    refine r_callI (pc := 47) (rest := []) (lkV dX4_drawn_47 q2291 xd_X4_draw (vc_of vt_X4_draw q2293 (fun _ => sX4_draw)) adx_X4_draw) (by decide) (Nat.le_of_ble_eq_true rfl) rfl h (fun x47 st e47 h => ?_)
    refine r_istore (pc := 50) (env' := [(6, vi x47), (0, vr v0), (1, vi v1), (3, vj v3), (5, vi v5)]) dX4_drawn_50 (by decide) rfl ?_
    refine r_iconst (pc := 52) (v := 0) dX4_drawn_52 (by decide) ?_
    refine r_istore (pc := 53) (env' := [(7, vi (0 : Int32)), (6, vi x47), (0, vr v0), (1, vi v1), (3, vj v3), (5, vi v5)]) dX4_drawn_53 (by decide) rfl ?_
    exact r_sub (env' := [(0, vr v0), (1, vi v1), (3, vj v3), (5, vi v5), (6, vi x47), (7, vi (0 : Int32))]) [2, 3, 4, 5, 1, 0] rfl (sX4_drawn_55 hk31 hcFuel _ _ _ _ _ _ _ h)
theorem sX4_drawn_31 {st0 : Mem} {fin : Int32 × Mem} (n : Nat) : ∀ (v0 : Rf) (v1 : Int32) (v3 : Int64) (v5 : Int32) (st : Mem), bX4_drawn_31 n v0 v1 v3 v5 st = some fin → G (cX4_drawn, "HouseClapsModel", "drawn", 10, (some .boolean), 8) st0 trI fin 31 [(0, vr v0), (1, vi v1), (3, vj v3), (5, vi v5)] [] st := by
  induction n with
  | zero => intro v0 v1 v3 v5 st h; cases h
  | succ n ih => intro v0 v1 v3 v5 st h; exact sX4_drawn_31B  ih v0 v1 v3 v5 st h
theorem sX4_drawn {a0 : Rf} {a1 : Int32} {a2 : Int32} {st : Mem} {fin : Int32 × Mem} (h : fX4_drawn a0 a1 a2 st = some fin) : Con yX4_drawn 10 [vr a0, vi a1, vi a2] st trI fin := by
  refine Con.mk (cc := cX4_drawn) (n := 8) (own := "HouseClapsModel") (nm := "drawn") (ret := (some .boolean)) (env := [(0, vr a0), (1, vi a1), (2, vi a2)]) q2290 rfl rfl rfl (by decide) ⟨Nat.le_of_ble_eq_true rfl, by decide⟩ rfl ?_
  unfold fX4_drawn at h
  refine r_aload_n (pc := 0) dX4_drawn_0 0 rfl rfl ?_
  refine r_iconst (pc := 1) (v := 0) dX4_drawn_1 (by decide) ?_
  refine r_pI (pc := 2) dX4_drawn_2 q1698 fd_55 same_rf rfl h (fun st e2 h => ?_)
  refine r_iload_n (pc := 5) dX4_drawn_5 1 rfl rfl ?_
  refine r_iconst (pc := 6) (v := 1) dX4_drawn_6 (by decide) ?_
  refine r_aload_n (pc := 7) dX4_drawn_7 0 rfl rfl ?_
  refine r_gA (pc := 8) dX4_drawn_8 q1704 fd_61 same_rf h (fun x8 e8 h => ?_)
  refine r_iconst (pc := 11) (v := 2) dX4_drawn_11 (by decide) ?_
  refine r_iaload (pc := 12) dX4_drawn_12 h (fun x12 e12 h => ?_)
  refine r_callI (pc := 13) (rest := []) (lkS dX4_drawn_13 q1949 q1950 q92 (fun _ => sX4_isIn) ad_X4_isIn) (by decide) (Nat.le_of_ble_eq_true rfl) rfl h (fun x13 st e13 h => ?_)
  refine r_if_ne (pc := 16) (tgt := 21) dX4_drawn_16 (by decide) h (fun e16 h => ?_) (fun e16 h => ?_)
  · refine r_aload_n (pc := 21) dX4_drawn_21 0 rfl rfl ?_
    refine r_iload_n (pc := 22) dX4_drawn_22 2 rfl rfl ?_
    refine r_pI (pc := 23) dX4_drawn_23 q1762 fd_119 same_rf rfl h (fun st e23 h => ?_)
    refine r_lconst (pc := 26) (v := 0) dX4_drawn_26 (by decide) ?_
    refine r_lstore_n (pc := 27) (env' := [(3, vj (0 : Int64)), (0, vr a0), (1, vi a1), (2, vi a2)]) dX4_drawn_27 rfl (by decide) rfl ?_
    refine r_iconst (pc := 28) (v := 0) dX4_drawn_28 (by decide) ?_
    refine r_istore (pc := 29) (env' := [(5, vi (0 : Int32)), (3, vj (0 : Int64)), (0, vr a0), (1, vi a1), (2, vi a2)]) dX4_drawn_29 (by decide) rfl ?_
    exact r_sub (env' := [(0, vr a0), (1, vi a1), (3, vj (0 : Int64)), (5, vi (0 : Int32))]) [2, 3, 1, 0] rfl (sX4_drawn_31 hcFuel _ _ _ _ _ h)
  · refine r_iconst (pc := 19) (v := 0) dX4_drawn_19 (by decide) ?_
    exact r_ireturn (pc := 20) dX4_drawn_20 rfl rfl h
theorem sX4_exchange {a0 : Rf} {a1 : Int32} {a2 : Int32} {st : Mem} {fin : Int32 × Mem} (h : fX4_exchange a0 a1 a2 st = some fin) : Con yX4_exchange 10 [vr a0, vi a1, vi a2] st trI fin := by
  refine Con.mk (cc := cX4_exchange) (n := 3) (own := "HouseClapsModel") (nm := "exchange") (ret := (some .boolean)) (env := [(0, vr a0), (1, vi a1), (2, vi a2)]) q2266 rfl rfl rfl (by decide) ⟨Nat.le_of_ble_eq_true rfl, by decide⟩ rfl ?_
  unfold fX4_exchange at h
  refine r_aload_n (pc := 0) dX4_exchange_0 0 rfl rfl ?_
  refine r_iconst (pc := 1) (v := 0) dX4_exchange_1 (by decide) ?_
  refine r_pI (pc := 2) dX4_exchange_2 q1698 fd_55 same_rf rfl h (fun st e2 h => ?_)
  refine r_aload_n (pc := 5) dX4_exchange_5 0 rfl rfl ?_
  refine r_iload_n (pc := 6) dX4_exchange_6 1 rfl rfl ?_
  refine r_callI (pc := 7) (rest := []) (lkV dX4_exchange_7 q2040 xd_X4_isSeat (vc_of vt_X4_isSeat q2042 (fun _ => sX4_isSeat)) adx_X4_isSeat) (by decide) (Nat.le_of_ble_eq_true rfl) rfl h (fun x7 st e7 h => ?_)
  refine r_if_eq (pc := 10) (tgt := 26) dX4_exchange_10 (by decide) h (fun e10 h => ?_) (fun e10 h => ?_)
  · refine r_iconst (pc := 26) (v := 0) dX4_exchange_26 (by decide) ?_
    exact r_ireturn (pc := 27) dX4_exchange_27 rfl rfl h
  · refine r_aload_n (pc := 13) dX4_exchange_13 0 rfl rfl ?_
    refine r_iload_n (pc := 14) dX4_exchange_14 2 rfl rfl ?_
    refine r_callI (pc := 15) (rest := []) (lkV dX4_exchange_15 q2040 xd_X4_isSeat (vc_of vt_X4_isSeat q2042 (fun _ => sX4_isSeat)) adx_X4_isSeat) (by decide) (Nat.le_of_ble_eq_true rfl) rfl h (fun x15 st e15 h => ?_)
    refine r_if_eq (pc := 18) (tgt := 26) dX4_exchange_18 (by decide) h (fun e18 h => ?_) (fun e18 h => ?_)
    · refine r_iconst (pc := 26) (v := 0) dX4_exchange_26 (by decide) ?_
      exact r_ireturn (pc := 27) dX4_exchange_27 rfl rfl h
    · refine r_iload_n (pc := 21) dX4_exchange_21 1 rfl rfl ?_
      refine r_iload_n (pc := 22) dX4_exchange_22 2 rfl rfl ?_
      refine r_icmp_ne (pc := 23) (tgt := 28) dX4_exchange_23 (by decide) h (fun e23 h => ?_) (fun e23 h => ?_)
      · refine r_aload_n (pc := 28) dX4_exchange_28 0 rfl rfl ?_
        refine r_iload_n (pc := 29) dX4_exchange_29 1 rfl rfl ?_
        refine r_iload_n (pc := 30) dX4_exchange_30 2 rfl rfl ?_
        refine r_callV (pc := 31) (rest := []) (lkV dX4_exchange_31 q2259 xd_X4_change (vc_of vt_X4_change q2261 (fun _ => sX4_change)) adx_X4_change) (by decide) (Nat.le_of_ble_eq_true rfl) rfl h (fun u31 st e31 h => ?_)
        refine r_iconst (pc := 34) (v := 1) dX4_exchange_34 (by decide) ?_
        exact r_ireturn (pc := 35) dX4_exchange_35 rfl rfl h
      · refine r_iconst (pc := 26) (v := 0) dX4_exchange_26 (by decide) ?_
        exact r_ireturn (pc := 27) dX4_exchange_27 rfl rfl h
theorem sX4_hiss_53 {st0 : Mem} {fin : Int32 × Mem} (k0 : Rf) (k1 : Int64) (st : Mem) (h : bX4_hiss_53 k0 k1 st = some fin) : G (cX4_hiss, "HouseClapsModel", "hiss", 10, (some .boolean), 3) st0 trI fin 53 [] [vj k1, vr k0] st := by
  unfold bX4_hiss_53 at h
  refine r_pJ (pc := 53) dX4_hiss_53 q1715 fd_72 same_rf rfl h (fun st e53 h => ?_)
  refine r_iconst (pc := 56) (v := 1) dX4_hiss_56 (by decide) ?_
  exact r_ireturn (pc := 57) dX4_hiss_57 rfl rfl h
theorem sX4_hiss {a0 : Rf} {a1 : Int32} {a2 : Int32} {st : Mem} {fin : Int32 × Mem} (h : fX4_hiss a0 a1 a2 st = some fin) : Con yX4_hiss 10 [vr a0, vi a1, vi a2] st trI fin := by
  refine Con.mk (cc := cX4_hiss) (n := 3) (own := "HouseClapsModel") (nm := "hiss") (ret := (some .boolean)) (env := [(0, vr a0), (1, vi a1), (2, vi a2)]) q2067 rfl rfl rfl (by decide) ⟨Nat.le_of_ble_eq_true rfl, by decide⟩ rfl ?_
  unfold fX4_hiss at h
  refine r_aload_n (pc := 0) dX4_hiss_0 0 rfl rfl ?_
  refine r_iconst (pc := 1) (v := 0) dX4_hiss_1 (by decide) ?_
  refine r_pI (pc := 2) dX4_hiss_2 q1698 fd_55 same_rf rfl h (fun st e2 h => ?_)
  refine r_aload_n (pc := 5) dX4_hiss_5 0 rfl rfl ?_
  refine r_iload_n (pc := 6) dX4_hiss_6 1 rfl rfl ?_
  refine r_callI (pc := 7) (rest := []) (lkV dX4_hiss_7 q2040 xd_X4_isSeat (vc_of vt_X4_isSeat q2042 (fun _ => sX4_isSeat)) adx_X4_isSeat) (by decide) (Nat.le_of_ble_eq_true rfl) rfl h (fun x7 st e7 h => ?_)
  refine r_if_eq (pc := 10) (tgt := 22) dX4_hiss_10 (by decide) h (fun e10 h => ?_) (fun e10 h => ?_)
  · refine r_iconst (pc := 22) (v := 0) dX4_hiss_22 (by decide) ?_
    exact r_ireturn (pc := 23) dX4_hiss_23 rfl rfl h
  · refine r_iload_n (pc := 13) dX4_hiss_13 2 rfl rfl ?_
    refine r_iconst (pc := 14) (v := 0) dX4_hiss_14 (by decide) ?_
    refine r_iconst (pc := 15) (v := 1) dX4_hiss_15 (by decide) ?_
    refine r_callI (pc := 16) (rest := []) (lkS dX4_hiss_16 q1949 q1950 q92 (fun _ => sX4_isIn) ad_X4_isIn) (by decide) (Nat.le_of_ble_eq_true rfl) rfl h (fun x16 st e16 h => ?_)
    refine r_if_ne (pc := 19) (tgt := 24) dX4_hiss_19 (by decide) h (fun e19 h => ?_) (fun e19 h => ?_)
    · refine r_aload_n (pc := 24) dX4_hiss_24 0 rfl rfl ?_
      refine r_iload_n (pc := 25) dX4_hiss_25 2 rfl rfl ?_
      refine r_iconst (pc := 26) (v := 1) dX4_hiss_26 (by decide) ?_
      refine r_icmp_ne (pc := 27) (tgt := 41) dX4_hiss_27 (by decide) h (fun e27 h => ?_) (fun e27 h => ?_)
      · refine r_aload_n (pc := 41) dX4_hiss_41 0 rfl rfl ?_
        refine r_gJ (pc := 42) dX4_hiss_42 q1715 fd_72 same_rf h (fun x42 e42 h => ?_)
        refine r_lconst (pc := 45) (v := 1) dX4_hiss_45 (by decide) ?_
        refine r_iload_n (pc := 46) dX4_hiss_46 1 rfl rfl ?_
        refine r_lshl (pc := 47) dX4_hiss_47 ?_
        refine r_ldc2 (pc := 48) dX4_hiss_48 q2063 ?_
        refine r_lxor (pc := 51) dX4_hiss_51 ?_
        refine r_land (pc := 52) dX4_hiss_52 ?_
        exact r_sub (env' := []) [] rfl (sX4_hiss_53 _ _ _ h)
      · refine r_aload_n (pc := 30) dX4_hiss_30 0 rfl rfl ?_
        refine r_gJ (pc := 31) dX4_hiss_31 q1715 fd_72 same_rf h (fun x31 e31 h => ?_)
        refine r_lconst (pc := 34) (v := 1) dX4_hiss_34 (by decide) ?_
        refine r_iload_n (pc := 35) dX4_hiss_35 1 rfl rfl ?_
        refine r_lshl (pc := 36) dX4_hiss_36 ?_
        refine r_lor (pc := 37) dX4_hiss_37 ?_
        refine r_goto (pc := 38) (tgt := 53) dX4_hiss_38 (by decide) ?_
        exact r_sub (env' := []) [] rfl (sX4_hiss_53 _ _ _ h)
    · refine r_iconst (pc := 22) (v := 0) dX4_hiss_22 (by decide) ?_
      exact r_ireturn (pc := 23) dX4_hiss_23 rfl rfl h
theorem sX4_lawLevel_61 {st0 : Mem} {fin : Int32 × Mem} (v0 : Rf) (v1 : Int32) (v2 : Int64) (v4 : Int64) (v6 : Int32) (v7 : Int32) (v8 : Int32) (st : Mem) (h : bX4_lawLevel_61 v0 v1 v2 v4 v6 v7 v8 st = some fin) : G (cX4_lawLevel, "HouseClapsModel", "lawLevel", 10, (some .int), 9) st0 trI fin 61 [(0, vr v0), (1, vi v1), (2, vj v2), (4, vj v4), (6, vi v6), (7, vi v7), (8, vi v8)] [] st := by
  unfold bX4_lawLevel_61 at h
  refine r_aload_n (pc := 61) dX4_lawLevel_61 0 rfl rfl ?_
  refine r_gA (pc := 62) dX4_lawLevel_62 q1704 fd_61 same_rf h (fun x62 e62 h => ?_)
  refine r_iload (pc := 65) dX4_lawLevel_65 6 rfl ?_
  refine r_bipush (pc := 67) (v := 42) dX4_lawLevel_67 (by decide) ?_
  refine r_iadd (pc := 69) dX4_lawLevel_69 ?_
  refine r_iaload (pc := 70) dX4_lawLevel_70 h (fun x70 e70 h => ?_)
  refine r_if_le (pc := 71) (tgt := 108) dX4_lawLevel_71 (by decide) h (fun e71 h => ?_) (fun e71 h => ?_)
  · refine r_iload (pc := 108) dX4_lawLevel_108 4 rfl ?_
    exact r_ireturn (pc := 110) dX4_lawLevel_110 rfl rfl h
  · refine r_aload_n (pc := 74) dX4_lawLevel_74 0 rfl rfl ?_
    refine r_iload (pc := 75) dX4_lawLevel_75 6 rfl ?_
    refine r_bipush (pc := 77) (v := 42) dX4_lawLevel_77 (by decide) ?_
    refine r_iadd (pc := 79) dX4_lawLevel_79 ?_
    refine r_iload_n (pc := 80) dX4_lawLevel_80 1 rfl rfl ?_
    refine r_lload_n (pc := 81) dX4_lawLevel_81 2 rfl rfl ?_
    refine r_lload (pc := 82) dX4_lawLevel_82 3 rfl ?_
    refine r_iload (pc := 84) dX4_lawLevel_84 4 rfl ?_
    refine r_iload (pc := 86) dX4_lawLevel_86 5 rfl ?_
    refine r_callI (pc := 88) (rest := []) (lkV dX4_lawLevel_88 q2128 xd_X4_isLaw (vc_of vt_X4_isLaw q2130 (fun _ => sX4_isLaw)) adx_X4_isLaw) (by decide) (Nat.le_of_ble_eq_true rfl) rfl h (fun x88 st e88 h => ?_)
    refine r_if_eq (pc := 91) (tgt := 108) dX4_lawLevel_91 (by decide) h (fun e91 h => ?_) (fun e91 h => ?_)
    · refine r_iload (pc := 108) dX4_lawLevel_108 4 rfl ?_
      exact r_ireturn (pc := 110) dX4_lawLevel_110 rfl rfl h
    · refine r_iload (pc := 94) dX4_lawLevel_94 4 rfl ?_
      refine r_if_le (pc := 96) (tgt := 106) dX4_lawLevel_96 (by decide) h (fun e96 h => ?_) (fun e96 h => ?_)
      · refine r_iconst (pc := 106) (v := 0) dX4_lawLevel_106 (by decide) ?_
        exact r_ireturn (pc := 107) dX4_lawLevel_107 rfl rfl h
      · refine r_iload (pc := 99) dX4_lawLevel_99 4 rfl ?_
        refine r_iconst (pc := 101) (v := 1) dX4_lawLevel_101 (by decide) ?_
        refine r_isub (pc := 102) dX4_lawLevel_102 ?_
        refine r_goto (pc := 103) (tgt := 107) dX4_lawLevel_103 (by decide) ?_
        exact r_ireturn (pc := 107) dX4_lawLevel_107 rfl rfl h
theorem sX4_lawLevel {a0 : Rf} {a1 : Int32} {a2 : Int64} {a4 : Int64} {a6 : Int32} {a7 : Int32} {st : Mem} {fin : Int32 × Mem} (h : fX4_lawLevel a0 a1 a2 a4 a6 a7 st = some fin) : Con yX4_lawLevel 10 [vr a0, vi a1, vj a2, vj a4, vi a6, vi a7] st trI fin := by
  refine Con.mk (cc := cX4_lawLevel) (n := 9) (own := "HouseClapsModel") (nm := "lawLevel") (ret := (some .int)) (env := [(0, vr a0), (1, vi a1), (2, vj a2), (4, vj a4), (6, vi a6), (7, vi a7)]) q2127 rfl rfl rfl (by decide) ⟨Nat.le_of_ble_eq_true rfl, by decide⟩ rfl ?_
  unfold fX4_lawLevel at h
  refine r_bipush (pc := 0) (v := 86) dX4_lawLevel_0 (by decide) ?_
  refine r_bipush (pc := 2) (v := 84) dX4_lawLevel_2 (by decide) ?_
  refine r_aload_n (pc := 4) dX4_lawLevel_4 0 rfl rfl ?_
  refine r_gA (pc := 5) dX4_lawLevel_5 q1704 fd_61 same_rf h (fun x5 e5 h => ?_)
  refine r_bipush (pc := 8) (v := 6) dX4_lawLevel_8 (by decide) ?_
  refine r_iload_n (pc := 10) dX4_lawLevel_10 1 rfl rfl ?_
  refine r_iadd (pc := 11) dX4_lawLevel_11 ?_
  refine r_iaload (pc := 12) dX4_lawLevel_12 h (fun x12 e12 h => ?_)
  refine r_iconst (pc := 13) (v := 1) dX4_lawLevel_13 (by decide) ?_
  refine r_isub (pc := 14) dX4_lawLevel_14 ?_
  refine r_imul (pc := 15) dX4_lawLevel_15 ?_
  refine r_iadd (pc := 16) dX4_lawLevel_16 ?_
  refine r_nameI h (fun y17 e17 h => ?_)
  refine r_istore (pc := 17) (env' := [(8, vi y17), (0, vr a0), (1, vi a1), (2, vj a2), (4, vj a4), (6, vi a6), (7, vi a7)]) dX4_lawLevel_17 (by decide) rfl ?_
  refine r_aload_n (pc := 19) dX4_lawLevel_19 1 rfl rfl ?_
  refine r_gA (pc := 20) dX4_lawLevel_20 q1704 fd_61 same_rf h (fun x20 e20 h => ?_)
  refine r_iload (pc := 23) dX4_lawLevel_23 0 rfl ?_
  refine r_iaload (pc := 25) dX4_lawLevel_25 h (fun x25 e25 h => ?_)
  refine r_if_le (pc := 26) (tgt := 61) dX4_lawLevel_26 (by decide) h (fun e26 h => ?_) (fun e26 h => ?_)
  · exact r_sub (env' := [(0, vr a0), (1, vi a1), (2, vj a2), (4, vj a4), (6, vi a6), (7, vi a7), (8, vi y17)]) [1, 2, 3, 4, 5, 6, 0] rfl (sX4_lawLevel_61 _ _ _ _ _ _ _ _ h)
  · refine r_aload_n (pc := 29) dX4_lawLevel_29 1 rfl rfl ?_
    refine r_iload (pc := 30) dX4_lawLevel_30 0 rfl ?_
    refine r_iload_n (pc := 32) dX4_lawLevel_32 2 rfl rfl ?_
    refine r_lload_n (pc := 33) dX4_lawLevel_33 3 rfl rfl ?_
    refine r_lload (pc := 34) dX4_lawLevel_34 4 rfl ?_
    refine r_iload (pc := 36) dX4_lawLevel_36 5 rfl ?_
    refine r_iload (pc := 38) dX4_lawLevel_38 6 rfl ?_
    refine r_callI (pc := 40) (rest := []) (lkV dX4_lawLevel_40 q2128 xd_X4_isLaw (vc_of vt_X4_isLaw q2130 (fun _ => sX4_isLaw)) adx_X4_isLaw) (by decide) (Nat.le_of_ble_eq_true rfl) rfl h (fun x40 st e40 h => ?_)
    refine r_if_eq (pc := 43) (tgt := 61) dX4_lawLevel_43 (by decide) h (fun e43 h => ?_) (fun e43 h => ?_)
    · exact r_sub (env' := [(0, vr a0), (1, vi a1), (2, vj a2), (4, vj a4), (6, vi a6), (7, vi a7), (8, vi y17)]) [1, 2, 3, 4, 5, 6, 0] rfl (sX4_lawLevel_61 _ _ _ _ _ _ _ _ h)
    · refine r_iload (pc := 46) dX4_lawLevel_46 5 rfl ?_
      refine r_iconst (pc := 48) (v := 2) dX4_lawLevel_48 (by decide) ?_
      refine r_icmp_ge (pc := 49) (tgt := 59) dX4_lawLevel_49 (by decide) h (fun e49 h => ?_) (fun e49 h => ?_)
      · refine r_iconst (pc := 59) (v := 2) dX4_lawLevel_59 (by decide) ?_
        exact r_ireturn (pc := 60) dX4_lawLevel_60 rfl rfl h
      · refine r_iload (pc := 52) dX4_lawLevel_52 5 rfl ?_
        refine r_iconst (pc := 54) (v := 1) dX4_lawLevel_54 (by decide) ?_
        refine r_iadd (pc := 55) dX4_lawLevel_55 ?_
        refine r_goto (pc := 56) (tgt := 60) dX4_lawLevel_56 (by decide) ?_
        exact r_ireturn (pc := 60) dX4_lawLevel_60 rfl rfl h
theorem sX4_pay_53 {st0 : Mem} {fin : Int32 × Mem} (k0 : Rf) (k1 : Int64) (st : Mem) (h : bX4_pay_53 k0 k1 st = some fin) : G (cX4_pay, "HouseClapsModel", "pay", 10, (some .boolean), 3) st0 trI fin 53 [] [vj k1, vr k0] st := by
  unfold bX4_pay_53 at h
  refine r_pJ (pc := 53) dX4_pay_53 q1714 fd_71 same_rf rfl h (fun st e53 h => ?_)
  refine r_iconst (pc := 56) (v := 1) dX4_pay_56 (by decide) ?_
  exact r_ireturn (pc := 57) dX4_pay_57 rfl rfl h
theorem sX4_pay {a0 : Rf} {a1 : Int32} {a2 : Int32} {st : Mem} {fin : Int32 × Mem} (h : fX4_pay a0 a1 a2 st = some fin) : Con yX4_pay 10 [vr a0, vi a1, vi a2] st trI fin := by
  refine Con.mk (cc := cX4_pay) (n := 3) (own := "HouseClapsModel") (nm := "pay") (ret := (some .boolean)) (env := [(0, vr a0), (1, vi a1), (2, vi a2)]) q2062 rfl rfl rfl (by decide) ⟨Nat.le_of_ble_eq_true rfl, by decide⟩ rfl ?_
  unfold fX4_pay at h
  refine r_aload_n (pc := 0) dX4_pay_0 0 rfl rfl ?_
  refine r_iconst (pc := 1) (v := 0) dX4_pay_1 (by decide) ?_
  refine r_pI (pc := 2) dX4_pay_2 q1698 fd_55 same_rf rfl h (fun st e2 h => ?_)
  refine r_aload_n (pc := 5) dX4_pay_5 0 rfl rfl ?_
  refine r_iload_n (pc := 6) dX4_pay_6 1 rfl rfl ?_
  refine r_callI (pc := 7) (rest := []) (lkV dX4_pay_7 q2040 xd_X4_isSeat (vc_of vt_X4_isSeat q2042 (fun _ => sX4_isSeat)) adx_X4_isSeat) (by decide) (Nat.le_of_ble_eq_true rfl) rfl h (fun x7 st e7 h => ?_)
  refine r_if_eq (pc := 10) (tgt := 22) dX4_pay_10 (by decide) h (fun e10 h => ?_) (fun e10 h => ?_)
  · refine r_iconst (pc := 22) (v := 0) dX4_pay_22 (by decide) ?_
    exact r_ireturn (pc := 23) dX4_pay_23 rfl rfl h
  · refine r_iload_n (pc := 13) dX4_pay_13 2 rfl rfl ?_
    refine r_iconst (pc := 14) (v := 0) dX4_pay_14 (by decide) ?_
    refine r_iconst (pc := 15) (v := 1) dX4_pay_15 (by decide) ?_
    refine r_callI (pc := 16) (rest := []) (lkS dX4_pay_16 q1949 q1950 q92 (fun _ => sX4_isIn) ad_X4_isIn) (by decide) (Nat.le_of_ble_eq_true rfl) rfl h (fun x16 st e16 h => ?_)
    refine r_if_ne (pc := 19) (tgt := 24) dX4_pay_19 (by decide) h (fun e19 h => ?_) (fun e19 h => ?_)
    · refine r_aload_n (pc := 24) dX4_pay_24 0 rfl rfl ?_
      refine r_iload_n (pc := 25) dX4_pay_25 2 rfl rfl ?_
      refine r_iconst (pc := 26) (v := 1) dX4_pay_26 (by decide) ?_
      refine r_icmp_ne (pc := 27) (tgt := 41) dX4_pay_27 (by decide) h (fun e27 h => ?_) (fun e27 h => ?_)
      · refine r_aload_n (pc := 41) dX4_pay_41 0 rfl rfl ?_
        refine r_gJ (pc := 42) dX4_pay_42 q1714 fd_71 same_rf h (fun x42 e42 h => ?_)
        refine r_lconst (pc := 45) (v := 1) dX4_pay_45 (by decide) ?_
        refine r_iload_n (pc := 46) dX4_pay_46 1 rfl rfl ?_
        refine r_lshl (pc := 47) dX4_pay_47 ?_
        refine r_ldc2 (pc := 48) dX4_pay_48 q2063 ?_
        refine r_lxor (pc := 51) dX4_pay_51 ?_
        refine r_land (pc := 52) dX4_pay_52 ?_
        exact r_sub (env' := []) [] rfl (sX4_pay_53 _ _ _ h)
      · refine r_aload_n (pc := 30) dX4_pay_30 0 rfl rfl ?_
        refine r_gJ (pc := 31) dX4_pay_31 q1714 fd_71 same_rf h (fun x31 e31 h => ?_)
        refine r_lconst (pc := 34) (v := 1) dX4_pay_34 (by decide) ?_
        refine r_iload_n (pc := 35) dX4_pay_35 1 rfl rfl ?_
        refine r_lshl (pc := 36) dX4_pay_36 ?_
        refine r_lor (pc := 37) dX4_pay_37 ?_
        refine r_goto (pc := 38) (tgt := 53) dX4_pay_38 (by decide) ?_
        exact r_sub (env' := []) [] rfl (sX4_pay_53 _ _ _ h)
    · refine r_iconst (pc := 22) (v := 0) dX4_pay_22 (by decide) ?_
      exact r_ireturn (pc := 23) dX4_pay_23 rfl rfl h
theorem sX4_readRow_214 {st0 : Mem} {fin : Int32 × Mem} {kk143 : Rf → Int32 → Int32 → Mem → Option (Int32 × Mem)} (hk143 : ∀ (v0 : Rf) (v1 : Int32) (v3 : Int32) (st : Mem), kk143 v0 v1 v3 st = some fin → G (cX4_readRow, "HouseClapsModel", "readRow", 10, (some .boolean), 5) st0 trI fin 143 [(0, vr v0), (1, vi v1), (3, vi v3)] [] st) (v0 : Rf) (v1 : Int32) (v3 : Int32) (k0 : Rf) (k1 : Int32) (k2 : Int32) (k3 : Int32) (st : Mem) (h : bX4_readRow_214 kk143 v0 v1 v3 k0 k1 k2 k3 st = some fin) : G (cX4_readRow, "HouseClapsModel", "readRow", 10, (some .boolean), 5) st0 trI fin 214 [(0, vr v0), (1, vi v1), (3, vi v3)] [vi k3, vi k2, vi k1, vr k0] st := by
  unfold bX4_readRow_214 at h
  refine r_iadd (pc := 214) dX4_readRow_214 ?_
  refine r_iastore (pc := 215) dX4_readRow_215 h (fun st e215 h => ?_)
  refine r_iinc (pc := 216) (env' := [(3, vi (v3 + 1)), (0, vr v0), (1, vi v1)]) (cst := 1) dX4_readRow_216 2 rfl (by decide) (by decide) rfl ?_
  refine r_goto (pc := 219) (tgt := 143) dX4_readRow_219 (by decide) ?_
  exact r_sub (env' := [(0, vr v0), (1, vi v1), (3, vi (v3 + 1))]) [1, 2, 0] rfl (hk143 _ _ _ _ h)
theorem sX4_readRow_194 {st0 : Mem} {fin : Int32 × Mem} {kk143 : Rf → Int32 → Int32 → Mem → Option (Int32 × Mem)} (hk143 : ∀ (v0 : Rf) (v1 : Int32) (v3 : Int32) (st : Mem), kk143 v0 v1 v3 st = some fin → G (cX4_readRow, "HouseClapsModel", "readRow", 10, (some .boolean), 5) st0 trI fin 143 [(0, vr v0), (1, vi v1), (3, vi v3)] [] st) (v0 : Rf) (v1 : Int32) (v3 : Int32) (v4 : Int32) (k0 : Rf) (k1 : Int32) (k2 : Int32) (st : Mem) (h : bX4_readRow_194 kk143 v0 v1 v3 v4 k0 k1 k2 st = some fin) : G (cX4_readRow, "HouseClapsModel", "readRow", 10, (some .boolean), 5) st0 trI fin 194 [(0, vr v0), (1, vi v1), (3, vi v3), (4, vi v4)] [vi k2, vi k1, vr k0] st := by
  unfold bX4_readRow_194 at h
  refine r_iastore (pc := 194) dX4_readRow_194 h (fun st e194 h => ?_)
  refine r_aload_n (pc := 195) dX4_readRow_195 0 rfl rfl ?_
  refine r_gA (pc := 196) dX4_readRow_196 q1705 fd_62 same_rf h (fun x196 e196 h => ?_)
  refine r_iconst (pc := 199) (v := 2) dX4_readRow_199 (by decide) ?_
  refine r_dup2_11 (pc := 200) dX4_readRow_200 rfl rfl ?_
  refine r_iaload (pc := 201) dX4_readRow_201 h (fun x201 e201 h => ?_)
  refine r_iload (pc := 202) dX4_readRow_202 3 rfl ?_
  refine r_bipush (pc := 204) (v := 120) dX4_readRow_204 (by decide) ?_
  refine r_icmp_ne (pc := 206) (tgt := 213) dX4_readRow_206 (by decide) h (fun e206 h => ?_) (fun e206 h => ?_)
  · refine r_iconst (pc := 213) (v := 1) dX4_readRow_213 (by decide) ?_
    exact r_sub (env' := [(0, vr v0), (1, vi v1), (3, vi v3)]) [0, 1, 2] rfl (sX4_readRow_214 hk143 _ _ _ _ _ _ _ _ h)
  · refine r_iconst (pc := 209) (v := 0) dX4_readRow_209 (by decide) ?_
    refine r_goto (pc := 210) (tgt := 214) dX4_readRow_210 (by decide) ?_
    exact r_sub (env' := [(0, vr v0), (1, vi v1), (3, vi v3)]) [0, 1, 2] rfl (sX4_readRow_214 hk143 _ _ _ _ _ _ _ _ h)
theorem sX4_readRow_143B {st0 : Mem} {fin : Int32 × Mem} {kk143 : Rf → Int32 → Int32 → Mem → Option (Int32 × Mem)} (hk143 : ∀ (v0 : Rf) (v1 : Int32) (v3 : Int32) (st : Mem), kk143 v0 v1 v3 st = some fin → G (cX4_readRow, "HouseClapsModel", "readRow", 10, (some .boolean), 5) st0 trI fin 143 [(0, vr v0), (1, vi v1), (3, vi v3)] [] st) (v0 : Rf) (v1 : Int32) (v3 : Int32) (st : Mem) (h : bX4_readRow_143B kk143 v0 v1 v3 st = some fin) : G (cX4_readRow, "HouseClapsModel", "readRow", 10, (some .boolean), 5) st0 trI fin 143 [(0, vr v0), (1, vi v1), (3, vi v3)] [] st := by
  unfold bX4_readRow_143B at h
  refine r_iload_n (pc := 143) dX4_readRow_143 2 rfl rfl ?_
  refine r_aload_n (pc := 144) dX4_readRow_144 0 rfl rfl ?_
  refine r_gI (pc := 145) dX4_readRow_145 q1709 fd_66 same_rf h (fun x145 e145 h => ?_)
  refine r_icmp_ge (pc := 148) (tgt := 222) dX4_readRow_148 (by decide) h (fun e148 h => ?_) (fun e148 h => ?_)
  · refine r_aload_n (pc := 222) dX4_readRow_222 0 rfl rfl ?_
    refine r_gA (pc := 223) dX4_readRow_223 q1705 fd_62 same_rf h (fun x223 e223 h => ?_)
    refine r_iconst (pc := 226) (v := 0) dX4_readRow_226 (by decide) ?_
    refine r_dup2_11 (pc := 227) dX4_readRow_227 rfl rfl ?_
    refine r_iaload (pc := 228) dX4_readRow_228 h (fun x228 e228 h => ?_)
    refine r_iconst (pc := 229) (v := 1) dX4_readRow_229 (by decide) ?_
    refine r_iadd (pc := 230) dX4_readRow_230 ?_
    refine r_iastore (pc := 231) dX4_readRow_231 h (fun st e231 h => ?_)
    refine r_aload_n (pc := 232) dX4_readRow_232 0 rfl rfl ?_
    refine r_callV (pc := 233) (rest := []) (lkV dX4_readRow_233 q1914 xd_X4_next (vc_of vt_X4_next q1916 (fun _ => sX4_next)) adx_X4_next) (by decide) (Nat.le_of_ble_eq_true rfl) rfl h (fun u233 st e233 h => ?_)
    refine r_iconst (pc := 236) (v := 1) dX4_readRow_236 (by decide) ?_
    exact r_ireturn (pc := 237) dX4_readRow_237 rfl rfl h
  · refine r_aload_n (pc := 151) dX4_readRow_151 0 rfl rfl ?_
    refine r_aload_n (pc := 152) dX4_readRow_152 0 rfl rfl ?_
    refine r_gI (pc := 153) dX4_readRow_153 q1708 fd_65 same_rf h (fun x153 e153 h => ?_)
    refine r_iload_n (pc := 156) dX4_readRow_156 2 rfl rfl ?_
    refine r_iadd (pc := 157) dX4_readRow_157 ?_
    refine r_callI (pc := 158) (rest := []) (lkV dX4_readRow_158 q1945 xd_X4_octet (vc_of vt_X4_octet q1947 (fun _ => sX4_octet)) adx_X4_octet) (by decide) (Nat.le_of_ble_eq_true rfl) rfl h (fun x158 st e158 h => ?_)
    refine r_istore (pc := 161) (env' := [(4, vi x158), (0, vr v0), (1, vi v1), (3, vi v3)]) dX4_readRow_161 (by decide) rfl ?_
    refine r_aload_n (pc := 163) dX4_readRow_163 1 rfl rfl ?_
    refine r_gA (pc := 164) dX4_readRow_164 q1705 fd_62 same_rf h (fun x164 e164 h => ?_)
    refine r_bipush (pc := 167) (v := 6) dX4_readRow_167 (by decide) ?_
    refine r_aload_n (pc := 169) dX4_readRow_169 1 rfl rfl ?_
    refine r_gI (pc := 170) dX4_readRow_170 q1709 fd_66 same_rf h (fun x170 e170 h => ?_)
    refine r_iload_n (pc := 173) dX4_readRow_173 2 rfl rfl ?_
    refine r_imul (pc := 174) dX4_readRow_174 ?_
    refine r_iadd (pc := 175) dX4_readRow_175 ?_
    refine r_iload_n (pc := 176) dX4_readRow_176 3 rfl rfl ?_
    refine r_iadd (pc := 177) dX4_readRow_177 ?_
    refine r_iload (pc := 178) dX4_readRow_178 0 rfl ?_
    refine r_bipush (pc := 180) (v := 120) dX4_readRow_180 (by decide) ?_
    refine r_icmp_ne (pc := 182) (tgt := 189) dX4_readRow_182 (by decide) h (fun e182 h => ?_) (fun e182 h => ?_)
    · refine r_iload (pc := 189) dX4_readRow_189 0 rfl ?_
      refine r_bipush (pc := 191) (v := 96) dX4_readRow_191 (by decide) ?_
      refine r_isub (pc := 193) dX4_readRow_193 ?_
      exact r_sub (env' := [(0, vr v0), (1, vi v1), (3, vi v3), (4, vi x158)]) [1, 2, 3, 0] rfl (sX4_readRow_194 hk143 _ _ _ _ _ _ _ _ h)
    · refine r_iconst (pc := 185) (v := 0) dX4_readRow_185 (by decide) ?_
      refine r_goto (pc := 186) (tgt := 194) dX4_readRow_186 (by decide) ?_
      exact r_sub (env' := [(0, vr v0), (1, vi v1), (3, vi v3), (4, vi x158)]) [1, 2, 3, 0] rfl (sX4_readRow_194 hk143 _ _ _ _ _ _ _ _ h)
theorem sX4_readRow_143 {st0 : Mem} {fin : Int32 × Mem} (n : Nat) : ∀ (v0 : Rf) (v1 : Int32) (v3 : Int32) (st : Mem), bX4_readRow_143 n v0 v1 v3 st = some fin → G (cX4_readRow, "HouseClapsModel", "readRow", 10, (some .boolean), 5) st0 trI fin 143 [(0, vr v0), (1, vi v1), (3, vi v3)] [] st := by
  induction n with
  | zero => intro v0 v1 v3 st h; cases h
  | succ n ih => intro v0 v1 v3 st h; exact sX4_readRow_143B  ih v0 v1 v3 st h
theorem sX4_readRow_114 {st0 : Mem} {fin : Int32 × Mem} {kk62 : Rf → Int32 → Int32 → Int32 → Mem → Option (Int32 × Mem)} (hk62 : ∀ (v0 : Rf) (v1 : Int32) (v2 : Int32) (v3 : Int32) (st : Mem), kk62 v0 v1 v2 v3 st = some fin → G (cX4_readRow, "HouseClapsModel", "readRow", 10, (some .boolean), 5) st0 trI fin 62 [(0, vr v0), (1, vi v1), (2, vi v2), (3, vi v3)] [] st) (v0 : Rf) (v1 : Int32) (v3 : Int32) (k0 : Int32) (st : Mem) (h : bX4_readRow_114 kk62 v0 v1 v3 k0 st = some fin) : G (cX4_readRow, "HouseClapsModel", "readRow", 10, (some .boolean), 5) st0 trI fin 114 [(0, vr v0), (1, vi v1), (3, vi v3)] [vi k0] st := by
  unfold bX4_readRow_114 at h
  refine r_istore_n (pc := 114) (env' := [(2, vi k0), (0, vr v0), (1, vi v1), (3, vi v3)]) dX4_readRow_114 rfl (by decide) rfl ?_
  refine r_iinc (pc := 115) (env' := [(3, vi (v3 + 1)), (2, vi k0), (0, vr v0), (1, vi v1)]) (cst := 1) dX4_readRow_115 3 rfl (by decide) (by decide) rfl ?_
  refine r_goto (pc := 118) (tgt := 62) dX4_readRow_118 (by decide) ?_
  exact r_sub (env' := [(0, vr v0), (1, vi v1), (2, vi k0), (3, vi (v3 + 1))]) [2, 3, 1, 0] rfl (hk62 _ _ _ _ _ h)
theorem sX4_readRow_113 {st0 : Mem} {fin : Int32 × Mem} {kk62 : Rf → Int32 → Int32 → Int32 → Mem → Option (Int32 × Mem)} (hk62 : ∀ (v0 : Rf) (v1 : Int32) (v2 : Int32) (v3 : Int32) (st : Mem), kk62 v0 v1 v2 v3 st = some fin → G (cX4_readRow, "HouseClapsModel", "readRow", 10, (some .boolean), 5) st0 trI fin 62 [(0, vr v0), (1, vi v1), (2, vi v2), (3, vi v3)] [] st) (v0 : Rf) (v1 : Int32) (v3 : Int32) (st : Mem) (h : bX4_readRow_113 kk62 v0 v1 v3 st = some fin) : G (cX4_readRow, "HouseClapsModel", "readRow", 10, (some .boolean), 5) st0 trI fin 113 [(0, vr v0), (1, vi v1), (3, vi v3)] [] st := by
  unfold bX4_readRow_113 at h
  refine r_iconst (pc := 113) (v := 0) dX4_readRow_113 (by decide) ?_
  exact sX4_readRow_114 hk62 _ _ _ _ _ h
theorem sX4_readRow_109 {st0 : Mem} {fin : Int32 × Mem} {kk62 : Rf → Int32 → Int32 → Int32 → Mem → Option (Int32 × Mem)} (hk62 : ∀ (v0 : Rf) (v1 : Int32) (v2 : Int32) (v3 : Int32) (st : Mem), kk62 v0 v1 v2 v3 st = some fin → G (cX4_readRow, "HouseClapsModel", "readRow", 10, (some .boolean), 5) st0 trI fin 62 [(0, vr v0), (1, vi v1), (2, vi v2), (3, vi v3)] [] st) (v0 : Rf) (v1 : Int32) (v3 : Int32) (st : Mem) (h : bX4_readRow_109 kk62 v0 v1 v3 st = some fin) : G (cX4_readRow, "HouseClapsModel", "readRow", 10, (some .boolean), 5) st0 trI fin 109 [(0, vr v0), (1, vi v1), (3, vi v3)] [] st := by
  unfold bX4_readRow_109 at h
  refine r_iconst (pc := 109) (v := 1) dX4_readRow_109 (by decide) ?_
  refine r_goto (pc := 110) (tgt := 114) dX4_readRow_110 (by decide) ?_
  exact sX4_readRow_114 hk62 _ _ _ _ _ h
theorem sX4_readRow_62B {st0 : Mem} {fin : Int32 × Mem} {kk62 : Rf → Int32 → Int32 → Int32 → Mem → Option (Int32 × Mem)} (hk62 : ∀ (v0 : Rf) (v1 : Int32) (v2 : Int32) (v3 : Int32) (st : Mem), kk62 v0 v1 v2 v3 st = some fin → G (cX4_readRow, "HouseClapsModel", "readRow", 10, (some .boolean), 5) st0 trI fin 62 [(0, vr v0), (1, vi v1), (2, vi v2), (3, vi v3)] [] st) (v0 : Rf) (v1 : Int32) (v2 : Int32) (v3 : Int32) (st : Mem) (h : bX4_readRow_62B kk62 v0 v1 v2 v3 st = some fin) : G (cX4_readRow, "HouseClapsModel", "readRow", 10, (some .boolean), 5) st0 trI fin 62 [(0, vr v0), (1, vi v1), (2, vi v2), (3, vi v3)] [] st := by
  unfold bX4_readRow_62B at h
  refine r_iload_n (pc := 62) dX4_readRow_62 3 rfl rfl ?_
  refine r_aload_n (pc := 63) dX4_readRow_63 0 rfl rfl ?_
  refine r_gI (pc := 64) dX4_readRow_64 q1709 fd_66 same_rf h (fun x64 e64 h => ?_)
  refine r_icmp_ge (pc := 67) (tgt := 121) dX4_readRow_67 (by decide) h (fun e67 h => ?_) (fun e67 h => ?_)
  · refine r_iload_n (pc := 121) dX4_readRow_121 2 rfl rfl ?_
    refine r_if_ne (pc := 122) (tgt := 131) dX4_readRow_122 (by decide) h (fun e122 h => ?_) (fun e122 h => ?_)
    · refine r_aload_n (pc := 131) dX4_readRow_131 0 rfl rfl ?_
      refine r_gA (pc := 132) dX4_readRow_132 q1705 fd_62 same_rf h (fun x132 e132 h => ?_)
      refine r_iconst (pc := 135) (v := 1) dX4_readRow_135 (by decide) ?_
      refine r_aload_n (pc := 136) dX4_readRow_136 0 rfl rfl ?_
      refine r_gI (pc := 137) dX4_readRow_137 q1709 fd_66 same_rf h (fun x137 e137 h => ?_)
      refine r_iastore (pc := 140) dX4_readRow_140 h (fun st e140 h => ?_)
      refine r_iconst (pc := 141) (v := 0) dX4_readRow_141 (by decide) ?_
      refine r_istore_n (pc := 142) (env' := [(3, vi (0 : Int32)), (0, vr v0), (1, vi v1), (2, vi v2)]) dX4_readRow_142 rfl (by decide) rfl ?_
      exact r_sub (env' := [(0, vr v0), (1, vi v1), (3, vi (0 : Int32))]) [1, 2, 0] rfl (sX4_readRow_143 hcFuel _ _ _ _ h)
    · refine r_aload_n (pc := 125) dX4_readRow_125 0 rfl rfl ?_
      refine r_iconst (pc := 126) (v := 2) dX4_readRow_126 (by decide) ?_
      refine r_callI (pc := 127) (rest := []) (lkV dX4_readRow_127 q1941 xd_X4_bad (vc_of vt_X4_bad q1943 (fun _ => sX4_bad)) adx_X4_bad) (by decide) (Nat.le_of_ble_eq_true rfl) rfl h (fun x127 st e127 h => ?_)
      exact r_ireturn (pc := 130) dX4_readRow_130 rfl rfl h
  · refine r_iload_n (pc := 70) dX4_readRow_70 2 rfl rfl ?_
    refine r_if_eq (pc := 71) (tgt := 113) dX4_readRow_71 (by decide) h (fun e71 h => ?_) (fun e71 h => ?_)
    · exact r_sub (env' := [(0, vr v0), (1, vi v1), (3, vi v3)]) [0, 1, 3] rfl (sX4_readRow_113 hk62 _ _ _ _ h)
    · refine r_aload_n (pc := 74) dX4_readRow_74 0 rfl rfl ?_
      refine r_aload_n (pc := 75) dX4_readRow_75 0 rfl rfl ?_
      refine r_gI (pc := 76) dX4_readRow_76 q1708 fd_65 same_rf h (fun x76 e76 h => ?_)
      refine r_iload_n (pc := 79) dX4_readRow_79 3 rfl rfl ?_
      refine r_iadd (pc := 80) dX4_readRow_80 ?_
      refine r_callI (pc := 81) (rest := []) (lkV dX4_readRow_81 q1945 xd_X4_octet (vc_of vt_X4_octet q1947 (fun _ => sX4_octet)) adx_X4_octet) (by decide) (Nat.le_of_ble_eq_true rfl) rfl h (fun x81 st e81 h => ?_)
      refine r_bipush (pc := 84) (v := 120) dX4_readRow_84 (by decide) ?_
      refine r_icmp_eq (pc := 86) (tgt := 109) dX4_readRow_86 (by decide) h (fun e86 h => ?_) (fun e86 h => ?_)
      · exact r_sub (env' := [(0, vr v0), (1, vi v1), (3, vi v3)]) [0, 1, 3] rfl (sX4_readRow_109 hk62 _ _ _ _ h)
      · refine r_aload_n (pc := 89) dX4_readRow_89 0 rfl rfl ?_
        refine r_aload_n (pc := 90) dX4_readRow_90 0 rfl rfl ?_
        refine r_gI (pc := 91) dX4_readRow_91 q1708 fd_65 same_rf h (fun x91 e91 h => ?_)
        refine r_iload_n (pc := 94) dX4_readRow_94 3 rfl rfl ?_
        refine r_iadd (pc := 95) dX4_readRow_95 ?_
        refine r_callI (pc := 96) (rest := []) (lkV dX4_readRow_96 q1945 xd_X4_octet (vc_of vt_X4_octet q1947 (fun _ => sX4_octet)) adx_X4_octet) (by decide) (Nat.le_of_ble_eq_true rfl) rfl h (fun x96 st e96 h => ?_)
        refine r_bipush (pc := 99) (v := 97) dX4_readRow_99 (by decide) ?_
        refine r_bipush (pc := 101) (v := 102) dX4_readRow_101 (by decide) ?_
        refine r_callI (pc := 103) (rest := []) (lkS dX4_readRow_103 q1949 q1950 q92 (fun _ => sX4_isIn) ad_X4_isIn) (by decide) (Nat.le_of_ble_eq_true rfl) rfl h (fun x103 st e103 h => ?_)
        refine r_if_eq (pc := 106) (tgt := 113) dX4_readRow_106 (by decide) h (fun e106 h => ?_) (fun e106 h => ?_)
        · exact r_sub (env' := [(0, vr v0), (1, vi v1), (3, vi v3)]) [0, 1, 3] rfl (sX4_readRow_113 hk62 _ _ _ _ h)
        · exact r_sub (env' := [(0, vr v0), (1, vi v1), (3, vi v3)]) [0, 1, 3] rfl (sX4_readRow_109 hk62 _ _ _ _ h)
theorem sX4_readRow_62 {st0 : Mem} {fin : Int32 × Mem} (n : Nat) : ∀ (v0 : Rf) (v1 : Int32) (v2 : Int32) (v3 : Int32) (st : Mem), bX4_readRow_62 n v0 v1 v2 v3 st = some fin → G (cX4_readRow, "HouseClapsModel", "readRow", 10, (some .boolean), 5) st0 trI fin 62 [(0, vr v0), (1, vi v1), (2, vi v2), (3, vi v3)] [] st := by
  induction n with
  | zero => intro v0 v1 v2 v3 st h; cases h
  | succ n ih => intro v0 v1 v2 v3 st h; exact sX4_readRow_62B  ih v0 v1 v2 v3 st h
theorem sX4_readRow_59 {st0 : Mem} {fin : Int32 × Mem} (v0 : Rf) (v1 : Int32) (k0 : Int32) (st : Mem) (h : bX4_readRow_59 v0 v1 k0 st = some fin) : G (cX4_readRow, "HouseClapsModel", "readRow", 10, (some .boolean), 5) st0 trI fin 59 [(0, vr v0), (1, vi v1)] [vi k0] st := by
  unfold bX4_readRow_59 at h
  refine r_istore_n (pc := 59) (env' := [(2, vi k0), (0, vr v0), (1, vi v1)]) dX4_readRow_59 rfl (by decide) rfl ?_
  refine r_iconst (pc := 60) (v := 0) dX4_readRow_60 (by decide) ?_
  refine r_istore_n (pc := 61) (env' := [(3, vi (0 : Int32)), (2, vi k0), (0, vr v0), (1, vi v1)]) dX4_readRow_61 rfl (by decide) rfl ?_
  exact r_sub (env' := [(0, vr v0), (1, vi v1), (2, vi k0), (3, vi (0 : Int32))]) [2, 3, 1, 0] rfl (sX4_readRow_62 hcFuel _ _ _ _ _ h)
theorem sX4_readRow_54 {st0 : Mem} {fin : Int32 × Mem} (v0 : Rf) (v1 : Int32) (st : Mem) (h : bX4_readRow_54 v0 v1 st = some fin) : G (cX4_readRow, "HouseClapsModel", "readRow", 10, (some .boolean), 5) st0 trI fin 54 [(0, vr v0), (1, vi v1)] [] st := by
  unfold bX4_readRow_54 at h
  refine r_iconst (pc := 54) (v := 1) dX4_readRow_54 (by decide) ?_
  refine r_goto (pc := 55) (tgt := 59) dX4_readRow_55 (by decide) ?_
  exact sX4_readRow_59 _ _ _ _ h
theorem sX4_readRow {a0 : Rf} {st : Mem} {fin : Int32 × Mem} (h : fX4_readRow a0 st = some fin) : Con yX4_readRow 10 [vr a0] st trI fin := by
  refine Con.mk (cc := cX4_readRow) (n := 5) (own := "HouseClapsModel") (nm := "readRow") (ret := (some .boolean)) (env := [(0, vr a0)]) q1940 rfl rfl rfl (by decide) ⟨Nat.le_of_ble_eq_true rfl, by decide⟩ rfl ?_
  unfold fX4_readRow at h
  refine r_aload_n (pc := 0) dX4_readRow_0 0 rfl rfl ?_
  refine r_gA (pc := 1) dX4_readRow_1 q1705 fd_62 same_rf h (fun x1 e1 h => ?_)
  refine r_iconst (pc := 4) (v := 0) dX4_readRow_4 (by decide) ?_
  refine r_iaload (pc := 5) dX4_readRow_5 h (fun x5 e5 h => ?_)
  refine r_istore_n (pc := 6) (env' := [(1, vi x5), (0, vr a0)]) dX4_readRow_6 rfl (by decide) rfl ?_
  refine r_iload_n (pc := 7) dX4_readRow_7 0 rfl rfl ?_
  refine r_bipush (pc := 8) (v := 8) dX4_readRow_8 (by decide) ?_
  refine r_icmp_ne (pc := 10) (tgt := 19) dX4_readRow_10 (by decide) h (fun e10 h => ?_) (fun e10 h => ?_)
  · refine r_aload_n (pc := 19) dX4_readRow_19 1 rfl rfl ?_
    refine r_callV (pc := 20) (rest := []) (lkV dX4_readRow_20 q1914 xd_X4_next (vc_of vt_X4_next q1916 (fun _ => sX4_next)) adx_X4_next) (by decide) (Nat.le_of_ble_eq_true rfl) rfl h (fun u20 st e20 h => ?_)
    refine r_aload_n (pc := 23) dX4_readRow_23 1 rfl rfl ?_
    refine r_gI (pc := 24) dX4_readRow_24 q1707 fd_64 same_rf h (fun x24 e24 h => ?_)
    refine r_iconst (pc := 27) (v := 1) dX4_readRow_27 (by decide) ?_
    refine r_icmp_eq (pc := 28) (tgt := 37) dX4_readRow_28 (by decide) h (fun e28 h => ?_) (fun e28 h => ?_)
    · refine r_iload_n (pc := 37) dX4_readRow_37 0 rfl rfl ?_
      refine r_if_eq (pc := 38) (tgt := 54) dX4_readRow_38 (by decide) h (fun e38 h => ?_) (fun e38 h => ?_)
      · exact r_sub (env' := [(0, vr a0), (1, vi x5)]) [1, 0] rfl (sX4_readRow_54 _ _ _ h)
      · refine r_aload_n (pc := 41) dX4_readRow_41 1 rfl rfl ?_
        refine r_gI (pc := 42) dX4_readRow_42 q1709 fd_66 same_rf h (fun x42 e42 h => ?_)
        refine r_aload_n (pc := 45) dX4_readRow_45 1 rfl rfl ?_
        refine r_gA (pc := 46) dX4_readRow_46 q1705 fd_62 same_rf h (fun x46 e46 h => ?_)
        refine r_iconst (pc := 49) (v := 1) dX4_readRow_49 (by decide) ?_
        refine r_iaload (pc := 50) dX4_readRow_50 h (fun x50 e50 h => ?_)
        refine r_icmp_ne (pc := 51) (tgt := 58) dX4_readRow_51 (by decide) h (fun e51 h => ?_) (fun e51 h => ?_)
        · refine r_iconst (pc := 58) (v := 0) dX4_readRow_58 (by decide) ?_
          exact r_sub (env' := [(0, vr a0), (1, vi x5)]) [1, 0] rfl (sX4_readRow_59 _ _ _ _ h)
        · exact r_sub (env' := [(0, vr a0), (1, vi x5)]) [1, 0] rfl (sX4_readRow_54 _ _ _ h)
    · refine r_aload_n (pc := 31) dX4_readRow_31 1 rfl rfl ?_
      refine r_iconst (pc := 32) (v := 1) dX4_readRow_32 (by decide) ?_
      refine r_callI (pc := 33) (rest := []) (lkV dX4_readRow_33 q1941 xd_X4_bad (vc_of vt_X4_bad q1943 (fun _ => sX4_bad)) adx_X4_bad) (by decide) (Nat.le_of_ble_eq_true rfl) rfl h (fun x33 st e33 h => ?_)
      exact r_ireturn (pc := 36) dX4_readRow_36 rfl rfl h
  · refine r_aload_n (pc := 13) dX4_readRow_13 1 rfl rfl ?_
    refine r_iconst (pc := 14) (v := 4) dX4_readRow_14 (by decide) ?_
    refine r_callI (pc := 15) (rest := []) (lkV dX4_readRow_15 q1941 xd_X4_bad (vc_of vt_X4_bad q1943 (fun _ => sX4_bad)) adx_X4_bad) (by decide) (Nat.le_of_ble_eq_true rfl) rfl h (fun x15 st e15 h => ?_)
    exact r_ireturn (pc := 18) dX4_readRow_18 rfl rfl h
theorem sX4_seat_23 {st0 : Mem} {fin : Int32 × Mem} (v0 : Rf) (v1 : Int32) (v2 : Int32) (k0 : Rf) (k1 : Int32) (st : Mem) (h : bX4_seat_23 v0 v1 v2 k0 k1 st = some fin) : G (cX4_seat, "HouseClapsModel", "seat", 10, (some .int), 3) st0 trI fin 23 [(0, vr v0), (1, vi v1), (2, vi v2)] [vi k1, vr k0] st := by
  unfold bX4_seat_23 at h
  refine r_callI (pc := 23) (rest := []) (lkV dX4_seat_23 q2044 xd_X4_throwsIf (vc_of vt_X4_throwsIf q2046 (fun _ => sX4_throwsIf)) adx_X4_throwsIf) (by decide) (Nat.le_of_ble_eq_true rfl) rfl h (fun x23 st e23 h => ?_)
  refine r_if_eq (pc := 26) (tgt := 31) dX4_seat_26 (by decide) h (fun e26 h => ?_) (fun e26 h => ?_)
  · refine r_iload_n (pc := 31) dX4_seat_31 2 rfl rfl ?_
    refine r_sw (v := 0) h (fun e32 h => ?_) (fun c32_0 h => ?_)
    · refine r_swIn (pc := 32) (tgt := 64) dX4_seat_32 e32 (by decide) (by decide) rfl (by decide) ?_
      refine r_aload_n (pc := 64) dX4_seat_64 0 rfl rfl ?_
      refine r_gA (pc := 65) dX4_seat_65 q1704 fd_61 same_rf h (fun x65 e65 h => ?_)
      refine r_bipush (pc := 68) (v := 6) dX4_seat_68 (by decide) ?_
      refine r_iload_n (pc := 70) dX4_seat_70 1 rfl rfl ?_
      refine r_iadd (pc := 71) dX4_seat_71 ?_
      refine r_iaload (pc := 72) dX4_seat_72 h (fun x72 e72 h => ?_)
      refine r_iconst (pc := 73) (v := 1) dX4_seat_73 (by decide) ?_
      refine r_isub (pc := 74) dX4_seat_74 ?_
      exact r_ireturn (pc := 75) dX4_seat_75 rfl rfl h
    refine r_sw (v := 1) h (fun e32 h => ?_) (fun c32_1 h => ?_)
    · refine r_swIn (pc := 32) (tgt := 76) dX4_seat_32 e32 (by decide) (by decide) rfl (by decide) ?_
      refine r_aload_n (pc := 76) dX4_seat_76 0 rfl rfl ?_
      refine r_iload_n (pc := 77) dX4_seat_77 1 rfl rfl ?_
      refine r_callI (pc := 78) (rest := []) (lkV dX4_seat_78 q2048 xd_X4_price (vc_of vt_X4_price q2050 (fun _ => sX4_price)) adx_X4_price) (by decide) (Nat.le_of_ble_eq_true rfl) rfl h (fun x78 st e78 h => ?_)
      exact r_ireturn (pc := 81) dX4_seat_81 rfl rfl h
    refine r_sw (v := 2) h (fun e32 h => ?_) (fun c32_2 h => ?_)
    · refine r_swIn (pc := 32) (tgt := 82) dX4_seat_32 e32 (by decide) (by decide) rfl (by decide) ?_
      refine r_aload_n (pc := 82) dX4_seat_82 0 rfl rfl ?_
      refine r_gA (pc := 83) dX4_seat_83 q1704 fd_61 same_rf h (fun x83 e83 h => ?_)
      refine r_bipush (pc := 86) (v := 78) dX4_seat_86 (by decide) ?_
      refine r_iload_n (pc := 88) dX4_seat_88 1 rfl rfl ?_
      refine r_aload_n (pc := 89) dX4_seat_89 0 rfl rfl ?_
      refine r_gA (pc := 90) dX4_seat_90 q1704 fd_61 same_rf h (fun x90 e90 h => ?_)
      refine r_iconst (pc := 93) (v := 1) dX4_seat_93 (by decide) ?_
      refine r_iaload (pc := 94) dX4_seat_94 h (fun x94 e94 h => ?_)
      refine r_idiv (pc := 95) dX4_seat_95 h (fun x95 e95 h => ?_)
      refine r_iadd (pc := 96) dX4_seat_96 ?_
      refine r_iaload (pc := 97) dX4_seat_97 h (fun x97 e97 h => ?_)
      refine r_iconst (pc := 98) (v := 1) dX4_seat_98 (by decide) ?_
      refine r_isub (pc := 99) dX4_seat_99 ?_
      exact r_ireturn (pc := 100) dX4_seat_100 rfl rfl h
    refine r_sw (v := 3) h (fun e32 h => ?_) (fun c32_3 h => ?_)
    · refine r_swIn (pc := 32) (tgt := 101) dX4_seat_32 e32 (by decide) (by decide) rfl (by decide) ?_
      refine r_aload_n (pc := 101) dX4_seat_101 0 rfl rfl ?_
      refine r_gJ (pc := 102) dX4_seat_102 q1714 fd_71 same_rf h (fun x102 e102 h => ?_)
      refine r_iload_n (pc := 105) dX4_seat_105 1 rfl rfl ?_
      refine r_callI (pc := 106) (rest := []) (lkS dX4_seat_106 q2052 q2053 q92 (fun _ => sX4_holds) ad_X4_holds) (by decide) (Nat.le_of_ble_eq_true rfl) rfl h (fun x106 st e106 h => ?_)
      refine r_if_eq (pc := 109) (tgt := 116) dX4_seat_109 (by decide) h (fun e109 h => ?_) (fun e109 h => ?_)
      · refine r_iconst (pc := 116) (v := 0) dX4_seat_116 (by decide) ?_
        exact r_ireturn (pc := 117) dX4_seat_117 rfl rfl h
      · refine r_iconst (pc := 112) (v := 1) dX4_seat_112 (by decide) ?_
        refine r_goto (pc := 113) (tgt := 117) dX4_seat_113 (by decide) ?_
        exact r_ireturn (pc := 117) dX4_seat_117 rfl rfl h
    refine r_swOut (pc := 32) (tgt := 118) dX4_seat_32 (sw_cons c32_0 (sw_cons c32_1 (sw_cons c32_2 (sw_cons c32_3 (sw_nil))))) (by decide) (by decide) ?_
    refine r_aload_n (pc := 118) dX4_seat_118 0 rfl rfl ?_
    refine r_gJ (pc := 119) dX4_seat_119 q1715 fd_72 same_rf h (fun x119 e119 h => ?_)
    refine r_iload_n (pc := 122) dX4_seat_122 1 rfl rfl ?_
    refine r_callI (pc := 123) (rest := []) (lkS dX4_seat_123 q2052 q2053 q92 (fun _ => sX4_holds) ad_X4_holds) (by decide) (Nat.le_of_ble_eq_true rfl) rfl h (fun x123 st e123 h => ?_)
    refine r_if_eq (pc := 126) (tgt := 133) dX4_seat_126 (by decide) h (fun e126 h => ?_) (fun e126 h => ?_)
    · refine r_iconst (pc := 133) (v := 0) dX4_seat_133 (by decide) ?_
      exact r_ireturn (pc := 134) dX4_seat_134 rfl rfl h
    · refine r_iconst (pc := 129) (v := 1) dX4_seat_129 (by decide) ?_
      refine r_goto (pc := 130) (tgt := 134) dX4_seat_130 (by decide) ?_
      exact r_ireturn (pc := 134) dX4_seat_134 rfl rfl h
  · refine r_iconst (pc := 29) (v := 0) dX4_seat_29 (by decide) ?_
    exact r_ireturn (pc := 30) dX4_seat_30 rfl rfl h
theorem sX4_seat_18 {st0 : Mem} {fin : Int32 × Mem} (v0 : Rf) (v1 : Int32) (v2 : Int32) (k0 : Rf) (st : Mem) (h : bX4_seat_18 v0 v1 v2 k0 st = some fin) : G (cX4_seat, "HouseClapsModel", "seat", 10, (some .int), 3) st0 trI fin 18 [(0, vr v0), (1, vi v1), (2, vi v2)] [vr k0] st := by
  unfold bX4_seat_18 at h
  refine r_iconst (pc := 18) (v := 1) dX4_seat_18 (by decide) ?_
  refine r_goto (pc := 19) (tgt := 23) dX4_seat_19 (by decide) ?_
  exact sX4_seat_23 _ _ _ _ _ _ h
theorem sX4_seat {a0 : Rf} {a1 : Int32} {a2 : Int32} {st : Mem} {fin : Int32 × Mem} (h : fX4_seat a0 a1 a2 st = some fin) : Con yX4_seat 10 [vr a0, vi a1, vi a2] st trI fin := by
  refine Con.mk (cc := cX4_seat) (n := 3) (own := "HouseClapsModel") (nm := "seat") (ret := (some .int)) (env := [(0, vr a0), (1, vi a1), (2, vi a2)]) q2039 rfl rfl rfl (by decide) ⟨Nat.le_of_ble_eq_true rfl, by decide⟩ rfl ?_
  unfold fX4_seat at h
  refine r_aload_n (pc := 0) dX4_seat_0 0 rfl rfl ?_
  refine r_aload_n (pc := 1) dX4_seat_1 0 rfl rfl ?_
  refine r_iload_n (pc := 2) dX4_seat_2 1 rfl rfl ?_
  refine r_callI (pc := 3) (rest := [vr a0]) (lkV dX4_seat_3 q2040 xd_X4_isSeat (vc_of vt_X4_isSeat q2042 (fun _ => sX4_isSeat)) adx_X4_isSeat) (by decide) (Nat.le_of_ble_eq_true rfl) rfl h (fun x3 st e3 h => ?_)
  refine r_if_eq (pc := 6) (tgt := 18) dX4_seat_6 (by decide) h (fun e6 h => ?_) (fun e6 h => ?_)
  · exact sX4_seat_18 _ _ _ _ _ h
  · refine r_iload_n (pc := 9) dX4_seat_9 2 rfl rfl ?_
    refine r_iconst (pc := 10) (v := 0) dX4_seat_10 (by decide) ?_
    refine r_iconst (pc := 11) (v := 4) dX4_seat_11 (by decide) ?_
    refine r_callI (pc := 12) (rest := [vr a0]) (lkS dX4_seat_12 q1949 q1950 q92 (fun _ => sX4_isIn) ad_X4_isIn) (by decide) (Nat.le_of_ble_eq_true rfl) rfl h (fun x12 st e12 h => ?_)
    refine r_if_ne (pc := 15) (tgt := 22) dX4_seat_15 (by decide) h (fun e15 h => ?_) (fun e15 h => ?_)
    · refine r_iconst (pc := 22) (v := 0) dX4_seat_22 (by decide) ?_
      exact sX4_seat_23 _ _ _ _ _ _ h
    · exact sX4_seat_18 _ _ _ _ _ h
theorem sX4_sign {a0 : Rf} {a1 : Int32} {st : Mem} {fin : Int32 × Mem} (h : fX4_sign a0 a1 st = some fin) : Con yX4_sign 10 [vr a0, vi a1] st trI fin := by
  refine Con.mk (cc := cX4_sign) (n := 2) (own := "HouseClapsModel") (nm := "sign") (ret := (some .boolean)) (env := [(0, vr a0), (1, vi a1)]) q2031 rfl rfl rfl (by decide) ⟨Nat.le_of_ble_eq_true rfl, by decide⟩ rfl ?_
  unfold fX4_sign at h
  refine r_aload_n (pc := 0) dX4_sign_0 0 rfl rfl ?_
  refine r_iload_n (pc := 1) dX4_sign_1 1 rfl rfl ?_
  refine r_callI (pc := 2) (rest := []) (lkV dX4_sign_2 q1978 xd_X4_isSign (vc_of vt_X4_isSign q1980 (fun _ => sX4_isSign)) adx_X4_isSign) (by decide) (Nat.le_of_ble_eq_true rfl) rfl h (fun x2 st e2 h => ?_)
  refine r_if_ne (pc := 5) (tgt := 14) dX4_sign_5 (by decide) h (fun e5 h => ?_) (fun e5 h => ?_)
  · refine r_aload_n (pc := 14) dX4_sign_14 0 rfl rfl ?_
    refine r_callV (pc := 15) (rest := []) (lkV dX4_sign_15 q1914 xd_X4_next (vc_of vt_X4_next q1916 (fun _ => sX4_next)) adx_X4_next) (by decide) (Nat.le_of_ble_eq_true rfl) rfl h (fun u15 st e15 h => ?_)
    refine r_iconst (pc := 18) (v := 1) dX4_sign_18 (by decide) ?_
    exact r_ireturn (pc := 19) dX4_sign_19 rfl rfl h
  · refine r_aload_n (pc := 8) dX4_sign_8 0 rfl rfl ?_
    refine r_iconst (pc := 9) (v := 1) dX4_sign_9 (by decide) ?_
    refine r_callI (pc := 10) (rest := []) (lkV dX4_sign_10 q1941 xd_X4_bad (vc_of vt_X4_bad q1943 (fun _ => sX4_bad)) adx_X4_bad) (by decide) (Nat.le_of_ble_eq_true rfl) rfl h (fun x10 st e10 h => ?_)
    exact r_ireturn (pc := 13) dX4_sign_13 rfl rfl h
theorem sX4_takes {a0 : Rf} {a1 : Int32} {a2 : Int32} {st : Mem} {fin : Int32 × Mem} (h : fX4_takes a0 a1 a2 st = some fin) : Con yX4_takes 10 [vr a0, vi a1, vi a2] st trI fin := by
  refine Con.mk (cc := cX4_takes) (n := 3) (own := "HouseClapsModel") (nm := "takes") (ret := (some .boolean)) (env := [(0, vr a0), (1, vi a1), (2, vi a2)]) q1993 rfl rfl rfl (by decide) ⟨Nat.le_of_ble_eq_true rfl, by decide⟩ rfl ?_
  unfold fX4_takes at h
  refine r_aload_n (pc := 0) dX4_takes_0 0 rfl rfl ?_
  refine r_gI (pc := 1) dX4_takes_1 q1707 fd_64 same_rf h (fun x1 e1 h => ?_)
  refine r_iconst (pc := 4) (v := 2) dX4_takes_4 (by decide) ?_
  refine r_icmp_eq (pc := 5) (tgt := 14) dX4_takes_5 (by decide) h (fun e5 h => ?_) (fun e5 h => ?_)
  · refine r_aload_n (pc := 14) dX4_takes_14 0 rfl rfl ?_
    refine r_gI (pc := 15) dX4_takes_15 q1710 fd_67 same_rf h (fun x15 e15 h => ?_)
    refine r_iload_n (pc := 18) dX4_takes_18 1 rfl rfl ?_
    refine r_iload_n (pc := 19) dX4_takes_19 2 rfl rfl ?_
    refine r_callI (pc := 20) (rest := []) (lkS dX4_takes_20 q1949 q1950 q92 (fun _ => sX4_isIn) ad_X4_isIn) (by decide) (Nat.le_of_ble_eq_true rfl) rfl h (fun x20 st e20 h => ?_)
    refine r_if_ne (pc := 23) (tgt := 32) dX4_takes_23 (by decide) h (fun e23 h => ?_) (fun e23 h => ?_)
    · refine r_aload_n (pc := 32) dX4_takes_32 0 rfl rfl ?_
      refine r_aload_n (pc := 33) dX4_takes_33 0 rfl rfl ?_
      refine r_gI (pc := 34) dX4_takes_34 q1710 fd_67 same_rf h (fun x34 e34 h => ?_)
      refine r_pI (pc := 37) dX4_takes_37 q1716 fd_73 same_rf rfl h (fun st e37 h => ?_)
      refine r_aload_n (pc := 40) dX4_takes_40 0 rfl rfl ?_
      refine r_callV (pc := 41) (rest := []) (lkV dX4_takes_41 q1914 xd_X4_next (vc_of vt_X4_next q1916 (fun _ => sX4_next)) adx_X4_next) (by decide) (Nat.le_of_ble_eq_true rfl) rfl h (fun u41 st e41 h => ?_)
      refine r_iconst (pc := 44) (v := 1) dX4_takes_44 (by decide) ?_
      exact r_ireturn (pc := 45) dX4_takes_45 rfl rfl h
    · refine r_aload_n (pc := 26) dX4_takes_26 0 rfl rfl ?_
      refine r_iconst (pc := 27) (v := 2) dX4_takes_27 (by decide) ?_
      refine r_callI (pc := 28) (rest := []) (lkV dX4_takes_28 q1941 xd_X4_bad (vc_of vt_X4_bad q1943 (fun _ => sX4_bad)) adx_X4_bad) (by decide) (Nat.le_of_ble_eq_true rfl) rfl h (fun x28 st e28 h => ?_)
      exact r_ireturn (pc := 31) dX4_takes_31 rfl rfl h
  · refine r_aload_n (pc := 8) dX4_takes_8 0 rfl rfl ?_
    refine r_iconst (pc := 9) (v := 1) dX4_takes_9 (by decide) ?_
    refine r_callI (pc := 10) (rest := []) (lkV dX4_takes_10 q1941 xd_X4_bad (vc_of vt_X4_bad q1943 (fun _ => sX4_bad)) adx_X4_bad) (by decide) (Nat.le_of_ble_eq_true rfl) rfl h (fun x10 st e10 h => ?_)
    exact r_ireturn (pc := 13) dX4_takes_13 rfl rfl h
theorem sX4_takesRow {a0 : Rf} {a1 : Int32} {st : Mem} {fin : Int32 × Mem} (h : fX4_takesRow a0 a1 st = some fin) : Con yX4_takesRow 10 [vr a0, vi a1] st trI fin := by
  refine Con.mk (cc := cX4_takesRow) (n := 2) (own := "HouseClapsModel") (nm := "takesRow") (ret := (some .boolean)) (env := [(0, vr a0), (1, vi a1)]) q2016 rfl rfl rfl (by decide) ⟨Nat.le_of_ble_eq_true rfl, by decide⟩ rfl ?_
  unfold fX4_takesRow at h
  refine r_aload_n (pc := 0) dX4_takesRow_0 0 rfl rfl ?_
  refine r_callV (pc := 1) (rest := []) (lkV dX4_takesRow_1 q1914 xd_X4_next (vc_of vt_X4_next q1916 (fun _ => sX4_next)) adx_X4_next) (by decide) (Nat.le_of_ble_eq_true rfl) rfl h (fun u1 st e1 h => ?_)
  refine r_aload_n (pc := 4) dX4_takesRow_4 0 rfl rfl ?_
  refine r_gI (pc := 5) dX4_takesRow_5 q1707 fd_64 same_rf h (fun x5 e5 h => ?_)
  refine r_iconst (pc := 8) (v := 2) dX4_takesRow_8 (by decide) ?_
  refine r_icmp_eq (pc := 9) (tgt := 18) dX4_takesRow_9 (by decide) h (fun e9 h => ?_) (fun e9 h => ?_)
  · refine r_aload_n (pc := 18) dX4_takesRow_18 0 rfl rfl ?_
    refine r_gI (pc := 19) dX4_takesRow_19 q1710 fd_67 same_rf h (fun x19 e19 h => ?_)
    refine r_aload_n (pc := 22) dX4_takesRow_22 0 rfl rfl ?_
    refine r_gA (pc := 23) dX4_takesRow_23 q1705 fd_62 same_rf h (fun x23 e23 h => ?_)
    refine r_iconst (pc := 26) (v := 0) dX4_takesRow_26 (by decide) ?_
    refine r_iaload (pc := 27) dX4_takesRow_27 h (fun x27 e27 h => ?_)
    refine r_icmp_lt (pc := 28) (tgt := 37) dX4_takesRow_28 (by decide) h (fun e28 h => ?_) (fun e28 h => ?_)
    · refine r_iload_n (pc := 37) dX4_takesRow_37 1 rfl rfl ?_
      refine r_aload_n (pc := 38) dX4_takesRow_38 0 rfl rfl ?_
      refine r_gI (pc := 39) dX4_takesRow_39 q1710 fd_67 same_rf h (fun x39 e39 h => ?_)
      refine r_callI (pc := 42) (rest := []) (lkS dX4_takesRow_42 q2017 q2018 q92 (fun _ => sX4_has) ad_X4_has) (by decide) (Nat.le_of_ble_eq_true rfl) rfl h (fun x42 st e42 h => ?_)
      refine r_if_eq (pc := 45) (tgt := 54) dX4_takesRow_45 (by decide) h (fun e45 h => ?_) (fun e45 h => ?_)
      · refine r_aload_n (pc := 54) dX4_takesRow_54 0 rfl rfl ?_
        refine r_aload_n (pc := 55) dX4_takesRow_55 0 rfl rfl ?_
        refine r_gI (pc := 56) dX4_takesRow_56 q1710 fd_67 same_rf h (fun x56 e56 h => ?_)
        refine r_pI (pc := 59) dX4_takesRow_59 q1716 fd_73 same_rf rfl h (fun st e59 h => ?_)
        refine r_aload_n (pc := 62) dX4_takesRow_62 0 rfl rfl ?_
        refine r_callV (pc := 63) (rest := []) (lkV dX4_takesRow_63 q1914 xd_X4_next (vc_of vt_X4_next q1916 (fun _ => sX4_next)) adx_X4_next) (by decide) (Nat.le_of_ble_eq_true rfl) rfl h (fun u63 st e63 h => ?_)
        refine r_iconst (pc := 66) (v := 1) dX4_takesRow_66 (by decide) ?_
        exact r_ireturn (pc := 67) dX4_takesRow_67 rfl rfl h
      · refine r_aload_n (pc := 48) dX4_takesRow_48 0 rfl rfl ?_
        refine r_iconst (pc := 49) (v := 3) dX4_takesRow_49 (by decide) ?_
        refine r_callI (pc := 50) (rest := []) (lkV dX4_takesRow_50 q1941 xd_X4_bad (vc_of vt_X4_bad q1943 (fun _ => sX4_bad)) adx_X4_bad) (by decide) (Nat.le_of_ble_eq_true rfl) rfl h (fun x50 st e50 h => ?_)
        exact r_ireturn (pc := 53) dX4_takesRow_53 rfl rfl h
    · refine r_aload_n (pc := 31) dX4_takesRow_31 0 rfl rfl ?_
      refine r_iconst (pc := 32) (v := 2) dX4_takesRow_32 (by decide) ?_
      refine r_callI (pc := 33) (rest := []) (lkV dX4_takesRow_33 q1941 xd_X4_bad (vc_of vt_X4_bad q1943 (fun _ => sX4_bad)) adx_X4_bad) (by decide) (Nat.le_of_ble_eq_true rfl) rfl h (fun x33 st e33 h => ?_)
      exact r_ireturn (pc := 36) dX4_takesRow_36 rfl rfl h
  · refine r_aload_n (pc := 12) dX4_takesRow_12 0 rfl rfl ?_
    refine r_iconst (pc := 13) (v := 1) dX4_takesRow_13 (by decide) ?_
    refine r_callI (pc := 14) (rest := []) (lkV dX4_takesRow_14 q1941 xd_X4_bad (vc_of vt_X4_bad q1943 (fun _ => sX4_bad)) adx_X4_bad) (by decide) (Nat.le_of_ble_eq_true rfl) rfl h (fun x14 st e14 h => ?_)
    exact r_ireturn (pc := 17) dX4_takesRow_17 rfl rfl h
theorem sX4_takesSeats_43B {st0 : Mem} {fin : Int32 × Mem} {kk17 : Rf → Int32 → Int32 → Mem → Option (Int32 × Mem)} {kk43 : Rf → Int32 → Int32 → Int32 → Int32 → Mem → Option (Int32 × Mem)} (hk17 : ∀ (v0 : Rf) (v2 : Int32) (v3 : Int32) (st : Mem), kk17 v0 v2 v3 st = some fin → G (cX4_takesSeats, "HouseClapsModel", "takesSeats", 10, (some .boolean), 6) st0 trI fin 17 [(0, vr v0), (2, vi v2), (3, vi v3)] [] st) (hk43 : ∀ (v0 : Rf) (v2 : Int32) (v3 : Int32) (v4 : Int32) (v5 : Int32) (st : Mem), kk43 v0 v2 v3 v4 v5 st = some fin → G (cX4_takesSeats, "HouseClapsModel", "takesSeats", 10, (some .boolean), 6) st0 trI fin 43 [(0, vr v0), (2, vi v2), (3, vi v3), (4, vi v4), (5, vi v5)] [] st) (v0 : Rf) (v2 : Int32) (v3 : Int32) (v4 : Int32) (v5 : Int32) (st : Mem) (h : bX4_takesSeats_43B kk17 kk43 v0 v2 v3 v4 v5 st = some fin) : G (cX4_takesSeats, "HouseClapsModel", "takesSeats", 10, (some .boolean), 6) st0 trI fin 43 [(0, vr v0), (2, vi v2), (3, vi v3), (4, vi v4), (5, vi v5)] [] st := by
  unfold bX4_takesSeats_43B at h
  refine r_iload (pc := 43) dX4_takesSeats_43 4 rfl ?_
  refine r_aload_n (pc := 45) dX4_takesSeats_45 0 rfl rfl ?_
  refine r_gI (pc := 46) dX4_takesSeats_46 q1745 fd_102 same_rf h (fun x46 e46 h => ?_)
  refine r_icmp_ge (pc := 49) (tgt := 72) dX4_takesSeats_49 (by decide) h (fun e49 h => ?_) (fun e49 h => ?_)
  · refine r_aload_n (pc := 72) dX4_takesSeats_72 0 rfl rfl ?_
    refine r_gA (pc := 73) dX4_takesSeats_73 q1744 fd_101 same_rf h (fun x73 e73 h => ?_)
    refine r_aload_n (pc := 76) dX4_takesSeats_76 0 rfl rfl ?_
    refine r_gI (pc := 77) dX4_takesSeats_77 q1745 fd_102 same_rf h (fun x77 e77 h => ?_)
    refine r_iload (pc := 80) dX4_takesSeats_80 3 rfl ?_
    refine r_iastore (pc := 82) dX4_takesSeats_82 h (fun st e82 h => ?_)
    refine r_aload_n (pc := 83) dX4_takesSeats_83 0 rfl rfl ?_
    refine r_dup (pc := 84) dX4_takesSeats_84 rfl ?_
    refine r_gI (pc := 85) dX4_takesSeats_85 q1745 fd_102 same_rf h (fun x85 e85 h => ?_)
    refine r_iconst (pc := 88) (v := 1) dX4_takesSeats_88 (by decide) ?_
    refine r_iadd (pc := 89) dX4_takesSeats_89 ?_
    refine r_pI (pc := 90) dX4_takesSeats_90 q1745 fd_102 same_rf rfl h (fun st e90 h => ?_)
    refine r_iinc (pc := 93) (env' := [(3, vi (v3 + 1)), (0, vr v0), (2, vi v2), (4, vi v4), (5, vi v5)]) (cst := 1) dX4_takesSeats_93 2 rfl (by decide) (by decide) rfl ?_
    refine r_goto (pc := 96) (tgt := 17) dX4_takesSeats_96 (by decide) ?_
    exact r_sub (env' := [(0, vr v0), (2, vi v2), (3, vi (v3 + 1))]) [1, 2, 0] rfl (hk17 _ _ _ _ h)
  · refine r_aload_n (pc := 52) dX4_takesSeats_52 0 rfl rfl ?_
    refine r_gA (pc := 53) dX4_takesSeats_53 q1744 fd_101 same_rf h (fun x53 e53 h => ?_)
    refine r_iload (pc := 56) dX4_takesSeats_56 4 rfl ?_
    refine r_iaload (pc := 58) dX4_takesSeats_58 h (fun x58 e58 h => ?_)
    refine r_iload (pc := 59) dX4_takesSeats_59 3 rfl ?_
    refine r_icmp_ne (pc := 61) (tgt := 66) dX4_takesSeats_61 (by decide) h (fun e61 h => ?_) (fun e61 h => ?_)
    · refine r_iinc (pc := 66) (env' := [(5, vi (v5 + 1)), (0, vr v0), (2, vi v2), (3, vi v3), (4, vi v4)]) (cst := 1) dX4_takesSeats_66 4 rfl (by decide) (by decide) rfl ?_
      refine r_goto (pc := 69) (tgt := 43) dX4_takesSeats_69 (by decide) ?_
      exact r_sub (env' := [(0, vr v0), (2, vi v2), (3, vi v3), (4, vi v4), (5, vi (v5 + 1))]) [1, 2, 3, 4, 0] rfl (hk43 _ _ _ _ _ _ h)
    · refine r_iconst (pc := 64) (v := 0) dX4_takesSeats_64 (by decide) ?_
      exact r_ireturn (pc := 65) dX4_takesSeats_65 rfl rfl h
theorem sX4_takesSeats_43 {st0 : Mem} {fin : Int32 × Mem} {kk17 : Rf → Int32 → Int32 → Mem → Option (Int32 × Mem)} (hk17 : ∀ (v0 : Rf) (v2 : Int32) (v3 : Int32) (st : Mem), kk17 v0 v2 v3 st = some fin → G (cX4_takesSeats, "HouseClapsModel", "takesSeats", 10, (some .boolean), 6) st0 trI fin 17 [(0, vr v0), (2, vi v2), (3, vi v3)] [] st) (n : Nat) : ∀ (v0 : Rf) (v2 : Int32) (v3 : Int32) (v4 : Int32) (v5 : Int32) (st : Mem), bX4_takesSeats_43 kk17 n v0 v2 v3 v4 v5 st = some fin → G (cX4_takesSeats, "HouseClapsModel", "takesSeats", 10, (some .boolean), 6) st0 trI fin 43 [(0, vr v0), (2, vi v2), (3, vi v3), (4, vi v4), (5, vi v5)] [] st := by
  induction n with
  | zero => intro v0 v2 v3 v4 v5 st h; cases h
  | succ n ih => intro v0 v2 v3 v4 v5 st h; exact sX4_takesSeats_43B hk17  ih v0 v2 v3 v4 v5 st h
theorem sX4_takesSeats_17B {st0 : Mem} {fin : Int32 × Mem} {kk17 : Rf → Int32 → Int32 → Mem → Option (Int32 × Mem)} (hk17 : ∀ (v0 : Rf) (v2 : Int32) (v3 : Int32) (st : Mem), kk17 v0 v2 v3 st = some fin → G (cX4_takesSeats, "HouseClapsModel", "takesSeats", 10, (some .boolean), 6) st0 trI fin 17 [(0, vr v0), (2, vi v2), (3, vi v3)] [] st) (v0 : Rf) (v2 : Int32) (v3 : Int32) (st : Mem) (h : bX4_takesSeats_17B kk17 v0 v2 v3 st = some fin) : G (cX4_takesSeats, "HouseClapsModel", "takesSeats", 10, (some .boolean), 6) st0 trI fin 17 [(0, vr v0), (2, vi v2), (3, vi v3)] [] st := by
  unfold bX4_takesSeats_17B at h
  refine r_iload_n (pc := 17) dX4_takesSeats_17 2 rfl rfl ?_
  refine r_iload_n (pc := 18) dX4_takesSeats_18 1 rfl rfl ?_
  refine r_icmp_ge (pc := 19) (tgt := 99) dX4_takesSeats_19 (by decide) h (fun e19 h => ?_) (fun e19 h => ?_)
  · refine r_iconst (pc := 99) (v := 1) dX4_takesSeats_99 (by decide) ?_
    exact r_ireturn (pc := 100) dX4_takesSeats_100 rfl rfl h
  · refine r_aload_n (pc := 22) dX4_takesSeats_22 0 rfl rfl ?_
    refine r_iload_n (pc := 23) dX4_takesSeats_23 2 rfl rfl ?_
    refine r_callI (pc := 24) (rest := []) (lkV dX4_takesSeats_24 q1945 xd_X4_octet (vc_of vt_X4_octet q1947 (fun _ => sX4_octet)) adx_X4_octet) (by decide) (Nat.le_of_ble_eq_true rfl) rfl h (fun x24 st e24 h => ?_)
    refine r_istore (pc := 27) (env' := [(4, vi x24), (0, vr v0), (2, vi v2), (3, vi v3)]) dX4_takesSeats_27 (by decide) rfl ?_
    refine r_aload_n (pc := 29) dX4_takesSeats_29 1 rfl rfl ?_
    refine r_iload (pc := 30) dX4_takesSeats_30 0 rfl ?_
    refine r_callI (pc := 32) (rest := []) (lkV dX4_takesSeats_32 q2040 xd_X4_isSeat (vc_of vt_X4_isSeat q2042 (fun _ => sX4_isSeat)) adx_X4_isSeat) (by decide) (Nat.le_of_ble_eq_true rfl) rfl h (fun x32 st e32 h => ?_)
    refine r_if_ne (pc := 35) (tgt := 40) dX4_takesSeats_35 (by decide) h (fun e35 h => ?_) (fun e35 h => ?_)
    · refine r_iconst (pc := 40) (v := 0) dX4_takesSeats_40 (by decide) ?_
      refine r_istore (pc := 41) (env' := [(5, vi (0 : Int32)), (4, vi x24), (0, vr v0), (2, vi v2), (3, vi v3)]) dX4_takesSeats_41 (by decide) rfl ?_
      exact r_sub (env' := [(0, vr v0), (2, vi v2), (3, vi v3), (4, vi x24), (5, vi (0 : Int32))]) [2, 3, 4, 1, 0] rfl (sX4_takesSeats_43 hk17 hcFuel _ _ _ _ _ _ h)
    · refine r_iconst (pc := 38) (v := 0) dX4_takesSeats_38 (by decide) ?_
      exact r_ireturn (pc := 39) dX4_takesSeats_39 rfl rfl h
theorem sX4_takesSeats_17 {st0 : Mem} {fin : Int32 × Mem} (n : Nat) : ∀ (v0 : Rf) (v2 : Int32) (v3 : Int32) (st : Mem), bX4_takesSeats_17 n v0 v2 v3 st = some fin → G (cX4_takesSeats, "HouseClapsModel", "takesSeats", 10, (some .boolean), 6) st0 trI fin 17 [(0, vr v0), (2, vi v2), (3, vi v3)] [] st := by
  induction n with
  | zero => intro v0 v2 v3 st h; cases h
  | succ n ih => intro v0 v2 v3 st h; exact sX4_takesSeats_17B  ih v0 v2 v3 st h
theorem sX4_takesSeats {a0 : Rf} {a1 : Int32} {a2 : Int32} {st : Mem} {fin : Int32 × Mem} (h : fX4_takesSeats a0 a1 a2 st = some fin) : Con yX4_takesSeats 10 [vr a0, vi a1, vi a2] st trI fin := by
  refine Con.mk (cc := cX4_takesSeats) (n := 6) (own := "HouseClapsModel") (nm := "takesSeats") (ret := (some .boolean)) (env := [(0, vr a0), (1, vi a1), (2, vi a2)]) q2198 rfl rfl rfl (by decide) ⟨Nat.le_of_ble_eq_true rfl, by decide⟩ rfl ?_
  unfold fX4_takesSeats at h
  refine r_aload_n (pc := 0) dX4_takesSeats_0 0 rfl rfl ?_
  refine r_iconst (pc := 1) (v := 0) dX4_takesSeats_1 (by decide) ?_
  refine r_pI (pc := 2) dX4_takesSeats_2 q1745 fd_102 same_rf rfl h (fun st e2 h => ?_)
  refine r_iload_n (pc := 5) dX4_takesSeats_5 2 rfl rfl ?_
  refine r_iload_n (pc := 6) dX4_takesSeats_6 1 rfl rfl ?_
  refine r_isub (pc := 7) dX4_takesSeats_7 ?_
  refine r_bipush (pc := 8) (v := 14) dX4_takesSeats_8 (by decide) ?_
  refine r_icmp_le (pc := 10) (tgt := 15) dX4_takesSeats_10 (by decide) h (fun e10 h => ?_) (fun e10 h => ?_)
  · refine r_iload_n (pc := 15) dX4_takesSeats_15 1 rfl rfl ?_
    refine r_istore_n (pc := 16) (env' := [(3, vi a1), (0, vr a0), (1, vi a1), (2, vi a2)]) dX4_takesSeats_16 rfl (by decide) rfl ?_
    exact r_sub (env' := [(0, vr a0), (2, vi a2), (3, vi a1)]) [1, 3, 0] rfl (sX4_takesSeats_17 hcFuel _ _ _ _ h)
  · refine r_iconst (pc := 13) (v := 0) dX4_takesSeats_13 (by decide) ?_
    exact r_ireturn (pc := 14) dX4_takesSeats_14 rfl rfl h
theorem sX4_areEight_36 {st0 : Mem} {fin : Int32 × Mem} (st : Mem) (h : bX4_areEight_36  st = some fin) : G (cX4_areEight, "HouseClapsModel", "areEight", 12, (some .boolean), 1) st0 trI fin 36 [] [] st := by
  unfold bX4_areEight_36 at h
  refine r_iconst (pc := 36) (v := 0) dX4_areEight_36 (by decide) ?_
  exact r_ireturn (pc := 37) dX4_areEight_37 rfl rfl h
theorem sX4_areEight {a0 : Rf} {st : Mem} {fin : Int32 × Mem} (h : fX4_areEight a0 st = some fin) : Con yX4_areEight 12 [vr a0] st trI fin := by
  refine Con.mk (cc := cX4_areEight) (n := 1) (own := "HouseClapsModel") (nm := "areEight") (ret := (some .boolean)) (env := [(0, vr a0)]) q2194 rfl rfl rfl (by decide) ⟨Nat.le_of_ble_eq_true rfl, by decide⟩ rfl ?_
  unfold fX4_areEight at h
  refine r_aload_n (pc := 0) dX4_areEight_0 0 rfl rfl ?_
  refine r_sipush (pc := 1) (v := 940) dX4_areEight_1 (by decide) ?_
  refine r_callV (pc := 4) (rest := []) (lkV dX4_areEight_4 q1910 xd_X4_taken (vc_of vt_X4_taken q1912 (fun _ => sX4_taken)) adx_X4_taken) (by decide) (Nat.le_of_ble_eq_true rfl) rfl h (fun u4 st e4 h => ?_)
  refine r_aload_n (pc := 7) dX4_areEight_7 0 rfl rfl ?_
  refine r_gI (pc := 8) dX4_areEight_8 q1701 fd_58 same_rf h (fun x8 e8 h => ?_)
  refine r_iconst (pc := 11) (v := 1) dX4_areEight_11 (by decide) ?_
  refine r_bipush (pc := 12) (v := 8) dX4_areEight_12 (by decide) ?_
  refine r_callI (pc := 14) (rest := []) (lkS dX4_areEight_14 q1949 q1950 q92 (fun _ => sX4_isIn) ad_X4_isIn) (by decide) (Nat.le_of_ble_eq_true rfl) rfl h (fun x14 st e14 h => ?_)
  refine r_if_eq (pc := 17) (tgt := 36) dX4_areEight_17 (by decide) h (fun e17 h => ?_) (fun e17 h => ?_)
  · exact r_sub (env' := []) [] rfl (sX4_areEight_36 _ h)
  · refine r_aload_n (pc := 20) dX4_areEight_20 0 rfl rfl ?_
    refine r_iconst (pc := 21) (v := 0) dX4_areEight_21 (by decide) ?_
    refine r_aload_n (pc := 22) dX4_areEight_22 0 rfl rfl ?_
    refine r_gI (pc := 23) dX4_areEight_23 q1701 fd_58 same_rf h (fun x23 e23 h => ?_)
    refine r_callI (pc := 26) (rest := []) (lkV dX4_areEight_26 q2195 xd_X4_takesSeats (vc_of vt_X4_takesSeats q2197 (fun _ => sX4_takesSeats)) adx_X4_takesSeats) (by decide) (Nat.le_of_ble_eq_true rfl) rfl h (fun x26 st e26 h => ?_)
    refine r_if_eq (pc := 29) (tgt := 36) dX4_areEight_29 (by decide) h (fun e29 h => ?_) (fun e29 h => ?_)
    · exact r_sub (env' := []) [] rfl (sX4_areEight_36 _ h)
    · refine r_iconst (pc := 32) (v := 1) dX4_areEight_32 (by decide) ?_
      refine r_goto (pc := 33) (tgt := 37) dX4_areEight_33 (by decide) ?_
      exact r_ireturn (pc := 37) dX4_areEight_37 rfl rfl h
theorem sX4_asks_120 {st0 : Mem} {fin : Int32 × Mem} (v0 : Rf) (v2 : Int32) (v3 : Int32) (k0 : Rf) (k1 : Int32) (k2 : Int32) (st : Mem) (h : bX4_asks_120 v0 v2 v3 k0 k1 k2 st = some fin) : G (cX4_asks, "HouseClapsModel", "asks", 12, (some .boolean), 5) st0 trI fin 120 [(0, vr v0), (2, vi v2), (3, vi v3)] [vi k2, vi k1, vr k0] st := by
  unfold bX4_asks_120 at h
  refine r_iconst (pc := 120) (v := 3) dX4_asks_120 (by decide) ?_
  refine r_ishl (pc := 121) dX4_asks_121 ?_
  refine r_ior (pc := 122) dX4_asks_122 ?_
  refine r_iload_n (pc := 123) dX4_asks_123 1 rfl rfl ?_
  refine r_bipush (pc := 124) (v := 6) dX4_asks_124 (by decide) ?_
  refine r_ishl (pc := 126) dX4_asks_126 ?_
  refine r_ior (pc := 127) dX4_asks_127 ?_
  refine r_iload_n (pc := 128) dX4_asks_128 2 rfl rfl ?_
  refine r_bipush (pc := 129) (v := 8) dX4_asks_129 (by decide) ?_
  refine r_ishl (pc := 131) dX4_asks_131 ?_
  refine r_ior (pc := 132) dX4_asks_132 ?_
  refine r_aload_n (pc := 133) dX4_asks_133 0 rfl rfl ?_
  refine r_gI (pc := 134) dX4_asks_134 q1710 fd_67 same_rf h (fun x134 e134 h => ?_)
  refine r_bipush (pc := 137) (v := 10) dX4_asks_137 (by decide) ?_
  refine r_ishl (pc := 139) dX4_asks_139 ?_
  refine r_ior (pc := 140) dX4_asks_140 ?_
  refine r_callV (pc := 141) (rest := []) (lkV dX4_asks_141 q1994 xd_X4_write (vc_of vt_X4_write q1996 (fun _ => sX4_write)) adx_X4_write) (by decide) (Nat.le_of_ble_eq_true rfl) rfl h (fun u141 st e141 h => ?_)
  refine r_aload_n (pc := 144) dX4_asks_144 0 rfl rfl ?_
  refine r_callV (pc := 145) (rest := []) (lkV dX4_asks_145 q1914 xd_X4_next (vc_of vt_X4_next q1916 (fun _ => sX4_next)) adx_X4_next) (by decide) (Nat.le_of_ble_eq_true rfl) rfl h (fun u145 st e145 h => ?_)
  refine r_aload_n (pc := 148) dX4_asks_148 0 rfl rfl ?_
  refine r_iconst (pc := 149) (v := 3) dX4_asks_149 (by decide) ?_
  refine r_callV (pc := 150) (rest := []) (lkV dX4_asks_150 q1998 xd_X4_writeDown (vc_of vt_X4_writeDown q2000 (fun _ => sX4_writeDown)) adx_X4_writeDown) (by decide) (Nat.le_of_ble_eq_true rfl) rfl h (fun u150 st e150 h => ?_)
  refine r_iconst (pc := 153) (v := 1) dX4_asks_153 (by decide) ?_
  exact r_ireturn (pc := 154) dX4_asks_154 rfl rfl h
theorem sX4_asks_104 {st0 : Mem} {fin : Int32 × Mem} (v0 : Rf) (v1 : Int32) (v2 : Int32) (v3 : Int32) (k0 : Int32) (st : Mem) (h : bX4_asks_104 v0 v1 v2 v3 k0 st = some fin) : G (cX4_asks, "HouseClapsModel", "asks", 12, (some .boolean), 5) st0 trI fin 104 [(0, vr v0), (1, vi v1), (2, vi v2), (3, vi v3)] [vi k0] st := by
  unfold bX4_asks_104 at h
  refine r_istore (pc := 104) (env' := [(4, vi k0), (0, vr v0), (1, vi v1), (2, vi v2), (3, vi v3)]) dX4_asks_104 (by decide) rfl ?_
  refine r_aload_n (pc := 106) dX4_asks_106 1 rfl rfl ?_
  refine r_iload (pc := 107) dX4_asks_107 0 rfl ?_
  refine r_iload_n (pc := 109) dX4_asks_109 2 rfl rfl ?_
  refine r_bipush (pc := 110) (v := 6) dX4_asks_110 (by decide) ?_
  refine r_icmp_ge (pc := 112) (tgt := 119) dX4_asks_112 (by decide) h (fun e112 h => ?_) (fun e112 h => ?_)
  · refine r_iconst (pc := 119) (v := 0) dX4_asks_119 (by decide) ?_
    exact r_sub (env' := [(0, vr v0), (2, vi v2), (3, vi v3)]) [1, 3, 4] rfl (sX4_asks_120 _ _ _ _ _ _ _ h)
  · refine r_iload_n (pc := 115) dX4_asks_115 2 rfl rfl ?_
    refine r_goto (pc := 116) (tgt := 120) dX4_asks_116 (by decide) ?_
    exact r_sub (env' := [(0, vr v0), (2, vi v2), (3, vi v3)]) [1, 3, 4] rfl (sX4_asks_120 _ _ _ _ _ _ _ h)
theorem sX4_asks_57 {st0 : Mem} {fin : Int32 × Mem} (v0 : Rf) (v1 : Int32) (v2 : Int32) (st : Mem) (h : bX4_asks_57 v0 v1 v2 st = some fin) : G (cX4_asks, "HouseClapsModel", "asks", 12, (some .boolean), 5) st0 trI fin 57 [(0, vr v0), (1, vi v1), (2, vi v2)] [] st := by
  unfold bX4_asks_57 at h
  refine r_aload_n (pc := 57) dX4_asks_57 0 rfl rfl ?_
  refine r_gI (pc := 58) dX4_asks_58 q1710 fd_67 same_rf h (fun x58 e58 h => ?_)
  refine r_bipush (pc := 61) (v := 60) dX4_asks_61 (by decide) ?_
  refine r_isub (pc := 63) dX4_asks_63 ?_
  refine r_istore_n (pc := 64) (env' := [(3, vi (x58 - (60 : Int32))), (0, vr v0), (1, vi v1), (2, vi v2)]) dX4_asks_64 rfl (by decide) rfl ?_
  refine r_aload_n (pc := 65) dX4_asks_65 1 rfl rfl ?_
  refine r_callV (pc := 66) (rest := []) (lkV dX4_asks_66 q1914 xd_X4_next (vc_of vt_X4_next q1916 (fun _ => sX4_next)) adx_X4_next) (by decide) (Nat.le_of_ble_eq_true rfl) rfl h (fun u66 st e66 h => ?_)
  refine r_aload_n (pc := 69) dX4_asks_69 1 rfl rfl ?_
  refine r_gI (pc := 70) dX4_asks_70 q1707 fd_64 same_rf h (fun x70 e70 h => ?_)
  refine r_iconst (pc := 73) (v := 2) dX4_asks_73 (by decide) ?_
  refine r_icmp_eq (pc := 74) (tgt := 83) dX4_asks_74 (by decide) h (fun e74 h => ?_) (fun e74 h => ?_)
  · refine r_iload_n (pc := 83) dX4_asks_83 2 rfl rfl ?_
    refine r_bipush (pc := 84) (v := 6) dX4_asks_84 (by decide) ?_
    refine r_icmp_ne (pc := 86) (tgt := 93) dX4_asks_86 (by decide) h (fun e86 h => ?_) (fun e86 h => ?_)
    · refine r_iload_n (pc := 93) dX4_asks_93 2 rfl rfl ?_
      refine r_bipush (pc := 94) (v := 7) dX4_asks_94 (by decide) ?_
      refine r_icmp_ne (pc := 96) (tgt := 103) dX4_asks_96 (by decide) h (fun e96 h => ?_) (fun e96 h => ?_)
      · refine r_iconst (pc := 103) (v := 0) dX4_asks_103 (by decide) ?_
        exact r_sub (env' := [(0, vr v0), (1, vi v1), (2, vi v2), (3, vi (x58 - (60 : Int32)))]) [1, 2, 3, 0] rfl (sX4_asks_104 _ _ _ _ _ _ h)
      · refine r_iconst (pc := 99) (v := 2) dX4_asks_99 (by decide) ?_
        refine r_goto (pc := 100) (tgt := 104) dX4_asks_100 (by decide) ?_
        exact r_sub (env' := [(0, vr v0), (1, vi v1), (2, vi v2), (3, vi (x58 - (60 : Int32)))]) [1, 2, 3, 0] rfl (sX4_asks_104 _ _ _ _ _ _ h)
    · refine r_iconst (pc := 89) (v := 1) dX4_asks_89 (by decide) ?_
      refine r_goto (pc := 90) (tgt := 104) dX4_asks_90 (by decide) ?_
      exact r_sub (env' := [(0, vr v0), (1, vi v1), (2, vi v2), (3, vi (x58 - (60 : Int32)))]) [1, 2, 3, 0] rfl (sX4_asks_104 _ _ _ _ _ _ h)
  · refine r_aload_n (pc := 77) dX4_asks_77 1 rfl rfl ?_
    refine r_iconst (pc := 78) (v := 1) dX4_asks_78 (by decide) ?_
    refine r_callI (pc := 79) (rest := []) (lkV dX4_asks_79 q1941 xd_X4_bad (vc_of vt_X4_bad q1943 (fun _ => sX4_bad)) adx_X4_bad) (by decide) (Nat.le_of_ble_eq_true rfl) rfl h (fun x79 st e79 h => ?_)
    exact r_ireturn (pc := 82) dX4_asks_82 rfl rfl h
theorem sX4_asks_24 {st0 : Mem} {fin : Int32 × Mem} (v0 : Rf) (v1 : Int32) (v2 : Int32) (st : Mem) (h : bX4_asks_24 v0 v1 v2 st = some fin) : G (cX4_asks, "HouseClapsModel", "asks", 12, (some .boolean), 5) st0 trI fin 24 [(0, vr v0), (1, vi v1), (2, vi v2)] [] st := by
  unfold bX4_asks_24 at h
  refine r_aload_n (pc := 24) dX4_asks_24 0 rfl rfl ?_
  refine r_bipush (pc := 25) (v := 60) dX4_asks_25 (by decide) ?_
  refine r_callI (pc := 27) (rest := []) (lkV dX4_asks_27 q1978 xd_X4_isSign (vc_of vt_X4_isSign q1980 (fun _ => sX4_isSign)) adx_X4_isSign) (by decide) (Nat.le_of_ble_eq_true rfl) rfl h (fun x27 st e27 h => ?_)
  refine r_if_ne (pc := 30) (tgt := 57) dX4_asks_30 (by decide) h (fun e30 h => ?_) (fun e30 h => ?_)
  · exact sX4_asks_57 _ _ _ _ h
  · refine r_aload_n (pc := 33) dX4_asks_33 0 rfl rfl ?_
    refine r_bipush (pc := 34) (v := 61) dX4_asks_34 (by decide) ?_
    refine r_callI (pc := 36) (rest := []) (lkV dX4_asks_36 q1978 xd_X4_isSign (vc_of vt_X4_isSign q1980 (fun _ => sX4_isSign)) adx_X4_isSign) (by decide) (Nat.le_of_ble_eq_true rfl) rfl h (fun x36 st e36 h => ?_)
    refine r_if_ne (pc := 39) (tgt := 57) dX4_asks_39 (by decide) h (fun e39 h => ?_) (fun e39 h => ?_)
    · exact sX4_asks_57 _ _ _ _ h
    · refine r_aload_n (pc := 42) dX4_asks_42 0 rfl rfl ?_
      refine r_bipush (pc := 43) (v := 62) dX4_asks_43 (by decide) ?_
      refine r_callI (pc := 45) (rest := []) (lkV dX4_asks_45 q1978 xd_X4_isSign (vc_of vt_X4_isSign q1980 (fun _ => sX4_isSign)) adx_X4_isSign) (by decide) (Nat.le_of_ble_eq_true rfl) rfl h (fun x45 st e45 h => ?_)
      refine r_if_ne (pc := 48) (tgt := 57) dX4_asks_48 (by decide) h (fun e48 h => ?_) (fun e48 h => ?_)
      · exact sX4_asks_57 _ _ _ _ h
      · refine r_aload_n (pc := 51) dX4_asks_51 0 rfl rfl ?_
        refine r_iconst (pc := 52) (v := 1) dX4_asks_52 (by decide) ?_
        refine r_callI (pc := 53) (rest := []) (lkV dX4_asks_53 q1941 xd_X4_bad (vc_of vt_X4_bad q1943 (fun _ => sX4_bad)) adx_X4_bad) (by decide) (Nat.le_of_ble_eq_true rfl) rfl h (fun x53 st e53 h => ?_)
        exact r_ireturn (pc := 56) dX4_asks_56 rfl rfl h
theorem sX4_asks {a0 : Rf} {a1 : Int32} {st : Mem} {fin : Int32 × Mem} (h : fX4_asks a0 a1 st = some fin) : Con yX4_asks 12 [vr a0, vi a1] st trI fin := by
  refine Con.mk (cc := cX4_asks) (n := 5) (own := "HouseClapsModel") (nm := "asks") (ret := (some .boolean)) (env := [(0, vr a0), (1, vi a1)]) q1989 rfl rfl rfl (by decide) ⟨Nat.le_of_ble_eq_true rfl, by decide⟩ rfl ?_
  unfold fX4_asks at h
  refine r_iconst (pc := 0) (v := 0) dX4_asks_0 (by decide) ?_
  refine r_istore_n (pc := 1) (env' := [(2, vi (0 : Int32)), (0, vr a0), (1, vi a1)]) dX4_asks_1 rfl (by decide) rfl ?_
  refine r_iload_n (pc := 2) dX4_asks_2 2 rfl rfl ?_
  refine r_bipush (pc := 3) (v := 6) dX4_asks_3 (by decide) ?_
  refine r_icmp_ge (pc := 5) (tgt := 24) dX4_asks_5 (by decide) h (fun e5 h => ?_) (fun e5 h => ?_)
  · exact r_sub (env' := [(0, vr a0), (1, vi a1), (2, vi (0 : Int32))]) [1, 2, 0] rfl (sX4_asks_24 _ _ _ _ h)
  · refine r_aload_n (pc := 8) dX4_asks_8 1 rfl rfl ?_
    refine r_iconst (pc := 9) (v := 1) dX4_asks_9 (by decide) ?_
    refine r_iconst (pc := 10) (v := 2) dX4_asks_10 (by decide) ?_
    refine r_callI (pc := 11) (rest := []) (lkV dX4_asks_11 q1990 xd_X4_takes (vc_of vt_X4_takes q1992 (fun _ => sX4_takes)) adx_X4_takes) (by decide) (Nat.le_of_ble_eq_true rfl) rfl h (fun x11 st e11 h => ?_)
    refine r_if_ne (pc := 14) (tgt := 19) dX4_asks_14 (by decide) h (fun e14 h => ?_) (fun e14 h => ?_)
    · refine r_aload_n (pc := 19) dX4_asks_19 1 rfl rfl ?_
      refine r_gI (pc := 20) dX4_asks_20 q1716 fd_73 same_rf h (fun x20 e20 h => ?_)
      refine r_istore_n (pc := 23) (env' := [(2, vi x20), (0, vr a0), (1, vi a1)]) dX4_asks_23 rfl (by decide) rfl ?_
      exact r_sub (env' := [(0, vr a0), (1, vi a1), (2, vi x20)]) [1, 2, 0] rfl (sX4_asks_24 _ _ _ _ h)
    · refine r_iconst (pc := 17) (v := 0) dX4_asks_17 (by decide) ?_
      exact r_ireturn (pc := 18) dX4_asks_18 rfl rfl h
theorem sX4_layOut_244 {st0 : Mem} {fin : Unit × Mem} {kk64 : Rf → Int64 → Int32 → Mem → Option (Unit × Mem)} (hk64 : ∀ (v0 : Rf) (v1 : Int64) (v3 : Int32) (st : Mem), kk64 v0 v1 v3 st = some fin → G (cX4_layOut, "HouseClapsModel", "layOut", 12, none, 13) st0 trV fin 64 [(0, vr v0), (1, vj v1), (3, vi v3)] [] st) (v0 : Rf) (v1 : Int64) (v3 : Int32) (v4 : Int32) (v5 : Int32) (v6 : Int64) (v8 : Int64) (st : Mem) (h : bX4_layOut_244 kk64 v0 v1 v3 v4 v5 v6 v8 st = some fin) : G (cX4_layOut, "HouseClapsModel", "layOut", 12, none, 13) st0 trV fin 244 [(0, vr v0), (1, vj v1), (3, vi v3), (4, vi v4), (5, vi v5), (6, vj v6), (8, vj v8)] [] st := by
  unfold bX4_layOut_244 at h
  refine r_aload_n (pc := 244) dX4_layOut_244 0 rfl rfl ?_
  refine r_gA (pc := 245) dX4_layOut_245 q1727 fd_84 same_rf h (fun x245 e245 h => ?_)
  refine r_bipush (pc := 248) (v := 6) dX4_layOut_248 (by decide) ?_
  refine r_iload_n (pc := 250) dX4_layOut_250 2 rfl rfl ?_
  refine r_imul (pc := 251) dX4_layOut_251 ?_
  refine r_lload (pc := 252) dX4_layOut_252 5 rfl ?_
  refine r_lastore (pc := 254) dX4_layOut_254 h (fun st e254 h => ?_)
  refine r_aload_n (pc := 255) dX4_layOut_255 0 rfl rfl ?_
  refine r_gA (pc := 256) dX4_layOut_256 q1727 fd_84 same_rf h (fun x256 e256 h => ?_)
  refine r_bipush (pc := 259) (v := 6) dX4_layOut_259 (by decide) ?_
  refine r_iload_n (pc := 261) dX4_layOut_261 2 rfl rfl ?_
  refine r_imul (pc := 262) dX4_layOut_262 ?_
  refine r_iconst (pc := 263) (v := 1) dX4_layOut_263 (by decide) ?_
  refine r_iadd (pc := 264) dX4_layOut_264 ?_
  refine r_aload_n (pc := 265) dX4_layOut_265 0 rfl rfl ?_
  refine r_iload (pc := 266) dX4_layOut_266 3 rfl ?_
  refine r_iconst (pc := 268) (v := 1) dX4_layOut_268 (by decide) ?_
  refine r_isub (pc := 269) dX4_layOut_269 ?_
  refine r_iload (pc := 270) dX4_layOut_270 4 rfl ?_
  refine r_callJ (pc := 272) (rest := [vi (((6 : Int32) * v3) + (1 : Int32)), vr x256]) (lkV dX4_layOut_272 q2108 xd_X4_bitAt (vc_of vt_X4_bitAt q2110 (fun _ => sX4_bitAt)) adx_X4_bitAt) (by decide) (Nat.le_of_ble_eq_true rfl) rfl h (fun x272 st e272 h => ?_)
  refine r_lastore (pc := 275) dX4_layOut_275 h (fun st e275 h => ?_)
  refine r_aload_n (pc := 276) dX4_layOut_276 0 rfl rfl ?_
  refine r_gA (pc := 277) dX4_layOut_277 q1727 fd_84 same_rf h (fun x277 e277 h => ?_)
  refine r_bipush (pc := 280) (v := 6) dX4_layOut_280 (by decide) ?_
  refine r_iload_n (pc := 282) dX4_layOut_282 2 rfl rfl ?_
  refine r_imul (pc := 283) dX4_layOut_283 ?_
  refine r_iconst (pc := 284) (v := 2) dX4_layOut_284 (by decide) ?_
  refine r_iadd (pc := 285) dX4_layOut_285 ?_
  refine r_aload_n (pc := 286) dX4_layOut_286 0 rfl rfl ?_
  refine r_iload (pc := 287) dX4_layOut_287 3 rfl ?_
  refine r_iload (pc := 289) dX4_layOut_289 4 rfl ?_
  refine r_iconst (pc := 291) (v := 1) dX4_layOut_291 (by decide) ?_
  refine r_isub (pc := 292) dX4_layOut_292 ?_
  refine r_callJ (pc := 293) (rest := [vi (((6 : Int32) * v3) + (2 : Int32)), vr x277]) (lkV dX4_layOut_293 q2108 xd_X4_bitAt (vc_of vt_X4_bitAt q2110 (fun _ => sX4_bitAt)) adx_X4_bitAt) (by decide) (Nat.le_of_ble_eq_true rfl) rfl h (fun x293 st e293 h => ?_)
  refine r_aload_n (pc := 296) dX4_layOut_296 0 rfl rfl ?_
  refine r_iload (pc := 297) dX4_layOut_297 3 rfl ?_
  refine r_iload (pc := 299) dX4_layOut_299 4 rfl ?_
  refine r_iconst (pc := 301) (v := 1) dX4_layOut_301 (by decide) ?_
  refine r_iadd (pc := 302) dX4_layOut_302 ?_
  refine r_callJ (pc := 303) (rest := [vj x293, vi (((6 : Int32) * v3) + (2 : Int32)), vr x277]) (lkV dX4_layOut_303 q2108 xd_X4_bitAt (vc_of vt_X4_bitAt q2110 (fun _ => sX4_bitAt)) adx_X4_bitAt) (by decide) (Nat.le_of_ble_eq_true rfl) rfl h (fun x303 st e303 h => ?_)
  refine r_lor (pc := 306) dX4_layOut_306 ?_
  refine r_lastore (pc := 307) dX4_layOut_307 h (fun st e307 h => ?_)
  refine r_aload_n (pc := 308) dX4_layOut_308 0 rfl rfl ?_
  refine r_gA (pc := 309) dX4_layOut_309 q1727 fd_84 same_rf h (fun x309 e309 h => ?_)
  refine r_bipush (pc := 312) (v := 6) dX4_layOut_312 (by decide) ?_
  refine r_iload_n (pc := 314) dX4_layOut_314 2 rfl rfl ?_
  refine r_imul (pc := 315) dX4_layOut_315 ?_
  refine r_iconst (pc := 316) (v := 3) dX4_layOut_316 (by decide) ?_
  refine r_iadd (pc := 317) dX4_layOut_317 ?_
  refine r_aload_n (pc := 318) dX4_layOut_318 0 rfl rfl ?_
  refine r_iload (pc := 319) dX4_layOut_319 3 rfl ?_
  refine r_iconst (pc := 321) (v := 1) dX4_layOut_321 (by decide) ?_
  refine r_iadd (pc := 322) dX4_layOut_322 ?_
  refine r_iload (pc := 323) dX4_layOut_323 4 rfl ?_
  refine r_callJ (pc := 325) (rest := [vi (((6 : Int32) * v3) + (3 : Int32)), vr x309]) (lkV dX4_layOut_325 q2108 xd_X4_bitAt (vc_of vt_X4_bitAt q2110 (fun _ => sX4_bitAt)) adx_X4_bitAt) (by decide) (Nat.le_of_ble_eq_true rfl) rfl h (fun x325 st e325 h => ?_)
  refine r_lastore (pc := 328) dX4_layOut_328 h (fun st e328 h => ?_)
  refine r_aload_n (pc := 329) dX4_layOut_329 0 rfl rfl ?_
  refine r_gA (pc := 330) dX4_layOut_330 q1727 fd_84 same_rf h (fun x330 e330 h => ?_)
  refine r_bipush (pc := 333) (v := 6) dX4_layOut_333 (by decide) ?_
  refine r_iload_n (pc := 335) dX4_layOut_335 2 rfl rfl ?_
  refine r_imul (pc := 336) dX4_layOut_336 ?_
  refine r_iconst (pc := 337) (v := 4) dX4_layOut_337 (by decide) ?_
  refine r_iadd (pc := 338) dX4_layOut_338 ?_
  refine r_lload (pc := 339) dX4_layOut_339 6 rfl ?_
  refine r_lastore (pc := 341) dX4_layOut_341 h (fun st e341 h => ?_)
  refine r_aload_n (pc := 342) dX4_layOut_342 0 rfl rfl ?_
  refine r_gA (pc := 343) dX4_layOut_343 q1727 fd_84 same_rf h (fun x343 e343 h => ?_)
  refine r_bipush (pc := 346) (v := 6) dX4_layOut_346 (by decide) ?_
  refine r_iload_n (pc := 348) dX4_layOut_348 2 rfl rfl ?_
  refine r_imul (pc := 349) dX4_layOut_349 ?_
  refine r_iconst (pc := 350) (v := 5) dX4_layOut_350 (by decide) ?_
  refine r_iadd (pc := 351) dX4_layOut_351 ?_
  refine r_lload_n (pc := 352) dX4_layOut_352 1 rfl rfl ?_
  refine r_lconst (pc := 353) (v := 1) dX4_layOut_353 (by decide) ?_
  refine r_iload_n (pc := 354) dX4_layOut_354 2 rfl rfl ?_
  refine r_lshl (pc := 355) dX4_layOut_355 ?_
  refine r_ldc2 (pc := 356) dX4_layOut_356 q2063 ?_
  refine r_lxor (pc := 359) dX4_layOut_359 ?_
  refine r_land (pc := 360) dX4_layOut_360 ?_
  refine r_lastore (pc := 361) dX4_layOut_361 h (fun st e361 h => ?_)
  refine r_iinc (pc := 362) (env' := [(3, vi (v3 + 1)), (0, vr v0), (1, vj v1), (4, vi v4), (5, vi v5), (6, vj v6), (8, vj v8)]) (cst := 1) dX4_layOut_362 2 rfl (by decide) (by decide) rfl ?_
  refine r_goto (pc := 365) (tgt := 64) dX4_layOut_365 (by decide) ?_
  exact r_sub (env' := [(0, vr v0), (1, vj v1), (3, vi (v3 + 1))]) [1, 2, 0] rfl (hk64 _ _ _ _ h)
theorem sX4_layOut_206B {st0 : Mem} {fin : Unit × Mem} {kk64 : Rf → Int64 → Int32 → Mem → Option (Unit × Mem)} {kk190 : Rf → Int64 → Int32 → Int32 → Int32 → Int64 → Int64 → Int32 → Int32 → Mem → Option (Unit × Mem)} {kk206 : Rf → Int64 → Int32 → Int32 → Int32 → Int64 → Int64 → Int32 → Int32 → Int32 → Mem → Option (Unit × Mem)} (hk64 : ∀ (v0 : Rf) (v1 : Int64) (v3 : Int32) (st : Mem), kk64 v0 v1 v3 st = some fin → G (cX4_layOut, "HouseClapsModel", "layOut", 12, none, 13) st0 trV fin 64 [(0, vr v0), (1, vj v1), (3, vi v3)] [] st) (hk190 : ∀ (v0 : Rf) (v1 : Int64) (v3 : Int32) (v4 : Int32) (v5 : Int32) (v6 : Int64) (v8 : Int64) (v10 : Int32) (v11 : Int32) (st : Mem), kk190 v0 v1 v3 v4 v5 v6 v8 v10 v11 st = some fin → G (cX4_layOut, "HouseClapsModel", "layOut", 12, none, 13) st0 trV fin 190 [(0, vr v0), (1, vj v1), (3, vi v3), (4, vi v4), (5, vi v5), (6, vj v6), (8, vj v8), (10, vi v10), (11, vi v11)] [] st) (hk206 : ∀ (v0 : Rf) (v1 : Int64) (v3 : Int32) (v4 : Int32) (v5 : Int32) (v6 : Int64) (v8 : Int64) (v10 : Int32) (v11 : Int32) (v12 : Int32) (st : Mem), kk206 v0 v1 v3 v4 v5 v6 v8 v10 v11 v12 st = some fin → G (cX4_layOut, "HouseClapsModel", "layOut", 12, none, 13) st0 trV fin 206 [(0, vr v0), (1, vj v1), (3, vi v3), (4, vi v4), (5, vi v5), (6, vj v6), (8, vj v8), (10, vi v10), (11, vi v11), (12, vi v12)] [] st) (v0 : Rf) (v1 : Int64) (v3 : Int32) (v4 : Int32) (v5 : Int32) (v6 : Int64) (v8 : Int64) (v10 : Int32) (v11 : Int32) (v12 : Int32) (st : Mem) (h : bX4_layOut_206B kk64 kk190 kk206 v0 v1 v3 v4 v5 v6 v8 v10 v11 v12 st = some fin) : G (cX4_layOut, "HouseClapsModel", "layOut", 12, none, 13) st0 trV fin 206 [(0, vr v0), (1, vj v1), (3, vi v3), (4, vi v4), (5, vi v5), (6, vj v6), (8, vj v8), (10, vi v10), (11, vi v11), (12, vi v12)] [] st := by
  unfold bX4_layOut_206B at h
  refine r_iload (pc := 206) dX4_layOut_206 9 rfl ?_
  refine r_iload (pc := 208) dX4_layOut_208 8 rfl ?_
  refine r_icmp_gt (pc := 210) (tgt := 238) dX4_layOut_210 (by decide) h (fun e210 h => ?_) (fun e210 h => ?_)
  · refine r_iinc (pc := 238) (env' := [(11, vi (v11 + 1)), (0, vr v0), (1, vj v1), (3, vi v3), (4, vi v4), (5, vi v5), (6, vj v6), (8, vj v8), (10, vi v10), (12, vi v12)]) (cst := 1) dX4_layOut_238 8 rfl (by decide) (by decide) rfl ?_
    refine r_goto (pc := 241) (tgt := 190) dX4_layOut_241 (by decide) ?_
    exact r_sub (env' := [(0, vr v0), (1, vj v1), (3, vi v3), (4, vi v4), (5, vi v5), (6, vj v6), (8, vj v8), (10, vi v10), (11, vi (v11 + 1))]) [1, 2, 3, 4, 5, 6, 7, 8, 0] rfl (hk190 _ _ _ _ _ _ _ _ _ _ h)
  · refine r_lload (pc := 213) dX4_layOut_213 6 rfl ?_
    refine r_aload_n (pc := 215) dX4_layOut_215 0 rfl rfl ?_
    refine r_iload (pc := 216) dX4_layOut_216 3 rfl ?_
    refine r_iload (pc := 218) dX4_layOut_218 8 rfl ?_
    refine r_isub (pc := 220) dX4_layOut_220 ?_
    refine r_iload (pc := 221) dX4_layOut_221 4 rfl ?_
    refine r_iload (pc := 223) dX4_layOut_223 9 rfl ?_
    refine r_iadd (pc := 225) dX4_layOut_225 ?_
    refine r_callJ (pc := 226) (rest := [vj v8]) (lkV dX4_layOut_226 q2108 xd_X4_bitAt (vc_of vt_X4_bitAt q2110 (fun _ => sX4_bitAt)) adx_X4_bitAt) (by decide) (Nat.le_of_ble_eq_true rfl) rfl h (fun x226 st e226 h => ?_)
    refine r_lor (pc := 229) dX4_layOut_229 ?_
    refine r_lstore (pc := 230) (env' := [(8, vj (v8 ||| x226)), (0, vr v0), (1, vj v1), (3, vi v3), (4, vi v4), (5, vi v5), (6, vj v6), (10, vi v10), (11, vi v11), (12, vi v12)]) dX4_layOut_230 (by decide) rfl ?_
    refine r_iinc (pc := 232) (env' := [(12, vi (v12 + 1)), (8, vj (v8 ||| x226)), (0, vr v0), (1, vj v1), (3, vi v3), (4, vi v4), (5, vi v5), (6, vj v6), (10, vi v10), (11, vi v11)]) (cst := 1) dX4_layOut_232 9 rfl (by decide) (by decide) rfl ?_
    refine r_goto (pc := 235) (tgt := 206) dX4_layOut_235 (by decide) ?_
    exact r_sub (env' := [(0, vr v0), (1, vj v1), (3, vi v3), (4, vi v4), (5, vi v5), (6, vj v6), (8, vj (v8 ||| x226)), (10, vi v10), (11, vi v11), (12, vi (v12 + 1))]) [2, 3, 4, 5, 6, 7, 1, 8, 9, 0] rfl (hk206 _ _ _ _ _ _ _ _ _ _ _ h)
theorem sX4_layOut_206 {st0 : Mem} {fin : Unit × Mem} {kk64 : Rf → Int64 → Int32 → Mem → Option (Unit × Mem)} {kk190 : Rf → Int64 → Int32 → Int32 → Int32 → Int64 → Int64 → Int32 → Int32 → Mem → Option (Unit × Mem)} (hk64 : ∀ (v0 : Rf) (v1 : Int64) (v3 : Int32) (st : Mem), kk64 v0 v1 v3 st = some fin → G (cX4_layOut, "HouseClapsModel", "layOut", 12, none, 13) st0 trV fin 64 [(0, vr v0), (1, vj v1), (3, vi v3)] [] st) (hk190 : ∀ (v0 : Rf) (v1 : Int64) (v3 : Int32) (v4 : Int32) (v5 : Int32) (v6 : Int64) (v8 : Int64) (v10 : Int32) (v11 : Int32) (st : Mem), kk190 v0 v1 v3 v4 v5 v6 v8 v10 v11 st = some fin → G (cX4_layOut, "HouseClapsModel", "layOut", 12, none, 13) st0 trV fin 190 [(0, vr v0), (1, vj v1), (3, vi v3), (4, vi v4), (5, vi v5), (6, vj v6), (8, vj v8), (10, vi v10), (11, vi v11)] [] st) (n : Nat) : ∀ (v0 : Rf) (v1 : Int64) (v3 : Int32) (v4 : Int32) (v5 : Int32) (v6 : Int64) (v8 : Int64) (v10 : Int32) (v11 : Int32) (v12 : Int32) (st : Mem), bX4_layOut_206 kk64 kk190 n v0 v1 v3 v4 v5 v6 v8 v10 v11 v12 st = some fin → G (cX4_layOut, "HouseClapsModel", "layOut", 12, none, 13) st0 trV fin 206 [(0, vr v0), (1, vj v1), (3, vi v3), (4, vi v4), (5, vi v5), (6, vj v6), (8, vj v8), (10, vi v10), (11, vi v11), (12, vi v12)] [] st := by
  induction n with
  | zero => intro v0 v1 v3 v4 v5 v6 v8 v10 v11 v12 st h; cases h
  | succ n ih => intro v0 v1 v3 v4 v5 v6 v8 v10 v11 v12 st h; exact sX4_layOut_206B hk64 hk190  ih v0 v1 v3 v4 v5 v6 v8 v10 v11 v12 st h
theorem sX4_layOut_190B {st0 : Mem} {fin : Unit × Mem} {kk64 : Rf → Int64 → Int32 → Mem → Option (Unit × Mem)} {kk190 : Rf → Int64 → Int32 → Int32 → Int32 → Int64 → Int64 → Int32 → Int32 → Mem → Option (Unit × Mem)} (hk64 : ∀ (v0 : Rf) (v1 : Int64) (v3 : Int32) (st : Mem), kk64 v0 v1 v3 st = some fin → G (cX4_layOut, "HouseClapsModel", "layOut", 12, none, 13) st0 trV fin 64 [(0, vr v0), (1, vj v1), (3, vi v3)] [] st) (hk190 : ∀ (v0 : Rf) (v1 : Int64) (v3 : Int32) (v4 : Int32) (v5 : Int32) (v6 : Int64) (v8 : Int64) (v10 : Int32) (v11 : Int32) (st : Mem), kk190 v0 v1 v3 v4 v5 v6 v8 v10 v11 st = some fin → G (cX4_layOut, "HouseClapsModel", "layOut", 12, none, 13) st0 trV fin 190 [(0, vr v0), (1, vj v1), (3, vi v3), (4, vi v4), (5, vi v5), (6, vj v6), (8, vj v8), (10, vi v10), (11, vi v11)] [] st) (v0 : Rf) (v1 : Int64) (v3 : Int32) (v4 : Int32) (v5 : Int32) (v6 : Int64) (v8 : Int64) (v10 : Int32) (v11 : Int32) (st : Mem) (h : bX4_layOut_190B kk64 kk190 v0 v1 v3 v4 v5 v6 v8 v10 v11 st = some fin) : G (cX4_layOut, "HouseClapsModel", "layOut", 12, none, 13) st0 trV fin 190 [(0, vr v0), (1, vj v1), (3, vi v3), (4, vi v4), (5, vi v5), (6, vj v6), (8, vj v8), (10, vi v10), (11, vi v11)] [] st := by
  unfold bX4_layOut_190B at h
  refine r_iload (pc := 190) dX4_layOut_190 8 rfl ?_
  refine r_iconst (pc := 192) (v := 4) dX4_layOut_192 (by decide) ?_
  refine r_icmp_ge (pc := 193) (tgt := 244) dX4_layOut_193 (by decide) h (fun e193 h => ?_) (fun e193 h => ?_)
  · exact r_sub (env' := [(0, vr v0), (1, vj v1), (3, vi v3), (4, vi v4), (5, vi v5), (6, vj v6), (8, vj v8)]) [0, 1, 2, 3, 4, 5, 6] rfl (sX4_layOut_244 hk64 _ _ _ _ _ _ _ _ h)
  · refine r_iload (pc := 196) dX4_layOut_196 7 rfl ?_
    refine r_if_ne (pc := 198) (tgt := 244) dX4_layOut_198 (by decide) h (fun e198 h => ?_) (fun e198 h => ?_)
    · exact r_sub (env' := [(0, vr v0), (1, vj v1), (3, vi v3), (4, vi v4), (5, vi v5), (6, vj v6), (8, vj v8)]) [0, 1, 2, 3, 4, 5, 6] rfl (sX4_layOut_244 hk64 _ _ _ _ _ _ _ _ h)
    · refine r_iload (pc := 201) dX4_layOut_201 8 rfl ?_
      refine r_ineg (pc := 203) dX4_layOut_203 ?_
      refine r_istore (pc := 204) (env' := [(12, vi (-v11)), (0, vr v0), (1, vj v1), (3, vi v3), (4, vi v4), (5, vi v5), (6, vj v6), (8, vj v8), (10, vi v10), (11, vi v11)]) dX4_layOut_204 (by decide) rfl ?_
      exact r_sub (env' := [(0, vr v0), (1, vj v1), (3, vi v3), (4, vi v4), (5, vi v5), (6, vj v6), (8, vj v8), (10, vi v10), (11, vi v11), (12, vi (-v11))]) [1, 2, 3, 4, 5, 6, 7, 8, 9, 0] rfl (sX4_layOut_206 hk64 hk190 hcFuel _ _ _ _ _ _ _ _ _ _ _ h)
theorem sX4_layOut_190 {st0 : Mem} {fin : Unit × Mem} {kk64 : Rf → Int64 → Int32 → Mem → Option (Unit × Mem)} (hk64 : ∀ (v0 : Rf) (v1 : Int64) (v3 : Int32) (st : Mem), kk64 v0 v1 v3 st = some fin → G (cX4_layOut, "HouseClapsModel", "layOut", 12, none, 13) st0 trV fin 64 [(0, vr v0), (1, vj v1), (3, vi v3)] [] st) (n : Nat) : ∀ (v0 : Rf) (v1 : Int64) (v3 : Int32) (v4 : Int32) (v5 : Int32) (v6 : Int64) (v8 : Int64) (v10 : Int32) (v11 : Int32) (st : Mem), bX4_layOut_190 kk64 n v0 v1 v3 v4 v5 v6 v8 v10 v11 st = some fin → G (cX4_layOut, "HouseClapsModel", "layOut", 12, none, 13) st0 trV fin 190 [(0, vr v0), (1, vj v1), (3, vi v3), (4, vi v4), (5, vi v5), (6, vj v6), (8, vj v8), (10, vi v10), (11, vi v11)] [] st := by
  induction n with
  | zero => intro v0 v1 v3 v4 v5 v6 v8 v10 v11 st h; cases h
  | succ n ih => intro v0 v1 v3 v4 v5 v6 v8 v10 v11 st h; exact sX4_layOut_190B hk64  ih v0 v1 v3 v4 v5 v6 v8 v10 v11 st h
theorem sX4_layOut_185 {st0 : Mem} {fin : Unit × Mem} {kk64 : Rf → Int64 → Int32 → Mem → Option (Unit × Mem)} (hk64 : ∀ (v0 : Rf) (v1 : Int64) (v3 : Int32) (st : Mem), kk64 v0 v1 v3 st = some fin → G (cX4_layOut, "HouseClapsModel", "layOut", 12, none, 13) st0 trV fin 64 [(0, vr v0), (1, vj v1), (3, vi v3)] [] st) (v0 : Rf) (v1 : Int64) (v3 : Int32) (v4 : Int32) (v5 : Int32) (v6 : Int64) (v8 : Int64) (k0 : Int32) (st : Mem) (h : bX4_layOut_185 kk64 v0 v1 v3 v4 v5 v6 v8 k0 st = some fin) : G (cX4_layOut, "HouseClapsModel", "layOut", 12, none, 13) st0 trV fin 185 [(0, vr v0), (1, vj v1), (3, vi v3), (4, vi v4), (5, vi v5), (6, vj v6), (8, vj v8)] [vi k0] st := by
  unfold bX4_layOut_185 at h
  refine r_istore (pc := 185) (env' := [(10, vi k0), (0, vr v0), (1, vj v1), (3, vi v3), (4, vi v4), (5, vi v5), (6, vj v6), (8, vj v8)]) dX4_layOut_185 (by decide) rfl ?_
  refine r_iconst (pc := 187) (v := 1) dX4_layOut_187 (by decide) ?_
  refine r_istore (pc := 188) (env' := [(11, vi (1 : Int32)), (10, vi k0), (0, vr v0), (1, vj v1), (3, vi v3), (4, vi v4), (5, vi v5), (6, vj v6), (8, vj v8)]) dX4_layOut_188 (by decide) rfl ?_
  exact r_sub (env' := [(0, vr v0), (1, vj v1), (3, vi v3), (4, vi v4), (5, vi v5), (6, vj v6), (8, vj v8), (10, vi k0), (11, vi (1 : Int32))]) [2, 3, 4, 5, 6, 7, 8, 1, 0] rfl (sX4_layOut_190 hk64 hcFuel _ _ _ _ _ _ _ _ _ _ h)
theorem sX4_layOut_184 {st0 : Mem} {fin : Unit × Mem} {kk64 : Rf → Int64 → Int32 → Mem → Option (Unit × Mem)} (hk64 : ∀ (v0 : Rf) (v1 : Int64) (v3 : Int32) (st : Mem), kk64 v0 v1 v3 st = some fin → G (cX4_layOut, "HouseClapsModel", "layOut", 12, none, 13) st0 trV fin 64 [(0, vr v0), (1, vj v1), (3, vi v3)] [] st) (v0 : Rf) (v1 : Int64) (v3 : Int32) (v4 : Int32) (v5 : Int32) (v6 : Int64) (v8 : Int64) (st : Mem) (h : bX4_layOut_184 kk64 v0 v1 v3 v4 v5 v6 v8 st = some fin) : G (cX4_layOut, "HouseClapsModel", "layOut", 12, none, 13) st0 trV fin 184 [(0, vr v0), (1, vj v1), (3, vi v3), (4, vi v4), (5, vi v5), (6, vj v6), (8, vj v8)] [] st := by
  unfold bX4_layOut_184 at h
  refine r_iconst (pc := 184) (v := 0) dX4_layOut_184 (by decide) ?_
  exact sX4_layOut_185 hk64 _ _ _ _ _ _ _ _ _ h
theorem sX4_layOut_147 {st0 : Mem} {fin : Unit × Mem} {kk64 : Rf → Int64 → Int32 → Mem → Option (Unit × Mem)} {kk107 : Rf → Int64 → Int32 → Int32 → Int32 → Int64 → Int32 → Mem → Option (Unit × Mem)} (hk64 : ∀ (v0 : Rf) (v1 : Int64) (v3 : Int32) (st : Mem), kk64 v0 v1 v3 st = some fin → G (cX4_layOut, "HouseClapsModel", "layOut", 12, none, 13) st0 trV fin 64 [(0, vr v0), (1, vj v1), (3, vi v3)] [] st) (hk107 : ∀ (v0 : Rf) (v1 : Int64) (v3 : Int32) (v4 : Int32) (v5 : Int32) (v6 : Int64) (v8 : Int32) (st : Mem), kk107 v0 v1 v3 v4 v5 v6 v8 st = some fin → G (cX4_layOut, "HouseClapsModel", "layOut", 12, none, 13) st0 trV fin 107 [(0, vr v0), (1, vj v1), (3, vi v3), (4, vi v4), (5, vi v5), (6, vj v6), (8, vi v8)] [] st) (v0 : Rf) (v1 : Int64) (v3 : Int32) (v4 : Int32) (v5 : Int32) (v6 : Int64) (v8 : Int32) (st : Mem) (h : bX4_layOut_147 kk64 kk107 v0 v1 v3 v4 v5 v6 v8 st = some fin) : G (cX4_layOut, "HouseClapsModel", "layOut", 12, none, 13) st0 trV fin 147 [(0, vr v0), (1, vj v1), (3, vi v3), (4, vi v4), (5, vi v5), (6, vj v6), (8, vi v8)] [] st := by
  unfold bX4_layOut_147 at h
  refine r_iinc (pc := 147) (env' := [(8, vi (v8 + 1)), (0, vr v0), (1, vj v1), (3, vi v3), (4, vi v4), (5, vi v5), (6, vj v6)]) (cst := 1) dX4_layOut_147 6 rfl (by decide) (by decide) rfl ?_
  refine r_goto (pc := 150) (tgt := 107) dX4_layOut_150 (by decide) ?_
  exact r_sub (env' := [(0, vr v0), (1, vj v1), (3, vi v3), (4, vi v4), (5, vi v5), (6, vj v6), (8, vi (v8 + 1))]) [1, 2, 3, 4, 5, 6, 0] rfl (hk107 _ _ _ _ _ _ _ _ h)
theorem sX4_layOut_107B {st0 : Mem} {fin : Unit × Mem} {kk64 : Rf → Int64 → Int32 → Mem → Option (Unit × Mem)} {kk107 : Rf → Int64 → Int32 → Int32 → Int32 → Int64 → Int32 → Mem → Option (Unit × Mem)} (hk64 : ∀ (v0 : Rf) (v1 : Int64) (v3 : Int32) (st : Mem), kk64 v0 v1 v3 st = some fin → G (cX4_layOut, "HouseClapsModel", "layOut", 12, none, 13) st0 trV fin 64 [(0, vr v0), (1, vj v1), (3, vi v3)] [] st) (hk107 : ∀ (v0 : Rf) (v1 : Int64) (v3 : Int32) (v4 : Int32) (v5 : Int32) (v6 : Int64) (v8 : Int32) (st : Mem), kk107 v0 v1 v3 v4 v5 v6 v8 st = some fin → G (cX4_layOut, "HouseClapsModel", "layOut", 12, none, 13) st0 trV fin 107 [(0, vr v0), (1, vj v1), (3, vi v3), (4, vi v4), (5, vi v5), (6, vj v6), (8, vi v8)] [] st) (v0 : Rf) (v1 : Int64) (v3 : Int32) (v4 : Int32) (v5 : Int32) (v6 : Int64) (v8 : Int32) (st : Mem) (h : bX4_layOut_107B kk64 kk107 v0 v1 v3 v4 v5 v6 v8 st = some fin) : G (cX4_layOut, "HouseClapsModel", "layOut", 12, none, 13) st0 trV fin 107 [(0, vr v0), (1, vj v1), (3, vi v3), (4, vi v4), (5, vi v5), (6, vj v6), (8, vi v8)] [] st := by
  unfold bX4_layOut_107B at h
  refine r_iload (pc := 107) dX4_layOut_107 6 rfl ?_
  refine r_bipush (pc := 109) (v := 9) dX4_layOut_109 (by decide) ?_
  refine r_icmp_ge (pc := 111) (tgt := 153) dX4_layOut_111 (by decide) h (fun e111 h => ?_) (fun e111 h => ?_)
  · refine r_lconst (pc := 153) (v := 0) dX4_layOut_153 (by decide) ?_
    refine r_lstore (pc := 154) (env' := [(8, vj (0 : Int64)), (0, vr v0), (1, vj v1), (3, vi v3), (4, vi v4), (5, vi v5), (6, vj v6)]) dX4_layOut_154 (by decide) rfl ?_
    refine r_iload (pc := 156) dX4_layOut_156 4 rfl ?_
    refine r_if_le (pc := 158) (tgt := 184) dX4_layOut_158 (by decide) h (fun e158 h => ?_) (fun e158 h => ?_)
    · exact r_sub (env' := [(0, vr v0), (1, vj v1), (3, vi v3), (4, vi v4), (5, vi v5), (6, vj v6), (8, vj (0 : Int64))]) [1, 2, 3, 4, 5, 6, 0] rfl (sX4_layOut_184 hk64 _ _ _ _ _ _ _ _ h)
    · refine r_aload_n (pc := 161) dX4_layOut_161 1 rfl rfl ?_
      refine r_gA (pc := 162) dX4_layOut_162 q1704 fd_61 same_rf h (fun x162 e162 h => ?_)
      refine r_bipush (pc := 165) (v := 6) dX4_layOut_165 (by decide) ?_
      refine r_iload_n (pc := 167) dX4_layOut_167 3 rfl rfl ?_
      refine r_iadd (pc := 168) dX4_layOut_168 ?_
      refine r_aload_n (pc := 169) dX4_layOut_169 1 rfl rfl ?_
      refine r_gA (pc := 170) dX4_layOut_170 q1704 fd_61 same_rf h (fun x170 e170 h => ?_)
      refine r_iconst (pc := 173) (v := 1) dX4_layOut_173 (by decide) ?_
      refine r_iaload (pc := 174) dX4_layOut_174 h (fun x174 e174 h => ?_)
      refine r_isub (pc := 175) dX4_layOut_175 ?_
      refine r_iaload (pc := 176) dX4_layOut_176 h (fun x176 e176 h => ?_)
      refine r_if_ne (pc := 177) (tgt := 184) dX4_layOut_177 (by decide) h (fun e177 h => ?_) (fun e177 h => ?_)
      · exact r_sub (env' := [(0, vr v0), (1, vj v1), (3, vi v3), (4, vi v4), (5, vi v5), (6, vj v6), (8, vj (0 : Int64))]) [1, 2, 3, 4, 5, 6, 0] rfl (sX4_layOut_184 hk64 _ _ _ _ _ _ _ _ h)
      · refine r_iconst (pc := 180) (v := 1) dX4_layOut_180 (by decide) ?_
        refine r_goto (pc := 181) (tgt := 185) dX4_layOut_181 (by decide) ?_
        exact r_sub (env' := [(0, vr v0), (1, vj v1), (3, vi v3), (4, vi v4), (5, vi v5), (6, vj v6), (8, vj (0 : Int64))]) [1, 2, 3, 4, 5, 6, 0] rfl (sX4_layOut_185 hk64 _ _ _ _ _ _ _ _ _ h)
  · refine r_iload (pc := 114) dX4_layOut_114 6 rfl ?_
    refine r_iconst (pc := 116) (v := 4) dX4_layOut_116 (by decide) ?_
    refine r_icmp_eq (pc := 117) (tgt := 147) dX4_layOut_117 (by decide) h (fun e117 h => ?_) (fun e117 h => ?_)
    · exact sX4_layOut_147 hk64 hk107 _ _ _ _ _ _ _ _ h
    · refine r_lload (pc := 120) dX4_layOut_120 5 rfl ?_
      refine r_aload_n (pc := 122) dX4_layOut_122 0 rfl rfl ?_
      refine r_iload (pc := 123) dX4_layOut_123 3 rfl ?_
      refine r_iload (pc := 125) dX4_layOut_125 6 rfl ?_
      refine r_iconst (pc := 127) (v := 3) dX4_layOut_127 (by decide) ?_
      refine r_idiv (pc := 128) dX4_layOut_128 h (fun x128 e128 h => ?_)
      refine r_iadd (pc := 129) dX4_layOut_129 ?_
      refine r_iconst (pc := 130) (v := 1) dX4_layOut_130 (by decide) ?_
      refine r_isub (pc := 131) dX4_layOut_131 ?_
      refine r_iload (pc := 132) dX4_layOut_132 4 rfl ?_
      refine r_iload (pc := 134) dX4_layOut_134 6 rfl ?_
      refine r_iconst (pc := 136) (v := 3) dX4_layOut_136 (by decide) ?_
      refine r_irem (pc := 137) dX4_layOut_137 h (fun x137 e137 h => ?_)
      refine r_iadd (pc := 138) dX4_layOut_138 ?_
      refine r_iconst (pc := 139) (v := 1) dX4_layOut_139 (by decide) ?_
      refine r_isub (pc := 140) dX4_layOut_140 ?_
      refine r_callJ (pc := 141) (rest := [vj v6]) (lkV dX4_layOut_141 q2108 xd_X4_bitAt (vc_of vt_X4_bitAt q2110 (fun _ => sX4_bitAt)) adx_X4_bitAt) (by decide) (Nat.le_of_ble_eq_true rfl) rfl h (fun x141 st e141 h => ?_)
      refine r_lor (pc := 144) dX4_layOut_144 ?_
      refine r_lstore (pc := 145) (env' := [(6, vj (v6 ||| x141)), (0, vr v0), (1, vj v1), (3, vi v3), (4, vi v4), (5, vi v5), (8, vi v8)]) dX4_layOut_145 (by decide) rfl ?_
      exact r_sub (env' := [(0, vr v0), (1, vj v1), (3, vi v3), (4, vi v4), (5, vi v5), (6, vj (v6 ||| x141)), (8, vi v8)]) [1, 2, 3, 4, 5, 0, 6] rfl (sX4_layOut_147 hk64 hk107 _ _ _ _ _ _ _ _ h)
theorem sX4_layOut_107 {st0 : Mem} {fin : Unit × Mem} {kk64 : Rf → Int64 → Int32 → Mem → Option (Unit × Mem)} (hk64 : ∀ (v0 : Rf) (v1 : Int64) (v3 : Int32) (st : Mem), kk64 v0 v1 v3 st = some fin → G (cX4_layOut, "HouseClapsModel", "layOut", 12, none, 13) st0 trV fin 64 [(0, vr v0), (1, vj v1), (3, vi v3)] [] st) (n : Nat) : ∀ (v0 : Rf) (v1 : Int64) (v3 : Int32) (v4 : Int32) (v5 : Int32) (v6 : Int64) (v8 : Int32) (st : Mem), bX4_layOut_107 kk64 n v0 v1 v3 v4 v5 v6 v8 st = some fin → G (cX4_layOut, "HouseClapsModel", "layOut", 12, none, 13) st0 trV fin 107 [(0, vr v0), (1, vj v1), (3, vi v3), (4, vi v4), (5, vi v5), (6, vj v6), (8, vi v8)] [] st := by
  induction n with
  | zero => intro v0 v1 v3 v4 v5 v6 v8 st h; cases h
  | succ n ih => intro v0 v1 v3 v4 v5 v6 v8 st h; exact sX4_layOut_107B hk64  ih v0 v1 v3 v4 v5 v6 v8 st h
theorem sX4_layOut_64B {st0 : Mem} {fin : Unit × Mem} {kk64 : Rf → Int64 → Int32 → Mem → Option (Unit × Mem)} (hk64 : ∀ (v0 : Rf) (v1 : Int64) (v3 : Int32) (st : Mem), kk64 v0 v1 v3 st = some fin → G (cX4_layOut, "HouseClapsModel", "layOut", 12, none, 13) st0 trV fin 64 [(0, vr v0), (1, vj v1), (3, vi v3)] [] st) (v0 : Rf) (v1 : Int64) (v3 : Int32) (st : Mem) (h : bX4_layOut_64B kk64 v0 v1 v3 st = some fin) : G (cX4_layOut, "HouseClapsModel", "layOut", 12, none, 13) st0 trV fin 64 [(0, vr v0), (1, vj v1), (3, vi v3)] [] st := by
  unfold bX4_layOut_64B at h
  refine r_iload_n (pc := 64) dX4_layOut_64 2 rfl rfl ?_
  refine r_aload_n (pc := 65) dX4_layOut_65 0 rfl rfl ?_
  refine r_gA (pc := 66) dX4_layOut_66 q1704 fd_61 same_rf h (fun x66 e66 h => ?_)
  refine r_iconst (pc := 69) (v := 0) dX4_layOut_69 (by decide) ?_
  refine r_iaload (pc := 70) dX4_layOut_70 h (fun x70 e70 h => ?_)
  refine r_aload_n (pc := 71) dX4_layOut_71 0 rfl rfl ?_
  refine r_gA (pc := 72) dX4_layOut_72 q1704 fd_61 same_rf h (fun x72 e72 h => ?_)
  refine r_iconst (pc := 75) (v := 1) dX4_layOut_75 (by decide) ?_
  refine r_iaload (pc := 76) dX4_layOut_76 h (fun x76 e76 h => ?_)
  refine r_imul (pc := 77) dX4_layOut_77 ?_
  refine r_icmp_ge (pc := 78) (tgt := 368) dX4_layOut_78 (by decide) h (fun e78 h => ?_) (fun e78 h => ?_)
  · exact r_return_ (pc := 368) dX4_layOut_368 rfl h
  · refine r_iload_n (pc := 81) dX4_layOut_81 2 rfl rfl ?_
    refine r_aload_n (pc := 82) dX4_layOut_82 0 rfl rfl ?_
    refine r_gA (pc := 83) dX4_layOut_83 q1704 fd_61 same_rf h (fun x83 e83 h => ?_)
    refine r_iconst (pc := 86) (v := 1) dX4_layOut_86 (by decide) ?_
    refine r_iaload (pc := 87) dX4_layOut_87 h (fun x87 e87 h => ?_)
    refine r_idiv (pc := 88) dX4_layOut_88 h (fun x88 e88 h => ?_)
    refine r_istore (pc := 89) (env' := [(4, vi x88), (0, vr v0), (1, vj v1), (3, vi v3)]) dX4_layOut_89 (by decide) rfl ?_
    refine r_iload_n (pc := 91) dX4_layOut_91 3 rfl rfl ?_
    refine r_aload_n (pc := 92) dX4_layOut_92 1 rfl rfl ?_
    refine r_gA (pc := 93) dX4_layOut_93 q1704 fd_61 same_rf h (fun x93 e93 h => ?_)
    refine r_iconst (pc := 96) (v := 1) dX4_layOut_96 (by decide) ?_
    refine r_iaload (pc := 97) dX4_layOut_97 h (fun x97 e97 h => ?_)
    refine r_irem (pc := 98) dX4_layOut_98 h (fun x98 e98 h => ?_)
    refine r_istore (pc := 99) (env' := [(5, vi x98), (4, vi x88), (0, vr v0), (1, vj v1), (3, vi v3)]) dX4_layOut_99 (by decide) rfl ?_
    refine r_lconst (pc := 101) (v := 0) dX4_layOut_101 (by decide) ?_
    refine r_lstore (pc := 102) (env' := [(6, vj (0 : Int64)), (5, vi x98), (4, vi x88), (0, vr v0), (1, vj v1), (3, vi v3)]) dX4_layOut_102 (by decide) rfl ?_
    refine r_iconst (pc := 104) (v := 0) dX4_layOut_104 (by decide) ?_
    refine r_istore (pc := 105) (env' := [(8, vi (0 : Int32)), (6, vj (0 : Int64)), (5, vi x98), (4, vi x88), (0, vr v0), (1, vj v1), (3, vi v3)]) dX4_layOut_105 (by decide) rfl ?_
    exact r_sub (env' := [(0, vr v0), (1, vj v1), (3, vi v3), (4, vi x88), (5, vi x98), (6, vj (0 : Int64)), (8, vi (0 : Int32))]) [4, 5, 6, 3, 2, 1, 0] rfl (sX4_layOut_107 hk64 hcFuel _ _ _ _ _ _ _ _ h)
theorem sX4_layOut_64 {st0 : Mem} {fin : Unit × Mem} (n : Nat) : ∀ (v0 : Rf) (v1 : Int64) (v3 : Int32) (st : Mem), bX4_layOut_64 n v0 v1 v3 st = some fin → G (cX4_layOut, "HouseClapsModel", "layOut", 12, none, 13) st0 trV fin 64 [(0, vr v0), (1, vj v1), (3, vi v3)] [] st := by
  induction n with
  | zero => intro v0 v1 v3 st h; cases h
  | succ n ih => intro v0 v1 v3 st h; exact sX4_layOut_64B  ih v0 v1 v3 st h
theorem sX4_layOut_54 {st0 : Mem} {fin : Unit × Mem} {kk17 : Rf → Int64 → Int32 → Mem → Option (Unit × Mem)} (hk17 : ∀ (v0 : Rf) (v1 : Int64) (v3 : Int32) (st : Mem), kk17 v0 v1 v3 st = some fin → G (cX4_layOut, "HouseClapsModel", "layOut", 12, none, 13) st0 trV fin 17 [(0, vr v0), (1, vj v1), (3, vi v3)] [] st) (v0 : Rf) (v3 : Int32) (k0 : Int64) (k1 : Int64) (st : Mem) (h : bX4_layOut_54 kk17 v0 v3 k0 k1 st = some fin) : G (cX4_layOut, "HouseClapsModel", "layOut", 12, none, 13) st0 trV fin 54 [(0, vr v0), (3, vi v3)] [vj k1, vj k0] st := by
  unfold bX4_layOut_54 at h
  refine r_lor (pc := 54) dX4_layOut_54 ?_
  refine r_lstore_n (pc := 55) (env' := [(1, vj (k0 ||| k1)), (0, vr v0), (3, vi v3)]) dX4_layOut_55 rfl (by decide) rfl ?_
  refine r_iinc (pc := 56) (env' := [(3, vi (v3 + 1)), (1, vj (k0 ||| k1)), (0, vr v0)]) (cst := 1) dX4_layOut_56 2 rfl (by decide) (by decide) rfl ?_
  refine r_goto (pc := 59) (tgt := 17) dX4_layOut_59 (by decide) ?_
  exact r_sub (env' := [(0, vr v0), (1, vj (k0 ||| k1)), (3, vi (v3 + 1))]) [2, 1, 0] rfl (hk17 _ _ _ _ h)
theorem sX4_layOut_17B {st0 : Mem} {fin : Unit × Mem} {kk17 : Rf → Int64 → Int32 → Mem → Option (Unit × Mem)} (hk17 : ∀ (v0 : Rf) (v1 : Int64) (v3 : Int32) (st : Mem), kk17 v0 v1 v3 st = some fin → G (cX4_layOut, "HouseClapsModel", "layOut", 12, none, 13) st0 trV fin 17 [(0, vr v0), (1, vj v1), (3, vi v3)] [] st) (v0 : Rf) (v1 : Int64) (v3 : Int32) (st : Mem) (h : bX4_layOut_17B kk17 v0 v1 v3 st = some fin) : G (cX4_layOut, "HouseClapsModel", "layOut", 12, none, 13) st0 trV fin 17 [(0, vr v0), (1, vj v1), (3, vi v3)] [] st := by
  unfold bX4_layOut_17B at h
  refine r_iload_n (pc := 17) dX4_layOut_17 2 rfl rfl ?_
  refine r_aload_n (pc := 18) dX4_layOut_18 0 rfl rfl ?_
  refine r_gA (pc := 19) dX4_layOut_19 q1704 fd_61 same_rf h (fun x19 e19 h => ?_)
  refine r_iconst (pc := 22) (v := 0) dX4_layOut_22 (by decide) ?_
  refine r_iaload (pc := 23) dX4_layOut_23 h (fun x23 e23 h => ?_)
  refine r_aload_n (pc := 24) dX4_layOut_24 0 rfl rfl ?_
  refine r_gA (pc := 25) dX4_layOut_25 q1704 fd_61 same_rf h (fun x25 e25 h => ?_)
  refine r_iconst (pc := 28) (v := 1) dX4_layOut_28 (by decide) ?_
  refine r_iaload (pc := 29) dX4_layOut_29 h (fun x29 e29 h => ?_)
  refine r_imul (pc := 30) dX4_layOut_30 ?_
  refine r_icmp_ge (pc := 31) (tgt := 62) dX4_layOut_31 (by decide) h (fun e31 h => ?_) (fun e31 h => ?_)
  · refine r_iconst (pc := 62) (v := 0) dX4_layOut_62 (by decide) ?_
    refine r_istore_n (pc := 63) (env' := [(3, vi (0 : Int32)), (0, vr v0), (1, vj v1)]) dX4_layOut_63 rfl (by decide) rfl ?_
    exact r_sub (env' := [(0, vr v0), (1, vj v1), (3, vi (0 : Int32))]) [1, 2, 0] rfl (sX4_layOut_64 hcFuel _ _ _ _ h)
  · refine r_lload_n (pc := 34) dX4_layOut_34 1 rfl rfl ?_
    refine r_aload_n (pc := 35) dX4_layOut_35 0 rfl rfl ?_
    refine r_gA (pc := 36) dX4_layOut_36 q1704 fd_61 same_rf h (fun x36 e36 h => ?_)
    refine r_bipush (pc := 39) (v := 6) dX4_layOut_39 (by decide) ?_
    refine r_iload_n (pc := 41) dX4_layOut_41 2 rfl rfl ?_
    refine r_iadd (pc := 42) dX4_layOut_42 ?_
    refine r_iaload (pc := 43) dX4_layOut_43 h (fun x43 e43 h => ?_)
    refine r_if_le (pc := 44) (tgt := 53) dX4_layOut_44 (by decide) h (fun e44 h => ?_) (fun e44 h => ?_)
    · refine r_lconst (pc := 53) (v := 0) dX4_layOut_53 (by decide) ?_
      exact r_sub (env' := [(0, vr v0), (3, vi v3)]) [0, 2] rfl (sX4_layOut_54 hk17 _ _ _ _ _ h)
    · refine r_lconst (pc := 47) (v := 1) dX4_layOut_47 (by decide) ?_
      refine r_iload_n (pc := 48) dX4_layOut_48 2 rfl rfl ?_
      refine r_lshl (pc := 49) dX4_layOut_49 ?_
      refine r_goto (pc := 50) (tgt := 54) dX4_layOut_50 (by decide) ?_
      exact r_sub (env' := [(0, vr v0), (3, vi v3)]) [0, 2] rfl (sX4_layOut_54 hk17 _ _ _ _ _ h)
theorem sX4_layOut_17 {st0 : Mem} {fin : Unit × Mem} (n : Nat) : ∀ (v0 : Rf) (v1 : Int64) (v3 : Int32) (st : Mem), bX4_layOut_17 n v0 v1 v3 st = some fin → G (cX4_layOut, "HouseClapsModel", "layOut", 12, none, 13) st0 trV fin 17 [(0, vr v0), (1, vj v1), (3, vi v3)] [] st := by
  induction n with
  | zero => intro v0 v1 v3 st h; cases h
  | succ n ih => intro v0 v1 v3 st h; exact sX4_layOut_17B  ih v0 v1 v3 st h
theorem sX4_layOut {a0 : Rf} {st : Mem} {fin : Unit × Mem} (h : fX4_layOut a0 st = some fin) : Con yX4_layOut 12 [vr a0] st trV fin := by
  refine Con.mk (cc := cX4_layOut) (n := 13) (own := "HouseClapsModel") (nm := "layOut") (ret := none) (env := [(0, vr a0)]) q2107 rfl rfl rfl (by decide) ⟨Nat.le_of_ble_eq_true rfl, by decide⟩ rfl ?_
  unfold fX4_layOut at h
  refine r_aload_n (pc := 0) dX4_layOut_0 0 rfl rfl ?_
  refine r_gI (pc := 1) dX4_layOut_1 q1728 fd_85 same_rf h (fun x1 e1 h => ?_)
  refine r_if_ne (pc := 4) (tgt := 8) dX4_layOut_4 (by decide) h (fun e4 h => ?_) (fun e4 h => ?_)
  · refine r_aload_n (pc := 8) dX4_layOut_8 0 rfl rfl ?_
    refine r_iconst (pc := 9) (v := 0) dX4_layOut_9 (by decide) ?_
    refine r_pI (pc := 10) dX4_layOut_10 q1728 fd_85 same_rf rfl h (fun st e10 h => ?_)
    refine r_lconst (pc := 13) (v := 0) dX4_layOut_13 (by decide) ?_
    refine r_lstore_n (pc := 14) (env' := [(1, vj (0 : Int64)), (0, vr a0)]) dX4_layOut_14 rfl (by decide) rfl ?_
    refine r_iconst (pc := 15) (v := 0) dX4_layOut_15 (by decide) ?_
    refine r_istore_n (pc := 16) (env' := [(3, vi (0 : Int32)), (1, vj (0 : Int64)), (0, vr a0)]) dX4_layOut_16 rfl (by decide) rfl ?_
    exact r_sub (env' := [(0, vr a0), (1, vj (0 : Int64)), (3, vi (0 : Int32))]) [2, 1, 0] rfl (sX4_layOut_17 hcFuel _ _ _ _ h)
  · exact r_return_ (pc := 7) dX4_layOut_7 rfl h
theorem sX4_moment_587 {st0 : Mem} {fin : Unit × Mem} {kk202 : Rf → Int32 → Int32 → Int64 → Int64 → Int64 → Int64 → Int64 → Int64 → Int32 → Mem → Option (Unit × Mem)} (hk202 : ∀ (v0 : Rf) (v1 : Int32) (v2 : Int32) (v3 : Int64) (v5 : Int64) (v7 : Int64) (v9 : Int64) (v11 : Int64) (v13 : Int64) (v15 : Int32) (st : Mem), kk202 v0 v1 v2 v3 v5 v7 v9 v11 v13 v15 st = some fin → G (cX4_moment, "HouseClapsModel", "moment", 12, none, 23) st0 trV fin 202 [(0, vr v0), (1, vi v1), (2, vi v2), (3, vj v3), (5, vj v5), (7, vj v7), (9, vj v9), (11, vj v11), (13, vj v13), (15, vi v15)] [] st) (v0 : Rf) (v1 : Int32) (v2 : Int32) (v3 : Int64) (v5 : Int64) (v7 : Int64) (v9 : Int64) (v11 : Int64) (v13 : Int64) (v15 : Int32) (st : Mem) (h : bX4_moment_587 kk202 v0 v1 v2 v3 v5 v7 v9 v11 v13 v15 st = some fin) : G (cX4_moment, "HouseClapsModel", "moment", 12, none, 23) st0 trV fin 587 [(0, vr v0), (1, vi v1), (2, vi v2), (3, vj v3), (5, vj v5), (7, vj v7), (9, vj v9), (11, vj v11), (13, vj v13), (15, vi v15)] [] st := by
  unfold bX4_moment_587 at h
  refine r_iinc (pc := 587) (env' := [(15, vi (v15 + 1)), (0, vr v0), (1, vi v1), (2, vi v2), (3, vj v3), (5, vj v5), (7, vj v7), (9, vj v9), (11, vj v11), (13, vj v13)]) (cst := 1) dX4_moment_587 9 rfl (by decide) (by decide) rfl ?_
  refine r_goto (pc := 590) (tgt := 202) dX4_moment_590 (by decide) ?_
  exact r_sub (env' := [(0, vr v0), (1, vi v1), (2, vi v2), (3, vj v3), (5, vj v5), (7, vj v7), (9, vj v9), (11, vj v11), (13, vj v13), (15, vi (v15 + 1))]) [1, 2, 3, 4, 5, 6, 7, 8, 9, 0] rfl (hk202 _ _ _ _ _ _ _ _ _ _ _ h)
theorem sX4_moment_548 {st0 : Mem} {fin : Unit × Mem} {kk202 : Rf → Int32 → Int32 → Int64 → Int64 → Int64 → Int64 → Int64 → Int64 → Int32 → Mem → Option (Unit × Mem)} (hk202 : ∀ (v0 : Rf) (v1 : Int32) (v2 : Int32) (v3 : Int64) (v5 : Int64) (v7 : Int64) (v9 : Int64) (v11 : Int64) (v13 : Int64) (v15 : Int32) (st : Mem), kk202 v0 v1 v2 v3 v5 v7 v9 v11 v13 v15 st = some fin → G (cX4_moment, "HouseClapsModel", "moment", 12, none, 23) st0 trV fin 202 [(0, vr v0), (1, vi v1), (2, vi v2), (3, vj v3), (5, vj v5), (7, vj v7), (9, vj v9), (11, vj v11), (13, vj v13), (15, vi v15)] [] st) (v0 : Rf) (v1 : Int32) (v2 : Int32) (v7 : Int64) (v9 : Int64) (v11 : Int64) (v13 : Int64) (v15 : Int32) (k0 : Int64) (st : Mem) (h : bX4_moment_548 kk202 v0 v1 v2 v7 v9 v11 v13 v15 k0 st = some fin) : G (cX4_moment, "HouseClapsModel", "moment", 12, none, 23) st0 trV fin 548 [(0, vr v0), (1, vi v1), (2, vi v2), (7, vj v7), (9, vj v9), (11, vj v11), (13, vj v13), (15, vi v15)] [vj k0] st := by
  unfold bX4_moment_548 at h
  refine r_lstore (pc := 548) (env' := [(18, vj k0), (0, vr v0), (1, vi v1), (2, vi v2), (7, vj v7), (9, vj v9), (11, vj v11), (13, vj v13), (15, vi v15)]) dX4_moment_548 (by decide) rfl ?_
  refine r_lload (pc := 550) dX4_moment_550 4 rfl ?_
  refine r_lload (pc := 552) dX4_moment_552 0 rfl ?_
  refine r_land (pc := 554) dX4_moment_554 ?_
  refine r_aload_n (pc := 555) dX4_moment_555 1 rfl rfl ?_
  refine r_gJ (pc := 556) dX4_moment_556 q1736 fd_93 same_rf h (fun x556 e556 h => ?_)
  refine r_lload (pc := 559) dX4_moment_559 0 rfl ?_
  refine r_ldc2 (pc := 561) dX4_moment_561 q2063 ?_
  refine r_lxor (pc := 564) dX4_moment_564 ?_
  refine r_land (pc := 565) dX4_moment_565 ?_
  refine r_lor (pc := 566) dX4_moment_566 ?_
  refine r_nameJ h (fun y567 e567 h => ?_)
  refine r_lstore_n (pc := 567) (env' := [(3, vj y567), (18, vj k0), (0, vr v0), (1, vi v1), (2, vi v2), (7, vj v7), (9, vj v9), (11, vj v11), (13, vj v13), (15, vi v15)]) dX4_moment_567 rfl (by decide) rfl ?_
  refine r_lload (pc := 568) dX4_moment_568 6 rfl ?_
  refine r_lload (pc := 570) dX4_moment_570 1 rfl ?_
  refine r_land (pc := 572) dX4_moment_572 ?_
  refine r_aload_n (pc := 573) dX4_moment_573 2 rfl rfl ?_
  refine r_gJ (pc := 574) dX4_moment_574 q1737 fd_94 same_rf h (fun x574 e574 h => ?_)
  refine r_lload (pc := 577) dX4_moment_577 1 rfl ?_
  refine r_ldc2 (pc := 579) dX4_moment_579 q2063 ?_
  refine r_lxor (pc := 582) dX4_moment_582 ?_
  refine r_land (pc := 583) dX4_moment_583 ?_
  refine r_lor (pc := 584) dX4_moment_584 ?_
  refine r_nameJ h (fun y585 e585 h => ?_)
  refine r_lstore (pc := 585) (env' := [(5, vj y585), (3, vj y567), (18, vj k0), (0, vr v0), (1, vi v1), (2, vi v2), (7, vj v7), (9, vj v9), (11, vj v11), (13, vj v13), (15, vi v15)]) dX4_moment_585 (by decide) rfl ?_
  exact r_sub (env' := [(0, vr v0), (1, vi v1), (2, vi v2), (3, vj y567), (5, vj y585), (7, vj v7), (9, vj v9), (11, vj v11), (13, vj v13), (15, vi v15)]) [3, 4, 5, 1, 0, 6, 7, 8, 9, 10] rfl (sX4_moment_587 hk202 _ _ _ _ _ _ _ _ _ _ _ h)
theorem sX4_moment_498 {st0 : Mem} {fin : Unit × Mem} {kk202 : Rf → Int32 → Int32 → Int64 → Int64 → Int64 → Int64 → Int64 → Int64 → Int32 → Mem → Option (Unit × Mem)} {kk260 : Rf → Int32 → Int32 → Int64 → Int64 → Int64 → Int64 → Int64 → Int64 → Int32 → Int32 → Int32 → Mem → Option (Unit × Mem)} (hk202 : ∀ (v0 : Rf) (v1 : Int32) (v2 : Int32) (v3 : Int64) (v5 : Int64) (v7 : Int64) (v9 : Int64) (v11 : Int64) (v13 : Int64) (v15 : Int32) (st : Mem), kk202 v0 v1 v2 v3 v5 v7 v9 v11 v13 v15 st = some fin → G (cX4_moment, "HouseClapsModel", "moment", 12, none, 23) st0 trV fin 202 [(0, vr v0), (1, vi v1), (2, vi v2), (3, vj v3), (5, vj v5), (7, vj v7), (9, vj v9), (11, vj v11), (13, vj v13), (15, vi v15)] [] st) (hk260 : ∀ (v0 : Rf) (v1 : Int32) (v2 : Int32) (v3 : Int64) (v5 : Int64) (v7 : Int64) (v9 : Int64) (v11 : Int64) (v13 : Int64) (v15 : Int32) (v16 : Int32) (v17 : Int32) (st : Mem), kk260 v0 v1 v2 v3 v5 v7 v9 v11 v13 v15 v16 v17 st = some fin → G (cX4_moment, "HouseClapsModel", "moment", 12, none, 23) st0 trV fin 260 [(0, vr v0), (1, vi v1), (2, vi v2), (3, vj v3), (5, vj v5), (7, vj v7), (9, vj v9), (11, vj v11), (13, vj v13), (15, vi v15), (16, vi v16), (17, vi v17)] [] st) (v0 : Rf) (v1 : Int32) (v2 : Int32) (v3 : Int64) (v5 : Int64) (v7 : Int64) (v9 : Int64) (v11 : Int64) (v13 : Int64) (v15 : Int32) (v16 : Int32) (v17 : Int32) (st : Mem) (h : bX4_moment_498 kk202 kk260 v0 v1 v2 v3 v5 v7 v9 v11 v13 v15 v16 v17 st = some fin) : G (cX4_moment, "HouseClapsModel", "moment", 12, none, 23) st0 trV fin 498 [(0, vr v0), (1, vi v1), (2, vi v2), (3, vj v3), (5, vj v5), (7, vj v7), (9, vj v9), (11, vj v11), (13, vj v13), (15, vi v15), (16, vi v16), (17, vi v17)] [] st := by
  unfold bX4_moment_498 at h
  refine r_iinc (pc := 498) (env' := [(17, vi (v17 + 1)), (0, vr v0), (1, vi v1), (2, vi v2), (3, vj v3), (5, vj v5), (7, vj v7), (9, vj v9), (11, vj v11), (13, vj v13), (15, vi v15), (16, vi v16)]) (cst := 1) dX4_moment_498 11 rfl (by decide) (by decide) rfl ?_
  refine r_goto (pc := 501) (tgt := 260) dX4_moment_501 (by decide) ?_
  exact r_sub (env' := [(0, vr v0), (1, vi v1), (2, vi v2), (3, vj v3), (5, vj v5), (7, vj v7), (9, vj v9), (11, vj v11), (13, vj v13), (15, vi v15), (16, vi v16), (17, vi (v17 + 1))]) [1, 2, 3, 4, 5, 6, 7, 8, 9, 10, 11, 0] rfl (hk260 _ _ _ _ _ _ _ _ _ _ _ _ _ h)
theorem sX4_moment_495 {st0 : Mem} {fin : Unit × Mem} {kk202 : Rf → Int32 → Int32 → Int64 → Int64 → Int64 → Int64 → Int64 → Int64 → Int32 → Mem → Option (Unit × Mem)} {kk260 : Rf → Int32 → Int32 → Int64 → Int64 → Int64 → Int64 → Int64 → Int64 → Int32 → Int32 → Int32 → Mem → Option (Unit × Mem)} (hk202 : ∀ (v0 : Rf) (v1 : Int32) (v2 : Int32) (v3 : Int64) (v5 : Int64) (v7 : Int64) (v9 : Int64) (v11 : Int64) (v13 : Int64) (v15 : Int32) (st : Mem), kk202 v0 v1 v2 v3 v5 v7 v9 v11 v13 v15 st = some fin → G (cX4_moment, "HouseClapsModel", "moment", 12, none, 23) st0 trV fin 202 [(0, vr v0), (1, vi v1), (2, vi v2), (3, vj v3), (5, vj v5), (7, vj v7), (9, vj v9), (11, vj v11), (13, vj v13), (15, vi v15)] [] st) (hk260 : ∀ (v0 : Rf) (v1 : Int32) (v2 : Int32) (v3 : Int64) (v5 : Int64) (v7 : Int64) (v9 : Int64) (v11 : Int64) (v13 : Int64) (v15 : Int32) (v16 : Int32) (v17 : Int32) (st : Mem), kk260 v0 v1 v2 v3 v5 v7 v9 v11 v13 v15 v16 v17 st = some fin → G (cX4_moment, "HouseClapsModel", "moment", 12, none, 23) st0 trV fin 260 [(0, vr v0), (1, vi v1), (2, vi v2), (3, vj v3), (5, vj v5), (7, vj v7), (9, vj v9), (11, vj v11), (13, vj v13), (15, vi v15), (16, vi v16), (17, vi v17)] [] st) (v0 : Rf) (v1 : Int32) (v2 : Int32) (v3 : Int64) (v5 : Int64) (v7 : Int64) (v9 : Int64) (v11 : Int64) (v15 : Int32) (v16 : Int32) (v17 : Int32) (k0 : Int64) (k1 : Int64) (st : Mem) (h : bX4_moment_495 kk202 kk260 v0 v1 v2 v3 v5 v7 v9 v11 v15 v16 v17 k0 k1 st = some fin) : G (cX4_moment, "HouseClapsModel", "moment", 12, none, 23) st0 trV fin 495 [(0, vr v0), (1, vi v1), (2, vi v2), (3, vj v3), (5, vj v5), (7, vj v7), (9, vj v9), (11, vj v11), (15, vi v15), (16, vi v16), (17, vi v17)] [vj k1, vj k0] st := by
  unfold bX4_moment_495 at h
  refine r_lor (pc := 495) dX4_moment_495 ?_
  refine r_lstore (pc := 496) (env' := [(13, vj (k0 ||| k1)), (0, vr v0), (1, vi v1), (2, vi v2), (3, vj v3), (5, vj v5), (7, vj v7), (9, vj v9), (11, vj v11), (15, vi v15), (16, vi v16), (17, vi v17)]) dX4_moment_496 (by decide) rfl ?_
  exact r_sub (env' := [(0, vr v0), (1, vi v1), (2, vi v2), (3, vj v3), (5, vj v5), (7, vj v7), (9, vj v9), (11, vj v11), (13, vj (k0 ||| k1)), (15, vi v15), (16, vi v16), (17, vi v17)]) [1, 2, 3, 4, 5, 6, 7, 8, 0, 9, 10, 11] rfl (sX4_moment_498 hk202 hk260 _ _ _ _ _ _ _ _ _ _ _ _ _ h)
theorem sX4_moment_478 {st0 : Mem} {fin : Unit × Mem} {kk202 : Rf → Int32 → Int32 → Int64 → Int64 → Int64 → Int64 → Int64 → Int64 → Int32 → Mem → Option (Unit × Mem)} {kk260 : Rf → Int32 → Int32 → Int64 → Int64 → Int64 → Int64 → Int64 → Int64 → Int32 → Int32 → Int32 → Mem → Option (Unit × Mem)} (hk202 : ∀ (v0 : Rf) (v1 : Int32) (v2 : Int32) (v3 : Int64) (v5 : Int64) (v7 : Int64) (v9 : Int64) (v11 : Int64) (v13 : Int64) (v15 : Int32) (st : Mem), kk202 v0 v1 v2 v3 v5 v7 v9 v11 v13 v15 st = some fin → G (cX4_moment, "HouseClapsModel", "moment", 12, none, 23) st0 trV fin 202 [(0, vr v0), (1, vi v1), (2, vi v2), (3, vj v3), (5, vj v5), (7, vj v7), (9, vj v9), (11, vj v11), (13, vj v13), (15, vi v15)] [] st) (hk260 : ∀ (v0 : Rf) (v1 : Int32) (v2 : Int32) (v3 : Int64) (v5 : Int64) (v7 : Int64) (v9 : Int64) (v11 : Int64) (v13 : Int64) (v15 : Int32) (v16 : Int32) (v17 : Int32) (st : Mem), kk260 v0 v1 v2 v3 v5 v7 v9 v11 v13 v15 v16 v17 st = some fin → G (cX4_moment, "HouseClapsModel", "moment", 12, none, 23) st0 trV fin 260 [(0, vr v0), (1, vi v1), (2, vi v2), (3, vj v3), (5, vj v5), (7, vj v7), (9, vj v9), (11, vj v11), (13, vj v13), (15, vi v15), (16, vi v16), (17, vi v17)] [] st) (v0 : Rf) (v1 : Int32) (v2 : Int32) (v3 : Int64) (v5 : Int64) (v7 : Int64) (v9 : Int64) (v13 : Int64) (v15 : Int32) (v16 : Int32) (v17 : Int32) (v18 : Int64) (v22 : Int32) (k0 : Int64) (k1 : Int64) (st : Mem) (h : bX4_moment_478 kk202 kk260 v0 v1 v2 v3 v5 v7 v9 v13 v15 v16 v17 v18 v22 k0 k1 st = some fin) : G (cX4_moment, "HouseClapsModel", "moment", 12, none, 23) st0 trV fin 478 [(0, vr v0), (1, vi v1), (2, vi v2), (3, vj v3), (5, vj v5), (7, vj v7), (9, vj v9), (13, vj v13), (15, vi v15), (16, vi v16), (17, vi v17), (18, vj v18), (22, vi v22)] [vj k1, vj k0] st := by
  unfold bX4_moment_478 at h
  refine r_lor (pc := 478) dX4_moment_478 ?_
  refine r_lstore (pc := 479) (env' := [(11, vj (k0 ||| k1)), (0, vr v0), (1, vi v1), (2, vi v2), (3, vj v3), (5, vj v5), (7, vj v7), (9, vj v9), (13, vj v13), (15, vi v15), (16, vi v16), (17, vi v17), (18, vj v18), (22, vi v22)]) dX4_moment_479 (by decide) rfl ?_
  refine r_lload (pc := 481) dX4_moment_481 8 rfl ?_
  refine r_iload (pc := 483) dX4_moment_483 13 rfl ?_
  refine r_iconst (pc := 485) (v := 1) dX4_moment_485 (by decide) ?_
  refine r_icmp_le (pc := 486) (tgt := 494) dX4_moment_486 (by decide) h (fun e486 h => ?_) (fun e486 h => ?_)
  · refine r_lconst (pc := 494) (v := 0) dX4_moment_494 (by decide) ?_
    exact r_sub (env' := [(0, vr v0), (1, vi v1), (2, vi v2), (3, vj v3), (5, vj v5), (7, vj v7), (9, vj v9), (11, vj (k0 ||| k1)), (15, vi v15), (16, vi v16), (17, vi v17)]) [1, 2, 3, 4, 5, 6, 7, 0, 9, 10, 11] rfl (sX4_moment_495 hk202 hk260 _ _ _ _ _ _ _ _ _ _ _ _ _ _ h)
  · refine r_lload (pc := 489) dX4_moment_489 12 rfl ?_
    refine r_goto (pc := 491) (tgt := 495) dX4_moment_491 (by decide) ?_
    exact r_sub (env' := [(0, vr v0), (1, vi v1), (2, vi v2), (3, vj v3), (5, vj v5), (7, vj v7), (9, vj v9), (11, vj (k0 ||| k1)), (15, vi v15), (16, vi v16), (17, vi v17)]) [1, 2, 3, 4, 5, 6, 7, 0, 9, 10, 11] rfl (sX4_moment_495 hk202 hk260 _ _ _ _ _ _ _ _ _ _ _ _ _ _ h)
theorem sX4_moment_459 {st0 : Mem} {fin : Unit × Mem} {kk202 : Rf → Int32 → Int32 → Int64 → Int64 → Int64 → Int64 → Int64 → Int64 → Int32 → Mem → Option (Unit × Mem)} {kk260 : Rf → Int32 → Int32 → Int64 → Int64 → Int64 → Int64 → Int64 → Int64 → Int32 → Int32 → Int32 → Mem → Option (Unit × Mem)} (hk202 : ∀ (v0 : Rf) (v1 : Int32) (v2 : Int32) (v3 : Int64) (v5 : Int64) (v7 : Int64) (v9 : Int64) (v11 : Int64) (v13 : Int64) (v15 : Int32) (st : Mem), kk202 v0 v1 v2 v3 v5 v7 v9 v11 v13 v15 st = some fin → G (cX4_moment, "HouseClapsModel", "moment", 12, none, 23) st0 trV fin 202 [(0, vr v0), (1, vi v1), (2, vi v2), (3, vj v3), (5, vj v5), (7, vj v7), (9, vj v9), (11, vj v11), (13, vj v13), (15, vi v15)] [] st) (hk260 : ∀ (v0 : Rf) (v1 : Int32) (v2 : Int32) (v3 : Int64) (v5 : Int64) (v7 : Int64) (v9 : Int64) (v11 : Int64) (v13 : Int64) (v15 : Int32) (v16 : Int32) (v17 : Int32) (st : Mem), kk260 v0 v1 v2 v3 v5 v7 v9 v11 v13 v15 v16 v17 st = some fin → G (cX4_moment, "HouseClapsModel", "moment", 12, none, 23) st0 trV fin 260 [(0, vr v0), (1, vi v1), (2, vi v2), (3, vj v3), (5, vj v5), (7, vj v7), (9, vj v9), (11, vj v11), (13, vj v13), (15, vi v15), (16, vi v16), (17, vi v17)] [] st) (v0 : Rf) (v1 : Int32) (v2 : Int32) (v3 : Int64) (v5 : Int64) (v7 : Int64) (v11 : Int64) (v13 : Int64) (v15 : Int32) (v16 : Int32) (v17 : Int32) (v18 : Int64) (v22 : Int32) (k0 : Int64) (k1 : Int64) (st : Mem) (h : bX4_moment_459 kk202 kk260 v0 v1 v2 v3 v5 v7 v11 v13 v15 v16 v17 v18 v22 k0 k1 st = some fin) : G (cX4_moment, "HouseClapsModel", "moment", 12, none, 23) st0 trV fin 459 [(0, vr v0), (1, vi v1), (2, vi v2), (3, vj v3), (5, vj v5), (7, vj v7), (11, vj v11), (13, vj v13), (15, vi v15), (16, vi v16), (17, vi v17), (18, vj v18), (22, vi v22)] [vj k1, vj k0] st := by
  unfold bX4_moment_459 at h
  refine r_lor (pc := 459) dX4_moment_459 ?_
  refine r_lstore (pc := 460) (env' := [(9, vj (k0 ||| k1)), (0, vr v0), (1, vi v1), (2, vi v2), (3, vj v3), (5, vj v5), (7, vj v7), (11, vj v11), (13, vj v13), (15, vi v15), (16, vi v16), (17, vi v17), (18, vj v18), (22, vi v22)]) dX4_moment_460 (by decide) rfl ?_
  refine r_lload (pc := 462) dX4_moment_462 7 rfl ?_
  refine r_iload (pc := 464) dX4_moment_464 13 rfl ?_
  refine r_iconst (pc := 466) (v := 1) dX4_moment_466 (by decide) ?_
  refine r_iand (pc := 467) dX4_moment_467 ?_
  refine r_iconst (pc := 468) (v := 1) dX4_moment_468 (by decide) ?_
  refine r_icmp_ne (pc := 469) (tgt := 477) dX4_moment_469 (by decide) h (fun e469 h => ?_) (fun e469 h => ?_)
  · refine r_lconst (pc := 477) (v := 0) dX4_moment_477 (by decide) ?_
    exact r_sub (env' := [(0, vr v0), (1, vi v1), (2, vi v2), (3, vj v3), (5, vj v5), (7, vj v7), (9, vj (k0 ||| k1)), (13, vj v13), (15, vi v15), (16, vi v16), (17, vi v17), (18, vj v18), (22, vi v22)]) [1, 2, 3, 4, 5, 6, 0, 8, 9, 10, 11, 12, 13] rfl (sX4_moment_478 hk202 hk260 _ _ _ _ _ _ _ _ _ _ _ _ _ _ _ _ h)
  · refine r_lload (pc := 472) dX4_moment_472 12 rfl ?_
    refine r_goto (pc := 474) (tgt := 478) dX4_moment_474 (by decide) ?_
    exact r_sub (env' := [(0, vr v0), (1, vi v1), (2, vi v2), (3, vj v3), (5, vj v5), (7, vj v7), (9, vj (k0 ||| k1)), (13, vj v13), (15, vi v15), (16, vi v16), (17, vi v17), (18, vj v18), (22, vi v22)]) [1, 2, 3, 4, 5, 6, 0, 8, 9, 10, 11, 12, 13] rfl (sX4_moment_478 hk202 hk260 _ _ _ _ _ _ _ _ _ _ _ _ _ _ _ _ h)
theorem sX4_moment_442 {st0 : Mem} {fin : Unit × Mem} {kk202 : Rf → Int32 → Int32 → Int64 → Int64 → Int64 → Int64 → Int64 → Int64 → Int32 → Mem → Option (Unit × Mem)} {kk260 : Rf → Int32 → Int32 → Int64 → Int64 → Int64 → Int64 → Int64 → Int64 → Int32 → Int32 → Int32 → Mem → Option (Unit × Mem)} (hk202 : ∀ (v0 : Rf) (v1 : Int32) (v2 : Int32) (v3 : Int64) (v5 : Int64) (v7 : Int64) (v9 : Int64) (v11 : Int64) (v13 : Int64) (v15 : Int32) (st : Mem), kk202 v0 v1 v2 v3 v5 v7 v9 v11 v13 v15 st = some fin → G (cX4_moment, "HouseClapsModel", "moment", 12, none, 23) st0 trV fin 202 [(0, vr v0), (1, vi v1), (2, vi v2), (3, vj v3), (5, vj v5), (7, vj v7), (9, vj v9), (11, vj v11), (13, vj v13), (15, vi v15)] [] st) (hk260 : ∀ (v0 : Rf) (v1 : Int32) (v2 : Int32) (v3 : Int64) (v5 : Int64) (v7 : Int64) (v9 : Int64) (v11 : Int64) (v13 : Int64) (v15 : Int32) (v16 : Int32) (v17 : Int32) (st : Mem), kk260 v0 v1 v2 v3 v5 v7 v9 v11 v13 v15 v16 v17 st = some fin → G (cX4_moment, "HouseClapsModel", "moment", 12, none, 23) st0 trV fin 260 [(0, vr v0), (1, vi v1), (2, vi v2), (3, vj v3), (5, vj v5), (7, vj v7), (9, vj v9), (11, vj v11), (13, vj v13), (15, vi v15), (16, vi v16), (17, vi v17)] [] st) (v0 : Rf) (v1 : Int32) (v2 : Int32) (v3 : Int64) (v5 : Int64) (v9 : Int64) (v11 : Int64) (v13 : Int64) (v15 : Int32) (v16 : Int32) (v17 : Int32) (v18 : Int64) (v21 : Int32) (v22 : Int32) (k0 : Int64) (k1 : Int64) (st : Mem) (h : bX4_moment_442 kk202 kk260 v0 v1 v2 v3 v5 v9 v11 v13 v15 v16 v17 v18 v21 v22 k0 k1 st = some fin) : G (cX4_moment, "HouseClapsModel", "moment", 12, none, 23) st0 trV fin 442 [(0, vr v0), (1, vi v1), (2, vi v2), (3, vj v3), (5, vj v5), (9, vj v9), (11, vj v11), (13, vj v13), (15, vi v15), (16, vi v16), (17, vi v17), (18, vj v18), (21, vi v21), (22, vi v22)] [vj k1, vj k0] st := by
  unfold bX4_moment_442 at h
  refine r_lor (pc := 442) dX4_moment_442 ?_
  refine r_lstore (pc := 443) (env' := [(7, vj (k0 ||| k1)), (0, vr v0), (1, vi v1), (2, vi v2), (3, vj v3), (5, vj v5), (9, vj v9), (11, vj v11), (13, vj v13), (15, vi v15), (16, vi v16), (17, vi v17), (18, vj v18), (21, vi v21), (22, vi v22)]) dX4_moment_443 (by decide) rfl ?_
  refine r_lload (pc := 445) dX4_moment_445 6 rfl ?_
  refine r_iload (pc := 447) dX4_moment_447 13 rfl ?_
  refine r_iconst (pc := 449) (v := 1) dX4_moment_449 (by decide) ?_
  refine r_icmp_le (pc := 450) (tgt := 458) dX4_moment_450 (by decide) h (fun e450 h => ?_) (fun e450 h => ?_)
  · refine r_lconst (pc := 458) (v := 0) dX4_moment_458 (by decide) ?_
    exact r_sub (env' := [(0, vr v0), (1, vi v1), (2, vi v2), (3, vj v3), (5, vj v5), (7, vj (k0 ||| k1)), (11, vj v11), (13, vj v13), (15, vi v15), (16, vi v16), (17, vi v17), (18, vj v18), (22, vi v22)]) [1, 2, 3, 4, 5, 0, 7, 8, 9, 10, 11, 12, 14] rfl (sX4_moment_459 hk202 hk260 _ _ _ _ _ _ _ _ _ _ _ _ _ _ _ _ h)
  · refine r_lload (pc := 453) dX4_moment_453 12 rfl ?_
    refine r_goto (pc := 455) (tgt := 459) dX4_moment_455 (by decide) ?_
    exact r_sub (env' := [(0, vr v0), (1, vi v1), (2, vi v2), (3, vj v3), (5, vj v5), (7, vj (k0 ||| k1)), (11, vj v11), (13, vj v13), (15, vi v15), (16, vi v16), (17, vi v17), (18, vj v18), (22, vi v22)]) [1, 2, 3, 4, 5, 0, 7, 8, 9, 10, 11, 12, 14] rfl (sX4_moment_459 hk202 hk260 _ _ _ _ _ _ _ _ _ _ _ _ _ _ _ _ h)
theorem sX4_moment_427 {st0 : Mem} {fin : Unit × Mem} {kk202 : Rf → Int32 → Int32 → Int64 → Int64 → Int64 → Int64 → Int64 → Int64 → Int32 → Mem → Option (Unit × Mem)} {kk260 : Rf → Int32 → Int32 → Int64 → Int64 → Int64 → Int64 → Int64 → Int64 → Int32 → Int32 → Int32 → Mem → Option (Unit × Mem)} (hk202 : ∀ (v0 : Rf) (v1 : Int32) (v2 : Int32) (v3 : Int64) (v5 : Int64) (v7 : Int64) (v9 : Int64) (v11 : Int64) (v13 : Int64) (v15 : Int32) (st : Mem), kk202 v0 v1 v2 v3 v5 v7 v9 v11 v13 v15 st = some fin → G (cX4_moment, "HouseClapsModel", "moment", 12, none, 23) st0 trV fin 202 [(0, vr v0), (1, vi v1), (2, vi v2), (3, vj v3), (5, vj v5), (7, vj v7), (9, vj v9), (11, vj v11), (13, vj v13), (15, vi v15)] [] st) (hk260 : ∀ (v0 : Rf) (v1 : Int32) (v2 : Int32) (v3 : Int64) (v5 : Int64) (v7 : Int64) (v9 : Int64) (v11 : Int64) (v13 : Int64) (v15 : Int32) (v16 : Int32) (v17 : Int32) (st : Mem), kk260 v0 v1 v2 v3 v5 v7 v9 v11 v13 v15 v16 v17 st = some fin → G (cX4_moment, "HouseClapsModel", "moment", 12, none, 23) st0 trV fin 260 [(0, vr v0), (1, vi v1), (2, vi v2), (3, vj v3), (5, vj v5), (7, vj v7), (9, vj v9), (11, vj v11), (13, vj v13), (15, vi v15), (16, vi v16), (17, vi v17)] [] st) (v0 : Rf) (v1 : Int32) (v2 : Int32) (v3 : Int64) (v5 : Int64) (v7 : Int64) (v9 : Int64) (v11 : Int64) (v13 : Int64) (v15 : Int32) (v16 : Int32) (v17 : Int32) (v18 : Int64) (v21 : Int32) (k0 : Int32) (st : Mem) (h : bX4_moment_427 kk202 kk260 v0 v1 v2 v3 v5 v7 v9 v11 v13 v15 v16 v17 v18 v21 k0 st = some fin) : G (cX4_moment, "HouseClapsModel", "moment", 12, none, 23) st0 trV fin 427 [(0, vr v0), (1, vi v1), (2, vi v2), (3, vj v3), (5, vj v5), (7, vj v7), (9, vj v9), (11, vj v11), (13, vj v13), (15, vi v15), (16, vi v16), (17, vi v17), (18, vj v18), (21, vi v21)] [vi k0] st := by
  unfold bX4_moment_427 at h
  refine r_istore (pc := 427) (env' := [(22, vi k0), (0, vr v0), (1, vi v1), (2, vi v2), (3, vj v3), (5, vj v5), (7, vj v7), (9, vj v9), (11, vj v11), (13, vj v13), (15, vi v15), (16, vi v16), (17, vi v17), (18, vj v18), (21, vi v21)]) dX4_moment_427 (by decide) rfl ?_
  refine r_lload (pc := 429) dX4_moment_429 6 rfl ?_
  refine r_iload (pc := 431) dX4_moment_431 14 rfl ?_
  refine r_if_le (pc := 433) (tgt := 441) dX4_moment_433 (by decide) h (fun e433 h => ?_) (fun e433 h => ?_)
  · refine r_lconst (pc := 441) (v := 0) dX4_moment_441 (by decide) ?_
    exact r_sub (env' := [(0, vr v0), (1, vi v1), (2, vi v2), (3, vj v3), (5, vj v5), (9, vj v9), (11, vj v11), (13, vj v13), (15, vi v15), (16, vi v16), (17, vi v17), (18, vj v18), (21, vi v21), (22, vi k0)]) [1, 2, 3, 4, 5, 7, 8, 9, 10, 11, 12, 13, 14, 0] rfl (sX4_moment_442 hk202 hk260 _ _ _ _ _ _ _ _ _ _ _ _ _ _ _ _ _ h)
  · refine r_lload (pc := 436) dX4_moment_436 13 rfl ?_
    refine r_goto (pc := 438) (tgt := 442) dX4_moment_438 (by decide) ?_
    exact r_sub (env' := [(0, vr v0), (1, vi v1), (2, vi v2), (3, vj v3), (5, vj v5), (9, vj v9), (11, vj v11), (13, vj v13), (15, vi v15), (16, vi v16), (17, vi v17), (18, vj v18), (21, vi v21), (22, vi k0)]) [1, 2, 3, 4, 5, 7, 8, 9, 10, 11, 12, 13, 14, 0] rfl (sX4_moment_442 hk202 hk260 _ _ _ _ _ _ _ _ _ _ _ _ _ _ _ _ _ h)
theorem sX4_moment_401 {st0 : Mem} {fin : Unit × Mem} {kk202 : Rf → Int32 → Int32 → Int64 → Int64 → Int64 → Int64 → Int64 → Int64 → Int32 → Mem → Option (Unit × Mem)} {kk260 : Rf → Int32 → Int32 → Int64 → Int64 → Int64 → Int64 → Int64 → Int64 → Int32 → Int32 → Int32 → Mem → Option (Unit × Mem)} (hk202 : ∀ (v0 : Rf) (v1 : Int32) (v2 : Int32) (v3 : Int64) (v5 : Int64) (v7 : Int64) (v9 : Int64) (v11 : Int64) (v13 : Int64) (v15 : Int32) (st : Mem), kk202 v0 v1 v2 v3 v5 v7 v9 v11 v13 v15 st = some fin → G (cX4_moment, "HouseClapsModel", "moment", 12, none, 23) st0 trV fin 202 [(0, vr v0), (1, vi v1), (2, vi v2), (3, vj v3), (5, vj v5), (7, vj v7), (9, vj v9), (11, vj v11), (13, vj v13), (15, vi v15)] [] st) (hk260 : ∀ (v0 : Rf) (v1 : Int32) (v2 : Int32) (v3 : Int64) (v5 : Int64) (v7 : Int64) (v9 : Int64) (v11 : Int64) (v13 : Int64) (v15 : Int32) (v16 : Int32) (v17 : Int32) (st : Mem), kk260 v0 v1 v2 v3 v5 v7 v9 v11 v13 v15 v16 v17 st = some fin → G (cX4_moment, "HouseClapsModel", "moment", 12, none, 23) st0 trV fin 260 [(0, vr v0), (1, vi v1), (2, vi v2), (3, vj v3), (5, vj v5), (7, vj v7), (9, vj v9), (11, vj v11), (13, vj v13), (15, vi v15), (16, vi v16), (17, vi v17)] [] st) (v0 : Rf) (v1 : Int32) (v2 : Int32) (v3 : Int64) (v5 : Int64) (v7 : Int64) (v9 : Int64) (v11 : Int64) (v13 : Int64) (v15 : Int32) (v16 : Int32) (v17 : Int32) (v18 : Int64) (v21 : Int32) (st : Mem) (h : bX4_moment_401 kk202 kk260 v0 v1 v2 v3 v5 v7 v9 v11 v13 v15 v16 v17 v18 v21 st = some fin) : G (cX4_moment, "HouseClapsModel", "moment", 12, none, 23) st0 trV fin 401 [(0, vr v0), (1, vi v1), (2, vi v2), (3, vj v3), (5, vj v5), (7, vj v7), (9, vj v9), (11, vj v11), (13, vj v13), (15, vi v15), (16, vi v16), (17, vi v17), (18, vj v18), (21, vi v21)] [] st := by
  unfold bX4_moment_401 at h
  refine r_iconst (pc := 401) (v := 0) dX4_moment_401 (by decide) ?_
  refine r_goto (pc := 402) (tgt := 427) dX4_moment_402 (by decide) ?_
  exact sX4_moment_427 hk202 hk260 _ _ _ _ _ _ _ _ _ _ _ _ _ _ _ _ h
theorem sX4_moment_390 {st0 : Mem} {fin : Unit × Mem} {kk202 : Rf → Int32 → Int32 → Int64 → Int64 → Int64 → Int64 → Int64 → Int64 → Int32 → Mem → Option (Unit × Mem)} {kk260 : Rf → Int32 → Int32 → Int64 → Int64 → Int64 → Int64 → Int64 → Int64 → Int32 → Int32 → Int32 → Mem → Option (Unit × Mem)} (hk202 : ∀ (v0 : Rf) (v1 : Int32) (v2 : Int32) (v3 : Int64) (v5 : Int64) (v7 : Int64) (v9 : Int64) (v11 : Int64) (v13 : Int64) (v15 : Int32) (st : Mem), kk202 v0 v1 v2 v3 v5 v7 v9 v11 v13 v15 st = some fin → G (cX4_moment, "HouseClapsModel", "moment", 12, none, 23) st0 trV fin 202 [(0, vr v0), (1, vi v1), (2, vi v2), (3, vj v3), (5, vj v5), (7, vj v7), (9, vj v9), (11, vj v11), (13, vj v13), (15, vi v15)] [] st) (hk260 : ∀ (v0 : Rf) (v1 : Int32) (v2 : Int32) (v3 : Int64) (v5 : Int64) (v7 : Int64) (v9 : Int64) (v11 : Int64) (v13 : Int64) (v15 : Int32) (v16 : Int32) (v17 : Int32) (st : Mem), kk260 v0 v1 v2 v3 v5 v7 v9 v11 v13 v15 v16 v17 st = some fin → G (cX4_moment, "HouseClapsModel", "moment", 12, none, 23) st0 trV fin 260 [(0, vr v0), (1, vi v1), (2, vi v2), (3, vj v3), (5, vj v5), (7, vj v7), (9, vj v9), (11, vj v11), (13, vj v13), (15, vi v15), (16, vi v16), (17, vi v17)] [] st) (v0 : Rf) (v1 : Int32) (v2 : Int32) (v3 : Int64) (v5 : Int64) (v7 : Int64) (v9 : Int64) (v11 : Int64) (v13 : Int64) (v15 : Int32) (v16 : Int32) (v17 : Int32) (v18 : Int64) (v20 : Int32) (v21 : Int32) (st : Mem) (h : bX4_moment_390 kk202 kk260 v0 v1 v2 v3 v5 v7 v9 v11 v13 v15 v16 v17 v18 v20 v21 st = some fin) : G (cX4_moment, "HouseClapsModel", "moment", 12, none, 23) st0 trV fin 390 [(0, vr v0), (1, vi v1), (2, vi v2), (3, vj v3), (5, vj v5), (7, vj v7), (9, vj v9), (11, vj v11), (13, vj v13), (15, vi v15), (16, vi v16), (17, vi v17), (18, vj v18), (20, vi v20), (21, vi v21)] [] st := by
  unfold bX4_moment_390 at h
  refine r_iload_n (pc := 390) dX4_moment_390 1 rfl rfl ?_
  refine r_if_eq (pc := 391) (tgt := 401) dX4_moment_391 (by decide) h (fun e391 h => ?_) (fun e391 h => ?_)
  · exact r_sub (env' := [(0, vr v0), (1, vi v1), (2, vi v2), (3, vj v3), (5, vj v5), (7, vj v7), (9, vj v9), (11, vj v11), (13, vj v13), (15, vi v15), (16, vi v16), (17, vi v17), (18, vj v18), (21, vi v21)]) [0, 1, 2, 3, 4, 5, 6, 7, 8, 9, 10, 11, 12, 14] rfl (sX4_moment_401 hk202 hk260 _ _ _ _ _ _ _ _ _ _ _ _ _ _ _ h)
  · refine r_iload (pc := 394) dX4_moment_394 14 rfl ?_
    refine r_iload (pc := 396) dX4_moment_396 13 rfl ?_
    refine r_icmp_eq (pc := 398) (tgt := 405) dX4_moment_398 (by decide) h (fun e398 h => ?_) (fun e398 h => ?_)
    · refine r_aload_n (pc := 405) dX4_moment_405 0 rfl rfl ?_
      refine r_iload (pc := 406) dX4_moment_406 11 rfl ?_
      refine r_callI (pc := 408) (rest := []) (lkV dX4_moment_408 q2120 xd_X4_heldOf (vc_of vt_X4_heldOf q2122 (fun _ => sX4_heldOf)) adx_X4_heldOf) (by decide) (Nat.le_of_ble_eq_true rfl) rfl h (fun x408 st e408 h => ?_)
      refine r_iconst (pc := 411) (v := 3) dX4_moment_411 (by decide) ?_
      refine r_icmp_ge (pc := 412) (tgt := 426) dX4_moment_412 (by decide) h (fun e412 h => ?_) (fun e412 h => ?_)
      · refine r_iconst (pc := 426) (v := 3) dX4_moment_426 (by decide) ?_
        exact r_sub (env' := [(0, vr v0), (1, vi v1), (2, vi v2), (3, vj v3), (5, vj v5), (7, vj v7), (9, vj v9), (11, vj v11), (13, vj v13), (15, vi v15), (16, vi v16), (17, vi v17), (18, vj v18), (21, vi v21)]) [0, 1, 2, 3, 4, 5, 6, 7, 8, 9, 10, 11, 12, 14] rfl (sX4_moment_427 hk202 hk260 _ _ _ _ _ _ _ _ _ _ _ _ _ _ _ _ h)
      · refine r_aload_n (pc := 415) dX4_moment_415 0 rfl rfl ?_
        refine r_iload (pc := 416) dX4_moment_416 11 rfl ?_
        refine r_callI (pc := 418) (rest := []) (lkV dX4_moment_418 q2120 xd_X4_heldOf (vc_of vt_X4_heldOf q2122 (fun _ => sX4_heldOf)) adx_X4_heldOf) (by decide) (Nat.le_of_ble_eq_true rfl) rfl h (fun x418 st e418 h => ?_)
        refine r_iconst (pc := 421) (v := 1) dX4_moment_421 (by decide) ?_
        refine r_iadd (pc := 422) dX4_moment_422 ?_
        refine r_goto (pc := 423) (tgt := 427) dX4_moment_423 (by decide) ?_
        exact r_sub (env' := [(0, vr v0), (1, vi v1), (2, vi v2), (3, vj v3), (5, vj v5), (7, vj v7), (9, vj v9), (11, vj v11), (13, vj v13), (15, vi v15), (16, vi v16), (17, vi v17), (18, vj v18), (21, vi v21)]) [0, 1, 2, 3, 4, 5, 6, 7, 8, 9, 10, 11, 12, 14] rfl (sX4_moment_427 hk202 hk260 _ _ _ _ _ _ _ _ _ _ _ _ _ _ _ _ h)
    · exact r_sub (env' := [(0, vr v0), (1, vi v1), (2, vi v2), (3, vj v3), (5, vj v5), (7, vj v7), (9, vj v9), (11, vj v11), (13, vj v13), (15, vi v15), (16, vi v16), (17, vi v17), (18, vj v18), (21, vi v21)]) [0, 1, 2, 3, 4, 5, 6, 7, 8, 9, 10, 11, 12, 14] rfl (sX4_moment_401 hk202 hk260 _ _ _ _ _ _ _ _ _ _ _ _ _ _ _ h)
theorem sX4_moment_323 {st0 : Mem} {fin : Unit × Mem} {kk202 : Rf → Int32 → Int32 → Int64 → Int64 → Int64 → Int64 → Int64 → Int64 → Int32 → Mem → Option (Unit × Mem)} {kk260 : Rf → Int32 → Int32 → Int64 → Int64 → Int64 → Int64 → Int64 → Int64 → Int32 → Int32 → Int32 → Mem → Option (Unit × Mem)} (hk202 : ∀ (v0 : Rf) (v1 : Int32) (v2 : Int32) (v3 : Int64) (v5 : Int64) (v7 : Int64) (v9 : Int64) (v11 : Int64) (v13 : Int64) (v15 : Int32) (st : Mem), kk202 v0 v1 v2 v3 v5 v7 v9 v11 v13 v15 st = some fin → G (cX4_moment, "HouseClapsModel", "moment", 12, none, 23) st0 trV fin 202 [(0, vr v0), (1, vi v1), (2, vi v2), (3, vj v3), (5, vj v5), (7, vj v7), (9, vj v9), (11, vj v11), (13, vj v13), (15, vi v15)] [] st) (hk260 : ∀ (v0 : Rf) (v1 : Int32) (v2 : Int32) (v3 : Int64) (v5 : Int64) (v7 : Int64) (v9 : Int64) (v11 : Int64) (v13 : Int64) (v15 : Int32) (v16 : Int32) (v17 : Int32) (st : Mem), kk260 v0 v1 v2 v3 v5 v7 v9 v11 v13 v15 v16 v17 st = some fin → G (cX4_moment, "HouseClapsModel", "moment", 12, none, 23) st0 trV fin 260 [(0, vr v0), (1, vi v1), (2, vi v2), (3, vj v3), (5, vj v5), (7, vj v7), (9, vj v9), (11, vj v11), (13, vj v13), (15, vi v15), (16, vi v16), (17, vi v17)] [] st) (v0 : Rf) (v1 : Int32) (v2 : Int32) (v3 : Int64) (v5 : Int64) (v7 : Int64) (v9 : Int64) (v11 : Int64) (v13 : Int64) (v15 : Int32) (v16 : Int32) (v17 : Int32) (v18 : Int64) (v20 : Int32) (st : Mem) (h : bX4_moment_323 kk202 kk260 v0 v1 v2 v3 v5 v7 v9 v11 v13 v15 v16 v17 v18 v20 st = some fin) : G (cX4_moment, "HouseClapsModel", "moment", 12, none, 23) st0 trV fin 323 [(0, vr v0), (1, vi v1), (2, vi v2), (3, vj v3), (5, vj v5), (7, vj v7), (9, vj v9), (11, vj v11), (13, vj v13), (15, vi v15), (16, vi v16), (17, vi v17), (18, vj v18), (20, vi v20)] [] st := by
  unfold bX4_moment_323 at h
  refine r_iconst (pc := 323) (v := 0) dX4_moment_323 (by decide) ?_
  refine r_istore (pc := 324) (env' := [(21, vi (0 : Int32)), (0, vr v0), (1, vi v1), (2, vi v2), (3, vj v3), (5, vj v5), (7, vj v7), (9, vj v9), (11, vj v11), (13, vj v13), (15, vi v15), (16, vi v16), (17, vi v17), (18, vj v18), (20, vi v20)]) dX4_moment_324 (by decide) rfl ?_
  refine r_goto (pc := 326) (tgt := 390) dX4_moment_326 (by decide) ?_
  exact r_sub (env' := [(0, vr v0), (1, vi v1), (2, vi v2), (3, vj v3), (5, vj v5), (7, vj v7), (9, vj v9), (11, vj v11), (13, vj v13), (15, vi v15), (16, vi v16), (17, vi v17), (18, vj v18), (20, vi v20), (21, vi (0 : Int32))]) [1, 2, 3, 4, 5, 6, 7, 8, 9, 10, 11, 12, 13, 14, 0] rfl (sX4_moment_390 hk202 hk260 _ _ _ _ _ _ _ _ _ _ _ _ _ _ _ _ h)
theorem sX4_moment_365 {st0 : Mem} {fin : Unit × Mem} {kk202 : Rf → Int32 → Int32 → Int64 → Int64 → Int64 → Int64 → Int64 → Int64 → Int32 → Mem → Option (Unit × Mem)} {kk260 : Rf → Int32 → Int32 → Int64 → Int64 → Int64 → Int64 → Int64 → Int64 → Int32 → Int32 → Int32 → Mem → Option (Unit × Mem)} (hk202 : ∀ (v0 : Rf) (v1 : Int32) (v2 : Int32) (v3 : Int64) (v5 : Int64) (v7 : Int64) (v9 : Int64) (v11 : Int64) (v13 : Int64) (v15 : Int32) (st : Mem), kk202 v0 v1 v2 v3 v5 v7 v9 v11 v13 v15 st = some fin → G (cX4_moment, "HouseClapsModel", "moment", 12, none, 23) st0 trV fin 202 [(0, vr v0), (1, vi v1), (2, vi v2), (3, vj v3), (5, vj v5), (7, vj v7), (9, vj v9), (11, vj v11), (13, vj v13), (15, vi v15)] [] st) (hk260 : ∀ (v0 : Rf) (v1 : Int32) (v2 : Int32) (v3 : Int64) (v5 : Int64) (v7 : Int64) (v9 : Int64) (v11 : Int64) (v13 : Int64) (v15 : Int32) (v16 : Int32) (v17 : Int32) (st : Mem), kk260 v0 v1 v2 v3 v5 v7 v9 v11 v13 v15 v16 v17 st = some fin → G (cX4_moment, "HouseClapsModel", "moment", 12, none, 23) st0 trV fin 260 [(0, vr v0), (1, vi v1), (2, vi v2), (3, vj v3), (5, vj v5), (7, vj v7), (9, vj v9), (11, vj v11), (13, vj v13), (15, vi v15), (16, vi v16), (17, vi v17)] [] st) (v0 : Rf) (v1 : Int32) (v2 : Int32) (v3 : Int64) (v5 : Int64) (v7 : Int64) (v9 : Int64) (v11 : Int64) (v13 : Int64) (v15 : Int32) (v16 : Int32) (v17 : Int32) (v18 : Int64) (v20 : Int32) (st : Mem) (h : bX4_moment_365 kk202 kk260 v0 v1 v2 v3 v5 v7 v9 v11 v13 v15 v16 v17 v18 v20 st = some fin) : G (cX4_moment, "HouseClapsModel", "moment", 12, none, 23) st0 trV fin 365 [(0, vr v0), (1, vi v1), (2, vi v2), (3, vj v3), (5, vj v5), (7, vj v7), (9, vj v9), (11, vj v11), (13, vj v13), (15, vi v15), (16, vi v16), (17, vi v17), (18, vj v18), (20, vi v20)] [] st := by
  unfold bX4_moment_365 at h
  refine r_iconst (pc := 365) (v := 0) dX4_moment_365 (by decide) ?_
  refine r_istore (pc := 366) (env' := [(21, vi (0 : Int32)), (0, vr v0), (1, vi v1), (2, vi v2), (3, vj v3), (5, vj v5), (7, vj v7), (9, vj v9), (11, vj v11), (13, vj v13), (15, vi v15), (16, vi v16), (17, vi v17), (18, vj v18), (20, vi v20)]) dX4_moment_366 (by decide) rfl ?_
  refine r_goto (pc := 368) (tgt := 390) dX4_moment_368 (by decide) ?_
  exact r_sub (env' := [(0, vr v0), (1, vi v1), (2, vi v2), (3, vj v3), (5, vj v5), (7, vj v7), (9, vj v9), (11, vj v11), (13, vj v13), (15, vi v15), (16, vi v16), (17, vi v17), (18, vj v18), (20, vi v20), (21, vi (0 : Int32))]) [1, 2, 3, 4, 5, 6, 7, 8, 9, 10, 11, 12, 13, 14, 0] rfl (sX4_moment_390 hk202 hk260 _ _ _ _ _ _ _ _ _ _ _ _ _ _ _ _ h)
theorem sX4_moment_357 {st0 : Mem} {fin : Unit × Mem} {kk202 : Rf → Int32 → Int32 → Int64 → Int64 → Int64 → Int64 → Int64 → Int64 → Int32 → Mem → Option (Unit × Mem)} {kk260 : Rf → Int32 → Int32 → Int64 → Int64 → Int64 → Int64 → Int64 → Int64 → Int32 → Int32 → Int32 → Mem → Option (Unit × Mem)} (hk202 : ∀ (v0 : Rf) (v1 : Int32) (v2 : Int32) (v3 : Int64) (v5 : Int64) (v7 : Int64) (v9 : Int64) (v11 : Int64) (v13 : Int64) (v15 : Int32) (st : Mem), kk202 v0 v1 v2 v3 v5 v7 v9 v11 v13 v15 st = some fin → G (cX4_moment, "HouseClapsModel", "moment", 12, none, 23) st0 trV fin 202 [(0, vr v0), (1, vi v1), (2, vi v2), (3, vj v3), (5, vj v5), (7, vj v7), (9, vj v9), (11, vj v11), (13, vj v13), (15, vi v15)] [] st) (hk260 : ∀ (v0 : Rf) (v1 : Int32) (v2 : Int32) (v3 : Int64) (v5 : Int64) (v7 : Int64) (v9 : Int64) (v11 : Int64) (v13 : Int64) (v15 : Int32) (v16 : Int32) (v17 : Int32) (st : Mem), kk260 v0 v1 v2 v3 v5 v7 v9 v11 v13 v15 v16 v17 st = some fin → G (cX4_moment, "HouseClapsModel", "moment", 12, none, 23) st0 trV fin 260 [(0, vr v0), (1, vi v1), (2, vi v2), (3, vj v3), (5, vj v5), (7, vj v7), (9, vj v9), (11, vj v11), (13, vj v13), (15, vi v15), (16, vi v16), (17, vi v17)] [] st) (v0 : Rf) (v1 : Int32) (v2 : Int32) (v3 : Int64) (v5 : Int64) (v7 : Int64) (v9 : Int64) (v11 : Int64) (v13 : Int64) (v15 : Int32) (v16 : Int32) (v17 : Int32) (v18 : Int64) (v20 : Int32) (st : Mem) (h : bX4_moment_357 kk202 kk260 v0 v1 v2 v3 v5 v7 v9 v11 v13 v15 v16 v17 v18 v20 st = some fin) : G (cX4_moment, "HouseClapsModel", "moment", 12, none, 23) st0 trV fin 357 [(0, vr v0), (1, vi v1), (2, vi v2), (3, vj v3), (5, vj v5), (7, vj v7), (9, vj v9), (11, vj v11), (13, vj v13), (15, vi v15), (16, vi v16), (17, vi v17), (18, vj v18), (20, vi v20)] [] st := by
  unfold bX4_moment_357 at h
  refine r_iload_n (pc := 357) dX4_moment_357 2 rfl rfl ?_
  refine r_if_ne (pc := 358) (tgt := 365) dX4_moment_358 (by decide) h (fun e358 h => ?_) (fun e358 h => ?_)
  · exact sX4_moment_365 hk202 hk260 _ _ _ _ _ _ _ _ _ _ _ _ _ _ _ h
  · refine r_iload_n (pc := 361) dX4_moment_361 1 rfl rfl ?_
    refine r_if_ne (pc := 362) (tgt := 371) dX4_moment_362 (by decide) h (fun e362 h => ?_) (fun e362 h => ?_)
    · refine r_aload_n (pc := 371) dX4_moment_371 0 rfl rfl ?_
      refine r_iload (pc := 372) dX4_moment_372 11 rfl ?_
      refine r_lload_n (pc := 374) dX4_moment_374 3 rfl rfl ?_
      refine r_lload (pc := 375) dX4_moment_375 4 rfl ?_
      refine r_iload (pc := 377) dX4_moment_377 13 rfl ?_
      refine r_aload_n (pc := 379) dX4_moment_379 0 rfl rfl ?_
      refine r_iload (pc := 380) dX4_moment_380 11 rfl ?_
      refine r_callI (pc := 382) (rest := [vi v20, vj v5, vj v3, vi v17, vr v0]) (lkV dX4_moment_382 q2120 xd_X4_heldOf (vc_of vt_X4_heldOf q2122 (fun _ => sX4_heldOf)) adx_X4_heldOf) (by decide) (Nat.le_of_ble_eq_true rfl) rfl h (fun x382 st e382 h => ?_)
      refine r_callI (pc := 385) (rest := []) (lkV dX4_moment_385 q2124 xd_X4_lawLevel (vc_of vt_X4_lawLevel q2126 (fun _ => sX4_lawLevel)) adx_X4_lawLevel) (by decide) (Nat.le_of_ble_eq_true rfl) rfl h (fun x385 st e385 h => ?_)
      refine r_istore (pc := 388) (env' := [(21, vi x385), (0, vr v0), (1, vi v1), (2, vi v2), (3, vj v3), (5, vj v5), (7, vj v7), (9, vj v9), (11, vj v11), (13, vj v13), (15, vi v15), (16, vi v16), (17, vi v17), (18, vj v18), (20, vi v20)]) dX4_moment_388 (by decide) rfl ?_
      exact r_sub (env' := [(0, vr v0), (1, vi v1), (2, vi v2), (3, vj v3), (5, vj v5), (7, vj v7), (9, vj v9), (11, vj v11), (13, vj v13), (15, vi v15), (16, vi v16), (17, vi v17), (18, vj v18), (20, vi v20), (21, vi x385)]) [1, 2, 3, 4, 5, 6, 7, 8, 9, 10, 11, 12, 13, 14, 0] rfl (sX4_moment_390 hk202 hk260 _ _ _ _ _ _ _ _ _ _ _ _ _ _ _ _ h)
    · exact sX4_moment_365 hk202 hk260 _ _ _ _ _ _ _ _ _ _ _ _ _ _ _ h
theorem sX4_moment_260B {st0 : Mem} {fin : Unit × Mem} {kk202 : Rf → Int32 → Int32 → Int64 → Int64 → Int64 → Int64 → Int64 → Int64 → Int32 → Mem → Option (Unit × Mem)} {kk260 : Rf → Int32 → Int32 → Int64 → Int64 → Int64 → Int64 → Int64 → Int64 → Int32 → Int32 → Int32 → Mem → Option (Unit × Mem)} (hk202 : ∀ (v0 : Rf) (v1 : Int32) (v2 : Int32) (v3 : Int64) (v5 : Int64) (v7 : Int64) (v9 : Int64) (v11 : Int64) (v13 : Int64) (v15 : Int32) (st : Mem), kk202 v0 v1 v2 v3 v5 v7 v9 v11 v13 v15 st = some fin → G (cX4_moment, "HouseClapsModel", "moment", 12, none, 23) st0 trV fin 202 [(0, vr v0), (1, vi v1), (2, vi v2), (3, vj v3), (5, vj v5), (7, vj v7), (9, vj v9), (11, vj v11), (13, vj v13), (15, vi v15)] [] st) (hk260 : ∀ (v0 : Rf) (v1 : Int32) (v2 : Int32) (v3 : Int64) (v5 : Int64) (v7 : Int64) (v9 : Int64) (v11 : Int64) (v13 : Int64) (v15 : Int32) (v16 : Int32) (v17 : Int32) (st : Mem), kk260 v0 v1 v2 v3 v5 v7 v9 v11 v13 v15 v16 v17 st = some fin → G (cX4_moment, "HouseClapsModel", "moment", 12, none, 23) st0 trV fin 260 [(0, vr v0), (1, vi v1), (2, vi v2), (3, vj v3), (5, vj v5), (7, vj v7), (9, vj v9), (11, vj v11), (13, vj v13), (15, vi v15), (16, vi v16), (17, vi v17)] [] st) (v0 : Rf) (v1 : Int32) (v2 : Int32) (v3 : Int64) (v5 : Int64) (v7 : Int64) (v9 : Int64) (v11 : Int64) (v13 : Int64) (v15 : Int32) (v16 : Int32) (v17 : Int32) (st : Mem) (h : bX4_moment_260B kk202 kk260 v0 v1 v2 v3 v5 v7 v9 v11 v13 v15 v16 v17 st = some fin) : G (cX4_moment, "HouseClapsModel", "moment", 12, none, 23) st0 trV fin 260 [(0, vr v0), (1, vi v1), (2, vi v2), (3, vj v3), (5, vj v5), (7, vj v7), (9, vj v9), (11, vj v11), (13, vj v13), (15, vi v15), (16, vi v16), (17, vi v17)] [] st := by
  unfold bX4_moment_260B at h
  refine r_iload (pc := 260) dX4_moment_260 11 rfl ?_
  refine r_aload_n (pc := 262) dX4_moment_262 0 rfl rfl ?_
  refine r_gA (pc := 263) dX4_moment_263 q1704 fd_61 same_rf h (fun x263 e263 h => ?_)
  refine r_iconst (pc := 266) (v := 1) dX4_moment_266 (by decide) ?_
  refine r_iaload (pc := 267) dX4_moment_267 h (fun x267 e267 h => ?_)
  refine r_iload (pc := 268) dX4_moment_268 9 rfl ?_
  refine r_iconst (pc := 270) (v := 1) dX4_moment_270 (by decide) ?_
  refine r_iadd (pc := 271) dX4_moment_271 ?_
  refine r_imul (pc := 272) dX4_moment_272 ?_
  refine r_icmp_ge (pc := 273) (tgt := 504) dX4_moment_273 (by decide) h (fun e273 h => ?_) (fun e273 h => ?_)
  · refine r_aload_n (pc := 504) dX4_moment_504 0 rfl rfl ?_
    refine r_gA (pc := 505) dX4_moment_505 q1704 fd_61 same_rf h (fun x505 e505 h => ?_)
    refine r_iconst (pc := 508) (v := 5) dX4_moment_508 (by decide) ?_
    refine r_iaload (pc := 509) dX4_moment_509 h (fun x509 e509 h => ?_)
    refine r_if_ne (pc := 510) (tgt := 516) dX4_moment_510 (by decide) h (fun e510 h => ?_) (fun e510 h => ?_)
    · refine r_aload_n (pc := 516) dX4_moment_516 0 rfl rfl ?_
      refine r_gA (pc := 517) dX4_moment_517 q1704 fd_61 same_rf h (fun x517 e517 h => ?_)
      refine r_iconst (pc := 520) (v := 1) dX4_moment_520 (by decide) ?_
      refine r_iaload (pc := 521) dX4_moment_521 h (fun x521 e521 h => ?_)
      refine r_iload (pc := 522) dX4_moment_522 9 rfl ?_
      refine r_iconst (pc := 524) (v := 1) dX4_moment_524 (by decide) ?_
      refine r_iadd (pc := 525) dX4_moment_525 ?_
      refine r_imul (pc := 526) dX4_moment_526 ?_
      refine r_nameI h (fun y527 e527 h => ?_)
      refine r_istore (pc := 527) (env' := [(17, vi y527), (0, vr v0), (1, vi v1), (2, vi v2), (3, vj v3), (5, vj v5), (7, vj v7), (9, vj v9), (11, vj v11), (13, vj v13), (15, vi v15), (16, vi v16)]) dX4_moment_527 (by decide) rfl ?_
      refine r_iload (pc := 529) dX4_moment_529 0 rfl ?_
      refine r_bipush (pc := 531) (v := 64) dX4_moment_531 (by decide) ?_
      refine r_icmp_ne (pc := 533) (tgt := 542) dX4_moment_533 (by decide) h (fun e533 h => ?_) (fun e533 h => ?_)
      · refine r_lconst (pc := 542) (v := 1) dX4_moment_542 (by decide) ?_
        refine r_iload (pc := 543) dX4_moment_543 0 rfl ?_
        refine r_lshl (pc := 545) dX4_moment_545 ?_
        refine r_lconst (pc := 546) (v := 1) dX4_moment_546 (by decide) ?_
        refine r_lsub (pc := 547) dX4_moment_547 ?_
        exact r_sub (env' := [(0, vr v0), (1, vi v1), (2, vi v2), (7, vj v7), (9, vj v9), (11, vj v11), (13, vj v13), (15, vi v15)]) [1, 2, 3, 6, 7, 8, 9, 10] rfl (sX4_moment_548 hk202 _ _ _ _ _ _ _ _ _ _ h)
      · refine r_ldc2 (pc := 536) dX4_moment_536 q2063 ?_
        refine r_goto (pc := 539) (tgt := 548) dX4_moment_539 (by decide) ?_
        exact r_sub (env' := [(0, vr v0), (1, vi v1), (2, vi v2), (7, vj v7), (9, vj v9), (11, vj v11), (13, vj v13), (15, vi v15)]) [1, 2, 3, 6, 7, 8, 9, 10] rfl (sX4_moment_548 hk202 _ _ _ _ _ _ _ _ _ _ h)
    · refine r_goto (pc := 513) (tgt := 587) dX4_moment_513 (by decide) ?_
      exact r_sub (env' := [(0, vr v0), (1, vi v1), (2, vi v2), (3, vj v3), (5, vj v5), (7, vj v7), (9, vj v9), (11, vj v11), (13, vj v13), (15, vi v15)]) [0, 1, 2, 3, 4, 5, 6, 7, 8, 9] rfl (sX4_moment_587 hk202 _ _ _ _ _ _ _ _ _ _ _ h)
  · refine r_aload_n (pc := 276) dX4_moment_276 0 rfl rfl ?_
    refine r_gA (pc := 277) dX4_moment_277 q1704 fd_61 same_rf h (fun x277 e277 h => ?_)
    refine r_bipush (pc := 280) (v := 6) dX4_moment_280 (by decide) ?_
    refine r_iload (pc := 282) dX4_moment_282 11 rfl ?_
    refine r_iadd (pc := 284) dX4_moment_284 ?_
    refine r_iaload (pc := 285) dX4_moment_285 h (fun x285 e285 h => ?_)
    refine r_if_ne (pc := 286) (tgt := 292) dX4_moment_286 (by decide) h (fun e286 h => ?_) (fun e286 h => ?_)
    · refine r_lconst (pc := 292) (v := 1) dX4_moment_292 (by decide) ?_
      refine r_iload (pc := 293) dX4_moment_293 11 rfl ?_
      refine r_lshl (pc := 295) dX4_moment_295 ?_
      refine r_lstore (pc := 296) (env' := [(18, vj (shlL (1 : Int64) v17)), (0, vr v0), (1, vi v1), (2, vi v2), (3, vj v3), (5, vj v5), (7, vj v7), (9, vj v9), (11, vj v11), (13, vj v13), (15, vi v15), (16, vi v16), (17, vi v17)]) dX4_moment_296 (by decide) rfl ?_
      refine r_aload_n (pc := 298) dX4_moment_298 1 rfl rfl ?_
      refine r_iload (pc := 299) dX4_moment_299 12 rfl ?_
      refine r_callI (pc := 301) (rest := []) (lkV dX4_moment_301 q2116 xd_X4_levelOf (vc_of vt_X4_levelOf q2118 (fun _ => sX4_levelOf)) adx_X4_levelOf) (by decide) (Nat.le_of_ble_eq_true rfl) rfl h (fun x301 st e301 h => ?_)
      refine r_istore (pc := 304) (env' := [(20, vi x301), (18, vj (shlL (1 : Int64) v17)), (0, vr v0), (1, vi v1), (2, vi v2), (3, vj v3), (5, vj v5), (7, vj v7), (9, vj v9), (11, vj v11), (13, vj v13), (15, vi v15), (16, vi v16), (17, vi v17)]) dX4_moment_304 (by decide) rfl ?_
      refine r_iload (pc := 306) dX4_moment_306 12 rfl ?_
      refine r_if_ne (pc := 308) (tgt := 323) dX4_moment_308 (by decide) h (fun e308 h => ?_) (fun e308 h => ?_)
      · exact r_sub (env' := [(0, vr v0), (1, vi v1), (2, vi v2), (3, vj v3), (5, vj v5), (7, vj v7), (9, vj v9), (11, vj v11), (13, vj v13), (15, vi v15), (16, vi v16), (17, vi v17), (18, vj (shlL (1 : Int64) v17)), (20, vi x301)]) [2, 3, 4, 5, 6, 7, 8, 9, 10, 11, 12, 13, 1, 0] rfl (sX4_moment_323 hk202 hk260 _ _ _ _ _ _ _ _ _ _ _ _ _ _ _ h)
      · refine r_aload_n (pc := 311) dX4_moment_311 2 rfl rfl ?_
        refine r_gJ (pc := 312) dX4_moment_312 q1735 fd_92 same_rf h (fun x312 e312 h => ?_)
        refine r_lload (pc := 315) dX4_moment_315 1 rfl ?_
        refine r_land (pc := 317) dX4_moment_317 ?_
        refine r_lconst (pc := 318) (v := 0) dX4_moment_318 (by decide) ?_
        refine r_lcmp_eq (pc := 319) (tgt := 329) dX4_moment_319 dX4_moment_320 (by decide) h (fun e320 h => ?_) (fun e320 h => ?_)
        · refine r_aload_n (pc := 329) dX4_moment_329 2 rfl rfl ?_
          refine r_gJ (pc := 330) dX4_moment_330 q1734 fd_91 same_rf h (fun x330 e330 h => ?_)
          refine r_lload (pc := 333) dX4_moment_333 1 rfl ?_
          refine r_land (pc := 335) dX4_moment_335 ?_
          refine r_lconst (pc := 336) (v := 0) dX4_moment_336 (by decide) ?_
          refine r_lcmp_eq (pc := 337) (tgt := 357) dX4_moment_337 dX4_moment_338 (by decide) h (fun e338 h => ?_) (fun e338 h => ?_)
          · exact r_sub (env' := [(0, vr v0), (1, vi v1), (2, vi v2), (3, vj v3), (5, vj v5), (7, vj v7), (9, vj v9), (11, vj v11), (13, vj v13), (15, vi v15), (16, vi v16), (17, vi v17), (18, vj (shlL (1 : Int64) v17)), (20, vi x301)]) [2, 3, 4, 5, 6, 7, 8, 9, 10, 11, 12, 13, 1, 0] rfl (sX4_moment_357 hk202 hk260 _ _ _ _ _ _ _ _ _ _ _ _ _ _ _ h)
          · refine r_iload_n (pc := 341) dX4_moment_341 3 rfl rfl ?_
            refine r_aload_n (pc := 342) dX4_moment_342 2 rfl rfl ?_
            refine r_gA (pc := 343) dX4_moment_343 q1704 fd_61 same_rf h (fun x343 e343 h => ?_)
            refine r_iconst (pc := 346) (v := 4) dX4_moment_346 (by decide) ?_
            refine r_iaload (pc := 347) dX4_moment_347 h (fun x347 e347 h => ?_)
            refine r_icmp_gt (pc := 348) (tgt := 357) dX4_moment_348 (by decide) h (fun e348 h => ?_) (fun e348 h => ?_)
            · exact r_sub (env' := [(0, vr v0), (1, vi v1), (2, vi v2), (3, vj v3), (5, vj v5), (7, vj v7), (9, vj v9), (11, vj v11), (13, vj v13), (15, vi v15), (16, vi v16), (17, vi v17), (18, vj (shlL (1 : Int64) v17)), (20, vi x301)]) [2, 3, 4, 5, 6, 7, 8, 9, 10, 11, 12, 13, 1, 0] rfl (sX4_moment_357 hk202 hk260 _ _ _ _ _ _ _ _ _ _ _ _ _ _ _ h)
            · refine r_iconst (pc := 351) (v := 2) dX4_moment_351 (by decide) ?_
              refine r_istore (pc := 352) (env' := [(21, vi (2 : Int32)), (20, vi x301), (18, vj (shlL (1 : Int64) v17)), (0, vr v0), (1, vi v1), (2, vi v2), (3, vj v3), (5, vj v5), (7, vj v7), (9, vj v9), (11, vj v11), (13, vj v13), (15, vi v15), (16, vi v16), (17, vi v17)]) dX4_moment_352 (by decide) rfl ?_
              refine r_goto (pc := 354) (tgt := 390) dX4_moment_354 (by decide) ?_
              exact r_sub (env' := [(0, vr v0), (1, vi v1), (2, vi v2), (3, vj v3), (5, vj v5), (7, vj v7), (9, vj v9), (11, vj v11), (13, vj v13), (15, vi v15), (16, vi v16), (17, vi v17), (18, vj (shlL (1 : Int64) v17)), (20, vi x301), (21, vi (2 : Int32))]) [3, 4, 5, 6, 7, 8, 9, 10, 11, 12, 13, 14, 2, 1, 0] rfl (sX4_moment_390 hk202 hk260 _ _ _ _ _ _ _ _ _ _ _ _ _ _ _ _ h)
        · exact r_sub (env' := [(0, vr v0), (1, vi v1), (2, vi v2), (3, vj v3), (5, vj v5), (7, vj v7), (9, vj v9), (11, vj v11), (13, vj v13), (15, vi v15), (16, vi v16), (17, vi v17), (18, vj (shlL (1 : Int64) v17)), (20, vi x301)]) [2, 3, 4, 5, 6, 7, 8, 9, 10, 11, 12, 13, 1, 0] rfl (sX4_moment_323 hk202 hk260 _ _ _ _ _ _ _ _ _ _ _ _ _ _ _ h)
    · refine r_goto (pc := 289) (tgt := 498) dX4_moment_289 (by decide) ?_
      exact sX4_moment_498 hk202 hk260 _ _ _ _ _ _ _ _ _ _ _ _ _ h
theorem sX4_moment_260 {st0 : Mem} {fin : Unit × Mem} {kk202 : Rf → Int32 → Int32 → Int64 → Int64 → Int64 → Int64 → Int64 → Int64 → Int32 → Mem → Option (Unit × Mem)} (hk202 : ∀ (v0 : Rf) (v1 : Int32) (v2 : Int32) (v3 : Int64) (v5 : Int64) (v7 : Int64) (v9 : Int64) (v11 : Int64) (v13 : Int64) (v15 : Int32) (st : Mem), kk202 v0 v1 v2 v3 v5 v7 v9 v11 v13 v15 st = some fin → G (cX4_moment, "HouseClapsModel", "moment", 12, none, 23) st0 trV fin 202 [(0, vr v0), (1, vi v1), (2, vi v2), (3, vj v3), (5, vj v5), (7, vj v7), (9, vj v9), (11, vj v11), (13, vj v13), (15, vi v15)] [] st) (n : Nat) : ∀ (v0 : Rf) (v1 : Int32) (v2 : Int32) (v3 : Int64) (v5 : Int64) (v7 : Int64) (v9 : Int64) (v11 : Int64) (v13 : Int64) (v15 : Int32) (v16 : Int32) (v17 : Int32) (st : Mem), bX4_moment_260 kk202 n v0 v1 v2 v3 v5 v7 v9 v11 v13 v15 v16 v17 st = some fin → G (cX4_moment, "HouseClapsModel", "moment", 12, none, 23) st0 trV fin 260 [(0, vr v0), (1, vi v1), (2, vi v2), (3, vj v3), (5, vj v5), (7, vj v7), (9, vj v9), (11, vj v11), (13, vj v13), (15, vi v15), (16, vi v16), (17, vi v17)] [] st := by
  induction n with
  | zero => intro v0 v1 v2 v3 v5 v7 v9 v11 v13 v15 v16 v17 st h; cases h
  | succ n ih => intro v0 v1 v2 v3 v5 v7 v9 v11 v13 v15 v16 v17 st h; exact sX4_moment_260B hk202  ih v0 v1 v2 v3 v5 v7 v9 v11 v13 v15 v16 v17 st h
theorem sX4_moment_247 {st0 : Mem} {fin : Unit × Mem} {kk202 : Rf → Int32 → Int32 → Int64 → Int64 → Int64 → Int64 → Int64 → Int64 → Int32 → Mem → Option (Unit × Mem)} (hk202 : ∀ (v0 : Rf) (v1 : Int32) (v2 : Int32) (v3 : Int64) (v5 : Int64) (v7 : Int64) (v9 : Int64) (v11 : Int64) (v13 : Int64) (v15 : Int32) (st : Mem), kk202 v0 v1 v2 v3 v5 v7 v9 v11 v13 v15 st = some fin → G (cX4_moment, "HouseClapsModel", "moment", 12, none, 23) st0 trV fin 202 [(0, vr v0), (1, vi v1), (2, vi v2), (3, vj v3), (5, vj v5), (7, vj v7), (9, vj v9), (11, vj v11), (13, vj v13), (15, vi v15)] [] st) (v0 : Rf) (v1 : Int32) (v2 : Int32) (v3 : Int64) (v5 : Int64) (v7 : Int64) (v9 : Int64) (v11 : Int64) (v13 : Int64) (v15 : Int32) (k0 : Int32) (st : Mem) (h : bX4_moment_247 kk202 v0 v1 v2 v3 v5 v7 v9 v11 v13 v15 k0 st = some fin) : G (cX4_moment, "HouseClapsModel", "moment", 12, none, 23) st0 trV fin 247 [(0, vr v0), (1, vi v1), (2, vi v2), (3, vj v3), (5, vj v5), (7, vj v7), (9, vj v9), (11, vj v11), (13, vj v13), (15, vi v15)] [vi k0] st := by
  unfold bX4_moment_247 at h
  refine r_istore (pc := 247) (env' := [(16, vi k0), (0, vr v0), (1, vi v1), (2, vi v2), (3, vj v3), (5, vj v5), (7, vj v7), (9, vj v9), (11, vj v11), (13, vj v13), (15, vi v15)]) dX4_moment_247 (by decide) rfl ?_
  refine r_aload_n (pc := 249) dX4_moment_249 1 rfl rfl ?_
  refine r_gA (pc := 250) dX4_moment_250 q1704 fd_61 same_rf h (fun x250 e250 h => ?_)
  refine r_iconst (pc := 253) (v := 1) dX4_moment_253 (by decide) ?_
  refine r_iaload (pc := 254) dX4_moment_254 h (fun x254 e254 h => ?_)
  refine r_iload (pc := 255) dX4_moment_255 10 rfl ?_
  refine r_imul (pc := 257) dX4_moment_257 ?_
  refine r_istore (pc := 258) (env' := [(17, vi (x254 * v15)), (16, vi k0), (0, vr v0), (1, vi v1), (2, vi v2), (3, vj v3), (5, vj v5), (7, vj v7), (9, vj v9), (11, vj v11), (13, vj v13), (15, vi v15)]) dX4_moment_258 (by decide) rfl ?_
  exact r_sub (env' := [(0, vr v0), (1, vi v1), (2, vi v2), (3, vj v3), (5, vj v5), (7, vj v7), (9, vj v9), (11, vj v11), (13, vj v13), (15, vi v15), (16, vi k0), (17, vi (x254 * v15))]) [2, 3, 4, 5, 6, 7, 8, 9, 10, 11, 1, 0] rfl (sX4_moment_260 hk202 hcFuel _ _ _ _ _ _ _ _ _ _ _ _ _ h)
theorem sX4_moment_246 {st0 : Mem} {fin : Unit × Mem} {kk202 : Rf → Int32 → Int32 → Int64 → Int64 → Int64 → Int64 → Int64 → Int64 → Int32 → Mem → Option (Unit × Mem)} (hk202 : ∀ (v0 : Rf) (v1 : Int32) (v2 : Int32) (v3 : Int64) (v5 : Int64) (v7 : Int64) (v9 : Int64) (v11 : Int64) (v13 : Int64) (v15 : Int32) (st : Mem), kk202 v0 v1 v2 v3 v5 v7 v9 v11 v13 v15 st = some fin → G (cX4_moment, "HouseClapsModel", "moment", 12, none, 23) st0 trV fin 202 [(0, vr v0), (1, vi v1), (2, vi v2), (3, vj v3), (5, vj v5), (7, vj v7), (9, vj v9), (11, vj v11), (13, vj v13), (15, vi v15)] [] st) (v0 : Rf) (v1 : Int32) (v2 : Int32) (v3 : Int64) (v5 : Int64) (v7 : Int64) (v9 : Int64) (v11 : Int64) (v13 : Int64) (v15 : Int32) (st : Mem) (h : bX4_moment_246 kk202 v0 v1 v2 v3 v5 v7 v9 v11 v13 v15 st = some fin) : G (cX4_moment, "HouseClapsModel", "moment", 12, none, 23) st0 trV fin 246 [(0, vr v0), (1, vi v1), (2, vi v2), (3, vj v3), (5, vj v5), (7, vj v7), (9, vj v9), (11, vj v11), (13, vj v13), (15, vi v15)] [] st := by
  unfold bX4_moment_246 at h
  refine r_iconst (pc := 246) (v := 0) dX4_moment_246 (by decide) ?_
  exact sX4_moment_247 hk202 _ _ _ _ _ _ _ _ _ _ _ _ h
theorem sX4_moment_202B {st0 : Mem} {fin : Unit × Mem} {kk202 : Rf → Int32 → Int32 → Int64 → Int64 → Int64 → Int64 → Int64 → Int64 → Int32 → Mem → Option (Unit × Mem)} (hk202 : ∀ (v0 : Rf) (v1 : Int32) (v2 : Int32) (v3 : Int64) (v5 : Int64) (v7 : Int64) (v9 : Int64) (v11 : Int64) (v13 : Int64) (v15 : Int32) (st : Mem), kk202 v0 v1 v2 v3 v5 v7 v9 v11 v13 v15 st = some fin → G (cX4_moment, "HouseClapsModel", "moment", 12, none, 23) st0 trV fin 202 [(0, vr v0), (1, vi v1), (2, vi v2), (3, vj v3), (5, vj v5), (7, vj v7), (9, vj v9), (11, vj v11), (13, vj v13), (15, vi v15)] [] st) (v0 : Rf) (v1 : Int32) (v2 : Int32) (v3 : Int64) (v5 : Int64) (v7 : Int64) (v9 : Int64) (v11 : Int64) (v13 : Int64) (v15 : Int32) (st : Mem) (h : bX4_moment_202B kk202 v0 v1 v2 v3 v5 v7 v9 v11 v13 v15 st = some fin) : G (cX4_moment, "HouseClapsModel", "moment", 12, none, 23) st0 trV fin 202 [(0, vr v0), (1, vi v1), (2, vi v2), (3, vj v3), (5, vj v5), (7, vj v7), (9, vj v9), (11, vj v11), (13, vj v13), (15, vi v15)] [] st := by
  unfold bX4_moment_202B at h
  refine r_iload (pc := 202) dX4_moment_202 9 rfl ?_
  refine r_aload_n (pc := 204) dX4_moment_204 0 rfl rfl ?_
  refine r_gA (pc := 205) dX4_moment_205 q1704 fd_61 same_rf h (fun x205 e205 h => ?_)
  refine r_iconst (pc := 208) (v := 0) dX4_moment_208 (by decide) ?_
  refine r_iaload (pc := 209) dX4_moment_209 h (fun x209 e209 h => ?_)
  refine r_icmp_ge (pc := 210) (tgt := 593) dX4_moment_210 (by decide) h (fun e210 h => ?_) (fun e210 h => ?_)
  · refine r_aload_n (pc := 593) dX4_moment_593 0 rfl rfl ?_
    refine r_lload (pc := 594) dX4_moment_594 5 rfl ?_
    refine r_pJ (pc := 596) dX4_moment_596 q1736 fd_93 same_rf rfl h (fun st e596 h => ?_)
    refine r_aload_n (pc := 599) dX4_moment_599 0 rfl rfl ?_
    refine r_lload (pc := 600) dX4_moment_600 6 rfl ?_
    refine r_pJ (pc := 602) dX4_moment_602 q1737 fd_94 same_rf rfl h (fun st e602 h => ?_)
    refine r_aload_n (pc := 605) dX4_moment_605 0 rfl rfl ?_
    refine r_lload (pc := 606) dX4_moment_606 7 rfl ?_
    refine r_pJ (pc := 608) dX4_moment_608 q1738 fd_95 same_rf rfl h (fun st e608 h => ?_)
    refine r_aload_n (pc := 611) dX4_moment_611 0 rfl rfl ?_
    refine r_lload (pc := 612) dX4_moment_612 8 rfl ?_
    refine r_pJ (pc := 614) dX4_moment_614 q1739 fd_96 same_rf rfl h (fun st e614 h => ?_)
    refine r_aload_n (pc := 617) dX4_moment_617 0 rfl rfl ?_
    refine r_gA (pc := 618) dX4_moment_618 q1730 fd_87 same_rf h (fun x618 e618 h => ?_)
    refine r_iload_n (pc := 621) dX4_moment_621 1 rfl rfl ?_
    refine r_aload_n (pc := 622) dX4_moment_622 0 rfl rfl ?_
    refine r_gJ (pc := 623) dX4_moment_623 q1736 fd_93 same_rf h (fun x623 e623 h => ?_)
    refine r_lastore (pc := 626) dX4_moment_626 h (fun st e626 h => ?_)
    refine r_aload_n (pc := 627) dX4_moment_627 0 rfl rfl ?_
    refine r_gA (pc := 628) dX4_moment_628 q1731 fd_88 same_rf h (fun x628 e628 h => ?_)
    refine r_iload_n (pc := 631) dX4_moment_631 1 rfl rfl ?_
    refine r_aload_n (pc := 632) dX4_moment_632 0 rfl rfl ?_
    refine r_gJ (pc := 633) dX4_moment_633 q1737 fd_94 same_rf h (fun x633 e633 h => ?_)
    refine r_lastore (pc := 636) dX4_moment_636 h (fun st e636 h => ?_)
    refine r_aload_n (pc := 637) dX4_moment_637 0 rfl rfl ?_
    refine r_gA (pc := 638) dX4_moment_638 q1732 fd_89 same_rf h (fun x638 e638 h => ?_)
    refine r_iload_n (pc := 641) dX4_moment_641 1 rfl rfl ?_
    refine r_aload_n (pc := 642) dX4_moment_642 0 rfl rfl ?_
    refine r_gJ (pc := 643) dX4_moment_643 q1738 fd_95 same_rf h (fun x643 e643 h => ?_)
    refine r_lastore (pc := 646) dX4_moment_646 h (fun st e646 h => ?_)
    refine r_aload_n (pc := 647) dX4_moment_647 0 rfl rfl ?_
    refine r_gA (pc := 648) dX4_moment_648 q1733 fd_90 same_rf h (fun x648 e648 h => ?_)
    refine r_iload_n (pc := 651) dX4_moment_651 1 rfl rfl ?_
    refine r_aload_n (pc := 652) dX4_moment_652 0 rfl rfl ?_
    refine r_gJ (pc := 653) dX4_moment_653 q1739 fd_96 same_rf h (fun x653 e653 h => ?_)
    refine r_lastore (pc := 656) dX4_moment_656 h (fun st e656 h => ?_)
    refine r_aload_n (pc := 657) dX4_moment_657 0 rfl rfl ?_
    refine r_dup (pc := 658) dX4_moment_658 rfl ?_
    refine r_gI (pc := 659) dX4_moment_659 q1740 fd_97 same_rf h (fun x659 e659 h => ?_)
    refine r_iconst (pc := 662) (v := 1) dX4_moment_662 (by decide) ?_
    refine r_iadd (pc := 663) dX4_moment_663 ?_
    refine r_pI (pc := 664) dX4_moment_664 q1740 fd_97 same_rf rfl h (fun st e664 h => ?_)
    exact r_return_ (pc := 667) dX4_moment_667 rfl h
  · refine r_aload_n (pc := 213) dX4_moment_213 0 rfl rfl ?_
    refine r_gA (pc := 214) dX4_moment_214 q1704 fd_61 same_rf h (fun x214 e214 h => ?_)
    refine r_bipush (pc := 217) (v := 78) dX4_moment_217 (by decide) ?_
    refine r_iload (pc := 219) dX4_moment_219 9 rfl ?_
    refine r_iadd (pc := 221) dX4_moment_221 ?_
    refine r_iaload (pc := 222) dX4_moment_222 h (fun x222 e222 h => ?_)
    refine r_if_le (pc := 223) (tgt := 246) dX4_moment_223 (by decide) h (fun e223 h => ?_) (fun e223 h => ?_)
    · exact sX4_moment_246 hk202 _ _ _ _ _ _ _ _ _ _ _ h
    · refine r_iload_n (pc := 226) dX4_moment_226 1 rfl rfl ?_
      refine r_aload_n (pc := 227) dX4_moment_227 0 rfl rfl ?_
      refine r_gA (pc := 228) dX4_moment_228 q1704 fd_61 same_rf h (fun x228 e228 h => ?_)
      refine r_bipush (pc := 231) (v := 78) dX4_moment_231 (by decide) ?_
      refine r_iload (pc := 233) dX4_moment_233 9 rfl ?_
      refine r_iadd (pc := 235) dX4_moment_235 ?_
      refine r_iaload (pc := 236) dX4_moment_236 h (fun x236 e236 h => ?_)
      refine r_iconst (pc := 237) (v := 1) dX4_moment_237 (by decide) ?_
      refine r_isub (pc := 238) dX4_moment_238 ?_
      refine r_icmp_lt (pc := 239) (tgt := 246) dX4_moment_239 (by decide) h (fun e239 h => ?_) (fun e239 h => ?_)
      · exact sX4_moment_246 hk202 _ _ _ _ _ _ _ _ _ _ _ h
      · refine r_iconst (pc := 242) (v := 1) dX4_moment_242 (by decide) ?_
        refine r_goto (pc := 243) (tgt := 247) dX4_moment_243 (by decide) ?_
        exact sX4_moment_247 hk202 _ _ _ _ _ _ _ _ _ _ _ _ h
theorem sX4_moment_202 {st0 : Mem} {fin : Unit × Mem} (n : Nat) : ∀ (v0 : Rf) (v1 : Int32) (v2 : Int32) (v3 : Int64) (v5 : Int64) (v7 : Int64) (v9 : Int64) (v11 : Int64) (v13 : Int64) (v15 : Int32) (st : Mem), bX4_moment_202 n v0 v1 v2 v3 v5 v7 v9 v11 v13 v15 st = some fin → G (cX4_moment, "HouseClapsModel", "moment", 12, none, 23) st0 trV fin 202 [(0, vr v0), (1, vi v1), (2, vi v2), (3, vj v3), (5, vj v5), (7, vj v7), (9, vj v9), (11, vj v11), (13, vj v13), (15, vi v15)] [] st := by
  induction n with
  | zero => intro v0 v1 v2 v3 v5 v7 v9 v11 v13 v15 st h; cases h
  | succ n ih => intro v0 v1 v2 v3 v5 v7 v9 v11 v13 v15 st h; exact sX4_moment_202B  ih v0 v1 v2 v3 v5 v7 v9 v11 v13 v15 st h
theorem sX4_moment_176 {st0 : Mem} {fin : Unit × Mem} (v0 : Rf) (v1 : Int32) (v2 : Int32) (st : Mem) (h : bX4_moment_176 v0 v1 v2 st = some fin) : G (cX4_moment, "HouseClapsModel", "moment", 12, none, 23) st0 trV fin 176 [(0, vr v0), (1, vi v1), (2, vi v2)] [] st := by
  unfold bX4_moment_176 at h
  refine r_aload_n (pc := 176) dX4_moment_176 0 rfl rfl ?_
  refine r_gJ (pc := 177) dX4_moment_177 q1736 fd_93 same_rf h (fun x177 e177 h => ?_)
  refine r_lstore_n (pc := 180) (env' := [(3, vj x177), (0, vr v0), (1, vi v1), (2, vi v2)]) dX4_moment_180 rfl (by decide) rfl ?_
  refine r_aload_n (pc := 181) dX4_moment_181 1 rfl rfl ?_
  refine r_gJ (pc := 182) dX4_moment_182 q1737 fd_94 same_rf h (fun x182 e182 h => ?_)
  refine r_lstore (pc := 185) (env' := [(5, vj x182), (3, vj x177), (0, vr v0), (1, vi v1), (2, vi v2)]) dX4_moment_185 (by decide) rfl ?_
  refine r_lconst (pc := 187) (v := 0) dX4_moment_187 (by decide) ?_
  refine r_lstore (pc := 188) (env' := [(7, vj (0 : Int64)), (5, vj x182), (3, vj x177), (0, vr v0), (1, vi v1), (2, vi v2)]) dX4_moment_188 (by decide) rfl ?_
  refine r_lconst (pc := 190) (v := 0) dX4_moment_190 (by decide) ?_
  refine r_lstore (pc := 191) (env' := [(9, vj (0 : Int64)), (7, vj (0 : Int64)), (5, vj x182), (3, vj x177), (0, vr v0), (1, vi v1), (2, vi v2)]) dX4_moment_191 (by decide) rfl ?_
  refine r_lconst (pc := 193) (v := 0) dX4_moment_193 (by decide) ?_
  refine r_lstore (pc := 194) (env' := [(11, vj (0 : Int64)), (9, vj (0 : Int64)), (7, vj (0 : Int64)), (5, vj x182), (3, vj x177), (0, vr v0), (1, vi v1), (2, vi v2)]) dX4_moment_194 (by decide) rfl ?_
  refine r_lconst (pc := 196) (v := 0) dX4_moment_196 (by decide) ?_
  refine r_lstore (pc := 197) (env' := [(13, vj (0 : Int64)), (11, vj (0 : Int64)), (9, vj (0 : Int64)), (7, vj (0 : Int64)), (5, vj x182), (3, vj x177), (0, vr v0), (1, vi v1), (2, vi v2)]) dX4_moment_197 (by decide) rfl ?_
  refine r_iconst (pc := 199) (v := 0) dX4_moment_199 (by decide) ?_
  refine r_istore (pc := 200) (env' := [(15, vi (0 : Int32)), (13, vj (0 : Int64)), (11, vj (0 : Int64)), (9, vj (0 : Int64)), (7, vj (0 : Int64)), (5, vj x182), (3, vj x177), (0, vr v0), (1, vi v1), (2, vi v2)]) dX4_moment_200 (by decide) rfl ?_
  exact r_sub (env' := [(0, vr v0), (1, vi v1), (2, vi v2), (3, vj x177), (5, vj x182), (7, vj (0 : Int64)), (9, vj (0 : Int64)), (11, vj (0 : Int64)), (13, vj (0 : Int64)), (15, vi (0 : Int32))]) [7, 8, 9, 6, 5, 4, 3, 2, 1, 0] rfl (sX4_moment_202 hcFuel _ _ _ _ _ _ _ _ _ _ _ h)
theorem sX4_moment_160 {st0 : Mem} {fin : Unit × Mem} {kk7 : Rf → Int32 → Int32 → Mem → Option (Unit × Mem)} (hk7 : ∀ (v0 : Rf) (v1 : Int32) (v2 : Int32) (st : Mem), kk7 v0 v1 v2 st = some fin → G (cX4_moment, "HouseClapsModel", "moment", 12, none, 23) st0 trV fin 7 [(0, vr v0), (1, vi v1), (2, vi v2)] [] st) (v0 : Rf) (v1 : Int32) (v2 : Int32) (k0 : Rf) (k1 : Int64) (st : Mem) (h : bX4_moment_160 kk7 v0 v1 v2 k0 k1 st = some fin) : G (cX4_moment, "HouseClapsModel", "moment", 12, none, 23) st0 trV fin 160 [(0, vr v0), (1, vi v1), (2, vi v2)] [vj k1, vr k0] st := by
  unfold bX4_moment_160 at h
  refine r_pJ (pc := 160) dX4_moment_160 q1735 fd_92 same_rf rfl h (fun st e160 h => ?_)
  refine r_aload_n (pc := 163) dX4_moment_163 0 rfl rfl ?_
  refine r_dup (pc := 164) dX4_moment_164 rfl ?_
  refine r_gI (pc := 165) dX4_moment_165 q1741 fd_98 same_rf h (fun x165 e165 h => ?_)
  refine r_iconst (pc := 168) (v := 1) dX4_moment_168 (by decide) ?_
  refine r_iadd (pc := 169) dX4_moment_169 ?_
  refine r_pI (pc := 170) dX4_moment_170 q1741 fd_98 same_rf rfl h (fun st e170 h => ?_)
  refine r_goto (pc := 173) (tgt := 7) dX4_moment_173 (by decide) ?_
  exact hk7 _ _ _ _ h
theorem sX4_moment_130 {st0 : Mem} {fin : Unit × Mem} {kk7 : Rf → Int32 → Int32 → Mem → Option (Unit × Mem)} (hk7 : ∀ (v0 : Rf) (v1 : Int32) (v2 : Int32) (st : Mem), kk7 v0 v1 v2 st = some fin → G (cX4_moment, "HouseClapsModel", "moment", 12, none, 23) st0 trV fin 7 [(0, vr v0), (1, vi v1), (2, vi v2)] [] st) (v0 : Rf) (v1 : Int32) (v2 : Int32) (v3 : Int32) (v4 : Int64) (k0 : Rf) (k1 : Int64) (st : Mem) (h : bX4_moment_130 kk7 v0 v1 v2 v3 v4 k0 k1 st = some fin) : G (cX4_moment, "HouseClapsModel", "moment", 12, none, 23) st0 trV fin 130 [(0, vr v0), (1, vi v1), (2, vi v2), (3, vi v3), (4, vj v4)] [vj k1, vr k0] st := by
  unfold bX4_moment_130 at h
  refine r_pJ (pc := 130) dX4_moment_130 q1734 fd_91 same_rf rfl h (fun st e130 h => ?_)
  refine r_aload_n (pc := 133) dX4_moment_133 0 rfl rfl ?_
  refine r_iload_n (pc := 134) dX4_moment_134 3 rfl rfl ?_
  refine r_iconst (pc := 135) (v := 1) dX4_moment_135 (by decide) ?_
  refine r_icmp_ne (pc := 136) (tgt := 149) dX4_moment_136 (by decide) h (fun e136 h => ?_) (fun e136 h => ?_)
  · refine r_aload_n (pc := 149) dX4_moment_149 0 rfl rfl ?_
    refine r_gJ (pc := 150) dX4_moment_150 q1735 fd_92 same_rf h (fun x150 e150 h => ?_)
    refine r_lload (pc := 153) dX4_moment_153 4 rfl ?_
    refine r_ldc2 (pc := 155) dX4_moment_155 q2063 ?_
    refine r_lxor (pc := 158) dX4_moment_158 ?_
    refine r_land (pc := 159) dX4_moment_159 ?_
    exact r_sub (env' := [(0, vr v0), (1, vi v1), (2, vi v2)]) [0, 1, 2] rfl (sX4_moment_160 hk7 _ _ _ _ _ _ h)
  · refine r_aload_n (pc := 139) dX4_moment_139 0 rfl rfl ?_
    refine r_gJ (pc := 140) dX4_moment_140 q1735 fd_92 same_rf h (fun x140 e140 h => ?_)
    refine r_lload (pc := 143) dX4_moment_143 4 rfl ?_
    refine r_lor (pc := 145) dX4_moment_145 ?_
    refine r_goto (pc := 146) (tgt := 160) dX4_moment_146 (by decide) ?_
    exact r_sub (env' := [(0, vr v0), (1, vi v1), (2, vi v2)]) [0, 1, 2] rfl (sX4_moment_160 hk7 _ _ _ _ _ _ h)
theorem sX4_moment_103 {st0 : Mem} {fin : Unit × Mem} {kk7 : Rf → Int32 → Int32 → Mem → Option (Unit × Mem)} (hk7 : ∀ (v0 : Rf) (v1 : Int32) (v2 : Int32) (st : Mem), kk7 v0 v1 v2 st = some fin → G (cX4_moment, "HouseClapsModel", "moment", 12, none, 23) st0 trV fin 7 [(0, vr v0), (1, vi v1), (2, vi v2)] [] st) (v0 : Rf) (v1 : Int32) (v3 : Int32) (v4 : Int64) (k0 : Int32) (st : Mem) (h : bX4_moment_103 kk7 v0 v1 v3 v4 k0 st = some fin) : G (cX4_moment, "HouseClapsModel", "moment", 12, none, 23) st0 trV fin 103 [(0, vr v0), (1, vi v1), (3, vi v3), (4, vj v4)] [vi k0] st := by
  unfold bX4_moment_103 at h
  refine r_istore_n (pc := 103) (env' := [(2, vi k0), (0, vr v0), (1, vi v1), (3, vi v3), (4, vj v4)]) dX4_moment_103 rfl (by decide) rfl ?_
  refine r_aload_n (pc := 104) dX4_moment_104 1 rfl rfl ?_
  refine r_iload_n (pc := 105) dX4_moment_105 3 rfl rfl ?_
  refine r_if_ne (pc := 106) (tgt := 119) dX4_moment_106 (by decide) h (fun e106 h => ?_) (fun e106 h => ?_)
  · refine r_aload_n (pc := 119) dX4_moment_119 1 rfl rfl ?_
    refine r_gJ (pc := 120) dX4_moment_120 q1734 fd_91 same_rf h (fun x120 e120 h => ?_)
    refine r_lload (pc := 123) dX4_moment_123 4 rfl ?_
    refine r_ldc2 (pc := 125) dX4_moment_125 q2063 ?_
    refine r_lxor (pc := 128) dX4_moment_128 ?_
    refine r_land (pc := 129) dX4_moment_129 ?_
    exact r_sub (env' := [(0, vr v0), (1, vi v1), (2, vi k0), (3, vi v3), (4, vj v4)]) [1, 2, 0, 3, 4] rfl (sX4_moment_130 hk7 _ _ _ _ _ _ _ _ h)
  · refine r_aload_n (pc := 109) dX4_moment_109 1 rfl rfl ?_
    refine r_gJ (pc := 110) dX4_moment_110 q1734 fd_91 same_rf h (fun x110 e110 h => ?_)
    refine r_lload (pc := 113) dX4_moment_113 4 rfl ?_
    refine r_lor (pc := 115) dX4_moment_115 ?_
    refine r_goto (pc := 116) (tgt := 130) dX4_moment_116 (by decide) ?_
    exact r_sub (env' := [(0, vr v0), (1, vi v1), (2, vi k0), (3, vi v3), (4, vj v4)]) [1, 2, 0, 3, 4] rfl (sX4_moment_130 hk7 _ _ _ _ _ _ _ _ h)
theorem sX4_moment_98 {st0 : Mem} {fin : Unit × Mem} {kk7 : Rf → Int32 → Int32 → Mem → Option (Unit × Mem)} (hk7 : ∀ (v0 : Rf) (v1 : Int32) (v2 : Int32) (st : Mem), kk7 v0 v1 v2 st = some fin → G (cX4_moment, "HouseClapsModel", "moment", 12, none, 23) st0 trV fin 7 [(0, vr v0), (1, vi v1), (2, vi v2)] [] st) (v0 : Rf) (v1 : Int32) (v3 : Int32) (v4 : Int64) (st : Mem) (h : bX4_moment_98 kk7 v0 v1 v3 v4 st = some fin) : G (cX4_moment, "HouseClapsModel", "moment", 12, none, 23) st0 trV fin 98 [(0, vr v0), (1, vi v1), (3, vi v3), (4, vj v4)] [] st := by
  unfold bX4_moment_98 at h
  refine r_iconst (pc := 98) (v := 1) dX4_moment_98 (by decide) ?_
  refine r_goto (pc := 99) (tgt := 103) dX4_moment_99 (by decide) ?_
  exact sX4_moment_103 hk7 _ _ _ _ _ _ h
theorem sX4_moment_87 {st0 : Mem} {fin : Unit × Mem} {kk7 : Rf → Int32 → Int32 → Mem → Option (Unit × Mem)} (hk7 : ∀ (v0 : Rf) (v1 : Int32) (v2 : Int32) (st : Mem), kk7 v0 v1 v2 st = some fin → G (cX4_moment, "HouseClapsModel", "moment", 12, none, 23) st0 trV fin 7 [(0, vr v0), (1, vi v1), (2, vi v2)] [] st) (v0 : Rf) (v1 : Int32) (v2 : Int32) (v3 : Int32) (k0 : Int64) (st : Mem) (h : bX4_moment_87 kk7 v0 v1 v2 v3 k0 st = some fin) : G (cX4_moment, "HouseClapsModel", "moment", 12, none, 23) st0 trV fin 87 [(0, vr v0), (1, vi v1), (2, vi v2), (3, vi v3)] [vj k0] st := by
  unfold bX4_moment_87 at h
  refine r_lstore (pc := 87) (env' := [(4, vj k0), (0, vr v0), (1, vi v1), (2, vi v2), (3, vi v3)]) dX4_moment_87 (by decide) rfl ?_
  refine r_iload_n (pc := 89) dX4_moment_89 3 rfl rfl ?_
  refine r_if_ne (pc := 90) (tgt := 98) dX4_moment_90 (by decide) h (fun e90 h => ?_) (fun e90 h => ?_)
  · exact r_sub (env' := [(0, vr v0), (1, vi v1), (3, vi v3), (4, vj k0)]) [1, 2, 4, 0] rfl (sX4_moment_98 hk7 _ _ _ _ _ h)
  · refine r_iload_n (pc := 93) dX4_moment_93 4 rfl rfl ?_
    refine r_iconst (pc := 94) (v := 3) dX4_moment_94 (by decide) ?_
    refine r_icmp_ne (pc := 95) (tgt := 102) dX4_moment_95 (by decide) h (fun e95 h => ?_) (fun e95 h => ?_)
    · refine r_iconst (pc := 102) (v := 0) dX4_moment_102 (by decide) ?_
      exact r_sub (env' := [(0, vr v0), (1, vi v1), (3, vi v3), (4, vj k0)]) [1, 2, 4, 0] rfl (sX4_moment_103 hk7 _ _ _ _ _ _ h)
    · exact r_sub (env' := [(0, vr v0), (1, vi v1), (3, vi v3), (4, vj k0)]) [1, 2, 4, 0] rfl (sX4_moment_98 hk7 _ _ _ _ _ h)
theorem sX4_moment_7B {st0 : Mem} {fin : Unit × Mem} {kk7 : Rf → Int32 → Int32 → Mem → Option (Unit × Mem)} (hk7 : ∀ (v0 : Rf) (v1 : Int32) (v2 : Int32) (st : Mem), kk7 v0 v1 v2 st = some fin → G (cX4_moment, "HouseClapsModel", "moment", 12, none, 23) st0 trV fin 7 [(0, vr v0), (1, vi v1), (2, vi v2)] [] st) (v0 : Rf) (v1 : Int32) (v2 : Int32) (st : Mem) (h : bX4_moment_7B kk7 v0 v1 v2 st = some fin) : G (cX4_moment, "HouseClapsModel", "moment", 12, none, 23) st0 trV fin 7 [(0, vr v0), (1, vi v1), (2, vi v2)] [] st := by
  unfold bX4_moment_7B at h
  refine r_aload_n (pc := 7) dX4_moment_7 0 rfl rfl ?_
  refine r_gI (pc := 8) dX4_moment_8 q1741 fd_98 same_rf h (fun x8 e8 h => ?_)
  refine r_aload_n (pc := 11) dX4_moment_11 0 rfl rfl ?_
  refine r_gA (pc := 12) dX4_moment_12 q1704 fd_61 same_rf h (fun x12 e12 h => ?_)
  refine r_sipush (pc := 15) (v := 590) dX4_moment_15 (by decide) ?_
  refine r_iaload (pc := 18) dX4_moment_18 h (fun x18 e18 h => ?_)
  refine r_icmp_ge (pc := 19) (tgt := 176) dX4_moment_19 (by decide) h (fun e19 h => ?_) (fun e19 h => ?_)
  · exact sX4_moment_176 _ _ _ _ h
  · refine r_aload_n (pc := 22) dX4_moment_22 0 rfl rfl ?_
    refine r_gA (pc := 23) dX4_moment_23 q1704 fd_61 same_rf h (fun x23 e23 h => ?_)
    refine r_sipush (pc := 26) (v := 591) dX4_moment_26 (by decide) ?_
    refine r_iconst (pc := 29) (v := 3) dX4_moment_29 (by decide) ?_
    refine r_aload_n (pc := 30) dX4_moment_30 0 rfl rfl ?_
    refine r_gI (pc := 31) dX4_moment_31 q1741 fd_98 same_rf h (fun x31 e31 h => ?_)
    refine r_imul (pc := 34) dX4_moment_34 ?_
    refine r_iadd (pc := 35) dX4_moment_35 ?_
    refine r_iaload (pc := 36) dX4_moment_36 h (fun x36 e36 h => ?_)
    refine r_iload_n (pc := 37) dX4_moment_37 1 rfl rfl ?_
    refine r_icmp_ne (pc := 38) (tgt := 176) dX4_moment_38 (by decide) h (fun e38 h => ?_) (fun e38 h => ?_)
    · exact sX4_moment_176 _ _ _ _ h
    · refine r_aload_n (pc := 41) dX4_moment_41 0 rfl rfl ?_
      refine r_gA (pc := 42) dX4_moment_42 q1704 fd_61 same_rf h (fun x42 e42 h => ?_)
      refine r_sipush (pc := 45) (v := 591) dX4_moment_45 (by decide) ?_
      refine r_iconst (pc := 48) (v := 3) dX4_moment_48 (by decide) ?_
      refine r_aload_n (pc := 49) dX4_moment_49 0 rfl rfl ?_
      refine r_gI (pc := 50) dX4_moment_50 q1741 fd_98 same_rf h (fun x50 e50 h => ?_)
      refine r_imul (pc := 53) dX4_moment_53 ?_
      refine r_iadd (pc := 54) dX4_moment_54 ?_
      refine r_iconst (pc := 55) (v := 1) dX4_moment_55 (by decide) ?_
      refine r_iadd (pc := 56) dX4_moment_56 ?_
      refine r_iaload (pc := 57) dX4_moment_57 h (fun x57 e57 h => ?_)
      refine r_istore_n (pc := 58) (env' := [(3, vi x57), (0, vr v0), (1, vi v1), (2, vi v2)]) dX4_moment_58 rfl (by decide) rfl ?_
      refine r_iload_n (pc := 59) dX4_moment_59 0 rfl rfl ?_
      refine r_iconst (pc := 60) (v := 3) dX4_moment_60 (by decide) ?_
      refine r_icmp_ne (pc := 61) (tgt := 68) dX4_moment_61 (by decide) h (fun e61 h => ?_) (fun e61 h => ?_)
      · refine r_lconst (pc := 68) (v := 1) dX4_moment_68 (by decide) ?_
        refine r_aload_n (pc := 69) dX4_moment_69 1 rfl rfl ?_
        refine r_gA (pc := 70) dX4_moment_70 q1704 fd_61 same_rf h (fun x70 e70 h => ?_)
        refine r_sipush (pc := 73) (v := 591) dX4_moment_73 (by decide) ?_
        refine r_iconst (pc := 76) (v := 3) dX4_moment_76 (by decide) ?_
        refine r_aload_n (pc := 77) dX4_moment_77 1 rfl rfl ?_
        refine r_gI (pc := 78) dX4_moment_78 q1741 fd_98 same_rf h (fun x78 e78 h => ?_)
        refine r_imul (pc := 81) dX4_moment_81 ?_
        refine r_iadd (pc := 82) dX4_moment_82 ?_
        refine r_iconst (pc := 83) (v := 2) dX4_moment_83 (by decide) ?_
        refine r_iadd (pc := 84) dX4_moment_84 ?_
        refine r_iaload (pc := 85) dX4_moment_85 h (fun x85 e85 h => ?_)
        refine r_lshl (pc := 86) dX4_moment_86 ?_
        exact r_sub (env' := [(0, vr v0), (1, vi v1), (2, vi v2), (3, vi x57)]) [1, 2, 3, 0] rfl (sX4_moment_87 hk7 _ _ _ _ _ _ h)
      · refine r_lconst (pc := 64) (v := 0) dX4_moment_64 (by decide) ?_
        refine r_goto (pc := 65) (tgt := 87) dX4_moment_65 (by decide) ?_
        exact r_sub (env' := [(0, vr v0), (1, vi v1), (2, vi v2), (3, vi x57)]) [1, 2, 3, 0] rfl (sX4_moment_87 hk7 _ _ _ _ _ _ h)
theorem sX4_moment_7 {st0 : Mem} {fin : Unit × Mem} (n : Nat) : ∀ (v0 : Rf) (v1 : Int32) (v2 : Int32) (st : Mem), bX4_moment_7 n v0 v1 v2 st = some fin → G (cX4_moment, "HouseClapsModel", "moment", 12, none, 23) st0 trV fin 7 [(0, vr v0), (1, vi v1), (2, vi v2)] [] st := by
  induction n with
  | zero => intro v0 v1 v2 st h; cases h
  | succ n ih => intro v0 v1 v2 st h; exact sX4_moment_7B  ih v0 v1 v2 st h
theorem sX4_moment {a0 : Rf} {st : Mem} {fin : Unit × Mem} (h : fX4_moment a0 st = some fin) : Con yX4_moment 12 [vr a0] st trV fin := by
  refine Con.mk (cc := cX4_moment) (n := 23) (own := "HouseClapsModel") (nm := "moment") (ret := none) (env := [(0, vr a0)]) q2115 rfl rfl rfl (by decide) ⟨Nat.le_of_ble_eq_true rfl, by decide⟩ rfl ?_
  unfold fX4_moment at h
  refine r_aload_n (pc := 0) dX4_moment_0 0 rfl rfl ?_
  refine r_gI (pc := 1) dX4_moment_1 q1740 fd_97 same_rf h (fun x1 e1 h => ?_)
  refine r_istore_n (pc := 4) (env' := [(1, vi x1), (0, vr a0)]) dX4_moment_4 rfl (by decide) rfl ?_
  refine r_iconst (pc := 5) (v := 0) dX4_moment_5 (by decide) ?_
  refine r_istore_n (pc := 6) (env' := [(2, vi (0 : Int32)), (1, vi x1), (0, vr a0)]) dX4_moment_6 rfl (by decide) rfl ?_
  exact r_sub (env' := [(0, vr a0), (1, vi x1), (2, vi (0 : Int32))]) [2, 1, 0] rfl (sX4_moment_7 hcFuel _ _ _ _ h)
theorem sX4_once {a0 : Rf} {a1 : Int32} {a2 : Int32} {a3 : Int32} {a4 : Int32} {st : Mem} {fin : Int32 × Mem} (h : fX4_once a0 a1 a2 a3 a4 st = some fin) : Con yX4_once 12 [vr a0, vi a1, vi a2, vi a3, vi a4] st trI fin := by
  refine Con.mk (cc := cX4_once) (n := 5) (own := "HouseClapsModel") (nm := "once") (ret := (some .boolean)) (env := [(0, vr a0), (1, vi a1), (2, vi a2), (3, vi a3), (4, vi a4)]) q2025 rfl rfl rfl (by decide) ⟨Nat.le_of_ble_eq_true rfl, by decide⟩ rfl ?_
  unfold fX4_once at h
  refine r_aload_n (pc := 0) dX4_once_0 0 rfl rfl ?_
  refine r_gI (pc := 1) dX4_once_1 q1720 fd_77 same_rf h (fun x1 e1 h => ?_)
  refine r_iload_n (pc := 4) dX4_once_4 1 rfl rfl ?_
  refine r_callI (pc := 5) (rest := []) (lkS dX4_once_5 q2017 q2018 q92 (fun _ => sX4_has) ad_X4_has) (by decide) (Nat.le_of_ble_eq_true rfl) rfl h (fun x5 st e5 h => ?_)
  refine r_if_eq (pc := 8) (tgt := 17) dX4_once_8 (by decide) h (fun e8 h => ?_) (fun e8 h => ?_)
  · refine r_aload_n (pc := 17) dX4_once_17 0 rfl rfl ?_
    refine r_dup (pc := 18) dX4_once_18 rfl ?_
    refine r_gI (pc := 19) dX4_once_19 q1720 fd_77 same_rf h (fun x19 e19 h => ?_)
    refine r_iconst (pc := 22) (v := 1) dX4_once_22 (by decide) ?_
    refine r_iload_n (pc := 23) dX4_once_23 1 rfl rfl ?_
    refine r_ishl (pc := 24) dX4_once_24 ?_
    refine r_ior (pc := 25) dX4_once_25 ?_
    refine r_pI (pc := 26) dX4_once_26 q1720 fd_77 same_rf rfl h (fun st e26 h => ?_)
    refine r_aload_n (pc := 29) dX4_once_29 0 rfl rfl ?_
    refine r_callV (pc := 30) (rest := []) (lkV dX4_once_30 q1914 xd_X4_next (vc_of vt_X4_next q1916 (fun _ => sX4_next)) adx_X4_next) (by decide) (Nat.le_of_ble_eq_true rfl) rfl h (fun u30 st e30 h => ?_)
    refine r_aload_n (pc := 33) dX4_once_33 0 rfl rfl ?_
    refine r_iload_n (pc := 34) dX4_once_34 3 rfl rfl ?_
    refine r_iload (pc := 35) dX4_once_35 4 rfl ?_
    refine r_callI (pc := 37) (rest := []) (lkV dX4_once_37 q1990 xd_X4_takes (vc_of vt_X4_takes q1992 (fun _ => sX4_takes)) adx_X4_takes) (by decide) (Nat.le_of_ble_eq_true rfl) rfl h (fun x37 st e37 h => ?_)
    refine r_if_ne (pc := 40) (tgt := 45) dX4_once_40 (by decide) h (fun e40 h => ?_) (fun e40 h => ?_)
    · refine r_aload_n (pc := 45) dX4_once_45 0 rfl rfl ?_
      refine r_gA (pc := 46) dX4_once_46 q1705 fd_62 same_rf h (fun x46 e46 h => ?_)
      refine r_iload_n (pc := 49) dX4_once_49 2 rfl rfl ?_
      refine r_aload_n (pc := 50) dX4_once_50 0 rfl rfl ?_
      refine r_gI (pc := 51) dX4_once_51 q1716 fd_73 same_rf h (fun x51 e51 h => ?_)
      refine r_iastore (pc := 54) dX4_once_54 h (fun st e54 h => ?_)
      refine r_iconst (pc := 55) (v := 1) dX4_once_55 (by decide) ?_
      exact r_ireturn (pc := 56) dX4_once_56 rfl rfl h
    · refine r_iconst (pc := 43) (v := 0) dX4_once_43 (by decide) ?_
      exact r_ireturn (pc := 44) dX4_once_44 rfl rfl h
  · refine r_aload_n (pc := 11) dX4_once_11 0 rfl rfl ?_
    refine r_iconst (pc := 12) (v := 3) dX4_once_12 (by decide) ?_
    refine r_callI (pc := 13) (rest := []) (lkV dX4_once_13 q1941 xd_X4_bad (vc_of vt_X4_bad q1943 (fun _ => sX4_bad)) adx_X4_bad) (by decide) (Nat.le_of_ble_eq_true rfl) rfl h (fun x13 st e13 h => ?_)
    exact r_ireturn (pc := 16) dX4_once_16 rfl rfl h
theorem sX4_readCue_140 {st0 : Mem} {fin : Int32 × Mem} (v0 : Rf) (v1 : Int32) (k0 : Int32) (st : Mem) (h : bX4_readCue_140 v0 v1 k0 st = some fin) : G (cX4_readCue, "HouseClapsModel", "readCue", 12, (some .boolean), 4) st0 trI fin 140 [(0, vr v0), (1, vi v1)] [vi k0] st := by
  unfold bX4_readCue_140 at h
  refine r_istore_n (pc := 140) (env' := [(2, vi k0), (0, vr v0), (1, vi v1)]) dX4_readCue_140 rfl (by decide) rfl ?_
  refine r_iload_n (pc := 141) dX4_readCue_141 0 rfl rfl ?_
  refine r_if_ge (pc := 142) (tgt := 151) dX4_readCue_142 (by decide) h (fun e142 h => ?_) (fun e142 h => ?_)
  · refine r_aload_n (pc := 151) dX4_readCue_151 1 rfl rfl ?_
    refine r_gA (pc := 152) dX4_readCue_152 q1706 fd_63 same_rf h (fun x152 e152 h => ?_)
    refine r_iload_n (pc := 155) dX4_readCue_155 2 rfl rfl ?_
    refine r_iconst (pc := 156) (v := 1) dX4_readCue_156 (by decide) ?_
    refine r_iadd (pc := 157) dX4_readCue_157 ?_
    refine r_iload_n (pc := 158) dX4_readCue_158 0 rfl rfl ?_
    refine r_iastore (pc := 159) dX4_readCue_159 h (fun st e159 h => ?_)
    refine r_aload_n (pc := 160) dX4_readCue_160 1 rfl rfl ?_
    refine r_gA (pc := 161) dX4_readCue_161 q1706 fd_63 same_rf h (fun x161 e161 h => ?_)
    refine r_iload_n (pc := 164) dX4_readCue_164 2 rfl rfl ?_
    refine r_iconst (pc := 165) (v := 2) dX4_readCue_165 (by decide) ?_
    refine r_iadd (pc := 166) dX4_readCue_166 ?_
    refine r_iconst (pc := 167) (v := (-1)) dX4_readCue_167 (by decide) ?_
    refine r_iastore (pc := 168) dX4_readCue_168 h (fun st e168 h => ?_)
    refine r_aload_n (pc := 169) dX4_readCue_169 1 rfl rfl ?_
    refine r_callV (pc := 170) (rest := []) (lkV dX4_readCue_170 q1914 xd_X4_next (vc_of vt_X4_next q1916 (fun _ => sX4_next)) adx_X4_next) (by decide) (Nat.le_of_ble_eq_true rfl) rfl h (fun u170 st e170 h => ?_)
    refine r_iload_n (pc := 173) dX4_readCue_173 0 rfl rfl ?_
    refine r_iconst (pc := 174) (v := 3) dX4_readCue_174 (by decide) ?_
    refine r_icmp_ne (pc := 175) (tgt := 180) dX4_readCue_175 (by decide) h (fun e175 h => ?_) (fun e175 h => ?_)
    · refine r_aload_n (pc := 180) dX4_readCue_180 1 rfl rfl ?_
      refine r_iconst (pc := 181) (v := 0) dX4_readCue_181 (by decide) ?_
      refine r_aload_n (pc := 182) dX4_readCue_182 1 rfl rfl ?_
      refine r_gA (pc := 183) dX4_readCue_183 q1704 fd_61 same_rf h (fun x183 e183 h => ?_)
      refine r_iconst (pc := 186) (v := 0) dX4_readCue_186 (by decide) ?_
      refine r_iaload (pc := 187) dX4_readCue_187 h (fun x187 e187 h => ?_)
      refine r_iconst (pc := 188) (v := 1) dX4_readCue_188 (by decide) ?_
      refine r_isub (pc := 189) dX4_readCue_189 ?_
      refine r_callI (pc := 190) (rest := []) (lkV dX4_readCue_190 q1990 xd_X4_takes (vc_of vt_X4_takes q1992 (fun _ => sX4_takes)) adx_X4_takes) (by decide) (Nat.le_of_ble_eq_true rfl) rfl h (fun x190 st e190 h => ?_)
      refine r_if_ne (pc := 193) (tgt := 198) dX4_readCue_193 (by decide) h (fun e193 h => ?_) (fun e193 h => ?_)
      · refine r_aload_n (pc := 198) dX4_readCue_198 1 rfl rfl ?_
        refine r_gI (pc := 199) dX4_readCue_199 q1716 fd_73 same_rf h (fun x199 e199 h => ?_)
        refine r_istore_n (pc := 202) (env' := [(3, vi x199), (2, vi k0), (0, vr v0), (1, vi v1)]) dX4_readCue_202 rfl (by decide) rfl ?_
        refine r_aload_n (pc := 203) dX4_readCue_203 2 rfl rfl ?_
        refine r_gI (pc := 204) dX4_readCue_204 q1707 fd_64 same_rf h (fun x204 e204 h => ?_)
        refine r_iconst (pc := 207) (v := 2) dX4_readCue_207 (by decide) ?_
        refine r_icmp_eq (pc := 208) (tgt := 217) dX4_readCue_208 (by decide) h (fun e208 h => ?_) (fun e208 h => ?_)
        · refine r_aload_n (pc := 217) dX4_readCue_217 2 rfl rfl ?_
          refine r_iload_n (pc := 218) dX4_readCue_218 0 rfl rfl ?_
          refine r_aload_n (pc := 219) dX4_readCue_219 2 rfl rfl ?_
          refine r_gI (pc := 220) dX4_readCue_220 q1710 fd_67 same_rf h (fun x220 e220 h => ?_)
          refine r_callI (pc := 223) (rest := []) (lkV dX4_readCue_223 q2081 xd_X4_isSeatAt (vc_of vt_X4_isSeatAt q2083 (fun _ => sX4_isSeatAt)) adx_X4_isSeatAt) (by decide) (Nat.le_of_ble_eq_true rfl) rfl h (fun x223 st e223 h => ?_)
          refine r_if_ne (pc := 226) (tgt := 235) dX4_readCue_226 (by decide) h (fun e226 h => ?_) (fun e226 h => ?_)
          · refine r_aload_n (pc := 235) dX4_readCue_235 2 rfl rfl ?_
            refine r_gA (pc := 236) dX4_readCue_236 q1706 fd_63 same_rf h (fun x236 e236 h => ?_)
            refine r_iload_n (pc := 239) dX4_readCue_239 3 rfl rfl ?_
            refine r_iconst (pc := 240) (v := 2) dX4_readCue_240 (by decide) ?_
            refine r_iadd (pc := 241) dX4_readCue_241 ?_
            refine r_aload_n (pc := 242) dX4_readCue_242 2 rfl rfl ?_
            refine r_gA (pc := 243) dX4_readCue_243 q1704 fd_61 same_rf h (fun x243 e243 h => ?_)
            refine r_iconst (pc := 246) (v := 1) dX4_readCue_246 (by decide) ?_
            refine r_iaload (pc := 247) dX4_readCue_247 h (fun x247 e247 h => ?_)
            refine r_iload_n (pc := 248) dX4_readCue_248 0 rfl rfl ?_
            refine r_imul (pc := 249) dX4_readCue_249 ?_
            refine r_aload_n (pc := 250) dX4_readCue_250 2 rfl rfl ?_
            refine r_gI (pc := 251) dX4_readCue_251 q1710 fd_67 same_rf h (fun x251 e251 h => ?_)
            refine r_iadd (pc := 254) dX4_readCue_254 ?_
            refine r_iastore (pc := 255) dX4_readCue_255 h (fun st e255 h => ?_)
            refine r_aload_n (pc := 256) dX4_readCue_256 2 rfl rfl ?_
            refine r_callV (pc := 257) (rest := []) (lkV dX4_readCue_257 q1914 xd_X4_next (vc_of vt_X4_next q1916 (fun _ => sX4_next)) adx_X4_next) (by decide) (Nat.le_of_ble_eq_true rfl) rfl h (fun u257 st e257 h => ?_)
            refine r_iconst (pc := 260) (v := 1) dX4_readCue_260 (by decide) ?_
            exact r_ireturn (pc := 261) dX4_readCue_261 rfl rfl h
          · refine r_aload_n (pc := 229) dX4_readCue_229 2 rfl rfl ?_
            refine r_iconst (pc := 230) (v := 2) dX4_readCue_230 (by decide) ?_
            refine r_callI (pc := 231) (rest := []) (lkV dX4_readCue_231 q1941 xd_X4_bad (vc_of vt_X4_bad q1943 (fun _ => sX4_bad)) adx_X4_bad) (by decide) (Nat.le_of_ble_eq_true rfl) rfl h (fun x231 st e231 h => ?_)
            exact r_ireturn (pc := 234) dX4_readCue_234 rfl rfl h
        · refine r_aload_n (pc := 211) dX4_readCue_211 2 rfl rfl ?_
          refine r_iconst (pc := 212) (v := 1) dX4_readCue_212 (by decide) ?_
          refine r_callI (pc := 213) (rest := []) (lkV dX4_readCue_213 q1941 xd_X4_bad (vc_of vt_X4_bad q1943 (fun _ => sX4_bad)) adx_X4_bad) (by decide) (Nat.le_of_ble_eq_true rfl) rfl h (fun x213 st e213 h => ?_)
          exact r_ireturn (pc := 216) dX4_readCue_216 rfl rfl h
      · refine r_iconst (pc := 196) (v := 0) dX4_readCue_196 (by decide) ?_
        exact r_ireturn (pc := 197) dX4_readCue_197 rfl rfl h
    · refine r_iconst (pc := 178) (v := 1) dX4_readCue_178 (by decide) ?_
      exact r_ireturn (pc := 179) dX4_readCue_179 rfl rfl h
  · refine r_aload_n (pc := 145) dX4_readCue_145 1 rfl rfl ?_
    refine r_iconst (pc := 146) (v := 1) dX4_readCue_146 (by decide) ?_
    refine r_callI (pc := 147) (rest := []) (lkV dX4_readCue_147 q1941 xd_X4_bad (vc_of vt_X4_bad q1943 (fun _ => sX4_bad)) adx_X4_bad) (by decide) (Nat.le_of_ble_eq_true rfl) rfl h (fun x147 st e147 h => ?_)
    exact r_ireturn (pc := 150) dX4_readCue_150 rfl rfl h
theorem sX4_readCue_62 {st0 : Mem} {fin : Int32 × Mem} (v0 : Rf) (v1 : Int32) (k0 : Rf) (k1 : Int32) (st : Mem) (h : bX4_readCue_62 v0 v1 k0 k1 st = some fin) : G (cX4_readCue, "HouseClapsModel", "readCue", 12, (some .boolean), 4) st0 trI fin 62 [(0, vr v0), (1, vi v1)] [vi k1, vr k0] st := by
  unfold bX4_readCue_62 at h
  refine r_sipush (pc := 62) (v := 600) dX4_readCue_62 (by decide) ?_
  refine r_callI (pc := 65) (rest := []) (lkV dX4_readCue_65 q1990 xd_X4_takes (vc_of vt_X4_takes q1992 (fun _ => sX4_takes)) adx_X4_takes) (by decide) (Nat.le_of_ble_eq_true rfl) rfl h (fun x65 st e65 h => ?_)
  refine r_if_ne (pc := 68) (tgt := 73) dX4_readCue_68 (by decide) h (fun e68 h => ?_) (fun e68 h => ?_)
  · refine r_aload_n (pc := 73) dX4_readCue_73 0 rfl rfl ?_
    refine r_gA (pc := 74) dX4_readCue_74 q1706 fd_63 same_rf h (fun x74 e74 h => ?_)
    refine r_iload_n (pc := 77) dX4_readCue_77 1 rfl rfl ?_
    refine r_aload_n (pc := 78) dX4_readCue_78 0 rfl rfl ?_
    refine r_gI (pc := 79) dX4_readCue_79 q1716 fd_73 same_rf h (fun x79 e79 h => ?_)
    refine r_iastore (pc := 82) dX4_readCue_82 h (fun st e82 h => ?_)
    refine r_aload_n (pc := 83) dX4_readCue_83 0 rfl rfl ?_
    refine r_ldc2 (pc := 84) dX4_readCue_84 q2077 ?_
    refine r_callI (pc := 87) (rest := []) (lkV dX4_readCue_87 q1933 xd_X4_isWord (vc_of vt_X4_isWord q1935 (fun _ => sX4_isWord)) adx_X4_isWord) (by decide) (Nat.le_of_ble_eq_true rfl) rfl h (fun x87 st e87 h => ?_)
    refine r_if_eq (pc := 90) (tgt := 97) dX4_readCue_90 (by decide) h (fun e90 h => ?_) (fun e90 h => ?_)
    · refine r_aload_n (pc := 97) dX4_readCue_97 0 rfl rfl ?_
      refine r_ldc2 (pc := 98) dX4_readCue_98 q2078 ?_
      refine r_callI (pc := 101) (rest := []) (lkV dX4_readCue_101 q1933 xd_X4_isWord (vc_of vt_X4_isWord q1935 (fun _ => sX4_isWord)) adx_X4_isWord) (by decide) (Nat.le_of_ble_eq_true rfl) rfl h (fun x101 st e101 h => ?_)
      refine r_if_eq (pc := 104) (tgt := 111) dX4_readCue_104 (by decide) h (fun e104 h => ?_) (fun e104 h => ?_)
      · refine r_aload_n (pc := 111) dX4_readCue_111 0 rfl rfl ?_
        refine r_ldc2 (pc := 112) dX4_readCue_112 q2079 ?_
        refine r_callI (pc := 115) (rest := []) (lkV dX4_readCue_115 q1933 xd_X4_isWord (vc_of vt_X4_isWord q1935 (fun _ => sX4_isWord)) adx_X4_isWord) (by decide) (Nat.le_of_ble_eq_true rfl) rfl h (fun x115 st e115 h => ?_)
        refine r_if_eq (pc := 118) (tgt := 125) dX4_readCue_118 (by decide) h (fun e118 h => ?_) (fun e118 h => ?_)
        · refine r_aload_n (pc := 125) dX4_readCue_125 0 rfl rfl ?_
          refine r_ldc2 (pc := 126) dX4_readCue_126 q2080 ?_
          refine r_callI (pc := 129) (rest := []) (lkV dX4_readCue_129 q1933 xd_X4_isWord (vc_of vt_X4_isWord q1935 (fun _ => sX4_isWord)) adx_X4_isWord) (by decide) (Nat.le_of_ble_eq_true rfl) rfl h (fun x129 st e129 h => ?_)
          refine r_if_eq (pc := 132) (tgt := 139) dX4_readCue_132 (by decide) h (fun e132 h => ?_) (fun e132 h => ?_)
          · refine r_iconst (pc := 139) (v := (-1)) dX4_readCue_139 (by decide) ?_
            exact sX4_readCue_140 _ _ _ _ h
          · refine r_iconst (pc := 135) (v := 3) dX4_readCue_135 (by decide) ?_
            refine r_goto (pc := 136) (tgt := 140) dX4_readCue_136 (by decide) ?_
            exact sX4_readCue_140 _ _ _ _ h
        · refine r_iconst (pc := 121) (v := 2) dX4_readCue_121 (by decide) ?_
          refine r_goto (pc := 122) (tgt := 140) dX4_readCue_122 (by decide) ?_
          exact sX4_readCue_140 _ _ _ _ h
      · refine r_iconst (pc := 107) (v := 1) dX4_readCue_107 (by decide) ?_
        refine r_goto (pc := 108) (tgt := 140) dX4_readCue_108 (by decide) ?_
        exact sX4_readCue_140 _ _ _ _ h
    · refine r_iconst (pc := 93) (v := 0) dX4_readCue_93 (by decide) ?_
      refine r_goto (pc := 94) (tgt := 140) dX4_readCue_94 (by decide) ?_
      exact sX4_readCue_140 _ _ _ _ h
  · refine r_iconst (pc := 71) (v := 0) dX4_readCue_71 (by decide) ?_
    exact r_ireturn (pc := 72) dX4_readCue_72 rfl rfl h
theorem sX4_readCue {a0 : Rf} {st : Mem} {fin : Int32 × Mem} (h : fX4_readCue a0 st = some fin) : Con yX4_readCue 12 [vr a0] st trI fin := by
  refine Con.mk (cc := cX4_readCue) (n := 4) (own := "HouseClapsModel") (nm := "readCue") (ret := (some .boolean)) (env := [(0, vr a0)]) q2075 rfl rfl rfl (by decide) ⟨Nat.le_of_ble_eq_true rfl, by decide⟩ rfl ?_
  unfold fX4_readCue at h
  refine r_aload_n (pc := 0) dX4_readCue_0 0 rfl rfl ?_
  refine r_ldc2 (pc := 1) dX4_readCue_1 q2076 ?_
  refine r_callI (pc := 4) (rest := []) (lkV dX4_readCue_4 q1933 xd_X4_isWord (vc_of vt_X4_isWord q1935 (fun _ => sX4_isWord)) adx_X4_isWord) (by decide) (Nat.le_of_ble_eq_true rfl) rfl h (fun x4 st e4 h => ?_)
  refine r_if_ne (pc := 7) (tgt := 16) dX4_readCue_7 (by decide) h (fun e7 h => ?_) (fun e7 h => ?_)
  · refine r_aload_n (pc := 16) dX4_readCue_16 0 rfl rfl ?_
    refine r_gI (pc := 17) dX4_readCue_17 q1729 fd_86 same_rf h (fun x17 e17 h => ?_)
    refine r_bipush (pc := 20) (v := 30) dX4_readCue_20 (by decide) ?_
    refine r_icmp_ne (pc := 22) (tgt := 31) dX4_readCue_22 (by decide) h (fun e22 h => ?_) (fun e22 h => ?_)
    · refine r_aload_n (pc := 31) dX4_readCue_31 0 rfl rfl ?_
      refine r_callV (pc := 32) (rest := []) (lkV dX4_readCue_32 q1914 xd_X4_next (vc_of vt_X4_next q1916 (fun _ => sX4_next)) adx_X4_next) (by decide) (Nat.le_of_ble_eq_true rfl) rfl h (fun u32 st e32 h => ?_)
      refine r_iconst (pc := 35) (v := 3) dX4_readCue_35 (by decide) ?_
      refine r_aload_n (pc := 36) dX4_readCue_36 0 rfl rfl ?_
      refine r_gI (pc := 37) dX4_readCue_37 q1729 fd_86 same_rf h (fun x37 e37 h => ?_)
      refine r_imul (pc := 40) dX4_readCue_40 ?_
      refine r_istore_n (pc := 41) (env' := [(1, vi ((3 : Int32) * x37)), (0, vr a0)]) dX4_readCue_41 rfl (by decide) rfl ?_
      refine r_aload_n (pc := 42) dX4_readCue_42 1 rfl rfl ?_
      refine r_aload_n (pc := 43) dX4_readCue_43 1 rfl rfl ?_
      refine r_gI (pc := 44) dX4_readCue_44 q1729 fd_86 same_rf h (fun x44 e44 h => ?_)
      refine r_if_ne (pc := 47) (tgt := 54) dX4_readCue_47 (by decide) h (fun e47 h => ?_) (fun e47 h => ?_)
      · refine r_aload_n (pc := 54) dX4_readCue_54 1 rfl rfl ?_
        refine r_gA (pc := 55) dX4_readCue_55 q1706 fd_63 same_rf h (fun x55 e55 h => ?_)
        refine r_iload_n (pc := 58) dX4_readCue_58 0 rfl rfl ?_
        refine r_iconst (pc := 59) (v := 3) dX4_readCue_59 (by decide) ?_
        refine r_isub (pc := 60) dX4_readCue_60 ?_
        refine r_iaload (pc := 61) dX4_readCue_61 h (fun x61 e61 h => ?_)
        exact r_sub (env' := [(0, vr a0), (1, vi ((3 : Int32) * x37))]) [1, 0] rfl (sX4_readCue_62 _ _ _ _ _ h)
      · refine r_iconst (pc := 50) (v := 0) dX4_readCue_50 (by decide) ?_
        refine r_goto (pc := 51) (tgt := 62) dX4_readCue_51 (by decide) ?_
        exact r_sub (env' := [(0, vr a0), (1, vi ((3 : Int32) * x37))]) [1, 0] rfl (sX4_readCue_62 _ _ _ _ _ h)
    · refine r_aload_n (pc := 25) dX4_readCue_25 0 rfl rfl ?_
      refine r_iconst (pc := 26) (v := 4) dX4_readCue_26 (by decide) ?_
      refine r_callI (pc := 27) (rest := []) (lkV dX4_readCue_27 q1941 xd_X4_bad (vc_of vt_X4_bad q1943 (fun _ => sX4_bad)) adx_X4_bad) (by decide) (Nat.le_of_ble_eq_true rfl) rfl h (fun x27 st e27 h => ?_)
      exact r_ireturn (pc := 30) dX4_readCue_30 rfl rfl h
  · refine r_aload_n (pc := 10) dX4_readCue_10 0 rfl rfl ?_
    refine r_iconst (pc := 11) (v := 1) dX4_readCue_11 (by decide) ?_
    refine r_callI (pc := 12) (rest := []) (lkV dX4_readCue_12 q1941 xd_X4_bad (vc_of vt_X4_bad q1943 (fun _ => sX4_bad)) adx_X4_bad) (by decide) (Nat.le_of_ble_eq_true rfl) rfl h (fun x12 st e12 h => ?_)
    exact r_ireturn (pc := 15) dX4_readCue_15 rfl rfl h
theorem sX4_begin {a0 : Rf} {a1 : Int64} {a3 : Int64} {st : Mem} {fin : Unit × Mem} (h : fX4_begin a0 a1 a3 st = some fin) : Con yX4_begin 14 [vr a0, vj a1, vj a3] st trV fin := by
  refine Con.mk (cc := cX4_begin) (n := 5) (own := "HouseClapsModel") (nm := "begin") (ret := none) (env := [(0, vr a0), (1, vj a1), (3, vj a3)]) q2103 rfl rfl rfl (by decide) ⟨Nat.le_of_ble_eq_true rfl, by decide⟩ rfl ?_
  unfold fX4_begin at h
  refine r_aload_n (pc := 0) dX4_begin_0 0 rfl rfl ?_
  refine r_callV (pc := 1) (rest := []) (lkV dX4_begin_1 q2104 xd_X4_layOut (vc_of vt_X4_layOut q2106 (fun _ => sX4_layOut)) adx_X4_layOut) (by decide) (Nat.le_of_ble_eq_true rfl) rfl h (fun u1 st e1 h => ?_)
  refine r_aload_n (pc := 4) dX4_begin_4 0 rfl rfl ?_
  refine r_lload_n (pc := 5) dX4_begin_5 1 rfl rfl ?_
  refine r_pJ (pc := 6) dX4_begin_6 q1734 fd_91 same_rf rfl h (fun st e6 h => ?_)
  refine r_aload_n (pc := 9) dX4_begin_9 0 rfl rfl ?_
  refine r_lload_n (pc := 10) dX4_begin_10 2 rfl rfl ?_
  refine r_pJ (pc := 11) dX4_begin_11 q1735 fd_92 same_rf rfl h (fun st e11 h => ?_)
  refine r_aload_n (pc := 14) dX4_begin_14 0 rfl rfl ?_
  refine r_iconst (pc := 15) (v := 0) dX4_begin_15 (by decide) ?_
  refine r_pI (pc := 16) dX4_begin_16 q1740 fd_97 same_rf rfl h (fun st e16 h => ?_)
  refine r_aload_n (pc := 19) dX4_begin_19 0 rfl rfl ?_
  refine r_iconst (pc := 20) (v := 0) dX4_begin_20 (by decide) ?_
  refine r_pI (pc := 21) dX4_begin_21 q1741 fd_98 same_rf rfl h (fun st e21 h => ?_)
  refine r_aload_n (pc := 24) dX4_begin_24 0 rfl rfl ?_
  refine r_lconst (pc := 25) (v := 0) dX4_begin_25 (by decide) ?_
  refine r_pJ (pc := 26) dX4_begin_26 q1736 fd_93 same_rf rfl h (fun st e26 h => ?_)
  refine r_aload_n (pc := 29) dX4_begin_29 0 rfl rfl ?_
  refine r_lconst (pc := 30) (v := 0) dX4_begin_30 (by decide) ?_
  refine r_pJ (pc := 31) dX4_begin_31 q1737 fd_94 same_rf rfl h (fun st e31 h => ?_)
  refine r_aload_n (pc := 34) dX4_begin_34 0 rfl rfl ?_
  refine r_lconst (pc := 35) (v := 0) dX4_begin_35 (by decide) ?_
  refine r_pJ (pc := 36) dX4_begin_36 q1738 fd_95 same_rf rfl h (fun st e36 h => ?_)
  refine r_aload_n (pc := 39) dX4_begin_39 0 rfl rfl ?_
  refine r_lconst (pc := 40) (v := 0) dX4_begin_40 (by decide) ?_
  refine r_pJ (pc := 41) dX4_begin_41 q1739 fd_96 same_rf rfl h (fun st e41 h => ?_)
  exact r_return_ (pc := 44) dX4_begin_44 rfl h
theorem sX4_cues_83B {st0 : Mem} {fin : Int32 × Mem} {kk83 : Rf → Int32 → Mem → Option (Int32 × Mem)} (hk83 : ∀ (v0 : Rf) (v1 : Int32) (st : Mem), kk83 v0 v1 st = some fin → G (cX4_cues, "HouseClapsModel", "cues", 14, (some .int), 2) st0 trI fin 83 [(0, vr v0), (1, vi v1)] [] st) (v0 : Rf) (v1 : Int32) (st : Mem) (h : bX4_cues_83B kk83 v0 v1 st = some fin) : G (cX4_cues, "HouseClapsModel", "cues", 14, (some .int), 2) st0 trI fin 83 [(0, vr v0), (1, vi v1)] [] st := by
  unfold bX4_cues_83B at h
  refine r_iload_n (pc := 83) dX4_cues_83 1 rfl rfl ?_
  refine r_iconst (pc := 84) (v := 3) dX4_cues_84 (by decide) ?_
  refine r_aload_n (pc := 85) dX4_cues_85 0 rfl rfl ?_
  refine r_gI (pc := 86) dX4_cues_86 q1729 fd_86 same_rf h (fun x86 e86 h => ?_)
  refine r_imul (pc := 89) dX4_cues_89 ?_
  refine r_icmp_ge (pc := 90) (tgt := 115) dX4_cues_90 (by decide) h (fun e90 h => ?_) (fun e90 h => ?_)
  · refine r_aload_n (pc := 115) dX4_cues_115 0 rfl rfl ?_
    refine r_gI (pc := 116) dX4_cues_116 q1729 fd_86 same_rf h (fun x116 e116 h => ?_)
    exact r_ireturn (pc := 119) dX4_cues_119 rfl rfl h
  · refine r_aload_n (pc := 93) dX4_cues_93 0 rfl rfl ?_
    refine r_gA (pc := 94) dX4_cues_94 q1704 fd_61 same_rf h (fun x94 e94 h => ?_)
    refine r_sipush (pc := 97) (v := 591) dX4_cues_97 (by decide) ?_
    refine r_iload_n (pc := 100) dX4_cues_100 1 rfl rfl ?_
    refine r_iadd (pc := 101) dX4_cues_101 ?_
    refine r_aload_n (pc := 102) dX4_cues_102 0 rfl rfl ?_
    refine r_gA (pc := 103) dX4_cues_103 q1706 fd_63 same_rf h (fun x103 e103 h => ?_)
    refine r_iload_n (pc := 106) dX4_cues_106 1 rfl rfl ?_
    refine r_iaload (pc := 107) dX4_cues_107 h (fun x107 e107 h => ?_)
    refine r_iastore (pc := 108) dX4_cues_108 h (fun st e108 h => ?_)
    refine r_iinc (pc := 109) (env' := [(1, vi (v1 + 1)), (0, vr v0)]) (cst := 1) dX4_cues_109 1 rfl (by decide) (by decide) rfl ?_
    refine r_goto (pc := 112) (tgt := 83) dX4_cues_112 (by decide) ?_
    exact r_sub (env' := [(0, vr v0), (1, vi (v1 + 1))]) [1, 0] rfl (hk83 _ _ _ h)
theorem sX4_cues_83 {st0 : Mem} {fin : Int32 × Mem} (n : Nat) : ∀ (v0 : Rf) (v1 : Int32) (st : Mem), bX4_cues_83 n v0 v1 st = some fin → G (cX4_cues, "HouseClapsModel", "cues", 14, (some .int), 2) st0 trI fin 83 [(0, vr v0), (1, vi v1)] [] st := by
  induction n with
  | zero => intro v0 v1 st h; cases h
  | succ n ih => intro v0 v1 st h; exact sX4_cues_83B  ih v0 v1 st h
theorem sX4_cues_49 {st0 : Mem} {fin : Int32 × Mem} (v0 : Rf) (st : Mem) (h : bX4_cues_49 v0 st = some fin) : G (cX4_cues, "HouseClapsModel", "cues", 14, (some .int), 2) st0 trI fin 49 [(0, vr v0)] [] st := by
  unfold bX4_cues_49 at h
  refine r_iconst (pc := 49) (v := (-1)) dX4_cues_49 (by decide) ?_
  refine r_aload_n (pc := 50) dX4_cues_50 0 rfl rfl ?_
  refine r_gI (pc := 51) dX4_cues_51 q1712 fd_69 same_rf h (fun x51 e51 h => ?_)
  refine r_isub (pc := 54) dX4_cues_54 ?_
  exact r_ireturn (pc := 55) dX4_cues_55 rfl rfl h
theorem sX4_cues_26B {st0 : Mem} {fin : Int32 × Mem} {kk26 : Rf → Mem → Option (Int32 × Mem)} (hk26 : ∀ (v0 : Rf) (st : Mem), kk26 v0 st = some fin → G (cX4_cues, "HouseClapsModel", "cues", 14, (some .int), 2) st0 trI fin 26 [(0, vr v0)] [] st) (v0 : Rf) (st : Mem) (h : bX4_cues_26B kk26 v0 st = some fin) : G (cX4_cues, "HouseClapsModel", "cues", 14, (some .int), 2) st0 trI fin 26 [(0, vr v0)] [] st := by
  unfold bX4_cues_26B at h
  refine r_aload_n (pc := 26) dX4_cues_26 0 rfl rfl ?_
  refine r_gI (pc := 27) dX4_cues_27 q1707 fd_64 same_rf h (fun x27 e27 h => ?_)
  refine r_if_eq (pc := 30) (tgt := 69) dX4_cues_30 (by decide) h (fun e30 h => ?_) (fun e30 h => ?_)
  · refine r_aload_n (pc := 69) dX4_cues_69 0 rfl rfl ?_
    refine r_gA (pc := 70) dX4_cues_70 q1704 fd_61 same_rf h (fun x70 e70 h => ?_)
    refine r_sipush (pc := 73) (v := 590) dX4_cues_73 (by decide) ?_
    refine r_aload_n (pc := 76) dX4_cues_76 0 rfl rfl ?_
    refine r_gI (pc := 77) dX4_cues_77 q1729 fd_86 same_rf h (fun x77 e77 h => ?_)
    refine r_iastore (pc := 80) dX4_cues_80 h (fun st e80 h => ?_)
    refine r_iconst (pc := 81) (v := 0) dX4_cues_81 (by decide) ?_
    refine r_istore_n (pc := 82) (env' := [(1, vi (0 : Int32)), (0, vr v0)]) dX4_cues_82 rfl (by decide) rfl ?_
    exact r_sub (env' := [(0, vr v0), (1, vi (0 : Int32))]) [1, 0] rfl (sX4_cues_83 hcFuel _ _ _ h)
  · refine r_aload_n (pc := 33) dX4_cues_33 0 rfl rfl ?_
    refine r_callI (pc := 34) (rest := []) (lkV dX4_cues_34 q2072 xd_X4_readCue (vc_of vt_X4_readCue q2074 (fun _ => sX4_readCue)) adx_X4_readCue) (by decide) (Nat.le_of_ble_eq_true rfl) rfl h (fun x34 st e34 h => ?_)
    refine r_if_eq (pc := 37) (tgt := 49) dX4_cues_37 (by decide) h (fun e37 h => ?_) (fun e37 h => ?_)
    · exact sX4_cues_49 _ _ h
    · refine r_aload_n (pc := 40) dX4_cues_40 0 rfl rfl ?_
      refine r_bipush (pc := 41) (v := 59) dX4_cues_41 (by decide) ?_
      refine r_callI (pc := 43) (rest := []) (lkV dX4_cues_43 q2028 xd_X4_sign (vc_of vt_X4_sign q2030 (fun _ => sX4_sign)) adx_X4_sign) (by decide) (Nat.le_of_ble_eq_true rfl) rfl h (fun x43 st e43 h => ?_)
      refine r_if_ne (pc := 46) (tgt := 56) dX4_cues_46 (by decide) h (fun e46 h => ?_) (fun e46 h => ?_)
      · refine r_aload_n (pc := 56) dX4_cues_56 0 rfl rfl ?_
        refine r_dup (pc := 57) dX4_cues_57 rfl ?_
        refine r_gI (pc := 58) dX4_cues_58 q1729 fd_86 same_rf h (fun x58 e58 h => ?_)
        refine r_iconst (pc := 61) (v := 1) dX4_cues_61 (by decide) ?_
        refine r_iadd (pc := 62) dX4_cues_62 ?_
        refine r_pI (pc := 63) dX4_cues_63 q1729 fd_86 same_rf rfl h (fun st e63 h => ?_)
        refine r_goto (pc := 66) (tgt := 26) dX4_cues_66 (by decide) ?_
        exact hk26 _ _ h
      · exact sX4_cues_49 _ _ h
theorem sX4_cues_26 {st0 : Mem} {fin : Int32 × Mem} (n : Nat) : ∀ (v0 : Rf) (st : Mem), bX4_cues_26 n v0 st = some fin → G (cX4_cues, "HouseClapsModel", "cues", 14, (some .int), 2) st0 trI fin 26 [(0, vr v0)] [] st := by
  induction n with
  | zero => intro v0 st h; cases h
  | succ n ih => intro v0 st h; exact sX4_cues_26B  ih v0 st h
theorem sX4_cues {a0 : Rf} {st : Mem} {fin : Int32 × Mem} (h : fX4_cues a0 st = some fin) : Con yX4_cues 14 [vr a0] st trI fin := by
  refine Con.mk (cc := cX4_cues) (n := 2) (own := "HouseClapsModel") (nm := "cues") (ret := (some .int)) (env := [(0, vr a0)]) q2071 rfl rfl rfl (by decide) ⟨Nat.le_of_ble_eq_true rfl, by decide⟩ rfl ?_
  unfold fX4_cues at h
  refine r_aload_n (pc := 0) dX4_cues_0 0 rfl rfl ?_
  refine r_iconst (pc := 1) (v := 0) dX4_cues_1 (by decide) ?_
  refine r_pI (pc := 2) dX4_cues_2 q1698 fd_55 same_rf rfl h (fun st e2 h => ?_)
  refine r_aload_n (pc := 5) dX4_cues_5 0 rfl rfl ?_
  refine r_sipush (pc := 6) (v := 400) dX4_cues_6 (by decide) ?_
  refine r_callV (pc := 9) (rest := []) (lkV dX4_cues_9 q1910 xd_X4_taken (vc_of vt_X4_taken q1912 (fun _ => sX4_taken)) adx_X4_taken) (by decide) (Nat.le_of_ble_eq_true rfl) rfl h (fun u9 st e9 h => ?_)
  refine r_aload_n (pc := 12) dX4_cues_12 0 rfl rfl ?_
  refine r_iconst (pc := 13) (v := 0) dX4_cues_13 (by decide) ?_
  refine r_pI (pc := 14) dX4_cues_14 q1711 fd_68 same_rf rfl h (fun st e14 h => ?_)
  refine r_aload_n (pc := 17) dX4_cues_17 0 rfl rfl ?_
  refine r_iconst (pc := 18) (v := 0) dX4_cues_18 (by decide) ?_
  refine r_pI (pc := 19) dX4_cues_19 q1729 fd_86 same_rf rfl h (fun st e19 h => ?_)
  refine r_aload_n (pc := 22) dX4_cues_22 0 rfl rfl ?_
  refine r_callV (pc := 23) (rest := []) (lkV dX4_cues_23 q1914 xd_X4_next (vc_of vt_X4_next q1916 (fun _ => sX4_next)) adx_X4_next) (by decide) (Nat.le_of_ble_eq_true rfl) rfl h (fun u23 st e23 h => ?_)
  exact sX4_cues_26 hcFuel _ _ h
theorem sX4_one_54 {st0 : Mem} {fin : Int32 × Mem} (v0 : Rf) (st : Mem) (h : bX4_one_54 v0 st = some fin) : G (cX4_one, "HouseClapsModel", "one", 14, (some .boolean), 3) st0 trI fin 54 [(0, vr v0)] [] st := by
  unfold bX4_one_54 at h
  refine r_aload_n (pc := 54) dX4_one_54 0 rfl rfl ?_
  refine r_iconst (pc := 55) (v := 4) dX4_one_55 (by decide) ?_
  refine r_callI (pc := 56) (rest := []) (lkV dX4_one_56 q1941 xd_X4_bad (vc_of vt_X4_bad q1943 (fun _ => sX4_bad)) adx_X4_bad) (by decide) (Nat.le_of_ble_eq_true rfl) rfl h (fun x56 st e56 h => ?_)
  exact r_ireturn (pc := 59) dX4_one_59 rfl rfl h
theorem sX4_one_96 {st0 : Mem} {fin : Int32 × Mem} {kk0 : Rf → Mem → Option (Int32 × Mem)} (hk0 : ∀ (v0 : Rf) (st : Mem), kk0 v0 st = some fin → G (cX4_one, "HouseClapsModel", "one", 14, (some .boolean), 3) st0 trI fin 0 [(0, vr v0)] [] st) (v0 : Rf) (k0 : Rf) (k1 : Int32) (k2 : Int32) (st : Mem) (h : bX4_one_96 kk0 v0 k0 k1 k2 st = some fin) : G (cX4_one, "HouseClapsModel", "one", 14, (some .boolean), 3) st0 trI fin 96 [(0, vr v0)] [vi k2, vi k1, vr k0] st := by
  unfold bX4_one_96 at h
  refine r_iastore (pc := 96) dX4_one_96 h (fun st e96 h => ?_)
  refine r_aload_n (pc := 97) dX4_one_97 0 rfl rfl ?_
  refine r_dup (pc := 98) dX4_one_98 rfl ?_
  refine r_gI (pc := 99) dX4_one_99 q1725 fd_82 same_rf h (fun x99 e99 h => ?_)
  refine r_iconst (pc := 102) (v := 1) dX4_one_102 (by decide) ?_
  refine r_iadd (pc := 103) dX4_one_103 ?_
  refine r_pI (pc := 104) dX4_one_104 q1725 fd_82 same_rf rfl h (fun st e104 h => ?_)
  refine r_goto (pc := 107) (tgt := 0) dX4_one_107 (by decide) ?_
  exact hk0 _ _ h
theorem sX4_one_36 {st0 : Mem} {fin : Int32 × Mem} {kk0 : Rf → Mem → Option (Int32 × Mem)} (hk0 : ∀ (v0 : Rf) (st : Mem), kk0 v0 st = some fin → G (cX4_one, "HouseClapsModel", "one", 14, (some .boolean), 3) st0 trI fin 0 [(0, vr v0)] [] st) (v0 : Rf) (v1 : Int32) (v2 : Int32) (st : Mem) (h : bX4_one_36 kk0 v0 v1 v2 st = some fin) : G (cX4_one, "HouseClapsModel", "one", 14, (some .boolean), 3) st0 trI fin 36 [(0, vr v0), (1, vi v1), (2, vi v2)] [] st := by
  unfold bX4_one_36 at h
  refine r_aload_n (pc := 36) dX4_one_36 0 rfl rfl ?_
  refine r_gI (pc := 37) dX4_one_37 q1726 fd_83 same_rf h (fun x37 e37 h => ?_)
  refine r_bipush (pc := 40) (v := 20) dX4_one_40 (by decide) ?_
  refine r_icmp_eq (pc := 42) (tgt := 54) dX4_one_42 (by decide) h (fun e42 h => ?_) (fun e42 h => ?_)
  · exact r_sub (env' := [(0, vr v0)]) [0] rfl (sX4_one_54 _ _ h)
  · refine r_aload_n (pc := 45) dX4_one_45 0 rfl rfl ?_
    refine r_callI (pc := 46) (rest := []) (lkV dX4_one_46 q1982 xd_X4_opened (vc_of vt_X4_opened q1984 (fun _ => sX4_opened)) adx_X4_opened) (by decide) (Nat.le_of_ble_eq_true rfl) rfl h (fun x46 st e46 h => ?_)
    refine r_bipush (pc := 49) (v := 8) dX4_one_49 (by decide) ?_
    refine r_icmp_ne (pc := 51) (tgt := 60) dX4_one_51 (by decide) h (fun e51 h => ?_) (fun e51 h => ?_)
    · refine r_aload_n (pc := 60) dX4_one_60 0 rfl rfl ?_
      refine r_dup (pc := 61) dX4_one_61 rfl ?_
      refine r_gI (pc := 62) dX4_one_62 q1726 fd_83 same_rf h (fun x62 e62 h => ?_)
      refine r_iconst (pc := 65) (v := 1) dX4_one_65 (by decide) ?_
      refine r_iadd (pc := 66) dX4_one_66 ?_
      refine r_pI (pc := 67) dX4_one_67 q1726 fd_83 same_rf rfl h (fun st e67 h => ?_)
      refine r_aload_n (pc := 70) dX4_one_70 0 rfl rfl ?_
      refine r_callV (pc := 71) (rest := []) (lkV dX4_one_71 q1914 xd_X4_next (vc_of vt_X4_next q1916 (fun _ => sX4_next)) adx_X4_next) (by decide) (Nat.le_of_ble_eq_true rfl) rfl h (fun u71 st e71 h => ?_)
      refine r_iload_n (pc := 74) dX4_one_74 2 rfl rfl ?_
      refine r_if_ge (pc := 75) (tgt := 110) dX4_one_75 (by decide) h (fun e75 h => ?_) (fun e75 h => ?_)
      · refine r_aload_n (pc := 110) dX4_one_110 0 rfl rfl ?_
        refine r_iload_n (pc := 111) dX4_one_111 2 rfl rfl ?_
        refine r_callI (pc := 112) (rest := []) (lkV dX4_one_112 q1986 xd_X4_asks (vc_of vt_X4_asks q1988 (fun _ => sX4_asks)) adx_X4_asks) (by decide) (Nat.le_of_ble_eq_true rfl) rfl h (fun x112 st e112 h => ?_)
        exact r_ireturn (pc := 115) dX4_one_115 rfl rfl h
      · refine r_aload_n (pc := 78) dX4_one_78 0 rfl rfl ?_
        refine r_gA (pc := 79) dX4_one_79 q1722 fd_79 same_rf h (fun x79 e79 h => ?_)
        refine r_aload_n (pc := 82) dX4_one_82 0 rfl rfl ?_
        refine r_gI (pc := 83) dX4_one_83 q1725 fd_82 same_rf h (fun x83 e83 h => ?_)
        refine r_iload_n (pc := 86) dX4_one_86 1 rfl rfl ?_
        refine r_if_eq (pc := 87) (tgt := 94) dX4_one_87 (by decide) h (fun e87 h => ?_) (fun e87 h => ?_)
        · refine r_bipush (pc := 94) (v := 6) dX4_one_94 (by decide) ?_
          exact r_sub (env' := [(0, vr v0)]) [0] rfl (sX4_one_96 hk0 _ _ _ _ _ h)
        · refine r_iconst (pc := 90) (v := 3) dX4_one_90 (by decide) ?_
          refine r_goto (pc := 91) (tgt := 96) dX4_one_91 (by decide) ?_
          exact r_sub (env' := [(0, vr v0)]) [0] rfl (sX4_one_96 hk0 _ _ _ _ _ h)
    · exact r_sub (env' := [(0, vr v0)]) [0] rfl (sX4_one_54 _ _ h)
theorem sX4_one_0B {st0 : Mem} {fin : Int32 × Mem} {kk0 : Rf → Mem → Option (Int32 × Mem)} (hk0 : ∀ (v0 : Rf) (st : Mem), kk0 v0 st = some fin → G (cX4_one, "HouseClapsModel", "one", 14, (some .boolean), 3) st0 trI fin 0 [(0, vr v0)] [] st) (v0 : Rf) (st : Mem) (h : bX4_one_0B kk0 v0 st = some fin) : G (cX4_one, "HouseClapsModel", "one", 14, (some .boolean), 3) st0 trI fin 0 [(0, vr v0)] [] st := by
  unfold bX4_one_0B at h
  refine r_aload_n (pc := 0) dX4_one_0 0 rfl rfl ?_
  refine r_ldc2 (pc := 1) dX4_one_1 q1965 ?_
  refine r_callI (pc := 4) (rest := []) (lkV dX4_one_4 q1933 xd_X4_isWord (vc_of vt_X4_isWord q1935 (fun _ => sX4_isWord)) adx_X4_isWord) (by decide) (Nat.le_of_ble_eq_true rfl) rfl h (fun x4 st e4 h => ?_)
  refine r_istore_n (pc := 7) (env' := [(1, vi x4), (0, vr v0)]) dX4_one_7 rfl (by decide) rfl ?_
  refine r_aload_n (pc := 8) dX4_one_8 1 rfl rfl ?_
  refine r_callI (pc := 9) (rest := []) (lkV dX4_one_9 q1966 xd_X4_atom (vc_of vt_X4_atom q1968 (fun _ => sX4_atom)) adx_X4_atom) (by decide) (Nat.le_of_ble_eq_true rfl) rfl h (fun x9 st e9 h => ?_)
  refine r_istore_n (pc := 12) (env' := [(2, vi x9), (1, vi x4), (0, vr v0)]) dX4_one_12 rfl (by decide) rfl ?_
  refine r_iload_n (pc := 13) dX4_one_13 1 rfl rfl ?_
  refine r_if_ne (pc := 14) (tgt := 36) dX4_one_14 (by decide) h (fun e14 h => ?_) (fun e14 h => ?_)
  · exact r_sub (env' := [(0, vr v0), (1, vi x4), (2, vi x9)]) [2, 1, 0] rfl (sX4_one_36 hk0 _ _ _ _ h)
  · refine r_iload_n (pc := 17) dX4_one_17 0 rfl rfl ?_
    refine r_if_ge (pc := 18) (tgt := 36) dX4_one_18 (by decide) h (fun e18 h => ?_) (fun e18 h => ?_)
    · exact r_sub (env' := [(0, vr v0), (1, vi x4), (2, vi x9)]) [2, 1, 0] rfl (sX4_one_36 hk0 _ _ _ _ h)
    · refine r_aload_n (pc := 21) dX4_one_21 2 rfl rfl ?_
      refine r_bipush (pc := 22) (v := 40) dX4_one_22 (by decide) ?_
      refine r_callI (pc := 24) (rest := []) (lkV dX4_one_24 q1978 xd_X4_isSign (vc_of vt_X4_isSign q1980 (fun _ => sX4_isSign)) adx_X4_isSign) (by decide) (Nat.le_of_ble_eq_true rfl) rfl h (fun x24 st e24 h => ?_)
      refine r_if_ne (pc := 27) (tgt := 36) dX4_one_27 (by decide) h (fun e27 h => ?_) (fun e27 h => ?_)
      · exact r_sub (env' := [(0, vr v0), (1, vi x4), (2, vi x9)]) [2, 1, 0] rfl (sX4_one_36 hk0 _ _ _ _ h)
      · refine r_aload_n (pc := 30) dX4_one_30 2 rfl rfl ?_
        refine r_iconst (pc := 31) (v := 1) dX4_one_31 (by decide) ?_
        refine r_callI (pc := 32) (rest := []) (lkV dX4_one_32 q1941 xd_X4_bad (vc_of vt_X4_bad q1943 (fun _ => sX4_bad)) adx_X4_bad) (by decide) (Nat.le_of_ble_eq_true rfl) rfl h (fun x32 st e32 h => ?_)
        exact r_ireturn (pc := 35) dX4_one_35 rfl rfl h
theorem sX4_one_0 {st0 : Mem} {fin : Int32 × Mem} (n : Nat) : ∀ (v0 : Rf) (st : Mem), bX4_one_0 n v0 st = some fin → G (cX4_one, "HouseClapsModel", "one", 14, (some .boolean), 3) st0 trI fin 0 [(0, vr v0)] [] st := by
  induction n with
  | zero => intro v0 st h; cases h
  | succ n ih => intro v0 st h; exact sX4_one_0B  ih v0 st h
theorem sX4_one {a0 : Rf} {st : Mem} {fin : Int32 × Mem} (h : fX4_one a0 st = some fin) : Con yX4_one 14 [vr a0] st trI fin := by
  refine Con.mk (cc := cX4_one) (n := 3) (own := "HouseClapsModel") (nm := "one") (ret := (some .boolean)) (env := [(0, vr a0)]) q1964 rfl rfl rfl (by decide) ⟨Nat.le_of_ble_eq_true rfl, by decide⟩ rfl ?_
  unfold fX4_one at h
  exact r_sub (env' := [(0, vr a0)]) [0] rfl (sX4_one_0 hcFuel _ _ h)
theorem sX4_cond_124 {st0 : Mem} {fin : Int32 × Mem} {kk0 : Rf → Mem → Option (Int32 × Mem)} (hk0 : ∀ (v0 : Rf) (st : Mem), kk0 v0 st = some fin → G (cX4_cond, "HouseClapsModel", "cond", 16, (some .boolean), 2) st0 trI fin 0 [(0, vr v0)] [] st) (v0 : Rf) (k0 : Rf) (k1 : Int32) (k2 : Int32) (st : Mem) (h : bX4_cond_124 kk0 v0 k0 k1 k2 st = some fin) : G (cX4_cond, "HouseClapsModel", "cond", 16, (some .boolean), 2) st0 trI fin 124 [(0, vr v0)] [vi k2, vi k1, vr k0] st := by
  unfold bX4_cond_124 at h
  refine r_iastore (pc := 124) dX4_cond_124 h (fun st e124 h => ?_)
  refine r_aload_n (pc := 125) dX4_cond_125 0 rfl rfl ?_
  refine r_dup (pc := 126) dX4_cond_126 rfl ?_
  refine r_gI (pc := 127) dX4_cond_127 q1725 fd_82 same_rf h (fun x127 e127 h => ?_)
  refine r_iconst (pc := 130) (v := 1) dX4_cond_130 (by decide) ?_
  refine r_iadd (pc := 131) dX4_cond_131 ?_
  refine r_pI (pc := 132) dX4_cond_132 q1725 fd_82 same_rf rfl h (fun st e132 h => ?_)
  refine r_aload_n (pc := 135) dX4_cond_135 0 rfl rfl ?_
  refine r_callV (pc := 136) (rest := []) (lkV dX4_cond_136 q1914 xd_X4_next (vc_of vt_X4_next q1916 (fun _ => sX4_next)) adx_X4_next) (by decide) (Nat.le_of_ble_eq_true rfl) rfl h (fun u136 st e136 h => ?_)
  refine r_goto (pc := 139) (tgt := 0) dX4_cond_139 (by decide) ?_
  exact hk0 _ _ h
theorem sX4_cond_104 {st0 : Mem} {fin : Int32 × Mem} {kk0 : Rf → Mem → Option (Int32 × Mem)} (hk0 : ∀ (v0 : Rf) (st : Mem), kk0 v0 st = some fin → G (cX4_cond, "HouseClapsModel", "cond", 16, (some .boolean), 2) st0 trI fin 0 [(0, vr v0)] [] st) (v0 : Rf) (v1 : Int32) (k0 : Rf) (k1 : Int32) (st : Mem) (h : bX4_cond_104 kk0 v0 v1 k0 k1 st = some fin) : G (cX4_cond, "HouseClapsModel", "cond", 16, (some .boolean), 2) st0 trI fin 104 [(0, vr v0), (1, vi v1)] [vi k1, vr k0] st := by
  unfold bX4_cond_104 at h
  refine r_callV (pc := 104) (rest := []) (lkV dX4_cond_104 q1998 xd_X4_writeDown (vc_of vt_X4_writeDown q2000 (fun _ => sX4_writeDown)) adx_X4_writeDown) (by decide) (Nat.le_of_ble_eq_true rfl) rfl h (fun u104 st e104 h => ?_)
  refine r_aload_n (pc := 107) dX4_cond_107 0 rfl rfl ?_
  refine r_gA (pc := 108) dX4_cond_108 q1722 fd_79 same_rf h (fun x108 e108 h => ?_)
  refine r_aload_n (pc := 111) dX4_cond_111 0 rfl rfl ?_
  refine r_gI (pc := 112) dX4_cond_112 q1725 fd_82 same_rf h (fun x112 e112 h => ?_)
  refine r_iload_n (pc := 115) dX4_cond_115 1 rfl rfl ?_
  refine r_if_eq (pc := 116) (tgt := 123) dX4_cond_116 (by decide) h (fun e116 h => ?_) (fun e116 h => ?_)
  · refine r_iconst (pc := 123) (v := 5) dX4_cond_123 (by decide) ?_
    exact r_sub (env' := [(0, vr v0)]) [0] rfl (sX4_cond_124 hk0 _ _ _ _ _ h)
  · refine r_iconst (pc := 119) (v := 4) dX4_cond_119 (by decide) ?_
    refine r_goto (pc := 120) (tgt := 124) dX4_cond_120 (by decide) ?_
    exact r_sub (env' := [(0, vr v0)]) [0] rfl (sX4_cond_124 hk0 _ _ _ _ _ h)
theorem sX4_cond_94 {st0 : Mem} {fin : Int32 × Mem} {kk0 : Rf → Mem → Option (Int32 × Mem)} (hk0 : ∀ (v0 : Rf) (st : Mem), kk0 v0 st = some fin → G (cX4_cond, "HouseClapsModel", "cond", 16, (some .boolean), 2) st0 trI fin 0 [(0, vr v0)] [] st) (v0 : Rf) (v1 : Int32) (st : Mem) (h : bX4_cond_94 kk0 v0 v1 st = some fin) : G (cX4_cond, "HouseClapsModel", "cond", 16, (some .boolean), 2) st0 trI fin 94 [(0, vr v0), (1, vi v1)] [] st := by
  unfold bX4_cond_94 at h
  refine r_aload_n (pc := 94) dX4_cond_94 0 rfl rfl ?_
  refine r_iload_n (pc := 95) dX4_cond_95 1 rfl rfl ?_
  refine r_if_eq (pc := 96) (tgt := 103) dX4_cond_96 (by decide) h (fun e96 h => ?_) (fun e96 h => ?_)
  · refine r_iconst (pc := 103) (v := 1) dX4_cond_103 (by decide) ?_
    exact sX4_cond_104 hk0 _ _ _ _ _ h
  · refine r_iconst (pc := 99) (v := 2) dX4_cond_99 (by decide) ?_
    refine r_goto (pc := 100) (tgt := 104) dX4_cond_100 (by decide) ?_
    exact sX4_cond_104 hk0 _ _ _ _ _ h
theorem sX4_cond_52 {st0 : Mem} {fin : Int32 × Mem} {kk0 : Rf → Mem → Option (Int32 × Mem)} (hk0 : ∀ (v0 : Rf) (st : Mem), kk0 v0 st = some fin → G (cX4_cond, "HouseClapsModel", "cond", 16, (some .boolean), 2) st0 trI fin 0 [(0, vr v0)] [] st) (v0 : Rf) (st : Mem) (h : bX4_cond_52 kk0 v0 st = some fin) : G (cX4_cond, "HouseClapsModel", "cond", 16, (some .boolean), 2) st0 trI fin 52 [(0, vr v0)] [] st := by
  unfold bX4_cond_52 at h
  refine r_aload_n (pc := 52) dX4_cond_52 0 rfl rfl ?_
  refine r_ldc2 (pc := 53) dX4_cond_53 q2009 ?_
  refine r_callI (pc := 56) (rest := []) (lkV dX4_cond_56 q1933 xd_X4_isWord (vc_of vt_X4_isWord q1935 (fun _ => sX4_isWord)) adx_X4_isWord) (by decide) (Nat.le_of_ble_eq_true rfl) rfl h (fun x56 st e56 h => ?_)
  refine r_istore_n (pc := 59) (env' := [(1, vi x56), (0, vr v0)]) dX4_cond_59 rfl (by decide) rfl ?_
  refine r_iload_n (pc := 60) dX4_cond_60 0 rfl rfl ?_
  refine r_if_ne (pc := 61) (tgt := 94) dX4_cond_61 (by decide) h (fun e61 h => ?_) (fun e61 h => ?_)
  · exact r_sub (env' := [(0, vr v0), (1, vi x56)]) [1, 0] rfl (sX4_cond_94 hk0 _ _ _ h)
  · refine r_aload_n (pc := 64) dX4_cond_64 1 rfl rfl ?_
    refine r_ldc2 (pc := 65) dX4_cond_65 q2010 ?_
    refine r_callI (pc := 68) (rest := []) (lkV dX4_cond_68 q1933 xd_X4_isWord (vc_of vt_X4_isWord q1935 (fun _ => sX4_isWord)) adx_X4_isWord) (by decide) (Nat.le_of_ble_eq_true rfl) rfl h (fun x68 st e68 h => ?_)
    refine r_if_ne (pc := 71) (tgt := 94) dX4_cond_71 (by decide) h (fun e71 h => ?_) (fun e71 h => ?_)
    · exact r_sub (env' := [(0, vr v0), (1, vi x56)]) [1, 0] rfl (sX4_cond_94 hk0 _ _ _ h)
    · refine r_aload_n (pc := 74) dX4_cond_74 1 rfl rfl ?_
      refine r_callI (pc := 75) (rest := []) (lkV dX4_cond_75 q2005 xd_X4_isOpen (vc_of vt_X4_isOpen q2007 (fun _ => sX4_isOpen)) adx_X4_isOpen) (by decide) (Nat.le_of_ble_eq_true rfl) rfl h (fun x75 st e75 h => ?_)
      refine r_if_eq (pc := 78) (tgt := 87) dX4_cond_78 (by decide) h (fun e78 h => ?_) (fun e78 h => ?_)
      · refine r_aload_n (pc := 87) dX4_cond_87 1 rfl rfl ?_
        refine r_iconst (pc := 88) (v := 1) dX4_cond_88 (by decide) ?_
        refine r_callV (pc := 89) (rest := []) (lkV dX4_cond_89 q1998 xd_X4_writeDown (vc_of vt_X4_writeDown q2000 (fun _ => sX4_writeDown)) adx_X4_writeDown) (by decide) (Nat.le_of_ble_eq_true rfl) rfl h (fun u89 st e89 h => ?_)
        refine r_iconst (pc := 92) (v := 1) dX4_cond_92 (by decide) ?_
        exact r_ireturn (pc := 93) dX4_cond_93 rfl rfl h
      · refine r_aload_n (pc := 81) dX4_cond_81 1 rfl rfl ?_
        refine r_iconst (pc := 82) (v := 1) dX4_cond_82 (by decide) ?_
        refine r_callI (pc := 83) (rest := []) (lkV dX4_cond_83 q1941 xd_X4_bad (vc_of vt_X4_bad q1943 (fun _ => sX4_bad)) adx_X4_bad) (by decide) (Nat.le_of_ble_eq_true rfl) rfl h (fun x83 st e83 h => ?_)
        exact r_ireturn (pc := 86) dX4_cond_86 rfl rfl h
theorem sX4_cond_9B {st0 : Mem} {fin : Int32 × Mem} {kk0 : Rf → Mem → Option (Int32 × Mem)} {kk9 : Rf → Mem → Option (Int32 × Mem)} (hk0 : ∀ (v0 : Rf) (st : Mem), kk0 v0 st = some fin → G (cX4_cond, "HouseClapsModel", "cond", 16, (some .boolean), 2) st0 trI fin 0 [(0, vr v0)] [] st) (hk9 : ∀ (v0 : Rf) (st : Mem), kk9 v0 st = some fin → G (cX4_cond, "HouseClapsModel", "cond", 16, (some .boolean), 2) st0 trI fin 9 [(0, vr v0)] [] st) (v0 : Rf) (st : Mem) (h : bX4_cond_9B kk0 kk9 v0 st = some fin) : G (cX4_cond, "HouseClapsModel", "cond", 16, (some .boolean), 2) st0 trI fin 9 [(0, vr v0)] [] st := by
  unfold bX4_cond_9B at h
  refine r_aload_n (pc := 9) dX4_cond_9 0 rfl rfl ?_
  refine r_bipush (pc := 10) (v := 41) dX4_cond_10 (by decide) ?_
  refine r_callI (pc := 12) (rest := []) (lkV dX4_cond_12 q1978 xd_X4_isSign (vc_of vt_X4_isSign q1980 (fun _ => sX4_isSign)) adx_X4_isSign) (by decide) (Nat.le_of_ble_eq_true rfl) rfl h (fun x12 st e12 h => ?_)
  refine r_if_eq (pc := 15) (tgt := 52) dX4_cond_15 (by decide) h (fun e15 h => ?_) (fun e15 h => ?_)
  · exact sX4_cond_52 hk0 _ _ h
  · refine r_aload_n (pc := 18) dX4_cond_18 0 rfl rfl ?_
    refine r_callI (pc := 19) (rest := []) (lkV dX4_cond_19 q2005 xd_X4_isOpen (vc_of vt_X4_isOpen q2007 (fun _ => sX4_isOpen)) adx_X4_isOpen) (by decide) (Nat.le_of_ble_eq_true rfl) rfl h (fun x19 st e19 h => ?_)
    refine r_if_eq (pc := 22) (tgt := 52) dX4_cond_22 (by decide) h (fun e22 h => ?_) (fun e22 h => ?_)
    · exact sX4_cond_52 hk0 _ _ h
    · refine r_aload_n (pc := 25) dX4_cond_25 0 rfl rfl ?_
      refine r_iconst (pc := 26) (v := 1) dX4_cond_26 (by decide) ?_
      refine r_callV (pc := 27) (rest := []) (lkV dX4_cond_27 q1998 xd_X4_writeDown (vc_of vt_X4_writeDown q2000 (fun _ => sX4_writeDown)) adx_X4_writeDown) (by decide) (Nat.le_of_ble_eq_true rfl) rfl h (fun u27 st e27 h => ?_)
      refine r_aload_n (pc := 30) dX4_cond_30 0 rfl rfl ?_
      refine r_dup (pc := 31) dX4_cond_31 rfl ?_
      refine r_gI (pc := 32) dX4_cond_32 q1725 fd_82 same_rf h (fun x32 e32 h => ?_)
      refine r_iconst (pc := 35) (v := 1) dX4_cond_35 (by decide) ?_
      refine r_isub (pc := 36) dX4_cond_36 ?_
      refine r_pI (pc := 37) dX4_cond_37 q1725 fd_82 same_rf rfl h (fun st e37 h => ?_)
      refine r_aload_n (pc := 40) dX4_cond_40 0 rfl rfl ?_
      refine r_iconst (pc := 41) (v := 3) dX4_cond_41 (by decide) ?_
      refine r_callV (pc := 42) (rest := []) (lkV dX4_cond_42 q1998 xd_X4_writeDown (vc_of vt_X4_writeDown q2000 (fun _ => sX4_writeDown)) adx_X4_writeDown) (by decide) (Nat.le_of_ble_eq_true rfl) rfl h (fun u42 st e42 h => ?_)
      refine r_aload_n (pc := 45) dX4_cond_45 0 rfl rfl ?_
      refine r_callV (pc := 46) (rest := []) (lkV dX4_cond_46 q1914 xd_X4_next (vc_of vt_X4_next q1916 (fun _ => sX4_next)) adx_X4_next) (by decide) (Nat.le_of_ble_eq_true rfl) rfl h (fun u46 st e46 h => ?_)
      refine r_goto (pc := 49) (tgt := 9) dX4_cond_49 (by decide) ?_
      exact hk9 _ _ h
theorem sX4_cond_9 {st0 : Mem} {fin : Int32 × Mem} {kk0 : Rf → Mem → Option (Int32 × Mem)} (hk0 : ∀ (v0 : Rf) (st : Mem), kk0 v0 st = some fin → G (cX4_cond, "HouseClapsModel", "cond", 16, (some .boolean), 2) st0 trI fin 0 [(0, vr v0)] [] st) (n : Nat) : ∀ (v0 : Rf) (st : Mem), bX4_cond_9 kk0 n v0 st = some fin → G (cX4_cond, "HouseClapsModel", "cond", 16, (some .boolean), 2) st0 trI fin 9 [(0, vr v0)] [] st := by
  induction n with
  | zero => intro v0 st h; cases h
  | succ n ih => intro v0 st h; exact sX4_cond_9B hk0  ih v0 st h
theorem sX4_cond_0B {st0 : Mem} {fin : Int32 × Mem} {kk0 : Rf → Mem → Option (Int32 × Mem)} (hk0 : ∀ (v0 : Rf) (st : Mem), kk0 v0 st = some fin → G (cX4_cond, "HouseClapsModel", "cond", 16, (some .boolean), 2) st0 trI fin 0 [(0, vr v0)] [] st) (v0 : Rf) (st : Mem) (h : bX4_cond_0B kk0 v0 st = some fin) : G (cX4_cond, "HouseClapsModel", "cond", 16, (some .boolean), 2) st0 trI fin 0 [(0, vr v0)] [] st := by
  unfold bX4_cond_0B at h
  refine r_aload_n (pc := 0) dX4_cond_0 0 rfl rfl ?_
  refine r_callI (pc := 1) (rest := []) (lkV dX4_cond_1 q1961 xd_X4_one (vc_of vt_X4_one q1963 (fun _ => sX4_one)) adx_X4_one) (by decide) (Nat.le_of_ble_eq_true rfl) rfl h (fun x1 st e1 h => ?_)
  refine r_if_ne (pc := 4) (tgt := 9) dX4_cond_4 (by decide) h (fun e4 h => ?_) (fun e4 h => ?_)
  · exact sX4_cond_9 hk0 hcFuel _ _ h
  · refine r_iconst (pc := 7) (v := 0) dX4_cond_7 (by decide) ?_
    exact r_ireturn (pc := 8) dX4_cond_8 rfl rfl h
theorem sX4_cond_0 {st0 : Mem} {fin : Int32 × Mem} (n : Nat) : ∀ (v0 : Rf) (st : Mem), bX4_cond_0 n v0 st = some fin → G (cX4_cond, "HouseClapsModel", "cond", 16, (some .boolean), 2) st0 trI fin 0 [(0, vr v0)] [] st := by
  induction n with
  | zero => intro v0 st h; cases h
  | succ n ih => intro v0 st h; exact sX4_cond_0B  ih v0 st h
theorem sX4_cond {a0 : Rf} {st : Mem} {fin : Int32 × Mem} (h : fX4_cond a0 st = some fin) : Con yX4_cond 16 [vr a0] st trI fin := by
  refine Con.mk (cc := cX4_cond) (n := 2) (own := "HouseClapsModel") (nm := "cond") (ret := (some .boolean)) (env := [(0, vr a0)]) q1960 rfl rfl rfl (by decide) ⟨Nat.le_of_ble_eq_true rfl, by decide⟩ rfl ?_
  unfold fX4_cond at h
  exact r_sub (env' := [(0, vr a0)]) [0] rfl (sX4_cond_0 hcFuel _ _ h)
theorem sX4_height_77 {st0 : Mem} {fin : Int32 × Mem} (v0 : Rf) (k0 : Rf) (k1 : Int32) (st : Mem) (h : bX4_height_77 v0 k0 k1 st = some fin) : G (cX4_height, "HouseClapsModel", "height", 16, (some .int), 6) st0 trI fin 77 [(0, vr v0)] [vi k1, vr k0] st := by
  unfold bX4_height_77 at h
  refine r_pI (pc := 77) dX4_height_77 q1743 fd_100 same_rf rfl h (fun st e77 h => ?_)
  refine r_aload_n (pc := 80) dX4_height_80 0 rfl rfl ?_
  refine r_gI (pc := 81) dX4_height_81 q1742 fd_99 same_rf h (fun x81 e81 h => ?_)
  exact r_ireturn (pc := 84) dX4_height_84 rfl rfl h
theorem sX4_height_52 {st0 : Mem} {fin : Int32 × Mem} {kk11 : Rf → Mem → Option (Int32 × Mem)} (hk11 : ∀ (v0 : Rf) (st : Mem), kk11 v0 st = some fin → G (cX4_height, "HouseClapsModel", "height", 16, (some .int), 6) st0 trI fin 11 [(0, vr v0)] [] st) (v0 : Rf) (k0 : Rf) (k1 : Int32) (st : Mem) (h : bX4_height_52 kk11 v0 k0 k1 st = some fin) : G (cX4_height, "HouseClapsModel", "height", 16, (some .int), 6) st0 trI fin 52 [(0, vr v0)] [vi k1, vr k0] st := by
  unfold bX4_height_52 at h
  refine r_pI (pc := 52) dX4_height_52 q1742 fd_99 same_rf rfl h (fun st e52 h => ?_)
  refine r_goto (pc := 55) (tgt := 11) dX4_height_55 (by decide) ?_
  exact hk11 _ _ h
theorem sX4_height_11B {st0 : Mem} {fin : Int32 × Mem} {kk11 : Rf → Mem → Option (Int32 × Mem)} (hk11 : ∀ (v0 : Rf) (st : Mem), kk11 v0 st = some fin → G (cX4_height, "HouseClapsModel", "height", 16, (some .int), 6) st0 trI fin 11 [(0, vr v0)] [] st) (v0 : Rf) (st : Mem) (h : bX4_height_11B kk11 v0 st = some fin) : G (cX4_height, "HouseClapsModel", "height", 16, (some .int), 6) st0 trI fin 11 [(0, vr v0)] [] st := by
  unfold bX4_height_11B at h
  refine r_aload_n (pc := 11) dX4_height_11 0 rfl rfl ?_
  refine r_gI (pc := 12) dX4_height_12 q1740 fd_97 same_rf h (fun x12 e12 h => ?_)
  refine r_bipush (pc := 15) (v := 60) dX4_height_15 (by decide) ?_
  refine r_icmp_gt (pc := 17) (tgt := 58) dX4_height_17 (by decide) h (fun e17 h => ?_) (fun e17 h => ?_)
  · refine r_aload_n (pc := 58) dX4_height_58 0 rfl rfl ?_
    refine r_aload_n (pc := 59) dX4_height_59 0 rfl rfl ?_
    refine r_gI (pc := 60) dX4_height_60 q1742 fd_99 same_rf h (fun x60 e60 h => ?_)
    refine r_aload_n (pc := 63) dX4_height_63 0 rfl rfl ?_
    refine r_gA (pc := 64) dX4_height_64 q1704 fd_61 same_rf h (fun x64 e64 h => ?_)
    refine r_iconst (pc := 67) (v := 3) dX4_height_67 (by decide) ?_
    refine r_iaload (pc := 68) dX4_height_68 h (fun x68 e68 h => ?_)
    refine r_icmp_lt (pc := 69) (tgt := 76) dX4_height_69 (by decide) h (fun e69 h => ?_) (fun e69 h => ?_)
    · refine r_iconst (pc := 76) (v := 0) dX4_height_76 (by decide) ?_
      exact sX4_height_77 _ _ _ _ h
    · refine r_iconst (pc := 72) (v := 1) dX4_height_72 (by decide) ?_
      refine r_goto (pc := 73) (tgt := 77) dX4_height_73 (by decide) ?_
      exact sX4_height_77 _ _ _ _ h
  · refine r_aload_n (pc := 20) dX4_height_20 0 rfl rfl ?_
    refine r_callV (pc := 21) (rest := []) (lkV dX4_height_21 q2112 xd_X4_moment (vc_of vt_X4_moment q2114 (fun _ => sX4_moment)) adx_X4_moment) (by decide) (Nat.le_of_ble_eq_true rfl) rfl h (fun u21 st e21 h => ?_)
    refine r_aload_n (pc := 24) dX4_height_24 0 rfl rfl ?_
    refine r_gJ (pc := 25) dX4_height_25 q1737 fd_94 same_rf h (fun x25 e25 h => ?_)
    refine r_callI (pc := 28) (rest := []) (lkS dX4_height_28 q2132 q2133 q92 (fun _ => sX4_bits) ad_X4_bits) (by decide) (Nat.le_of_ble_eq_true rfl) rfl h (fun x28 st e28 h => ?_)
    refine r_istore (pc := 31) (env' := [(5, vi x28), (0, vr v0)]) dX4_height_31 (by decide) rfl ?_
    refine r_aload_n (pc := 33) dX4_height_33 1 rfl rfl ?_
    refine r_iload (pc := 34) dX4_height_34 0 rfl ?_
    refine r_aload_n (pc := 36) dX4_height_36 1 rfl rfl ?_
    refine r_gI (pc := 37) dX4_height_37 q1742 fd_99 same_rf h (fun x37 e37 h => ?_)
    refine r_icmp_le (pc := 40) (tgt := 48) dX4_height_40 (by decide) h (fun e40 h => ?_) (fun e40 h => ?_)
    · refine r_aload_n (pc := 48) dX4_height_48 1 rfl rfl ?_
      refine r_gI (pc := 49) dX4_height_49 q1742 fd_99 same_rf h (fun x49 e49 h => ?_)
      exact r_sub (env' := [(0, vr v0)]) [1] rfl (sX4_height_52 hk11 _ _ _ _ h)
    · refine r_iload (pc := 43) dX4_height_43 0 rfl ?_
      refine r_goto (pc := 45) (tgt := 52) dX4_height_45 (by decide) ?_
      exact r_sub (env' := [(0, vr v0)]) [1] rfl (sX4_height_52 hk11 _ _ _ _ h)
theorem sX4_height_11 {st0 : Mem} {fin : Int32 × Mem} (n : Nat) : ∀ (v0 : Rf) (st : Mem), bX4_height_11 n v0 st = some fin → G (cX4_height, "HouseClapsModel", "height", 16, (some .int), 6) st0 trI fin 11 [(0, vr v0)] [] st := by
  induction n with
  | zero => intro v0 st h; cases h
  | succ n ih => intro v0 st h; exact sX4_height_11B  ih v0 st h
theorem sX4_height {a0 : Rf} {a1 : Int64} {a3 : Int64} {st : Mem} {fin : Int32 × Mem} (h : fX4_height a0 a1 a3 st = some fin) : Con yX4_height 16 [vr a0, vj a1, vj a3] st trI fin := by
  refine Con.mk (cc := cX4_height) (n := 6) (own := "HouseClapsModel") (nm := "height") (ret := (some .int)) (env := [(0, vr a0), (1, vj a1), (3, vj a3)]) q2186 rfl rfl rfl (by decide) ⟨Nat.le_of_ble_eq_true rfl, by decide⟩ rfl ?_
  unfold fX4_height at h
  refine r_aload_n (pc := 0) dX4_height_0 0 rfl rfl ?_
  refine r_lload_n (pc := 1) dX4_height_1 1 rfl rfl ?_
  refine r_lload_n (pc := 2) dX4_height_2 2 rfl rfl ?_
  refine r_callV (pc := 3) (rest := []) (lkV dX4_height_3 q2100 xd_X4_begin (vc_of vt_X4_begin q2102 (fun _ => sX4_begin)) adx_X4_begin) (by decide) (Nat.le_of_ble_eq_true rfl) rfl h (fun u3 st e3 h => ?_)
  refine r_aload_n (pc := 6) dX4_height_6 0 rfl rfl ?_
  refine r_iconst (pc := 7) (v := 0) dX4_height_7 (by decide) ?_
  refine r_pI (pc := 8) dX4_height_8 q1742 fd_99 same_rf rfl h (fun st e8 h => ?_)
  exact r_sub (env' := [(0, vr a0)]) [0] rfl (sX4_height_11 hcFuel _ _ h)
theorem sX4_isSketch_62 {st0 : Mem} {fin : Int32 × Mem} (st : Mem) (h : bX4_isSketch_62  st = some fin) : G (cX4_isSketch, "HouseClapsModel", "isSketch", 16, (some .boolean), 4) st0 trI fin 62 [] [] st := by
  unfold bX4_isSketch_62 at h
  refine r_iconst (pc := 62) (v := 0) dX4_isSketch_62 (by decide) ?_
  exact r_ireturn (pc := 63) dX4_isSketch_63 rfl rfl h
theorem sX4_isSketch_9B {st0 : Mem} {fin : Int32 × Mem} {kk9 : Rf → Int32 → Mem → Option (Int32 × Mem)} (hk9 : ∀ (v0 : Rf) (v3 : Int32) (st : Mem), kk9 v0 v3 st = some fin → G (cX4_isSketch, "HouseClapsModel", "isSketch", 16, (some .boolean), 4) st0 trI fin 9 [(0, vr v0), (3, vi v3)] [] st) (v0 : Rf) (v3 : Int32) (st : Mem) (h : bX4_isSketch_9B kk9 v0 v3 st = some fin) : G (cX4_isSketch, "HouseClapsModel", "isSketch", 16, (some .boolean), 4) st0 trI fin 9 [(0, vr v0), (3, vi v3)] [] st := by
  unfold bX4_isSketch_9B at h
  refine r_aload_n (pc := 9) dX4_isSketch_9 0 rfl rfl ?_
  refine r_gI (pc := 10) dX4_isSketch_10 q1740 fd_97 same_rf h (fun x10 e10 h => ?_)
  refine r_iload_n (pc := 13) dX4_isSketch_13 1 rfl rfl ?_
  refine r_icmp_gt (pc := 14) (tgt := 24) dX4_isSketch_14 (by decide) h (fun e14 h => ?_) (fun e14 h => ?_)
  · refine r_aload_n (pc := 24) dX4_isSketch_24 0 rfl rfl ?_
    refine r_gJ (pc := 25) dX4_isSketch_25 q1736 fd_93 same_rf h (fun x25 e25 h => ?_)
    refine r_aload_n (pc := 28) dX4_isSketch_28 0 rfl rfl ?_
    refine r_gJ (pc := 29) dX4_isSketch_29 q1756 fd_113 same_rf h (fun x29 e29 h => ?_)
    refine r_land (pc := 32) dX4_isSketch_32 ?_
    refine r_aload_n (pc := 33) dX4_isSketch_33 0 rfl rfl ?_
    refine r_gJ (pc := 34) dX4_isSketch_34 q1754 fd_111 same_rf h (fun x34 e34 h => ?_)
    refine r_lcmp_ne (pc := 37) (tgt := 62) dX4_isSketch_37 dX4_isSketch_38 (by decide) h (fun e38 h => ?_) (fun e38 h => ?_)
    · exact r_sub (env' := []) [] rfl (sX4_isSketch_62 _ h)
    · refine r_aload_n (pc := 41) dX4_isSketch_41 0 rfl rfl ?_
      refine r_gJ (pc := 42) dX4_isSketch_42 q1737 fd_94 same_rf h (fun x42 e42 h => ?_)
      refine r_aload_n (pc := 45) dX4_isSketch_45 0 rfl rfl ?_
      refine r_gJ (pc := 46) dX4_isSketch_46 q1756 fd_113 same_rf h (fun x46 e46 h => ?_)
      refine r_land (pc := 49) dX4_isSketch_49 ?_
      refine r_aload_n (pc := 50) dX4_isSketch_50 0 rfl rfl ?_
      refine r_gJ (pc := 51) dX4_isSketch_51 q1755 fd_112 same_rf h (fun x51 e51 h => ?_)
      refine r_lcmp_ne (pc := 54) (tgt := 62) dX4_isSketch_54 dX4_isSketch_55 (by decide) h (fun e55 h => ?_) (fun e55 h => ?_)
      · exact r_sub (env' := []) [] rfl (sX4_isSketch_62 _ h)
      · refine r_iconst (pc := 58) (v := 1) dX4_isSketch_58 (by decide) ?_
        refine r_goto (pc := 59) (tgt := 63) dX4_isSketch_59 (by decide) ?_
        exact r_ireturn (pc := 63) dX4_isSketch_63 rfl rfl h
  · refine r_aload_n (pc := 17) dX4_isSketch_17 0 rfl rfl ?_
    refine r_callV (pc := 18) (rest := []) (lkV dX4_isSketch_18 q2112 xd_X4_moment (vc_of vt_X4_moment q2114 (fun _ => sX4_moment)) adx_X4_moment) (by decide) (Nat.le_of_ble_eq_true rfl) rfl h (fun u18 st e18 h => ?_)
    refine r_goto (pc := 21) (tgt := 9) dX4_isSketch_21 (by decide) ?_
    exact hk9 _ _ _ h
theorem sX4_isSketch_9 {st0 : Mem} {fin : Int32 × Mem} (n : Nat) : ∀ (v0 : Rf) (v3 : Int32) (st : Mem), bX4_isSketch_9 n v0 v3 st = some fin → G (cX4_isSketch, "HouseClapsModel", "isSketch", 16, (some .boolean), 4) st0 trI fin 9 [(0, vr v0), (3, vi v3)] [] st := by
  induction n with
  | zero => intro v0 v3 st h; cases h
  | succ n ih => intro v0 v3 st h; exact sX4_isSketch_9B  ih v0 v3 st h
theorem sX4_isSketch {a0 : Rf} {a1 : Int64} {a3 : Int32} {st : Mem} {fin : Int32 × Mem} (h : fX4_isSketch a0 a1 a3 st = some fin) : Con yX4_isSketch 16 [vr a0, vj a1, vi a3] st trI fin := by
  refine Con.mk (cc := cX4_isSketch) (n := 4) (own := "HouseClapsModel") (nm := "isSketch") (ret := (some .boolean)) (env := [(0, vr a0), (1, vj a1), (3, vi a3)]) q2242 rfl rfl rfl (by decide) ⟨Nat.le_of_ble_eq_true rfl, by decide⟩ rfl ?_
  unfold fX4_isSketch at h
  refine r_aload_n (pc := 0) dX4_isSketch_0 0 rfl rfl ?_
  refine r_lload_n (pc := 1) dX4_isSketch_1 1 rfl rfl ?_
  refine r_aload_n (pc := 2) dX4_isSketch_2 0 rfl rfl ?_
  refine r_gJ (pc := 3) dX4_isSketch_3 q1715 fd_72 same_rf h (fun x3 e3 h => ?_)
  refine r_callV (pc := 6) (rest := []) (lkV dX4_isSketch_6 q2100 xd_X4_begin (vc_of vt_X4_begin q2102 (fun _ => sX4_begin)) adx_X4_begin) (by decide) (Nat.le_of_ble_eq_true rfl) rfl h (fun u6 st e6 h => ?_)
  exact r_sub (env' := [(0, vr a0), (3, vi a3)]) [0, 2] rfl (sX4_isSketch_9 hcFuel _ _ _ h)
theorem sX4_night_12B {st0 : Mem} {fin : Unit × Mem} {kk12 : Rf → Int32 → Mem → Option (Unit × Mem)} (hk12 : ∀ (v0 : Rf) (v1 : Int32) (st : Mem), kk12 v0 v1 st = some fin → G (cX4_night, "HouseClapsModel", "night", 16, none, 2) st0 trV fin 12 [(0, vr v0), (1, vi v1)] [] st) (v0 : Rf) (v1 : Int32) (st : Mem) (h : bX4_night_12B kk12 v0 v1 st = some fin) : G (cX4_night, "HouseClapsModel", "night", 16, none, 2) st0 trV fin 12 [(0, vr v0), (1, vi v1)] [] st := by
  unfold bX4_night_12B at h
  refine r_aload_n (pc := 12) dX4_night_12 0 rfl rfl ?_
  refine r_gI (pc := 13) dX4_night_13 q1740 fd_97 same_rf h (fun x13 e13 h => ?_)
  refine r_iload_n (pc := 16) dX4_night_16 1 rfl rfl ?_
  refine r_icmp_gt (pc := 17) (tgt := 27) dX4_night_17 (by decide) h (fun e17 h => ?_) (fun e17 h => ?_)
  · exact r_return_ (pc := 27) dX4_night_27 rfl h
  · refine r_aload_n (pc := 20) dX4_night_20 0 rfl rfl ?_
    refine r_callV (pc := 21) (rest := []) (lkV dX4_night_21 q2112 xd_X4_moment (vc_of vt_X4_moment q2114 (fun _ => sX4_moment)) adx_X4_moment) (by decide) (Nat.le_of_ble_eq_true rfl) rfl h (fun u21 st e21 h => ?_)
    refine r_goto (pc := 24) (tgt := 12) dX4_night_24 (by decide) ?_
    exact hk12 _ _ _ h
theorem sX4_night_12 {st0 : Mem} {fin : Unit × Mem} (n : Nat) : ∀ (v0 : Rf) (v1 : Int32) (st : Mem), bX4_night_12 n v0 v1 st = some fin → G (cX4_night, "HouseClapsModel", "night", 16, none, 2) st0 trV fin 12 [(0, vr v0), (1, vi v1)] [] st := by
  induction n with
  | zero => intro v0 v1 st h; cases h
  | succ n ih => intro v0 v1 st h; exact sX4_night_12B  ih v0 v1 st h
theorem sX4_night {a0 : Rf} {a1 : Int32} {st : Mem} {fin : Unit × Mem} (h : fX4_night a0 a1 st = some fin) : Con yX4_night 16 [vr a0, vi a1] st trV fin := by
  refine Con.mk (cc := cX4_night) (n := 2) (own := "HouseClapsModel") (nm := "night") (ret := none) (env := [(0, vr a0), (1, vi a1)]) q2099 rfl rfl rfl (by decide) ⟨Nat.le_of_ble_eq_true rfl, by decide⟩ rfl ?_
  unfold fX4_night at h
  refine r_aload_n (pc := 0) dX4_night_0 0 rfl rfl ?_
  refine r_aload_n (pc := 1) dX4_night_1 0 rfl rfl ?_
  refine r_gJ (pc := 2) dX4_night_2 q1714 fd_71 same_rf h (fun x2 e2 h => ?_)
  refine r_aload_n (pc := 5) dX4_night_5 0 rfl rfl ?_
  refine r_gJ (pc := 6) dX4_night_6 q1715 fd_72 same_rf h (fun x6 e6 h => ?_)
  refine r_callV (pc := 9) (rest := []) (lkV dX4_night_9 q2100 xd_X4_begin (vc_of vt_X4_begin q2102 (fun _ => sX4_begin)) adx_X4_begin) (by decide) (Nat.le_of_ble_eq_true rfl) rfl h (fun u9 st e9 h => ?_)
  exact sX4_night_12 hcFuel _ _ _ h
theorem sX4_again_232B {st0 : Mem} {fin : Int32 × Mem} {kk218 : Rf → Int32 → Int32 → Mem → Option (Int32 × Mem)} {kk232 : Rf → Int32 → Int32 → Int32 → Mem → Option (Int32 × Mem)} (hk218 : ∀ (v0 : Rf) (v1 : Int32) (v4 : Int32) (st : Mem), kk218 v0 v1 v4 st = some fin → G (cX4_again, "HouseClapsModel", "again", 18, (some .int), 6) st0 trI fin 218 [(0, vr v0), (1, vi v1), (4, vi v4)] [] st) (hk232 : ∀ (v0 : Rf) (v1 : Int32) (v4 : Int32) (v5 : Int32) (st : Mem), kk232 v0 v1 v4 v5 st = some fin → G (cX4_again, "HouseClapsModel", "again", 18, (some .int), 6) st0 trI fin 232 [(0, vr v0), (1, vi v1), (4, vi v4), (5, vi v5)] [] st) (v0 : Rf) (v1 : Int32) (v4 : Int32) (v5 : Int32) (st : Mem) (h : bX4_again_232B kk218 kk232 v0 v1 v4 v5 st = some fin) : G (cX4_again, "HouseClapsModel", "again", 18, (some .int), 6) st0 trI fin 232 [(0, vr v0), (1, vi v1), (4, vi v4), (5, vi v5)] [] st := by
  unfold bX4_again_232B at h
  refine r_iload (pc := 232) dX4_again_232 3 rfl ?_
  refine r_sipush (pc := 234) (v := 600) dX4_again_234 (by decide) ?_
  refine r_icmp_gt (pc := 237) (tgt := 272) dX4_again_237 (by decide) h (fun e237 h => ?_) (fun e237 h => ?_)
  · refine r_iinc (pc := 272) (env' := [(4, vi (v4 + 1)), (0, vr v0), (1, vi v1), (5, vi v5)]) (cst := 1) dX4_again_272 2 rfl (by decide) (by decide) rfl ?_
    refine r_goto (pc := 275) (tgt := 218) dX4_again_275 (by decide) ?_
    exact r_sub (env' := [(0, vr v0), (1, vi v1), (4, vi (v4 + 1))]) [1, 2, 0] rfl (hk218 _ _ _ _ h)
  · refine r_aload_n (pc := 240) dX4_again_240 0 rfl rfl ?_
    refine r_iload (pc := 241) dX4_again_241 2 rfl ?_
    refine r_iload (pc := 243) dX4_again_243 3 rfl ?_
    refine r_callI (pc := 245) (rest := []) (lkV dX4_again_245 q2175 xd_X4_areLike (vc_of vt_X4_areLike q2177 (fun _ => sX4_areLike)) adx_X4_areLike) (by decide) (Nat.le_of_ble_eq_true rfl) rfl h (fun x245 st e245 h => ?_)
    refine r_if_eq (pc := 248) (tgt := 266) dX4_again_248 (by decide) h (fun e248 h => ?_) (fun e248 h => ?_)
    · refine r_iinc (pc := 266) (env' := [(5, vi (v5 + 1)), (0, vr v0), (1, vi v1), (4, vi v4)]) (cst := 1) dX4_again_266 3 rfl (by decide) (by decide) rfl ?_
      refine r_goto (pc := 269) (tgt := 232) dX4_again_269 (by decide) ?_
      exact r_sub (env' := [(0, vr v0), (1, vi v1), (4, vi v4), (5, vi (v5 + 1))]) [1, 2, 3, 0] rfl (hk232 _ _ _ _ _ h)
    · refine r_iload_n (pc := 251) dX4_again_251 1 rfl rfl ?_
      refine r_if_ne (pc := 252) (tgt := 260) dX4_again_252 (by decide) h (fun e252 h => ?_) (fun e252 h => ?_)
      · refine r_iload (pc := 260) dX4_again_260 3 rfl ?_
        refine r_iload (pc := 262) dX4_again_262 2 rfl ?_
        refine r_isub (pc := 264) dX4_again_264 ?_
        exact r_ireturn (pc := 265) dX4_again_265 rfl rfl h
      · refine r_iload (pc := 255) dX4_again_255 2 rfl ?_
        refine r_goto (pc := 257) (tgt := 265) dX4_again_257 (by decide) ?_
        exact r_ireturn (pc := 265) dX4_again_265 rfl rfl h
theorem sX4_again_232 {st0 : Mem} {fin : Int32 × Mem} {kk218 : Rf → Int32 → Int32 → Mem → Option (Int32 × Mem)} (hk218 : ∀ (v0 : Rf) (v1 : Int32) (v4 : Int32) (st : Mem), kk218 v0 v1 v4 st = some fin → G (cX4_again, "HouseClapsModel", "again", 18, (some .int), 6) st0 trI fin 218 [(0, vr v0), (1, vi v1), (4, vi v4)] [] st) (n : Nat) : ∀ (v0 : Rf) (v1 : Int32) (v4 : Int32) (v5 : Int32) (st : Mem), bX4_again_232 kk218 n v0 v1 v4 v5 st = some fin → G (cX4_again, "HouseClapsModel", "again", 18, (some .int), 6) st0 trI fin 232 [(0, vr v0), (1, vi v1), (4, vi v4), (5, vi v5)] [] st := by
  induction n with
  | zero => intro v0 v1 v4 v5 st h; cases h
  | succ n ih => intro v0 v1 v4 v5 st h; exact sX4_again_232B hk218  ih v0 v1 v4 v5 st h
theorem sX4_again_218B {st0 : Mem} {fin : Int32 × Mem} {kk218 : Rf → Int32 → Int32 → Mem → Option (Int32 × Mem)} (hk218 : ∀ (v0 : Rf) (v1 : Int32) (v4 : Int32) (st : Mem), kk218 v0 v1 v4 st = some fin → G (cX4_again, "HouseClapsModel", "again", 18, (some .int), 6) st0 trI fin 218 [(0, vr v0), (1, vi v1), (4, vi v4)] [] st) (v0 : Rf) (v1 : Int32) (v4 : Int32) (st : Mem) (h : bX4_again_218B kk218 v0 v1 v4 st = some fin) : G (cX4_again, "HouseClapsModel", "again", 18, (some .int), 6) st0 trI fin 218 [(0, vr v0), (1, vi v1), (4, vi v4)] [] st := by
  unfold bX4_again_218B at h
  refine r_iload (pc := 218) dX4_again_218 2 rfl ?_
  refine r_sipush (pc := 220) (v := 600) dX4_again_220 (by decide) ?_
  refine r_icmp_gt (pc := 223) (tgt := 278) dX4_again_223 (by decide) h (fun e223 h => ?_) (fun e223 h => ?_)
  · refine r_iconst (pc := 278) (v := (-1)) dX4_again_278 (by decide) ?_
    exact r_ireturn (pc := 279) dX4_again_279 rfl rfl h
  · refine r_iload (pc := 226) dX4_again_226 2 rfl ?_
    refine r_iconst (pc := 228) (v := 1) dX4_again_228 (by decide) ?_
    refine r_iadd (pc := 229) dX4_again_229 ?_
    refine r_istore (pc := 230) (env' := [(5, vi (v4 + (1 : Int32))), (0, vr v0), (1, vi v1), (4, vi v4)]) dX4_again_230 (by decide) rfl ?_
    exact r_sub (env' := [(0, vr v0), (1, vi v1), (4, vi v4), (5, vi (v4 + (1 : Int32)))]) [1, 2, 3, 0] rfl (sX4_again_232 hk218 hcFuel _ _ _ _ _ h)
theorem sX4_again_218 {st0 : Mem} {fin : Int32 × Mem} (n : Nat) : ∀ (v0 : Rf) (v1 : Int32) (v4 : Int32) (st : Mem), bX4_again_218 n v0 v1 v4 st = some fin → G (cX4_again, "HouseClapsModel", "again", 18, (some .int), 6) st0 trI fin 218 [(0, vr v0), (1, vi v1), (4, vi v4)] [] st := by
  induction n with
  | zero => intro v0 v1 v4 st h; cases h
  | succ n ih => intro v0 v1 v4 st h; exact sX4_again_218B  ih v0 v1 v4 st h
theorem sX4_again_215 {st0 : Mem} {fin : Int32 × Mem} (v0 : Rf) (v1 : Int32) (v2 : Int32) (st : Mem) (h : bX4_again_215 v0 v1 v2 st = some fin) : G (cX4_again, "HouseClapsModel", "again", 18, (some .int), 6) st0 trI fin 215 [(0, vr v0), (1, vi v1), (2, vi v2)] [] st := by
  unfold bX4_again_215 at h
  refine r_iload_n (pc := 215) dX4_again_215 2 rfl rfl ?_
  refine r_istore (pc := 216) (env' := [(4, vi v2), (0, vr v0), (1, vi v1), (2, vi v2)]) dX4_again_216 (by decide) rfl ?_
  exact r_sub (env' := [(0, vr v0), (1, vi v1), (4, vi v2)]) [1, 2, 0] rfl (sX4_again_218 hcFuel _ _ _ _ h)
theorem sX4_again_171 {st0 : Mem} {fin : Int32 × Mem} {kk96 : Rf → Int32 → Int32 → Int32 → Int32 → Mem → Option (Int32 × Mem)} (hk96 : ∀ (v0 : Rf) (v1 : Int32) (v2 : Int32) (v3 : Int32) (v4 : Int32) (st : Mem), kk96 v0 v1 v2 v3 v4 st = some fin → G (cX4_again, "HouseClapsModel", "again", 18, (some .int), 6) st0 trI fin 96 [(0, vr v0), (1, vi v1), (2, vi v2), (3, vi v3), (4, vi v4)] [] st) (v0 : Rf) (v1 : Int32) (v2 : Int32) (v4 : Int32) (k0 : Int32) (st : Mem) (h : bX4_again_171 kk96 v0 v1 v2 v4 k0 st = some fin) : G (cX4_again, "HouseClapsModel", "again", 18, (some .int), 6) st0 trI fin 171 [(0, vr v0), (1, vi v1), (2, vi v2), (4, vi v4)] [vi k0] st := by
  unfold bX4_again_171 at h
  refine r_istore_n (pc := 171) (env' := [(3, vi k0), (0, vr v0), (1, vi v1), (2, vi v2), (4, vi v4)]) dX4_again_171 rfl (by decide) rfl ?_
  refine r_iinc (pc := 172) (env' := [(4, vi (v4 + 1)), (3, vi k0), (0, vr v0), (1, vi v1), (2, vi v2)]) (cst := 1) dX4_again_172 4 rfl (by decide) (by decide) rfl ?_
  refine r_goto (pc := 175) (tgt := 96) dX4_again_175 (by decide) ?_
  exact r_sub (env' := [(0, vr v0), (1, vi v1), (2, vi v2), (3, vi k0), (4, vi (v4 + 1))]) [2, 3, 4, 1, 0] rfl (hk96 _ _ _ _ _ _ h)
theorem sX4_again_166 {st0 : Mem} {fin : Int32 × Mem} {kk96 : Rf → Int32 → Int32 → Int32 → Int32 → Mem → Option (Int32 × Mem)} (hk96 : ∀ (v0 : Rf) (v1 : Int32) (v2 : Int32) (v3 : Int32) (v4 : Int32) (st : Mem), kk96 v0 v1 v2 v3 v4 st = some fin → G (cX4_again, "HouseClapsModel", "again", 18, (some .int), 6) st0 trI fin 96 [(0, vr v0), (1, vi v1), (2, vi v2), (3, vi v3), (4, vi v4)] [] st) (v0 : Rf) (v1 : Int32) (v2 : Int32) (v4 : Int32) (st : Mem) (h : bX4_again_166 kk96 v0 v1 v2 v4 st = some fin) : G (cX4_again, "HouseClapsModel", "again", 18, (some .int), 6) st0 trI fin 166 [(0, vr v0), (1, vi v1), (2, vi v2), (4, vi v4)] [] st := by
  unfold bX4_again_166 at h
  refine r_iconst (pc := 166) (v := 1) dX4_again_166 (by decide) ?_
  refine r_goto (pc := 167) (tgt := 171) dX4_again_167 (by decide) ?_
  exact sX4_again_171 hk96 _ _ _ _ _ _ h
theorem sX4_again_143 {st0 : Mem} {fin : Int32 × Mem} {kk96 : Rf → Int32 → Int32 → Int32 → Int32 → Mem → Option (Int32 × Mem)} (hk96 : ∀ (v0 : Rf) (v1 : Int32) (v2 : Int32) (v3 : Int32) (v4 : Int32) (st : Mem), kk96 v0 v1 v2 v3 v4 st = some fin → G (cX4_again, "HouseClapsModel", "again", 18, (some .int), 6) st0 trI fin 96 [(0, vr v0), (1, vi v1), (2, vi v2), (3, vi v3), (4, vi v4)] [] st) (v0 : Rf) (v1 : Int32) (v3 : Int32) (v4 : Int32) (k0 : Int32) (st : Mem) (h : bX4_again_143 kk96 v0 v1 v3 v4 k0 st = some fin) : G (cX4_again, "HouseClapsModel", "again", 18, (some .int), 6) st0 trI fin 143 [(0, vr v0), (1, vi v1), (3, vi v3), (4, vi v4)] [vi k0] st := by
  unfold bX4_again_143 at h
  refine r_istore_n (pc := 143) (env' := [(2, vi k0), (0, vr v0), (1, vi v1), (3, vi v3), (4, vi v4)]) dX4_again_143 rfl (by decide) rfl ?_
  refine r_iload_n (pc := 144) dX4_again_144 3 rfl rfl ?_
  refine r_if_ne (pc := 145) (tgt := 166) dX4_again_145 (by decide) h (fun e145 h => ?_) (fun e145 h => ?_)
  · exact r_sub (env' := [(0, vr v0), (1, vi v1), (2, vi k0), (4, vi v4)]) [1, 2, 0, 4] rfl (sX4_again_166 hk96 _ _ _ _ _ h)
  · refine r_aload_n (pc := 148) dX4_again_148 1 rfl rfl ?_
    refine r_gA (pc := 149) dX4_again_149 q1704 fd_61 same_rf h (fun x149 e149 h => ?_)
    refine r_sipush (pc := 152) (v := 591) dX4_again_152 (by decide) ?_
    refine r_iconst (pc := 155) (v := 3) dX4_again_155 (by decide) ?_
    refine r_iload (pc := 156) dX4_again_156 4 rfl ?_
    refine r_imul (pc := 158) dX4_again_158 ?_
    refine r_iadd (pc := 159) dX4_again_159 ?_
    refine r_iconst (pc := 160) (v := 1) dX4_again_160 (by decide) ?_
    refine r_iadd (pc := 161) dX4_again_161 ?_
    refine r_iaload (pc := 162) dX4_again_162 h (fun x162 e162 h => ?_)
    refine r_if_ne (pc := 163) (tgt := 170) dX4_again_163 (by decide) h (fun e163 h => ?_) (fun e163 h => ?_)
    · refine r_iconst (pc := 170) (v := 0) dX4_again_170 (by decide) ?_
      exact r_sub (env' := [(0, vr v0), (1, vi v1), (2, vi k0), (4, vi v4)]) [1, 2, 0, 4] rfl (sX4_again_171 hk96 _ _ _ _ _ _ h)
    · exact r_sub (env' := [(0, vr v0), (1, vi v1), (2, vi k0), (4, vi v4)]) [1, 2, 0, 4] rfl (sX4_again_166 hk96 _ _ _ _ _ h)
theorem sX4_again_96B {st0 : Mem} {fin : Int32 × Mem} {kk96 : Rf → Int32 → Int32 → Int32 → Int32 → Mem → Option (Int32 × Mem)} (hk96 : ∀ (v0 : Rf) (v1 : Int32) (v2 : Int32) (v3 : Int32) (v4 : Int32) (st : Mem), kk96 v0 v1 v2 v3 v4 st = some fin → G (cX4_again, "HouseClapsModel", "again", 18, (some .int), 6) st0 trI fin 96 [(0, vr v0), (1, vi v1), (2, vi v2), (3, vi v3), (4, vi v4)] [] st) (v0 : Rf) (v1 : Int32) (v2 : Int32) (v3 : Int32) (v4 : Int32) (st : Mem) (h : bX4_again_96B kk96 v0 v1 v2 v3 v4 st = some fin) : G (cX4_again, "HouseClapsModel", "again", 18, (some .int), 6) st0 trI fin 96 [(0, vr v0), (1, vi v1), (2, vi v2), (3, vi v3), (4, vi v4)] [] st := by
  unfold bX4_again_96B at h
  refine r_iload (pc := 96) dX4_again_96 4 rfl ?_
  refine r_aload_n (pc := 98) dX4_again_98 0 rfl rfl ?_
  refine r_gA (pc := 99) dX4_again_99 q1704 fd_61 same_rf h (fun x99 e99 h => ?_)
  refine r_sipush (pc := 102) (v := 590) dX4_again_102 (by decide) ?_
  refine r_iaload (pc := 105) dX4_again_105 h (fun x105 e105 h => ?_)
  refine r_icmp_ge (pc := 106) (tgt := 178) dX4_again_106 (by decide) h (fun e106 h => ?_) (fun e106 h => ?_)
  · refine r_iload_n (pc := 178) dX4_again_178 3 rfl rfl ?_
    refine r_if_eq (pc := 179) (tgt := 215) dX4_again_179 (by decide) h (fun e179 h => ?_) (fun e179 h => ?_)
    · exact r_sub (env' := [(0, vr v0), (1, vi v1), (2, vi v2)]) [0, 1, 2] rfl (sX4_again_215 _ _ _ _ h)
    · refine r_aload_n (pc := 182) dX4_again_182 0 rfl rfl ?_
      refine r_gA (pc := 183) dX4_again_183 q1704 fd_61 same_rf h (fun x183 e183 h => ?_)
      refine r_iconst (pc := 186) (v := 4) dX4_again_186 (by decide) ?_
      refine r_iaload (pc := 187) dX4_again_187 h (fun x187 e187 h => ?_)
      refine r_sipush (pc := 188) (v := 600) dX4_again_188 (by decide) ?_
      refine r_icmp_ge (pc := 191) (tgt := 215) dX4_again_191 (by decide) h (fun e191 h => ?_) (fun e191 h => ?_)
      · exact r_sub (env' := [(0, vr v0), (1, vi v1), (2, vi v2)]) [0, 1, 2] rfl (sX4_again_215 _ _ _ _ h)
      · refine r_aload_n (pc := 194) dX4_again_194 0 rfl rfl ?_
        refine r_gA (pc := 195) dX4_again_195 q1704 fd_61 same_rf h (fun x195 e195 h => ?_)
        refine r_iconst (pc := 198) (v := 4) dX4_again_198 (by decide) ?_
        refine r_iaload (pc := 199) dX4_again_199 h (fun x199 e199 h => ?_)
        refine r_iconst (pc := 200) (v := 1) dX4_again_200 (by decide) ?_
        refine r_iadd (pc := 201) dX4_again_201 ?_
        refine r_iload_n (pc := 202) dX4_again_202 2 rfl rfl ?_
        refine r_icmp_le (pc := 203) (tgt := 215) dX4_again_203 (by decide) h (fun e203 h => ?_) (fun e203 h => ?_)
        · exact r_sub (env' := [(0, vr v0), (1, vi v1), (2, vi v2)]) [0, 1, 2] rfl (sX4_again_215 _ _ _ _ h)
        · refine r_aload_n (pc := 206) dX4_again_206 0 rfl rfl ?_
          refine r_gA (pc := 207) dX4_again_207 q1704 fd_61 same_rf h (fun x207 e207 h => ?_)
          refine r_iconst (pc := 210) (v := 4) dX4_again_210 (by decide) ?_
          refine r_iaload (pc := 211) dX4_again_211 h (fun x211 e211 h => ?_)
          refine r_iconst (pc := 212) (v := 1) dX4_again_212 (by decide) ?_
          refine r_iadd (pc := 213) dX4_again_213 ?_
          refine r_istore_n (pc := 214) (env' := [(2, vi (x211 + (1 : Int32))), (0, vr v0), (1, vi v1), (3, vi v3), (4, vi v4)]) dX4_again_214 rfl (by decide) rfl ?_
          exact r_sub (env' := [(0, vr v0), (1, vi v1), (2, vi (x211 + (1 : Int32)))]) [1, 2, 0] rfl (sX4_again_215 _ _ _ _ h)
  · refine r_aload_n (pc := 109) dX4_again_109 0 rfl rfl ?_
    refine r_gA (pc := 110) dX4_again_110 q1704 fd_61 same_rf h (fun x110 e110 h => ?_)
    refine r_sipush (pc := 113) (v := 591) dX4_again_113 (by decide) ?_
    refine r_iconst (pc := 116) (v := 3) dX4_again_116 (by decide) ?_
    refine r_iload (pc := 117) dX4_again_117 4 rfl ?_
    refine r_imul (pc := 119) dX4_again_119 ?_
    refine r_iadd (pc := 120) dX4_again_120 ?_
    refine r_iaload (pc := 121) dX4_again_121 h (fun x121 e121 h => ?_)
    refine r_iload_n (pc := 122) dX4_again_122 2 rfl rfl ?_
    refine r_icmp_le (pc := 123) (tgt := 142) dX4_again_123 (by decide) h (fun e123 h => ?_) (fun e123 h => ?_)
    · refine r_iload_n (pc := 142) dX4_again_142 2 rfl rfl ?_
      exact r_sub (env' := [(0, vr v0), (1, vi v1), (3, vi v3), (4, vi v4)]) [0, 1, 3, 4] rfl (sX4_again_143 hk96 _ _ _ _ _ _ h)
    · refine r_aload_n (pc := 126) dX4_again_126 0 rfl rfl ?_
      refine r_gA (pc := 127) dX4_again_127 q1704 fd_61 same_rf h (fun x127 e127 h => ?_)
      refine r_sipush (pc := 130) (v := 591) dX4_again_130 (by decide) ?_
      refine r_iconst (pc := 133) (v := 3) dX4_again_133 (by decide) ?_
      refine r_iload (pc := 134) dX4_again_134 4 rfl ?_
      refine r_imul (pc := 136) dX4_again_136 ?_
      refine r_iadd (pc := 137) dX4_again_137 ?_
      refine r_iaload (pc := 138) dX4_again_138 h (fun x138 e138 h => ?_)
      refine r_goto (pc := 139) (tgt := 143) dX4_again_139 (by decide) ?_
      exact r_sub (env' := [(0, vr v0), (1, vi v1), (3, vi v3), (4, vi v4)]) [0, 1, 3, 4] rfl (sX4_again_143 hk96 _ _ _ _ _ _ h)
theorem sX4_again_96 {st0 : Mem} {fin : Int32 × Mem} (n : Nat) : ∀ (v0 : Rf) (v1 : Int32) (v2 : Int32) (v3 : Int32) (v4 : Int32) (st : Mem), bX4_again_96 n v0 v1 v2 v3 v4 st = some fin → G (cX4_again, "HouseClapsModel", "again", 18, (some .int), 6) st0 trI fin 96 [(0, vr v0), (1, vi v1), (2, vi v2), (3, vi v3), (4, vi v4)] [] st := by
  induction n with
  | zero => intro v0 v1 v2 v3 v4 st h; cases h
  | succ n ih => intro v0 v1 v2 v3 v4 st h; exact sX4_again_96B  ih v0 v1 v2 v3 v4 st h
theorem sX4_again_86 {st0 : Mem} {fin : Int32 × Mem} {kk43 : Rf → Int32 → Int32 → Int32 → Int32 → Mem → Option (Int32 × Mem)} (hk43 : ∀ (v0 : Rf) (v1 : Int32) (v2 : Int32) (v3 : Int32) (v4 : Int32) (st : Mem), kk43 v0 v1 v2 v3 v4 st = some fin → G (cX4_again, "HouseClapsModel", "again", 18, (some .int), 6) st0 trI fin 43 [(0, vr v0), (1, vi v1), (2, vi v2), (3, vi v3), (4, vi v4)] [] st) (v0 : Rf) (v1 : Int32) (v3 : Int32) (v4 : Int32) (k0 : Int32) (st : Mem) (h : bX4_again_86 kk43 v0 v1 v3 v4 k0 st = some fin) : G (cX4_again, "HouseClapsModel", "again", 18, (some .int), 6) st0 trI fin 86 [(0, vr v0), (1, vi v1), (3, vi v3), (4, vi v4)] [vi k0] st := by
  unfold bX4_again_86 at h
  refine r_istore_n (pc := 86) (env' := [(2, vi k0), (0, vr v0), (1, vi v1), (3, vi v3), (4, vi v4)]) dX4_again_86 rfl (by decide) rfl ?_
  refine r_iinc (pc := 87) (env' := [(4, vi (v4 + 1)), (2, vi k0), (0, vr v0), (1, vi v1), (3, vi v3)]) (cst := 1) dX4_again_87 4 rfl (by decide) (by decide) rfl ?_
  refine r_goto (pc := 90) (tgt := 43) dX4_again_90 (by decide) ?_
  exact r_sub (env' := [(0, vr v0), (1, vi v1), (2, vi k0), (3, vi v3), (4, vi (v4 + 1))]) [2, 3, 1, 4, 0] rfl (hk43 _ _ _ _ _ _ h)
theorem sX4_again_43B {st0 : Mem} {fin : Int32 × Mem} {kk43 : Rf → Int32 → Int32 → Int32 → Int32 → Mem → Option (Int32 × Mem)} (hk43 : ∀ (v0 : Rf) (v1 : Int32) (v2 : Int32) (v3 : Int32) (v4 : Int32) (st : Mem), kk43 v0 v1 v2 v3 v4 st = some fin → G (cX4_again, "HouseClapsModel", "again", 18, (some .int), 6) st0 trI fin 43 [(0, vr v0), (1, vi v1), (2, vi v2), (3, vi v3), (4, vi v4)] [] st) (v0 : Rf) (v1 : Int32) (v2 : Int32) (v3 : Int32) (v4 : Int32) (st : Mem) (h : bX4_again_43B kk43 v0 v1 v2 v3 v4 st = some fin) : G (cX4_again, "HouseClapsModel", "again", 18, (some .int), 6) st0 trI fin 43 [(0, vr v0), (1, vi v1), (2, vi v2), (3, vi v3), (4, vi v4)] [] st := by
  unfold bX4_again_43B at h
  refine r_iload (pc := 43) dX4_again_43 4 rfl ?_
  refine r_aload_n (pc := 45) dX4_again_45 0 rfl rfl ?_
  refine r_gA (pc := 46) dX4_again_46 q1704 fd_61 same_rf h (fun x46 e46 h => ?_)
  refine r_iconst (pc := 49) (v := 0) dX4_again_49 (by decide) ?_
  refine r_iaload (pc := 50) dX4_again_50 h (fun x50 e50 h => ?_)
  refine r_icmp_ge (pc := 51) (tgt := 93) dX4_again_51 (by decide) h (fun e51 h => ?_) (fun e51 h => ?_)
  · refine r_iconst (pc := 93) (v := 0) dX4_again_93 (by decide) ?_
    refine r_istore (pc := 94) (env' := [(4, vi (0 : Int32)), (0, vr v0), (1, vi v1), (2, vi v2), (3, vi v3)]) dX4_again_94 (by decide) rfl ?_
    exact r_sub (env' := [(0, vr v0), (1, vi v1), (2, vi v2), (3, vi v3), (4, vi (0 : Int32))]) [1, 2, 3, 4, 0] rfl (sX4_again_96 hcFuel _ _ _ _ _ _ h)
  · refine r_aload_n (pc := 54) dX4_again_54 0 rfl rfl ?_
    refine r_gA (pc := 55) dX4_again_55 q1704 fd_61 same_rf h (fun x55 e55 h => ?_)
    refine r_bipush (pc := 58) (v := 78) dX4_again_58 (by decide) ?_
    refine r_iload (pc := 60) dX4_again_60 4 rfl ?_
    refine r_iadd (pc := 62) dX4_again_62 ?_
    refine r_iaload (pc := 63) dX4_again_63 h (fun x63 e63 h => ?_)
    refine r_iconst (pc := 64) (v := 1) dX4_again_64 (by decide) ?_
    refine r_isub (pc := 65) dX4_again_65 ?_
    refine r_iload_n (pc := 66) dX4_again_66 2 rfl rfl ?_
    refine r_icmp_le (pc := 67) (tgt := 85) dX4_again_67 (by decide) h (fun e67 h => ?_) (fun e67 h => ?_)
    · refine r_iload_n (pc := 85) dX4_again_85 2 rfl rfl ?_
      exact r_sub (env' := [(0, vr v0), (1, vi v1), (3, vi v3), (4, vi v4)]) [0, 1, 3, 4] rfl (sX4_again_86 hk43 _ _ _ _ _ _ h)
    · refine r_aload_n (pc := 70) dX4_again_70 0 rfl rfl ?_
      refine r_gA (pc := 71) dX4_again_71 q1704 fd_61 same_rf h (fun x71 e71 h => ?_)
      refine r_bipush (pc := 74) (v := 78) dX4_again_74 (by decide) ?_
      refine r_iload (pc := 76) dX4_again_76 4 rfl ?_
      refine r_iadd (pc := 78) dX4_again_78 ?_
      refine r_iaload (pc := 79) dX4_again_79 h (fun x79 e79 h => ?_)
      refine r_iconst (pc := 80) (v := 1) dX4_again_80 (by decide) ?_
      refine r_isub (pc := 81) dX4_again_81 ?_
      refine r_goto (pc := 82) (tgt := 86) dX4_again_82 (by decide) ?_
      exact r_sub (env' := [(0, vr v0), (1, vi v1), (3, vi v3), (4, vi v4)]) [0, 1, 3, 4] rfl (sX4_again_86 hk43 _ _ _ _ _ _ h)
theorem sX4_again_43 {st0 : Mem} {fin : Int32 × Mem} (n : Nat) : ∀ (v0 : Rf) (v1 : Int32) (v2 : Int32) (v3 : Int32) (v4 : Int32) (st : Mem), bX4_again_43 n v0 v1 v2 v3 v4 st = some fin → G (cX4_again, "HouseClapsModel", "again", 18, (some .int), 6) st0 trI fin 43 [(0, vr v0), (1, vi v1), (2, vi v2), (3, vi v3), (4, vi v4)] [] st := by
  induction n with
  | zero => intro v0 v1 v2 v3 v4 st h; cases h
  | succ n ih => intro v0 v1 v2 v3 v4 st h; exact sX4_again_43B  ih v0 v1 v2 v3 v4 st h
theorem sX4_again_39 {st0 : Mem} {fin : Int32 × Mem} (v0 : Rf) (v1 : Int32) (v2 : Int32) (k0 : Int32) (st : Mem) (h : bX4_again_39 v0 v1 v2 k0 st = some fin) : G (cX4_again, "HouseClapsModel", "again", 18, (some .int), 6) st0 trI fin 39 [(0, vr v0), (1, vi v1), (2, vi v2)] [vi k0] st := by
  unfold bX4_again_39 at h
  refine r_istore_n (pc := 39) (env' := [(3, vi k0), (0, vr v0), (1, vi v1), (2, vi v2)]) dX4_again_39 rfl (by decide) rfl ?_
  refine r_iconst (pc := 40) (v := 0) dX4_again_40 (by decide) ?_
  refine r_istore (pc := 41) (env' := [(4, vi (0 : Int32)), (3, vi k0), (0, vr v0), (1, vi v1), (2, vi v2)]) dX4_again_41 (by decide) rfl ?_
  exact r_sub (env' := [(0, vr v0), (1, vi v1), (2, vi v2), (3, vi k0), (4, vi (0 : Int32))]) [2, 3, 4, 1, 0] rfl (sX4_again_43 hcFuel _ _ _ _ _ _ h)
theorem sX4_again {a0 : Rf} {a1 : Int32} {st : Mem} {fin : Int32 × Mem} (h : fX4_again a0 a1 st = some fin) : Con yX4_again 18 [vr a0, vi a1] st trI fin := by
  refine Con.mk (cc := cX4_again) (n := 6) (own := "HouseClapsModel") (nm := "again") (ret := (some .int)) (env := [(0, vr a0), (1, vi a1)]) q2174 rfl rfl rfl (by decide) ⟨Nat.le_of_ble_eq_true rfl, by decide⟩ rfl ?_
  unfold fX4_again at h
  refine r_aload_n (pc := 0) dX4_again_0 0 rfl rfl ?_
  refine r_iconst (pc := 1) (v := 0) dX4_again_1 (by decide) ?_
  refine r_pI (pc := 2) dX4_again_2 q1698 fd_55 same_rf rfl h (fun st e2 h => ?_)
  refine r_iload_n (pc := 5) dX4_again_5 1 rfl rfl ?_
  refine r_iconst (pc := 6) (v := 0) dX4_again_6 (by decide) ?_
  refine r_iconst (pc := 7) (v := 1) dX4_again_7 (by decide) ?_
  refine r_callI (pc := 8) (rest := []) (lkS dX4_again_8 q1949 q1950 q92 (fun _ => sX4_isIn) ad_X4_isIn) (by decide) (Nat.le_of_ble_eq_true rfl) rfl h (fun x8 st e8 h => ?_)
  refine r_if_ne (pc := 11) (tgt := 16) dX4_again_11 (by decide) h (fun e11 h => ?_) (fun e11 h => ?_)
  · refine r_aload_n (pc := 16) dX4_again_16 0 rfl rfl ?_
    refine r_sipush (pc := 17) (v := 600) dX4_again_17 (by decide) ?_
    refine r_callV (pc := 20) (rest := []) (lkV dX4_again_20 q2096 xd_X4_night (vc_of vt_X4_night q2098 (fun _ => sX4_night)) adx_X4_night) (by decide) (Nat.le_of_ble_eq_true rfl) rfl h (fun u20 st e20 h => ?_)
    refine r_iconst (pc := 23) (v := 0) dX4_again_23 (by decide) ?_
    refine r_istore_n (pc := 24) (env' := [(2, vi (0 : Int32)), (0, vr a0), (1, vi a1)]) dX4_again_24 rfl (by decide) rfl ?_
    refine r_aload_n (pc := 25) dX4_again_25 1 rfl rfl ?_
    refine r_gJ (pc := 26) dX4_again_26 q1714 fd_71 same_rf h (fun x26 e26 h => ?_)
    refine r_lconst (pc := 29) (v := 0) dX4_again_29 (by decide) ?_
    refine r_lcmp_eq (pc := 30) (tgt := 38) dX4_again_30 dX4_again_31 (by decide) h (fun e31 h => ?_) (fun e31 h => ?_)
    · refine r_iconst (pc := 38) (v := 0) dX4_again_38 (by decide) ?_
      exact r_sub (env' := [(0, vr a0), (1, vi a1), (2, vi (0 : Int32))]) [1, 2, 0] rfl (sX4_again_39 _ _ _ _ _ h)
    · refine r_iconst (pc := 34) (v := 1) dX4_again_34 (by decide) ?_
      refine r_goto (pc := 35) (tgt := 39) dX4_again_35 (by decide) ?_
      exact r_sub (env' := [(0, vr a0), (1, vi a1), (2, vi (0 : Int32))]) [1, 2, 0] rfl (sX4_again_39 _ _ _ _ _ h)
  · refine r_iconst (pc := 14) (v := (-1)) dX4_again_14 (by decide) ?_
    exact r_ireturn (pc := 15) dX4_again_15 rfl rfl h
theorem sX4_anyway_33B {st0 : Mem} {fin : Int32 × Mem} {kk33 : Rf → Int32 → Int64 → Mem → Option (Int32 × Mem)} (hk33 : ∀ (v0 : Rf) (v1 : Int32) (v2 : Int64) (st : Mem), kk33 v0 v1 v2 st = some fin → G (cX4_anyway, "HouseClapsModel", "anyway", 18, (some .int), 4) st0 trI fin 33 [(0, vr v0), (1, vi v1), (2, vj v2)] [] st) (v0 : Rf) (v1 : Int32) (v2 : Int64) (st : Mem) (h : bX4_anyway_33B kk33 v0 v1 v2 st = some fin) : G (cX4_anyway, "HouseClapsModel", "anyway", 18, (some .int), 4) st0 trI fin 33 [(0, vr v0), (1, vi v1), (2, vj v2)] [] st := by
  unfold bX4_anyway_33B at h
  refine r_aload_n (pc := 33) dX4_anyway_33 0 rfl rfl ?_
  refine r_gI (pc := 34) dX4_anyway_34 q1740 fd_97 same_rf h (fun x34 e34 h => ?_)
  refine r_iload_n (pc := 37) dX4_anyway_37 1 rfl rfl ?_
  refine r_icmp_gt (pc := 38) (tgt := 48) dX4_anyway_38 (by decide) h (fun e38 h => ?_) (fun e38 h => ?_)
  · refine r_lload_n (pc := 48) dX4_anyway_48 2 rfl rfl ?_
    refine r_aload_n (pc := 49) dX4_anyway_49 0 rfl rfl ?_
    refine r_gJ (pc := 50) dX4_anyway_50 q1737 fd_94 same_rf h (fun x50 e50 h => ?_)
    refine r_land (pc := 53) dX4_anyway_53 ?_
    refine r_callI (pc := 54) (rest := []) (lkS dX4_anyway_54 q2132 q2133 q92 (fun _ => sX4_bits) ad_X4_bits) (by decide) (Nat.le_of_ble_eq_true rfl) rfl h (fun x54 st e54 h => ?_)
    exact r_ireturn (pc := 57) dX4_anyway_57 rfl rfl h
  · refine r_aload_n (pc := 41) dX4_anyway_41 0 rfl rfl ?_
    refine r_callV (pc := 42) (rest := []) (lkV dX4_anyway_42 q2112 xd_X4_moment (vc_of vt_X4_moment q2114 (fun _ => sX4_moment)) adx_X4_moment) (by decide) (Nat.le_of_ble_eq_true rfl) rfl h (fun u42 st e42 h => ?_)
    refine r_goto (pc := 45) (tgt := 33) dX4_anyway_45 (by decide) ?_
    exact hk33 _ _ _ _ h
theorem sX4_anyway_33 {st0 : Mem} {fin : Int32 × Mem} (n : Nat) : ∀ (v0 : Rf) (v1 : Int32) (v2 : Int64) (st : Mem), bX4_anyway_33 n v0 v1 v2 st = some fin → G (cX4_anyway, "HouseClapsModel", "anyway", 18, (some .int), 4) st0 trI fin 33 [(0, vr v0), (1, vi v1), (2, vj v2)] [] st := by
  induction n with
  | zero => intro v0 v1 v2 st h; cases h
  | succ n ih => intro v0 v1 v2 st h; exact sX4_anyway_33B  ih v0 v1 v2 st h
theorem sX4_anyway {a0 : Rf} {a1 : Int32} {st : Mem} {fin : Int32 × Mem} (h : fX4_anyway a0 a1 st = some fin) : Con yX4_anyway 18 [vr a0, vi a1] st trI fin := by
  refine Con.mk (cc := cX4_anyway) (n := 4) (own := "HouseClapsModel") (nm := "anyway") (ret := (some .int)) (env := [(0, vr a0), (1, vi a1)]) q2158 rfl rfl rfl (by decide) ⟨Nat.le_of_ble_eq_true rfl, by decide⟩ rfl ?_
  unfold fX4_anyway at h
  refine r_aload_n (pc := 0) dX4_anyway_0 0 rfl rfl ?_
  refine r_iconst (pc := 1) (v := 0) dX4_anyway_1 (by decide) ?_
  refine r_pI (pc := 2) dX4_anyway_2 q1698 fd_55 same_rf rfl h (fun st e2 h => ?_)
  refine r_iload_n (pc := 5) dX4_anyway_5 1 rfl rfl ?_
  refine r_callI (pc := 6) (rest := []) (lkS dX4_anyway_6 q2093 q2094 q92 (fun _ => sX4_isMoment) ad_X4_isMoment) (by decide) (Nat.le_of_ble_eq_true rfl) rfl h (fun x6 st e6 h => ?_)
  refine r_if_ne (pc := 9) (tgt := 14) dX4_anyway_9 (by decide) h (fun e9 h => ?_) (fun e9 h => ?_)
  · refine r_aload_n (pc := 14) dX4_anyway_14 0 rfl rfl ?_
    refine r_iload_n (pc := 15) dX4_anyway_15 1 rfl rfl ?_
    refine r_callV (pc := 16) (rest := []) (lkV dX4_anyway_16 q2096 xd_X4_night (vc_of vt_X4_night q2098 (fun _ => sX4_night)) adx_X4_night) (by decide) (Nat.le_of_ble_eq_true rfl) rfl h (fun u16 st e16 h => ?_)
    refine r_aload_n (pc := 19) dX4_anyway_19 0 rfl rfl ?_
    refine r_gJ (pc := 20) dX4_anyway_20 q1737 fd_94 same_rf h (fun x20 e20 h => ?_)
    refine r_lstore_n (pc := 23) (env' := [(2, vj x20), (0, vr a0), (1, vi a1)]) dX4_anyway_23 rfl (by decide) rfl ?_
    refine r_aload_n (pc := 24) dX4_anyway_24 1 rfl rfl ?_
    refine r_lconst (pc := 25) (v := 0) dX4_anyway_25 (by decide) ?_
    refine r_aload_n (pc := 26) dX4_anyway_26 1 rfl rfl ?_
    refine r_gJ (pc := 27) dX4_anyway_27 q1715 fd_72 same_rf h (fun x27 e27 h => ?_)
    refine r_callV (pc := 30) (rest := []) (lkV dX4_anyway_30 q2100 xd_X4_begin (vc_of vt_X4_begin q2102 (fun _ => sX4_begin)) adx_X4_begin) (by decide) (Nat.le_of_ble_eq_true rfl) rfl h (fun u30 st e30 h => ?_)
    exact r_sub (env' := [(0, vr a0), (1, vi a1), (2, vj x20)]) [1, 2, 0] rfl (sX4_anyway_33 hcFuel _ _ _ _ h)
  · refine r_iconst (pc := 12) (v := (-1)) dX4_anyway_12 (by decide) ?_
    exact r_ireturn (pc := 13) dX4_anyway_13 rfl rfl h
theorem sX4_arranges_77 {st0 : Mem} {fin : Int32 × Mem} {kk16 : Rf → Int32 → Int32 → Int32 → Mem → Option (Int32 × Mem)} {kk26 : Rf → Int32 → Int32 → Int32 → Int32 → Mem → Option (Int32 × Mem)} (hk16 : ∀ (v0 : Rf) (v1 : Int32) (v2 : Int32) (v3 : Int32) (st : Mem), kk16 v0 v1 v2 v3 st = some fin → G (cX4_arranges, "HouseClapsModel", "arranges", 18, (some .boolean), 5) st0 trI fin 16 [(0, vr v0), (1, vi v1), (2, vi v2), (3, vi v3)] [] st) (hk26 : ∀ (v0 : Rf) (v1 : Int32) (v2 : Int32) (v3 : Int32) (v4 : Int32) (st : Mem), kk26 v0 v1 v2 v3 v4 st = some fin → G (cX4_arranges, "HouseClapsModel", "arranges", 18, (some .boolean), 5) st0 trI fin 26 [(0, vr v0), (1, vi v1), (2, vi v2), (3, vi v3), (4, vi v4)] [] st) (v0 : Rf) (v1 : Int32) (v2 : Int32) (v3 : Int32) (v4 : Int32) (st : Mem) (h : bX4_arranges_77 kk16 kk26 v0 v1 v2 v3 v4 st = some fin) : G (cX4_arranges, "HouseClapsModel", "arranges", 18, (some .boolean), 5) st0 trI fin 77 [(0, vr v0), (1, vi v1), (2, vi v2), (3, vi v3), (4, vi v4)] [] st := by
  unfold bX4_arranges_77 at h
  refine r_iinc (pc := 77) (env' := [(4, vi (v4 + 1)), (0, vr v0), (1, vi v1), (2, vi v2), (3, vi v3)]) (cst := 1) dX4_arranges_77 4 rfl (by decide) (by decide) rfl ?_
  refine r_goto (pc := 80) (tgt := 26) dX4_arranges_80 (by decide) ?_
  exact r_sub (env' := [(0, vr v0), (1, vi v1), (2, vi v2), (3, vi v3), (4, vi (v4 + 1))]) [1, 2, 3, 4, 0] rfl (hk26 _ _ _ _ _ _ h)
theorem sX4_arranges_26B {st0 : Mem} {fin : Int32 × Mem} {kk16 : Rf → Int32 → Int32 → Int32 → Mem → Option (Int32 × Mem)} {kk26 : Rf → Int32 → Int32 → Int32 → Int32 → Mem → Option (Int32 × Mem)} (hk16 : ∀ (v0 : Rf) (v1 : Int32) (v2 : Int32) (v3 : Int32) (st : Mem), kk16 v0 v1 v2 v3 st = some fin → G (cX4_arranges, "HouseClapsModel", "arranges", 18, (some .boolean), 5) st0 trI fin 16 [(0, vr v0), (1, vi v1), (2, vi v2), (3, vi v3)] [] st) (hk26 : ∀ (v0 : Rf) (v1 : Int32) (v2 : Int32) (v3 : Int32) (v4 : Int32) (st : Mem), kk26 v0 v1 v2 v3 v4 st = some fin → G (cX4_arranges, "HouseClapsModel", "arranges", 18, (some .boolean), 5) st0 trI fin 26 [(0, vr v0), (1, vi v1), (2, vi v2), (3, vi v3), (4, vi v4)] [] st) (v0 : Rf) (v1 : Int32) (v2 : Int32) (v3 : Int32) (v4 : Int32) (st : Mem) (h : bX4_arranges_26B kk16 kk26 v0 v1 v2 v3 v4 st = some fin) : G (cX4_arranges, "HouseClapsModel", "arranges", 18, (some .boolean), 5) st0 trI fin 26 [(0, vr v0), (1, vi v1), (2, vi v2), (3, vi v3), (4, vi v4)] [] st := by
  unfold bX4_arranges_26B at h
  refine r_iload (pc := 26) dX4_arranges_26 4 rfl ?_
  refine r_iload_n (pc := 28) dX4_arranges_28 2 rfl rfl ?_
  refine r_icmp_ge (pc := 29) (tgt := 83) dX4_arranges_29 (by decide) h (fun e29 h => ?_) (fun e29 h => ?_)
  · refine r_iinc (pc := 83) (env' := [(3, vi (v3 + 1)), (0, vr v0), (1, vi v1), (2, vi v2), (4, vi v4)]) (cst := 1) dX4_arranges_83 3 rfl (by decide) (by decide) rfl ?_
    refine r_goto (pc := 86) (tgt := 16) dX4_arranges_86 (by decide) ?_
    exact r_sub (env' := [(0, vr v0), (1, vi v1), (2, vi v2), (3, vi (v3 + 1))]) [1, 2, 3, 0] rfl (hk16 _ _ _ _ _ h)
  · refine r_aload_n (pc := 32) dX4_arranges_32 0 rfl rfl ?_
    refine r_iload_n (pc := 33) dX4_arranges_33 3 rfl rfl ?_
    refine r_iload (pc := 34) dX4_arranges_34 4 rfl ?_
    refine r_callI (pc := 36) (rest := []) (lkV dX4_arranges_36 q2255 xd_X4_areUnlike (vc_of vt_X4_areUnlike q2257 (fun _ => sX4_areUnlike)) adx_X4_areUnlike) (by decide) (Nat.le_of_ble_eq_true rfl) rfl h (fun x36 st e36 h => ?_)
    refine r_if_ne (pc := 39) (tgt := 45) dX4_arranges_39 (by decide) h (fun e39 h => ?_) (fun e39 h => ?_)
    · refine r_aload_n (pc := 45) dX4_arranges_45 0 rfl rfl ?_
      refine r_iload_n (pc := 46) dX4_arranges_46 3 rfl rfl ?_
      refine r_iload (pc := 47) dX4_arranges_47 4 rfl ?_
      refine r_callV (pc := 49) (rest := []) (lkV dX4_arranges_49 q2259 xd_X4_change (vc_of vt_X4_change q2261 (fun _ => sX4_change)) adx_X4_change) (by decide) (Nat.le_of_ble_eq_true rfl) rfl h (fun u49 st e49 h => ?_)
      refine r_aload_n (pc := 52) dX4_arranges_52 0 rfl rfl ?_
      refine r_aload_n (pc := 53) dX4_arranges_53 0 rfl rfl ?_
      refine r_gJ (pc := 54) dX4_arranges_54 q1714 fd_71 same_rf h (fun x54 e54 h => ?_)
      refine r_aload_n (pc := 57) dX4_arranges_57 0 rfl rfl ?_
      refine r_gJ (pc := 58) dX4_arranges_58 q1715 fd_72 same_rf h (fun x58 e58 h => ?_)
      refine r_callI (pc := 61) (rest := []) (lkV dX4_arranges_61 q2183 xd_X4_height (vc_of vt_X4_height q2185 (fun _ => sX4_height)) adx_X4_height) (by decide) (Nat.le_of_ble_eq_true rfl) rfl h (fun x61 st e61 h => ?_)
      refine r_iload_n (pc := 64) dX4_arranges_64 1 rfl rfl ?_
      refine r_icmp_le (pc := 65) (tgt := 70) dX4_arranges_65 (by decide) h (fun e65 h => ?_) (fun e65 h => ?_)
      · refine r_aload_n (pc := 70) dX4_arranges_70 0 rfl rfl ?_
        refine r_iload_n (pc := 71) dX4_arranges_71 3 rfl rfl ?_
        refine r_iload (pc := 72) dX4_arranges_72 4 rfl ?_
        refine r_callV (pc := 74) (rest := []) (lkV dX4_arranges_74 q2259 xd_X4_change (vc_of vt_X4_change q2261 (fun _ => sX4_change)) adx_X4_change) (by decide) (Nat.le_of_ble_eq_true rfl) rfl h (fun u74 st e74 h => ?_)
        exact sX4_arranges_77 hk16 hk26 _ _ _ _ _ _ h
      · refine r_iconst (pc := 68) (v := 1) dX4_arranges_68 (by decide) ?_
        exact r_ireturn (pc := 69) dX4_arranges_69 rfl rfl h
    · refine r_goto (pc := 42) (tgt := 77) dX4_arranges_42 (by decide) ?_
      exact sX4_arranges_77 hk16 hk26 _ _ _ _ _ _ h
theorem sX4_arranges_26 {st0 : Mem} {fin : Int32 × Mem} {kk16 : Rf → Int32 → Int32 → Int32 → Mem → Option (Int32 × Mem)} (hk16 : ∀ (v0 : Rf) (v1 : Int32) (v2 : Int32) (v3 : Int32) (st : Mem), kk16 v0 v1 v2 v3 st = some fin → G (cX4_arranges, "HouseClapsModel", "arranges", 18, (some .boolean), 5) st0 trI fin 16 [(0, vr v0), (1, vi v1), (2, vi v2), (3, vi v3)] [] st) (n : Nat) : ∀ (v0 : Rf) (v1 : Int32) (v2 : Int32) (v3 : Int32) (v4 : Int32) (st : Mem), bX4_arranges_26 kk16 n v0 v1 v2 v3 v4 st = some fin → G (cX4_arranges, "HouseClapsModel", "arranges", 18, (some .boolean), 5) st0 trI fin 26 [(0, vr v0), (1, vi v1), (2, vi v2), (3, vi v3), (4, vi v4)] [] st := by
  induction n with
  | zero => intro v0 v1 v2 v3 v4 st h; cases h
  | succ n ih => intro v0 v1 v2 v3 v4 st h; exact sX4_arranges_26B hk16  ih v0 v1 v2 v3 v4 st h
theorem sX4_arranges_16B {st0 : Mem} {fin : Int32 × Mem} {kk16 : Rf → Int32 → Int32 → Int32 → Mem → Option (Int32 × Mem)} (hk16 : ∀ (v0 : Rf) (v1 : Int32) (v2 : Int32) (v3 : Int32) (st : Mem), kk16 v0 v1 v2 v3 st = some fin → G (cX4_arranges, "HouseClapsModel", "arranges", 18, (some .boolean), 5) st0 trI fin 16 [(0, vr v0), (1, vi v1), (2, vi v2), (3, vi v3)] [] st) (v0 : Rf) (v1 : Int32) (v2 : Int32) (v3 : Int32) (st : Mem) (h : bX4_arranges_16B kk16 v0 v1 v2 v3 st = some fin) : G (cX4_arranges, "HouseClapsModel", "arranges", 18, (some .boolean), 5) st0 trI fin 16 [(0, vr v0), (1, vi v1), (2, vi v2), (3, vi v3)] [] st := by
  unfold bX4_arranges_16B at h
  refine r_iload_n (pc := 16) dX4_arranges_16 3 rfl rfl ?_
  refine r_iload_n (pc := 17) dX4_arranges_17 2 rfl rfl ?_
  refine r_icmp_ge (pc := 18) (tgt := 89) dX4_arranges_18 (by decide) h (fun e18 h => ?_) (fun e18 h => ?_)
  · refine r_iconst (pc := 89) (v := 0) dX4_arranges_89 (by decide) ?_
    exact r_ireturn (pc := 90) dX4_arranges_90 rfl rfl h
  · refine r_iload_n (pc := 21) dX4_arranges_21 3 rfl rfl ?_
    refine r_iconst (pc := 22) (v := 1) dX4_arranges_22 (by decide) ?_
    refine r_iadd (pc := 23) dX4_arranges_23 ?_
    refine r_istore (pc := 24) (env' := [(4, vi (v3 + (1 : Int32))), (0, vr v0), (1, vi v1), (2, vi v2), (3, vi v3)]) dX4_arranges_24 (by decide) rfl ?_
    exact r_sub (env' := [(0, vr v0), (1, vi v1), (2, vi v2), (3, vi v3), (4, vi (v3 + (1 : Int32)))]) [1, 2, 3, 4, 0] rfl (sX4_arranges_26 hk16 hcFuel _ _ _ _ _ _ h)
theorem sX4_arranges_16 {st0 : Mem} {fin : Int32 × Mem} (n : Nat) : ∀ (v0 : Rf) (v1 : Int32) (v2 : Int32) (v3 : Int32) (st : Mem), bX4_arranges_16 n v0 v1 v2 v3 st = some fin → G (cX4_arranges, "HouseClapsModel", "arranges", 18, (some .boolean), 5) st0 trI fin 16 [(0, vr v0), (1, vi v1), (2, vi v2), (3, vi v3)] [] st := by
  induction n with
  | zero => intro v0 v1 v2 v3 st h; cases h
  | succ n ih => intro v0 v1 v2 v3 st h; exact sX4_arranges_16B  ih v0 v1 v2 v3 st h
theorem sX4_arranges {a0 : Rf} {a1 : Int32} {st : Mem} {fin : Int32 × Mem} (h : fX4_arranges a0 a1 st = some fin) : Con yX4_arranges 18 [vr a0, vi a1] st trI fin := by
  refine Con.mk (cc := cX4_arranges) (n := 5) (own := "HouseClapsModel") (nm := "arranges") (ret := (some .boolean)) (env := [(0, vr a0), (1, vi a1)]) q2274 rfl rfl rfl (by decide) ⟨Nat.le_of_ble_eq_true rfl, by decide⟩ rfl ?_
  unfold fX4_arranges at h
  refine r_aload_n (pc := 0) dX4_arranges_0 0 rfl rfl ?_
  refine r_gA (pc := 1) dX4_arranges_1 q1704 fd_61 same_rf h (fun x1 e1 h => ?_)
  refine r_iconst (pc := 4) (v := 0) dX4_arranges_4 (by decide) ?_
  refine r_iaload (pc := 5) dX4_arranges_5 h (fun x5 e5 h => ?_)
  refine r_aload_n (pc := 6) dX4_arranges_6 0 rfl rfl ?_
  refine r_gA (pc := 7) dX4_arranges_7 q1704 fd_61 same_rf h (fun x7 e7 h => ?_)
  refine r_iconst (pc := 10) (v := 1) dX4_arranges_10 (by decide) ?_
  refine r_iaload (pc := 11) dX4_arranges_11 h (fun x11 e11 h => ?_)
  refine r_imul (pc := 12) dX4_arranges_12 ?_
  refine r_istore_n (pc := 13) (env' := [(2, vi (x5 * x11)), (0, vr a0), (1, vi a1)]) dX4_arranges_13 rfl (by decide) rfl ?_
  refine r_iconst (pc := 14) (v := 0) dX4_arranges_14 (by decide) ?_
  refine r_istore_n (pc := 15) (env' := [(3, vi (0 : Int32)), (2, vi (x5 * x11)), (0, vr a0), (1, vi a1)]) dX4_arranges_15 rfl (by decide) rfl ?_
  exact r_sub (env' := [(0, vr a0), (1, vi a1), (2, vi (x5 * x11)), (3, vi (0 : Int32))]) [2, 3, 1, 0] rfl (sX4_arranges_16 hcFuel _ _ _ _ _ h)
theorem sX4_at {a0 : Rf} {a1 : Int32} {a2 : Int32} {a3 : Int32} {st : Mem} {fin : Int32 × Mem} (h : fX4_at a0 a1 a2 a3 st = some fin) : Con yX4_at 18 [vr a0, vi a1, vi a2, vi a3] st trI fin := by
  refine Con.mk (cc := cX4_at) (n := 4) (own := "HouseClapsModel") (nm := "at") (ret := (some .int)) (env := [(0, vr a0), (1, vi a1), (2, vi a2), (3, vi a3)]) q2142 rfl rfl rfl (by decide) ⟨Nat.le_of_ble_eq_true rfl, by decide⟩ rfl ?_
  unfold fX4_at at h
  refine r_aload_n (pc := 0) dX4_at_0 0 rfl rfl ?_
  refine r_iconst (pc := 1) (v := 0) dX4_at_1 (by decide) ?_
  refine r_pI (pc := 2) dX4_at_2 q1698 fd_55 same_rf rfl h (fun st e2 h => ?_)
  refine r_aload_n (pc := 5) dX4_at_5 0 rfl rfl ?_
  refine r_iload_n (pc := 6) dX4_at_6 1 rfl rfl ?_
  refine r_callI (pc := 7) (rest := []) (lkV dX4_at_7 q2040 xd_X4_isSeat (vc_of vt_X4_isSeat q2042 (fun _ => sX4_isSeat)) adx_X4_isSeat) (by decide) (Nat.le_of_ble_eq_true rfl) rfl h (fun x7 st e7 h => ?_)
  refine r_if_eq (pc := 10) (tgt := 29) dX4_at_10 (by decide) h (fun e10 h => ?_) (fun e10 h => ?_)
  · refine r_iconst (pc := 29) (v := (-1)) dX4_at_29 (by decide) ?_
    exact r_ireturn (pc := 30) dX4_at_30 rfl rfl h
  · refine r_iload_n (pc := 13) dX4_at_13 2 rfl rfl ?_
    refine r_callI (pc := 14) (rest := []) (lkS dX4_at_14 q2093 q2094 q92 (fun _ => sX4_isMoment) ad_X4_isMoment) (by decide) (Nat.le_of_ble_eq_true rfl) rfl h (fun x14 st e14 h => ?_)
    refine r_if_eq (pc := 17) (tgt := 29) dX4_at_17 (by decide) h (fun e17 h => ?_) (fun e17 h => ?_)
    · refine r_iconst (pc := 29) (v := (-1)) dX4_at_29 (by decide) ?_
      exact r_ireturn (pc := 30) dX4_at_30 rfl rfl h
    · refine r_iload_n (pc := 20) dX4_at_20 3 rfl rfl ?_
      refine r_iconst (pc := 21) (v := 0) dX4_at_21 (by decide) ?_
      refine r_iconst (pc := 22) (v := 1) dX4_at_22 (by decide) ?_
      refine r_callI (pc := 23) (rest := []) (lkS dX4_at_23 q1949 q1950 q92 (fun _ => sX4_isIn) ad_X4_isIn) (by decide) (Nat.le_of_ble_eq_true rfl) rfl h (fun x23 st e23 h => ?_)
      refine r_if_ne (pc := 26) (tgt := 31) dX4_at_26 (by decide) h (fun e26 h => ?_) (fun e26 h => ?_)
      · refine r_aload_n (pc := 31) dX4_at_31 0 rfl rfl ?_
        refine r_iload_n (pc := 32) dX4_at_32 2 rfl rfl ?_
        refine r_callV (pc := 33) (rest := []) (lkV dX4_at_33 q2096 xd_X4_night (vc_of vt_X4_night q2098 (fun _ => sX4_night)) adx_X4_night) (by decide) (Nat.le_of_ble_eq_true rfl) rfl h (fun u33 st e33 h => ?_)
        refine r_iload_n (pc := 36) dX4_at_36 3 rfl rfl ?_
        refine r_if_ne (pc := 37) (tgt := 48) dX4_at_37 (by decide) h (fun e37 h => ?_) (fun e37 h => ?_)
        · refine r_aload_n (pc := 48) dX4_at_48 0 rfl rfl ?_
          refine r_iload_n (pc := 49) dX4_at_49 1 rfl rfl ?_
          refine r_callI (pc := 50) (rest := []) (lkV dX4_at_50 q2120 xd_X4_heldOf (vc_of vt_X4_heldOf q2122 (fun _ => sX4_heldOf)) adx_X4_heldOf) (by decide) (Nat.le_of_ble_eq_true rfl) rfl h (fun x50 st e50 h => ?_)
          exact r_ireturn (pc := 53) dX4_at_53 rfl rfl h
        · refine r_aload_n (pc := 40) dX4_at_40 0 rfl rfl ?_
          refine r_iload_n (pc := 41) dX4_at_41 1 rfl rfl ?_
          refine r_callI (pc := 42) (rest := []) (lkV dX4_at_42 q2116 xd_X4_levelOf (vc_of vt_X4_levelOf q2118 (fun _ => sX4_levelOf)) adx_X4_levelOf) (by decide) (Nat.le_of_ble_eq_true rfl) rfl h (fun x42 st e42 h => ?_)
          refine r_goto (pc := 45) (tgt := 53) dX4_at_45 (by decide) ?_
          exact r_ireturn (pc := 53) dX4_at_53 rfl rfl h
      · refine r_iconst (pc := 29) (v := (-1)) dX4_at_29 (by decide) ?_
        exact r_ireturn (pc := 30) dX4_at_30 rfl rfl h
theorem sX4_began_287 {st0 : Mem} {fin : Int32 × Mem} {kk198 : Rf → Int32 → Int32 → Int32 → Int32 → Mem → Option (Int32 × Mem)} {kk208 : Rf → Int32 → Int32 → Int32 → Int32 → Int32 → Mem → Option (Int32 × Mem)} (hk198 : ∀ (v0 : Rf) (v1 : Int32) (v2 : Int32) (v9 : Int32) (v10 : Int32) (st : Mem), kk198 v0 v1 v2 v9 v10 st = some fin → G (cX4_began, "HouseClapsModel", "began", 18, (some .int), 12) st0 trI fin 198 [(0, vr v0), (1, vi v1), (2, vi v2), (9, vi v9), (10, vi v10)] [] st) (hk208 : ∀ (v0 : Rf) (v1 : Int32) (v2 : Int32) (v9 : Int32) (v10 : Int32) (v11 : Int32) (st : Mem), kk208 v0 v1 v2 v9 v10 v11 st = some fin → G (cX4_began, "HouseClapsModel", "began", 18, (some .int), 12) st0 trI fin 208 [(0, vr v0), (1, vi v1), (2, vi v2), (9, vi v9), (10, vi v10), (11, vi v11)] [] st) (v0 : Rf) (v1 : Int32) (v2 : Int32) (v9 : Int32) (v10 : Int32) (v11 : Int32) (st : Mem) (h : bX4_began_287 kk198 kk208 v0 v1 v2 v9 v10 v11 st = some fin) : G (cX4_began, "HouseClapsModel", "began", 18, (some .int), 12) st0 trI fin 287 [(0, vr v0), (1, vi v1), (2, vi v2), (9, vi v9), (10, vi v10), (11, vi v11)] [] st := by
  unfold bX4_began_287 at h
  refine r_iinc (pc := 287) (env' := [(11, vi (v11 + 1)), (0, vr v0), (1, vi v1), (2, vi v2), (9, vi v9), (10, vi v10)]) (cst := 1) dX4_began_287 5 rfl (by decide) (by decide) rfl ?_
  refine r_goto (pc := 290) (tgt := 208) dX4_began_290 (by decide) ?_
  exact r_sub (env' := [(0, vr v0), (1, vi v1), (2, vi v2), (9, vi v9), (10, vi v10), (11, vi (v11 + 1))]) [1, 2, 3, 4, 5, 0] rfl (hk208 _ _ _ _ _ _ _ h)
theorem sX4_began_284 {st0 : Mem} {fin : Int32 × Mem} {kk198 : Rf → Int32 → Int32 → Int32 → Int32 → Mem → Option (Int32 × Mem)} {kk208 : Rf → Int32 → Int32 → Int32 → Int32 → Int32 → Mem → Option (Int32 × Mem)} (hk198 : ∀ (v0 : Rf) (v1 : Int32) (v2 : Int32) (v9 : Int32) (v10 : Int32) (st : Mem), kk198 v0 v1 v2 v9 v10 st = some fin → G (cX4_began, "HouseClapsModel", "began", 18, (some .int), 12) st0 trI fin 198 [(0, vr v0), (1, vi v1), (2, vi v2), (9, vi v9), (10, vi v10)] [] st) (hk208 : ∀ (v0 : Rf) (v1 : Int32) (v2 : Int32) (v9 : Int32) (v10 : Int32) (v11 : Int32) (st : Mem), kk208 v0 v1 v2 v9 v10 v11 st = some fin → G (cX4_began, "HouseClapsModel", "began", 18, (some .int), 12) st0 trI fin 208 [(0, vr v0), (1, vi v1), (2, vi v2), (9, vi v9), (10, vi v10), (11, vi v11)] [] st) (v0 : Rf) (v1 : Int32) (v2 : Int32) (v9 : Int32) (v10 : Int32) (v11 : Int32) (k0 : Rf) (k1 : Int32) (st : Mem) (h : bX4_began_284 kk198 kk208 v0 v1 v2 v9 v10 v11 k0 k1 st = some fin) : G (cX4_began, "HouseClapsModel", "began", 18, (some .int), 12) st0 trI fin 284 [(0, vr v0), (1, vi v1), (2, vi v2), (9, vi v9), (10, vi v10), (11, vi v11)] [vi k1, vr k0] st := by
  unfold bX4_began_284 at h
  refine r_pI (pc := 284) dX4_began_284 q1758 fd_115 same_rf rfl h (fun st e284 h => ?_)
  exact sX4_began_287 hk198 hk208 _ _ _ _ _ _ _ h
theorem sX4_began_208B {st0 : Mem} {fin : Int32 × Mem} {kk198 : Rf → Int32 → Int32 → Int32 → Int32 → Mem → Option (Int32 × Mem)} {kk208 : Rf → Int32 → Int32 → Int32 → Int32 → Int32 → Mem → Option (Int32 × Mem)} (hk198 : ∀ (v0 : Rf) (v1 : Int32) (v2 : Int32) (v9 : Int32) (v10 : Int32) (st : Mem), kk198 v0 v1 v2 v9 v10 st = some fin → G (cX4_began, "HouseClapsModel", "began", 18, (some .int), 12) st0 trI fin 198 [(0, vr v0), (1, vi v1), (2, vi v2), (9, vi v9), (10, vi v10)] [] st) (hk208 : ∀ (v0 : Rf) (v1 : Int32) (v2 : Int32) (v9 : Int32) (v10 : Int32) (v11 : Int32) (st : Mem), kk208 v0 v1 v2 v9 v10 v11 st = some fin → G (cX4_began, "HouseClapsModel", "began", 18, (some .int), 12) st0 trI fin 208 [(0, vr v0), (1, vi v1), (2, vi v2), (9, vi v9), (10, vi v10), (11, vi v11)] [] st) (v0 : Rf) (v1 : Int32) (v2 : Int32) (v9 : Int32) (v10 : Int32) (v11 : Int32) (st : Mem) (h : bX4_began_208B kk198 kk208 v0 v1 v2 v9 v10 v11 st = some fin) : G (cX4_began, "HouseClapsModel", "began", 18, (some .int), 12) st0 trI fin 208 [(0, vr v0), (1, vi v1), (2, vi v2), (9, vi v9), (10, vi v10), (11, vi v11)] [] st := by
  unfold bX4_began_208B at h
  refine r_iload (pc := 208) dX4_began_208 5 rfl ?_
  refine r_iload_n (pc := 210) dX4_began_210 2 rfl rfl ?_
  refine r_icmp_ge (pc := 211) (tgt := 293) dX4_began_211 (by decide) h (fun e211 h => ?_) (fun e211 h => ?_)
  · refine r_iinc (pc := 293) (env' := [(10, vi (v10 + 1)), (0, vr v0), (1, vi v1), (2, vi v2), (9, vi v9), (11, vi v11)]) (cst := 1) dX4_began_293 4 rfl (by decide) (by decide) rfl ?_
    refine r_goto (pc := 296) (tgt := 198) dX4_began_296 (by decide) ?_
    exact r_sub (env' := [(0, vr v0), (1, vi v1), (2, vi v2), (9, vi v9), (10, vi (v10 + 1))]) [1, 2, 3, 4, 0] rfl (hk198 _ _ _ _ _ _ h)
  · refine r_aload_n (pc := 214) dX4_began_214 0 rfl rfl ?_
    refine r_iload (pc := 215) dX4_began_215 4 rfl ?_
    refine r_callI (pc := 217) (rest := []) (lkV dX4_began_217 q2040 xd_X4_isSeat (vc_of vt_X4_isSeat q2042 (fun _ => sX4_isSeat)) adx_X4_isSeat) (by decide) (Nat.le_of_ble_eq_true rfl) rfl h (fun x217 st e217 h => ?_)
    refine r_if_eq (pc := 220) (tgt := 287) dX4_began_220 (by decide) h (fun e220 h => ?_) (fun e220 h => ?_)
    · exact sX4_began_287 hk198 hk208 _ _ _ _ _ _ _ h
    · refine r_aload_n (pc := 223) dX4_began_223 0 rfl rfl ?_
      refine r_iload (pc := 224) dX4_began_224 5 rfl ?_
      refine r_callI (pc := 226) (rest := []) (lkV dX4_began_226 q2040 xd_X4_isSeat (vc_of vt_X4_isSeat q2042 (fun _ => sX4_isSeat)) adx_X4_isSeat) (by decide) (Nat.le_of_ble_eq_true rfl) rfl h (fun x226 st e226 h => ?_)
      refine r_if_eq (pc := 229) (tgt := 287) dX4_began_229 (by decide) h (fun e229 h => ?_) (fun e229 h => ?_)
      · exact sX4_began_287 hk198 hk208 _ _ _ _ _ _ _ h
      · refine r_aload_n (pc := 232) dX4_began_232 0 rfl rfl ?_
        refine r_lconst (pc := 233) (v := 1) dX4_began_233 (by decide) ?_
        refine r_iload (pc := 234) dX4_began_234 4 rfl ?_
        refine r_lshl (pc := 236) dX4_began_236 ?_
        refine r_lconst (pc := 237) (v := 1) dX4_began_237 (by decide) ?_
        refine r_iload (pc := 238) dX4_began_238 5 rfl ?_
        refine r_lshl (pc := 240) dX4_began_240 ?_
        refine r_lor (pc := 241) dX4_began_241 ?_
        refine r_iload_n (pc := 242) dX4_began_242 1 rfl rfl ?_
        refine r_callI (pc := 243) (rest := []) (lkV dX4_began_243 q2239 xd_X4_isSketch (vc_of vt_X4_isSketch q2241 (fun _ => sX4_isSketch)) adx_X4_isSketch) (by decide) (Nat.le_of_ble_eq_true rfl) rfl h (fun x243 st e243 h => ?_)
        refine r_if_ne (pc := 246) (tgt := 252) dX4_began_246 (by decide) h (fun e246 h => ?_) (fun e246 h => ?_)
        · refine r_iinc (pc := 252) (env' := [(9, vi (v9 + 1)), (0, vr v0), (1, vi v1), (2, vi v2), (10, vi v10), (11, vi v11)]) (cst := 1) dX4_began_252 3 rfl (by decide) (by decide) rfl ?_
          refine r_iload (pc := 255) dX4_began_255 0 rfl ?_
          refine r_iconst (pc := 257) (v := 1) dX4_began_257 (by decide) ?_
          refine r_icmp_le (pc := 258) (tgt := 264) dX4_began_258 (by decide) h (fun e258 h => ?_) (fun e258 h => ?_)
          · refine r_aload_n (pc := 264) dX4_began_264 1 rfl rfl ?_
            refine r_iload (pc := 265) dX4_began_265 4 rfl ?_
            refine r_pI (pc := 267) dX4_began_267 q1757 fd_114 same_rf rfl h (fun st e267 h => ?_)
            refine r_aload_n (pc := 270) dX4_began_270 1 rfl rfl ?_
            refine r_iload (pc := 271) dX4_began_271 4 rfl ?_
            refine r_iload (pc := 273) dX4_began_273 5 rfl ?_
            refine r_icmp_ne (pc := 275) (tgt := 282) dX4_began_275 (by decide) h (fun e275 h => ?_) (fun e275 h => ?_)
            · refine r_iload (pc := 282) dX4_began_282 5 rfl ?_
              exact r_sub (env' := [(0, vr v0), (1, vi v1), (2, vi v2), (9, vi (v9 + 1)), (10, vi v10), (11, vi v11)]) [1, 2, 3, 0, 4, 5] rfl (sX4_began_284 hk198 hk208 _ _ _ _ _ _ _ _ _ h)
            · refine r_iconst (pc := 278) (v := (-1)) dX4_began_278 (by decide) ?_
              refine r_goto (pc := 279) (tgt := 284) dX4_began_279 (by decide) ?_
              exact r_sub (env' := [(0, vr v0), (1, vi v1), (2, vi v2), (9, vi (v9 + 1)), (10, vi v10), (11, vi v11)]) [1, 2, 3, 0, 4, 5] rfl (sX4_began_284 hk198 hk208 _ _ _ _ _ _ _ _ _ h)
          · refine r_goto (pc := 261) (tgt := 287) dX4_began_261 (by decide) ?_
            exact r_sub (env' := [(0, vr v0), (1, vi v1), (2, vi v2), (9, vi (v9 + 1)), (10, vi v10), (11, vi v11)]) [1, 2, 3, 0, 4, 5] rfl (sX4_began_287 hk198 hk208 _ _ _ _ _ _ _ h)
        · refine r_goto (pc := 249) (tgt := 287) dX4_began_249 (by decide) ?_
          exact sX4_began_287 hk198 hk208 _ _ _ _ _ _ _ h
theorem sX4_began_208 {st0 : Mem} {fin : Int32 × Mem} {kk198 : Rf → Int32 → Int32 → Int32 → Int32 → Mem → Option (Int32 × Mem)} (hk198 : ∀ (v0 : Rf) (v1 : Int32) (v2 : Int32) (v9 : Int32) (v10 : Int32) (st : Mem), kk198 v0 v1 v2 v9 v10 st = some fin → G (cX4_began, "HouseClapsModel", "began", 18, (some .int), 12) st0 trI fin 198 [(0, vr v0), (1, vi v1), (2, vi v2), (9, vi v9), (10, vi v10)] [] st) (n : Nat) : ∀ (v0 : Rf) (v1 : Int32) (v2 : Int32) (v9 : Int32) (v10 : Int32) (v11 : Int32) (st : Mem), bX4_began_208 kk198 n v0 v1 v2 v9 v10 v11 st = some fin → G (cX4_began, "HouseClapsModel", "began", 18, (some .int), 12) st0 trI fin 208 [(0, vr v0), (1, vi v1), (2, vi v2), (9, vi v9), (10, vi v10), (11, vi v11)] [] st := by
  induction n with
  | zero => intro v0 v1 v2 v9 v10 v11 st h; cases h
  | succ n ih => intro v0 v1 v2 v9 v10 v11 st h; exact sX4_began_208B hk198  ih v0 v1 v2 v9 v10 v11 st h
theorem sX4_began_198B {st0 : Mem} {fin : Int32 × Mem} {kk198 : Rf → Int32 → Int32 → Int32 → Int32 → Mem → Option (Int32 × Mem)} (hk198 : ∀ (v0 : Rf) (v1 : Int32) (v2 : Int32) (v9 : Int32) (v10 : Int32) (st : Mem), kk198 v0 v1 v2 v9 v10 st = some fin → G (cX4_began, "HouseClapsModel", "began", 18, (some .int), 12) st0 trI fin 198 [(0, vr v0), (1, vi v1), (2, vi v2), (9, vi v9), (10, vi v10)] [] st) (v0 : Rf) (v1 : Int32) (v2 : Int32) (v9 : Int32) (v10 : Int32) (st : Mem) (h : bX4_began_198B kk198 v0 v1 v2 v9 v10 st = some fin) : G (cX4_began, "HouseClapsModel", "began", 18, (some .int), 12) st0 trI fin 198 [(0, vr v0), (1, vi v1), (2, vi v2), (9, vi v9), (10, vi v10)] [] st := by
  unfold bX4_began_198B at h
  refine r_iload (pc := 198) dX4_began_198 4 rfl ?_
  refine r_iload_n (pc := 200) dX4_began_200 2 rfl rfl ?_
  refine r_icmp_ge (pc := 201) (tgt := 299) dX4_began_201 (by decide) h (fun e201 h => ?_) (fun e201 h => ?_)
  · refine r_iload (pc := 299) dX4_began_299 3 rfl ?_
    exact r_ireturn (pc := 301) dX4_began_301 rfl rfl h
  · refine r_iload (pc := 204) dX4_began_204 4 rfl ?_
    refine r_istore (pc := 206) (env' := [(11, vi v10), (0, vr v0), (1, vi v1), (2, vi v2), (9, vi v9), (10, vi v10)]) dX4_began_206 (by decide) rfl ?_
    exact r_sub (env' := [(0, vr v0), (1, vi v1), (2, vi v2), (9, vi v9), (10, vi v10), (11, vi v10)]) [1, 2, 3, 4, 5, 0] rfl (sX4_began_208 hk198 hcFuel _ _ _ _ _ _ _ h)
theorem sX4_began_198 {st0 : Mem} {fin : Int32 × Mem} (n : Nat) : ∀ (v0 : Rf) (v1 : Int32) (v2 : Int32) (v9 : Int32) (v10 : Int32) (st : Mem), bX4_began_198 n v0 v1 v2 v9 v10 st = some fin → G (cX4_began, "HouseClapsModel", "began", 18, (some .int), 12) st0 trI fin 198 [(0, vr v0), (1, vi v1), (2, vi v2), (9, vi v9), (10, vi v10)] [] st := by
  induction n with
  | zero => intro v0 v1 v2 v9 v10 st h; cases h
  | succ n ih => intro v0 v1 v2 v9 v10 st h; exact sX4_began_198B  ih v0 v1 v2 v9 v10 st h
theorem sX4_began_159 {st0 : Mem} {fin : Int32 × Mem} {kk68 : Rf → Int32 → Int32 → Int64 → Int64 → Int64 → Int32 → Mem → Option (Int32 × Mem)} (hk68 : ∀ (v0 : Rf) (v1 : Int32) (v2 : Int32) (v3 : Int64) (v5 : Int64) (v7 : Int64) (v9 : Int32) (st : Mem), kk68 v0 v1 v2 v3 v5 v7 v9 st = some fin → G (cX4_began, "HouseClapsModel", "began", 18, (some .int), 12) st0 trI fin 68 [(0, vr v0), (1, vi v1), (2, vi v2), (3, vj v3), (5, vj v5), (7, vj v7), (9, vi v9)] [] st) (v0 : Rf) (v1 : Int32) (v2 : Int32) (v3 : Int64) (v5 : Int64) (v7 : Int64) (v9 : Int32) (st : Mem) (h : bX4_began_159 kk68 v0 v1 v2 v3 v5 v7 v9 st = some fin) : G (cX4_began, "HouseClapsModel", "began", 18, (some .int), 12) st0 trI fin 159 [(0, vr v0), (1, vi v1), (2, vi v2), (3, vj v3), (5, vj v5), (7, vj v7), (9, vi v9)] [] st := by
  unfold bX4_began_159 at h
  refine r_iinc (pc := 159) (env' := [(9, vi (v9 + 1)), (0, vr v0), (1, vi v1), (2, vi v2), (3, vj v3), (5, vj v5), (7, vj v7)]) (cst := 1) dX4_began_159 6 rfl (by decide) (by decide) rfl ?_
  refine r_goto (pc := 162) (tgt := 68) dX4_began_162 (by decide) ?_
  exact r_sub (env' := [(0, vr v0), (1, vi v1), (2, vi v2), (3, vj v3), (5, vj v5), (7, vj v7), (9, vi (v9 + 1))]) [1, 2, 3, 4, 5, 6, 0] rfl (hk68 _ _ _ _ _ _ _ _ h)
theorem sX4_began_156 {st0 : Mem} {fin : Int32 × Mem} {kk68 : Rf → Int32 → Int32 → Int64 → Int64 → Int64 → Int32 → Mem → Option (Int32 × Mem)} (hk68 : ∀ (v0 : Rf) (v1 : Int32) (v2 : Int32) (v3 : Int64) (v5 : Int64) (v7 : Int64) (v9 : Int32) (st : Mem), kk68 v0 v1 v2 v3 v5 v7 v9 st = some fin → G (cX4_began, "HouseClapsModel", "began", 18, (some .int), 12) st0 trI fin 68 [(0, vr v0), (1, vi v1), (2, vi v2), (3, vj v3), (5, vj v5), (7, vj v7), (9, vi v9)] [] st) (v0 : Rf) (v1 : Int32) (v2 : Int32) (v3 : Int64) (v7 : Int64) (v9 : Int32) (k0 : Int64) (k1 : Int64) (st : Mem) (h : bX4_began_156 kk68 v0 v1 v2 v3 v7 v9 k0 k1 st = some fin) : G (cX4_began, "HouseClapsModel", "began", 18, (some .int), 12) st0 trI fin 156 [(0, vr v0), (1, vi v1), (2, vi v2), (3, vj v3), (7, vj v7), (9, vi v9)] [vj k1, vj k0] st := by
  unfold bX4_began_156 at h
  refine r_lor (pc := 156) dX4_began_156 ?_
  refine r_lstore (pc := 157) (env' := [(5, vj (k0 ||| k1)), (0, vr v0), (1, vi v1), (2, vi v2), (3, vj v3), (7, vj v7), (9, vi v9)]) dX4_began_157 (by decide) rfl ?_
  exact r_sub (env' := [(0, vr v0), (1, vi v1), (2, vi v2), (3, vj v3), (5, vj (k0 ||| k1)), (7, vj v7), (9, vi v9)]) [1, 2, 3, 4, 0, 5, 6] rfl (sX4_began_159 hk68 _ _ _ _ _ _ _ _ h)
theorem sX4_began_138 {st0 : Mem} {fin : Int32 × Mem} {kk68 : Rf → Int32 → Int32 → Int64 → Int64 → Int64 → Int32 → Mem → Option (Int32 × Mem)} (hk68 : ∀ (v0 : Rf) (v1 : Int32) (v2 : Int32) (v3 : Int64) (v5 : Int64) (v7 : Int64) (v9 : Int32) (st : Mem), kk68 v0 v1 v2 v3 v5 v7 v9 st = some fin → G (cX4_began, "HouseClapsModel", "began", 18, (some .int), 12) st0 trI fin 68 [(0, vr v0), (1, vi v1), (2, vi v2), (3, vj v3), (5, vj v5), (7, vj v7), (9, vi v9)] [] st) (v0 : Rf) (v1 : Int32) (v2 : Int32) (v5 : Int64) (v7 : Int64) (v9 : Int32) (v10 : Int32) (k0 : Int64) (k1 : Int64) (st : Mem) (h : bX4_began_138 kk68 v0 v1 v2 v5 v7 v9 v10 k0 k1 st = some fin) : G (cX4_began, "HouseClapsModel", "began", 18, (some .int), 12) st0 trI fin 138 [(0, vr v0), (1, vi v1), (2, vi v2), (5, vj v5), (7, vj v7), (9, vi v9), (10, vi v10)] [vj k1, vj k0] st := by
  unfold bX4_began_138 at h
  refine r_lor (pc := 138) dX4_began_138 ?_
  refine r_lstore_n (pc := 139) (env' := [(3, vj (k0 ||| k1)), (0, vr v0), (1, vi v1), (2, vi v2), (5, vj v5), (7, vj v7), (9, vi v9), (10, vi v10)]) dX4_began_139 rfl (by decide) rfl ?_
  refine r_lload (pc := 140) dX4_began_140 4 rfl ?_
  refine r_iload (pc := 142) dX4_began_142 7 rfl ?_
  refine r_iconst (pc := 144) (v := 1) dX4_began_144 (by decide) ?_
  refine r_icmp_le (pc := 145) (tgt := 155) dX4_began_145 (by decide) h (fun e145 h => ?_) (fun e145 h => ?_)
  · refine r_lconst (pc := 155) (v := 0) dX4_began_155 (by decide) ?_
    exact r_sub (env' := [(0, vr v0), (1, vi v1), (2, vi v2), (3, vj (k0 ||| k1)), (7, vj v7), (9, vi v9)]) [1, 2, 3, 0, 5, 6] rfl (sX4_began_156 hk68 _ _ _ _ _ _ _ _ _ h)
  · refine r_lconst (pc := 148) (v := 1) dX4_began_148 (by decide) ?_
    refine r_iload (pc := 149) dX4_began_149 6 rfl ?_
    refine r_lshl (pc := 151) dX4_began_151 ?_
    refine r_goto (pc := 152) (tgt := 156) dX4_began_152 (by decide) ?_
    exact r_sub (env' := [(0, vr v0), (1, vi v1), (2, vi v2), (3, vj (k0 ||| k1)), (7, vj v7), (9, vi v9)]) [1, 2, 3, 0, 5, 6] rfl (sX4_began_156 hk68 _ _ _ _ _ _ _ _ _ h)
theorem sX4_began_68B {st0 : Mem} {fin : Int32 × Mem} {kk68 : Rf → Int32 → Int32 → Int64 → Int64 → Int64 → Int32 → Mem → Option (Int32 × Mem)} (hk68 : ∀ (v0 : Rf) (v1 : Int32) (v2 : Int32) (v3 : Int64) (v5 : Int64) (v7 : Int64) (v9 : Int32) (st : Mem), kk68 v0 v1 v2 v3 v5 v7 v9 st = some fin → G (cX4_began, "HouseClapsModel", "began", 18, (some .int), 12) st0 trI fin 68 [(0, vr v0), (1, vi v1), (2, vi v2), (3, vj v3), (5, vj v5), (7, vj v7), (9, vi v9)] [] st) (v0 : Rf) (v1 : Int32) (v2 : Int32) (v3 : Int64) (v5 : Int64) (v7 : Int64) (v9 : Int32) (st : Mem) (h : bX4_began_68B kk68 v0 v1 v2 v3 v5 v7 v9 st = some fin) : G (cX4_began, "HouseClapsModel", "began", 18, (some .int), 12) st0 trI fin 68 [(0, vr v0), (1, vi v1), (2, vi v2), (3, vj v3), (5, vj v5), (7, vj v7), (9, vi v9)] [] st := by
  unfold bX4_began_68B at h
  refine r_iload (pc := 68) dX4_began_68 6 rfl ?_
  refine r_aload_n (pc := 70) dX4_began_70 0 rfl rfl ?_
  refine r_gI (pc := 71) dX4_began_71 q1701 fd_58 same_rf h (fun x71 e71 h => ?_)
  refine r_icmp_ge (pc := 74) (tgt := 165) dX4_began_74 (by decide) h (fun e74 h => ?_) (fun e74 h => ?_)
  · refine r_aload_n (pc := 165) dX4_began_165 0 rfl rfl ?_
    refine r_lload_n (pc := 166) dX4_began_166 3 rfl rfl ?_
    refine r_pJ (pc := 167) dX4_began_167 q1754 fd_111 same_rf rfl h (fun st e167 h => ?_)
    refine r_aload_n (pc := 170) dX4_began_170 0 rfl rfl ?_
    refine r_lload (pc := 171) dX4_began_171 4 rfl ?_
    refine r_pJ (pc := 173) dX4_began_173 q1755 fd_112 same_rf rfl h (fun st e173 h => ?_)
    refine r_aload_n (pc := 176) dX4_began_176 0 rfl rfl ?_
    refine r_lload (pc := 177) dX4_began_177 5 rfl ?_
    refine r_pJ (pc := 179) dX4_began_179 q1756 fd_113 same_rf rfl h (fun st e179 h => ?_)
    refine r_aload_n (pc := 182) dX4_began_182 0 rfl rfl ?_
    refine r_iconst (pc := 183) (v := (-1)) dX4_began_183 (by decide) ?_
    refine r_pI (pc := 184) dX4_began_184 q1757 fd_114 same_rf rfl h (fun st e184 h => ?_)
    refine r_aload_n (pc := 187) dX4_began_187 0 rfl rfl ?_
    refine r_iconst (pc := 188) (v := (-1)) dX4_began_188 (by decide) ?_
    refine r_pI (pc := 189) dX4_began_189 q1758 fd_115 same_rf rfl h (fun st e189 h => ?_)
    refine r_iconst (pc := 192) (v := 0) dX4_began_192 (by decide) ?_
    refine r_istore (pc := 193) (env' := [(9, vi (0 : Int32)), (0, vr v0), (1, vi v1), (2, vi v2), (3, vj v3), (5, vj v5), (7, vj v7)]) dX4_began_193 (by decide) rfl ?_
    refine r_iconst (pc := 195) (v := 0) dX4_began_195 (by decide) ?_
    refine r_istore (pc := 196) (env' := [(10, vi (0 : Int32)), (9, vi (0 : Int32)), (0, vr v0), (1, vi v1), (2, vi v2), (3, vj v3), (5, vj v5), (7, vj v7)]) dX4_began_196 (by decide) rfl ?_
    exact r_sub (env' := [(0, vr v0), (1, vi v1), (2, vi v2), (9, vi (0 : Int32)), (10, vi (0 : Int32))]) [2, 3, 4, 1, 0] rfl (sX4_began_198 hcFuel _ _ _ _ _ _ h)
  · refine r_aload_n (pc := 77) dX4_began_77 0 rfl rfl ?_
    refine r_iload (pc := 78) dX4_began_78 6 rfl ?_
    refine r_callI (pc := 80) (rest := []) (lkV dX4_began_80 q1945 xd_X4_octet (vc_of vt_X4_octet q1947 (fun _ => sX4_octet)) adx_X4_octet) (by decide) (Nat.le_of_ble_eq_true rfl) rfl h (fun x80 st e80 h => ?_)
    refine r_istore (pc := 83) (env' := [(10, vi x80), (0, vr v0), (1, vi v1), (2, vi v2), (3, vj v3), (5, vj v5), (7, vj v7), (9, vi v9)]) dX4_began_83 (by decide) rfl ?_
    refine r_iload (pc := 85) dX4_began_85 0 rfl ?_
    refine r_iconst (pc := 87) (v := 3) dX4_began_87 (by decide) ?_
    refine r_icmp_le (pc := 88) (tgt := 93) dX4_began_88 (by decide) h (fun e88 h => ?_) (fun e88 h => ?_)
    · refine r_iload (pc := 93) dX4_began_93 0 rfl ?_
      refine r_iconst (pc := 95) (v := 3) dX4_began_95 (by decide) ?_
      refine r_icmp_eq (pc := 96) (tgt := 159) dX4_began_96 (by decide) h (fun e96 h => ?_) (fun e96 h => ?_)
      · exact r_sub (env' := [(0, vr v0), (1, vi v1), (2, vi v2), (3, vj v3), (5, vj v5), (7, vj v7), (9, vi v9)]) [1, 2, 3, 4, 5, 6, 7] rfl (sX4_began_159 hk68 _ _ _ _ _ _ _ _ h)
      · refine r_aload_n (pc := 99) dX4_began_99 1 rfl rfl ?_
        refine r_gA (pc := 100) dX4_began_100 q1704 fd_61 same_rf h (fun x100 e100 h => ?_)
        refine r_bipush (pc := 103) (v := 6) dX4_began_103 (by decide) ?_
        refine r_iload (pc := 105) dX4_began_105 7 rfl ?_
        refine r_iadd (pc := 107) dX4_began_107 ?_
        refine r_iaload (pc := 108) dX4_began_108 h (fun x108 e108 h => ?_)
        refine r_if_ne (pc := 109) (tgt := 115) dX4_began_109 (by decide) h (fun e109 h => ?_) (fun e109 h => ?_)
        · refine r_lload (pc := 115) dX4_began_115 6 rfl ?_
          refine r_lconst (pc := 117) (v := 1) dX4_began_117 (by decide) ?_
          refine r_iload (pc := 118) dX4_began_118 7 rfl ?_
          refine r_lshl (pc := 120) dX4_began_120 ?_
          refine r_lor (pc := 121) dX4_began_121 ?_
          refine r_nameJ h (fun y122 e122 h => ?_)
          refine r_lstore (pc := 122) (env' := [(7, vj y122), (10, vi x80), (0, vr v0), (1, vi v1), (2, vi v2), (3, vj v3), (5, vj v5), (9, vi v9)]) dX4_began_122 (by decide) rfl ?_
          refine r_lload_n (pc := 124) dX4_began_124 5 rfl rfl ?_
          refine r_iload (pc := 125) dX4_began_125 1 rfl ?_
          refine r_if_le (pc := 127) (tgt := 137) dX4_began_127 (by decide) h (fun e127 h => ?_) (fun e127 h => ?_)
          · refine r_lconst (pc := 137) (v := 0) dX4_began_137 (by decide) ?_
            exact r_sub (env' := [(0, vr v0), (1, vi v1), (2, vi v2), (5, vj v5), (7, vj y122), (9, vi v9), (10, vi x80)]) [2, 3, 4, 6, 0, 7, 1] rfl (sX4_began_138 hk68 _ _ _ _ _ _ _ _ _ _ h)
          · refine r_lconst (pc := 130) (v := 1) dX4_began_130 (by decide) ?_
            refine r_iload (pc := 131) dX4_began_131 7 rfl ?_
            refine r_lshl (pc := 133) dX4_began_133 ?_
            refine r_goto (pc := 134) (tgt := 138) dX4_began_134 (by decide) ?_
            exact r_sub (env' := [(0, vr v0), (1, vi v1), (2, vi v2), (5, vj v5), (7, vj y122), (9, vi v9), (10, vi x80)]) [2, 3, 4, 6, 0, 7, 1] rfl (sX4_began_138 hk68 _ _ _ _ _ _ _ _ _ _ h)
        · refine r_goto (pc := 112) (tgt := 159) dX4_began_112 (by decide) ?_
          exact r_sub (env' := [(0, vr v0), (1, vi v1), (2, vi v2), (3, vj v3), (5, vj v5), (7, vj v7), (9, vi v9)]) [1, 2, 3, 4, 5, 6, 7] rfl (sX4_began_159 hk68 _ _ _ _ _ _ _ _ h)
    · refine r_iconst (pc := 91) (v := (-1)) dX4_began_91 (by decide) ?_
      exact r_ireturn (pc := 92) dX4_began_92 rfl rfl h
theorem sX4_began_68 {st0 : Mem} {fin : Int32 × Mem} (n : Nat) : ∀ (v0 : Rf) (v1 : Int32) (v2 : Int32) (v3 : Int64) (v5 : Int64) (v7 : Int64) (v9 : Int32) (st : Mem), bX4_began_68 n v0 v1 v2 v3 v5 v7 v9 st = some fin → G (cX4_began, "HouseClapsModel", "began", 18, (some .int), 12) st0 trI fin 68 [(0, vr v0), (1, vi v1), (2, vi v2), (3, vj v3), (5, vj v5), (7, vj v7), (9, vi v9)] [] st := by
  induction n with
  | zero => intro v0 v1 v2 v3 v5 v7 v9 st h; cases h
  | succ n ih => intro v0 v1 v2 v3 v5 v7 v9 st h; exact sX4_began_68B  ih v0 v1 v2 v3 v5 v7 v9 st h
theorem sX4_began {a0 : Rf} {a1 : Int32} {st : Mem} {fin : Int32 × Mem} (h : fX4_began a0 a1 st = some fin) : Con yX4_began 18 [vr a0, vi a1] st trI fin := by
  refine Con.mk (cc := cX4_began) (n := 12) (own := "HouseClapsModel") (nm := "began") (ret := (some .int)) (env := [(0, vr a0), (1, vi a1)]) q2238 rfl rfl rfl (by decide) ⟨Nat.le_of_ble_eq_true rfl, by decide⟩ rfl ?_
  unfold fX4_began at h
  refine r_aload_n (pc := 0) dX4_began_0 0 rfl rfl ?_
  refine r_iconst (pc := 1) (v := 0) dX4_began_1 (by decide) ?_
  refine r_pI (pc := 2) dX4_began_2 q1698 fd_55 same_rf rfl h (fun st e2 h => ?_)
  refine r_aload_n (pc := 5) dX4_began_5 0 rfl rfl ?_
  refine r_sipush (pc := 6) (v := 940) dX4_began_6 (by decide) ?_
  refine r_callV (pc := 9) (rest := []) (lkV dX4_began_9 q1910 xd_X4_taken (vc_of vt_X4_taken q1912 (fun _ => sX4_taken)) adx_X4_taken) (by decide) (Nat.le_of_ble_eq_true rfl) rfl h (fun u9 st e9 h => ?_)
  refine r_aload_n (pc := 12) dX4_began_12 0 rfl rfl ?_
  refine r_gA (pc := 13) dX4_began_13 q1704 fd_61 same_rf h (fun x13 e13 h => ?_)
  refine r_iconst (pc := 16) (v := 0) dX4_began_16 (by decide) ?_
  refine r_iaload (pc := 17) dX4_began_17 h (fun x17 e17 h => ?_)
  refine r_aload_n (pc := 18) dX4_began_18 0 rfl rfl ?_
  refine r_gA (pc := 19) dX4_began_19 q1704 fd_61 same_rf h (fun x19 e19 h => ?_)
  refine r_iconst (pc := 22) (v := 1) dX4_began_22 (by decide) ?_
  refine r_iaload (pc := 23) dX4_began_23 h (fun x23 e23 h => ?_)
  refine r_imul (pc := 24) dX4_began_24 ?_
  refine r_istore_n (pc := 25) (env' := [(2, vi (x17 * x23)), (0, vr a0), (1, vi a1)]) dX4_began_25 rfl (by decide) rfl ?_
  refine r_aload_n (pc := 26) dX4_began_26 1 rfl rfl ?_
  refine r_gI (pc := 27) dX4_began_27 q1701 fd_58 same_rf h (fun x27 e27 h => ?_)
  refine r_iload_n (pc := 30) dX4_began_30 0 rfl rfl ?_
  refine r_icmp_ne (pc := 31) (tgt := 55) dX4_began_31 (by decide) h (fun e31 h => ?_) (fun e31 h => ?_)
  · refine r_iconst (pc := 55) (v := (-1)) dX4_began_55 (by decide) ?_
    exact r_ireturn (pc := 56) dX4_began_56 rfl rfl h
  · refine r_iload_n (pc := 34) dX4_began_34 2 rfl rfl ?_
    refine r_iconst (pc := 35) (v := 0) dX4_began_35 (by decide) ?_
    refine r_bipush (pc := 36) (v := 60) dX4_began_36 (by decide) ?_
    refine r_callI (pc := 38) (rest := []) (lkS dX4_began_38 q1949 q1950 q92 (fun _ => sX4_isIn) ad_X4_isIn) (by decide) (Nat.le_of_ble_eq_true rfl) rfl h (fun x38 st e38 h => ?_)
    refine r_if_eq (pc := 41) (tgt := 55) dX4_began_41 (by decide) h (fun e41 h => ?_) (fun e41 h => ?_)
    · refine r_iconst (pc := 55) (v := (-1)) dX4_began_55 (by decide) ?_
      exact r_ireturn (pc := 56) dX4_began_56 rfl rfl h
    · refine r_aload_n (pc := 44) dX4_began_44 1 rfl rfl ?_
      refine r_gA (pc := 45) dX4_began_45 q1704 fd_61 same_rf h (fun x45 e45 h => ?_)
      refine r_iconst (pc := 48) (v := 2) dX4_began_48 (by decide) ?_
      refine r_iaload (pc := 49) dX4_began_49 h (fun x49 e49 h => ?_)
      refine r_bipush (pc := 50) (v := 24) dX4_began_50 (by decide) ?_
      refine r_icmp_le (pc := 52) (tgt := 57) dX4_began_52 (by decide) h (fun e52 h => ?_) (fun e52 h => ?_)
      · refine r_lconst (pc := 57) (v := 0) dX4_began_57 (by decide) ?_
        refine r_lstore_n (pc := 58) (env' := [(3, vj (0 : Int64)), (2, vi (x17 * x23)), (0, vr a0), (1, vi a1)]) dX4_began_58 rfl (by decide) rfl ?_
        refine r_lconst (pc := 59) (v := 0) dX4_began_59 (by decide) ?_
        refine r_lstore (pc := 60) (env' := [(5, vj (0 : Int64)), (3, vj (0 : Int64)), (2, vi (x17 * x23)), (0, vr a0), (1, vi a1)]) dX4_began_60 (by decide) rfl ?_
        refine r_lconst (pc := 62) (v := 0) dX4_began_62 (by decide) ?_
        refine r_lstore (pc := 63) (env' := [(7, vj (0 : Int64)), (5, vj (0 : Int64)), (3, vj (0 : Int64)), (2, vi (x17 * x23)), (0, vr a0), (1, vi a1)]) dX4_began_63 (by decide) rfl ?_
        refine r_iconst (pc := 65) (v := 0) dX4_began_65 (by decide) ?_
        refine r_istore (pc := 66) (env' := [(9, vi (0 : Int32)), (7, vj (0 : Int64)), (5, vj (0 : Int64)), (3, vj (0 : Int64)), (2, vi (x17 * x23)), (0, vr a0), (1, vi a1)]) dX4_began_66 (by decide) rfl ?_
        exact r_sub (env' := [(0, vr a0), (1, vi a1), (2, vi (x17 * x23)), (3, vj (0 : Int64)), (5, vj (0 : Int64)), (7, vj (0 : Int64)), (9, vi (0 : Int32))]) [5, 6, 4, 3, 2, 1, 0] rfl (sX4_began_68 hcFuel _ _ _ _ _ _ _ _ h)
      · refine r_iconst (pc := 55) (v := (-1)) dX4_began_55 (by decide) ?_
        exact r_ireturn (pc := 56) dX4_began_56 rfl rfl h
theorem sX4_calls_56 {st0 : Mem} {fin : Int32 × Mem} {kk23 : Rf → Int32 → Int32 → Int32 → Mem → Option (Int32 × Mem)} (hk23 : ∀ (v0 : Rf) (v1 : Int32) (v2 : Int32) (v3 : Int32) (st : Mem), kk23 v0 v1 v2 v3 st = some fin → G (cX4_calls, "HouseClapsModel", "calls", 18, (some .int), 4) st0 trI fin 23 [(0, vr v0), (1, vi v1), (2, vi v2), (3, vi v3)] [] st) (v0 : Rf) (v1 : Int32) (v3 : Int32) (k0 : Int32) (k1 : Int32) (st : Mem) (h : bX4_calls_56 kk23 v0 v1 v3 k0 k1 st = some fin) : G (cX4_calls, "HouseClapsModel", "calls", 18, (some .int), 4) st0 trI fin 56 [(0, vr v0), (1, vi v1), (3, vi v3)] [vi k1, vi k0] st := by
  unfold bX4_calls_56 at h
  refine r_iadd (pc := 56) dX4_calls_56 ?_
  refine r_istore_n (pc := 57) (env' := [(2, vi (k0 + k1)), (0, vr v0), (1, vi v1), (3, vi v3)]) dX4_calls_57 rfl (by decide) rfl ?_
  refine r_iinc (pc := 58) (env' := [(3, vi (v3 + 1)), (2, vi (k0 + k1)), (0, vr v0), (1, vi v1)]) (cst := 1) dX4_calls_58 3 rfl (by decide) (by decide) rfl ?_
  refine r_goto (pc := 61) (tgt := 23) dX4_calls_61 (by decide) ?_
  exact r_sub (env' := [(0, vr v0), (1, vi v1), (2, vi (k0 + k1)), (3, vi (v3 + 1))]) [2, 3, 1, 0] rfl (hk23 _ _ _ _ _ h)
theorem sX4_calls_55 {st0 : Mem} {fin : Int32 × Mem} {kk23 : Rf → Int32 → Int32 → Int32 → Mem → Option (Int32 × Mem)} (hk23 : ∀ (v0 : Rf) (v1 : Int32) (v2 : Int32) (v3 : Int32) (st : Mem), kk23 v0 v1 v2 v3 st = some fin → G (cX4_calls, "HouseClapsModel", "calls", 18, (some .int), 4) st0 trI fin 23 [(0, vr v0), (1, vi v1), (2, vi v2), (3, vi v3)] [] st) (v0 : Rf) (v1 : Int32) (v3 : Int32) (k0 : Int32) (st : Mem) (h : bX4_calls_55 kk23 v0 v1 v3 k0 st = some fin) : G (cX4_calls, "HouseClapsModel", "calls", 18, (some .int), 4) st0 trI fin 55 [(0, vr v0), (1, vi v1), (3, vi v3)] [vi k0] st := by
  unfold bX4_calls_55 at h
  refine r_iconst (pc := 55) (v := 0) dX4_calls_55 (by decide) ?_
  exact sX4_calls_56 hk23 _ _ _ _ _ _ h
theorem sX4_calls_51 {st0 : Mem} {fin : Int32 × Mem} {kk23 : Rf → Int32 → Int32 → Int32 → Mem → Option (Int32 × Mem)} (hk23 : ∀ (v0 : Rf) (v1 : Int32) (v2 : Int32) (v3 : Int32) (st : Mem), kk23 v0 v1 v2 v3 st = some fin → G (cX4_calls, "HouseClapsModel", "calls", 18, (some .int), 4) st0 trI fin 23 [(0, vr v0), (1, vi v1), (2, vi v2), (3, vi v3)] [] st) (v0 : Rf) (v1 : Int32) (v3 : Int32) (k0 : Int32) (st : Mem) (h : bX4_calls_51 kk23 v0 v1 v3 k0 st = some fin) : G (cX4_calls, "HouseClapsModel", "calls", 18, (some .int), 4) st0 trI fin 51 [(0, vr v0), (1, vi v1), (3, vi v3)] [vi k0] st := by
  unfold bX4_calls_51 at h
  refine r_iconst (pc := 51) (v := 1) dX4_calls_51 (by decide) ?_
  refine r_goto (pc := 52) (tgt := 56) dX4_calls_52 (by decide) ?_
  exact sX4_calls_56 hk23 _ _ _ _ _ _ h
theorem sX4_calls_23B {st0 : Mem} {fin : Int32 × Mem} {kk23 : Rf → Int32 → Int32 → Int32 → Mem → Option (Int32 × Mem)} (hk23 : ∀ (v0 : Rf) (v1 : Int32) (v2 : Int32) (v3 : Int32) (st : Mem), kk23 v0 v1 v2 v3 st = some fin → G (cX4_calls, "HouseClapsModel", "calls", 18, (some .int), 4) st0 trI fin 23 [(0, vr v0), (1, vi v1), (2, vi v2), (3, vi v3)] [] st) (v0 : Rf) (v1 : Int32) (v2 : Int32) (v3 : Int32) (st : Mem) (h : bX4_calls_23B kk23 v0 v1 v2 v3 st = some fin) : G (cX4_calls, "HouseClapsModel", "calls", 18, (some .int), 4) st0 trI fin 23 [(0, vr v0), (1, vi v1), (2, vi v2), (3, vi v3)] [] st := by
  unfold bX4_calls_23B at h
  refine r_iload_n (pc := 23) dX4_calls_23 3 rfl rfl ?_
  refine r_iload_n (pc := 24) dX4_calls_24 1 rfl rfl ?_
  refine r_icmp_gt (pc := 25) (tgt := 64) dX4_calls_25 (by decide) h (fun e25 h => ?_) (fun e25 h => ?_)
  · refine r_iload_n (pc := 64) dX4_calls_64 2 rfl rfl ?_
    exact r_ireturn (pc := 65) dX4_calls_65 rfl rfl h
  · refine r_iload_n (pc := 28) dX4_calls_28 2 rfl rfl ?_
    refine r_aload_n (pc := 29) dX4_calls_29 0 rfl rfl ?_
    refine r_iload_n (pc := 30) dX4_calls_30 3 rfl rfl ?_
    refine r_callI (pc := 31) (rest := [vi v2]) (lkV dX4_calls_31 q2163 xd_X4_isUp (vc_of vt_X4_isUp q2165 (fun _ => sX4_isUp)) adx_X4_isUp) (by decide) (Nat.le_of_ble_eq_true rfl) rfl h (fun x31 st e31 h => ?_)
    refine r_if_eq (pc := 34) (tgt := 55) dX4_calls_34 (by decide) h (fun e34 h => ?_) (fun e34 h => ?_)
    · exact r_sub (env' := [(0, vr v0), (1, vi v1), (3, vi v3)]) [0, 1, 3] rfl (sX4_calls_55 hk23 _ _ _ _ _ h)
    · refine r_iload_n (pc := 37) dX4_calls_37 3 rfl rfl ?_
      refine r_if_eq (pc := 38) (tgt := 51) dX4_calls_38 (by decide) h (fun e38 h => ?_) (fun e38 h => ?_)
      · exact r_sub (env' := [(0, vr v0), (1, vi v1), (3, vi v3)]) [0, 1, 3] rfl (sX4_calls_51 hk23 _ _ _ _ _ h)
      · refine r_aload_n (pc := 41) dX4_calls_41 0 rfl rfl ?_
        refine r_iload_n (pc := 42) dX4_calls_42 3 rfl rfl ?_
        refine r_iconst (pc := 43) (v := 1) dX4_calls_43 (by decide) ?_
        refine r_isub (pc := 44) dX4_calls_44 ?_
        refine r_callI (pc := 45) (rest := [vi v2]) (lkV dX4_calls_45 q2163 xd_X4_isUp (vc_of vt_X4_isUp q2165 (fun _ => sX4_isUp)) adx_X4_isUp) (by decide) (Nat.le_of_ble_eq_true rfl) rfl h (fun x45 st e45 h => ?_)
        refine r_if_ne (pc := 48) (tgt := 55) dX4_calls_48 (by decide) h (fun e48 h => ?_) (fun e48 h => ?_)
        · exact r_sub (env' := [(0, vr v0), (1, vi v1), (3, vi v3)]) [0, 1, 3] rfl (sX4_calls_55 hk23 _ _ _ _ _ h)
        · exact r_sub (env' := [(0, vr v0), (1, vi v1), (3, vi v3)]) [0, 1, 3] rfl (sX4_calls_51 hk23 _ _ _ _ _ h)
theorem sX4_calls_23 {st0 : Mem} {fin : Int32 × Mem} (n : Nat) : ∀ (v0 : Rf) (v1 : Int32) (v2 : Int32) (v3 : Int32) (st : Mem), bX4_calls_23 n v0 v1 v2 v3 st = some fin → G (cX4_calls, "HouseClapsModel", "calls", 18, (some .int), 4) st0 trI fin 23 [(0, vr v0), (1, vi v1), (2, vi v2), (3, vi v3)] [] st := by
  induction n with
  | zero => intro v0 v1 v2 v3 st h; cases h
  | succ n ih => intro v0 v1 v2 v3 st h; exact sX4_calls_23B  ih v0 v1 v2 v3 st h
theorem sX4_calls {a0 : Rf} {a1 : Int32} {st : Mem} {fin : Int32 × Mem} (h : fX4_calls a0 a1 st = some fin) : Con yX4_calls 18 [vr a0, vi a1] st trI fin := by
  refine Con.mk (cc := cX4_calls) (n := 4) (own := "HouseClapsModel") (nm := "calls") (ret := (some .int)) (env := [(0, vr a0), (1, vi a1)]) q2170 rfl rfl rfl (by decide) ⟨Nat.le_of_ble_eq_true rfl, by decide⟩ rfl ?_
  unfold fX4_calls at h
  refine r_aload_n (pc := 0) dX4_calls_0 0 rfl rfl ?_
  refine r_iconst (pc := 1) (v := 0) dX4_calls_1 (by decide) ?_
  refine r_pI (pc := 2) dX4_calls_2 q1698 fd_55 same_rf rfl h (fun st e2 h => ?_)
  refine r_iload_n (pc := 5) dX4_calls_5 1 rfl rfl ?_
  refine r_callI (pc := 6) (rest := []) (lkS dX4_calls_6 q2093 q2094 q92 (fun _ => sX4_isMoment) ad_X4_isMoment) (by decide) (Nat.le_of_ble_eq_true rfl) rfl h (fun x6 st e6 h => ?_)
  refine r_if_ne (pc := 9) (tgt := 14) dX4_calls_9 (by decide) h (fun e9 h => ?_) (fun e9 h => ?_)
  · refine r_aload_n (pc := 14) dX4_calls_14 0 rfl rfl ?_
    refine r_iload_n (pc := 15) dX4_calls_15 1 rfl rfl ?_
    refine r_callV (pc := 16) (rest := []) (lkV dX4_calls_16 q2096 xd_X4_night (vc_of vt_X4_night q2098 (fun _ => sX4_night)) adx_X4_night) (by decide) (Nat.le_of_ble_eq_true rfl) rfl h (fun u16 st e16 h => ?_)
    refine r_iconst (pc := 19) (v := 0) dX4_calls_19 (by decide) ?_
    refine r_istore_n (pc := 20) (env' := [(2, vi (0 : Int32)), (0, vr a0), (1, vi a1)]) dX4_calls_20 rfl (by decide) rfl ?_
    refine r_iconst (pc := 21) (v := 0) dX4_calls_21 (by decide) ?_
    refine r_istore_n (pc := 22) (env' := [(3, vi (0 : Int32)), (2, vi (0 : Int32)), (0, vr a0), (1, vi a1)]) dX4_calls_22 rfl (by decide) rfl ?_
    exact r_sub (env' := [(0, vr a0), (1, vi a1), (2, vi (0 : Int32)), (3, vi (0 : Int32))]) [2, 3, 1, 0] rfl (sX4_calls_23 hcFuel _ _ _ _ _ h)
  · refine r_iconst (pc := 12) (v := (-1)) dX4_calls_12 (by decide) ?_
    exact r_ireturn (pc := 13) dX4_calls_13 rfl rfl h
theorem sX4_carries {a0 : Rf} {a1 : Int32} {st : Mem} {fin : Int32 × Mem} (h : fX4_carries a0 a1 st = some fin) : Con yX4_carries 18 [vr a0, vi a1] st trI fin := by
  refine Con.mk (cc := cX4_carries) (n := 2) (own := "HouseClapsModel") (nm := "carries") (ret := (some .int)) (env := [(0, vr a0), (1, vi a1)]) q2182 rfl rfl rfl (by decide) ⟨Nat.le_of_ble_eq_true rfl, by decide⟩ rfl ?_
  unfold fX4_carries at h
  refine r_aload_n (pc := 0) dX4_carries_0 0 rfl rfl ?_
  refine r_iconst (pc := 1) (v := 0) dX4_carries_1 (by decide) ?_
  refine r_pI (pc := 2) dX4_carries_2 q1698 fd_55 same_rf rfl h (fun st e2 h => ?_)
  refine r_iload_n (pc := 5) dX4_carries_5 1 rfl rfl ?_
  refine r_iconst (pc := 6) (v := 0) dX4_carries_6 (by decide) ?_
  refine r_iconst (pc := 7) (v := 1) dX4_carries_7 (by decide) ?_
  refine r_callI (pc := 8) (rest := []) (lkS dX4_carries_8 q1949 q1950 q92 (fun _ => sX4_isIn) ad_X4_isIn) (by decide) (Nat.le_of_ble_eq_true rfl) rfl h (fun x8 st e8 h => ?_)
  refine r_if_ne (pc := 11) (tgt := 16) dX4_carries_11 (by decide) h (fun e11 h => ?_) (fun e11 h => ?_)
  · refine r_aload_n (pc := 16) dX4_carries_16 0 rfl rfl ?_
    refine r_aload_n (pc := 17) dX4_carries_17 0 rfl rfl ?_
    refine r_gJ (pc := 18) dX4_carries_18 q1714 fd_71 same_rf h (fun x18 e18 h => ?_)
    refine r_aload_n (pc := 21) dX4_carries_21 0 rfl rfl ?_
    refine r_gJ (pc := 22) dX4_carries_22 q1715 fd_72 same_rf h (fun x22 e22 h => ?_)
    refine r_callI (pc := 25) (rest := []) (lkV dX4_carries_25 q2183 xd_X4_height (vc_of vt_X4_height q2185 (fun _ => sX4_height)) adx_X4_height) (by decide) (Nat.le_of_ble_eq_true rfl) rfl h (fun x25 st e25 h => ?_)
    refine r_pop (pc := 28) dX4_carries_28 rfl ?_
    refine r_iload_n (pc := 29) dX4_carries_29 1 rfl rfl ?_
    refine r_iconst (pc := 30) (v := 1) dX4_carries_30 (by decide) ?_
    refine r_icmp_ne (pc := 31) (tgt := 41) dX4_carries_31 (by decide) h (fun e31 h => ?_) (fun e31 h => ?_)
    · refine r_aload_n (pc := 41) dX4_carries_41 0 rfl rfl ?_
      refine r_gI (pc := 42) dX4_carries_42 q1743 fd_100 same_rf h (fun x42 e42 h => ?_)
      refine r_if_eq (pc := 45) (tgt := 52) dX4_carries_45 (by decide) h (fun e45 h => ?_) (fun e45 h => ?_)
      · refine r_iconst (pc := 52) (v := 0) dX4_carries_52 (by decide) ?_
        exact r_ireturn (pc := 53) dX4_carries_53 rfl rfl h
      · refine r_iconst (pc := 48) (v := 1) dX4_carries_48 (by decide) ?_
        refine r_goto (pc := 49) (tgt := 53) dX4_carries_49 (by decide) ?_
        exact r_ireturn (pc := 53) dX4_carries_53 rfl rfl h
    · refine r_aload_n (pc := 34) dX4_carries_34 0 rfl rfl ?_
      refine r_gI (pc := 35) dX4_carries_35 q1742 fd_99 same_rf h (fun x35 e35 h => ?_)
      refine r_goto (pc := 38) (tgt := 53) dX4_carries_38 (by decide) ?_
      exact r_ireturn (pc := 53) dX4_carries_53 rfl rfl h
  · refine r_iconst (pc := 14) (v := (-1)) dX4_carries_14 (by decide) ?_
    exact r_ireturn (pc := 15) dX4_carries_15 rfl rfl h
theorem sX4_cheapest_145 {st0 : Mem} {fin : Int32 × Mem} {kk23 : Rf → Int32 → Int32 → Int32 → Mem → Option (Int32 × Mem)} (hk23 : ∀ (v0 : Rf) (v1 : Int32) (v2 : Int32) (v3 : Int32) (st : Mem), kk23 v0 v1 v2 v3 st = some fin → G (cX4_cheapest, "HouseClapsModel", "cheapest", 18, (some .int), 6) st0 trI fin 23 [(0, vr v0), (1, vi v1), (2, vi v2), (3, vi v3)] [] st) (v0 : Rf) (v1 : Int32) (v2 : Int32) (v3 : Int32) (st : Mem) (h : bX4_cheapest_145 kk23 v0 v1 v2 v3 st = some fin) : G (cX4_cheapest, "HouseClapsModel", "cheapest", 18, (some .int), 6) st0 trI fin 145 [(0, vr v0), (1, vi v1), (2, vi v2), (3, vi v3)] [] st := by
  unfold bX4_cheapest_145 at h
  refine r_iinc (pc := 145) (env' := [(3, vi (v3 + 1)), (0, vr v0), (1, vi v1), (2, vi v2)]) (cst := 1) dX4_cheapest_145 3 rfl (by decide) (by decide) rfl ?_
  refine r_goto (pc := 148) (tgt := 23) dX4_cheapest_148 (by decide) ?_
  exact r_sub (env' := [(0, vr v0), (1, vi v1), (2, vi v2), (3, vi (v3 + 1))]) [1, 2, 3, 0] rfl (hk23 _ _ _ _ _ h)
theorem sX4_cheapest_111 {st0 : Mem} {fin : Int32 × Mem} {kk23 : Rf → Int32 → Int32 → Int32 → Mem → Option (Int32 × Mem)} (hk23 : ∀ (v0 : Rf) (v1 : Int32) (v2 : Int32) (v3 : Int32) (st : Mem), kk23 v0 v1 v2 v3 st = some fin → G (cX4_cheapest, "HouseClapsModel", "cheapest", 18, (some .int), 6) st0 trI fin 23 [(0, vr v0), (1, vi v1), (2, vi v2), (3, vi v3)] [] st) (v0 : Rf) (v1 : Int32) (v2 : Int32) (v3 : Int32) (v4 : Int32) (st : Mem) (h : bX4_cheapest_111 kk23 v0 v1 v2 v3 v4 st = some fin) : G (cX4_cheapest, "HouseClapsModel", "cheapest", 18, (some .int), 6) st0 trI fin 111 [(0, vr v0), (1, vi v1), (2, vi v2), (3, vi v3), (4, vi v4)] [] st := by
  unfold bX4_cheapest_111 at h
  refine r_aload_n (pc := 111) dX4_cheapest_111 0 rfl rfl ?_
  refine r_aload_n (pc := 112) dX4_cheapest_112 0 rfl rfl ?_
  refine r_gJ (pc := 113) dX4_cheapest_113 q1714 fd_71 same_rf h (fun x113 e113 h => ?_)
  refine r_aload_n (pc := 116) dX4_cheapest_116 0 rfl rfl ?_
  refine r_iload_n (pc := 117) dX4_cheapest_117 3 rfl rfl ?_
  refine r_callJ (pc := 118) (rest := [vj x113, vr v0]) (lkV dX4_cheapest_118 q2200 xd_X4_bitsOf (vc_of vt_X4_bitsOf q2202 (fun _ => sX4_bitsOf)) adx_X4_bitsOf) (by decide) (Nat.le_of_ble_eq_true rfl) rfl h (fun x118 st e118 h => ?_)
  refine r_lor (pc := 121) dX4_cheapest_121 ?_
  refine r_aload_n (pc := 122) dX4_cheapest_122 0 rfl rfl ?_
  refine r_gJ (pc := 123) dX4_cheapest_123 q1715 fd_72 same_rf h (fun x123 e123 h => ?_)
  refine r_callI (pc := 126) (rest := []) (lkV dX4_cheapest_126 q2183 xd_X4_height (vc_of vt_X4_height q2185 (fun _ => sX4_height)) adx_X4_height) (by decide) (Nat.le_of_ble_eq_true rfl) rfl h (fun x126 st e126 h => ?_)
  refine r_pop (pc := 129) dX4_cheapest_129 rfl ?_
  refine r_aload_n (pc := 130) dX4_cheapest_130 0 rfl rfl ?_
  refine r_gI (pc := 131) dX4_cheapest_131 q1743 fd_100 same_rf h (fun x131 e131 h => ?_)
  refine r_if_ne (pc := 134) (tgt := 140) dX4_cheapest_134 (by decide) h (fun e134 h => ?_) (fun e134 h => ?_)
  · refine r_iload_n (pc := 140) dX4_cheapest_140 3 rfl rfl ?_
    refine r_istore_n (pc := 141) (env' := [(1, vi v3), (0, vr v0), (2, vi v2), (3, vi v3), (4, vi v4)]) dX4_cheapest_141 rfl (by decide) rfl ?_
    refine r_iload (pc := 142) dX4_cheapest_142 4 rfl ?_
    refine r_istore_n (pc := 144) (env' := [(2, vi v4), (1, vi v3), (0, vr v0), (3, vi v3), (4, vi v4)]) dX4_cheapest_144 rfl (by decide) rfl ?_
    exact r_sub (env' := [(0, vr v0), (1, vi v3), (2, vi v4), (3, vi v3)]) [2, 1, 0, 3] rfl (sX4_cheapest_145 hk23 _ _ _ _ _ h)
  · refine r_goto (pc := 137) (tgt := 145) dX4_cheapest_137 (by decide) ?_
    exact r_sub (env' := [(0, vr v0), (1, vi v1), (2, vi v2), (3, vi v3)]) [0, 1, 2, 3] rfl (sX4_cheapest_145 hk23 _ _ _ _ _ h)
theorem sX4_cheapest_74 {st0 : Mem} {fin : Int32 × Mem} {kk23 : Rf → Int32 → Int32 → Int32 → Mem → Option (Int32 × Mem)} {kk39 : Rf → Int32 → Int32 → Int32 → Int32 → Int32 → Mem → Option (Int32 × Mem)} (hk23 : ∀ (v0 : Rf) (v1 : Int32) (v2 : Int32) (v3 : Int32) (st : Mem), kk23 v0 v1 v2 v3 st = some fin → G (cX4_cheapest, "HouseClapsModel", "cheapest", 18, (some .int), 6) st0 trI fin 23 [(0, vr v0), (1, vi v1), (2, vi v2), (3, vi v3)] [] st) (hk39 : ∀ (v0 : Rf) (v1 : Int32) (v2 : Int32) (v3 : Int32) (v4 : Int32) (v5 : Int32) (st : Mem), kk39 v0 v1 v2 v3 v4 v5 st = some fin → G (cX4_cheapest, "HouseClapsModel", "cheapest", 18, (some .int), 6) st0 trI fin 39 [(0, vr v0), (1, vi v1), (2, vi v2), (3, vi v3), (4, vi v4), (5, vi v5)] [] st) (v0 : Rf) (v1 : Int32) (v2 : Int32) (v3 : Int32) (v5 : Int32) (k0 : Int32) (k1 : Int32) (st : Mem) (h : bX4_cheapest_74 kk23 kk39 v0 v1 v2 v3 v5 k0 k1 st = some fin) : G (cX4_cheapest, "HouseClapsModel", "cheapest", 18, (some .int), 6) st0 trI fin 74 [(0, vr v0), (1, vi v1), (2, vi v2), (3, vi v3), (5, vi v5)] [vi k1, vi k0] st := by
  unfold bX4_cheapest_74 at h
  refine r_iadd (pc := 74) dX4_cheapest_74 ?_
  refine r_istore (pc := 75) (env' := [(4, vi (k0 + k1)), (0, vr v0), (1, vi v1), (2, vi v2), (3, vi v3), (5, vi v5)]) dX4_cheapest_75 (by decide) rfl ?_
  refine r_iinc (pc := 77) (env' := [(5, vi (v5 + 1)), (4, vi (k0 + k1)), (0, vr v0), (1, vi v1), (2, vi v2), (3, vi v3)]) (cst := 1) dX4_cheapest_77 5 rfl (by decide) (by decide) rfl ?_
  refine r_goto (pc := 80) (tgt := 39) dX4_cheapest_80 (by decide) ?_
  exact r_sub (env' := [(0, vr v0), (1, vi v1), (2, vi v2), (3, vi v3), (4, vi (k0 + k1)), (5, vi (v5 + 1))]) [2, 3, 4, 5, 1, 0] rfl (hk39 _ _ _ _ _ _ _ h)
theorem sX4_cheapest_39B {st0 : Mem} {fin : Int32 × Mem} {kk23 : Rf → Int32 → Int32 → Int32 → Mem → Option (Int32 × Mem)} {kk39 : Rf → Int32 → Int32 → Int32 → Int32 → Int32 → Mem → Option (Int32 × Mem)} (hk23 : ∀ (v0 : Rf) (v1 : Int32) (v2 : Int32) (v3 : Int32) (st : Mem), kk23 v0 v1 v2 v3 st = some fin → G (cX4_cheapest, "HouseClapsModel", "cheapest", 18, (some .int), 6) st0 trI fin 23 [(0, vr v0), (1, vi v1), (2, vi v2), (3, vi v3)] [] st) (hk39 : ∀ (v0 : Rf) (v1 : Int32) (v2 : Int32) (v3 : Int32) (v4 : Int32) (v5 : Int32) (st : Mem), kk39 v0 v1 v2 v3 v4 v5 st = some fin → G (cX4_cheapest, "HouseClapsModel", "cheapest", 18, (some .int), 6) st0 trI fin 39 [(0, vr v0), (1, vi v1), (2, vi v2), (3, vi v3), (4, vi v4), (5, vi v5)] [] st) (v0 : Rf) (v1 : Int32) (v2 : Int32) (v3 : Int32) (v4 : Int32) (v5 : Int32) (st : Mem) (h : bX4_cheapest_39B kk23 kk39 v0 v1 v2 v3 v4 v5 st = some fin) : G (cX4_cheapest, "HouseClapsModel", "cheapest", 18, (some .int), 6) st0 trI fin 39 [(0, vr v0), (1, vi v1), (2, vi v2), (3, vi v3), (4, vi v4), (5, vi v5)] [] st := by
  unfold bX4_cheapest_39B at h
  refine r_iload (pc := 39) dX4_cheapest_39 5 rfl ?_
  refine r_aload_n (pc := 41) dX4_cheapest_41 0 rfl rfl ?_
  refine r_gI (pc := 42) dX4_cheapest_42 q1745 fd_102 same_rf h (fun x42 e42 h => ?_)
  refine r_icmp_ge (pc := 45) (tgt := 83) dX4_cheapest_45 (by decide) h (fun e45 h => ?_) (fun e45 h => ?_)
  · refine r_iload (pc := 83) dX4_cheapest_83 4 rfl ?_
    refine r_iload_n (pc := 85) dX4_cheapest_85 2 rfl rfl ?_
    refine r_icmp_gt (pc := 86) (tgt := 145) dX4_cheapest_86 (by decide) h (fun e86 h => ?_) (fun e86 h => ?_)
    · exact r_sub (env' := [(0, vr v0), (1, vi v1), (2, vi v2), (3, vi v3)]) [0, 1, 2, 3] rfl (sX4_cheapest_145 hk23 _ _ _ _ _ h)
    · refine r_iload (pc := 89) dX4_cheapest_89 4 rfl ?_
      refine r_iload_n (pc := 91) dX4_cheapest_91 2 rfl rfl ?_
      refine r_icmp_ne (pc := 92) (tgt := 111) dX4_cheapest_92 (by decide) h (fun e92 h => ?_) (fun e92 h => ?_)
      · exact r_sub (env' := [(0, vr v0), (1, vi v1), (2, vi v2), (3, vi v3), (4, vi v4)]) [0, 1, 2, 3, 4] rfl (sX4_cheapest_111 hk23 _ _ _ _ _ _ h)
      · refine r_iload_n (pc := 95) dX4_cheapest_95 3 rfl rfl ?_
        refine r_i2l (pc := 96) dX4_cheapest_96 ?_
        refine r_callI (pc := 97) (rest := []) (lkS dX4_cheapest_97 q2132 q2133 q92 (fun _ => sX4_bits) ad_X4_bits) (by decide) (Nat.le_of_ble_eq_true rfl) rfl h (fun x97 st e97 h => ?_)
        refine r_iload_n (pc := 100) dX4_cheapest_100 1 rfl rfl ?_
        refine r_i2l (pc := 101) dX4_cheapest_101 ?_
        refine r_callI (pc := 102) (rest := [vi x97]) (lkS dX4_cheapest_102 q2132 q2133 q92 (fun _ => sX4_bits) ad_X4_bits) (by decide) (Nat.le_of_ble_eq_true rfl) rfl h (fun x102 st e102 h => ?_)
        refine r_icmp_lt (pc := 105) (tgt := 111) dX4_cheapest_105 (by decide) h (fun e105 h => ?_) (fun e105 h => ?_)
        · exact r_sub (env' := [(0, vr v0), (1, vi v1), (2, vi v2), (3, vi v3), (4, vi v4)]) [0, 1, 2, 3, 4] rfl (sX4_cheapest_111 hk23 _ _ _ _ _ _ h)
        · refine r_goto (pc := 108) (tgt := 145) dX4_cheapest_108 (by decide) ?_
          exact r_sub (env' := [(0, vr v0), (1, vi v1), (2, vi v2), (3, vi v3)]) [0, 1, 2, 3] rfl (sX4_cheapest_145 hk23 _ _ _ _ _ h)
  · refine r_iload (pc := 48) dX4_cheapest_48 4 rfl ?_
    refine r_iload_n (pc := 50) dX4_cheapest_50 3 rfl rfl ?_
    refine r_iload (pc := 51) dX4_cheapest_51 5 rfl ?_
    refine r_callI (pc := 53) (rest := [vi v4]) (lkS dX4_cheapest_53 q2017 q2018 q92 (fun _ => sX4_has) ad_X4_has) (by decide) (Nat.le_of_ble_eq_true rfl) rfl h (fun x53 st e53 h => ?_)
    refine r_if_eq (pc := 56) (tgt := 73) dX4_cheapest_56 (by decide) h (fun e56 h => ?_) (fun e56 h => ?_)
    · refine r_iconst (pc := 73) (v := 0) dX4_cheapest_73 (by decide) ?_
      exact r_sub (env' := [(0, vr v0), (1, vi v1), (2, vi v2), (3, vi v3), (5, vi v5)]) [0, 1, 2, 3, 5] rfl (sX4_cheapest_74 hk23 hk39 _ _ _ _ _ _ _ _ h)
    · refine r_aload_n (pc := 59) dX4_cheapest_59 0 rfl rfl ?_
      refine r_aload_n (pc := 60) dX4_cheapest_60 0 rfl rfl ?_
      refine r_gA (pc := 61) dX4_cheapest_61 q1744 fd_101 same_rf h (fun x61 e61 h => ?_)
      refine r_iload (pc := 64) dX4_cheapest_64 5 rfl ?_
      refine r_iaload (pc := 66) dX4_cheapest_66 h (fun x66 e66 h => ?_)
      refine r_callI (pc := 67) (rest := [vi v4]) (lkV dX4_cheapest_67 q2048 xd_X4_price (vc_of vt_X4_price q2050 (fun _ => sX4_price)) adx_X4_price) (by decide) (Nat.le_of_ble_eq_true rfl) rfl h (fun x67 st e67 h => ?_)
      refine r_goto (pc := 70) (tgt := 74) dX4_cheapest_70 (by decide) ?_
      exact r_sub (env' := [(0, vr v0), (1, vi v1), (2, vi v2), (3, vi v3), (5, vi v5)]) [0, 1, 2, 3, 5] rfl (sX4_cheapest_74 hk23 hk39 _ _ _ _ _ _ _ _ h)
theorem sX4_cheapest_39 {st0 : Mem} {fin : Int32 × Mem} {kk23 : Rf → Int32 → Int32 → Int32 → Mem → Option (Int32 × Mem)} (hk23 : ∀ (v0 : Rf) (v1 : Int32) (v2 : Int32) (v3 : Int32) (st : Mem), kk23 v0 v1 v2 v3 st = some fin → G (cX4_cheapest, "HouseClapsModel", "cheapest", 18, (some .int), 6) st0 trI fin 23 [(0, vr v0), (1, vi v1), (2, vi v2), (3, vi v3)] [] st) (n : Nat) : ∀ (v0 : Rf) (v1 : Int32) (v2 : Int32) (v3 : Int32) (v4 : Int32) (v5 : Int32) (st : Mem), bX4_cheapest_39 kk23 n v0 v1 v2 v3 v4 v5 st = some fin → G (cX4_cheapest, "HouseClapsModel", "cheapest", 18, (some .int), 6) st0 trI fin 39 [(0, vr v0), (1, vi v1), (2, vi v2), (3, vi v3), (4, vi v4), (5, vi v5)] [] st := by
  induction n with
  | zero => intro v0 v1 v2 v3 v4 v5 st h; cases h
  | succ n ih => intro v0 v1 v2 v3 v4 v5 st h; exact sX4_cheapest_39B hk23  ih v0 v1 v2 v3 v4 v5 st h
theorem sX4_cheapest_23B {st0 : Mem} {fin : Int32 × Mem} {kk23 : Rf → Int32 → Int32 → Int32 → Mem → Option (Int32 × Mem)} (hk23 : ∀ (v0 : Rf) (v1 : Int32) (v2 : Int32) (v3 : Int32) (st : Mem), kk23 v0 v1 v2 v3 st = some fin → G (cX4_cheapest, "HouseClapsModel", "cheapest", 18, (some .int), 6) st0 trI fin 23 [(0, vr v0), (1, vi v1), (2, vi v2), (3, vi v3)] [] st) (v0 : Rf) (v1 : Int32) (v2 : Int32) (v3 : Int32) (st : Mem) (h : bX4_cheapest_23B kk23 v0 v1 v2 v3 st = some fin) : G (cX4_cheapest, "HouseClapsModel", "cheapest", 18, (some .int), 6) st0 trI fin 23 [(0, vr v0), (1, vi v1), (2, vi v2), (3, vi v3)] [] st := by
  unfold bX4_cheapest_23B at h
  refine r_iload_n (pc := 23) dX4_cheapest_23 3 rfl rfl ?_
  refine r_iconst (pc := 24) (v := 1) dX4_cheapest_24 (by decide) ?_
  refine r_aload_n (pc := 25) dX4_cheapest_25 0 rfl rfl ?_
  refine r_gI (pc := 26) dX4_cheapest_26 q1745 fd_102 same_rf h (fun x26 e26 h => ?_)
  refine r_ishl (pc := 29) dX4_cheapest_29 ?_
  refine r_icmp_ge (pc := 30) (tgt := 151) dX4_cheapest_30 (by decide) h (fun e30 h => ?_) (fun e30 h => ?_)
  · refine r_iload_n (pc := 151) dX4_cheapest_151 1 rfl rfl ?_
    refine r_if_ge (pc := 152) (tgt := 157) dX4_cheapest_152 (by decide) h (fun e152 h => ?_) (fun e152 h => ?_)
    · refine r_aload_n (pc := 157) dX4_cheapest_157 0 rfl rfl ?_
      refine r_iload_n (pc := 158) dX4_cheapest_158 1 rfl rfl ?_
      refine r_pI (pc := 159) dX4_cheapest_159 q1746 fd_103 same_rf rfl h (fun st e159 h => ?_)
      refine r_iload_n (pc := 162) dX4_cheapest_162 2 rfl rfl ?_
      exact r_ireturn (pc := 163) dX4_cheapest_163 rfl rfl h
    · refine r_iconst (pc := 155) (v := (-1)) dX4_cheapest_155 (by decide) ?_
      exact r_ireturn (pc := 156) dX4_cheapest_156 rfl rfl h
  · refine r_iconst (pc := 33) (v := 0) dX4_cheapest_33 (by decide) ?_
    refine r_istore (pc := 34) (env' := [(4, vi (0 : Int32)), (0, vr v0), (1, vi v1), (2, vi v2), (3, vi v3)]) dX4_cheapest_34 (by decide) rfl ?_
    refine r_iconst (pc := 36) (v := 0) dX4_cheapest_36 (by decide) ?_
    refine r_istore (pc := 37) (env' := [(5, vi (0 : Int32)), (4, vi (0 : Int32)), (0, vr v0), (1, vi v1), (2, vi v2), (3, vi v3)]) dX4_cheapest_37 (by decide) rfl ?_
    exact r_sub (env' := [(0, vr v0), (1, vi v1), (2, vi v2), (3, vi v3), (4, vi (0 : Int32)), (5, vi (0 : Int32))]) [2, 3, 4, 5, 1, 0] rfl (sX4_cheapest_39 hk23 hcFuel _ _ _ _ _ _ _ h)
theorem sX4_cheapest_23 {st0 : Mem} {fin : Int32 × Mem} (n : Nat) : ∀ (v0 : Rf) (v1 : Int32) (v2 : Int32) (v3 : Int32) (st : Mem), bX4_cheapest_23 n v0 v1 v2 v3 st = some fin → G (cX4_cheapest, "HouseClapsModel", "cheapest", 18, (some .int), 6) st0 trI fin 23 [(0, vr v0), (1, vi v1), (2, vi v2), (3, vi v3)] [] st := by
  induction n with
  | zero => intro v0 v1 v2 v3 st h; cases h
  | succ n ih => intro v0 v1 v2 v3 st h; exact sX4_cheapest_23B  ih v0 v1 v2 v3 st h
theorem sX4_cheapest {a0 : Rf} {st : Mem} {fin : Int32 × Mem} (h : fX4_cheapest a0 st = some fin) : Con yX4_cheapest 18 [vr a0] st trI fin := by
  refine Con.mk (cc := cX4_cheapest) (n := 6) (own := "HouseClapsModel") (nm := "cheapest") (ret := (some .int)) (env := [(0, vr a0)]) q2190 rfl rfl rfl (by decide) ⟨Nat.le_of_ble_eq_true rfl, by decide⟩ rfl ?_
  unfold fX4_cheapest at h
  refine r_aload_n (pc := 0) dX4_cheapest_0 0 rfl rfl ?_
  refine r_iconst (pc := 1) (v := 0) dX4_cheapest_1 (by decide) ?_
  refine r_pI (pc := 2) dX4_cheapest_2 q1698 fd_55 same_rf rfl h (fun st e2 h => ?_)
  refine r_aload_n (pc := 5) dX4_cheapest_5 0 rfl rfl ?_
  refine r_callI (pc := 6) (rest := []) (lkV dX4_cheapest_6 q2191 xd_X4_areEight (vc_of vt_X4_areEight q2193 (fun _ => sX4_areEight)) adx_X4_areEight) (by decide) (Nat.le_of_ble_eq_true rfl) rfl h (fun x6 st e6 h => ?_)
  refine r_if_ne (pc := 9) (tgt := 15) dX4_cheapest_9 (by decide) h (fun e9 h => ?_) (fun e9 h => ?_)
  · refine r_iconst (pc := 15) (v := (-1)) dX4_cheapest_15 (by decide) ?_
    refine r_istore_n (pc := 16) (env' := [(1, vi (-1 : Int32)), (0, vr a0)]) dX4_cheapest_16 rfl (by decide) rfl ?_
    refine r_ldc_w (pc := 17) dX4_cheapest_17 q2199 ?_
    refine r_istore_n (pc := 20) (env' := [(2, vi (1000000000 : Int32)), (1, vi (-1 : Int32)), (0, vr a0)]) dX4_cheapest_20 rfl (by decide) rfl ?_
    refine r_iconst (pc := 21) (v := 0) dX4_cheapest_21 (by decide) ?_
    refine r_istore_n (pc := 22) (env' := [(3, vi (0 : Int32)), (2, vi (1000000000 : Int32)), (1, vi (-1 : Int32)), (0, vr a0)]) dX4_cheapest_22 rfl (by decide) rfl ?_
    exact r_sub (env' := [(0, vr a0), (1, vi (-1 : Int32)), (2, vi (1000000000 : Int32)), (3, vi (0 : Int32))]) [3, 2, 1, 0] rfl (sX4_cheapest_23 hcFuel _ _ _ _ _ h)
  · refine r_bipush (pc := 12) (v := (-2)) dX4_cheapest_12 (by decide) ?_
    exact r_ireturn (pc := 14) dX4_cheapest_14 rfl rfl h
theorem sX4_coalitions_135 {st0 : Mem} {fin : Int32 × Mem} {kk26 : Rf → Int32 → Int32 → Int32 → Mem → Option (Int32 × Mem)} (hk26 : ∀ (v0 : Rf) (v1 : Int32) (v2 : Int32) (v3 : Int32) (st : Mem), kk26 v0 v1 v2 v3 st = some fin → G (cX4_coalitions, "HouseClapsModel", "coalitions", 18, (some .int), 6) st0 trI fin 26 [(0, vr v0), (1, vi v1), (2, vi v2), (3, vi v3)] [] st) (v0 : Rf) (v1 : Int32) (v2 : Int32) (v3 : Int32) (st : Mem) (h : bX4_coalitions_135 kk26 v0 v1 v2 v3 st = some fin) : G (cX4_coalitions, "HouseClapsModel", "coalitions", 18, (some .int), 6) st0 trI fin 135 [(0, vr v0), (1, vi v1), (2, vi v2), (3, vi v3)] [] st := by
  unfold bX4_coalitions_135 at h
  refine r_iinc (pc := 135) (env' := [(3, vi (v3 + 1)), (0, vr v0), (1, vi v1), (2, vi v2)]) (cst := 1) dX4_coalitions_135 3 rfl (by decide) (by decide) rfl ?_
  refine r_goto (pc := 138) (tgt := 26) dX4_coalitions_138 (by decide) ?_
  exact r_sub (env' := [(0, vr v0), (1, vi v1), (2, vi v2), (3, vi (v3 + 1))]) [1, 2, 3, 0] rfl (hk26 _ _ _ _ _ h)
theorem sX4_coalitions_117 {st0 : Mem} {fin : Int32 × Mem} {kk26 : Rf → Int32 → Int32 → Int32 → Mem → Option (Int32 × Mem)} (hk26 : ∀ (v0 : Rf) (v1 : Int32) (v2 : Int32) (v3 : Int32) (st : Mem), kk26 v0 v1 v2 v3 st = some fin → G (cX4_coalitions, "HouseClapsModel", "coalitions", 18, (some .int), 6) st0 trI fin 26 [(0, vr v0), (1, vi v1), (2, vi v2), (3, vi v3)] [] st) (v0 : Rf) (v1 : Int32) (v2 : Int32) (v3 : Int32) (v4 : Int32) (st : Mem) (h : bX4_coalitions_117 kk26 v0 v1 v2 v3 v4 st = some fin) : G (cX4_coalitions, "HouseClapsModel", "coalitions", 18, (some .int), 6) st0 trI fin 117 [(0, vr v0), (1, vi v1), (2, vi v2), (3, vi v3), (4, vi v4)] [] st := by
  unfold bX4_coalitions_117 at h
  refine r_iload (pc := 117) dX4_coalitions_117 4 rfl ?_
  refine r_if_ne (pc := 119) (tgt := 125) dX4_coalitions_119 (by decide) h (fun e119 h => ?_) (fun e119 h => ?_)
  · refine r_iload_n (pc := 125) dX4_coalitions_125 2 rfl rfl ?_
    refine r_iload_n (pc := 126) dX4_coalitions_126 1 rfl rfl ?_
    refine r_icmp_ne (pc := 127) (tgt := 132) dX4_coalitions_127 (by decide) h (fun e127 h => ?_) (fun e127 h => ?_)
    · refine r_iinc (pc := 132) (env' := [(2, vi (v2 + 1)), (0, vr v0), (1, vi v1), (3, vi v3), (4, vi v4)]) (cst := 1) dX4_coalitions_132 2 rfl (by decide) (by decide) rfl ?_
      exact r_sub (env' := [(0, vr v0), (1, vi v1), (2, vi (v2 + 1)), (3, vi v3)]) [1, 2, 0, 3] rfl (sX4_coalitions_135 hk26 _ _ _ _ _ h)
    · refine r_iload_n (pc := 130) dX4_coalitions_130 3 rfl rfl ?_
      exact r_ireturn (pc := 131) dX4_coalitions_131 rfl rfl h
  · refine r_goto (pc := 122) (tgt := 135) dX4_coalitions_122 (by decide) ?_
    exact r_sub (env' := [(0, vr v0), (1, vi v1), (2, vi v2), (3, vi v3)]) [0, 1, 2, 3] rfl (sX4_coalitions_135 hk26 _ _ _ _ _ h)
theorem sX4_coalitions_109 {st0 : Mem} {fin : Int32 × Mem} {kk26 : Rf → Int32 → Int32 → Int32 → Mem → Option (Int32 × Mem)} {kk74 : Rf → Int32 → Int32 → Int32 → Int32 → Int32 → Mem → Option (Int32 × Mem)} (hk26 : ∀ (v0 : Rf) (v1 : Int32) (v2 : Int32) (v3 : Int32) (st : Mem), kk26 v0 v1 v2 v3 st = some fin → G (cX4_coalitions, "HouseClapsModel", "coalitions", 18, (some .int), 6) st0 trI fin 26 [(0, vr v0), (1, vi v1), (2, vi v2), (3, vi v3)] [] st) (hk74 : ∀ (v0 : Rf) (v1 : Int32) (v2 : Int32) (v3 : Int32) (v4 : Int32) (v5 : Int32) (st : Mem), kk74 v0 v1 v2 v3 v4 v5 st = some fin → G (cX4_coalitions, "HouseClapsModel", "coalitions", 18, (some .int), 6) st0 trI fin 74 [(0, vr v0), (1, vi v1), (2, vi v2), (3, vi v3), (4, vi v4), (5, vi v5)] [] st) (v0 : Rf) (v1 : Int32) (v2 : Int32) (v3 : Int32) (v5 : Int32) (k0 : Int32) (st : Mem) (h : bX4_coalitions_109 kk26 kk74 v0 v1 v2 v3 v5 k0 st = some fin) : G (cX4_coalitions, "HouseClapsModel", "coalitions", 18, (some .int), 6) st0 trI fin 109 [(0, vr v0), (1, vi v1), (2, vi v2), (3, vi v3), (5, vi v5)] [vi k0] st := by
  unfold bX4_coalitions_109 at h
  refine r_istore (pc := 109) (env' := [(4, vi k0), (0, vr v0), (1, vi v1), (2, vi v2), (3, vi v3), (5, vi v5)]) dX4_coalitions_109 (by decide) rfl ?_
  refine r_iinc (pc := 111) (env' := [(5, vi (v5 + 1)), (4, vi k0), (0, vr v0), (1, vi v1), (2, vi v2), (3, vi v3)]) (cst := 1) dX4_coalitions_111 5 rfl (by decide) (by decide) rfl ?_
  refine r_goto (pc := 114) (tgt := 74) dX4_coalitions_114 (by decide) ?_
  exact r_sub (env' := [(0, vr v0), (1, vi v1), (2, vi v2), (3, vi v3), (4, vi k0), (5, vi (v5 + 1))]) [2, 3, 4, 5, 1, 0] rfl (hk74 _ _ _ _ _ _ _ h)
theorem sX4_coalitions_104 {st0 : Mem} {fin : Int32 × Mem} {kk26 : Rf → Int32 → Int32 → Int32 → Mem → Option (Int32 × Mem)} {kk74 : Rf → Int32 → Int32 → Int32 → Int32 → Int32 → Mem → Option (Int32 × Mem)} (hk26 : ∀ (v0 : Rf) (v1 : Int32) (v2 : Int32) (v3 : Int32) (st : Mem), kk26 v0 v1 v2 v3 st = some fin → G (cX4_coalitions, "HouseClapsModel", "coalitions", 18, (some .int), 6) st0 trI fin 26 [(0, vr v0), (1, vi v1), (2, vi v2), (3, vi v3)] [] st) (hk74 : ∀ (v0 : Rf) (v1 : Int32) (v2 : Int32) (v3 : Int32) (v4 : Int32) (v5 : Int32) (st : Mem), kk74 v0 v1 v2 v3 v4 v5 st = some fin → G (cX4_coalitions, "HouseClapsModel", "coalitions", 18, (some .int), 6) st0 trI fin 74 [(0, vr v0), (1, vi v1), (2, vi v2), (3, vi v3), (4, vi v4), (5, vi v5)] [] st) (v0 : Rf) (v1 : Int32) (v2 : Int32) (v3 : Int32) (v5 : Int32) (st : Mem) (h : bX4_coalitions_104 kk26 kk74 v0 v1 v2 v3 v5 st = some fin) : G (cX4_coalitions, "HouseClapsModel", "coalitions", 18, (some .int), 6) st0 trI fin 104 [(0, vr v0), (1, vi v1), (2, vi v2), (3, vi v3), (5, vi v5)] [] st := by
  unfold bX4_coalitions_104 at h
  refine r_iconst (pc := 104) (v := 1) dX4_coalitions_104 (by decide) ?_
  refine r_goto (pc := 105) (tgt := 109) dX4_coalitions_105 (by decide) ?_
  exact sX4_coalitions_109 hk26 hk74 _ _ _ _ _ _ _ h
theorem sX4_coalitions_74B {st0 : Mem} {fin : Int32 × Mem} {kk26 : Rf → Int32 → Int32 → Int32 → Mem → Option (Int32 × Mem)} {kk74 : Rf → Int32 → Int32 → Int32 → Int32 → Int32 → Mem → Option (Int32 × Mem)} (hk26 : ∀ (v0 : Rf) (v1 : Int32) (v2 : Int32) (v3 : Int32) (st : Mem), kk26 v0 v1 v2 v3 st = some fin → G (cX4_coalitions, "HouseClapsModel", "coalitions", 18, (some .int), 6) st0 trI fin 26 [(0, vr v0), (1, vi v1), (2, vi v2), (3, vi v3)] [] st) (hk74 : ∀ (v0 : Rf) (v1 : Int32) (v2 : Int32) (v3 : Int32) (v4 : Int32) (v5 : Int32) (st : Mem), kk74 v0 v1 v2 v3 v4 v5 st = some fin → G (cX4_coalitions, "HouseClapsModel", "coalitions", 18, (some .int), 6) st0 trI fin 74 [(0, vr v0), (1, vi v1), (2, vi v2), (3, vi v3), (4, vi v4), (5, vi v5)] [] st) (v0 : Rf) (v1 : Int32) (v2 : Int32) (v3 : Int32) (v4 : Int32) (v5 : Int32) (st : Mem) (h : bX4_coalitions_74B kk26 kk74 v0 v1 v2 v3 v4 v5 st = some fin) : G (cX4_coalitions, "HouseClapsModel", "coalitions", 18, (some .int), 6) st0 trI fin 74 [(0, vr v0), (1, vi v1), (2, vi v2), (3, vi v3), (4, vi v4), (5, vi v5)] [] st := by
  unfold bX4_coalitions_74B at h
  refine r_iload (pc := 74) dX4_coalitions_74 5 rfl ?_
  refine r_iload_n (pc := 76) dX4_coalitions_76 3 rfl rfl ?_
  refine r_icmp_ge (pc := 77) (tgt := 117) dX4_coalitions_77 (by decide) h (fun e77 h => ?_) (fun e77 h => ?_)
  · exact r_sub (env' := [(0, vr v0), (1, vi v1), (2, vi v2), (3, vi v3), (4, vi v4)]) [0, 1, 2, 3, 4] rfl (sX4_coalitions_117 hk26 _ _ _ _ _ _ h)
  · refine r_iload (pc := 80) dX4_coalitions_80 4 rfl ?_
    refine r_if_eq (pc := 82) (tgt := 117) dX4_coalitions_82 (by decide) h (fun e82 h => ?_) (fun e82 h => ?_)
    · exact r_sub (env' := [(0, vr v0), (1, vi v1), (2, vi v2), (3, vi v3), (4, vi v4)]) [0, 1, 2, 3, 4] rfl (sX4_coalitions_117 hk26 _ _ _ _ _ _ h)
    · refine r_iload (pc := 85) dX4_coalitions_85 5 rfl ?_
      refine r_iload_n (pc := 87) dX4_coalitions_87 3 rfl rfl ?_
      refine r_iand (pc := 88) dX4_coalitions_88 ?_
      refine r_iload (pc := 89) dX4_coalitions_89 5 rfl ?_
      refine r_icmp_ne (pc := 91) (tgt := 104) dX4_coalitions_91 (by decide) h (fun e91 h => ?_) (fun e91 h => ?_)
      · exact r_sub (env' := [(0, vr v0), (1, vi v1), (2, vi v2), (3, vi v3), (5, vi v5)]) [0, 1, 2, 3, 5] rfl (sX4_coalitions_104 hk26 hk74 _ _ _ _ _ _ h)
      · refine r_aload_n (pc := 94) dX4_coalitions_94 0 rfl rfl ?_
        refine r_gA (pc := 95) dX4_coalitions_95 q1747 fd_104 same_rf h (fun x95 e95 h => ?_)
        refine r_iload (pc := 98) dX4_coalitions_98 5 rfl ?_
        refine r_baload (pc := 100) dX4_coalitions_100 h (fun x100 e100 h => ?_)
        refine r_if_ne (pc := 101) (tgt := 108) dX4_coalitions_101 (by decide) h (fun e101 h => ?_) (fun e101 h => ?_)
        · refine r_iconst (pc := 108) (v := 0) dX4_coalitions_108 (by decide) ?_
          exact r_sub (env' := [(0, vr v0), (1, vi v1), (2, vi v2), (3, vi v3), (5, vi v5)]) [0, 1, 2, 3, 5] rfl (sX4_coalitions_109 hk26 hk74 _ _ _ _ _ _ _ h)
        · exact r_sub (env' := [(0, vr v0), (1, vi v1), (2, vi v2), (3, vi v3), (5, vi v5)]) [0, 1, 2, 3, 5] rfl (sX4_coalitions_104 hk26 hk74 _ _ _ _ _ _ h)
theorem sX4_coalitions_74 {st0 : Mem} {fin : Int32 × Mem} {kk26 : Rf → Int32 → Int32 → Int32 → Mem → Option (Int32 × Mem)} (hk26 : ∀ (v0 : Rf) (v1 : Int32) (v2 : Int32) (v3 : Int32) (st : Mem), kk26 v0 v1 v2 v3 st = some fin → G (cX4_coalitions, "HouseClapsModel", "coalitions", 18, (some .int), 6) st0 trI fin 26 [(0, vr v0), (1, vi v1), (2, vi v2), (3, vi v3)] [] st) (n : Nat) : ∀ (v0 : Rf) (v1 : Int32) (v2 : Int32) (v3 : Int32) (v4 : Int32) (v5 : Int32) (st : Mem), bX4_coalitions_74 kk26 n v0 v1 v2 v3 v4 v5 st = some fin → G (cX4_coalitions, "HouseClapsModel", "coalitions", 18, (some .int), 6) st0 trI fin 74 [(0, vr v0), (1, vi v1), (2, vi v2), (3, vi v3), (4, vi v4), (5, vi v5)] [] st := by
  induction n with
  | zero => intro v0 v1 v2 v3 v4 v5 st h; cases h
  | succ n ih => intro v0 v1 v2 v3 v4 v5 st h; exact sX4_coalitions_74B hk26  ih v0 v1 v2 v3 v4 v5 st h
theorem sX4_coalitions_26B {st0 : Mem} {fin : Int32 × Mem} {kk26 : Rf → Int32 → Int32 → Int32 → Mem → Option (Int32 × Mem)} (hk26 : ∀ (v0 : Rf) (v1 : Int32) (v2 : Int32) (v3 : Int32) (st : Mem), kk26 v0 v1 v2 v3 st = some fin → G (cX4_coalitions, "HouseClapsModel", "coalitions", 18, (some .int), 6) st0 trI fin 26 [(0, vr v0), (1, vi v1), (2, vi v2), (3, vi v3)] [] st) (v0 : Rf) (v1 : Int32) (v2 : Int32) (v3 : Int32) (st : Mem) (h : bX4_coalitions_26B kk26 v0 v1 v2 v3 st = some fin) : G (cX4_coalitions, "HouseClapsModel", "coalitions", 18, (some .int), 6) st0 trI fin 26 [(0, vr v0), (1, vi v1), (2, vi v2), (3, vi v3)] [] st := by
  unfold bX4_coalitions_26B at h
  refine r_iload_n (pc := 26) dX4_coalitions_26 3 rfl rfl ?_
  refine r_iconst (pc := 27) (v := 1) dX4_coalitions_27 (by decide) ?_
  refine r_aload_n (pc := 28) dX4_coalitions_28 0 rfl rfl ?_
  refine r_gI (pc := 29) dX4_coalitions_29 q1745 fd_102 same_rf h (fun x29 e29 h => ?_)
  refine r_ishl (pc := 32) dX4_coalitions_32 ?_
  refine r_icmp_ge (pc := 33) (tgt := 141) dX4_coalitions_33 (by decide) h (fun e33 h => ?_) (fun e33 h => ?_)
  · refine r_iload_n (pc := 141) dX4_coalitions_141 1 rfl rfl ?_
    refine r_iconst (pc := 142) (v := (-1)) dX4_coalitions_142 (by decide) ?_
    refine r_icmp_ne (pc := 143) (tgt := 150) dX4_coalitions_143 (by decide) h (fun e143 h => ?_) (fun e143 h => ?_)
    · refine r_iconst (pc := 150) (v := (-1)) dX4_coalitions_150 (by decide) ?_
      exact r_ireturn (pc := 151) dX4_coalitions_151 rfl rfl h
    · refine r_iload_n (pc := 146) dX4_coalitions_146 2 rfl rfl ?_
      refine r_goto (pc := 147) (tgt := 151) dX4_coalitions_147 (by decide) ?_
      exact r_ireturn (pc := 151) dX4_coalitions_151 rfl rfl h
  · refine r_aload_n (pc := 36) dX4_coalitions_36 0 rfl rfl ?_
    refine r_aload_n (pc := 37) dX4_coalitions_37 0 rfl rfl ?_
    refine r_gJ (pc := 38) dX4_coalitions_38 q1714 fd_71 same_rf h (fun x38 e38 h => ?_)
    refine r_aload_n (pc := 41) dX4_coalitions_41 0 rfl rfl ?_
    refine r_iload_n (pc := 42) dX4_coalitions_42 3 rfl rfl ?_
    refine r_callJ (pc := 43) (rest := [vj x38, vr v0]) (lkV dX4_coalitions_43 q2200 xd_X4_bitsOf (vc_of vt_X4_bitsOf q2202 (fun _ => sX4_bitsOf)) adx_X4_bitsOf) (by decide) (Nat.le_of_ble_eq_true rfl) rfl h (fun x43 st e43 h => ?_)
    refine r_lor (pc := 46) dX4_coalitions_46 ?_
    refine r_aload_n (pc := 47) dX4_coalitions_47 0 rfl rfl ?_
    refine r_gJ (pc := 48) dX4_coalitions_48 q1715 fd_72 same_rf h (fun x48 e48 h => ?_)
    refine r_callI (pc := 51) (rest := []) (lkV dX4_coalitions_51 q2183 xd_X4_height (vc_of vt_X4_height q2185 (fun _ => sX4_height)) adx_X4_height) (by decide) (Nat.le_of_ble_eq_true rfl) rfl h (fun x51 st e51 h => ?_)
    refine r_pop (pc := 54) dX4_coalitions_54 rfl ?_
    refine r_aload_n (pc := 55) dX4_coalitions_55 0 rfl rfl ?_
    refine r_gA (pc := 56) dX4_coalitions_56 q1747 fd_104 same_rf h (fun x56 e56 h => ?_)
    refine r_iload_n (pc := 59) dX4_coalitions_59 3 rfl rfl ?_
    refine r_aload_n (pc := 60) dX4_coalitions_60 0 rfl rfl ?_
    refine r_gI (pc := 61) dX4_coalitions_61 q1743 fd_100 same_rf h (fun x61 e61 h => ?_)
    refine r_bastore (pc := 64) dX4_coalitions_64 h (fun st e64 h => ?_)
    refine r_aload_n (pc := 65) dX4_coalitions_65 0 rfl rfl ?_
    refine r_gI (pc := 66) dX4_coalitions_66 q1743 fd_100 same_rf h (fun x66 e66 h => ?_)
    refine r_istore (pc := 69) (env' := [(4, vi x66), (0, vr v0), (1, vi v1), (2, vi v2), (3, vi v3)]) dX4_coalitions_69 (by decide) rfl ?_
    refine r_iconst (pc := 71) (v := 0) dX4_coalitions_71 (by decide) ?_
    refine r_istore (pc := 72) (env' := [(5, vi (0 : Int32)), (4, vi x66), (0, vr v0), (1, vi v1), (2, vi v2), (3, vi v3)]) dX4_coalitions_72 (by decide) rfl ?_
    exact r_sub (env' := [(0, vr v0), (1, vi v1), (2, vi v2), (3, vi v3), (4, vi x66), (5, vi (0 : Int32))]) [2, 3, 4, 5, 1, 0] rfl (sX4_coalitions_74 hk26 hcFuel _ _ _ _ _ _ _ h)
theorem sX4_coalitions_26 {st0 : Mem} {fin : Int32 × Mem} (n : Nat) : ∀ (v0 : Rf) (v1 : Int32) (v2 : Int32) (v3 : Int32) (st : Mem), bX4_coalitions_26 n v0 v1 v2 v3 st = some fin → G (cX4_coalitions, "HouseClapsModel", "coalitions", 18, (some .int), 6) st0 trI fin 26 [(0, vr v0), (1, vi v1), (2, vi v2), (3, vi v3)] [] st := by
  induction n with
  | zero => intro v0 v1 v2 v3 st h; cases h
  | succ n ih => intro v0 v1 v2 v3 st h; exact sX4_coalitions_26B  ih v0 v1 v2 v3 st h
theorem sX4_coalitions {a0 : Rf} {a1 : Int32} {st : Mem} {fin : Int32 × Mem} (h : fX4_coalitions a0 a1 st = some fin) : Con yX4_coalitions 18 [vr a0, vi a1] st trI fin := by
  refine Con.mk (cc := cX4_coalitions) (n := 6) (own := "HouseClapsModel") (nm := "coalitions") (ret := (some .int)) (env := [(0, vr a0), (1, vi a1)]) q2215 rfl rfl rfl (by decide) ⟨Nat.le_of_ble_eq_true rfl, by decide⟩ rfl ?_
  unfold fX4_coalitions at h
  refine r_aload_n (pc := 0) dX4_coalitions_0 0 rfl rfl ?_
  refine r_iconst (pc := 1) (v := 0) dX4_coalitions_1 (by decide) ?_
  refine r_pI (pc := 2) dX4_coalitions_2 q1698 fd_55 same_rf rfl h (fun st e2 h => ?_)
  refine r_aload_n (pc := 5) dX4_coalitions_5 0 rfl rfl ?_
  refine r_callI (pc := 6) (rest := []) (lkV dX4_coalitions_6 q2191 xd_X4_areEight (vc_of vt_X4_areEight q2193 (fun _ => sX4_areEight)) adx_X4_areEight) (by decide) (Nat.le_of_ble_eq_true rfl) rfl h (fun x6 st e6 h => ?_)
  refine r_if_ne (pc := 9) (tgt := 15) dX4_coalitions_9 (by decide) h (fun e9 h => ?_) (fun e9 h => ?_)
  · refine r_iload_n (pc := 15) dX4_coalitions_15 1 rfl rfl ?_
    refine r_iconst (pc := 16) (v := (-1)) dX4_coalitions_16 (by decide) ?_
    refine r_icmp_ge (pc := 17) (tgt := 22) dX4_coalitions_17 (by decide) h (fun e17 h => ?_) (fun e17 h => ?_)
    · refine r_iconst (pc := 22) (v := 0) dX4_coalitions_22 (by decide) ?_
      refine r_istore_n (pc := 23) (env' := [(2, vi (0 : Int32)), (0, vr a0), (1, vi a1)]) dX4_coalitions_23 rfl (by decide) rfl ?_
      refine r_iconst (pc := 24) (v := 0) dX4_coalitions_24 (by decide) ?_
      refine r_istore_n (pc := 25) (env' := [(3, vi (0 : Int32)), (2, vi (0 : Int32)), (0, vr a0), (1, vi a1)]) dX4_coalitions_25 rfl (by decide) rfl ?_
      exact r_sub (env' := [(0, vr a0), (1, vi a1), (2, vi (0 : Int32)), (3, vi (0 : Int32))]) [2, 3, 1, 0] rfl (sX4_coalitions_26 hcFuel _ _ _ _ _ h)
    · refine r_iconst (pc := 20) (v := (-1)) dX4_coalitions_20 (by decide) ?_
      exact r_ireturn (pc := 21) dX4_coalitions_21 rfl rfl h
  · refine r_bipush (pc := 12) (v := (-2)) dX4_coalitions_12 (by decide) ?_
    exact r_ireturn (pc := 14) dX4_coalitions_14 rfl rfl h
theorem sX4_exchanged_121 {st0 : Mem} {fin : Int32 × Mem} {kk56 : Rf → Int32 → Int32 → Mem → Option (Int32 × Mem)} {kk65 : Rf → Int32 → Int32 → Int32 → Mem → Option (Int32 × Mem)} (hk56 : ∀ (v0 : Rf) (v1 : Int32) (v2 : Int32) (st : Mem), kk56 v0 v1 v2 st = some fin → G (cX4_exchanged, "HouseClapsModel", "exchanged", 18, (some .int), 4) st0 trI fin 56 [(0, vr v0), (1, vi v1), (2, vi v2)] [] st) (hk65 : ∀ (v0 : Rf) (v1 : Int32) (v2 : Int32) (v3 : Int32) (st : Mem), kk65 v0 v1 v2 v3 st = some fin → G (cX4_exchanged, "HouseClapsModel", "exchanged", 18, (some .int), 4) st0 trI fin 65 [(0, vr v0), (1, vi v1), (2, vi v2), (3, vi v3)] [] st) (v0 : Rf) (v1 : Int32) (v2 : Int32) (v3 : Int32) (st : Mem) (h : bX4_exchanged_121 kk56 kk65 v0 v1 v2 v3 st = some fin) : G (cX4_exchanged, "HouseClapsModel", "exchanged", 18, (some .int), 4) st0 trI fin 121 [(0, vr v0), (1, vi v1), (2, vi v2), (3, vi v3)] [] st := by
  unfold bX4_exchanged_121 at h
  refine r_iinc (pc := 121) (env' := [(3, vi (v3 + 1)), (0, vr v0), (1, vi v1), (2, vi v2)]) (cst := 1) dX4_exchanged_121 3 rfl (by decide) (by decide) rfl ?_
  refine r_goto (pc := 124) (tgt := 65) dX4_exchanged_124 (by decide) ?_
  exact r_sub (env' := [(0, vr v0), (1, vi v1), (2, vi v2), (3, vi (v3 + 1))]) [1, 2, 3, 0] rfl (hk65 _ _ _ _ _ h)
theorem sX4_exchanged_65B {st0 : Mem} {fin : Int32 × Mem} {kk56 : Rf → Int32 → Int32 → Mem → Option (Int32 × Mem)} {kk65 : Rf → Int32 → Int32 → Int32 → Mem → Option (Int32 × Mem)} (hk56 : ∀ (v0 : Rf) (v1 : Int32) (v2 : Int32) (st : Mem), kk56 v0 v1 v2 st = some fin → G (cX4_exchanged, "HouseClapsModel", "exchanged", 18, (some .int), 4) st0 trI fin 56 [(0, vr v0), (1, vi v1), (2, vi v2)] [] st) (hk65 : ∀ (v0 : Rf) (v1 : Int32) (v2 : Int32) (v3 : Int32) (st : Mem), kk65 v0 v1 v2 v3 st = some fin → G (cX4_exchanged, "HouseClapsModel", "exchanged", 18, (some .int), 4) st0 trI fin 65 [(0, vr v0), (1, vi v1), (2, vi v2), (3, vi v3)] [] st) (v0 : Rf) (v1 : Int32) (v2 : Int32) (v3 : Int32) (st : Mem) (h : bX4_exchanged_65B kk56 kk65 v0 v1 v2 v3 st = some fin) : G (cX4_exchanged, "HouseClapsModel", "exchanged", 18, (some .int), 4) st0 trI fin 65 [(0, vr v0), (1, vi v1), (2, vi v2), (3, vi v3)] [] st := by
  unfold bX4_exchanged_65B at h
  refine r_iload_n (pc := 65) dX4_exchanged_65 3 rfl rfl ?_
  refine r_iload_n (pc := 66) dX4_exchanged_66 1 rfl rfl ?_
  refine r_icmp_ge (pc := 67) (tgt := 127) dX4_exchanged_67 (by decide) h (fun e67 h => ?_) (fun e67 h => ?_)
  · refine r_iinc (pc := 127) (env' := [(2, vi (v2 + 1)), (0, vr v0), (1, vi v1), (3, vi v3)]) (cst := 1) dX4_exchanged_127 2 rfl (by decide) (by decide) rfl ?_
    refine r_goto (pc := 130) (tgt := 56) dX4_exchanged_130 (by decide) ?_
    exact r_sub (env' := [(0, vr v0), (1, vi v1), (2, vi (v2 + 1))]) [1, 2, 0] rfl (hk56 _ _ _ _ h)
  · refine r_aload_n (pc := 70) dX4_exchanged_70 0 rfl rfl ?_
    refine r_iload_n (pc := 71) dX4_exchanged_71 2 rfl rfl ?_
    refine r_iload_n (pc := 72) dX4_exchanged_72 3 rfl rfl ?_
    refine r_callI (pc := 73) (rest := []) (lkV dX4_exchanged_73 q2255 xd_X4_areUnlike (vc_of vt_X4_areUnlike q2257 (fun _ => sX4_areUnlike)) adx_X4_areUnlike) (by decide) (Nat.le_of_ble_eq_true rfl) rfl h (fun x73 st e73 h => ?_)
    refine r_if_ne (pc := 76) (tgt := 82) dX4_exchanged_76 (by decide) h (fun e76 h => ?_) (fun e76 h => ?_)
    · refine r_aload_n (pc := 82) dX4_exchanged_82 0 rfl rfl ?_
      refine r_iload_n (pc := 83) dX4_exchanged_83 2 rfl rfl ?_
      refine r_iload_n (pc := 84) dX4_exchanged_84 3 rfl rfl ?_
      refine r_callV (pc := 85) (rest := []) (lkV dX4_exchanged_85 q2259 xd_X4_change (vc_of vt_X4_change q2261 (fun _ => sX4_change)) adx_X4_change) (by decide) (Nat.le_of_ble_eq_true rfl) rfl h (fun u85 st e85 h => ?_)
      refine r_aload_n (pc := 88) dX4_exchanged_88 0 rfl rfl ?_
      refine r_aload_n (pc := 89) dX4_exchanged_89 0 rfl rfl ?_
      refine r_gJ (pc := 90) dX4_exchanged_90 q1714 fd_71 same_rf h (fun x90 e90 h => ?_)
      refine r_aload_n (pc := 93) dX4_exchanged_93 0 rfl rfl ?_
      refine r_gJ (pc := 94) dX4_exchanged_94 q1715 fd_72 same_rf h (fun x94 e94 h => ?_)
      refine r_callI (pc := 97) (rest := []) (lkV dX4_exchanged_97 q2183 xd_X4_height (vc_of vt_X4_height q2185 (fun _ => sX4_height)) adx_X4_height) (by decide) (Nat.le_of_ble_eq_true rfl) rfl h (fun x97 st e97 h => ?_)
      refine r_pop (pc := 100) dX4_exchanged_100 rfl ?_
      refine r_aload_n (pc := 101) dX4_exchanged_101 0 rfl rfl ?_
      refine r_iload_n (pc := 102) dX4_exchanged_102 2 rfl rfl ?_
      refine r_iload_n (pc := 103) dX4_exchanged_103 3 rfl rfl ?_
      refine r_callV (pc := 104) (rest := []) (lkV dX4_exchanged_104 q2259 xd_X4_change (vc_of vt_X4_change q2261 (fun _ => sX4_change)) adx_X4_change) (by decide) (Nat.le_of_ble_eq_true rfl) rfl h (fun u104 st e104 h => ?_)
      refine r_aload_n (pc := 107) dX4_exchanged_107 0 rfl rfl ?_
      refine r_gI (pc := 108) dX4_exchanged_108 q1743 fd_100 same_rf h (fun x108 e108 h => ?_)
      refine r_if_eq (pc := 111) (tgt := 121) dX4_exchanged_111 (by decide) h (fun e111 h => ?_) (fun e111 h => ?_)
      · exact sX4_exchanged_121 hk56 hk65 _ _ _ _ _ h
      · refine r_bipush (pc := 114) (v := 100) dX4_exchanged_114 (by decide) ?_
        refine r_iload_n (pc := 116) dX4_exchanged_116 2 rfl rfl ?_
        refine r_imul (pc := 117) dX4_exchanged_117 ?_
        refine r_iload_n (pc := 118) dX4_exchanged_118 3 rfl rfl ?_
        refine r_iadd (pc := 119) dX4_exchanged_119 ?_
        exact r_ireturn (pc := 120) dX4_exchanged_120 rfl rfl h
    · refine r_goto (pc := 79) (tgt := 121) dX4_exchanged_79 (by decide) ?_
      exact sX4_exchanged_121 hk56 hk65 _ _ _ _ _ h
theorem sX4_exchanged_65 {st0 : Mem} {fin : Int32 × Mem} {kk56 : Rf → Int32 → Int32 → Mem → Option (Int32 × Mem)} (hk56 : ∀ (v0 : Rf) (v1 : Int32) (v2 : Int32) (st : Mem), kk56 v0 v1 v2 st = some fin → G (cX4_exchanged, "HouseClapsModel", "exchanged", 18, (some .int), 4) st0 trI fin 56 [(0, vr v0), (1, vi v1), (2, vi v2)] [] st) (n : Nat) : ∀ (v0 : Rf) (v1 : Int32) (v2 : Int32) (v3 : Int32) (st : Mem), bX4_exchanged_65 kk56 n v0 v1 v2 v3 st = some fin → G (cX4_exchanged, "HouseClapsModel", "exchanged", 18, (some .int), 4) st0 trI fin 65 [(0, vr v0), (1, vi v1), (2, vi v2), (3, vi v3)] [] st := by
  induction n with
  | zero => intro v0 v1 v2 v3 st h; cases h
  | succ n ih => intro v0 v1 v2 v3 st h; exact sX4_exchanged_65B hk56  ih v0 v1 v2 v3 st h
theorem sX4_exchanged_56B {st0 : Mem} {fin : Int32 × Mem} {kk56 : Rf → Int32 → Int32 → Mem → Option (Int32 × Mem)} (hk56 : ∀ (v0 : Rf) (v1 : Int32) (v2 : Int32) (st : Mem), kk56 v0 v1 v2 st = some fin → G (cX4_exchanged, "HouseClapsModel", "exchanged", 18, (some .int), 4) st0 trI fin 56 [(0, vr v0), (1, vi v1), (2, vi v2)] [] st) (v0 : Rf) (v1 : Int32) (v2 : Int32) (st : Mem) (h : bX4_exchanged_56B kk56 v0 v1 v2 st = some fin) : G (cX4_exchanged, "HouseClapsModel", "exchanged", 18, (some .int), 4) st0 trI fin 56 [(0, vr v0), (1, vi v1), (2, vi v2)] [] st := by
  unfold bX4_exchanged_56B at h
  refine r_iload_n (pc := 56) dX4_exchanged_56 2 rfl rfl ?_
  refine r_iload_n (pc := 57) dX4_exchanged_57 1 rfl rfl ?_
  refine r_icmp_ge (pc := 58) (tgt := 133) dX4_exchanged_58 (by decide) h (fun e58 h => ?_) (fun e58 h => ?_)
  · refine r_iconst (pc := 133) (v := (-1)) dX4_exchanged_133 (by decide) ?_
    exact r_ireturn (pc := 134) dX4_exchanged_134 rfl rfl h
  · refine r_iload_n (pc := 61) dX4_exchanged_61 2 rfl rfl ?_
    refine r_iconst (pc := 62) (v := 1) dX4_exchanged_62 (by decide) ?_
    refine r_iadd (pc := 63) dX4_exchanged_63 ?_
    refine r_istore_n (pc := 64) (env' := [(3, vi (v2 + (1 : Int32))), (0, vr v0), (1, vi v1), (2, vi v2)]) dX4_exchanged_64 rfl (by decide) rfl ?_
    exact r_sub (env' := [(0, vr v0), (1, vi v1), (2, vi v2), (3, vi (v2 + (1 : Int32)))]) [1, 2, 3, 0] rfl (sX4_exchanged_65 hk56 hcFuel _ _ _ _ _ h)
theorem sX4_exchanged_56 {st0 : Mem} {fin : Int32 × Mem} (n : Nat) : ∀ (v0 : Rf) (v1 : Int32) (v2 : Int32) (st : Mem), bX4_exchanged_56 n v0 v1 v2 st = some fin → G (cX4_exchanged, "HouseClapsModel", "exchanged", 18, (some .int), 4) st0 trI fin 56 [(0, vr v0), (1, vi v1), (2, vi v2)] [] st := by
  induction n with
  | zero => intro v0 v1 v2 st h; cases h
  | succ n ih => intro v0 v1 v2 st h; exact sX4_exchanged_56B  ih v0 v1 v2 st h
theorem sX4_exchanged {a0 : Rf} {st : Mem} {fin : Int32 × Mem} (h : fX4_exchanged a0 st = some fin) : Con yX4_exchanged 18 [vr a0] st trI fin := by
  refine Con.mk (cc := cX4_exchanged) (n := 4) (own := "HouseClapsModel") (nm := "exchanged") (ret := (some .int)) (env := [(0, vr a0)]) q2254 rfl rfl rfl (by decide) ⟨Nat.le_of_ble_eq_true rfl, by decide⟩ rfl ?_
  unfold fX4_exchanged at h
  refine r_aload_n (pc := 0) dX4_exchanged_0 0 rfl rfl ?_
  refine r_iconst (pc := 1) (v := 0) dX4_exchanged_1 (by decide) ?_
  refine r_pI (pc := 2) dX4_exchanged_2 q1698 fd_55 same_rf rfl h (fun st e2 h => ?_)
  refine r_aload_n (pc := 5) dX4_exchanged_5 0 rfl rfl ?_
  refine r_gA (pc := 6) dX4_exchanged_6 q1704 fd_61 same_rf h (fun x6 e6 h => ?_)
  refine r_iconst (pc := 9) (v := 2) dX4_exchanged_9 (by decide) ?_
  refine r_iaload (pc := 10) dX4_exchanged_10 h (fun x10 e10 h => ?_)
  refine r_bipush (pc := 11) (v := 24) dX4_exchanged_11 (by decide) ?_
  refine r_icmp_le (pc := 13) (tgt := 18) dX4_exchanged_13 (by decide) h (fun e13 h => ?_) (fun e13 h => ?_)
  · refine r_aload_n (pc := 18) dX4_exchanged_18 0 rfl rfl ?_
    refine r_aload_n (pc := 19) dX4_exchanged_19 0 rfl rfl ?_
    refine r_gJ (pc := 20) dX4_exchanged_20 q1714 fd_71 same_rf h (fun x20 e20 h => ?_)
    refine r_aload_n (pc := 23) dX4_exchanged_23 0 rfl rfl ?_
    refine r_gJ (pc := 24) dX4_exchanged_24 q1715 fd_72 same_rf h (fun x24 e24 h => ?_)
    refine r_callI (pc := 27) (rest := []) (lkV dX4_exchanged_27 q2183 xd_X4_height (vc_of vt_X4_height q2185 (fun _ => sX4_height)) adx_X4_height) (by decide) (Nat.le_of_ble_eq_true rfl) rfl h (fun x27 st e27 h => ?_)
    refine r_pop (pc := 30) dX4_exchanged_30 rfl ?_
    refine r_aload_n (pc := 31) dX4_exchanged_31 0 rfl rfl ?_
    refine r_gI (pc := 32) dX4_exchanged_32 q1743 fd_100 same_rf h (fun x32 e32 h => ?_)
    refine r_if_eq (pc := 35) (tgt := 40) dX4_exchanged_35 (by decide) h (fun e35 h => ?_) (fun e35 h => ?_)
    · refine r_aload_n (pc := 40) dX4_exchanged_40 0 rfl rfl ?_
      refine r_gA (pc := 41) dX4_exchanged_41 q1704 fd_61 same_rf h (fun x41 e41 h => ?_)
      refine r_iconst (pc := 44) (v := 0) dX4_exchanged_44 (by decide) ?_
      refine r_iaload (pc := 45) dX4_exchanged_45 h (fun x45 e45 h => ?_)
      refine r_aload_n (pc := 46) dX4_exchanged_46 0 rfl rfl ?_
      refine r_gA (pc := 47) dX4_exchanged_47 q1704 fd_61 same_rf h (fun x47 e47 h => ?_)
      refine r_iconst (pc := 50) (v := 1) dX4_exchanged_50 (by decide) ?_
      refine r_iaload (pc := 51) dX4_exchanged_51 h (fun x51 e51 h => ?_)
      refine r_imul (pc := 52) dX4_exchanged_52 ?_
      refine r_istore_n (pc := 53) (env' := [(1, vi (x45 * x51)), (0, vr a0)]) dX4_exchanged_53 rfl (by decide) rfl ?_
      refine r_iconst (pc := 54) (v := 0) dX4_exchanged_54 (by decide) ?_
      refine r_istore_n (pc := 55) (env' := [(2, vi (0 : Int32)), (1, vi (x45 * x51)), (0, vr a0)]) dX4_exchanged_55 rfl (by decide) rfl ?_
      exact r_sub (env' := [(0, vr a0), (1, vi (x45 * x51)), (2, vi (0 : Int32))]) [2, 1, 0] rfl (sX4_exchanged_56 hcFuel _ _ _ _ h)
    · refine r_iconst (pc := 38) (v := (-1)) dX4_exchanged_38 (by decide) ?_
      exact r_ireturn (pc := 39) dX4_exchanged_39 rfl rfl h
  · refine r_iconst (pc := 16) (v := (-1)) dX4_exchanged_16 (by decide) ?_
    exact r_ireturn (pc := 17) dX4_exchanged_17 rfl rfl h
theorem sX4_hush_77 {st0 : Mem} {fin : Int32 × Mem} {kk19 : Rf → Int32 → Int32 → Mem → Option (Int32 × Mem)} (hk19 : ∀ (v0 : Rf) (v1 : Int32) (v2 : Int32) (st : Mem), kk19 v0 v1 v2 st = some fin → G (cX4_hush, "HouseClapsModel", "hush", 18, (some .int), 3) st0 trI fin 19 [(0, vr v0), (1, vi v1), (2, vi v2)] [] st) (v0 : Rf) (v1 : Int32) (v2 : Int32) (st : Mem) (h : bX4_hush_77 kk19 v0 v1 v2 st = some fin) : G (cX4_hush, "HouseClapsModel", "hush", 18, (some .int), 3) st0 trI fin 77 [(0, vr v0), (1, vi v1), (2, vi v2)] [] st := by
  unfold bX4_hush_77 at h
  refine r_iinc (pc := 77) (env' := [(2, vi (v2 + 1)), (0, vr v0), (1, vi v1)]) (cst := 1) dX4_hush_77 2 rfl (by decide) (by decide) rfl ?_
  refine r_goto (pc := 80) (tgt := 19) dX4_hush_80 (by decide) ?_
  exact r_sub (env' := [(0, vr v0), (1, vi v1), (2, vi (v2 + 1))]) [1, 2, 0] rfl (hk19 _ _ _ _ h)
theorem sX4_hush_49 {st0 : Mem} {fin : Int32 × Mem} {kk19 : Rf → Int32 → Int32 → Mem → Option (Int32 × Mem)} (hk19 : ∀ (v0 : Rf) (v1 : Int32) (v2 : Int32) (st : Mem), kk19 v0 v1 v2 st = some fin → G (cX4_hush, "HouseClapsModel", "hush", 18, (some .int), 3) st0 trI fin 19 [(0, vr v0), (1, vi v1), (2, vi v2)] [] st) (v0 : Rf) (v1 : Int32) (v2 : Int32) (st : Mem) (h : bX4_hush_49 kk19 v0 v1 v2 st = some fin) : G (cX4_hush, "HouseClapsModel", "hush", 18, (some .int), 3) st0 trI fin 49 [(0, vr v0), (1, vi v1), (2, vi v2)] [] st := by
  unfold bX4_hush_49 at h
  refine r_aload_n (pc := 49) dX4_hush_49 0 rfl rfl ?_
  refine r_aload_n (pc := 50) dX4_hush_50 0 rfl rfl ?_
  refine r_gJ (pc := 51) dX4_hush_51 q1714 fd_71 same_rf h (fun x51 e51 h => ?_)
  refine r_aload_n (pc := 54) dX4_hush_54 0 rfl rfl ?_
  refine r_gJ (pc := 55) dX4_hush_55 q1715 fd_72 same_rf h (fun x55 e55 h => ?_)
  refine r_aload_n (pc := 58) dX4_hush_58 0 rfl rfl ?_
  refine r_iload_n (pc := 59) dX4_hush_59 2 rfl rfl ?_
  refine r_callJ (pc := 60) (rest := [vj x55, vj x51, vr v0]) (lkV dX4_hush_60 q2200 xd_X4_bitsOf (vc_of vt_X4_bitsOf q2202 (fun _ => sX4_bitsOf)) adx_X4_bitsOf) (by decide) (Nat.le_of_ble_eq_true rfl) rfl h (fun x60 st e60 h => ?_)
  refine r_lor (pc := 63) dX4_hush_63 ?_
  refine r_callI (pc := 64) (rest := []) (lkV dX4_hush_64 q2183 xd_X4_height (vc_of vt_X4_height q2185 (fun _ => sX4_height)) adx_X4_height) (by decide) (Nat.le_of_ble_eq_true rfl) rfl h (fun x64 st e64 h => ?_)
  refine r_pop (pc := 67) dX4_hush_67 rfl ?_
  refine r_aload_n (pc := 68) dX4_hush_68 0 rfl rfl ?_
  refine r_gI (pc := 69) dX4_hush_69 q1743 fd_100 same_rf h (fun x69 e69 h => ?_)
  refine r_if_ne (pc := 72) (tgt := 77) dX4_hush_72 (by decide) h (fun e72 h => ?_) (fun e72 h => ?_)
  · exact sX4_hush_77 hk19 _ _ _ _ h
  · refine r_iload_n (pc := 75) dX4_hush_75 2 rfl rfl ?_
    refine r_istore_n (pc := 76) (env' := [(1, vi v2), (0, vr v0), (2, vi v2)]) dX4_hush_76 rfl (by decide) rfl ?_
    exact r_sub (env' := [(0, vr v0), (1, vi v2), (2, vi v2)]) [1, 0, 2] rfl (sX4_hush_77 hk19 _ _ _ _ h)
theorem sX4_hush_19B {st0 : Mem} {fin : Int32 × Mem} {kk19 : Rf → Int32 → Int32 → Mem → Option (Int32 × Mem)} (hk19 : ∀ (v0 : Rf) (v1 : Int32) (v2 : Int32) (st : Mem), kk19 v0 v1 v2 st = some fin → G (cX4_hush, "HouseClapsModel", "hush", 18, (some .int), 3) st0 trI fin 19 [(0, vr v0), (1, vi v1), (2, vi v2)] [] st) (v0 : Rf) (v1 : Int32) (v2 : Int32) (st : Mem) (h : bX4_hush_19B kk19 v0 v1 v2 st = some fin) : G (cX4_hush, "HouseClapsModel", "hush", 18, (some .int), 3) st0 trI fin 19 [(0, vr v0), (1, vi v1), (2, vi v2)] [] st := by
  unfold bX4_hush_19B at h
  refine r_iload_n (pc := 19) dX4_hush_19 2 rfl rfl ?_
  refine r_iconst (pc := 20) (v := 1) dX4_hush_20 (by decide) ?_
  refine r_aload_n (pc := 21) dX4_hush_21 0 rfl rfl ?_
  refine r_gI (pc := 22) dX4_hush_22 q1745 fd_102 same_rf h (fun x22 e22 h => ?_)
  refine r_ishl (pc := 25) dX4_hush_25 ?_
  refine r_icmp_ge (pc := 26) (tgt := 83) dX4_hush_26 (by decide) h (fun e26 h => ?_) (fun e26 h => ?_)
  · refine r_iload_n (pc := 83) dX4_hush_83 1 rfl rfl ?_
    exact r_ireturn (pc := 84) dX4_hush_84 rfl rfl h
  · refine r_iload_n (pc := 29) dX4_hush_29 1 rfl rfl ?_
    refine r_if_lt (pc := 30) (tgt := 49) dX4_hush_30 (by decide) h (fun e30 h => ?_) (fun e30 h => ?_)
    · exact sX4_hush_49 hk19 _ _ _ _ h
    · refine r_iload_n (pc := 33) dX4_hush_33 2 rfl rfl ?_
      refine r_i2l (pc := 34) dX4_hush_34 ?_
      refine r_callI (pc := 35) (rest := []) (lkS dX4_hush_35 q2132 q2133 q92 (fun _ => sX4_bits) ad_X4_bits) (by decide) (Nat.le_of_ble_eq_true rfl) rfl h (fun x35 st e35 h => ?_)
      refine r_iload_n (pc := 38) dX4_hush_38 1 rfl rfl ?_
      refine r_i2l (pc := 39) dX4_hush_39 ?_
      refine r_callI (pc := 40) (rest := [vi x35]) (lkS dX4_hush_40 q2132 q2133 q92 (fun _ => sX4_bits) ad_X4_bits) (by decide) (Nat.le_of_ble_eq_true rfl) rfl h (fun x40 st e40 h => ?_)
      refine r_icmp_lt (pc := 43) (tgt := 49) dX4_hush_43 (by decide) h (fun e43 h => ?_) (fun e43 h => ?_)
      · exact sX4_hush_49 hk19 _ _ _ _ h
      · refine r_goto (pc := 46) (tgt := 77) dX4_hush_46 (by decide) ?_
        exact sX4_hush_77 hk19 _ _ _ _ h
theorem sX4_hush_19 {st0 : Mem} {fin : Int32 × Mem} (n : Nat) : ∀ (v0 : Rf) (v1 : Int32) (v2 : Int32) (st : Mem), bX4_hush_19 n v0 v1 v2 st = some fin → G (cX4_hush, "HouseClapsModel", "hush", 18, (some .int), 3) st0 trI fin 19 [(0, vr v0), (1, vi v1), (2, vi v2)] [] st := by
  induction n with
  | zero => intro v0 v1 v2 st h; cases h
  | succ n ih => intro v0 v1 v2 st h; exact sX4_hush_19B  ih v0 v1 v2 st h
theorem sX4_hush {a0 : Rf} {st : Mem} {fin : Int32 × Mem} (h : fX4_hush a0 st = some fin) : Con yX4_hush 18 [vr a0] st trI fin := by
  refine Con.mk (cc := cX4_hush) (n := 3) (own := "HouseClapsModel") (nm := "hush") (ret := (some .int)) (env := [(0, vr a0)]) q2211 rfl rfl rfl (by decide) ⟨Nat.le_of_ble_eq_true rfl, by decide⟩ rfl ?_
  unfold fX4_hush at h
  refine r_aload_n (pc := 0) dX4_hush_0 0 rfl rfl ?_
  refine r_iconst (pc := 1) (v := 0) dX4_hush_1 (by decide) ?_
  refine r_pI (pc := 2) dX4_hush_2 q1698 fd_55 same_rf rfl h (fun st e2 h => ?_)
  refine r_aload_n (pc := 5) dX4_hush_5 0 rfl rfl ?_
  refine r_callI (pc := 6) (rest := []) (lkV dX4_hush_6 q2191 xd_X4_areEight (vc_of vt_X4_areEight q2193 (fun _ => sX4_areEight)) adx_X4_areEight) (by decide) (Nat.le_of_ble_eq_true rfl) rfl h (fun x6 st e6 h => ?_)
  refine r_if_ne (pc := 9) (tgt := 15) dX4_hush_9 (by decide) h (fun e9 h => ?_) (fun e9 h => ?_)
  · refine r_iconst (pc := 15) (v := (-1)) dX4_hush_15 (by decide) ?_
    refine r_istore_n (pc := 16) (env' := [(1, vi (-1 : Int32)), (0, vr a0)]) dX4_hush_16 rfl (by decide) rfl ?_
    refine r_iconst (pc := 17) (v := 0) dX4_hush_17 (by decide) ?_
    refine r_istore_n (pc := 18) (env' := [(2, vi (0 : Int32)), (1, vi (-1 : Int32)), (0, vr a0)]) dX4_hush_18 rfl (by decide) rfl ?_
    exact r_sub (env' := [(0, vr a0), (1, vi (-1 : Int32)), (2, vi (0 : Int32))]) [2, 1, 0] rfl (sX4_hush_19 hcFuel _ _ _ _ h)
  · refine r_bipush (pc := 12) (v := (-2)) dX4_hush_12 (by decide) ?_
    exact r_ireturn (pc := 14) dX4_hush_14 rfl rfl h
theorem sX4_leader_102 {st0 : Mem} {fin : Int32 × Mem} {kk23 : Rf → Int32 → Int32 → Int32 → Int32 → Mem → Option (Int32 × Mem)} (hk23 : ∀ (v0 : Rf) (v1 : Int32) (v2 : Int32) (v3 : Int32) (v4 : Int32) (st : Mem), kk23 v0 v1 v2 v3 v4 st = some fin → G (cX4_leader, "HouseClapsModel", "leader", 18, (some .int), 6) st0 trI fin 23 [(0, vr v0), (1, vi v1), (2, vi v2), (3, vi v3), (4, vi v4)] [] st) (v0 : Rf) (v1 : Int32) (v2 : Int32) (v3 : Int32) (v4 : Int32) (st : Mem) (h : bX4_leader_102 kk23 v0 v1 v2 v3 v4 st = some fin) : G (cX4_leader, "HouseClapsModel", "leader", 18, (some .int), 6) st0 trI fin 102 [(0, vr v0), (1, vi v1), (2, vi v2), (3, vi v3), (4, vi v4)] [] st := by
  unfold bX4_leader_102 at h
  refine r_iinc (pc := 102) (env' := [(4, vi (v4 + 1)), (0, vr v0), (1, vi v1), (2, vi v2), (3, vi v3)]) (cst := 1) dX4_leader_102 4 rfl (by decide) (by decide) rfl ?_
  refine r_goto (pc := 105) (tgt := 23) dX4_leader_105 (by decide) ?_
  exact r_sub (env' := [(0, vr v0), (1, vi v1), (2, vi v2), (3, vi v3), (4, vi (v4 + 1))]) [1, 2, 3, 4, 0] rfl (hk23 _ _ _ _ _ _ h)
theorem sX4_leader_96 {st0 : Mem} {fin : Int32 × Mem} {kk23 : Rf → Int32 → Int32 → Int32 → Int32 → Mem → Option (Int32 × Mem)} (hk23 : ∀ (v0 : Rf) (v1 : Int32) (v2 : Int32) (v3 : Int32) (v4 : Int32) (st : Mem), kk23 v0 v1 v2 v3 v4 st = some fin → G (cX4_leader, "HouseClapsModel", "leader", 18, (some .int), 6) st0 trI fin 23 [(0, vr v0), (1, vi v1), (2, vi v2), (3, vi v3), (4, vi v4)] [] st) (v0 : Rf) (v1 : Int32) (v4 : Int32) (v5 : Int32) (st : Mem) (h : bX4_leader_96 kk23 v0 v1 v4 v5 st = some fin) : G (cX4_leader, "HouseClapsModel", "leader", 18, (some .int), 6) st0 trI fin 96 [(0, vr v0), (1, vi v1), (4, vi v4), (5, vi v5)] [] st := by
  unfold bX4_leader_96 at h
  refine r_iload (pc := 96) dX4_leader_96 3 rfl ?_
  refine r_istore_n (pc := 98) (env' := [(3, vi v5), (0, vr v0), (1, vi v1), (4, vi v4), (5, vi v5)]) dX4_leader_98 rfl (by decide) rfl ?_
  refine r_iload (pc := 99) dX4_leader_99 3 rfl ?_
  refine r_istore_n (pc := 101) (env' := [(2, vi v4), (3, vi v5), (0, vr v0), (1, vi v1), (4, vi v4), (5, vi v5)]) dX4_leader_101 rfl (by decide) rfl ?_
  exact r_sub (env' := [(0, vr v0), (1, vi v1), (2, vi v4), (3, vi v5), (4, vi v4)]) [2, 3, 0, 1, 4] rfl (sX4_leader_102 hk23 _ _ _ _ _ _ h)
theorem sX4_leader_23B {st0 : Mem} {fin : Int32 × Mem} {kk23 : Rf → Int32 → Int32 → Int32 → Int32 → Mem → Option (Int32 × Mem)} (hk23 : ∀ (v0 : Rf) (v1 : Int32) (v2 : Int32) (v3 : Int32) (v4 : Int32) (st : Mem), kk23 v0 v1 v2 v3 v4 st = some fin → G (cX4_leader, "HouseClapsModel", "leader", 18, (some .int), 6) st0 trI fin 23 [(0, vr v0), (1, vi v1), (2, vi v2), (3, vi v3), (4, vi v4)] [] st) (v0 : Rf) (v1 : Int32) (v2 : Int32) (v3 : Int32) (v4 : Int32) (st : Mem) (h : bX4_leader_23B kk23 v0 v1 v2 v3 v4 st = some fin) : G (cX4_leader, "HouseClapsModel", "leader", 18, (some .int), 6) st0 trI fin 23 [(0, vr v0), (1, vi v1), (2, vi v2), (3, vi v3), (4, vi v4)] [] st := by
  unfold bX4_leader_23B at h
  refine r_iload (pc := 23) dX4_leader_23 4 rfl ?_
  refine r_aload_n (pc := 25) dX4_leader_25 0 rfl rfl ?_
  refine r_gA (pc := 26) dX4_leader_26 q1704 fd_61 same_rf h (fun x26 e26 h => ?_)
  refine r_iconst (pc := 29) (v := 0) dX4_leader_29 (by decide) ?_
  refine r_iaload (pc := 30) dX4_leader_30 h (fun x30 e30 h => ?_)
  refine r_aload_n (pc := 31) dX4_leader_31 0 rfl rfl ?_
  refine r_gA (pc := 32) dX4_leader_32 q1704 fd_61 same_rf h (fun x32 e32 h => ?_)
  refine r_iconst (pc := 35) (v := 1) dX4_leader_35 (by decide) ?_
  refine r_iaload (pc := 36) dX4_leader_36 h (fun x36 e36 h => ?_)
  refine r_imul (pc := 37) dX4_leader_37 ?_
  refine r_icmp_ge (pc := 38) (tgt := 108) dX4_leader_38 (by decide) h (fun e38 h => ?_) (fun e38 h => ?_)
  · refine r_iload_n (pc := 108) dX4_leader_108 1 rfl rfl ?_
    refine r_if_ne (pc := 109) (tgt := 116) dX4_leader_109 (by decide) h (fun e109 h => ?_) (fun e109 h => ?_)
    · refine r_iload_n (pc := 116) dX4_leader_116 3 rfl rfl ?_
      exact r_ireturn (pc := 117) dX4_leader_117 rfl rfl h
    · refine r_iload_n (pc := 112) dX4_leader_112 2 rfl rfl ?_
      refine r_goto (pc := 113) (tgt := 117) dX4_leader_113 (by decide) ?_
      exact r_ireturn (pc := 117) dX4_leader_117 rfl rfl h
  · refine r_aload_n (pc := 41) dX4_leader_41 0 rfl rfl ?_
    refine r_iload (pc := 42) dX4_leader_42 4 rfl ?_
    refine r_callI (pc := 44) (rest := []) (lkV dX4_leader_44 q2040 xd_X4_isSeat (vc_of vt_X4_isSeat q2042 (fun _ => sX4_isSeat)) adx_X4_isSeat) (by decide) (Nat.le_of_ble_eq_true rfl) rfl h (fun x44 st e44 h => ?_)
    refine r_if_ne (pc := 47) (tgt := 53) dX4_leader_47 (by decide) h (fun e47 h => ?_) (fun e47 h => ?_)
    · refine r_aload_n (pc := 53) dX4_leader_53 0 rfl rfl ?_
      refine r_lconst (pc := 54) (v := 1) dX4_leader_54 (by decide) ?_
      refine r_iload (pc := 55) dX4_leader_55 4 rfl ?_
      refine r_lshl (pc := 57) dX4_leader_57 ?_
      refine r_aload_n (pc := 58) dX4_leader_58 0 rfl rfl ?_
      refine r_gJ (pc := 59) dX4_leader_59 q1715 fd_72 same_rf h (fun x59 e59 h => ?_)
      refine r_callI (pc := 62) (rest := []) (lkV dX4_leader_62 q2183 xd_X4_height (vc_of vt_X4_height q2185 (fun _ => sX4_height)) adx_X4_height) (by decide) (Nat.le_of_ble_eq_true rfl) rfl h (fun x62 st e62 h => ?_)
      refine r_istore (pc := 65) (env' := [(5, vi x62), (0, vr v0), (1, vi v1), (2, vi v2), (3, vi v3), (4, vi v4)]) dX4_leader_65 (by decide) rfl ?_
      refine r_iload (pc := 67) dX4_leader_67 0 rfl ?_
      refine r_iload_n (pc := 69) dX4_leader_69 4 rfl rfl ?_
      refine r_icmp_lt (pc := 70) (tgt := 102) dX4_leader_70 (by decide) h (fun e70 h => ?_) (fun e70 h => ?_)
      · exact r_sub (env' := [(0, vr v0), (1, vi v1), (2, vi v2), (3, vi v3), (4, vi v4)]) [1, 2, 3, 4, 5] rfl (sX4_leader_102 hk23 _ _ _ _ _ _ h)
      · refine r_iload (pc := 73) dX4_leader_73 0 rfl ?_
        refine r_iload_n (pc := 75) dX4_leader_75 4 rfl rfl ?_
        refine r_icmp_ne (pc := 76) (tgt := 96) dX4_leader_76 (by decide) h (fun e76 h => ?_) (fun e76 h => ?_)
        · exact r_sub (env' := [(0, vr v0), (1, vi v1), (4, vi v4), (5, vi x62)]) [1, 2, 5, 0] rfl (sX4_leader_96 hk23 _ _ _ _ _ h)
        · refine r_aload_n (pc := 79) dX4_leader_79 1 rfl rfl ?_
          refine r_iload (pc := 80) dX4_leader_80 5 rfl ?_
          refine r_callI (pc := 82) (rest := []) (lkV dX4_leader_82 q2048 xd_X4_price (vc_of vt_X4_price q2050 (fun _ => sX4_price)) adx_X4_price) (by decide) (Nat.le_of_ble_eq_true rfl) rfl h (fun x82 st e82 h => ?_)
          refine r_aload_n (pc := 85) dX4_leader_85 1 rfl rfl ?_
          refine r_iload_n (pc := 86) dX4_leader_86 3 rfl rfl ?_
          refine r_callI (pc := 87) (rest := [vi x82]) (lkV dX4_leader_87 q2048 xd_X4_price (vc_of vt_X4_price q2050 (fun _ => sX4_price)) adx_X4_price) (by decide) (Nat.le_of_ble_eq_true rfl) rfl h (fun x87 st e87 h => ?_)
          refine r_icmp_lt (pc := 90) (tgt := 96) dX4_leader_90 (by decide) h (fun e90 h => ?_) (fun e90 h => ?_)
          · exact r_sub (env' := [(0, vr v0), (1, vi v1), (4, vi v4), (5, vi x62)]) [1, 2, 5, 0] rfl (sX4_leader_96 hk23 _ _ _ _ _ h)
          · refine r_goto (pc := 93) (tgt := 102) dX4_leader_93 (by decide) ?_
            exact r_sub (env' := [(0, vr v0), (1, vi v1), (2, vi v2), (3, vi v3), (4, vi v4)]) [1, 2, 3, 4, 5] rfl (sX4_leader_102 hk23 _ _ _ _ _ _ h)
    · refine r_goto (pc := 50) (tgt := 102) dX4_leader_50 (by decide) ?_
      exact sX4_leader_102 hk23 _ _ _ _ _ _ h
theorem sX4_leader_23 {st0 : Mem} {fin : Int32 × Mem} (n : Nat) : ∀ (v0 : Rf) (v1 : Int32) (v2 : Int32) (v3 : Int32) (v4 : Int32) (st : Mem), bX4_leader_23 n v0 v1 v2 v3 v4 st = some fin → G (cX4_leader, "HouseClapsModel", "leader", 18, (some .int), 6) st0 trI fin 23 [(0, vr v0), (1, vi v1), (2, vi v2), (3, vi v3), (4, vi v4)] [] st := by
  induction n with
  | zero => intro v0 v1 v2 v3 v4 st h; cases h
  | succ n ih => intro v0 v1 v2 v3 v4 st h; exact sX4_leader_23B  ih v0 v1 v2 v3 v4 st h
theorem sX4_leader {a0 : Rf} {a1 : Int32} {st : Mem} {fin : Int32 × Mem} (h : fX4_leader a0 a1 st = some fin) : Con yX4_leader 18 [vr a0, vi a1] st trI fin := by
  refine Con.mk (cc := cX4_leader) (n := 6) (own := "HouseClapsModel") (nm := "leader") (ret := (some .int)) (env := [(0, vr a0), (1, vi a1)]) q2286 rfl rfl rfl (by decide) ⟨Nat.le_of_ble_eq_true rfl, by decide⟩ rfl ?_
  unfold fX4_leader at h
  refine r_aload_n (pc := 0) dX4_leader_0 0 rfl rfl ?_
  refine r_iconst (pc := 1) (v := 0) dX4_leader_1 (by decide) ?_
  refine r_pI (pc := 2) dX4_leader_2 q1698 fd_55 same_rf rfl h (fun st e2 h => ?_)
  refine r_iload_n (pc := 5) dX4_leader_5 1 rfl rfl ?_
  refine r_iconst (pc := 6) (v := 0) dX4_leader_6 (by decide) ?_
  refine r_iconst (pc := 7) (v := 1) dX4_leader_7 (by decide) ?_
  refine r_callI (pc := 8) (rest := []) (lkS dX4_leader_8 q1949 q1950 q92 (fun _ => sX4_isIn) ad_X4_isIn) (by decide) (Nat.le_of_ble_eq_true rfl) rfl h (fun x8 st e8 h => ?_)
  refine r_if_ne (pc := 11) (tgt := 16) dX4_leader_11 (by decide) h (fun e11 h => ?_) (fun e11 h => ?_)
  · refine r_iconst (pc := 16) (v := (-1)) dX4_leader_16 (by decide) ?_
    refine r_istore_n (pc := 17) (env' := [(2, vi (-1 : Int32)), (0, vr a0), (1, vi a1)]) dX4_leader_17 rfl (by decide) rfl ?_
    refine r_iconst (pc := 18) (v := (-1)) dX4_leader_18 (by decide) ?_
    refine r_istore_n (pc := 19) (env' := [(3, vi (-1 : Int32)), (2, vi (-1 : Int32)), (0, vr a0), (1, vi a1)]) dX4_leader_19 rfl (by decide) rfl ?_
    refine r_iconst (pc := 20) (v := 0) dX4_leader_20 (by decide) ?_
    refine r_istore (pc := 21) (env' := [(4, vi (0 : Int32)), (3, vi (-1 : Int32)), (2, vi (-1 : Int32)), (0, vr a0), (1, vi a1)]) dX4_leader_21 (by decide) rfl ?_
    exact r_sub (env' := [(0, vr a0), (1, vi a1), (2, vi (-1 : Int32)), (3, vi (-1 : Int32)), (4, vi (0 : Int32))]) [3, 4, 2, 1, 0] rfl (sX4_leader_23 hcFuel _ _ _ _ _ _ h)
  · refine r_iconst (pc := 14) (v := (-1)) dX4_leader_14 (by decide) ?_
    exact r_ireturn (pc := 15) dX4_leader_15 rfl rfl h
theorem sX4_many_57 {st0 : Mem} {fin : Int32 × Mem} (k0 : Int64) (st : Mem) (h : bX4_many_57 k0 st = some fin) : G (cX4_many, "HouseClapsModel", "many", 18, (some .int), 3) st0 trI fin 57 [] [vj k0] st := by
  unfold bX4_many_57 at h
  refine r_callI (pc := 57) (rest := []) (lkS dX4_many_57 q2132 q2133 q92 (fun _ => sX4_bits) ad_X4_bits) (by decide) (Nat.le_of_ble_eq_true rfl) rfl h (fun x57 st e57 h => ?_)
  exact r_ireturn (pc := 60) dX4_many_60 rfl rfl h
theorem sX4_many {a0 : Rf} {a1 : Int32} {a2 : Int32} {st : Mem} {fin : Int32 × Mem} (h : fX4_many a0 a1 a2 st = some fin) : Con yX4_many 18 [vr a0, vi a1, vi a2] st trI fin := by
  refine Con.mk (cc := cX4_many) (n := 3) (own := "HouseClapsModel") (nm := "many") (ret := (some .int)) (env := [(0, vr a0), (1, vi a1), (2, vi a2)]) q2146 rfl rfl rfl (by decide) ⟨Nat.le_of_ble_eq_true rfl, by decide⟩ rfl ?_
  unfold fX4_many at h
  refine r_aload_n (pc := 0) dX4_many_0 0 rfl rfl ?_
  refine r_iconst (pc := 1) (v := 0) dX4_many_1 (by decide) ?_
  refine r_pI (pc := 2) dX4_many_2 q1698 fd_55 same_rf rfl h (fun st e2 h => ?_)
  refine r_iload_n (pc := 5) dX4_many_5 1 rfl rfl ?_
  refine r_callI (pc := 6) (rest := []) (lkS dX4_many_6 q2093 q2094 q92 (fun _ => sX4_isMoment) ad_X4_isMoment) (by decide) (Nat.le_of_ble_eq_true rfl) rfl h (fun x6 st e6 h => ?_)
  refine r_if_eq (pc := 9) (tgt := 21) dX4_many_9 (by decide) h (fun e9 h => ?_) (fun e9 h => ?_)
  · refine r_iconst (pc := 21) (v := (-1)) dX4_many_21 (by decide) ?_
    exact r_ireturn (pc := 22) dX4_many_22 rfl rfl h
  · refine r_iload_n (pc := 12) dX4_many_12 2 rfl rfl ?_
    refine r_iconst (pc := 13) (v := 0) dX4_many_13 (by decide) ?_
    refine r_iconst (pc := 14) (v := 2) dX4_many_14 (by decide) ?_
    refine r_callI (pc := 15) (rest := []) (lkS dX4_many_15 q1949 q1950 q92 (fun _ => sX4_isIn) ad_X4_isIn) (by decide) (Nat.le_of_ble_eq_true rfl) rfl h (fun x15 st e15 h => ?_)
    refine r_if_ne (pc := 18) (tgt := 23) dX4_many_18 (by decide) h (fun e18 h => ?_) (fun e18 h => ?_)
    · refine r_aload_n (pc := 23) dX4_many_23 0 rfl rfl ?_
      refine r_iload_n (pc := 24) dX4_many_24 1 rfl rfl ?_
      refine r_callV (pc := 25) (rest := []) (lkV dX4_many_25 q2096 xd_X4_night (vc_of vt_X4_night q2098 (fun _ => sX4_night)) adx_X4_night) (by decide) (Nat.le_of_ble_eq_true rfl) rfl h (fun u25 st e25 h => ?_)
      refine r_iload_n (pc := 28) dX4_many_28 2 rfl rfl ?_
      refine r_if_ne (pc := 29) (tgt := 41) dX4_many_29 (by decide) h (fun e29 h => ?_) (fun e29 h => ?_)
      · refine r_iload_n (pc := 41) dX4_many_41 2 rfl rfl ?_
        refine r_iconst (pc := 42) (v := 1) dX4_many_42 (by decide) ?_
        refine r_icmp_ne (pc := 43) (tgt := 53) dX4_many_43 (by decide) h (fun e43 h => ?_) (fun e43 h => ?_)
        · refine r_aload_n (pc := 53) dX4_many_53 0 rfl rfl ?_
          refine r_gJ (pc := 54) dX4_many_54 q1737 fd_94 same_rf h (fun x54 e54 h => ?_)
          exact r_sub (env' := []) [] rfl (sX4_many_57 _ _ h)
        · refine r_aload_n (pc := 46) dX4_many_46 0 rfl rfl ?_
          refine r_gJ (pc := 47) dX4_many_47 q1736 fd_93 same_rf h (fun x47 e47 h => ?_)
          refine r_goto (pc := 50) (tgt := 57) dX4_many_50 (by decide) ?_
          exact r_sub (env' := []) [] rfl (sX4_many_57 _ _ h)
      · refine r_aload_n (pc := 32) dX4_many_32 0 rfl rfl ?_
        refine r_gA (pc := 33) dX4_many_33 q1704 fd_61 same_rf h (fun x33 e33 h => ?_)
        refine r_iconst (pc := 36) (v := 2) dX4_many_36 (by decide) ?_
        refine r_iaload (pc := 37) dX4_many_37 h (fun x37 e37 h => ?_)
        refine r_goto (pc := 38) (tgt := 60) dX4_many_38 (by decide) ?_
        exact r_ireturn (pc := 60) dX4_many_60 rfl rfl h
    · refine r_iconst (pc := 21) (v := (-1)) dX4_many_21 (by decide) ?_
      exact r_ireturn (pc := 22) dX4_many_22 rfl rfl h
theorem sX4_parts_87B {st0 : Mem} {fin : Int32 × Mem} {kk87 : Rf → Int32 → Mem → Option (Int32 × Mem)} (hk87 : ∀ (v0 : Rf) (v3 : Int32) (st : Mem), kk87 v0 v3 st = some fin → G (cX4_parts, "HouseClapsModel", "parts", 18, (some .int), 4) st0 trI fin 87 [(0, vr v0), (3, vi v3)] [] st) (v0 : Rf) (v3 : Int32) (st : Mem) (h : bX4_parts_87B kk87 v0 v3 st = some fin) : G (cX4_parts, "HouseClapsModel", "parts", 18, (some .int), 4) st0 trI fin 87 [(0, vr v0), (3, vi v3)] [] st := by
  unfold bX4_parts_87B at h
  refine r_iload_n (pc := 87) dX4_parts_87 1 rfl rfl ?_
  refine r_bipush (pc := 88) (v := 60) dX4_parts_88 (by decide) ?_
  refine r_icmp_gt (pc := 90) (tgt := 133) dX4_parts_90 (by decide) h (fun e90 h => ?_) (fun e90 h => ?_)
  · refine r_iconst (pc := 133) (v := (-1)) dX4_parts_133 (by decide) ?_
    exact r_ireturn (pc := 134) dX4_parts_134 rfl rfl h
  · refine r_aload_n (pc := 93) dX4_parts_93 0 rfl rfl ?_
    refine r_gA (pc := 94) dX4_parts_94 q1730 fd_87 same_rf h (fun x94 e94 h => ?_)
    refine r_iload_n (pc := 97) dX4_parts_97 1 rfl rfl ?_
    refine r_laload (pc := 98) dX4_parts_98 h (fun x98 e98 h => ?_)
    refine r_aload_n (pc := 99) dX4_parts_99 0 rfl rfl ?_
    refine r_gA (pc := 100) dX4_parts_100 q1759 fd_116 same_rf h (fun x100 e100 h => ?_)
    refine r_iload_n (pc := 103) dX4_parts_103 1 rfl rfl ?_
    refine r_laload (pc := 104) dX4_parts_104 h (fun x104 e104 h => ?_)
    refine r_lcmp_ne (pc := 105) (tgt := 125) dX4_parts_105 dX4_parts_106 (by decide) h (fun e106 h => ?_) (fun e106 h => ?_)
    · refine r_iload_n (pc := 125) dX4_parts_125 1 rfl rfl ?_
      exact r_ireturn (pc := 126) dX4_parts_126 rfl rfl h
    · refine r_aload_n (pc := 109) dX4_parts_109 0 rfl rfl ?_
      refine r_gA (pc := 110) dX4_parts_110 q1731 fd_88 same_rf h (fun x110 e110 h => ?_)
      refine r_iload_n (pc := 113) dX4_parts_113 1 rfl rfl ?_
      refine r_laload (pc := 114) dX4_parts_114 h (fun x114 e114 h => ?_)
      refine r_aload_n (pc := 115) dX4_parts_115 0 rfl rfl ?_
      refine r_gA (pc := 116) dX4_parts_116 q1760 fd_117 same_rf h (fun x116 e116 h => ?_)
      refine r_iload_n (pc := 119) dX4_parts_119 1 rfl rfl ?_
      refine r_laload (pc := 120) dX4_parts_120 h (fun x120 e120 h => ?_)
      refine r_lcmp_eq (pc := 121) (tgt := 127) dX4_parts_121 dX4_parts_122 (by decide) h (fun e122 h => ?_) (fun e122 h => ?_)
      · refine r_iinc (pc := 127) (env' := [(3, vi (v3 + 1)), (0, vr v0)]) (cst := 1) dX4_parts_127 1 rfl (by decide) (by decide) rfl ?_
        refine r_goto (pc := 130) (tgt := 87) dX4_parts_130 (by decide) ?_
        exact r_sub (env' := [(0, vr v0), (3, vi (v3 + 1))]) [1, 0] rfl (hk87 _ _ _ h)
      · refine r_iload_n (pc := 125) dX4_parts_125 1 rfl rfl ?_
        exact r_ireturn (pc := 126) dX4_parts_126 rfl rfl h
theorem sX4_parts_87 {st0 : Mem} {fin : Int32 × Mem} (n : Nat) : ∀ (v0 : Rf) (v3 : Int32) (st : Mem), bX4_parts_87 n v0 v3 st = some fin → G (cX4_parts, "HouseClapsModel", "parts", 18, (some .int), 4) st0 trI fin 87 [(0, vr v0), (3, vi v3)] [] st := by
  induction n with
  | zero => intro v0 v3 st h; cases h
  | succ n ih => intro v0 v3 st h; exact sX4_parts_87B  ih v0 v3 st h
theorem sX4_parts_37B {st0 : Mem} {fin : Int32 × Mem} {kk37 : Rf → Int32 → Int32 → Mem → Option (Int32 × Mem)} (hk37 : ∀ (v0 : Rf) (v2 : Int32) (v3 : Int32) (st : Mem), kk37 v0 v2 v3 st = some fin → G (cX4_parts, "HouseClapsModel", "parts", 18, (some .int), 4) st0 trI fin 37 [(0, vr v0), (2, vi v2), (3, vi v3)] [] st) (v0 : Rf) (v2 : Int32) (v3 : Int32) (st : Mem) (h : bX4_parts_37B kk37 v0 v2 v3 st = some fin) : G (cX4_parts, "HouseClapsModel", "parts", 18, (some .int), 4) st0 trI fin 37 [(0, vr v0), (2, vi v2), (3, vi v3)] [] st := by
  unfold bX4_parts_37B at h
  refine r_iload_n (pc := 37) dX4_parts_37 2 rfl rfl ?_
  refine r_bipush (pc := 38) (v := 60) dX4_parts_38 (by decide) ?_
  refine r_icmp_gt (pc := 40) (tgt := 73) dX4_parts_40 (by decide) h (fun e40 h => ?_) (fun e40 h => ?_)
  · refine r_aload_n (pc := 73) dX4_parts_73 0 rfl rfl ?_
    refine r_lconst (pc := 74) (v := 1) dX4_parts_74 (by decide) ?_
    refine r_iload_n (pc := 75) dX4_parts_75 1 rfl rfl ?_
    refine r_lshl (pc := 76) dX4_parts_76 ?_
    refine r_aload_n (pc := 77) dX4_parts_77 0 rfl rfl ?_
    refine r_gJ (pc := 78) dX4_parts_78 q1715 fd_72 same_rf h (fun x78 e78 h => ?_)
    refine r_callI (pc := 81) (rest := []) (lkV dX4_parts_81 q2183 xd_X4_height (vc_of vt_X4_height q2185 (fun _ => sX4_height)) adx_X4_height) (by decide) (Nat.le_of_ble_eq_true rfl) rfl h (fun x81 st e81 h => ?_)
    refine r_pop (pc := 84) dX4_parts_84 rfl ?_
    refine r_iconst (pc := 85) (v := 0) dX4_parts_85 (by decide) ?_
    refine r_istore_n (pc := 86) (env' := [(3, vi (0 : Int32)), (0, vr v0), (2, vi v2)]) dX4_parts_86 rfl (by decide) rfl ?_
    exact r_sub (env' := [(0, vr v0), (3, vi (0 : Int32))]) [1, 0] rfl (sX4_parts_87 hcFuel _ _ _ h)
  · refine r_aload_n (pc := 43) dX4_parts_43 0 rfl rfl ?_
    refine r_gA (pc := 44) dX4_parts_44 q1759 fd_116 same_rf h (fun x44 e44 h => ?_)
    refine r_iload_n (pc := 47) dX4_parts_47 2 rfl rfl ?_
    refine r_aload_n (pc := 48) dX4_parts_48 0 rfl rfl ?_
    refine r_gA (pc := 49) dX4_parts_49 q1730 fd_87 same_rf h (fun x49 e49 h => ?_)
    refine r_iload_n (pc := 52) dX4_parts_52 2 rfl rfl ?_
    refine r_laload (pc := 53) dX4_parts_53 h (fun x53 e53 h => ?_)
    refine r_lastore (pc := 54) dX4_parts_54 h (fun st e54 h => ?_)
    refine r_aload_n (pc := 55) dX4_parts_55 0 rfl rfl ?_
    refine r_gA (pc := 56) dX4_parts_56 q1760 fd_117 same_rf h (fun x56 e56 h => ?_)
    refine r_iload_n (pc := 59) dX4_parts_59 2 rfl rfl ?_
    refine r_aload_n (pc := 60) dX4_parts_60 0 rfl rfl ?_
    refine r_gA (pc := 61) dX4_parts_61 q1731 fd_88 same_rf h (fun x61 e61 h => ?_)
    refine r_iload_n (pc := 64) dX4_parts_64 2 rfl rfl ?_
    refine r_laload (pc := 65) dX4_parts_65 h (fun x65 e65 h => ?_)
    refine r_lastore (pc := 66) dX4_parts_66 h (fun st e66 h => ?_)
    refine r_iinc (pc := 67) (env' := [(3, vi (v3 + 1)), (0, vr v0), (2, vi v2)]) (cst := 1) dX4_parts_67 2 rfl (by decide) (by decide) rfl ?_
    refine r_goto (pc := 70) (tgt := 37) dX4_parts_70 (by decide) ?_
    exact r_sub (env' := [(0, vr v0), (2, vi v2), (3, vi (v3 + 1))]) [1, 2, 0] rfl (hk37 _ _ _ _ h)
theorem sX4_parts_37 {st0 : Mem} {fin : Int32 × Mem} (n : Nat) : ∀ (v0 : Rf) (v2 : Int32) (v3 : Int32) (st : Mem), bX4_parts_37 n v0 v2 v3 st = some fin → G (cX4_parts, "HouseClapsModel", "parts", 18, (some .int), 4) st0 trI fin 37 [(0, vr v0), (2, vi v2), (3, vi v3)] [] st := by
  induction n with
  | zero => intro v0 v2 v3 st h; cases h
  | succ n ih => intro v0 v2 v3 st h; exact sX4_parts_37B  ih v0 v2 v3 st h
theorem sX4_parts {a0 : Rf} {a1 : Int32} {a2 : Int32} {st : Mem} {fin : Int32 × Mem} (h : fX4_parts a0 a1 a2 st = some fin) : Con yX4_parts 18 [vr a0, vi a1, vi a2] st trI fin := by
  refine Con.mk (cc := cX4_parts) (n := 4) (own := "HouseClapsModel") (nm := "parts") (ret := (some .int)) (env := [(0, vr a0), (1, vi a1), (2, vi a2)]) q2250 rfl rfl rfl (by decide) ⟨Nat.le_of_ble_eq_true rfl, by decide⟩ rfl ?_
  unfold fX4_parts at h
  refine r_aload_n (pc := 0) dX4_parts_0 0 rfl rfl ?_
  refine r_iconst (pc := 1) (v := 0) dX4_parts_1 (by decide) ?_
  refine r_pI (pc := 2) dX4_parts_2 q1698 fd_55 same_rf rfl h (fun st e2 h => ?_)
  refine r_aload_n (pc := 5) dX4_parts_5 0 rfl rfl ?_
  refine r_iload_n (pc := 6) dX4_parts_6 1 rfl rfl ?_
  refine r_callI (pc := 7) (rest := []) (lkV dX4_parts_7 q2040 xd_X4_isSeat (vc_of vt_X4_isSeat q2042 (fun _ => sX4_isSeat)) adx_X4_isSeat) (by decide) (Nat.le_of_ble_eq_true rfl) rfl h (fun x7 st e7 h => ?_)
  refine r_if_eq (pc := 10) (tgt := 21) dX4_parts_10 (by decide) h (fun e10 h => ?_) (fun e10 h => ?_)
  · refine r_iconst (pc := 21) (v := (-1)) dX4_parts_21 (by decide) ?_
    exact r_ireturn (pc := 22) dX4_parts_22 rfl rfl h
  · refine r_aload_n (pc := 13) dX4_parts_13 0 rfl rfl ?_
    refine r_iload_n (pc := 14) dX4_parts_14 2 rfl rfl ?_
    refine r_callI (pc := 15) (rest := []) (lkV dX4_parts_15 q2040 xd_X4_isSeat (vc_of vt_X4_isSeat q2042 (fun _ => sX4_isSeat)) adx_X4_isSeat) (by decide) (Nat.le_of_ble_eq_true rfl) rfl h (fun x15 st e15 h => ?_)
    refine r_if_ne (pc := 18) (tgt := 23) dX4_parts_18 (by decide) h (fun e18 h => ?_) (fun e18 h => ?_)
    · refine r_aload_n (pc := 23) dX4_parts_23 0 rfl rfl ?_
      refine r_lconst (pc := 24) (v := 1) dX4_parts_24 (by decide) ?_
      refine r_iload_n (pc := 25) dX4_parts_25 1 rfl rfl ?_
      refine r_lshl (pc := 26) dX4_parts_26 ?_
      refine r_aload_n (pc := 27) dX4_parts_27 0 rfl rfl ?_
      refine r_gJ (pc := 28) dX4_parts_28 q1715 fd_72 same_rf h (fun x28 e28 h => ?_)
      refine r_callI (pc := 31) (rest := []) (lkV dX4_parts_31 q2183 xd_X4_height (vc_of vt_X4_height q2185 (fun _ => sX4_height)) adx_X4_height) (by decide) (Nat.le_of_ble_eq_true rfl) rfl h (fun x31 st e31 h => ?_)
      refine r_pop (pc := 34) dX4_parts_34 rfl ?_
      refine r_iconst (pc := 35) (v := 0) dX4_parts_35 (by decide) ?_
      refine r_istore_n (pc := 36) (env' := [(3, vi (0 : Int32)), (0, vr a0), (1, vi a1), (2, vi a2)]) dX4_parts_36 rfl (by decide) rfl ?_
      exact r_sub (env' := [(0, vr a0), (2, vi a2), (3, vi (0 : Int32))]) [1, 3, 0] rfl (sX4_parts_37 hcFuel _ _ _ _ h)
    · refine r_iconst (pc := 21) (v := (-1)) dX4_parts_21 (by decide) ?_
      exact r_ireturn (pc := 22) dX4_parts_22 rfl rfl h
theorem sX4_readLaw_41 {st0 : Mem} {fin : Int32 × Mem} (v0 : Rf) (st : Mem) (h : bX4_readLaw_41 v0 st = some fin) : G (cX4_readLaw, "HouseClapsModel", "readLaw", 18, (some .boolean), 4) st0 trI fin 41 [(0, vr v0)] [] st := by
  unfold bX4_readLaw_41 at h
  refine r_aload_n (pc := 41) dX4_readLaw_41 0 rfl rfl ?_
  refine r_iconst (pc := 42) (v := 2) dX4_readLaw_42 (by decide) ?_
  refine r_callI (pc := 43) (rest := []) (lkV dX4_readLaw_43 q1941 xd_X4_bad (vc_of vt_X4_bad q1943 (fun _ => sX4_bad)) adx_X4_bad) (by decide) (Nat.le_of_ble_eq_true rfl) rfl h (fun x43 st e43 h => ?_)
  exact r_ireturn (pc := 46) dX4_readLaw_46 rfl rfl h
theorem sX4_readLaw_133B {st0 : Mem} {fin : Int32 × Mem} {kk133 : Rf → Int32 → Int32 → Mem → Option (Int32 × Mem)} (hk133 : ∀ (v0 : Rf) (v2 : Int32) (v3 : Int32) (st : Mem), kk133 v0 v2 v3 st = some fin → G (cX4_readLaw, "HouseClapsModel", "readLaw", 18, (some .boolean), 4) st0 trI fin 133 [(0, vr v0), (2, vi v2), (3, vi v3)] [] st) (v0 : Rf) (v2 : Int32) (v3 : Int32) (st : Mem) (h : bX4_readLaw_133B kk133 v0 v2 v3 st = some fin) : G (cX4_readLaw, "HouseClapsModel", "readLaw", 18, (some .boolean), 4) st0 trI fin 133 [(0, vr v0), (2, vi v2), (3, vi v3)] [] st := by
  unfold bX4_readLaw_133B at h
  refine r_iload_n (pc := 133) dX4_readLaw_133 2 rfl rfl ?_
  refine r_aload_n (pc := 134) dX4_readLaw_134 0 rfl rfl ?_
  refine r_gI (pc := 135) dX4_readLaw_135 q1724 fd_81 same_rf h (fun x135 e135 h => ?_)
  refine r_icmp_ge (pc := 138) (tgt := 163) dX4_readLaw_138 (by decide) h (fun e138 h => ?_) (fun e138 h => ?_)
  · refine r_iconst (pc := 163) (v := 1) dX4_readLaw_163 (by decide) ?_
    exact r_ireturn (pc := 164) dX4_readLaw_164 rfl rfl h
  · refine r_aload_n (pc := 141) dX4_readLaw_141 0 rfl rfl ?_
    refine r_gA (pc := 142) dX4_readLaw_142 q1705 fd_62 same_rf h (fun x142 e142 h => ?_)
    refine r_iload_n (pc := 145) dX4_readLaw_145 1 rfl rfl ?_
    refine r_iconst (pc := 146) (v := 2) dX4_readLaw_146 (by decide) ?_
    refine r_iadd (pc := 147) dX4_readLaw_147 ?_
    refine r_iload_n (pc := 148) dX4_readLaw_148 2 rfl rfl ?_
    refine r_iadd (pc := 149) dX4_readLaw_149 ?_
    refine r_aload_n (pc := 150) dX4_readLaw_150 0 rfl rfl ?_
    refine r_gA (pc := 151) dX4_readLaw_151 q1721 fd_78 same_rf h (fun x151 e151 h => ?_)
    refine r_iload_n (pc := 154) dX4_readLaw_154 2 rfl rfl ?_
    refine r_iaload (pc := 155) dX4_readLaw_155 h (fun x155 e155 h => ?_)
    refine r_iastore (pc := 156) dX4_readLaw_156 h (fun st e156 h => ?_)
    refine r_iinc (pc := 157) (env' := [(3, vi (v3 + 1)), (0, vr v0), (2, vi v2)]) (cst := 1) dX4_readLaw_157 2 rfl (by decide) (by decide) rfl ?_
    refine r_goto (pc := 160) (tgt := 133) dX4_readLaw_160 (by decide) ?_
    exact r_sub (env' := [(0, vr v0), (2, vi v2), (3, vi (v3 + 1))]) [1, 2, 0] rfl (hk133 _ _ _ _ h)
theorem sX4_readLaw_133 {st0 : Mem} {fin : Int32 × Mem} (n : Nat) : ∀ (v0 : Rf) (v2 : Int32) (v3 : Int32) (st : Mem), bX4_readLaw_133 n v0 v2 v3 st = some fin → G (cX4_readLaw, "HouseClapsModel", "readLaw", 18, (some .boolean), 4) st0 trI fin 133 [(0, vr v0), (2, vi v2), (3, vi v3)] [] st := by
  induction n with
  | zero => intro v0 v2 v3 st h; cases h
  | succ n ih => intro v0 v2 v3 st h; exact sX4_readLaw_133B  ih v0 v2 v3 st h
theorem sX4_readLaw {a0 : Rf} {a1 : Int32} {st : Mem} {fin : Int32 × Mem} (h : fX4_readLaw a0 a1 st = some fin) : Con yX4_readLaw 18 [vr a0, vi a1] st trI fin := by
  refine Con.mk (cc := cX4_readLaw) (n := 4) (own := "HouseClapsModel") (nm := "readLaw") (ret := (some .boolean)) (env := [(0, vr a0), (1, vi a1)]) q1956 rfl rfl rfl (by decide) ⟨Nat.le_of_ble_eq_true rfl, by decide⟩ rfl ?_
  unfold fX4_readLaw at h
  refine r_aload_n (pc := 0) dX4_readLaw_0 0 rfl rfl ?_
  refine r_callV (pc := 1) (rest := []) (lkV dX4_readLaw_1 q1914 xd_X4_next (vc_of vt_X4_next q1916 (fun _ => sX4_next)) adx_X4_next) (by decide) (Nat.le_of_ble_eq_true rfl) rfl h (fun u1 st e1 h => ?_)
  refine r_aload_n (pc := 4) dX4_readLaw_4 0 rfl rfl ?_
  refine r_gI (pc := 5) dX4_readLaw_5 q1707 fd_64 same_rf h (fun x5 e5 h => ?_)
  refine r_iconst (pc := 8) (v := 1) dX4_readLaw_8 (by decide) ?_
  refine r_icmp_eq (pc := 9) (tgt := 18) dX4_readLaw_9 (by decide) h (fun e9 h => ?_) (fun e9 h => ?_)
  · refine r_aload_n (pc := 18) dX4_readLaw_18 0 rfl rfl ?_
    refine r_gI (pc := 19) dX4_readLaw_19 q1709 fd_66 same_rf h (fun x19 e19 h => ?_)
    refine r_iconst (pc := 22) (v := 1) dX4_readLaw_22 (by decide) ?_
    refine r_icmp_ne (pc := 23) (tgt := 41) dX4_readLaw_23 (by decide) h (fun e23 h => ?_) (fun e23 h => ?_)
    · exact r_sub (env' := [(0, vr a0)]) [0] rfl (sX4_readLaw_41 _ _ h)
    · refine r_aload_n (pc := 26) dX4_readLaw_26 0 rfl rfl ?_
      refine r_gJ (pc := 27) dX4_readLaw_27 q1713 fd_70 same_rf h (fun x27 e27 h => ?_)
      refine r_l2i (pc := 30) dX4_readLaw_30 ?_
      refine r_bipush (pc := 31) (v := 97) dX4_readLaw_31 (by decide) ?_
      refine r_bipush (pc := 33) (v := 102) dX4_readLaw_33 (by decide) ?_
      refine r_callI (pc := 35) (rest := []) (lkS dX4_readLaw_35 q1949 q1950 q92 (fun _ => sX4_isIn) ad_X4_isIn) (by decide) (Nat.le_of_ble_eq_true rfl) rfl h (fun x35 st e35 h => ?_)
      refine r_if_ne (pc := 38) (tgt := 47) dX4_readLaw_38 (by decide) h (fun e38 h => ?_) (fun e38 h => ?_)
      · refine r_bipush (pc := 47) (v := 86) dX4_readLaw_47 (by decide) ?_
        refine r_bipush (pc := 49) (v := 42) dX4_readLaw_49 (by decide) ?_
        refine r_iconst (pc := 51) (v := 2) dX4_readLaw_51 (by decide) ?_
        refine r_aload_n (pc := 52) dX4_readLaw_52 0 rfl rfl ?_
        refine r_gJ (pc := 53) dX4_readLaw_53 q1713 fd_70 same_rf h (fun x53 e53 h => ?_)
        refine r_l2i (pc := 56) dX4_readLaw_56 ?_
        refine r_bipush (pc := 57) (v := 97) dX4_readLaw_57 (by decide) ?_
        refine r_isub (pc := 59) dX4_readLaw_59 ?_
        refine r_imul (pc := 60) dX4_readLaw_60 ?_
        refine r_iload_n (pc := 61) dX4_readLaw_61 1 rfl rfl ?_
        refine r_iadd (pc := 62) dX4_readLaw_62 ?_
        refine r_imul (pc := 63) dX4_readLaw_63 ?_
        refine r_iadd (pc := 64) dX4_readLaw_64 ?_
        refine r_nameI h (fun y65 e65 h => ?_)
        refine r_istore_n (pc := 65) (env' := [(2, vi y65), (0, vr a0), (1, vi a1)]) dX4_readLaw_65 rfl (by decide) rfl ?_
        refine r_aload_n (pc := 66) dX4_readLaw_66 1 rfl rfl ?_
        refine r_gA (pc := 67) dX4_readLaw_67 q1705 fd_62 same_rf h (fun x67 e67 h => ?_)
        refine r_iload_n (pc := 70) dX4_readLaw_70 0 rfl rfl ?_
        refine r_iaload (pc := 71) dX4_readLaw_71 h (fun x71 e71 h => ?_)
        refine r_if_le (pc := 72) (tgt := 81) dX4_readLaw_72 (by decide) h (fun e72 h => ?_) (fun e72 h => ?_)
        · refine r_aload_n (pc := 81) dX4_readLaw_81 1 rfl rfl ?_
          refine r_callV (pc := 82) (rest := []) (lkV dX4_readLaw_82 q1914 xd_X4_next (vc_of vt_X4_next q1916 (fun _ => sX4_next)) adx_X4_next) (by decide) (Nat.le_of_ble_eq_true rfl) rfl h (fun u82 st e82 h => ?_)
          refine r_aload_n (pc := 85) dX4_readLaw_85 1 rfl rfl ?_
          refine r_iconst (pc := 86) (v := 0) dX4_readLaw_86 (by decide) ?_
          refine r_pI (pc := 87) dX4_readLaw_87 q1724 fd_81 same_rf rfl h (fun st e87 h => ?_)
          refine r_aload_n (pc := 90) dX4_readLaw_90 1 rfl rfl ?_
          refine r_iconst (pc := 91) (v := 0) dX4_readLaw_91 (by decide) ?_
          refine r_pI (pc := 92) dX4_readLaw_92 q1725 fd_82 same_rf rfl h (fun st e92 h => ?_)
          refine r_aload_n (pc := 95) dX4_readLaw_95 1 rfl rfl ?_
          refine r_iconst (pc := 96) (v := 0) dX4_readLaw_96 (by decide) ?_
          refine r_pI (pc := 97) dX4_readLaw_97 q1726 fd_83 same_rf rfl h (fun st e97 h => ?_)
          refine r_aload_n (pc := 100) dX4_readLaw_100 1 rfl rfl ?_
          refine r_callI (pc := 101) (rest := []) (lkV dX4_readLaw_101 q1957 xd_X4_cond (vc_of vt_X4_cond q1959 (fun _ => sX4_cond)) adx_X4_cond) (by decide) (Nat.le_of_ble_eq_true rfl) rfl h (fun x101 st e101 h => ?_)
          refine r_if_ne (pc := 104) (tgt := 109) dX4_readLaw_104 (by decide) h (fun e104 h => ?_) (fun e104 h => ?_)
          · refine r_aload_n (pc := 109) dX4_readLaw_109 1 rfl rfl ?_
            refine r_gA (pc := 110) dX4_readLaw_110 q1705 fd_62 same_rf h (fun x110 e110 h => ?_)
            refine r_iload_n (pc := 113) dX4_readLaw_113 0 rfl rfl ?_
            refine r_aload_n (pc := 114) dX4_readLaw_114 1 rfl rfl ?_
            refine r_gI (pc := 115) dX4_readLaw_115 q1726 fd_83 same_rf h (fun x115 e115 h => ?_)
            refine r_iastore (pc := 118) dX4_readLaw_118 h (fun st e118 h => ?_)
            refine r_aload_n (pc := 119) dX4_readLaw_119 1 rfl rfl ?_
            refine r_gA (pc := 120) dX4_readLaw_120 q1705 fd_62 same_rf h (fun x120 e120 h => ?_)
            refine r_iload_n (pc := 123) dX4_readLaw_123 0 rfl rfl ?_
            refine r_iconst (pc := 124) (v := 1) dX4_readLaw_124 (by decide) ?_
            refine r_iadd (pc := 125) dX4_readLaw_125 ?_
            refine r_aload_n (pc := 126) dX4_readLaw_126 1 rfl rfl ?_
            refine r_gI (pc := 127) dX4_readLaw_127 q1724 fd_81 same_rf h (fun x127 e127 h => ?_)
            refine r_iastore (pc := 130) dX4_readLaw_130 h (fun st e130 h => ?_)
            refine r_iconst (pc := 131) (v := 0) dX4_readLaw_131 (by decide) ?_
            refine r_istore_n (pc := 132) (env' := [(3, vi (0 : Int32)), (2, vi y65), (0, vr a0), (1, vi a1)]) dX4_readLaw_132 rfl (by decide) rfl ?_
            exact r_sub (env' := [(0, vr a0), (2, vi y65), (3, vi (0 : Int32))]) [2, 1, 0] rfl (sX4_readLaw_133 hcFuel _ _ _ _ h)
          · refine r_iconst (pc := 107) (v := 0) dX4_readLaw_107 (by decide) ?_
            exact r_ireturn (pc := 108) dX4_readLaw_108 rfl rfl h
        · refine r_aload_n (pc := 75) dX4_readLaw_75 1 rfl rfl ?_
          refine r_iconst (pc := 76) (v := 3) dX4_readLaw_76 (by decide) ?_
          refine r_callI (pc := 77) (rest := []) (lkV dX4_readLaw_77 q1941 xd_X4_bad (vc_of vt_X4_bad q1943 (fun _ => sX4_bad)) adx_X4_bad) (by decide) (Nat.le_of_ble_eq_true rfl) rfl h (fun x77 st e77 h => ?_)
          exact r_ireturn (pc := 80) dX4_readLaw_80 rfl rfl h
      · exact r_sub (env' := [(0, vr a0)]) [0] rfl (sX4_readLaw_41 _ _ h)
  · refine r_aload_n (pc := 12) dX4_readLaw_12 0 rfl rfl ?_
    refine r_iconst (pc := 13) (v := 1) dX4_readLaw_13 (by decide) ?_
    refine r_callI (pc := 14) (rest := []) (lkV dX4_readLaw_14 q1941 xd_X4_bad (vc_of vt_X4_bad q1943 (fun _ => sX4_bad)) adx_X4_bad) (by decide) (Nat.le_of_ble_eq_true rfl) rfl h (fun x14 st e14 h => ?_)
    exact r_ireturn (pc := 17) dX4_readLaw_17 rfl rfl h
theorem sX4_sees_74 {st0 : Mem} {fin : Int32 × Mem} (k0 : Int64) (k1 : Int64) (st : Mem) (h : bX4_sees_74 k0 k1 st = some fin) : G (cX4_sees, "HouseClapsModel", "sees", 18, (some .int), 5) st0 trI fin 74 [] [vj k1, vj k0] st := by
  unfold bX4_sees_74 at h
  refine r_land (pc := 74) dX4_sees_74 ?_
  refine r_callI (pc := 75) (rest := []) (lkS dX4_sees_75 q2132 q2133 q92 (fun _ => sX4_bits) ad_X4_bits) (by decide) (Nat.le_of_ble_eq_true rfl) rfl h (fun x75 st e75 h => ?_)
  exact r_ireturn (pc := 78) dX4_sees_78 rfl rfl h
theorem sX4_sees {a0 : Rf} {a1 : Int32} {a2 : Int32} {a3 : Int32} {a4 : Int32} {st : Mem} {fin : Int32 × Mem} (h : fX4_sees a0 a1 a2 a3 a4 st = some fin) : Con yX4_sees 18 [vr a0, vi a1, vi a2, vi a3, vi a4] st trI fin := by
  refine Con.mk (cc := cX4_sees) (n := 5) (own := "HouseClapsModel") (nm := "sees") (ret := (some .int)) (env := [(0, vr a0), (1, vi a1), (2, vi a2), (3, vi a3), (4, vi a4)]) q2092 rfl rfl rfl (by decide) ⟨Nat.le_of_ble_eq_true rfl, by decide⟩ rfl ?_
  unfold fX4_sees at h
  refine r_aload_n (pc := 0) dX4_sees_0 0 rfl rfl ?_
  refine r_iconst (pc := 1) (v := 0) dX4_sees_1 (by decide) ?_
  refine r_pI (pc := 2) dX4_sees_2 q1698 fd_55 same_rf rfl h (fun st e2 h => ?_)
  refine r_aload_n (pc := 5) dX4_sees_5 0 rfl rfl ?_
  refine r_iload_n (pc := 6) dX4_sees_6 1 rfl rfl ?_
  refine r_callI (pc := 7) (rest := []) (lkV dX4_sees_7 q2040 xd_X4_isSeat (vc_of vt_X4_isSeat q2042 (fun _ => sX4_isSeat)) adx_X4_isSeat) (by decide) (Nat.le_of_ble_eq_true rfl) rfl h (fun x7 st e7 h => ?_)
  refine r_if_eq (pc := 10) (tgt := 39) dX4_sees_10 (by decide) h (fun e10 h => ?_) (fun e10 h => ?_)
  · refine r_iconst (pc := 39) (v := (-1)) dX4_sees_39 (by decide) ?_
    exact r_ireturn (pc := 40) dX4_sees_40 rfl rfl h
  · refine r_iload_n (pc := 13) dX4_sees_13 2 rfl rfl ?_
    refine r_callI (pc := 14) (rest := []) (lkS dX4_sees_14 q2093 q2094 q92 (fun _ => sX4_isMoment) ad_X4_isMoment) (by decide) (Nat.le_of_ble_eq_true rfl) rfl h (fun x14 st e14 h => ?_)
    refine r_if_eq (pc := 17) (tgt := 39) dX4_sees_17 (by decide) h (fun e17 h => ?_) (fun e17 h => ?_)
    · refine r_iconst (pc := 39) (v := (-1)) dX4_sees_39 (by decide) ?_
      exact r_ireturn (pc := 40) dX4_sees_40 rfl rfl h
    · refine r_iload_n (pc := 20) dX4_sees_20 3 rfl rfl ?_
      refine r_iconst (pc := 21) (v := 0) dX4_sees_21 (by decide) ?_
      refine r_iconst (pc := 22) (v := 5) dX4_sees_22 (by decide) ?_
      refine r_callI (pc := 23) (rest := []) (lkS dX4_sees_23 q1949 q1950 q92 (fun _ => sX4_isIn) ad_X4_isIn) (by decide) (Nat.le_of_ble_eq_true rfl) rfl h (fun x23 st e23 h => ?_)
      refine r_if_eq (pc := 26) (tgt := 39) dX4_sees_26 (by decide) h (fun e26 h => ?_) (fun e26 h => ?_)
      · refine r_iconst (pc := 39) (v := (-1)) dX4_sees_39 (by decide) ?_
        exact r_ireturn (pc := 40) dX4_sees_40 rfl rfl h
      · refine r_iload (pc := 29) dX4_sees_29 4 rfl ?_
        refine r_iconst (pc := 31) (v := 1) dX4_sees_31 (by decide) ?_
        refine r_iconst (pc := 32) (v := 2) dX4_sees_32 (by decide) ?_
        refine r_callI (pc := 33) (rest := []) (lkS dX4_sees_33 q1949 q1950 q92 (fun _ => sX4_isIn) ad_X4_isIn) (by decide) (Nat.le_of_ble_eq_true rfl) rfl h (fun x33 st e33 h => ?_)
        refine r_if_ne (pc := 36) (tgt := 41) dX4_sees_36 (by decide) h (fun e36 h => ?_) (fun e36 h => ?_)
        · refine r_aload_n (pc := 41) dX4_sees_41 0 rfl rfl ?_
          refine r_iload_n (pc := 42) dX4_sees_42 2 rfl rfl ?_
          refine r_callV (pc := 43) (rest := []) (lkV dX4_sees_43 q2096 xd_X4_night (vc_of vt_X4_night q2098 (fun _ => sX4_night)) adx_X4_night) (by decide) (Nat.le_of_ble_eq_true rfl) rfl h (fun u43 st e43 h => ?_)
          refine r_aload_n (pc := 46) dX4_sees_46 0 rfl rfl ?_
          refine r_gA (pc := 47) dX4_sees_47 q1727 fd_84 same_rf h (fun x47 e47 h => ?_)
          refine r_bipush (pc := 50) (v := 6) dX4_sees_50 (by decide) ?_
          refine r_iload_n (pc := 52) dX4_sees_52 1 rfl rfl ?_
          refine r_imul (pc := 53) dX4_sees_53 ?_
          refine r_iload_n (pc := 54) dX4_sees_54 3 rfl rfl ?_
          refine r_iadd (pc := 55) dX4_sees_55 ?_
          refine r_laload (pc := 56) dX4_sees_56 h (fun x56 e56 h => ?_)
          refine r_iload (pc := 57) dX4_sees_57 4 rfl ?_
          refine r_iconst (pc := 59) (v := 1) dX4_sees_59 (by decide) ?_
          refine r_icmp_ne (pc := 60) (tgt := 70) dX4_sees_60 (by decide) h (fun e60 h => ?_) (fun e60 h => ?_)
          · refine r_aload_n (pc := 70) dX4_sees_70 0 rfl rfl ?_
            refine r_gJ (pc := 71) dX4_sees_71 q1737 fd_94 same_rf h (fun x71 e71 h => ?_)
            exact r_sub (env' := []) [] rfl (sX4_sees_74 _ _ _ h)
          · refine r_aload_n (pc := 63) dX4_sees_63 0 rfl rfl ?_
            refine r_gJ (pc := 64) dX4_sees_64 q1736 fd_93 same_rf h (fun x64 e64 h => ?_)
            refine r_goto (pc := 67) (tgt := 74) dX4_sees_67 (by decide) ?_
            exact r_sub (env' := []) [] rfl (sX4_sees_74 _ _ _ h)
        · refine r_iconst (pc := 39) (v := (-1)) dX4_sees_39 (by decide) ?_
          exact r_ireturn (pc := 40) dX4_sees_40 rfl rfl h
theorem sX4_sides_305 {st0 : Mem} {fin : Int32 × Mem} {kk214 : Rf → Int32 → Int32 → Int32 → Int32 → Int32 → Mem → Option (Int32 × Mem)} (hk214 : ∀ (v0 : Rf) (v1 : Int32) (v2 : Int32) (v3 : Int32) (v4 : Int32) (v5 : Int32) (st : Mem), kk214 v0 v1 v2 v3 v4 v5 st = some fin → G (cX4_sides, "HouseClapsModel", "sides", 18, (some .int), 9) st0 trI fin 214 [(0, vr v0), (1, vi v1), (2, vi v2), (3, vi v3), (4, vi v4), (5, vi v5)] [] st) (v0 : Rf) (v1 : Int32) (v2 : Int32) (v3 : Int32) (v4 : Int32) (v5 : Int32) (st : Mem) (h : bX4_sides_305 kk214 v0 v1 v2 v3 v4 v5 st = some fin) : G (cX4_sides, "HouseClapsModel", "sides", 18, (some .int), 9) st0 trI fin 305 [(0, vr v0), (1, vi v1), (2, vi v2), (3, vi v3), (4, vi v4), (5, vi v5)] [] st := by
  unfold bX4_sides_305 at h
  refine r_iinc (pc := 305) (env' := [(5, vi (v5 + 1)), (0, vr v0), (1, vi v1), (2, vi v2), (3, vi v3), (4, vi v4)]) (cst := 1) dX4_sides_305 5 rfl (by decide) (by decide) rfl ?_
  refine r_goto (pc := 308) (tgt := 214) dX4_sides_308 (by decide) ?_
  exact r_sub (env' := [(0, vr v0), (1, vi v1), (2, vi v2), (3, vi v3), (4, vi v4), (5, vi (v5 + 1))]) [1, 2, 3, 4, 5, 0] rfl (hk214 _ _ _ _ _ _ _ h)
theorem sX4_sides_268 {st0 : Mem} {fin : Int32 × Mem} {kk214 : Rf → Int32 → Int32 → Int32 → Int32 → Int32 → Mem → Option (Int32 × Mem)} {kk226 : Rf → Int32 → Int32 → Int32 → Int32 → Int32 → Int32 → Int32 → Mem → Option (Int32 × Mem)} (hk214 : ∀ (v0 : Rf) (v1 : Int32) (v2 : Int32) (v3 : Int32) (v4 : Int32) (v5 : Int32) (st : Mem), kk214 v0 v1 v2 v3 v4 v5 st = some fin → G (cX4_sides, "HouseClapsModel", "sides", 18, (some .int), 9) st0 trI fin 214 [(0, vr v0), (1, vi v1), (2, vi v2), (3, vi v3), (4, vi v4), (5, vi v5)] [] st) (hk226 : ∀ (v0 : Rf) (v1 : Int32) (v2 : Int32) (v3 : Int32) (v4 : Int32) (v5 : Int32) (v6 : Int32) (v7 : Int32) (st : Mem), kk226 v0 v1 v2 v3 v4 v5 v6 v7 st = some fin → G (cX4_sides, "HouseClapsModel", "sides", 18, (some .int), 9) st0 trI fin 226 [(0, vr v0), (1, vi v1), (2, vi v2), (3, vi v3), (4, vi v4), (5, vi v5), (6, vi v6), (7, vi v7)] [] st) (v0 : Rf) (v1 : Int32) (v2 : Int32) (v3 : Int32) (v4 : Int32) (v5 : Int32) (v7 : Int32) (k0 : Int32) (st : Mem) (h : bX4_sides_268 kk214 kk226 v0 v1 v2 v3 v4 v5 v7 k0 st = some fin) : G (cX4_sides, "HouseClapsModel", "sides", 18, (some .int), 9) st0 trI fin 268 [(0, vr v0), (1, vi v1), (2, vi v2), (3, vi v3), (4, vi v4), (5, vi v5), (7, vi v7)] [vi k0] st := by
  unfold bX4_sides_268 at h
  refine r_istore (pc := 268) (env' := [(6, vi k0), (0, vr v0), (1, vi v1), (2, vi v2), (3, vi v3), (4, vi v4), (5, vi v5), (7, vi v7)]) dX4_sides_268 (by decide) rfl ?_
  refine r_iinc (pc := 270) (env' := [(7, vi (v7 + 1)), (6, vi k0), (0, vr v0), (1, vi v1), (2, vi v2), (3, vi v3), (4, vi v4), (5, vi v5)]) (cst := 1) dX4_sides_270 7 rfl (by decide) (by decide) rfl ?_
  refine r_goto (pc := 273) (tgt := 226) dX4_sides_273 (by decide) ?_
  exact r_sub (env' := [(0, vr v0), (1, vi v1), (2, vi v2), (3, vi v3), (4, vi v4), (5, vi v5), (6, vi k0), (7, vi (v7 + 1))]) [2, 3, 4, 5, 6, 7, 1, 0] rfl (hk226 _ _ _ _ _ _ _ _ _ h)
theorem sX4_sides_226B {st0 : Mem} {fin : Int32 × Mem} {kk214 : Rf → Int32 → Int32 → Int32 → Int32 → Int32 → Mem → Option (Int32 × Mem)} {kk226 : Rf → Int32 → Int32 → Int32 → Int32 → Int32 → Int32 → Int32 → Mem → Option (Int32 × Mem)} (hk214 : ∀ (v0 : Rf) (v1 : Int32) (v2 : Int32) (v3 : Int32) (v4 : Int32) (v5 : Int32) (st : Mem), kk214 v0 v1 v2 v3 v4 v5 st = some fin → G (cX4_sides, "HouseClapsModel", "sides", 18, (some .int), 9) st0 trI fin 214 [(0, vr v0), (1, vi v1), (2, vi v2), (3, vi v3), (4, vi v4), (5, vi v5)] [] st) (hk226 : ∀ (v0 : Rf) (v1 : Int32) (v2 : Int32) (v3 : Int32) (v4 : Int32) (v5 : Int32) (v6 : Int32) (v7 : Int32) (st : Mem), kk226 v0 v1 v2 v3 v4 v5 v6 v7 st = some fin → G (cX4_sides, "HouseClapsModel", "sides", 18, (some .int), 9) st0 trI fin 226 [(0, vr v0), (1, vi v1), (2, vi v2), (3, vi v3), (4, vi v4), (5, vi v5), (6, vi v6), (7, vi v7)] [] st) (v0 : Rf) (v1 : Int32) (v2 : Int32) (v3 : Int32) (v4 : Int32) (v5 : Int32) (v6 : Int32) (v7 : Int32) (st : Mem) (h : bX4_sides_226B kk214 kk226 v0 v1 v2 v3 v4 v5 v6 v7 st = some fin) : G (cX4_sides, "HouseClapsModel", "sides", 18, (some .int), 9) st0 trI fin 226 [(0, vr v0), (1, vi v1), (2, vi v2), (3, vi v3), (4, vi v4), (5, vi v5), (6, vi v6), (7, vi v7)] [] st := by
  unfold bX4_sides_226B at h
  refine r_iload (pc := 226) dX4_sides_226 7 rfl ?_
  refine r_iload_n (pc := 228) dX4_sides_228 1 rfl rfl ?_
  refine r_icmp_ge (pc := 229) (tgt := 276) dX4_sides_229 (by decide) h (fun e229 h => ?_) (fun e229 h => ?_)
  · refine r_iload (pc := 276) dX4_sides_276 6 rfl ?_
    refine r_iload (pc := 278) dX4_sides_278 4 rfl ?_
    refine r_icmp_lt (pc := 280) (tgt := 286) dX4_sides_280 (by decide) h (fun e280 h => ?_) (fun e280 h => ?_)
    · refine r_iload (pc := 286) dX4_sides_286 6 rfl ?_
      refine r_istore (pc := 288) (env' := [(4, vi v6), (0, vr v0), (1, vi v1), (2, vi v2), (3, vi v3), (5, vi v5), (6, vi v6), (7, vi v7)]) dX4_sides_288 (by decide) rfl ?_
      refine r_aload_n (pc := 290) dX4_sides_290 1 rfl rfl ?_
      refine r_gA (pc := 291) dX4_sides_291 q1752 fd_109 same_rf h (fun x291 e291 h => ?_)
      refine r_iconst (pc := 294) (v := 2) dX4_sides_294 (by decide) ?_
      refine r_aload_n (pc := 295) dX4_sides_295 1 rfl rfl ?_
      refine r_gA (pc := 296) dX4_sides_296 q1744 fd_101 same_rf h (fun x296 e296 h => ?_)
      refine r_iload_n (pc := 299) dX4_sides_299 2 rfl rfl ?_
      refine r_iload (pc := 300) dX4_sides_300 5 rfl ?_
      refine r_iadd (pc := 302) dX4_sides_302 ?_
      refine r_iaload (pc := 303) dX4_sides_303 h (fun x303 e303 h => ?_)
      refine r_iastore (pc := 304) dX4_sides_304 h (fun st e304 h => ?_)
      exact r_sub (env' := [(0, vr v0), (1, vi v1), (2, vi v2), (3, vi v3), (4, vi v6), (5, vi v5)]) [1, 2, 3, 4, 0, 5] rfl (sX4_sides_305 hk214 _ _ _ _ _ _ _ h)
    · refine r_goto (pc := 283) (tgt := 305) dX4_sides_283 (by decide) ?_
      exact r_sub (env' := [(0, vr v0), (1, vi v1), (2, vi v2), (3, vi v3), (4, vi v4), (5, vi v5)]) [0, 1, 2, 3, 4, 5] rfl (sX4_sides_305 hk214 _ _ _ _ _ _ _ h)
  · refine r_aload_n (pc := 232) dX4_sides_232 0 rfl rfl ?_
    refine r_gA (pc := 233) dX4_sides_233 q1748 fd_105 same_rf h (fun x233 e233 h => ?_)
    refine r_bipush (pc := 236) (v := 6) dX4_sides_236 (by decide) ?_
    refine r_iload (pc := 238) dX4_sides_238 7 rfl ?_
    refine r_imul (pc := 240) dX4_sides_240 ?_
    refine r_iload (pc := 241) dX4_sides_241 5 rfl ?_
    refine r_iadd (pc := 243) dX4_sides_243 ?_
    refine r_iaload (pc := 244) dX4_sides_244 h (fun x244 e244 h => ?_)
    refine r_iload (pc := 245) dX4_sides_245 6 rfl ?_
    refine r_icmp_le (pc := 247) (tgt := 266) dX4_sides_247 (by decide) h (fun e247 h => ?_) (fun e247 h => ?_)
    · refine r_iload (pc := 266) dX4_sides_266 6 rfl ?_
      exact r_sub (env' := [(0, vr v0), (1, vi v1), (2, vi v2), (3, vi v3), (4, vi v4), (5, vi v5), (7, vi v7)]) [0, 1, 2, 3, 4, 5, 7] rfl (sX4_sides_268 hk214 hk226 _ _ _ _ _ _ _ _ _ h)
    · refine r_aload_n (pc := 250) dX4_sides_250 0 rfl rfl ?_
      refine r_gA (pc := 251) dX4_sides_251 q1748 fd_105 same_rf h (fun x251 e251 h => ?_)
      refine r_bipush (pc := 254) (v := 6) dX4_sides_254 (by decide) ?_
      refine r_iload (pc := 256) dX4_sides_256 7 rfl ?_
      refine r_imul (pc := 258) dX4_sides_258 ?_
      refine r_iload (pc := 259) dX4_sides_259 5 rfl ?_
      refine r_iadd (pc := 261) dX4_sides_261 ?_
      refine r_iaload (pc := 262) dX4_sides_262 h (fun x262 e262 h => ?_)
      refine r_goto (pc := 263) (tgt := 268) dX4_sides_263 (by decide) ?_
      exact r_sub (env' := [(0, vr v0), (1, vi v1), (2, vi v2), (3, vi v3), (4, vi v4), (5, vi v5), (7, vi v7)]) [0, 1, 2, 3, 4, 5, 7] rfl (sX4_sides_268 hk214 hk226 _ _ _ _ _ _ _ _ _ h)
theorem sX4_sides_226 {st0 : Mem} {fin : Int32 × Mem} {kk214 : Rf → Int32 → Int32 → Int32 → Int32 → Int32 → Mem → Option (Int32 × Mem)} (hk214 : ∀ (v0 : Rf) (v1 : Int32) (v2 : Int32) (v3 : Int32) (v4 : Int32) (v5 : Int32) (st : Mem), kk214 v0 v1 v2 v3 v4 v5 st = some fin → G (cX4_sides, "HouseClapsModel", "sides", 18, (some .int), 9) st0 trI fin 214 [(0, vr v0), (1, vi v1), (2, vi v2), (3, vi v3), (4, vi v4), (5, vi v5)] [] st) (n : Nat) : ∀ (v0 : Rf) (v1 : Int32) (v2 : Int32) (v3 : Int32) (v4 : Int32) (v5 : Int32) (v6 : Int32) (v7 : Int32) (st : Mem), bX4_sides_226 kk214 n v0 v1 v2 v3 v4 v5 v6 v7 st = some fin → G (cX4_sides, "HouseClapsModel", "sides", 18, (some .int), 9) st0 trI fin 226 [(0, vr v0), (1, vi v1), (2, vi v2), (3, vi v3), (4, vi v4), (5, vi v5), (6, vi v6), (7, vi v7)] [] st := by
  induction n with
  | zero => intro v0 v1 v2 v3 v4 v5 v6 v7 st h; cases h
  | succ n ih => intro v0 v1 v2 v3 v4 v5 v6 v7 st h; exact sX4_sides_226B hk214  ih v0 v1 v2 v3 v4 v5 v6 v7 st h
theorem sX4_sides_214B {st0 : Mem} {fin : Int32 × Mem} {kk214 : Rf → Int32 → Int32 → Int32 → Int32 → Int32 → Mem → Option (Int32 × Mem)} (hk214 : ∀ (v0 : Rf) (v1 : Int32) (v2 : Int32) (v3 : Int32) (v4 : Int32) (v5 : Int32) (st : Mem), kk214 v0 v1 v2 v3 v4 v5 st = some fin → G (cX4_sides, "HouseClapsModel", "sides", 18, (some .int), 9) st0 trI fin 214 [(0, vr v0), (1, vi v1), (2, vi v2), (3, vi v3), (4, vi v4), (5, vi v5)] [] st) (v0 : Rf) (v1 : Int32) (v2 : Int32) (v3 : Int32) (v4 : Int32) (v5 : Int32) (st : Mem) (h : bX4_sides_214B kk214 v0 v1 v2 v3 v4 v5 st = some fin) : G (cX4_sides, "HouseClapsModel", "sides", 18, (some .int), 9) st0 trI fin 214 [(0, vr v0), (1, vi v1), (2, vi v2), (3, vi v3), (4, vi v4), (5, vi v5)] [] st := by
  unfold bX4_sides_214B at h
  refine r_iload (pc := 214) dX4_sides_214 5 rfl ?_
  refine r_iload_n (pc := 216) dX4_sides_216 2 rfl rfl ?_
  refine r_icmp_ge (pc := 217) (tgt := 311) dX4_sides_217 (by decide) h (fun e217 h => ?_) (fun e217 h => ?_)
  · refine r_aload_n (pc := 311) dX4_sides_311 0 rfl rfl ?_
    refine r_gA (pc := 312) dX4_sides_312 q1752 fd_109 same_rf h (fun x312 e312 h => ?_)
    refine r_iconst (pc := 315) (v := 0) dX4_sides_315 (by decide) ?_
    refine r_iload (pc := 316) dX4_sides_316 4 rfl ?_
    refine r_iastore (pc := 318) dX4_sides_318 h (fun st e318 h => ?_)
    refine r_aload_n (pc := 319) dX4_sides_319 0 rfl rfl ?_
    refine r_iconst (pc := 320) (v := 1) dX4_sides_320 (by decide) ?_
    refine r_pI (pc := 321) dX4_sides_321 q1753 fd_110 same_rf rfl h (fun st e321 h => ?_)
    refine r_iload_n (pc := 324) dX4_sides_324 3 rfl rfl ?_
    exact r_ireturn (pc := 325) dX4_sides_325 rfl rfl h
  · refine r_iconst (pc := 220) (v := 0) dX4_sides_220 (by decide) ?_
    refine r_istore (pc := 221) (env' := [(6, vi (0 : Int32)), (0, vr v0), (1, vi v1), (2, vi v2), (3, vi v3), (4, vi v4), (5, vi v5)]) dX4_sides_221 (by decide) rfl ?_
    refine r_iconst (pc := 223) (v := 0) dX4_sides_223 (by decide) ?_
    refine r_istore (pc := 224) (env' := [(7, vi (0 : Int32)), (6, vi (0 : Int32)), (0, vr v0), (1, vi v1), (2, vi v2), (3, vi v3), (4, vi v4), (5, vi v5)]) dX4_sides_224 (by decide) rfl ?_
    exact r_sub (env' := [(0, vr v0), (1, vi v1), (2, vi v2), (3, vi v3), (4, vi v4), (5, vi v5), (6, vi (0 : Int32)), (7, vi (0 : Int32))]) [2, 3, 4, 5, 6, 7, 1, 0] rfl (sX4_sides_226 hk214 hcFuel _ _ _ _ _ _ _ _ _ h)
theorem sX4_sides_214 {st0 : Mem} {fin : Int32 × Mem} (n : Nat) : ∀ (v0 : Rf) (v1 : Int32) (v2 : Int32) (v3 : Int32) (v4 : Int32) (v5 : Int32) (st : Mem), bX4_sides_214 n v0 v1 v2 v3 v4 v5 st = some fin → G (cX4_sides, "HouseClapsModel", "sides", 18, (some .int), 9) st0 trI fin 214 [(0, vr v0), (1, vi v1), (2, vi v2), (3, vi v3), (4, vi v4), (5, vi v5)] [] st := by
  induction n with
  | zero => intro v0 v1 v2 v3 v4 v5 st h; cases h
  | succ n ih => intro v0 v1 v2 v3 v4 v5 st h; exact sX4_sides_214B  ih v0 v1 v2 v3 v4 v5 st h
theorem sX4_sides_205 {st0 : Mem} {fin : Int32 × Mem} {kk87 : Rf → Int32 → Int32 → Int32 → Int32 → Int32 → Mem → Option (Int32 × Mem)} (hk87 : ∀ (v0 : Rf) (v1 : Int32) (v2 : Int32) (v3 : Int32) (v4 : Int32) (v5 : Int32) (st : Mem), kk87 v0 v1 v2 v3 v4 v5 st = some fin → G (cX4_sides, "HouseClapsModel", "sides", 18, (some .int), 9) st0 trI fin 87 [(0, vr v0), (1, vi v1), (2, vi v2), (3, vi v3), (4, vi v4), (5, vi v5)] [] st) (v0 : Rf) (v1 : Int32) (v2 : Int32) (v3 : Int32) (v4 : Int32) (v5 : Int32) (st : Mem) (h : bX4_sides_205 kk87 v0 v1 v2 v3 v4 v5 st = some fin) : G (cX4_sides, "HouseClapsModel", "sides", 18, (some .int), 9) st0 trI fin 205 [(0, vr v0), (1, vi v1), (2, vi v2), (3, vi v3), (4, vi v4), (5, vi v5)] [] st := by
  unfold bX4_sides_205 at h
  refine r_iinc (pc := 205) (env' := [(5, vi (v5 + 1)), (0, vr v0), (1, vi v1), (2, vi v2), (3, vi v3), (4, vi v4)]) (cst := 1) dX4_sides_205 5 rfl (by decide) (by decide) rfl ?_
  refine r_goto (pc := 208) (tgt := 87) dX4_sides_208 (by decide) ?_
  exact r_sub (env' := [(0, vr v0), (1, vi v1), (2, vi v2), (3, vi v3), (4, vi v4), (5, vi (v5 + 1))]) [1, 2, 3, 4, 5, 0] rfl (hk87 _ _ _ _ _ _ _ h)
theorem sX4_sides_172 {st0 : Mem} {fin : Int32 × Mem} {kk87 : Rf → Int32 → Int32 → Int32 → Int32 → Int32 → Mem → Option (Int32 × Mem)} {kk101 : Rf → Int32 → Int32 → Int32 → Int32 → Int32 → Int32 → Int32 → Mem → Option (Int32 × Mem)} (hk87 : ∀ (v0 : Rf) (v1 : Int32) (v2 : Int32) (v3 : Int32) (v4 : Int32) (v5 : Int32) (st : Mem), kk87 v0 v1 v2 v3 v4 v5 st = some fin → G (cX4_sides, "HouseClapsModel", "sides", 18, (some .int), 9) st0 trI fin 87 [(0, vr v0), (1, vi v1), (2, vi v2), (3, vi v3), (4, vi v4), (5, vi v5)] [] st) (hk101 : ∀ (v0 : Rf) (v1 : Int32) (v2 : Int32) (v3 : Int32) (v4 : Int32) (v5 : Int32) (v6 : Int32) (v7 : Int32) (st : Mem), kk101 v0 v1 v2 v3 v4 v5 v6 v7 st = some fin → G (cX4_sides, "HouseClapsModel", "sides", 18, (some .int), 9) st0 trI fin 101 [(0, vr v0), (1, vi v1), (2, vi v2), (3, vi v3), (4, vi v4), (5, vi v5), (6, vi v6), (7, vi v7)] [] st) (v0 : Rf) (v1 : Int32) (v2 : Int32) (v3 : Int32) (v4 : Int32) (v5 : Int32) (v7 : Int32) (k0 : Int32) (st : Mem) (h : bX4_sides_172 kk87 kk101 v0 v1 v2 v3 v4 v5 v7 k0 st = some fin) : G (cX4_sides, "HouseClapsModel", "sides", 18, (some .int), 9) st0 trI fin 172 [(0, vr v0), (1, vi v1), (2, vi v2), (3, vi v3), (4, vi v4), (5, vi v5), (7, vi v7)] [vi k0] st := by
  unfold bX4_sides_172 at h
  refine r_istore (pc := 172) (env' := [(6, vi k0), (0, vr v0), (1, vi v1), (2, vi v2), (3, vi v3), (4, vi v4), (5, vi v5), (7, vi v7)]) dX4_sides_172 (by decide) rfl ?_
  refine r_iinc (pc := 174) (env' := [(7, vi (v7 + 1)), (6, vi k0), (0, vr v0), (1, vi v1), (2, vi v2), (3, vi v3), (4, vi v4), (5, vi v5)]) (cst := 1) dX4_sides_174 7 rfl (by decide) (by decide) rfl ?_
  refine r_goto (pc := 177) (tgt := 101) dX4_sides_177 (by decide) ?_
  exact r_sub (env' := [(0, vr v0), (1, vi v1), (2, vi v2), (3, vi v3), (4, vi v4), (5, vi v5), (6, vi k0), (7, vi (v7 + 1))]) [2, 3, 4, 5, 6, 7, 1, 0] rfl (hk101 _ _ _ _ _ _ _ _ _ h)
theorem sX4_sides_101B {st0 : Mem} {fin : Int32 × Mem} {kk87 : Rf → Int32 → Int32 → Int32 → Int32 → Int32 → Mem → Option (Int32 × Mem)} {kk101 : Rf → Int32 → Int32 → Int32 → Int32 → Int32 → Int32 → Int32 → Mem → Option (Int32 × Mem)} (hk87 : ∀ (v0 : Rf) (v1 : Int32) (v2 : Int32) (v3 : Int32) (v4 : Int32) (v5 : Int32) (st : Mem), kk87 v0 v1 v2 v3 v4 v5 st = some fin → G (cX4_sides, "HouseClapsModel", "sides", 18, (some .int), 9) st0 trI fin 87 [(0, vr v0), (1, vi v1), (2, vi v2), (3, vi v3), (4, vi v4), (5, vi v5)] [] st) (hk101 : ∀ (v0 : Rf) (v1 : Int32) (v2 : Int32) (v3 : Int32) (v4 : Int32) (v5 : Int32) (v6 : Int32) (v7 : Int32) (st : Mem), kk101 v0 v1 v2 v3 v4 v5 v6 v7 st = some fin → G (cX4_sides, "HouseClapsModel", "sides", 18, (some .int), 9) st0 trI fin 101 [(0, vr v0), (1, vi v1), (2, vi v2), (3, vi v3), (4, vi v4), (5, vi v5), (6, vi v6), (7, vi v7)] [] st) (v0 : Rf) (v1 : Int32) (v2 : Int32) (v3 : Int32) (v4 : Int32) (v5 : Int32) (v6 : Int32) (v7 : Int32) (st : Mem) (h : bX4_sides_101B kk87 kk101 v0 v1 v2 v3 v4 v5 v6 v7 st = some fin) : G (cX4_sides, "HouseClapsModel", "sides", 18, (some .int), 9) st0 trI fin 101 [(0, vr v0), (1, vi v1), (2, vi v2), (3, vi v3), (4, vi v4), (5, vi v5), (6, vi v6), (7, vi v7)] [] st := by
  unfold bX4_sides_101B at h
  refine r_iload (pc := 101) dX4_sides_101 7 rfl ?_
  refine r_iload_n (pc := 103) dX4_sides_103 2 rfl rfl ?_
  refine r_icmp_ge (pc := 104) (tgt := 180) dX4_sides_104 (by decide) h (fun e104 h => ?_) (fun e104 h => ?_)
  · refine r_iload (pc := 180) dX4_sides_180 6 rfl ?_
    refine r_iload_n (pc := 182) dX4_sides_182 3 rfl rfl ?_
    refine r_icmp_gt (pc := 183) (tgt := 189) dX4_sides_183 (by decide) h (fun e183 h => ?_) (fun e183 h => ?_)
    · refine r_iload (pc := 189) dX4_sides_189 6 rfl ?_
      refine r_istore_n (pc := 191) (env' := [(3, vi v6), (0, vr v0), (1, vi v1), (2, vi v2), (4, vi v4), (5, vi v5), (6, vi v6), (7, vi v7)]) dX4_sides_191 rfl (by decide) rfl ?_
      refine r_aload_n (pc := 192) dX4_sides_192 1 rfl rfl ?_
      refine r_gA (pc := 193) dX4_sides_193 q1752 fd_109 same_rf h (fun x193 e193 h => ?_)
      refine r_iconst (pc := 196) (v := 1) dX4_sides_196 (by decide) ?_
      refine r_aload_n (pc := 197) dX4_sides_197 1 rfl rfl ?_
      refine r_gA (pc := 198) dX4_sides_198 q1744 fd_101 same_rf h (fun x198 e198 h => ?_)
      refine r_iload (pc := 201) dX4_sides_201 5 rfl ?_
      refine r_iaload (pc := 203) dX4_sides_203 h (fun x203 e203 h => ?_)
      refine r_iastore (pc := 204) dX4_sides_204 h (fun st e204 h => ?_)
      exact r_sub (env' := [(0, vr v0), (1, vi v1), (2, vi v2), (3, vi v6), (4, vi v4), (5, vi v5)]) [1, 2, 3, 0, 4, 5] rfl (sX4_sides_205 hk87 _ _ _ _ _ _ _ h)
    · refine r_goto (pc := 186) (tgt := 205) dX4_sides_186 (by decide) ?_
      exact r_sub (env' := [(0, vr v0), (1, vi v1), (2, vi v2), (3, vi v3), (4, vi v4), (5, vi v5)]) [0, 1, 2, 3, 4, 5] rfl (sX4_sides_205 hk87 _ _ _ _ _ _ _ h)
  · refine r_aload_n (pc := 107) dX4_sides_107 0 rfl rfl ?_
    refine r_aload_n (pc := 108) dX4_sides_108 0 rfl rfl ?_
    refine r_gJ (pc := 109) dX4_sides_109 q1714 fd_71 same_rf h (fun x109 e109 h => ?_)
    refine r_lconst (pc := 112) (v := 1) dX4_sides_112 (by decide) ?_
    refine r_aload_n (pc := 113) dX4_sides_113 0 rfl rfl ?_
    refine r_gA (pc := 114) dX4_sides_114 q1744 fd_101 same_rf h (fun x114 e114 h => ?_)
    refine r_iload (pc := 117) dX4_sides_117 5 rfl ?_
    refine r_iaload (pc := 119) dX4_sides_119 h (fun x119 e119 h => ?_)
    refine r_lshl (pc := 120) dX4_sides_120 ?_
    refine r_lor (pc := 121) dX4_sides_121 ?_
    refine r_aload_n (pc := 122) dX4_sides_122 0 rfl rfl ?_
    refine r_gJ (pc := 123) dX4_sides_123 q1715 fd_72 same_rf h (fun x123 e123 h => ?_)
    refine r_lconst (pc := 126) (v := 1) dX4_sides_126 (by decide) ?_
    refine r_aload_n (pc := 127) dX4_sides_127 0 rfl rfl ?_
    refine r_gA (pc := 128) dX4_sides_128 q1744 fd_101 same_rf h (fun x128 e128 h => ?_)
    refine r_iload_n (pc := 131) dX4_sides_131 1 rfl rfl ?_
    refine r_iload (pc := 132) dX4_sides_132 7 rfl ?_
    refine r_iadd (pc := 134) dX4_sides_134 ?_
    refine r_iaload (pc := 135) dX4_sides_135 h (fun x135 e135 h => ?_)
    refine r_lshl (pc := 136) dX4_sides_136 ?_
    refine r_lor (pc := 137) dX4_sides_137 ?_
    refine r_callI (pc := 138) (rest := []) (lkV dX4_sides_138 q2183 xd_X4_height (vc_of vt_X4_height q2185 (fun _ => sX4_height)) adx_X4_height) (by decide) (Nat.le_of_ble_eq_true rfl) rfl h (fun x138 st e138 h => ?_)
    refine r_istore (pc := 141) (env' := [(8, vi x138), (0, vr v0), (1, vi v1), (2, vi v2), (3, vi v3), (4, vi v4), (5, vi v5), (6, vi v6), (7, vi v7)]) dX4_sides_141 (by decide) rfl ?_
    refine r_aload_n (pc := 143) dX4_sides_143 1 rfl rfl ?_
    refine r_gA (pc := 144) dX4_sides_144 q1748 fd_105 same_rf h (fun x144 e144 h => ?_)
    refine r_bipush (pc := 147) (v := 6) dX4_sides_147 (by decide) ?_
    refine r_iload (pc := 149) dX4_sides_149 6 rfl ?_
    refine r_imul (pc := 151) dX4_sides_151 ?_
    refine r_iload (pc := 152) dX4_sides_152 8 rfl ?_
    refine r_iadd (pc := 154) dX4_sides_154 ?_
    refine r_iload (pc := 155) dX4_sides_155 0 rfl ?_
    refine r_iastore (pc := 157) dX4_sides_157 h (fun st e157 h => ?_)
    refine r_iload (pc := 158) dX4_sides_158 0 rfl ?_
    refine r_iload (pc := 160) dX4_sides_160 7 rfl ?_
    refine r_icmp_ge (pc := 162) (tgt := 170) dX4_sides_162 (by decide) h (fun e162 h => ?_) (fun e162 h => ?_)
    · refine r_iload (pc := 170) dX4_sides_170 7 rfl ?_
      exact r_sub (env' := [(0, vr v0), (1, vi v1), (2, vi v2), (3, vi v3), (4, vi v4), (5, vi v5), (7, vi v7)]) [1, 2, 3, 4, 5, 6, 8] rfl (sX4_sides_172 hk87 hk101 _ _ _ _ _ _ _ _ _ h)
    · refine r_iload (pc := 165) dX4_sides_165 0 rfl ?_
      refine r_goto (pc := 167) (tgt := 172) dX4_sides_167 (by decide) ?_
      exact r_sub (env' := [(0, vr v0), (1, vi v1), (2, vi v2), (3, vi v3), (4, vi v4), (5, vi v5), (7, vi v7)]) [1, 2, 3, 4, 5, 6, 8] rfl (sX4_sides_172 hk87 hk101 _ _ _ _ _ _ _ _ _ h)
theorem sX4_sides_101 {st0 : Mem} {fin : Int32 × Mem} {kk87 : Rf → Int32 → Int32 → Int32 → Int32 → Int32 → Mem → Option (Int32 × Mem)} (hk87 : ∀ (v0 : Rf) (v1 : Int32) (v2 : Int32) (v3 : Int32) (v4 : Int32) (v5 : Int32) (st : Mem), kk87 v0 v1 v2 v3 v4 v5 st = some fin → G (cX4_sides, "HouseClapsModel", "sides", 18, (some .int), 9) st0 trI fin 87 [(0, vr v0), (1, vi v1), (2, vi v2), (3, vi v3), (4, vi v4), (5, vi v5)] [] st) (n : Nat) : ∀ (v0 : Rf) (v1 : Int32) (v2 : Int32) (v3 : Int32) (v4 : Int32) (v5 : Int32) (v6 : Int32) (v7 : Int32) (st : Mem), bX4_sides_101 kk87 n v0 v1 v2 v3 v4 v5 v6 v7 st = some fin → G (cX4_sides, "HouseClapsModel", "sides", 18, (some .int), 9) st0 trI fin 101 [(0, vr v0), (1, vi v1), (2, vi v2), (3, vi v3), (4, vi v4), (5, vi v5), (6, vi v6), (7, vi v7)] [] st := by
  induction n with
  | zero => intro v0 v1 v2 v3 v4 v5 v6 v7 st h; cases h
  | succ n ih => intro v0 v1 v2 v3 v4 v5 v6 v7 st h; exact sX4_sides_101B hk87  ih v0 v1 v2 v3 v4 v5 v6 v7 st h
theorem sX4_sides_87B {st0 : Mem} {fin : Int32 × Mem} {kk87 : Rf → Int32 → Int32 → Int32 → Int32 → Int32 → Mem → Option (Int32 × Mem)} (hk87 : ∀ (v0 : Rf) (v1 : Int32) (v2 : Int32) (v3 : Int32) (v4 : Int32) (v5 : Int32) (st : Mem), kk87 v0 v1 v2 v3 v4 v5 st = some fin → G (cX4_sides, "HouseClapsModel", "sides", 18, (some .int), 9) st0 trI fin 87 [(0, vr v0), (1, vi v1), (2, vi v2), (3, vi v3), (4, vi v4), (5, vi v5)] [] st) (v0 : Rf) (v1 : Int32) (v2 : Int32) (v3 : Int32) (v4 : Int32) (v5 : Int32) (st : Mem) (h : bX4_sides_87B kk87 v0 v1 v2 v3 v4 v5 st = some fin) : G (cX4_sides, "HouseClapsModel", "sides", 18, (some .int), 9) st0 trI fin 87 [(0, vr v0), (1, vi v1), (2, vi v2), (3, vi v3), (4, vi v4), (5, vi v5)] [] st := by
  unfold bX4_sides_87B at h
  refine r_iload (pc := 87) dX4_sides_87 5 rfl ?_
  refine r_iload_n (pc := 89) dX4_sides_89 1 rfl rfl ?_
  refine r_icmp_ge (pc := 90) (tgt := 211) dX4_sides_90 (by decide) h (fun e90 h => ?_) (fun e90 h => ?_)
  · refine r_iconst (pc := 211) (v := 0) dX4_sides_211 (by decide) ?_
    refine r_istore (pc := 212) (env' := [(5, vi (0 : Int32)), (0, vr v0), (1, vi v1), (2, vi v2), (3, vi v3), (4, vi v4)]) dX4_sides_212 (by decide) rfl ?_
    exact r_sub (env' := [(0, vr v0), (1, vi v1), (2, vi v2), (3, vi v3), (4, vi v4), (5, vi (0 : Int32))]) [1, 2, 3, 4, 5, 0] rfl (sX4_sides_214 hcFuel _ _ _ _ _ _ _ h)
  · refine r_ldc_w (pc := 93) dX4_sides_93 q2199 ?_
    refine r_istore (pc := 96) (env' := [(6, vi (1000000000 : Int32)), (0, vr v0), (1, vi v1), (2, vi v2), (3, vi v3), (4, vi v4), (5, vi v5)]) dX4_sides_96 (by decide) rfl ?_
    refine r_iconst (pc := 98) (v := 0) dX4_sides_98 (by decide) ?_
    refine r_istore (pc := 99) (env' := [(7, vi (0 : Int32)), (6, vi (1000000000 : Int32)), (0, vr v0), (1, vi v1), (2, vi v2), (3, vi v3), (4, vi v4), (5, vi v5)]) dX4_sides_99 (by decide) rfl ?_
    exact r_sub (env' := [(0, vr v0), (1, vi v1), (2, vi v2), (3, vi v3), (4, vi v4), (5, vi v5), (6, vi (1000000000 : Int32)), (7, vi (0 : Int32))]) [2, 3, 4, 5, 6, 7, 1, 0] rfl (sX4_sides_101 hk87 hcFuel _ _ _ _ _ _ _ _ _ h)
theorem sX4_sides_87 {st0 : Mem} {fin : Int32 × Mem} (n : Nat) : ∀ (v0 : Rf) (v1 : Int32) (v2 : Int32) (v3 : Int32) (v4 : Int32) (v5 : Int32) (st : Mem), bX4_sides_87 n v0 v1 v2 v3 v4 v5 st = some fin → G (cX4_sides, "HouseClapsModel", "sides", 18, (some .int), 9) st0 trI fin 87 [(0, vr v0), (1, vi v1), (2, vi v2), (3, vi v3), (4, vi v4), (5, vi v5)] [] st := by
  induction n with
  | zero => intro v0 v1 v2 v3 v4 v5 st h; cases h
  | succ n ih => intro v0 v1 v2 v3 v4 v5 st h; exact sX4_sides_87B  ih v0 v1 v2 v3 v4 v5 st h
theorem sX4_sides_28 {st0 : Mem} {fin : Int32 × Mem} (v0 : Rf) (k0 : Int32) (st : Mem) (h : bX4_sides_28 v0 k0 st = some fin) : G (cX4_sides, "HouseClapsModel", "sides", 18, (some .int), 9) st0 trI fin 28 [(0, vr v0)] [vi k0] st := by
  unfold bX4_sides_28 at h
  refine r_istore_n (pc := 28) (env' := [(1, vi k0), (0, vr v0)]) dX4_sides_28 rfl (by decide) rfl ?_
  refine r_iload_n (pc := 29) dX4_sides_29 0 rfl rfl ?_
  refine r_iconst (pc := 30) (v := 1) dX4_sides_30 (by decide) ?_
  refine r_bipush (pc := 31) (v := 6) dX4_sides_31 (by decide) ?_
  refine r_callI (pc := 33) (rest := []) (lkS dX4_sides_33 q1949 q1950 q92 (fun _ => sX4_isIn) ad_X4_isIn) (by decide) (Nat.le_of_ble_eq_true rfl) rfl h (fun x33 st e33 h => ?_)
  refine r_if_eq (pc := 36) (tgt := 68) dX4_sides_36 (by decide) h (fun e36 h => ?_) (fun e36 h => ?_)
  · refine r_iconst (pc := 68) (v := (-1)) dX4_sides_68 (by decide) ?_
    exact r_ireturn (pc := 69) dX4_sides_69 rfl rfl h
  · refine r_aload_n (pc := 39) dX4_sides_39 1 rfl rfl ?_
    refine r_gI (pc := 40) dX4_sides_40 q1701 fd_58 same_rf h (fun x40 e40 h => ?_)
    refine r_iconst (pc := 43) (v := 1) dX4_sides_43 (by decide) ?_
    refine r_isub (pc := 44) dX4_sides_44 ?_
    refine r_iload_n (pc := 45) dX4_sides_45 0 rfl rfl ?_
    refine r_isub (pc := 46) dX4_sides_46 ?_
    refine r_iconst (pc := 47) (v := 1) dX4_sides_47 (by decide) ?_
    refine r_bipush (pc := 48) (v := 6) dX4_sides_48 (by decide) ?_
    refine r_callI (pc := 50) (rest := []) (lkS dX4_sides_50 q1949 q1950 q92 (fun _ => sX4_isIn) ad_X4_isIn) (by decide) (Nat.le_of_ble_eq_true rfl) rfl h (fun x50 st e50 h => ?_)
    refine r_if_eq (pc := 53) (tgt := 68) dX4_sides_53 (by decide) h (fun e53 h => ?_) (fun e53 h => ?_)
    · refine r_iconst (pc := 68) (v := (-1)) dX4_sides_68 (by decide) ?_
      exact r_ireturn (pc := 69) dX4_sides_69 rfl rfl h
    · refine r_aload_n (pc := 56) dX4_sides_56 1 rfl rfl ?_
      refine r_iconst (pc := 57) (v := 1) dX4_sides_57 (by decide) ?_
      refine r_aload_n (pc := 58) dX4_sides_58 1 rfl rfl ?_
      refine r_gI (pc := 59) dX4_sides_59 q1701 fd_58 same_rf h (fun x59 e59 h => ?_)
      refine r_callI (pc := 62) (rest := []) (lkV dX4_sides_62 q2195 xd_X4_takesSeats (vc_of vt_X4_takesSeats q2197 (fun _ => sX4_takesSeats)) adx_X4_takesSeats) (by decide) (Nat.le_of_ble_eq_true rfl) rfl h (fun x62 st e62 h => ?_)
      refine r_if_ne (pc := 65) (tgt := 70) dX4_sides_65 (by decide) h (fun e65 h => ?_) (fun e65 h => ?_)
      · refine r_aload_n (pc := 70) dX4_sides_70 1 rfl rfl ?_
        refine r_gI (pc := 71) dX4_sides_71 q1745 fd_102 same_rf h (fun x71 e71 h => ?_)
        refine r_iload_n (pc := 74) dX4_sides_74 0 rfl rfl ?_
        refine r_isub (pc := 75) dX4_sides_75 ?_
        refine r_istore_n (pc := 76) (env' := [(2, vi (x71 - k0)), (1, vi k0), (0, vr v0)]) dX4_sides_76 rfl (by decide) rfl ?_
        refine r_iconst (pc := 77) (v := (-1)) dX4_sides_77 (by decide) ?_
        refine r_istore_n (pc := 78) (env' := [(3, vi (-1 : Int32)), (2, vi (x71 - k0)), (1, vi k0), (0, vr v0)]) dX4_sides_78 rfl (by decide) rfl ?_
        refine r_ldc_w (pc := 79) dX4_sides_79 q2199 ?_
        refine r_istore (pc := 82) (env' := [(4, vi (1000000000 : Int32)), (3, vi (-1 : Int32)), (2, vi (x71 - k0)), (1, vi k0), (0, vr v0)]) dX4_sides_82 (by decide) rfl ?_
        refine r_iconst (pc := 84) (v := 0) dX4_sides_84 (by decide) ?_
        refine r_istore (pc := 85) (env' := [(5, vi (0 : Int32)), (4, vi (1000000000 : Int32)), (3, vi (-1 : Int32)), (2, vi (x71 - k0)), (1, vi k0), (0, vr v0)]) dX4_sides_85 (by decide) rfl ?_
        exact r_sub (env' := [(0, vr v0), (1, vi k0), (2, vi (x71 - k0)), (3, vi (-1 : Int32)), (4, vi (1000000000 : Int32)), (5, vi (0 : Int32))]) [5, 4, 3, 2, 1, 0] rfl (sX4_sides_87 hcFuel _ _ _ _ _ _ _ h)
      · refine r_iconst (pc := 68) (v := (-1)) dX4_sides_68 (by decide) ?_
        exact r_ireturn (pc := 69) dX4_sides_69 rfl rfl h
theorem sX4_sides {a0 : Rf} {st : Mem} {fin : Int32 × Mem} (h : fX4_sides a0 st = some fin) : Con yX4_sides 18 [vr a0] st trI fin := by
  refine Con.mk (cc := cX4_sides) (n := 9) (own := "HouseClapsModel") (nm := "sides") (ret := (some .int)) (env := [(0, vr a0)]) q2230 rfl rfl rfl (by decide) ⟨Nat.le_of_ble_eq_true rfl, by decide⟩ rfl ?_
  unfold fX4_sides at h
  refine r_aload_n (pc := 0) dX4_sides_0 0 rfl rfl ?_
  refine r_iconst (pc := 1) (v := 0) dX4_sides_1 (by decide) ?_
  refine r_pI (pc := 2) dX4_sides_2 q1698 fd_55 same_rf rfl h (fun st e2 h => ?_)
  refine r_aload_n (pc := 5) dX4_sides_5 0 rfl rfl ?_
  refine r_sipush (pc := 6) (v := 940) dX4_sides_6 (by decide) ?_
  refine r_callV (pc := 9) (rest := []) (lkV dX4_sides_9 q1910 xd_X4_taken (vc_of vt_X4_taken q1912 (fun _ => sX4_taken)) adx_X4_taken) (by decide) (Nat.le_of_ble_eq_true rfl) rfl h (fun u9 st e9 h => ?_)
  refine r_aload_n (pc := 12) dX4_sides_12 0 rfl rfl ?_
  refine r_gI (pc := 13) dX4_sides_13 q1701 fd_58 same_rf h (fun x13 e13 h => ?_)
  refine r_if_ne (pc := 16) (tgt := 23) dX4_sides_16 (by decide) h (fun e16 h => ?_) (fun e16 h => ?_)
  · refine r_aload_n (pc := 23) dX4_sides_23 0 rfl rfl ?_
    refine r_iconst (pc := 24) (v := 0) dX4_sides_24 (by decide) ?_
    refine r_callI (pc := 25) (rest := []) (lkV dX4_sides_25 q1945 xd_X4_octet (vc_of vt_X4_octet q1947 (fun _ => sX4_octet)) adx_X4_octet) (by decide) (Nat.le_of_ble_eq_true rfl) rfl h (fun x25 st e25 h => ?_)
    exact sX4_sides_28 _ _ _ h
  · refine r_iconst (pc := 19) (v := 0) dX4_sides_19 (by decide) ?_
    refine r_goto (pc := 20) (tgt := 28) dX4_sides_20 (by decide) ?_
    exact sX4_sides_28 _ _ _ h
theorem sX4_stands_24B {st0 : Mem} {fin : Int32 × Mem} {kk24 : Rf → Int32 → Int32 → Mem → Option (Int32 × Mem)} (hk24 : ∀ (v0 : Rf) (v1 : Int32) (v2 : Int32) (st : Mem), kk24 v0 v1 v2 st = some fin → G (cX4_stands, "HouseClapsModel", "stands", 18, (some .int), 3) st0 trI fin 24 [(0, vr v0), (1, vi v1), (2, vi v2)] [] st) (v0 : Rf) (v1 : Int32) (v2 : Int32) (st : Mem) (h : bX4_stands_24B kk24 v0 v1 v2 st = some fin) : G (cX4_stands, "HouseClapsModel", "stands", 18, (some .int), 3) st0 trI fin 24 [(0, vr v0), (1, vi v1), (2, vi v2)] [] st := by
  unfold bX4_stands_24B at h
  refine r_iload_n (pc := 24) dX4_stands_24 2 rfl rfl ?_
  refine r_sipush (pc := 25) (v := 600) dX4_stands_25 (by decide) ?_
  refine r_icmp_gt (pc := 28) (tgt := 52) dX4_stands_28 (by decide) h (fun e28 h => ?_) (fun e28 h => ?_)
  · refine r_iconst (pc := 52) (v := (-1)) dX4_stands_52 (by decide) ?_
    exact r_ireturn (pc := 53) dX4_stands_53 rfl rfl h
  · refine r_aload_n (pc := 31) dX4_stands_31 0 rfl rfl ?_
    refine r_gA (pc := 32) dX4_stands_32 q1731 fd_88 same_rf h (fun x32 e32 h => ?_)
    refine r_iload_n (pc := 35) dX4_stands_35 2 rfl rfl ?_
    refine r_laload (pc := 36) dX4_stands_36 h (fun x36 e36 h => ?_)
    refine r_iload_n (pc := 37) dX4_stands_37 1 rfl rfl ?_
    refine r_callI (pc := 38) (rest := []) (lkS dX4_stands_38 q2052 q2053 q92 (fun _ => sX4_holds) ad_X4_holds) (by decide) (Nat.le_of_ble_eq_true rfl) rfl h (fun x38 st e38 h => ?_)
    refine r_if_eq (pc := 41) (tgt := 46) dX4_stands_41 (by decide) h (fun e41 h => ?_) (fun e41 h => ?_)
    · refine r_iinc (pc := 46) (env' := [(2, vi (v2 + 1)), (0, vr v0), (1, vi v1)]) (cst := 1) dX4_stands_46 2 rfl (by decide) (by decide) rfl ?_
      refine r_goto (pc := 49) (tgt := 24) dX4_stands_49 (by decide) ?_
      exact r_sub (env' := [(0, vr v0), (1, vi v1), (2, vi (v2 + 1))]) [1, 2, 0] rfl (hk24 _ _ _ _ h)
    · refine r_iload_n (pc := 44) dX4_stands_44 2 rfl rfl ?_
      exact r_ireturn (pc := 45) dX4_stands_45 rfl rfl h
theorem sX4_stands_24 {st0 : Mem} {fin : Int32 × Mem} (n : Nat) : ∀ (v0 : Rf) (v1 : Int32) (v2 : Int32) (st : Mem), bX4_stands_24 n v0 v1 v2 st = some fin → G (cX4_stands, "HouseClapsModel", "stands", 18, (some .int), 3) st0 trI fin 24 [(0, vr v0), (1, vi v1), (2, vi v2)] [] st := by
  induction n with
  | zero => intro v0 v1 v2 st h; cases h
  | succ n ih => intro v0 v1 v2 st h; exact sX4_stands_24B  ih v0 v1 v2 st h
theorem sX4_stands {a0 : Rf} {a1 : Int32} {st : Mem} {fin : Int32 × Mem} (h : fX4_stands a0 a1 st = some fin) : Con yX4_stands 18 [vr a0, vi a1] st trI fin := by
  refine Con.mk (cc := cX4_stands) (n := 3) (own := "HouseClapsModel") (nm := "stands") (ret := (some .int)) (env := [(0, vr a0), (1, vi a1)]) q2154 rfl rfl rfl (by decide) ⟨Nat.le_of_ble_eq_true rfl, by decide⟩ rfl ?_
  unfold fX4_stands at h
  refine r_aload_n (pc := 0) dX4_stands_0 0 rfl rfl ?_
  refine r_iconst (pc := 1) (v := 0) dX4_stands_1 (by decide) ?_
  refine r_pI (pc := 2) dX4_stands_2 q1698 fd_55 same_rf rfl h (fun st e2 h => ?_)
  refine r_aload_n (pc := 5) dX4_stands_5 0 rfl rfl ?_
  refine r_iload_n (pc := 6) dX4_stands_6 1 rfl rfl ?_
  refine r_callI (pc := 7) (rest := []) (lkV dX4_stands_7 q2040 xd_X4_isSeat (vc_of vt_X4_isSeat q2042 (fun _ => sX4_isSeat)) adx_X4_isSeat) (by decide) (Nat.le_of_ble_eq_true rfl) rfl h (fun x7 st e7 h => ?_)
  refine r_if_ne (pc := 10) (tgt := 15) dX4_stands_10 (by decide) h (fun e10 h => ?_) (fun e10 h => ?_)
  · refine r_aload_n (pc := 15) dX4_stands_15 0 rfl rfl ?_
    refine r_sipush (pc := 16) (v := 600) dX4_stands_16 (by decide) ?_
    refine r_callV (pc := 19) (rest := []) (lkV dX4_stands_19 q2096 xd_X4_night (vc_of vt_X4_night q2098 (fun _ => sX4_night)) adx_X4_night) (by decide) (Nat.le_of_ble_eq_true rfl) rfl h (fun u19 st e19 h => ?_)
    refine r_iconst (pc := 22) (v := 0) dX4_stands_22 (by decide) ?_
    refine r_istore_n (pc := 23) (env' := [(2, vi (0 : Int32)), (0, vr a0), (1, vi a1)]) dX4_stands_23 rfl (by decide) rfl ?_
    exact r_sub (env' := [(0, vr a0), (1, vi a1), (2, vi (0 : Int32))]) [1, 2, 0] rfl (sX4_stands_24 hcFuel _ _ _ _ h)
  · refine r_iconst (pc := 13) (v := (-1)) dX4_stands_13 (by decide) ?_
    exact r_ireturn (pc := 14) dX4_stands_14 rfl rfl h
theorem sX4_starts {a0 : Rf} {a1 : Int32} {st : Mem} {fin : Int32 × Mem} (h : fX4_starts a0 a1 st = some fin) : Con yX4_starts 18 [vr a0, vi a1] st trI fin := by
  refine Con.mk (cc := cX4_starts) (n := 2) (own := "HouseClapsModel") (nm := "starts") (ret := (some .int)) (env := [(0, vr a0), (1, vi a1)]) q2282 rfl rfl rfl (by decide) ⟨Nat.le_of_ble_eq_true rfl, by decide⟩ rfl ?_
  unfold fX4_starts at h
  refine r_aload_n (pc := 0) dX4_starts_0 0 rfl rfl ?_
  refine r_iconst (pc := 1) (v := 0) dX4_starts_1 (by decide) ?_
  refine r_pI (pc := 2) dX4_starts_2 q1698 fd_55 same_rf rfl h (fun st e2 h => ?_)
  refine r_aload_n (pc := 5) dX4_starts_5 0 rfl rfl ?_
  refine r_iload_n (pc := 6) dX4_starts_6 1 rfl rfl ?_
  refine r_callI (pc := 7) (rest := []) (lkV dX4_starts_7 q2040 xd_X4_isSeat (vc_of vt_X4_isSeat q2042 (fun _ => sX4_isSeat)) adx_X4_isSeat) (by decide) (Nat.le_of_ble_eq_true rfl) rfl h (fun x7 st e7 h => ?_)
  refine r_if_eq (pc := 10) (tgt := 27) dX4_starts_10 (by decide) h (fun e10 h => ?_) (fun e10 h => ?_)
  · refine r_iconst (pc := 27) (v := (-1)) dX4_starts_27 (by decide) ?_
    exact r_ireturn (pc := 28) dX4_starts_28 rfl rfl h
  · refine r_aload_n (pc := 13) dX4_starts_13 0 rfl rfl ?_
    refine r_lconst (pc := 14) (v := 1) dX4_starts_14 (by decide) ?_
    refine r_iload_n (pc := 15) dX4_starts_15 1 rfl rfl ?_
    refine r_lshl (pc := 16) dX4_starts_16 ?_
    refine r_aload_n (pc := 17) dX4_starts_17 0 rfl rfl ?_
    refine r_gJ (pc := 18) dX4_starts_18 q1715 fd_72 same_rf h (fun x18 e18 h => ?_)
    refine r_callI (pc := 21) (rest := []) (lkV dX4_starts_21 q2183 xd_X4_height (vc_of vt_X4_height q2185 (fun _ => sX4_height)) adx_X4_height) (by decide) (Nat.le_of_ble_eq_true rfl) rfl h (fun x21 st e21 h => ?_)
    refine r_goto (pc := 24) (tgt := 28) dX4_starts_24 (by decide) ?_
    exact r_ireturn (pc := 28) dX4_starts_28 rfl rfl h
theorem sX4_up_14B {st0 : Mem} {fin : Int32 × Mem} {kk14 : Rf → Int32 → Mem → Option (Int32 × Mem)} (hk14 : ∀ (v0 : Rf) (v1 : Int32) (st : Mem), kk14 v0 v1 st = some fin → G (cX4_up, "HouseClapsModel", "up", 18, (some .int), 2) st0 trI fin 14 [(0, vr v0), (1, vi v1)] [] st) (v0 : Rf) (v1 : Int32) (st : Mem) (h : bX4_up_14B kk14 v0 v1 st = some fin) : G (cX4_up, "HouseClapsModel", "up", 18, (some .int), 2) st0 trI fin 14 [(0, vr v0), (1, vi v1)] [] st := by
  unfold bX4_up_14B at h
  refine r_iload_n (pc := 14) dX4_up_14 1 rfl rfl ?_
  refine r_sipush (pc := 15) (v := 600) dX4_up_15 (by decide) ?_
  refine r_icmp_gt (pc := 18) (tgt := 37) dX4_up_18 (by decide) h (fun e18 h => ?_) (fun e18 h => ?_)
  · refine r_iconst (pc := 37) (v := (-1)) dX4_up_37 (by decide) ?_
    exact r_ireturn (pc := 38) dX4_up_38 rfl rfl h
  · refine r_aload_n (pc := 21) dX4_up_21 0 rfl rfl ?_
    refine r_iload_n (pc := 22) dX4_up_22 1 rfl rfl ?_
    refine r_callI (pc := 23) (rest := []) (lkV dX4_up_23 q2163 xd_X4_isUp (vc_of vt_X4_isUp q2165 (fun _ => sX4_isUp)) adx_X4_isUp) (by decide) (Nat.le_of_ble_eq_true rfl) rfl h (fun x23 st e23 h => ?_)
    refine r_if_eq (pc := 26) (tgt := 31) dX4_up_26 (by decide) h (fun e26 h => ?_) (fun e26 h => ?_)
    · refine r_iinc (pc := 31) (env' := [(1, vi (v1 + 1)), (0, vr v0)]) (cst := 1) dX4_up_31 1 rfl (by decide) (by decide) rfl ?_
      refine r_goto (pc := 34) (tgt := 14) dX4_up_34 (by decide) ?_
      exact r_sub (env' := [(0, vr v0), (1, vi (v1 + 1))]) [1, 0] rfl (hk14 _ _ _ h)
    · refine r_iload_n (pc := 29) dX4_up_29 1 rfl rfl ?_
      exact r_ireturn (pc := 30) dX4_up_30 rfl rfl h
theorem sX4_up_14 {st0 : Mem} {fin : Int32 × Mem} (n : Nat) : ∀ (v0 : Rf) (v1 : Int32) (st : Mem), bX4_up_14 n v0 v1 st = some fin → G (cX4_up, "HouseClapsModel", "up", 18, (some .int), 2) st0 trI fin 14 [(0, vr v0), (1, vi v1)] [] st := by
  induction n with
  | zero => intro v0 v1 st h; cases h
  | succ n ih => intro v0 v1 st h; exact sX4_up_14B  ih v0 v1 st h
theorem sX4_up {a0 : Rf} {st : Mem} {fin : Int32 × Mem} (h : fX4_up a0 st = some fin) : Con yX4_up 18 [vr a0] st trI fin := by
  refine Con.mk (cc := cX4_up) (n := 2) (own := "HouseClapsModel") (nm := "up") (ret := (some .int)) (env := [(0, vr a0)]) q2162 rfl rfl rfl (by decide) ⟨Nat.le_of_ble_eq_true rfl, by decide⟩ rfl ?_
  unfold fX4_up at h
  refine r_aload_n (pc := 0) dX4_up_0 0 rfl rfl ?_
  refine r_iconst (pc := 1) (v := 0) dX4_up_1 (by decide) ?_
  refine r_pI (pc := 2) dX4_up_2 q1698 fd_55 same_rf rfl h (fun st e2 h => ?_)
  refine r_aload_n (pc := 5) dX4_up_5 0 rfl rfl ?_
  refine r_sipush (pc := 6) (v := 600) dX4_up_6 (by decide) ?_
  refine r_callV (pc := 9) (rest := []) (lkV dX4_up_9 q2096 xd_X4_night (vc_of vt_X4_night q2098 (fun _ => sX4_night)) adx_X4_night) (by decide) (Nat.le_of_ble_eq_true rfl) rfl h (fun u9 st e9 h => ?_)
  refine r_iconst (pc := 12) (v := 0) dX4_up_12 (by decide) ?_
  refine r_istore_n (pc := 13) (env' := [(1, vi (0 : Int32)), (0, vr a0)]) dX4_up_13 rfl (by decide) rfl ?_
  exact r_sub (env' := [(0, vr a0), (1, vi (0 : Int32))]) [1, 0] rfl (sX4_up_14 hcFuel _ _ _ h)
theorem sX4_worth_141 {st0 : Mem} {fin : Int32 × Mem} {kk53 : Rf → Int32 → Mem → Option (Int32 × Mem)} {kk70 : Rf → Int32 → Int32 → Mem → Option (Int32 × Mem)} (hk53 : ∀ (v0 : Rf) (v1 : Int32) (st : Mem), kk53 v0 v1 st = some fin → G (cX4_worth, "HouseClapsModel", "worth", 18, (some .int), 4) st0 trI fin 53 [(0, vr v0), (1, vi v1)] [] st) (hk70 : ∀ (v0 : Rf) (v1 : Int32) (v2 : Int32) (st : Mem), kk70 v0 v1 v2 st = some fin → G (cX4_worth, "HouseClapsModel", "worth", 18, (some .int), 4) st0 trI fin 70 [(0, vr v0), (1, vi v1), (2, vi v2)] [] st) (v0 : Rf) (v1 : Int32) (v2 : Int32) (st : Mem) (h : bX4_worth_141 kk53 kk70 v0 v1 v2 st = some fin) : G (cX4_worth, "HouseClapsModel", "worth", 18, (some .int), 4) st0 trI fin 141 [(0, vr v0), (1, vi v1), (2, vi v2)] [] st := by
  unfold bX4_worth_141 at h
  refine r_iinc (pc := 141) (env' := [(2, vi (v2 + 1)), (0, vr v0), (1, vi v1)]) (cst := 1) dX4_worth_141 2 rfl (by decide) (by decide) rfl ?_
  refine r_goto (pc := 144) (tgt := 70) dX4_worth_144 (by decide) ?_
  exact r_sub (env' := [(0, vr v0), (1, vi v1), (2, vi (v2 + 1))]) [1, 2, 0] rfl (hk70 _ _ _ _ h)
theorem sX4_worth_70B {st0 : Mem} {fin : Int32 × Mem} {kk53 : Rf → Int32 → Mem → Option (Int32 × Mem)} {kk70 : Rf → Int32 → Int32 → Mem → Option (Int32 × Mem)} (hk53 : ∀ (v0 : Rf) (v1 : Int32) (st : Mem), kk53 v0 v1 st = some fin → G (cX4_worth, "HouseClapsModel", "worth", 18, (some .int), 4) st0 trI fin 53 [(0, vr v0), (1, vi v1)] [] st) (hk70 : ∀ (v0 : Rf) (v1 : Int32) (v2 : Int32) (st : Mem), kk70 v0 v1 v2 st = some fin → G (cX4_worth, "HouseClapsModel", "worth", 18, (some .int), 4) st0 trI fin 70 [(0, vr v0), (1, vi v1), (2, vi v2)] [] st) (v0 : Rf) (v1 : Int32) (v2 : Int32) (st : Mem) (h : bX4_worth_70B kk53 kk70 v0 v1 v2 st = some fin) : G (cX4_worth, "HouseClapsModel", "worth", 18, (some .int), 4) st0 trI fin 70 [(0, vr v0), (1, vi v1), (2, vi v2)] [] st := by
  unfold bX4_worth_70B at h
  refine r_iload_n (pc := 70) dX4_worth_70 2 rfl rfl ?_
  refine r_iconst (pc := 71) (v := 1) dX4_worth_71 (by decide) ?_
  refine r_aload_n (pc := 72) dX4_worth_72 0 rfl rfl ?_
  refine r_gI (pc := 73) dX4_worth_73 q1745 fd_102 same_rf h (fun x73 e73 h => ?_)
  refine r_ishl (pc := 76) dX4_worth_76 ?_
  refine r_icmp_ge (pc := 77) (tgt := 147) dX4_worth_77 (by decide) h (fun e77 h => ?_) (fun e77 h => ?_)
  · refine r_iinc (pc := 147) (env' := [(1, vi (v1 + 1)), (0, vr v0), (2, vi v2)]) (cst := 1) dX4_worth_147 1 rfl (by decide) (by decide) rfl ?_
    refine r_goto (pc := 150) (tgt := 53) dX4_worth_150 (by decide) ?_
    exact r_sub (env' := [(0, vr v0), (1, vi (v1 + 1))]) [1, 0] rfl (hk53 _ _ _ h)
  · refine r_iload_n (pc := 80) dX4_worth_80 2 rfl rfl ?_
    refine r_iload_n (pc := 81) dX4_worth_81 1 rfl rfl ?_
    refine r_callI (pc := 82) (rest := []) (lkS dX4_worth_82 q2017 q2018 q92 (fun _ => sX4_has) ad_X4_has) (by decide) (Nat.le_of_ble_eq_true rfl) rfl h (fun x82 st e82 h => ?_)
    refine r_if_eq (pc := 85) (tgt := 91) dX4_worth_85 (by decide) h (fun e85 h => ?_) (fun e85 h => ?_)
    · refine r_iload_n (pc := 91) dX4_worth_91 2 rfl rfl ?_
      refine r_i2l (pc := 92) dX4_worth_92 ?_
      refine r_callI (pc := 93) (rest := []) (lkS dX4_worth_93 q2132 q2133 q92 (fun _ => sX4_bits) ad_X4_bits) (by decide) (Nat.le_of_ble_eq_true rfl) rfl h (fun x93 st e93 h => ?_)
      refine r_istore_n (pc := 96) (env' := [(3, vi x93), (0, vr v0), (1, vi v1), (2, vi v2)]) dX4_worth_96 rfl (by decide) rfl ?_
      refine r_aload_n (pc := 97) dX4_worth_97 1 rfl rfl ?_
      refine r_gA (pc := 98) dX4_worth_98 q1749 fd_106 same_rf h (fun x98 e98 h => ?_)
      refine r_iload_n (pc := 101) dX4_worth_101 2 rfl rfl ?_
      refine r_dup2_11 (pc := 102) dX4_worth_102 rfl rfl ?_
      refine r_laload (pc := 103) dX4_worth_103 h (fun x103 e103 h => ?_)
      refine r_iload_n (pc := 104) dX4_worth_104 0 rfl rfl ?_
      refine r_callJ (pc := 105) (rest := [vj x103, vi v1, vr x98]) (lkS dX4_worth_105 q2220 q2221 q92 (fun _ => sX4_orders) ad_X4_orders) (by decide) (Nat.le_of_ble_eq_true rfl) rfl h (fun x105 st e105 h => ?_)
      refine r_aload_n (pc := 108) dX4_worth_108 1 rfl rfl ?_
      refine r_gI (pc := 109) dX4_worth_109 q1745 fd_102 same_rf h (fun x109 e109 h => ?_)
      refine r_iconst (pc := 112) (v := 1) dX4_worth_112 (by decide) ?_
      refine r_isub (pc := 113) dX4_worth_113 ?_
      refine r_iload_n (pc := 114) dX4_worth_114 0 rfl rfl ?_
      refine r_isub (pc := 115) dX4_worth_115 ?_
      refine r_callJ (pc := 116) (rest := [vj x105, vj x103, vi v1, vr x98]) (lkS dX4_worth_116 q2220 q2221 q92 (fun _ => sX4_orders) ad_X4_orders) (by decide) (Nat.le_of_ble_eq_true rfl) rfl h (fun x116 st e116 h => ?_)
      refine r_lmul (pc := 119) dX4_worth_119 ?_
      refine r_aload_n (pc := 120) dX4_worth_120 1 rfl rfl ?_
      refine r_gA (pc := 121) dX4_worth_121 q1748 fd_105 same_rf h (fun x121 e121 h => ?_)
      refine r_iload_n (pc := 124) dX4_worth_124 3 rfl rfl ?_
      refine r_iconst (pc := 125) (v := 1) dX4_worth_125 (by decide) ?_
      refine r_iload_n (pc := 126) dX4_worth_126 2 rfl rfl ?_
      refine r_ishl (pc := 127) dX4_worth_127 ?_
      refine r_ior (pc := 128) dX4_worth_128 ?_
      refine r_iaload (pc := 129) dX4_worth_129 h (fun x129 e129 h => ?_)
      refine r_aload_n (pc := 130) dX4_worth_130 1 rfl rfl ?_
      refine r_gA (pc := 131) dX4_worth_131 q1748 fd_105 same_rf h (fun x131 e131 h => ?_)
      refine r_iload_n (pc := 134) dX4_worth_134 3 rfl rfl ?_
      refine r_iaload (pc := 135) dX4_worth_135 h (fun x135 e135 h => ?_)
      refine r_isub (pc := 136) dX4_worth_136 ?_
      refine r_i2l (pc := 137) dX4_worth_137 ?_
      refine r_lmul (pc := 138) dX4_worth_138 ?_
      refine r_ladd (pc := 139) dX4_worth_139 ?_
      refine r_lastore (pc := 140) dX4_worth_140 h (fun st e140 h => ?_)
      exact r_sub (env' := [(0, vr v0), (1, vi v1), (2, vi v2)]) [1, 2, 3] rfl (sX4_worth_141 hk53 hk70 _ _ _ _ h)
    · refine r_goto (pc := 88) (tgt := 141) dX4_worth_88 (by decide) ?_
      exact sX4_worth_141 hk53 hk70 _ _ _ _ h
theorem sX4_worth_70 {st0 : Mem} {fin : Int32 × Mem} {kk53 : Rf → Int32 → Mem → Option (Int32 × Mem)} (hk53 : ∀ (v0 : Rf) (v1 : Int32) (st : Mem), kk53 v0 v1 st = some fin → G (cX4_worth, "HouseClapsModel", "worth", 18, (some .int), 4) st0 trI fin 53 [(0, vr v0), (1, vi v1)] [] st) (n : Nat) : ∀ (v0 : Rf) (v1 : Int32) (v2 : Int32) (st : Mem), bX4_worth_70 kk53 n v0 v1 v2 st = some fin → G (cX4_worth, "HouseClapsModel", "worth", 18, (some .int), 4) st0 trI fin 70 [(0, vr v0), (1, vi v1), (2, vi v2)] [] st := by
  induction n with
  | zero => intro v0 v1 v2 st h; cases h
  | succ n ih => intro v0 v1 v2 st h; exact sX4_worth_70B hk53  ih v0 v1 v2 st h
theorem sX4_worth_53B {st0 : Mem} {fin : Int32 × Mem} {kk53 : Rf → Int32 → Mem → Option (Int32 × Mem)} (hk53 : ∀ (v0 : Rf) (v1 : Int32) (st : Mem), kk53 v0 v1 st = some fin → G (cX4_worth, "HouseClapsModel", "worth", 18, (some .int), 4) st0 trI fin 53 [(0, vr v0), (1, vi v1)] [] st) (v0 : Rf) (v1 : Int32) (st : Mem) (h : bX4_worth_53B kk53 v0 v1 st = some fin) : G (cX4_worth, "HouseClapsModel", "worth", 18, (some .int), 4) st0 trI fin 53 [(0, vr v0), (1, vi v1)] [] st := by
  unfold bX4_worth_53B at h
  refine r_iload_n (pc := 53) dX4_worth_53 1 rfl rfl ?_
  refine r_aload_n (pc := 54) dX4_worth_54 0 rfl rfl ?_
  refine r_gI (pc := 55) dX4_worth_55 q1745 fd_102 same_rf h (fun x55 e55 h => ?_)
  refine r_icmp_ge (pc := 58) (tgt := 153) dX4_worth_58 (by decide) h (fun e58 h => ?_) (fun e58 h => ?_)
  · refine r_aload_n (pc := 153) dX4_worth_153 0 rfl rfl ?_
    refine r_aload_n (pc := 154) dX4_worth_154 0 rfl rfl ?_
    refine r_gI (pc := 155) dX4_worth_155 q1745 fd_102 same_rf h (fun x155 e155 h => ?_)
    refine r_pI (pc := 158) dX4_worth_158 q1750 fd_107 same_rf rfl h (fun st e158 h => ?_)
    refine r_aload_n (pc := 161) dX4_worth_161 0 rfl rfl ?_
    refine r_aload_n (pc := 162) dX4_worth_162 0 rfl rfl ?_
    refine r_gI (pc := 163) dX4_worth_163 q1745 fd_102 same_rf h (fun x163 e163 h => ?_)
    refine r_callJ (pc := 166) (rest := [vr v0]) (lkS dX4_worth_166 q2220 q2221 q92 (fun _ => sX4_orders) ad_X4_orders) (by decide) (Nat.le_of_ble_eq_true rfl) rfl h (fun x166 st e166 h => ?_)
    refine r_pJ (pc := 169) dX4_worth_169 q1751 fd_108 same_rf rfl h (fun st e169 h => ?_)
    refine r_aload_n (pc := 172) dX4_worth_172 0 rfl rfl ?_
    refine r_gA (pc := 173) dX4_worth_173 q1748 fd_105 same_rf h (fun x173 e173 h => ?_)
    refine r_iconst (pc := 176) (v := 1) dX4_worth_176 (by decide) ?_
    refine r_aload_n (pc := 177) dX4_worth_177 0 rfl rfl ?_
    refine r_gI (pc := 178) dX4_worth_178 q1745 fd_102 same_rf h (fun x178 e178 h => ?_)
    refine r_ishl (pc := 181) dX4_worth_181 ?_
    refine r_iconst (pc := 182) (v := 1) dX4_worth_182 (by decide) ?_
    refine r_isub (pc := 183) dX4_worth_183 ?_
    refine r_iaload (pc := 184) dX4_worth_184 h (fun x184 e184 h => ?_)
    exact r_ireturn (pc := 185) dX4_worth_185 rfl rfl h
  · refine r_aload_n (pc := 61) dX4_worth_61 0 rfl rfl ?_
    refine r_gA (pc := 62) dX4_worth_62 q1749 fd_106 same_rf h (fun x62 e62 h => ?_)
    refine r_iload_n (pc := 65) dX4_worth_65 1 rfl rfl ?_
    refine r_lconst (pc := 66) (v := 0) dX4_worth_66 (by decide) ?_
    refine r_lastore (pc := 67) dX4_worth_67 h (fun st e67 h => ?_)
    refine r_iconst (pc := 68) (v := 0) dX4_worth_68 (by decide) ?_
    refine r_istore_n (pc := 69) (env' := [(2, vi (0 : Int32)), (0, vr v0), (1, vi v1)]) dX4_worth_69 rfl (by decide) rfl ?_
    exact r_sub (env' := [(0, vr v0), (1, vi v1), (2, vi (0 : Int32))]) [1, 2, 0] rfl (sX4_worth_70 hk53 hcFuel _ _ _ _ h)
theorem sX4_worth_53 {st0 : Mem} {fin : Int32 × Mem} (n : Nat) : ∀ (v0 : Rf) (v1 : Int32) (st : Mem), bX4_worth_53 n v0 v1 st = some fin → G (cX4_worth, "HouseClapsModel", "worth", 18, (some .int), 4) st0 trI fin 53 [(0, vr v0), (1, vi v1)] [] st := by
  induction n with
  | zero => intro v0 v1 st h; cases h
  | succ n ih => intro v0 v1 st h; exact sX4_worth_53B  ih v0 v1 st h
theorem sX4_worth_16B {st0 : Mem} {fin : Int32 × Mem} {kk16 : Rf → Int32 → Mem → Option (Int32 × Mem)} (hk16 : ∀ (v0 : Rf) (v1 : Int32) (st : Mem), kk16 v0 v1 st = some fin → G (cX4_worth, "HouseClapsModel", "worth", 18, (some .int), 4) st0 trI fin 16 [(0, vr v0), (1, vi v1)] [] st) (v0 : Rf) (v1 : Int32) (st : Mem) (h : bX4_worth_16B kk16 v0 v1 st = some fin) : G (cX4_worth, "HouseClapsModel", "worth", 18, (some .int), 4) st0 trI fin 16 [(0, vr v0), (1, vi v1)] [] st := by
  unfold bX4_worth_16B at h
  refine r_iload_n (pc := 16) dX4_worth_16 1 rfl rfl ?_
  refine r_iconst (pc := 17) (v := 1) dX4_worth_17 (by decide) ?_
  refine r_aload_n (pc := 18) dX4_worth_18 0 rfl rfl ?_
  refine r_gI (pc := 19) dX4_worth_19 q1745 fd_102 same_rf h (fun x19 e19 h => ?_)
  refine r_ishl (pc := 22) dX4_worth_22 ?_
  refine r_icmp_ge (pc := 23) (tgt := 51) dX4_worth_23 (by decide) h (fun e23 h => ?_) (fun e23 h => ?_)
  · refine r_iconst (pc := 51) (v := 0) dX4_worth_51 (by decide) ?_
    refine r_istore_n (pc := 52) (env' := [(1, vi (0 : Int32)), (0, vr v0)]) dX4_worth_52 rfl (by decide) rfl ?_
    exact r_sub (env' := [(0, vr v0), (1, vi (0 : Int32))]) [1, 0] rfl (sX4_worth_53 hcFuel _ _ _ h)
  · refine r_aload_n (pc := 26) dX4_worth_26 0 rfl rfl ?_
    refine r_gA (pc := 27) dX4_worth_27 q1748 fd_105 same_rf h (fun x27 e27 h => ?_)
    refine r_iload_n (pc := 30) dX4_worth_30 1 rfl rfl ?_
    refine r_aload_n (pc := 31) dX4_worth_31 0 rfl rfl ?_
    refine r_aload_n (pc := 32) dX4_worth_32 0 rfl rfl ?_
    refine r_iload_n (pc := 33) dX4_worth_33 1 rfl rfl ?_
    refine r_callJ (pc := 34) (rest := [vr v0, vi v1, vr x27]) (lkV dX4_worth_34 q2200 xd_X4_bitsOf (vc_of vt_X4_bitsOf q2202 (fun _ => sX4_bitsOf)) adx_X4_bitsOf) (by decide) (Nat.le_of_ble_eq_true rfl) rfl h (fun x34 st e34 h => ?_)
    refine r_aload_n (pc := 37) dX4_worth_37 0 rfl rfl ?_
    refine r_gJ (pc := 38) dX4_worth_38 q1715 fd_72 same_rf h (fun x38 e38 h => ?_)
    refine r_callI (pc := 41) (rest := [vi v1, vr x27]) (lkV dX4_worth_41 q2183 xd_X4_height (vc_of vt_X4_height q2185 (fun _ => sX4_height)) adx_X4_height) (by decide) (Nat.le_of_ble_eq_true rfl) rfl h (fun x41 st e41 h => ?_)
    refine r_iastore (pc := 44) dX4_worth_44 h (fun st e44 h => ?_)
    refine r_iinc (pc := 45) (env' := [(1, vi (v1 + 1)), (0, vr v0)]) (cst := 1) dX4_worth_45 1 rfl (by decide) (by decide) rfl ?_
    refine r_goto (pc := 48) (tgt := 16) dX4_worth_48 (by decide) ?_
    exact r_sub (env' := [(0, vr v0), (1, vi (v1 + 1))]) [1, 0] rfl (hk16 _ _ _ h)
theorem sX4_worth_16 {st0 : Mem} {fin : Int32 × Mem} (n : Nat) : ∀ (v0 : Rf) (v1 : Int32) (st : Mem), bX4_worth_16 n v0 v1 st = some fin → G (cX4_worth, "HouseClapsModel", "worth", 18, (some .int), 4) st0 trI fin 16 [(0, vr v0), (1, vi v1)] [] st := by
  induction n with
  | zero => intro v0 v1 st h; cases h
  | succ n ih => intro v0 v1 st h; exact sX4_worth_16B  ih v0 v1 st h
theorem sX4_worth {a0 : Rf} {st : Mem} {fin : Int32 × Mem} (h : fX4_worth a0 st = some fin) : Con yX4_worth 18 [vr a0] st trI fin := by
  refine Con.mk (cc := cX4_worth) (n := 4) (own := "HouseClapsModel") (nm := "worth") (ret := (some .int)) (env := [(0, vr a0)]) q2219 rfl rfl rfl (by decide) ⟨Nat.le_of_ble_eq_true rfl, by decide⟩ rfl ?_
  unfold fX4_worth at h
  refine r_aload_n (pc := 0) dX4_worth_0 0 rfl rfl ?_
  refine r_iconst (pc := 1) (v := 0) dX4_worth_1 (by decide) ?_
  refine r_pI (pc := 2) dX4_worth_2 q1698 fd_55 same_rf rfl h (fun st e2 h => ?_)
  refine r_aload_n (pc := 5) dX4_worth_5 0 rfl rfl ?_
  refine r_callI (pc := 6) (rest := []) (lkV dX4_worth_6 q2191 xd_X4_areEight (vc_of vt_X4_areEight q2193 (fun _ => sX4_areEight)) adx_X4_areEight) (by decide) (Nat.le_of_ble_eq_true rfl) rfl h (fun x6 st e6 h => ?_)
  refine r_if_ne (pc := 9) (tgt := 14) dX4_worth_9 (by decide) h (fun e9 h => ?_) (fun e9 h => ?_)
  · refine r_iconst (pc := 14) (v := 0) dX4_worth_14 (by decide) ?_
    refine r_istore_n (pc := 15) (env' := [(1, vi (0 : Int32)), (0, vr a0)]) dX4_worth_15 rfl (by decide) rfl ?_
    exact r_sub (env' := [(0, vr a0), (1, vi (0 : Int32))]) [1, 0] rfl (sX4_worth_16 hcFuel _ _ _ h)
  · refine r_iconst (pc := 12) (v := (-1)) dX4_worth_12 (by decide) ?_
    exact r_ireturn (pc := 13) dX4_worth_13 rfl rfl h
theorem sX4_would {a0 : Rf} {a1 : Int32} {a2 : Int32} {a3 : Int32} {st : Mem} {fin : Int32 × Mem} (h : fX4_would a0 a1 a2 a3 st = some fin) : Con yX4_would 18 [vr a0, vi a1, vi a2, vi a3] st trI fin := by
  refine Con.mk (cc := cX4_would) (n := 5) (own := "HouseClapsModel") (nm := "would") (ret := (some .int)) (env := [(0, vr a0), (1, vi a1), (2, vi a2), (3, vi a3)]) q2150 rfl rfl rfl (by decide) ⟨Nat.le_of_ble_eq_true rfl, by decide⟩ rfl ?_
  unfold fX4_would at h
  refine r_aload_n (pc := 0) dX4_would_0 0 rfl rfl ?_
  refine r_iconst (pc := 1) (v := 0) dX4_would_1 (by decide) ?_
  refine r_pI (pc := 2) dX4_would_2 q1698 fd_55 same_rf rfl h (fun st e2 h => ?_)
  refine r_aload_n (pc := 5) dX4_would_5 0 rfl rfl ?_
  refine r_iload_n (pc := 6) dX4_would_6 1 rfl rfl ?_
  refine r_callI (pc := 7) (rest := []) (lkV dX4_would_7 q2040 xd_X4_isSeat (vc_of vt_X4_isSeat q2042 (fun _ => sX4_isSeat)) adx_X4_isSeat) (by decide) (Nat.le_of_ble_eq_true rfl) rfl h (fun x7 st e7 h => ?_)
  refine r_if_eq (pc := 10) (tgt := 29) dX4_would_10 (by decide) h (fun e10 h => ?_) (fun e10 h => ?_)
  · refine r_iconst (pc := 29) (v := (-1)) dX4_would_29 (by decide) ?_
    exact r_ireturn (pc := 30) dX4_would_30 rfl rfl h
  · refine r_iload_n (pc := 13) dX4_would_13 2 rfl rfl ?_
    refine r_callI (pc := 14) (rest := []) (lkS dX4_would_14 q2093 q2094 q92 (fun _ => sX4_isMoment) ad_X4_isMoment) (by decide) (Nat.le_of_ble_eq_true rfl) rfl h (fun x14 st e14 h => ?_)
    refine r_if_eq (pc := 17) (tgt := 29) dX4_would_17 (by decide) h (fun e17 h => ?_) (fun e17 h => ?_)
    · refine r_iconst (pc := 29) (v := (-1)) dX4_would_29 (by decide) ?_
      exact r_ireturn (pc := 30) dX4_would_30 rfl rfl h
    · refine r_iload_n (pc := 20) dX4_would_20 3 rfl rfl ?_
      refine r_iconst (pc := 21) (v := 0) dX4_would_21 (by decide) ?_
      refine r_iconst (pc := 22) (v := 1) dX4_would_22 (by decide) ?_
      refine r_callI (pc := 23) (rest := []) (lkS dX4_would_23 q1949 q1950 q92 (fun _ => sX4_isIn) ad_X4_isIn) (by decide) (Nat.le_of_ble_eq_true rfl) rfl h (fun x23 st e23 h => ?_)
      refine r_if_ne (pc := 26) (tgt := 31) dX4_would_26 (by decide) h (fun e26 h => ?_) (fun e26 h => ?_)
      · refine r_bipush (pc := 31) (v := 86) dX4_would_31 (by decide) ?_
        refine r_bipush (pc := 33) (v := 42) dX4_would_33 (by decide) ?_
        refine r_iconst (pc := 35) (v := 2) dX4_would_35 (by decide) ?_
        refine r_aload_n (pc := 36) dX4_would_36 0 rfl rfl ?_
        refine r_gA (pc := 37) dX4_would_37 q1704 fd_61 same_rf h (fun x37 e37 h => ?_)
        refine r_bipush (pc := 40) (v := 6) dX4_would_40 (by decide) ?_
        refine r_iload_n (pc := 42) dX4_would_42 1 rfl rfl ?_
        refine r_iadd (pc := 43) dX4_would_43 ?_
        refine r_iaload (pc := 44) dX4_would_44 h (fun x44 e44 h => ?_)
        refine r_iconst (pc := 45) (v := 1) dX4_would_45 (by decide) ?_
        refine r_isub (pc := 46) dX4_would_46 ?_
        refine r_imul (pc := 47) dX4_would_47 ?_
        refine r_iload_n (pc := 48) dX4_would_48 3 rfl rfl ?_
        refine r_iadd (pc := 49) dX4_would_49 ?_
        refine r_imul (pc := 50) dX4_would_50 ?_
        refine r_iadd (pc := 51) dX4_would_51 ?_
        refine r_nameI h (fun y52 e52 h => ?_)
        refine r_istore (pc := 52) (env' := [(4, vi y52), (0, vr a0), (1, vi a1), (2, vi a2), (3, vi a3)]) dX4_would_52 (by decide) rfl ?_
        refine r_aload_n (pc := 54) dX4_would_54 1 rfl rfl ?_
        refine r_gA (pc := 55) dX4_would_55 q1704 fd_61 same_rf h (fun x55 e55 h => ?_)
        refine r_iload (pc := 58) dX4_would_58 0 rfl ?_
        refine r_iaload (pc := 60) dX4_would_60 h (fun x60 e60 h => ?_)
        refine r_if_ne (pc := 61) (tgt := 66) dX4_would_61 (by decide) h (fun e61 h => ?_) (fun e61 h => ?_)
        · refine r_aload_n (pc := 66) dX4_would_66 1 rfl rfl ?_
          refine r_iload_n (pc := 67) dX4_would_67 3 rfl rfl ?_
          refine r_callV (pc := 68) (rest := []) (lkV dX4_would_68 q2096 xd_X4_night (vc_of vt_X4_night q2098 (fun _ => sX4_night)) adx_X4_night) (by decide) (Nat.le_of_ble_eq_true rfl) rfl h (fun u68 st e68 h => ?_)
          refine r_aload_n (pc := 71) dX4_would_71 1 rfl rfl ?_
          refine r_iload (pc := 72) dX4_would_72 0 rfl ?_
          refine r_iload_n (pc := 74) dX4_would_74 2 rfl rfl ?_
          refine r_aload_n (pc := 75) dX4_would_75 1 rfl rfl ?_
          refine r_gJ (pc := 76) dX4_would_76 q1736 fd_93 same_rf h (fun x76 e76 h => ?_)
          refine r_aload_n (pc := 79) dX4_would_79 1 rfl rfl ?_
          refine r_gJ (pc := 80) dX4_would_80 q1737 fd_94 same_rf h (fun x80 e80 h => ?_)
          refine r_aload_n (pc := 83) dX4_would_83 1 rfl rfl ?_
          refine r_iload_n (pc := 84) dX4_would_84 2 rfl rfl ?_
          refine r_callI (pc := 85) (rest := [vj x80, vj x76, vi a1, vi y52, vr a0]) (lkV dX4_would_85 q2116 xd_X4_levelOf (vc_of vt_X4_levelOf q2118 (fun _ => sX4_levelOf)) adx_X4_levelOf) (by decide) (Nat.le_of_ble_eq_true rfl) rfl h (fun x85 st e85 h => ?_)
          refine r_aload_n (pc := 88) dX4_would_88 1 rfl rfl ?_
          refine r_iload_n (pc := 89) dX4_would_89 2 rfl rfl ?_
          refine r_callI (pc := 90) (rest := [vi x85, vj x80, vj x76, vi a1, vi y52, vr a0]) (lkV dX4_would_90 q2120 xd_X4_heldOf (vc_of vt_X4_heldOf q2122 (fun _ => sX4_heldOf)) adx_X4_heldOf) (by decide) (Nat.le_of_ble_eq_true rfl) rfl h (fun x90 st e90 h => ?_)
          refine r_callI (pc := 93) (rest := []) (lkV dX4_would_93 q2128 xd_X4_isLaw (vc_of vt_X4_isLaw q2130 (fun _ => sX4_isLaw)) adx_X4_isLaw) (by decide) (Nat.le_of_ble_eq_true rfl) rfl h (fun x93 st e93 h => ?_)
          refine r_if_eq (pc := 96) (tgt := 103) dX4_would_96 (by decide) h (fun e96 h => ?_) (fun e96 h => ?_)
          · refine r_iconst (pc := 103) (v := 0) dX4_would_103 (by decide) ?_
            exact r_ireturn (pc := 104) dX4_would_104 rfl rfl h
          · refine r_iconst (pc := 99) (v := 1) dX4_would_99 (by decide) ?_
            refine r_goto (pc := 100) (tgt := 104) dX4_would_100 (by decide) ?_
            exact r_ireturn (pc := 104) dX4_would_104 rfl rfl h
        · refine r_iconst (pc := 64) (v := (-1)) dX4_would_64 (by decide) ?_
          exact r_ireturn (pc := 65) dX4_would_65 rfl rfl h
      · refine r_iconst (pc := 29) (v := (-1)) dX4_would_29 (by decide) ?_
        exact r_ireturn (pc := 30) dX4_would_30 rfl rfl h
theorem sX4_arrange_36B {st0 : Mem} {fin : Int32 × Mem} {kk36 : Rf → Int32 → Mem → Option (Int32 × Mem)} (hk36 : ∀ (v0 : Rf) (v1 : Int32) (st : Mem), kk36 v0 v1 st = some fin → G (cX4_arrange, "HouseClapsModel", "arrange", 20, (some .int), 2) st0 trI fin 36 [(0, vr v0), (1, vi v1)] [] st) (v0 : Rf) (v1 : Int32) (st : Mem) (h : bX4_arrange_36B kk36 v0 v1 st = some fin) : G (cX4_arrange, "HouseClapsModel", "arrange", 20, (some .int), 2) st0 trI fin 36 [(0, vr v0), (1, vi v1)] [] st := by
  unfold bX4_arrange_36B at h
  refine r_aload_n (pc := 36) dX4_arrange_36 0 rfl rfl ?_
  refine r_gI (pc := 37) dX4_arrange_37 q1761 fd_118 same_rf h (fun x37 e37 h => ?_)
  refine r_bipush (pc := 40) (v := 20) dX4_arrange_40 (by decide) ?_
  refine r_icmp_ge (pc := 42) (tgt := 71) dX4_arrange_42 (by decide) h (fun e42 h => ?_) (fun e42 h => ?_)
  · refine r_iload_n (pc := 71) dX4_arrange_71 1 rfl rfl ?_
    exact r_ireturn (pc := 72) dX4_arrange_72 rfl rfl h
  · refine r_aload_n (pc := 45) dX4_arrange_45 0 rfl rfl ?_
    refine r_iload_n (pc := 46) dX4_arrange_46 1 rfl rfl ?_
    refine r_callI (pc := 47) (rest := []) (lkV dX4_arrange_47 q2271 xd_X4_arranges (vc_of vt_X4_arranges q2273 (fun _ => sX4_arranges)) adx_X4_arranges) (by decide) (Nat.le_of_ble_eq_true rfl) rfl h (fun x47 st e47 h => ?_)
    refine r_if_eq (pc := 50) (tgt := 71) dX4_arrange_50 (by decide) h (fun e50 h => ?_) (fun e50 h => ?_)
    · refine r_iload_n (pc := 71) dX4_arrange_71 1 rfl rfl ?_
      exact r_ireturn (pc := 72) dX4_arrange_72 rfl rfl h
    · refine r_aload_n (pc := 53) dX4_arrange_53 0 rfl rfl ?_
      refine r_gI (pc := 54) dX4_arrange_54 q1742 fd_99 same_rf h (fun x54 e54 h => ?_)
      refine r_istore_n (pc := 57) (env' := [(1, vi x54), (0, vr v0)]) dX4_arrange_57 rfl (by decide) rfl ?_
      refine r_aload_n (pc := 58) dX4_arrange_58 1 rfl rfl ?_
      refine r_dup (pc := 59) dX4_arrange_59 rfl ?_
      refine r_gI (pc := 60) dX4_arrange_60 q1761 fd_118 same_rf h (fun x60 e60 h => ?_)
      refine r_iconst (pc := 63) (v := 1) dX4_arrange_63 (by decide) ?_
      refine r_iadd (pc := 64) dX4_arrange_64 ?_
      refine r_pI (pc := 65) dX4_arrange_65 q1761 fd_118 same_rf rfl h (fun st e65 h => ?_)
      refine r_goto (pc := 68) (tgt := 36) dX4_arrange_68 (by decide) ?_
      exact r_sub (env' := [(0, vr v0), (1, vi x54)]) [1, 0] rfl (hk36 _ _ _ h)
theorem sX4_arrange_36 {st0 : Mem} {fin : Int32 × Mem} (n : Nat) : ∀ (v0 : Rf) (v1 : Int32) (st : Mem), bX4_arrange_36 n v0 v1 st = some fin → G (cX4_arrange, "HouseClapsModel", "arrange", 20, (some .int), 2) st0 trI fin 36 [(0, vr v0), (1, vi v1)] [] st := by
  induction n with
  | zero => intro v0 v1 st h; cases h
  | succ n ih => intro v0 v1 st h; exact sX4_arrange_36B  ih v0 v1 st h
theorem sX4_arrange {a0 : Rf} {st : Mem} {fin : Int32 × Mem} (h : fX4_arrange a0 st = some fin) : Con yX4_arrange 20 [vr a0] st trI fin := by
  refine Con.mk (cc := cX4_arrange) (n := 2) (own := "HouseClapsModel") (nm := "arrange") (ret := (some .int)) (env := [(0, vr a0)]) q2270 rfl rfl rfl (by decide) ⟨Nat.le_of_ble_eq_true rfl, by decide⟩ rfl ?_
  unfold fX4_arrange at h
  refine r_aload_n (pc := 0) dX4_arrange_0 0 rfl rfl ?_
  refine r_iconst (pc := 1) (v := 0) dX4_arrange_1 (by decide) ?_
  refine r_pI (pc := 2) dX4_arrange_2 q1698 fd_55 same_rf rfl h (fun st e2 h => ?_)
  refine r_aload_n (pc := 5) dX4_arrange_5 0 rfl rfl ?_
  refine r_gA (pc := 6) dX4_arrange_6 q1704 fd_61 same_rf h (fun x6 e6 h => ?_)
  refine r_iconst (pc := 9) (v := 2) dX4_arrange_9 (by decide) ?_
  refine r_iaload (pc := 10) dX4_arrange_10 h (fun x10 e10 h => ?_)
  refine r_bipush (pc := 11) (v := 24) dX4_arrange_11 (by decide) ?_
  refine r_icmp_le (pc := 13) (tgt := 18) dX4_arrange_13 (by decide) h (fun e13 h => ?_) (fun e13 h => ?_)
  · refine r_aload_n (pc := 18) dX4_arrange_18 0 rfl rfl ?_
    refine r_iconst (pc := 19) (v := 0) dX4_arrange_19 (by decide) ?_
    refine r_pI (pc := 20) dX4_arrange_20 q1761 fd_118 same_rf rfl h (fun st e20 h => ?_)
    refine r_aload_n (pc := 23) dX4_arrange_23 0 rfl rfl ?_
    refine r_aload_n (pc := 24) dX4_arrange_24 0 rfl rfl ?_
    refine r_gJ (pc := 25) dX4_arrange_25 q1714 fd_71 same_rf h (fun x25 e25 h => ?_)
    refine r_aload_n (pc := 28) dX4_arrange_28 0 rfl rfl ?_
    refine r_gJ (pc := 29) dX4_arrange_29 q1715 fd_72 same_rf h (fun x29 e29 h => ?_)
    refine r_callI (pc := 32) (rest := []) (lkV dX4_arrange_32 q2183 xd_X4_height (vc_of vt_X4_height q2185 (fun _ => sX4_height)) adx_X4_height) (by decide) (Nat.le_of_ble_eq_true rfl) rfl h (fun x32 st e32 h => ?_)
    refine r_istore_n (pc := 35) (env' := [(1, vi x32), (0, vr a0)]) dX4_arrange_35 rfl (by decide) rfl ?_
    exact r_sub (env' := [(0, vr a0), (1, vi x32)]) [1, 0] rfl (sX4_arrange_36 hcFuel _ _ _ h)
  · refine r_iconst (pc := 16) (v := (-1)) dX4_arrange_16 (by decide) ?_
    exact r_ireturn (pc := 17) dX4_arrange_17 rfl rfl h
theorem sX4_line {a0 : Rf} {st : Mem} {fin : Int32 × Mem} (h : fX4_line a0 st = some fin) : Con yX4_line 20 [vr a0] st trI fin := by
  refine Con.mk (cc := cX4_line) (n := 2) (own := "HouseClapsModel") (nm := "line") (ret := (some .boolean)) (env := [(0, vr a0)]) q1931 rfl rfl rfl (by decide) ⟨Nat.le_of_ble_eq_true rfl, by decide⟩ rfl ?_
  unfold fX4_line at h
  refine r_aload_n (pc := 0) dX4_line_0 0 rfl rfl ?_
  refine r_ldc2 (pc := 1) dX4_line_1 q1932 ?_
  refine r_callI (pc := 4) (rest := []) (lkV dX4_line_4 q1933 xd_X4_isWord (vc_of vt_X4_isWord q1935 (fun _ => sX4_isWord)) adx_X4_isWord) (by decide) (Nat.le_of_ble_eq_true rfl) rfl h (fun x4 st e4 h => ?_)
  refine r_if_eq (pc := 7) (tgt := 15) dX4_line_7 (by decide) h (fun e7 h => ?_) (fun e7 h => ?_)
  · refine r_aload_n (pc := 15) dX4_line_15 0 rfl rfl ?_
    refine r_ldc2 (pc := 16) dX4_line_16 q1952 ?_
    refine r_callI (pc := 19) (rest := []) (lkV dX4_line_19 q1933 xd_X4_isWord (vc_of vt_X4_isWord q1935 (fun _ => sX4_isWord)) adx_X4_isWord) (by decide) (Nat.le_of_ble_eq_true rfl) rfl h (fun x19 st e19 h => ?_)
    refine r_if_eq (pc := 22) (tgt := 31) dX4_line_22 (by decide) h (fun e22 h => ?_) (fun e22 h => ?_)
    · refine r_aload_n (pc := 31) dX4_line_31 0 rfl rfl ?_
      refine r_ldc2 (pc := 32) dX4_line_32 q2011 ?_
      refine r_callI (pc := 35) (rest := []) (lkV dX4_line_35 q1933 xd_X4_isWord (vc_of vt_X4_isWord q1935 (fun _ => sX4_isWord)) adx_X4_isWord) (by decide) (Nat.le_of_ble_eq_true rfl) rfl h (fun x35 st e35 h => ?_)
      refine r_if_eq (pc := 38) (tgt := 47) dX4_line_38 (by decide) h (fun e38 h => ?_) (fun e38 h => ?_)
      · refine r_aload_n (pc := 47) dX4_line_47 0 rfl rfl ?_
        refine r_ldc2 (pc := 48) dX4_line_48 q2012 ?_
        refine r_callI (pc := 51) (rest := []) (lkV dX4_line_51 q1933 xd_X4_isWord (vc_of vt_X4_isWord q1935 (fun _ => sX4_isWord)) adx_X4_isWord) (by decide) (Nat.le_of_ble_eq_true rfl) rfl h (fun x51 st e51 h => ?_)
        refine r_if_eq (pc := 54) (tgt := 115) dX4_line_54 (by decide) h (fun e54 h => ?_) (fun e54 h => ?_)
        · refine r_aload_n (pc := 115) dX4_line_115 0 rfl rfl ?_
          refine r_ldc2 (pc := 116) dX4_line_116 q2020 ?_
          refine r_callI (pc := 119) (rest := []) (lkV dX4_line_119 q1933 xd_X4_isWord (vc_of vt_X4_isWord q1935 (fun _ => sX4_isWord)) adx_X4_isWord) (by decide) (Nat.le_of_ble_eq_true rfl) rfl h (fun x119 st e119 h => ?_)
          refine r_if_eq (pc := 122) (tgt := 185) dX4_line_122 (by decide) h (fun e122 h => ?_) (fun e122 h => ?_)
          · refine r_aload_n (pc := 185) dX4_line_185 0 rfl rfl ?_
            refine r_ldc2 (pc := 186) dX4_line_186 q2021 ?_
            refine r_callI (pc := 189) (rest := []) (lkV dX4_line_189 q1933 xd_X4_isWord (vc_of vt_X4_isWord q1935 (fun _ => sX4_isWord)) adx_X4_isWord) (by decide) (Nat.le_of_ble_eq_true rfl) rfl h (fun x189 st e189 h => ?_)
            refine r_if_eq (pc := 192) (tgt := 205) dX4_line_192 (by decide) h (fun e192 h => ?_) (fun e192 h => ?_)
            · refine r_aload_n (pc := 205) dX4_line_205 0 rfl rfl ?_
              refine r_ldc2 (pc := 206) dX4_line_206 q2026 ?_
              refine r_callI (pc := 209) (rest := []) (lkV dX4_line_209 q1933 xd_X4_isWord (vc_of vt_X4_isWord q1935 (fun _ => sX4_isWord)) adx_X4_isWord) (by decide) (Nat.le_of_ble_eq_true rfl) rfl h (fun x209 st e209 h => ?_)
              refine r_if_eq (pc := 212) (tgt := 226) dX4_line_212 (by decide) h (fun e212 h => ?_) (fun e212 h => ?_)
              · refine r_aload_n (pc := 226) dX4_line_226 0 rfl rfl ?_
                refine r_ldc2 (pc := 227) dX4_line_227 q2027 ?_
                refine r_callI (pc := 230) (rest := []) (lkV dX4_line_230 q1933 xd_X4_isWord (vc_of vt_X4_isWord q1935 (fun _ => sX4_isWord)) adx_X4_isWord) (by decide) (Nat.le_of_ble_eq_true rfl) rfl h (fun x230 st e230 h => ?_)
                refine r_if_ne (pc := 233) (tgt := 242) dX4_line_233 (by decide) h (fun e233 h => ?_) (fun e233 h => ?_)
                · refine r_aload_n (pc := 242) dX4_line_242 0 rfl rfl ?_
                  refine r_gI (pc := 243) dX4_line_243 q1720 fd_77 same_rf h (fun x243 e243 h => ?_)
                  refine r_iconst (pc := 246) (v := 2) dX4_line_246 (by decide) ?_
                  refine r_callI (pc := 247) (rest := []) (lkS dX4_line_247 q2017 q2018 q92 (fun _ => sX4_has) ad_X4_has) (by decide) (Nat.le_of_ble_eq_true rfl) rfl h (fun x247 st e247 h => ?_)
                  refine r_if_eq (pc := 250) (tgt := 259) dX4_line_250 (by decide) h (fun e250 h => ?_) (fun e250 h => ?_)
                  · refine r_aload_n (pc := 259) dX4_line_259 0 rfl rfl ?_
                    refine r_dup (pc := 260) dX4_line_260 rfl ?_
                    refine r_gI (pc := 261) dX4_line_261 q1720 fd_77 same_rf h (fun x261 e261 h => ?_)
                    refine r_iconst (pc := 264) (v := 4) dX4_line_264 (by decide) ?_
                    refine r_ior (pc := 265) dX4_line_265 ?_
                    refine r_pI (pc := 266) dX4_line_266 q1720 fd_77 same_rf rfl h (fun st e266 h => ?_)
                    refine r_aload_n (pc := 269) dX4_line_269 0 rfl rfl ?_
                    refine r_gA (pc := 270) dX4_line_270 q1705 fd_62 same_rf h (fun x270 e270 h => ?_)
                    refine r_iconst (pc := 273) (v := 5) dX4_line_273 (by decide) ?_
                    refine r_iconst (pc := 274) (v := 1) dX4_line_274 (by decide) ?_
                    refine r_iastore (pc := 275) dX4_line_275 h (fun st e275 h => ?_)
                    refine r_aload_n (pc := 276) dX4_line_276 0 rfl rfl ?_
                    refine r_callV (pc := 277) (rest := []) (lkV dX4_line_277 q1914 xd_X4_next (vc_of vt_X4_next q1916 (fun _ => sX4_next)) adx_X4_next) (by decide) (Nat.le_of_ble_eq_true rfl) rfl h (fun u277 st e277 h => ?_)
                    refine r_iconst (pc := 280) (v := 1) dX4_line_280 (by decide) ?_
                    exact r_ireturn (pc := 281) dX4_line_281 rfl rfl h
                  · refine r_aload_n (pc := 253) dX4_line_253 0 rfl rfl ?_
                    refine r_iconst (pc := 254) (v := 3) dX4_line_254 (by decide) ?_
                    refine r_callI (pc := 255) (rest := []) (lkV dX4_line_255 q1941 xd_X4_bad (vc_of vt_X4_bad q1943 (fun _ => sX4_bad)) adx_X4_bad) (by decide) (Nat.le_of_ble_eq_true rfl) rfl h (fun x255 st e255 h => ?_)
                    exact r_ireturn (pc := 258) dX4_line_258 rfl rfl h
                · refine r_aload_n (pc := 236) dX4_line_236 0 rfl rfl ?_
                  refine r_iconst (pc := 237) (v := 1) dX4_line_237 (by decide) ?_
                  refine r_callI (pc := 238) (rest := []) (lkV dX4_line_238 q1941 xd_X4_bad (vc_of vt_X4_bad q1943 (fun _ => sX4_bad)) adx_X4_bad) (by decide) (Nat.le_of_ble_eq_true rfl) rfl h (fun x238 st e238 h => ?_)
                  exact r_ireturn (pc := 241) dX4_line_241 rfl rfl h
              · refine r_aload_n (pc := 215) dX4_line_215 0 rfl rfl ?_
                refine r_iconst (pc := 216) (v := 1) dX4_line_216 (by decide) ?_
                refine r_iconst (pc := 217) (v := 4) dX4_line_217 (by decide) ?_
                refine r_iconst (pc := 218) (v := 0) dX4_line_218 (by decide) ?_
                refine r_sipush (pc := 219) (v := 600) dX4_line_219 (by decide) ?_
                refine r_callI (pc := 222) (rest := []) (lkV dX4_line_222 q2022 xd_X4_once (vc_of vt_X4_once q2024 (fun _ => sX4_once)) adx_X4_once) (by decide) (Nat.le_of_ble_eq_true rfl) rfl h (fun x222 st e222 h => ?_)
                exact r_ireturn (pc := 225) dX4_line_225 rfl rfl h
            · refine r_aload_n (pc := 195) dX4_line_195 0 rfl rfl ?_
              refine r_iconst (pc := 196) (v := 0) dX4_line_196 (by decide) ?_
              refine r_iconst (pc := 197) (v := 3) dX4_line_197 (by decide) ?_
              refine r_iconst (pc := 198) (v := 1) dX4_line_198 (by decide) ?_
              refine r_bipush (pc := 199) (v := 64) dX4_line_199 (by decide) ?_
              refine r_callI (pc := 201) (rest := []) (lkV dX4_line_201 q2022 xd_X4_once (vc_of vt_X4_once q2024 (fun _ => sX4_once)) adx_X4_once) (by decide) (Nat.le_of_ble_eq_true rfl) rfl h (fun x201 st e201 h => ?_)
              exact r_ireturn (pc := 204) dX4_line_204 rfl rfl h
          · refine r_aload_n (pc := 125) dX4_line_125 0 rfl rfl ?_
            refine r_aload_n (pc := 126) dX4_line_126 0 rfl rfl ?_
            refine r_gI (pc := 127) dX4_line_127 q1719 fd_76 same_rf h (fun x127 e127 h => ?_)
            refine r_callI (pc := 130) (rest := []) (lkV dX4_line_130 q2013 xd_X4_takesRow (vc_of vt_X4_takesRow q2015 (fun _ => sX4_takesRow)) adx_X4_takesRow) (by decide) (Nat.le_of_ble_eq_true rfl) rfl h (fun x130 st e130 h => ?_)
            refine r_if_ne (pc := 133) (tgt := 138) dX4_line_133 (by decide) h (fun e133 h => ?_) (fun e133 h => ?_)
            · refine r_aload_n (pc := 138) dX4_line_138 0 rfl rfl ?_
              refine r_gI (pc := 139) dX4_line_139 q1716 fd_73 same_rf h (fun x139 e139 h => ?_)
              refine r_istore_n (pc := 142) (env' := [(1, vi x139), (0, vr a0)]) dX4_line_142 rfl (by decide) rfl ?_
              refine r_aload_n (pc := 143) dX4_line_143 1 rfl rfl ?_
              refine r_dup (pc := 144) dX4_line_144 rfl ?_
              refine r_gI (pc := 145) dX4_line_145 q1719 fd_76 same_rf h (fun x145 e145 h => ?_)
              refine r_iconst (pc := 148) (v := 1) dX4_line_148 (by decide) ?_
              refine r_iload_n (pc := 149) dX4_line_149 0 rfl rfl ?_
              refine r_ishl (pc := 150) dX4_line_150 ?_
              refine r_ior (pc := 151) dX4_line_151 ?_
              refine r_pI (pc := 152) dX4_line_152 q1719 fd_76 same_rf rfl h (fun st e152 h => ?_)
              refine r_aload_n (pc := 155) dX4_line_155 1 rfl rfl ?_
              refine r_iconst (pc := 156) (v := 0) dX4_line_156 (by decide) ?_
              refine r_sipush (pc := 157) (v := 600) dX4_line_157 (by decide) ?_
              refine r_callI (pc := 160) (rest := []) (lkV dX4_line_160 q1990 xd_X4_takes (vc_of vt_X4_takes q1992 (fun _ => sX4_takes)) adx_X4_takes) (by decide) (Nat.le_of_ble_eq_true rfl) rfl h (fun x160 st e160 h => ?_)
              refine r_if_ne (pc := 163) (tgt := 168) dX4_line_163 (by decide) h (fun e163 h => ?_) (fun e163 h => ?_)
              · refine r_aload_n (pc := 168) dX4_line_168 1 rfl rfl ?_
                refine r_gA (pc := 169) dX4_line_169 q1705 fd_62 same_rf h (fun x169 e169 h => ?_)
                refine r_bipush (pc := 172) (v := 78) dX4_line_172 (by decide) ?_
                refine r_iload_n (pc := 174) dX4_line_174 0 rfl rfl ?_
                refine r_iadd (pc := 175) dX4_line_175 ?_
                refine r_aload_n (pc := 176) dX4_line_176 1 rfl rfl ?_
                refine r_gI (pc := 177) dX4_line_177 q1716 fd_73 same_rf h (fun x177 e177 h => ?_)
                refine r_iconst (pc := 180) (v := 1) dX4_line_180 (by decide) ?_
                refine r_iadd (pc := 181) dX4_line_181 ?_
                refine r_iastore (pc := 182) dX4_line_182 h (fun st e182 h => ?_)
                refine r_iconst (pc := 183) (v := 1) dX4_line_183 (by decide) ?_
                exact r_ireturn (pc := 184) dX4_line_184 rfl rfl h
              · refine r_iconst (pc := 166) (v := 0) dX4_line_166 (by decide) ?_
                exact r_ireturn (pc := 167) dX4_line_167 rfl rfl h
            · refine r_iconst (pc := 136) (v := 0) dX4_line_136 (by decide) ?_
              exact r_ireturn (pc := 137) dX4_line_137 rfl rfl h
        · refine r_aload_n (pc := 57) dX4_line_57 0 rfl rfl ?_
          refine r_aload_n (pc := 58) dX4_line_58 0 rfl rfl ?_
          refine r_gI (pc := 59) dX4_line_59 q1718 fd_75 same_rf h (fun x59 e59 h => ?_)
          refine r_callI (pc := 62) (rest := []) (lkV dX4_line_62 q2013 xd_X4_takesRow (vc_of vt_X4_takesRow q2015 (fun _ => sX4_takesRow)) adx_X4_takesRow) (by decide) (Nat.le_of_ble_eq_true rfl) rfl h (fun x62 st e62 h => ?_)
          refine r_if_ne (pc := 65) (tgt := 70) dX4_line_65 (by decide) h (fun e65 h => ?_) (fun e65 h => ?_)
          · refine r_aload_n (pc := 70) dX4_line_70 0 rfl rfl ?_
            refine r_gI (pc := 71) dX4_line_71 q1716 fd_73 same_rf h (fun x71 e71 h => ?_)
            refine r_istore_n (pc := 74) (env' := [(1, vi x71), (0, vr a0)]) dX4_line_74 rfl (by decide) rfl ?_
            refine r_aload_n (pc := 75) dX4_line_75 1 rfl rfl ?_
            refine r_dup (pc := 76) dX4_line_76 rfl ?_
            refine r_gI (pc := 77) dX4_line_77 q1718 fd_75 same_rf h (fun x77 e77 h => ?_)
            refine r_iconst (pc := 80) (v := 1) dX4_line_80 (by decide) ?_
            refine r_iload_n (pc := 81) dX4_line_81 0 rfl rfl ?_
            refine r_ishl (pc := 82) dX4_line_82 ?_
            refine r_ior (pc := 83) dX4_line_83 ?_
            refine r_pI (pc := 84) dX4_line_84 q1718 fd_75 same_rf rfl h (fun st e84 h => ?_)
            refine r_aload_n (pc := 87) dX4_line_87 1 rfl rfl ?_
            refine r_iconst (pc := 88) (v := 0) dX4_line_88 (by decide) ?_
            refine r_sipush (pc := 89) (v := 999) dX4_line_89 (by decide) ?_
            refine r_callI (pc := 92) (rest := []) (lkV dX4_line_92 q1990 xd_X4_takes (vc_of vt_X4_takes q1992 (fun _ => sX4_takes)) adx_X4_takes) (by decide) (Nat.le_of_ble_eq_true rfl) rfl h (fun x92 st e92 h => ?_)
            refine r_if_ne (pc := 95) (tgt := 100) dX4_line_95 (by decide) h (fun e95 h => ?_) (fun e95 h => ?_)
            · refine r_aload_n (pc := 100) dX4_line_100 1 rfl rfl ?_
              refine r_gA (pc := 101) dX4_line_101 q1705 fd_62 same_rf h (fun x101 e101 h => ?_)
              refine r_bipush (pc := 104) (v := 70) dX4_line_104 (by decide) ?_
              refine r_iload_n (pc := 106) dX4_line_106 0 rfl rfl ?_
              refine r_iadd (pc := 107) dX4_line_107 ?_
              refine r_aload_n (pc := 108) dX4_line_108 1 rfl rfl ?_
              refine r_gI (pc := 109) dX4_line_109 q1716 fd_73 same_rf h (fun x109 e109 h => ?_)
              refine r_iastore (pc := 112) dX4_line_112 h (fun st e112 h => ?_)
              refine r_iconst (pc := 113) (v := 1) dX4_line_113 (by decide) ?_
              exact r_ireturn (pc := 114) dX4_line_114 rfl rfl h
            · refine r_iconst (pc := 98) (v := 0) dX4_line_98 (by decide) ?_
              exact r_ireturn (pc := 99) dX4_line_99 rfl rfl h
          · refine r_iconst (pc := 68) (v := 0) dX4_line_68 (by decide) ?_
            exact r_ireturn (pc := 69) dX4_line_69 rfl rfl h
      · refine r_aload_n (pc := 41) dX4_line_41 0 rfl rfl ?_
        refine r_iconst (pc := 42) (v := 1) dX4_line_42 (by decide) ?_
        refine r_callI (pc := 43) (rest := []) (lkV dX4_line_43 q1953 xd_X4_readLaw (vc_of vt_X4_readLaw q1955 (fun _ => sX4_readLaw)) adx_X4_readLaw) (by decide) (Nat.le_of_ble_eq_true rfl) rfl h (fun x43 st e43 h => ?_)
        exact r_ireturn (pc := 46) dX4_line_46 rfl rfl h
    · refine r_aload_n (pc := 25) dX4_line_25 0 rfl rfl ?_
      refine r_iconst (pc := 26) (v := 0) dX4_line_26 (by decide) ?_
      refine r_callI (pc := 27) (rest := []) (lkV dX4_line_27 q1953 xd_X4_readLaw (vc_of vt_X4_readLaw q1955 (fun _ => sX4_readLaw)) adx_X4_readLaw) (by decide) (Nat.le_of_ble_eq_true rfl) rfl h (fun x27 st e27 h => ?_)
      exact r_ireturn (pc := 30) dX4_line_30 rfl rfl h
  · refine r_aload_n (pc := 10) dX4_line_10 0 rfl rfl ?_
    refine r_callI (pc := 11) (rest := []) (lkV dX4_line_11 q1937 xd_X4_readRow (vc_of vt_X4_readRow q1939 (fun _ => sX4_readRow)) adx_X4_readRow) (by decide) (Nat.le_of_ble_eq_true rfl) rfl h (fun x11 st e11 h => ?_)
    exact r_ireturn (pc := 14) dX4_line_14 rfl rfl h
theorem sX4_house_119 {st0 : Mem} {fin : Int32 × Mem} {kk90 : Rf → Int32 → Mem → Option (Int32 × Mem)} (hk90 : ∀ (v0 : Rf) (v1 : Int32) (st : Mem), kk90 v0 v1 st = some fin → G (cX4_house, "HouseClapsModel", "house", 22, (some .int), 2) st0 trI fin 90 [(0, vr v0), (1, vi v1)] [] st) (v0 : Rf) (v1 : Int32) (k0 : Rf) (k1 : Int32) (k2 : Int32) (st : Mem) (h : bX4_house_119 kk90 v0 v1 k0 k1 k2 st = some fin) : G (cX4_house, "HouseClapsModel", "house", 22, (some .int), 2) st0 trI fin 119 [(0, vr v0), (1, vi v1)] [vi k2, vi k1, vr k0] st := by
  unfold bX4_house_119 at h
  refine r_iastore (pc := 119) dX4_house_119 h (fun st e119 h => ?_)
  refine r_iinc (pc := 120) (env' := [(1, vi (v1 + 1)), (0, vr v0)]) (cst := 1) dX4_house_120 1 rfl (by decide) (by decide) rfl ?_
  refine r_goto (pc := 123) (tgt := 90) dX4_house_123 (by decide) ?_
  exact r_sub (env' := [(0, vr v0), (1, vi (v1 + 1))]) [1, 0] rfl (hk90 _ _ _ h)
theorem sX4_house_90B {st0 : Mem} {fin : Int32 × Mem} {kk90 : Rf → Int32 → Mem → Option (Int32 × Mem)} (hk90 : ∀ (v0 : Rf) (v1 : Int32) (st : Mem), kk90 v0 v1 st = some fin → G (cX4_house, "HouseClapsModel", "house", 22, (some .int), 2) st0 trI fin 90 [(0, vr v0), (1, vi v1)] [] st) (v0 : Rf) (v1 : Int32) (st : Mem) (h : bX4_house_90B kk90 v0 v1 st = some fin) : G (cX4_house, "HouseClapsModel", "house", 22, (some .int), 2) st0 trI fin 90 [(0, vr v0), (1, vi v1)] [] st := by
  unfold bX4_house_90B at h
  refine r_iload_n (pc := 90) dX4_house_90 1 rfl rfl ?_
  refine r_sipush (pc := 91) (v := 681) dX4_house_91 (by decide) ?_
  refine r_icmp_ge (pc := 94) (tgt := 126) dX4_house_94 (by decide) h (fun e94 h => ?_) (fun e94 h => ?_)
  · refine r_aload_n (pc := 126) dX4_house_126 0 rfl rfl ?_
    refine r_lconst (pc := 127) (v := 0) dX4_house_127 (by decide) ?_
    refine r_pJ (pc := 128) dX4_house_128 q1714 fd_71 same_rf rfl h (fun st e128 h => ?_)
    refine r_aload_n (pc := 131) dX4_house_131 0 rfl rfl ?_
    refine r_lconst (pc := 132) (v := 0) dX4_house_132 (by decide) ?_
    refine r_pJ (pc := 133) dX4_house_133 q1715 fd_72 same_rf rfl h (fun st e133 h => ?_)
    refine r_aload_n (pc := 136) dX4_house_136 0 rfl rfl ?_
    refine r_iconst (pc := 137) (v := 1) dX4_house_137 (by decide) ?_
    refine r_pI (pc := 138) dX4_house_138 q1728 fd_85 same_rf rfl h (fun st e138 h => ?_)
    refine r_aload_n (pc := 141) dX4_house_141 0 rfl rfl ?_
    refine r_gI (pc := 142) dX4_house_142 q1717 fd_74 same_rf h (fun x142 e142 h => ?_)
    exact r_ireturn (pc := 145) dX4_house_145 rfl rfl h
  · refine r_aload_n (pc := 97) dX4_house_97 0 rfl rfl ?_
    refine r_gA (pc := 98) dX4_house_98 q1704 fd_61 same_rf h (fun x98 e98 h => ?_)
    refine r_iload_n (pc := 101) dX4_house_101 1 rfl rfl ?_
    refine r_iload_n (pc := 102) dX4_house_102 1 rfl rfl ?_
    refine r_sipush (pc := 103) (v := 590) dX4_house_103 (by decide) ?_
    refine r_icmp_ge (pc := 106) (tgt := 118) dX4_house_106 (by decide) h (fun e106 h => ?_) (fun e106 h => ?_)
    · refine r_iconst (pc := 118) (v := 0) dX4_house_118 (by decide) ?_
      exact sX4_house_119 hk90 _ _ _ _ _ _ h
    · refine r_aload_n (pc := 109) dX4_house_109 0 rfl rfl ?_
      refine r_gA (pc := 110) dX4_house_110 q1705 fd_62 same_rf h (fun x110 e110 h => ?_)
      refine r_iload_n (pc := 113) dX4_house_113 1 rfl rfl ?_
      refine r_iaload (pc := 114) dX4_house_114 h (fun x114 e114 h => ?_)
      refine r_goto (pc := 115) (tgt := 119) dX4_house_115 (by decide) ?_
      exact sX4_house_119 hk90 _ _ _ _ _ _ h
theorem sX4_house_90 {st0 : Mem} {fin : Int32 × Mem} (n : Nat) : ∀ (v0 : Rf) (v1 : Int32) (st : Mem), bX4_house_90 n v0 v1 st = some fin → G (cX4_house, "HouseClapsModel", "house", 22, (some .int), 2) st0 trI fin 90 [(0, vr v0), (1, vi v1)] [] st := by
  induction n with
  | zero => intro v0 v1 st h; cases h
  | succ n ih => intro v0 v1 st h; exact sX4_house_90B  ih v0 v1 st h
theorem sX4_house_68 {st0 : Mem} {fin : Int32 × Mem} (v0 : Rf) (st : Mem) (h : bX4_house_68 v0 st = some fin) : G (cX4_house, "HouseClapsModel", "house", 22, (some .int), 2) st0 trI fin 68 [(0, vr v0)] [] st := by
  unfold bX4_house_68 at h
  refine r_iconst (pc := 68) (v := (-1)) dX4_house_68 (by decide) ?_
  refine r_aload_n (pc := 69) dX4_house_69 0 rfl rfl ?_
  refine r_gI (pc := 70) dX4_house_70 q1712 fd_69 same_rf h (fun x70 e70 h => ?_)
  refine r_isub (pc := 73) dX4_house_73 ?_
  exact r_ireturn (pc := 74) dX4_house_74 rfl rfl h
theorem sX4_house_45B {st0 : Mem} {fin : Int32 × Mem} {kk45 : Rf → Mem → Option (Int32 × Mem)} (hk45 : ∀ (v0 : Rf) (st : Mem), kk45 v0 st = some fin → G (cX4_house, "HouseClapsModel", "house", 22, (some .int), 2) st0 trI fin 45 [(0, vr v0)] [] st) (v0 : Rf) (st : Mem) (h : bX4_house_45B kk45 v0 st = some fin) : G (cX4_house, "HouseClapsModel", "house", 22, (some .int), 2) st0 trI fin 45 [(0, vr v0)] [] st := by
  unfold bX4_house_45B at h
  refine r_aload_n (pc := 45) dX4_house_45 0 rfl rfl ?_
  refine r_gI (pc := 46) dX4_house_46 q1707 fd_64 same_rf h (fun x46 e46 h => ?_)
  refine r_if_eq (pc := 49) (tgt := 88) dX4_house_49 (by decide) h (fun e49 h => ?_) (fun e49 h => ?_)
  · refine r_iconst (pc := 88) (v := 0) dX4_house_88 (by decide) ?_
    refine r_istore_n (pc := 89) (env' := [(1, vi (0 : Int32)), (0, vr v0)]) dX4_house_89 rfl (by decide) rfl ?_
    exact r_sub (env' := [(0, vr v0), (1, vi (0 : Int32))]) [1, 0] rfl (sX4_house_90 hcFuel _ _ _ h)
  · refine r_aload_n (pc := 52) dX4_house_52 0 rfl rfl ?_
    refine r_callI (pc := 53) (rest := []) (lkV dX4_house_53 q1928 xd_X4_line (vc_of vt_X4_line q1930 (fun _ => sX4_line)) adx_X4_line) (by decide) (Nat.le_of_ble_eq_true rfl) rfl h (fun x53 st e53 h => ?_)
    refine r_if_eq (pc := 56) (tgt := 68) dX4_house_56 (by decide) h (fun e56 h => ?_) (fun e56 h => ?_)
    · exact sX4_house_68 _ _ h
    · refine r_aload_n (pc := 59) dX4_house_59 0 rfl rfl ?_
      refine r_bipush (pc := 60) (v := 59) dX4_house_60 (by decide) ?_
      refine r_callI (pc := 62) (rest := []) (lkV dX4_house_62 q2028 xd_X4_sign (vc_of vt_X4_sign q2030 (fun _ => sX4_sign)) adx_X4_sign) (by decide) (Nat.le_of_ble_eq_true rfl) rfl h (fun x62 st e62 h => ?_)
      refine r_if_ne (pc := 65) (tgt := 75) dX4_house_65 (by decide) h (fun e65 h => ?_) (fun e65 h => ?_)
      · refine r_aload_n (pc := 75) dX4_house_75 0 rfl rfl ?_
        refine r_dup (pc := 76) dX4_house_76 rfl ?_
        refine r_gI (pc := 77) dX4_house_77 q1717 fd_74 same_rf h (fun x77 e77 h => ?_)
        refine r_iconst (pc := 80) (v := 1) dX4_house_80 (by decide) ?_
        refine r_iadd (pc := 81) dX4_house_81 ?_
        refine r_pI (pc := 82) dX4_house_82 q1717 fd_74 same_rf rfl h (fun st e82 h => ?_)
        refine r_goto (pc := 85) (tgt := 45) dX4_house_85 (by decide) ?_
        exact hk45 _ _ h
      · exact sX4_house_68 _ _ h
theorem sX4_house_45 {st0 : Mem} {fin : Int32 × Mem} (n : Nat) : ∀ (v0 : Rf) (st : Mem), bX4_house_45 n v0 st = some fin → G (cX4_house, "HouseClapsModel", "house", 22, (some .int), 2) st0 trI fin 45 [(0, vr v0)] [] st := by
  induction n with
  | zero => intro v0 st h; cases h
  | succ n ih => intro v0 st h; exact sX4_house_45B  ih v0 st h
theorem sX4_house {a0 : Rf} {st : Mem} {fin : Int32 × Mem} (h : fX4_house a0 st = some fin) : Con yX4_house 22 [vr a0] st trI fin := by
  refine Con.mk (cc := cX4_house) (n := 2) (own := "HouseClapsModel") (nm := "house") (ret := (some .int)) (env := [(0, vr a0)]) q1909 rfl rfl rfl (by decide) ⟨Nat.le_of_ble_eq_true rfl, by decide⟩ rfl ?_
  unfold fX4_house at h
  refine r_aload_n (pc := 0) dX4_house_0 0 rfl rfl ?_
  refine r_iconst (pc := 1) (v := 0) dX4_house_1 (by decide) ?_
  refine r_pI (pc := 2) dX4_house_2 q1698 fd_55 same_rf rfl h (fun st e2 h => ?_)
  refine r_aload_n (pc := 5) dX4_house_5 0 rfl rfl ?_
  refine r_sipush (pc := 6) (v := 900) dX4_house_6 (by decide) ?_
  refine r_callV (pc := 9) (rest := []) (lkV dX4_house_9 q1910 xd_X4_taken (vc_of vt_X4_taken q1912 (fun _ => sX4_taken)) adx_X4_taken) (by decide) (Nat.le_of_ble_eq_true rfl) rfl h (fun u9 st e9 h => ?_)
  refine r_aload_n (pc := 12) dX4_house_12 0 rfl rfl ?_
  refine r_iconst (pc := 13) (v := 0) dX4_house_13 (by decide) ?_
  refine r_pI (pc := 14) dX4_house_14 q1711 fd_68 same_rf rfl h (fun st e14 h => ?_)
  refine r_aload_n (pc := 17) dX4_house_17 0 rfl rfl ?_
  refine r_iconst (pc := 18) (v := 0) dX4_house_18 (by decide) ?_
  refine r_pI (pc := 19) dX4_house_19 q1717 fd_74 same_rf rfl h (fun st e19 h => ?_)
  refine r_aload_n (pc := 22) dX4_house_22 0 rfl rfl ?_
  refine r_iconst (pc := 23) (v := 0) dX4_house_23 (by decide) ?_
  refine r_pI (pc := 24) dX4_house_24 q1718 fd_75 same_rf rfl h (fun st e24 h => ?_)
  refine r_aload_n (pc := 27) dX4_house_27 0 rfl rfl ?_
  refine r_iconst (pc := 28) (v := 0) dX4_house_28 (by decide) ?_
  refine r_pI (pc := 29) dX4_house_29 q1719 fd_76 same_rf rfl h (fun st e29 h => ?_)
  refine r_aload_n (pc := 32) dX4_house_32 0 rfl rfl ?_
  refine r_iconst (pc := 33) (v := 0) dX4_house_33 (by decide) ?_
  refine r_pI (pc := 34) dX4_house_34 q1720 fd_77 same_rf rfl h (fun st e34 h => ?_)
  refine r_aload_n (pc := 37) dX4_house_37 0 rfl rfl ?_
  refine r_callV (pc := 38) (rest := []) (lkV dX4_house_38 q1694 xd_X4_plainHouse (vc_of vt_X4_plainHouse q1696 (fun _ => sX4_plainHouse)) adx_X4_plainHouse) (by decide) (Nat.le_of_ble_eq_true rfl) rfl h (fun u38 st e38 h => ?_)
  refine r_aload_n (pc := 41) dX4_house_41 0 rfl rfl ?_
  refine r_callV (pc := 42) (rest := []) (lkV dX4_house_42 q1914 xd_X4_next (vc_of vt_X4_next q1916 (fun _ => sX4_next)) adx_X4_next) (by decide) (Nat.le_of_ble_eq_true rfl) rfl h (fun u42 st e42 h => ?_)
  exact sX4_house_45 hcFuel _ _ h
