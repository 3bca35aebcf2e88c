/-! the walks (printed by gen/build.py) -/
theorem m_X1_byteOf (a1 : Int32) (a2 : Int32) (a3 : Int32) (a4 : Int32) (a5 : Int32) (a6 : Int32) : amMet yX1_byteOf cX1_byteOf 7 (some .int) 1 32 encI [.int a1, .int a2, .int a3, .int a4, .int a5, .int a6] (up (p_X1_byteOf a1 a2 a3 a4 a5 a6)) := by
  refine amMet.of (own := RX1) (by decide) rfl (Nat.le_of_ble_eq_true rfl) fun X hX hPs => ?_
  change WG X encI 0 [(0, .int a1), (1, .int a2), (2, .int a3), (3, .int a4), (4, .int a5), (5, .int a6)] [] (bd1 (up (p_X1_byteOf a1 a2 a3 a4 a5 a6)) rt1)
  unfold p_X1_byteOf
  refine wg_iload (pc := 0) hX dX1_byteOf_0 5 rfl ?_
  refine wg_iconst (pc := 2) (v := 4) hX dX1_byteOf_2 rfl ?_
  refine wu_jx (α := Int32) (pcJ := 45) (lJ := fun x => [(5, .int a6)]) (sJ := fun x => [.int x]) (fun K1 hk1 => ?_) (fun z1 => ?_)
  · refine wg_icmp_ge (pc := 3) (tgt := 10) hX dX1_byteOf_3 (by decide) (fun h2 => ?_) (fun h2 => ?_)
    rotate_left
    · refine wu_f h2 ?_
      refine wg_iload_n (pc := 6) hX dX1_byteOf_6 0 rfl ?_
      refine wg_goto (pc := 7) (tgt := 45) hX dX1_byteOf_7 (by decide) ?_
      refine wg_sub hX [5] rfl ?_
      exact wu_rt (hk1 a1)
    refine wu_t h2 ?_
    refine wg_iload (pc := 10) hX dX1_byteOf_10 5 rfl ?_
    refine wg_bipush (pc := 12) (v := 8) hX dX1_byteOf_12 rfl ?_
    refine wg_icmp_ge (pc := 14) (tgt := 21) hX dX1_byteOf_14 (by decide) (fun h3 => ?_) (fun h3 => ?_)
    rotate_left
    · refine wu_f h3 ?_
      refine wg_iload_n (pc := 17) hX dX1_byteOf_17 1 rfl ?_
      refine wg_goto (pc := 18) (tgt := 45) hX dX1_byteOf_18 (by decide) ?_
      refine wg_sub hX [5] rfl ?_
      exact wu_rt (hk1 a2)
    refine wu_t h3 ?_
    refine wg_iload (pc := 21) hX dX1_byteOf_21 5 rfl ?_
    refine wg_bipush (pc := 23) (v := 12) hX dX1_byteOf_23 rfl ?_
    refine wg_icmp_ge (pc := 25) (tgt := 32) hX dX1_byteOf_25 (by decide) (fun h4 => ?_) (fun h4 => ?_)
    rotate_left
    · refine wu_f h4 ?_
      refine wg_iload_n (pc := 28) hX dX1_byteOf_28 2 rfl ?_
      refine wg_goto (pc := 29) (tgt := 45) hX dX1_byteOf_29 (by decide) ?_
      refine wg_sub hX [5] rfl ?_
      exact wu_rt (hk1 a3)
    refine wu_t h4 ?_
    refine wg_iload (pc := 32) hX dX1_byteOf_32 5 rfl ?_
    refine wg_bipush (pc := 34) (v := 16) hX dX1_byteOf_34 rfl ?_
    refine wg_icmp_ge (pc := 36) (tgt := 43) hX dX1_byteOf_36 (by decide) (fun h5 => ?_) (fun h5 => ?_)
    · refine wu_t h5 ?_
      refine wg_iload (pc := 43) hX dX1_byteOf_43 4 rfl ?_
      refine wg_sub hX [5] rfl ?_
      exact wu_rt (hk1 a5)
    refine wu_f h5 ?_
    refine wg_iload_n (pc := 39) hX dX1_byteOf_39 3 rfl ?_
    refine wg_goto (pc := 40) (tgt := 45) hX dX1_byteOf_40 (by decide) ?_
    refine wg_sub hX [5] rfl ?_
    exact wu_rt (hk1 a4)
  refine wg_istore (pc := 45) (l' := [(5, .int a6), (6, .int z1)]) hX dX1_byteOf_45 (by decide) rfl ?_
  refine wg_iload (pc := 47) hX dX1_byteOf_47 1 rfl ?_
  refine wg_bipush (pc := 49) (v := 24) hX dX1_byteOf_49 rfl ?_
  refine wg_bipush (pc := 51) (v := 8) hX dX1_byteOf_51 rfl ?_
  refine wg_iload (pc := 53) hX dX1_byteOf_53 0 rfl ?_
  refine wg_iconst (pc := 55) (v := 4) hX dX1_byteOf_55 rfl ?_
  refine wg_irem (pc := 56) hX dX1_byteOf_56 (by decide) ?_
  refine wg_imul (pc := 57) hX dX1_byteOf_57 ?_
  refine wg_isub (pc := 58) hX dX1_byteOf_58 ?_
  refine wg_ishr (pc := 59) hX dX1_byteOf_59 ?_
  refine wg_sipush (pc := 60) (v := 255) hX dX1_byteOf_60 rfl ?_
  refine wg_iand (pc := 63) hX dX1_byteOf_63 ?_
  exact wu_rt (wg_iret (pc := 64) hX rfl rfl dX1_byteOf_64)
theorem m_X1_feed (a1 : Int32) (a2 : Int32) (a3 : Int32) (a4 : Int32) (a5 : Int32) : amMet yX1_feed cX1_feed 9 (some .int) 2 58 encI [.ref (rid 0 1), .int a1, .int a2, .int a3, .int a4, .int a5] (up (p_X1_feed a1 a2 a3 a4 a5)) := by
  refine amMet.of (own := RX1) (by decide) rfl (Nat.le_of_ble_eq_true rfl) fun X hX hPs => ?_
  change WG X encI 0 [(0, .ref (rid 0 1)), (1, .int a1), (2, .int a2), (3, .int a3), (4, .int a4), (5, .int a5)] [] (bd1 (up (p_X1_feed a1 a2 a3 a4 a5)) rt1)
  unfold p_X1_feed
  have hM0 := amPs.m0 hPs
  refine wu_ (wg_gM ?_)
  refine wg_iconst (pc := 0) (v := 0) hX dX1_feed_0 rfl ?_
  refine wg_istore (pc := 1) (l' := [(0, .ref (rid 0 1)), (1, .int a1), (2, .int a2), (3, .int a3), (4, .int a4), (5, .int a5), (6, .int 0)]) hX dX1_feed_1 (by decide) rfl ?_
  refine wg_iconst (pc := 3) (v := 0) hX dX1_feed_3 rfl ?_
  refine wg_istore (pc := 4) (l' := [(0, .ref (rid 0 1)), (1, .int a1), (2, .int a2), (3, .int a3), (4, .int a4), (5, .int a5), (6, .int 0), (7, .int 0)]) hX dX1_feed_4 (by decide) rfl ?_
  refine wu_lpx (α := Int32 × Int32) (γ := Int32) (pcl := 6) (pcT := 37) (lo := fun x => [(0, .ref (rid 0 1)), (1, .int a1), (2, .int a2), (3, .int a3), (4, .int a4), (5, .int a5), (6, .int x.1), (7, .int x.2)]) (so := fun _ => []) (lT := fun x => [(0, .ref (rid 0 1)), (1, .int a1), (2, .int a2), (3, .int a3), (4, .int a4), (5, .int a5), (6, .int x)]) (sT := fun _ => []) (n := amFu) (x0 := (0, 0)) (fun K1 rec1 hrec1 hk1 x1 => ?_) (fun y2 => ?_)
  · unfold p_X1_feed_L6
    refine wg_iload (pc := 6) hX dX1_feed_6 7 rfl ?_
    refine wg_bipush (pc := 8) (v := 20) hX dX1_feed_8 rfl ?_
    refine wg_icmp_ge (pc := 10) (tgt := 37) hX dX1_feed_10 (by decide) (fun h3 => ?_) (fun h3 => ?_)
    · refine wu_t h3 ?_
      refine wg_sub hX [0, 1, 2, 3, 4, 5, 6] rfl ?_
      exact wu_rt (hk1 x1.1)
    refine wu_f h3 ?_
    refine wg_iload_n (pc := 13) hX dX1_feed_13 1 rfl ?_
    refine wg_iload_n (pc := 14) hX dX1_feed_14 2 rfl ?_
    refine wg_iload_n (pc := 15) hX dX1_feed_15 3 rfl ?_
    refine wg_iload (pc := 16) hX dX1_feed_16 4 rfl ?_
    refine wg_iload (pc := 18) hX dX1_feed_18 5 rfl ?_
    refine wg_iload (pc := 20) hX dX1_feed_20 7 rfl ?_
    refine wu_ (wg_cSi (pc := 22) (As := [.int a1, .int a2, .int a3, .int a4, .int a5, .int x1.2]) (rest := []) hX (m_X1_byteOf a1 a2 a3 a4 a5 x1.2) (lw_S q1041 q1042 q159 q1043) hd_X1_byteOf rfl (Nat.le_of_ble_eq_true rfl) (Nat.le_of_ble_eq_true rfl) (Nat.le_of_ble_eq_true rfl) rfl dX1_feed_22 fun v4 => ?_)
    refine wu_jx (α := Int32) (pcJ := 31) (lJ := fun x => [(0, .ref (rid 0 1)), (1, .int a1), (2, .int a2), (3, .int a3), (4, .int a4), (5, .int a5), (6, .int x), (7, .int x1.2)]) (sJ := fun x => []) (fun K5 hk5 => ?_) (fun z5 => ?_)
    · refine wg_if_eq (pc := 25) (tgt := 31) hX dX1_feed_25 (by decide) (fun h6 => ?_) (fun h6 => ?_)
      · refine wu_t h6 ?_
        exact wu_rt (hk5 x1.1)
      refine wu_f h6 ?_
      refine wg_iinc (pc := 28) (v := (x1.1 + 1)) (l' := [(0, .ref (rid 0 1)), (1, .int a1), (2, .int a2), (3, .int a3), (4, .int a4), (5, .int a5), (6, .int (x1.1 + 1)), (7, .int x1.2)]) hX dX1_feed_28 6 rfl rfl (by decide) rfl ?_
      exact wu_rt (hk5 (x1.1 + 1))
    refine wg_iinc (pc := 31) (v := (x1.2 + 1)) (l' := [(0, .ref (rid 0 1)), (1, .int a1), (2, .int a2), (3, .int a3), (4, .int a4), (5, .int a5), (6, .int z5), (7, .int (x1.2 + 1))]) hX dX1_feed_31 7 rfl rfl (by decide) rfl ?_
    refine wg_goto (pc := 34) (tgt := 6) hX dX1_feed_34 (by decide) ?_
    exact hrec1 (z5, (x1.2 + 1))
  refine wg_aload_n (pc := 37) hX dX1_feed_37 0 rfl ?_
  refine wu_ (wg_gI (pc := 38) hX fd_X1_458 dX1_feed_38 fun v7 => ?_)
  refine wg_iload (pc := 41) hX dX1_feed_41 6 rfl ?_
  refine wg_iadd (pc := 43) hX dX1_feed_43 ?_
  refine wg_sipush (pc := 44) (v := 200) hX dX1_feed_44 rfl ?_
  refine wg_icmp_le (pc := 47) (tgt := 52) hX dX1_feed_47 (by decide) (fun h8 => ?_) (fun h8 => ?_)
  rotate_left
  · refine wu_f h8 ?_
    refine wg_iconst (pc := 50) (v := (-1)) hX dX1_feed_50 rfl ?_
    exact wu_rt (wg_iret (pc := 51) hX rfl rfl dX1_feed_51)
  refine wu_t h8 ?_
  refine wg_iconst (pc := 52) (v := 0) hX dX1_feed_52 rfl ?_
  refine wg_istore (pc := 53) (l' := [(0, .ref (rid 0 1)), (1, .int a1), (2, .int a2), (3, .int a3), (4, .int a4), (5, .int a5), (6, .int y2), (7, .int 0)]) hX dX1_feed_53 (by decide) rfl ?_
  refine wg_sub hX [0, 1, 2, 3, 4, 5, 7] rfl ?_
  refine wu_lpx (α := Int32) (γ := Unit) (pcl := 55) (pcT := 106) (lo := fun x => [(0, .ref (rid 0 1)), (1, .int a1), (2, .int a2), (3, .int a3), (4, .int a4), (5, .int a5), (7, .int x)]) (so := fun _ => []) (lT := fun x => [(0, .ref (rid 0 1))]) (sT := fun _ => []) (n := amFu) (x0 := 0) (fun K9 rec9 hrec9 hk9 x9 => ?_) (fun y10 => ?_)
  · unfold p_X1_feed_L55
    refine wg_iload (pc := 55) hX dX1_feed_55 6 rfl ?_
    refine wg_bipush (pc := 57) (v := 20) hX dX1_feed_57 rfl ?_
    refine wg_icmp_ge (pc := 59) (tgt := 106) hX dX1_feed_59 (by decide) (fun h11 => ?_) (fun h11 => ?_)
    · refine wu_t h11 ?_
      refine wg_sub hX [0] rfl ?_
      exact wu_rt (hk9 ())
    refine wu_f h11 ?_
    refine wg_iload_n (pc := 62) hX dX1_feed_62 1 rfl ?_
    refine wg_iload_n (pc := 63) hX dX1_feed_63 2 rfl ?_
    refine wg_iload_n (pc := 64) hX dX1_feed_64 3 rfl ?_
    refine wg_iload (pc := 65) hX dX1_feed_65 4 rfl ?_
    refine wg_iload (pc := 67) hX dX1_feed_67 5 rfl ?_
    refine wg_iload (pc := 69) hX dX1_feed_69 6 rfl ?_
    refine wu_ (wg_cSi (pc := 71) (As := [.int a1, .int a2, .int a3, .int a4, .int a5, .int x9]) (rest := []) hX (m_X1_byteOf a1 a2 a3 a4 a5 x9) (lw_S q1041 q1042 q159 q1043) hd_X1_byteOf rfl (Nat.le_of_ble_eq_true rfl) (Nat.le_of_ble_eq_true rfl) (Nat.le_of_ble_eq_true rfl) rfl dX1_feed_71 fun v12 => ?_)
    refine wg_istore (pc := 74) (l' := [(0, .ref (rid 0 1)), (1, .int a1), (2, .int a2), (3, .int a3), (4, .int a4), (5, .int a5), (7, .int x9), (8, .int v12)]) hX dX1_feed_74 (by decide) rfl ?_
    refine wg_iload (pc := 76) hX dX1_feed_76 7 rfl ?_
    refine wu_jx (α := Unit) (pcJ := 100) (lJ := fun x => [(0, .ref (rid 0 1)), (1, .int a1), (2, .int a2), (3, .int a3), (4, .int a4), (5, .int a5), (7, .int x9)]) (sJ := fun x => []) (fun K13 hk13 => ?_) (fun z13 => ?_)
    · refine wg_if_eq (pc := 78) (tgt := 100) hX dX1_feed_78 (by decide) (fun h14 => ?_) (fun h14 => ?_)
      · refine wu_t h14 ?_
        refine wg_sub hX [0, 1, 2, 3, 4, 5, 6] rfl ?_
        exact wu_rt (hk13 ())
      refine wu_f h14 ?_
      refine wg_aload_n (pc := 81) hX dX1_feed_81 0 rfl ?_
      refine wg_gK (pc := 82) hX hM0 fd_X1_62 (by decide) dX1_feed_82 ?_
      refine wg_aload_n (pc := 85) hX dX1_feed_85 0 rfl ?_
      refine wg_dup (pc := 86) hX dX1_feed_86 rfl ?_
      refine wu_ (wg_gI (pc := 87) hX fd_X1_458 dX1_feed_87 fun v15 => ?_)
      refine wg_dup_x1 (pc := 90) hX dX1_feed_90 rfl rfl ?_
      refine wg_iconst (pc := 91) (v := 1) hX dX1_feed_91 rfl ?_
      refine wg_iadd (pc := 92) hX dX1_feed_92 ?_
      refine wu_ (wg_pI (pc := 93) hX fp_X1_458 (fun h => by cases h) dX1_feed_93 ?_)
      refine wg_iload (pc := 96) hX dX1_feed_96 7 rfl ?_
      refine wg_i2b (pc := 98) hX dX1_feed_98 ?_
      refine wu_ (wg_wB (pc := 99) hX ar_30 dX1_feed_99 ?_)
      refine wg_sub hX [0, 1, 2, 3, 4, 5, 6] rfl ?_
      exact wu_rt (hk13 ())
    refine wg_iinc (pc := 100) (v := (x9 + 1)) (l' := [(0, .ref (rid 0 1)), (1, .int a1), (2, .int a2), (3, .int a3), (4, .int a4), (5, .int a5), (7, .int (x9 + 1))]) hX dX1_feed_100 6 rfl rfl (by decide) rfl ?_
    refine wg_goto (pc := 103) (tgt := 55) hX dX1_feed_103 (by decide) ?_
    exact hrec9 (x9 + 1)
  refine wg_aload_n (pc := 106) hX dX1_feed_106 0 rfl ?_
  refine wu_ (wg_gI (pc := 107) hX fd_X1_458 dX1_feed_107 fun v16 => ?_)
  exact wu_rt (wg_iret (pc := 110) hX rfl rfl dX1_feed_110)
theorem m_X1_end (a1 : Int32) : amMet yX1_end cX1_end 2 (some .boolean) 1 32 encI [.ref (rid 0 1), .int a1] (up (p_X1_end a1)) := by
  refine amMet.of (own := RX1) (by decide) rfl (Nat.le_of_ble_eq_true rfl) fun X hX hPs => ?_
  change WG X encI 0 [(0, .ref (rid 0 1)), (1, .int a1)] [] (bd1 (up (p_X1_end a1)) rt1)
  unfold p_X1_end
  refine wg_iload_n (pc := 0) hX dX1_end_0 1 rfl ?_
  refine wg_if_lt (pc := 1) (tgt := 12) hX dX1_end_1 (by decide) (fun h1 => ?_) (fun h1 => ?_)
  · refine wu_t h1 ?_
    refine wg_iconst (pc := 12) (v := 0) hX dX1_end_12 rfl ?_
    exact wu_rt (wg_zret (pc := 13) hX rfl (by decide) rfl dX1_end_13)
  refine wu_f h1 ?_
  refine wg_iload_n (pc := 4) hX dX1_end_4 1 rfl ?_
  refine wg_aload_n (pc := 5) hX dX1_end_5 0 rfl ?_
  refine wu_ (wg_gI (pc := 6) hX fd_X1_458 dX1_end_6 fun v2 => ?_)
  refine wg_icmp_le (pc := 9) (tgt := 14) hX dX1_end_9 (by decide) (fun h3 => ?_) (fun h3 => ?_)
  rotate_left
  · refine wu_f h3 ?_
    refine wg_iconst (pc := 12) (v := 0) hX dX1_end_12 rfl ?_
    exact wu_rt (wg_zret (pc := 13) hX rfl (by decide) rfl dX1_end_13)
  refine wu_t h3 ?_
  refine wg_aload_n (pc := 14) hX dX1_end_14 0 rfl ?_
  refine wg_iload_n (pc := 15) hX dX1_end_15 1 rfl ?_
  refine wu_ (wg_pI (pc := 16) hX fp_X1_458 (fun h => by cases h) dX1_end_16 ?_)
  refine wg_iconst (pc := 19) (v := 1) hX dX1_end_19 rfl ?_
  exact wu_rt (wg_zret (pc := 20) hX rfl (by decide) rfl dX1_end_20)
theorem m_X1_begin (a1 : Int32) : amMet yX1_begin cX1_begin 2 none 1 32 encV [.ref (rid 0 1), .int a1] (up (p_X1_begin a1)) := by
  refine amMet.of (own := RX1) (by decide) rfl (Nat.le_of_ble_eq_true rfl) fun X hX hPs => ?_
  change WG X encV 0 [(0, .ref (rid 0 1)), (1, .int a1)] [] (bd1 (up (p_X1_begin a1)) rt1)
  unfold p_X1_begin
  refine wg_aload_n (pc := 0) hX dX1_begin_0 0 rfl ?_
  refine wg_iload_n (pc := 1) hX dX1_begin_1 1 rfl ?_
  refine wu_ (wg_pI (pc := 2) hX fp_X1_493 (fun h => by cases h) dX1_begin_2 ?_)
  refine wg_aload_n (pc := 5) hX dX1_begin_5 0 rfl ?_
  refine wg_iconst (pc := 6) (v := 0) hX dX1_begin_6 rfl ?_
  refine wu_ (wg_pI (pc := 7) hX fp_X1_461 (fun h => by cases h) dX1_begin_7 ?_)
  refine wg_aload_n (pc := 10) hX dX1_begin_10 0 rfl ?_
  refine wg_iconst (pc := 11) (v := 0) hX dX1_begin_11 rfl ?_
  refine wu_ (wg_pI (pc := 12) hX fp_X1_480 (fun h => by cases h) dX1_begin_12 ?_)
  exact wu_rt (wg_vret (pc := 15) hX rfl rfl dX1_begin_15)
theorem m_X1_look  : amMet yX1_look cX1_look 1 (some .int) 1 32 encI [.ref (rid 0 1)] (up (p_X1_look)) := by
  refine amMet.of (own := RX1) (by decide) rfl (Nat.le_of_ble_eq_true rfl) fun X hX hPs => ?_
  change WG X encI 0 [(0, .ref (rid 0 1))] [] (bd1 (up (p_X1_look)) rt1)
  unfold p_X1_look
  have hM0 := amPs.m0 hPs
  refine wu_ (wg_gM ?_)
  refine wu_lpx (α := Unit) (γ := Unit) (pcl := 0) (pcT := 38) (lo := fun x => [(0, .ref (rid 0 1))]) (so := fun _ => []) (lT := fun x => [(0, .ref (rid 0 1))]) (sT := fun _ => []) (n := amFu) (x0 := ()) (fun K1 rec1 hrec1 hk1 x1 => ?_) (fun y2 => ?_)
  · unfold p_X1_look_L0
    refine wg_aload_n (pc := 0) hX dX1_look_0 0 rfl ?_
    refine wu_ (wg_gI (pc := 1) hX fd_X1_461 dX1_look_1 fun v3 => ?_)
    refine wg_aload_n (pc := 4) hX dX1_look_4 0 rfl ?_
    refine wu_ (wg_gI (pc := 5) hX fd_X1_458 dX1_look_5 fun v4 => ?_)
    refine wg_icmp_ge (pc := 8) (tgt := 38) hX dX1_look_8 (by decide) (fun h5 => ?_) (fun h5 => ?_)
    · refine wu_t h5 ?_
      exact wu_rt (hk1 ())
    refine wu_f h5 ?_
    refine wg_aload_n (pc := 11) hX dX1_look_11 0 rfl ?_
    refine wg_gK (pc := 12) hX hM0 fd_X1_62 (by decide) dX1_look_12 ?_
    refine wg_aload_n (pc := 15) hX dX1_look_15 0 rfl ?_
    refine wu_ (wg_gI (pc := 16) hX fd_X1_461 dX1_look_16 fun v6 => ?_)
    refine wu_ (wg_rB (pc := 19) hX ar_30 dX1_look_19 fun v7 => ?_)
    refine wg_bipush (pc := 20) (v := 32) hX dX1_look_20 rfl ?_
    refine wg_icmp_ne (pc := 22) (tgt := 38) hX dX1_look_22 (by decide) (fun h8 => ?_) (fun h8 => ?_)
    rotate_left
    · refine wu_f h8 ?_
      exact wu_rt (hk1 ())
    refine wu_t h8 ?_
    refine wg_aload_n (pc := 25) hX dX1_look_25 0 rfl ?_
    refine wg_dup (pc := 26) hX dX1_look_26 rfl ?_
    refine wu_ (wg_gI (pc := 27) hX fd_X1_461 dX1_look_27 fun v9 => ?_)
    refine wg_iconst (pc := 30) (v := 1) hX dX1_look_30 rfl ?_
    refine wg_iadd (pc := 31) hX dX1_look_31 ?_
    refine wu_ (wg_pI (pc := 32) hX fp_X1_461 (fun h => by cases h) dX1_look_32 ?_)
    refine wg_goto (pc := 35) (tgt := 0) hX dX1_look_35 (by decide) ?_
    exact hrec1 ()
  refine wg_aload_n (pc := 38) hX dX1_look_38 0 rfl ?_
  refine wu_ (wg_gI (pc := 39) hX fd_X1_461 dX1_look_39 fun v10 => ?_)
  refine wg_aload_n (pc := 42) hX dX1_look_42 0 rfl ?_
  refine wu_ (wg_gI (pc := 43) hX fd_X1_458 dX1_look_43 fun v11 => ?_)
  refine wg_icmp_ge (pc := 46) (tgt := 65) hX dX1_look_46 (by decide) (fun h12 => ?_) (fun h12 => ?_)
  · refine wu_t h12 ?_
    refine wg_iconst (pc := 65) (v := (-1)) hX dX1_look_65 rfl ?_
    exact wu_rt (wg_iret (pc := 66) hX rfl rfl dX1_look_66)
  refine wu_f h12 ?_
  refine wg_aload_n (pc := 49) hX dX1_look_49 0 rfl ?_
  refine wg_gK (pc := 50) hX hM0 fd_X1_62 (by decide) dX1_look_50 ?_
  refine wg_aload_n (pc := 53) hX dX1_look_53 0 rfl ?_
  refine wu_ (wg_gI (pc := 54) hX fd_X1_461 dX1_look_54 fun v13 => ?_)
  refine wu_ (wg_rB (pc := 57) hX ar_30 dX1_look_57 fun v14 => ?_)
  refine wg_sipush (pc := 58) (v := 255) hX dX1_look_58 rfl ?_
  refine wg_iand (pc := 61) hX dX1_look_61 ?_
  refine wg_goto (pc := 62) (tgt := 66) hX dX1_look_62 (by decide) ?_
  exact wu_rt (wg_iret (pc := 66) hX rfl rfl dX1_look_66)
theorem m_X1_need (a1 : Int32) : amMetX yX1_need cX1_need 2 none 1 32 encV [.ref (rid 0 1), .int a1] (up (p_X1_need a1)) := by
  refine amMetX.of (own := RX1) (by decide) rfl (Nat.le_of_ble_eq_true rfl) fun X hXX hPs => ?_
  have hX := hXX.1
  change WG X (encX encV) 0 [(0, .ref (rid 0 1)), (1, .int a1)] [] (bd1 (up (p_X1_need a1)) rt1)
  unfold p_X1_need
  have hM0 := amPs.m0 hPs
  refine wu_ (wg_gM ?_)
  refine wg_iload_n (pc := 0) hX dX1_need_0 1 rfl ?_
  refine wg_if_ne (pc := 1) (tgt := 9) hX dX1_need_1 (by decide) (fun h1 => ?_) (fun h1 => ?_)
  rotate_left
  · refine wu_f h1 ?_
    exact wu_rt (wg_vret (pc := 9) hX rfl rfl dX1_need_9)
  refine wu_t h1 ?_
  refine wg_aload_n (pc := 4) hX dX1_need_4 0 rfl ?_
  refine wg_gK (pc := 5) hX hM0 fd_X1_58 (by decide) dX1_need_5 ?_
  exact wu_rt (wx_throw hX (by decide) dX1_need_8 (wx_out hXX))
theorem m_X1_opens  : amMetX yX1_opens cX1_opens 1 none 2 53 encV [.ref (rid 0 1)] (up (p_X1_opens)) := by
  refine amMetX.of (own := RX1) (by decide) rfl (Nat.le_of_ble_eq_true rfl) fun X hXX hPs => ?_
  have hX := hXX.1
  change WG X (encX encV) 0 [(0, .ref (rid 0 1))] [] (bd1 (up (p_X1_opens)) rt1)
  unfold p_X1_opens
  refine wg_aload_n (pc := 0) hX dX1_opens_0 0 rfl ?_
  refine wg_aload_n (pc := 1) hX dX1_opens_1 0 rfl ?_
  refine wu_ (wg_gI (pc := 2) hX fd_X1_480 dX1_opens_2 fun v1 => ?_)
  refine wg_bipush (pc := 5) (v := 8) hX dX1_opens_5 rfl ?_
  refine wu_jx (α := Int32) (pcJ := 15) (lJ := fun x => [(0, .ref (rid 0 1))]) (sJ := fun x => [.int x, .ref (rid 0 1)]) (fun K2 hk2 => ?_) (fun z2 => ?_)
  · refine wg_icmp_ge (pc := 7) (tgt := 14) hX dX1_opens_7 (by decide) (fun h3 => ?_) (fun h3 => ?_)
    · refine wu_t h3 ?_
      refine wg_iconst (pc := 14) (v := 0) hX dX1_opens_14 rfl ?_
      exact wu_rt (hk2 0)
    refine wu_f h3 ?_
    refine wg_iconst (pc := 10) (v := 1) hX dX1_opens_10 rfl ?_
    refine wg_goto (pc := 11) (tgt := 15) hX dX1_opens_11 (by decide) ?_
    exact wu_rt (hk2 1)
  refine wux_ (wx_cVv (As := [.int z2]) (rest := []) hX (m_X1_need z2) (by decide) (by decide) (by decide) rc_X1 (lw_V q1080 q1082 qs28 q159 q1083) hd_X1_need rfl (Nat.le_of_ble_eq_true rfl) (Nat.le_of_ble_eq_true rfl) (Nat.le_of_ble_eq_true rfl) rfl dX1_opens_15 ?_ ?_)
  rotate_left
  · exact wux_out hXX
  refine wg_aload_n (pc := 18) hX dX1_opens_18 0 rfl ?_
  refine wg_dup (pc := 19) hX dX1_opens_19 rfl ?_
  refine wu_ (wg_gI (pc := 20) hX fd_X1_480 dX1_opens_20 fun v4 => ?_)
  refine wg_iconst (pc := 23) (v := 1) hX dX1_opens_23 rfl ?_
  refine wg_iadd (pc := 24) hX dX1_opens_24 ?_
  refine wu_ (wg_pI (pc := 25) hX fp_X1_480 (fun h => by cases h) dX1_opens_25 ?_)
  refine wg_aload_n (pc := 28) hX dX1_opens_28 0 rfl ?_
  refine wg_dup (pc := 29) hX dX1_opens_29 rfl ?_
  refine wu_ (wg_gI (pc := 30) hX fd_X1_461 dX1_opens_30 fun v5 => ?_)
  refine wg_iconst (pc := 33) (v := 1) hX dX1_opens_33 rfl ?_
  refine wg_iadd (pc := 34) hX dX1_opens_34 ?_
  refine wu_ (wg_pI (pc := 35) hX fp_X1_461 (fun h => by cases h) dX1_opens_35 ?_)
  exact wu_rt (wg_vret (pc := 38) hX rfl rfl dX1_opens_38)
theorem m_X14_init (r0 : Nat) : amMet yX14_init cX14_init 1 none 1 32 encV [.ref (rid 10 r0)] (up (p_X14_init r0)) := by
  refine amMet.ofI (own := RX14) (by decide) rfl (Nat.le_of_ble_eq_true rfl) rfl fun X hX hN => ?_
  change WG X encV 0 [(0, .ref (rid 10 r0))] [] (bd1 (up (p_X14_init r0)) rt1)
  unfold p_X14_init
  refine wg_aload_n (pc := 0) hX dX14_init_0 0 rfl ?_
  refine wu_ (wg_gd fun h1 => ?_)
  refine wg_objI (pc := 1) hX h1 q1092 q207 q208 (Nat.le_of_ble_eq_true rfl) (Nat.le_of_ble_eq_true rfl) dX14_init_1 ?_
  exact wu_rt (wg_vret (pc := 4) hX rfl rfl dX14_init_4)
theorem m_X15_init (r0 : Nat) (a1 : Nat) : amMet yX15_init cX15_init 2 none 2 52 encV [.ref (rid 10 r0), .ref (rid 10 a1)] (up (p_X15_init r0 a1)) := by
  refine amMet.ofI (own := RX15) (by decide) rfl (Nat.le_of_ble_eq_true rfl) rfl fun X hX hN => ?_
  change WG X encV 0 [(0, .ref (rid 10 r0)), (1, .ref (rid 10 a1))] [] (bd1 (up (p_X15_init r0 a1)) rt1)
  unfold p_X15_init
  refine wg_aload_n (pc := 0) hX dX15_init_0 0 rfl ?_
  refine wu_ (wg_gd fun h1 => ?_)
  refine wu_ (wg_cINv (pc := 1) (As := []) (rest := []) hX (m_X14_init r0) h1 rfl q1089 q1090 q183 q1091 hd_X14_init rfl (Nat.le_of_ble_eq_true rfl) (Nat.le_of_ble_eq_true rfl) (Nat.le_of_ble_eq_true rfl) rfl dX15_init_1 ?_)
  refine wg_aload_n (pc := 4) hX dX15_init_4 0 rfl ?_
  refine wg_aload_n (pc := 5) hX dX15_init_5 1 rfl ?_
  refine wu_ (wg_pRs (pc := 6) hX fp_X15_7 (fun _ => hN) (by decide) (by first | exact Or.inl ⟨_, rfl⟩ | exact Or.inr ⟨_, rfl⟩) dX15_init_6 ?_)
  exact wu_rt (wg_vret (pc := 9) hX rfl rfl dX15_init_9)
theorem m_X1_closes (a1 : Int32) : amMetX yX1_closes cX1_closes 2 none 2 53 encV [.ref (rid 0 1), .int a1] (up (p_X1_closes a1)) := by
  refine amMetX.of (own := RX1) (by decide) rfl (Nat.le_of_ble_eq_true rfl) fun X hXX hPs => ?_
  have hX := hXX.1
  change WG X (encX encV) 0 [(0, .ref (rid 0 1)), (1, .int a1)] [] (bd1 (up (p_X1_closes a1)) rt1)
  unfold p_X1_closes
  refine wg_aload_n (pc := 0) hX dX1_closes_0 0 rfl ?_
  refine wg_aload_n (pc := 1) hX dX1_closes_1 0 rfl ?_
  refine wu_ (wg_cVi (pc := 2) (As := []) (rest := [.ref (rid 0 1)]) hX (m_X1_look) (by decide) (by decide) (by decide) rc_X1 (lw_V q1072 q1074 qs26 q159 q1075) hd_X1_look rfl (Nat.le_of_ble_eq_true rfl) (Nat.le_of_ble_eq_true rfl) (Nat.le_of_ble_eq_true rfl) rfl dX1_closes_2 fun v1 => ?_)
  refine wg_iload_n (pc := 5) hX dX1_closes_5 1 rfl ?_
  refine wu_jx (α := Int32) (pcJ := 14) (lJ := fun x => [(0, .ref (rid 0 1))]) (sJ := fun x => [.int x, .ref (rid 0 1)]) (fun K2 hk2 => ?_) (fun z2 => ?_)
  · refine wg_icmp_ne (pc := 6) (tgt := 13) hX dX1_closes_6 (by decide) (fun h3 => ?_) (fun h3 => ?_)
    rotate_left
    · refine wu_f h3 ?_
      refine wg_iconst (pc := 13) (v := 0) hX dX1_closes_13 rfl ?_
      refine wg_sub hX [0] rfl ?_
      exact wu_rt (hk2 0)
    refine wu_t h3 ?_
    refine wg_iconst (pc := 9) (v := 1) hX dX1_closes_9 rfl ?_
    refine wg_goto (pc := 10) (tgt := 14) hX dX1_closes_10 (by decide) ?_
    refine wg_sub hX [0] rfl ?_
    exact wu_rt (hk2 1)
  refine wux_ (wx_cVv (As := [.int z2]) (rest := []) hX (m_X1_need z2) (by decide) (by decide) (by decide) rc_X1 (lw_V q1080 q1082 qs28 q159 q1083) hd_X1_need rfl (Nat.le_of_ble_eq_true rfl) (Nat.le_of_ble_eq_true rfl) (Nat.le_of_ble_eq_true rfl) rfl dX1_closes_14 ?_ ?_)
  rotate_left
  · exact wux_out hXX
  refine wg_aload_n (pc := 17) hX dX1_closes_17 0 rfl ?_
  refine wg_dup (pc := 18) hX dX1_closes_18 rfl ?_
  refine wu_ (wg_gI (pc := 19) hX fd_X1_461 dX1_closes_19 fun v4 => ?_)
  refine wg_iconst (pc := 22) (v := 1) hX dX1_closes_22 rfl ?_
  refine wg_iadd (pc := 23) hX dX1_closes_23 ?_
  refine wu_ (wg_pI (pc := 24) hX fp_X1_461 (fun h => by cases h) dX1_closes_24 ?_)
  refine wg_aload_n (pc := 27) hX dX1_closes_27 0 rfl ?_
  refine wg_dup (pc := 28) hX dX1_closes_28 rfl ?_
  refine wu_ (wg_gI (pc := 29) hX fd_X1_480 dX1_closes_29 fun v5 => ?_)
  refine wg_iconst (pc := 32) (v := 1) hX dX1_closes_32 rfl ?_
  refine wg_isub (pc := 33) hX dX1_closes_33 ?_
  refine wu_ (wg_pI (pc := 34) hX fp_X1_480 (fun h => by cases h) dX1_closes_34 ?_)
  exact wu_rt (wg_vret (pc := 37) hX rfl rfl dX1_closes_37)
theorem m_X1_lettersOf (a1 : Int32) : amMet yX1_lettersOf cX1_lettersOf 1 (some (.object "java/lang/String")) 1 32 (encR 250) [.int a1] (up (p_X1_lettersOf a1)) := by
  refine amMet.of (own := RX1) (by decide) rfl (Nat.le_of_ble_eq_true rfl) fun X hX hPs => ?_
  change WG X (encR 250) 0 [(0, .int a1)] [] (bd1 (up (p_X1_lettersOf a1)) rt1)
  unfold p_X1_lettersOf
  refine wg_iload_n (pc := 0) hX dX1_lettersOf_0 0 rfl ?_
  refine wg_if_ne (pc := 1) (tgt := 10) hX dX1_lettersOf_1 (by decide) (fun h1 => ?_) (fun h1 => ?_)
  · refine wu_t h1 ?_
    refine wg_ldSw (pc := 4) (i := 0) (tx := "whfkapslco") hX (by decide) dX1_lettersOf_4 ?_
    refine wg_goto (pc := 7) (tgt := 24) hX dX1_lettersOf_7 (by decide) ?_
    exact wu_rt (wg_aret (pc := 24) hX rfl (by first | exact Or.inl ⟨_, rfl⟩ | exact Or.inr ⟨_, rfl⟩) (by decide) rfl dX1_lettersOf_24)
  refine wu_f h1 ?_
  refine wg_iload_n (pc := 10) hX dX1_lettersOf_10 0 rfl ?_
  refine wg_iconst (pc := 11) (v := 1) hX dX1_lettersOf_11 rfl ?_
  refine wg_icmp_ne (pc := 12) (tgt := 21) hX dX1_lettersOf_12 (by decide) (fun h2 => ?_) (fun h2 => ?_)
  rotate_left
  · refine wu_f h2 ?_
    refine wg_ldSw (pc := 21) (i := 2) (tx := "srukgxwydnl") hX (by decide) dX1_lettersOf_21 ?_
    exact wu_rt (wg_aret (pc := 24) hX rfl (by first | exact Or.inl ⟨_, rfl⟩ | exact Or.inr ⟨_, rfl⟩) (by decide) rfl dX1_lettersOf_24)
  refine wu_t h2 ?_
  refine wg_ldSw (pc := 15) (i := 1) (tx := "vbetmg") hX (by decide) dX1_lettersOf_15 ?_
  refine wg_goto (pc := 18) (tgt := 24) hX dX1_lettersOf_18 (by decide) ?_
  exact wu_rt (wg_aret (pc := 24) hX rfl (by first | exact Or.inl ⟨_, rfl⟩ | exact Or.inr ⟨_, rfl⟩) (by decide) rfl dX1_lettersOf_24)
theorem m_J6_isLatin1 (r0 : Nat) : amMet yJ6_isLatin1 cJ6_isLatin1 1 (some .boolean) 1 32 encI [.ref (rid 250 r0)] (up (p_J6_isLatin1 r0)) := by
  refine amMet.of (own := RJ6) (by decide) rfl (Nat.le_of_ble_eq_true rfl) fun X hX hPs => ?_
  change WG X encI 0 [(0, .ref (rid 250 r0))] [] (bd1 (up (p_J6_isLatin1 r0)) rt1)
  unfold p_J6_isLatin1
  refine wg_sG (pc := 0) hX q1131 dJ6_isLatin1_0 ?_
  refine wu_jn (α := Unit) (pcJ := 17) (lJ := fun x => []) (sJ := fun x => []) (fun k1 hk1 => ?_) (fun z1 => ?_)
  · refine wg_if_eq (pc := 3) (tgt := 17) hX dJ6_isLatin1_3 (by decide) (fun h2 => ?_) (fun h2 => ?_)
    · refine wu_t h2 ?_
      refine wg_sub hX [] rfl ?_
      exact hk1 ()
    refine wu_f h2 ?_
    refine wg_aload_n (pc := 6) hX dJ6_isLatin1_6 0 rfl ?_
    refine wu_ (wg_gd fun h3 => ?_)
    refine wg_sC (pc := 7) hX h3 q2883 dJ6_isLatin1_7 ?_
    refine wg_if_ne (pc := 10) (tgt := 17) hX dJ6_isLatin1_10 (by decide) (fun h4 => ?_) (fun h4 => ?_)
    rotate_left
    · refine wu_f h4 ?_
      refine wg_sub hX [] rfl ?_
      exact hk1 ()
    refine wu_t h4 ?_
    refine wg_iconst (pc := 13) (v := 1) hX dJ6_isLatin1_13 rfl ?_
    refine wg_goto (pc := 14) (tgt := 18) hX dJ6_isLatin1_14 (by decide) ?_
    exact wu_rt (wg_zret (pc := 18) hX rfl (by decide) rfl dJ6_isLatin1_18)
  refine wg_iconst (pc := 17) (v := 0) hX dJ6_isLatin1_17 rfl ?_
  exact wu_rt (wg_zret (pc := 18) hX rfl (by decide) rfl dJ6_isLatin1_18)
theorem m_J6_coder (r0 : Nat) : amMet yJ6_coder cJ6_coder 1 (some .byte) 1 32 encI [.ref (rid 250 r0)] (up (p_J6_coder r0)) := by
  refine amMet.of (own := RJ6) (by decide) rfl (Nat.le_of_ble_eq_true rfl) fun X hX hPs => ?_
  change WG X encI 0 [(0, .ref (rid 250 r0))] [] (bd1 (up (p_J6_coder r0)) rt1)
  unfold p_J6_coder
  refine wg_sG (pc := 0) hX q1131 dJ6_coder_0 ?_
  refine wg_if_eq (pc := 3) (tgt := 13) hX dJ6_coder_3 (by decide) (fun h1 => ?_) (fun h1 => ?_)
  · refine wu_t h1 ?_
    refine wg_iconst (pc := 13) (v := 1) hX dJ6_coder_13 rfl ?_
    refine wu_ (wg_gd fun h2 => ?_)
    exact wu_rt (wg_bret (pc := 14) hX rfl h2 rfl dJ6_coder_14)
  refine wu_f h1 ?_
  refine wg_aload_n (pc := 6) hX dJ6_coder_6 0 rfl ?_
  refine wu_ (wg_gd fun h3 => ?_)
  refine wg_sC (pc := 7) hX h3 q2883 dJ6_coder_7 ?_
  refine wg_goto (pc := 10) (tgt := 14) hX dJ6_coder_10 (by decide) ?_
  refine wu_ (wg_gd fun h4 => ?_)
  exact wu_rt (wg_bret (pc := 14) hX rfl h4 rfl dJ6_coder_14)
theorem m_J6_length (r0 : Nat) : amMet yJ6_length cJ6_length 1 (some .int) 2 52 encI [.ref (rid 250 r0)] (up (p_J6_length r0)) := by
  refine amMet.of (own := RJ6) (by decide) rfl (Nat.le_of_ble_eq_true rfl) fun X hX hPs => ?_
  change WG X encI 0 [(0, .ref (rid 250 r0))] [] (bd1 (up (p_J6_length r0)) rt1)
  unfold p_J6_length
  refine wg_aload_n (pc := 0) hX dJ6_length_0 0 rfl ?_
  refine wu_ (wg_gd fun h1 => ?_)
  refine wg_sV (pc := 1) hX h1 q2884 dJ6_length_1 ?_
  refine wu_ (wg_gd fun h2 => ?_)
  refine wg_sL (pc := 4) hX h2 dJ6_length_4 ?_
  refine wu_ (wg_nmi hX fun v3 => ?_)
  refine wg_aload_n (pc := 5) hX dJ6_length_5 0 rfl ?_
  refine wu_ (wg_gd fun h4 => ?_)
  refine wu_ (wg_cVsi (pc := 6) (As := []) (rest := [.int v3]) hX (m_J6_coder r0) h4 rfl (lw_V q1137 q1138 q1139 q178 q1140) hd_J6_coder rfl (Nat.le_of_ble_eq_true rfl) (Nat.le_of_ble_eq_true rfl) (Nat.le_of_ble_eq_true rfl) rfl dJ6_length_6 fun v5 => ?_)
  refine wg_ishr (pc := 9) hX dJ6_length_9 ?_
  exact wu_rt (wg_iret (pc := 10) hX rfl rfl dJ6_length_10)
theorem m_J7_canEncode (a1 : Int32) : amMet yJ7_canEncode cJ7_canEncode 1 (some .boolean) 1 32 encI [.int a1] (up (p_J7_canEncode a1)) := by
  refine amMet.of (own := RJ7) (by decide) rfl (Nat.le_of_ble_eq_true rfl) fun X hX hPs => ?_
  change WG X encI 0 [(0, .int a1)] [] (bd1 (up (p_J7_canEncode a1)) rt1)
  unfold p_J7_canEncode
  refine wg_iload_n (pc := 0) hX dJ7_canEncode_0 0 rfl ?_
  refine wu_jn (α := Unit) (pcJ := 15) (lJ := fun x => []) (sJ := fun x => []) (fun k1 hk1 => ?_) (fun z1 => ?_)
  · refine wg_if_lt (pc := 1) (tgt := 15) hX dJ7_canEncode_1 (by decide) (fun h2 => ?_) (fun h2 => ?_)
    · refine wu_t h2 ?_
      refine wg_sub hX [] rfl ?_
      exact hk1 ()
    refine wu_f h2 ?_
    refine wg_iload_n (pc := 4) hX dJ7_canEncode_4 0 rfl ?_
    refine wg_sipush (pc := 5) (v := 255) hX dJ7_canEncode_5 rfl ?_
    refine wg_icmp_gt (pc := 8) (tgt := 15) hX dJ7_canEncode_8 (by decide) (fun h3 => ?_) (fun h3 => ?_)
    · refine wu_t h3 ?_
      refine wg_sub hX [] rfl ?_
      exact hk1 ()
    refine wu_f h3 ?_
    refine wg_iconst (pc := 11) (v := 1) hX dJ7_canEncode_11 rfl ?_
    refine wg_goto (pc := 12) (tgt := 16) hX dJ7_canEncode_12 (by decide) ?_
    exact wu_rt (wg_zret (pc := 16) hX rfl (by decide) rfl dJ7_canEncode_16)
  refine wg_iconst (pc := 15) (v := 0) hX dJ7_canEncode_15 rfl ?_
  exact wu_rt (wg_zret (pc := 16) hX rfl (by decide) rfl dJ7_canEncode_16)
theorem m_J7_indexOfChar (a1 : Nat) (a2 : Int32) (a3 : Int32) (a4 : Int32) : amMet yJ7_indexOfChar cJ7_indexOfChar 6 (some .int) 1 32 encI [.ref (rid 251 a1), .int a2, .int a3, .int a4] (up (p_J7_indexOfChar a1 a2 a3 a4)) := by
  refine amMet.of (own := RJ7) (by decide) rfl (Nat.le_of_ble_eq_true rfl) fun X hX hPs => ?_
  change WG X encI 0 [(0, .ref (rid 251 a1)), (1, .int a2), (2, .int a3), (3, .int a4)] [] (bd1 (up (p_J7_indexOfChar a1 a2 a3 a4)) rt1)
  unfold p_J7_indexOfChar
  refine wg_iload_n (pc := 0) hX dJ7_indexOfChar_0 1 rfl ?_
  refine wg_i2b (pc := 1) hX dJ7_indexOfChar_1 ?_
  refine wg_istore (pc := 2) (l' := [(0, .ref (rid 251 a1)), (1, .int a2), (2, .int a3), (3, .int a4), (4, .int a2.toInt8.toInt32)]) hX dJ7_indexOfChar_2 (by decide) rfl ?_
  refine wg_iload_n (pc := 4) hX dJ7_indexOfChar_4 2 rfl ?_
  refine wg_istore (pc := 5) (l' := [(0, .ref (rid 251 a1)), (1, .int a2), (2, .int a3), (3, .int a4), (4, .int a2.toInt8.toInt32), (5, .int a3)]) hX dJ7_indexOfChar_5 (by decide) rfl ?_
  refine wg_sub hX [0, 3, 4, 5] rfl ?_
  refine wu_lp (α := Int32) (pcl := 7) (lo := fun x => [(0, .ref (rid 251 a1)), (3, .int a4), (4, .int a2.toInt8.toInt32), (5, .int x)]) (so := fun _ => []) (fun rec1 hrec1 x1 => ?_) amFu a3
  unfold p_J7_indexOfChar_L7
  refine wg_iload (pc := 7) hX dJ7_indexOfChar_7 3 rfl ?_
  refine wg_iload_n (pc := 9) hX dJ7_indexOfChar_9 1 rfl ?_
  refine wg_icmp_ge (pc := 10) (tgt := 31) hX dJ7_indexOfChar_10 (by decide) (fun h2 => ?_) (fun h2 => ?_)
  · refine wu_t h2 ?_
    refine wg_iconst (pc := 31) (v := (-1)) hX dJ7_indexOfChar_31 rfl ?_
    exact wu_rt (wg_iret (pc := 32) hX rfl rfl dJ7_indexOfChar_32)
  refine wu_f h2 ?_
  refine wg_aload_n (pc := 13) hX dJ7_indexOfChar_13 0 rfl ?_
  refine wg_iload (pc := 14) hX dJ7_indexOfChar_14 3 rfl ?_
  refine wu_ (wg_sB (pc := 16) hX dJ7_indexOfChar_16 fun v3 => ?_)
  refine wg_iload (pc := 17) hX dJ7_indexOfChar_17 2 rfl ?_
  refine wg_icmp_ne (pc := 19) (tgt := 25) hX dJ7_indexOfChar_19 (by decide) (fun h4 => ?_) (fun h4 => ?_)
  · refine wu_t h4 ?_
    refine wg_iload (pc := 22) hX dJ7_indexOfChar_22 3 rfl ?_
    exact wu_rt (wg_iret (pc := 24) hX rfl rfl dJ7_indexOfChar_24)
  refine wu_f h4 ?_
  refine wg_iinc (pc := 25) (v := (x1 + 1)) (l' := [(0, .ref (rid 251 a1)), (3, .int a4), (4, .int a2.toInt8.toInt32), (5, .int (x1 + 1))]) hX dJ7_indexOfChar_25 3 rfl rfl (by decide) rfl ?_
  refine wg_goto (pc := 28) (tgt := 7) hX dJ7_indexOfChar_28 (by decide) ?_
  exact hrec1 (x1 + 1)
theorem m_J7_indexOf (a1 : Nat) (a2 : Int32) (a3 : Int32) (a4 : Int32) : amMet yJ7_indexOf cJ7_indexOf 4 (some .int) 2 64 encI [.ref (rid 251 a1), .int a2, .int a3, .int a4] (up (p_J7_indexOf a1 a2 a3 a4)) := by
  refine amMet.of (own := RJ7) (by decide) rfl (Nat.le_of_ble_eq_true rfl) fun X hX hPs => ?_
  change WG X encI 0 [(0, .ref (rid 251 a1)), (1, .int a2), (2, .int a3), (3, .int a4)] [] (bd1 (up (p_J7_indexOf a1 a2 a3 a4)) rt1)
  unfold p_J7_indexOf
  refine wg_iload_n (pc := 0) hX dJ7_indexOf_0 1 rfl ?_
  refine wu_ (wg_cSi (pc := 1) (As := [.int a2]) (rest := []) hX (m_J7_canEncode a2) (lw_S q1144 q1145 q179 q1146) hd_J7_canEncode rfl (Nat.le_of_ble_eq_true rfl) (Nat.le_of_ble_eq_true rfl) (Nat.le_of_ble_eq_true rfl) rfl dJ7_indexOf_1 fun v1 => ?_)
  refine wg_if_ne (pc := 4) (tgt := 9) hX dJ7_indexOf_4 (by decide) (fun h2 => ?_) (fun h2 => ?_)
  · refine wu_t h2 ?_
    refine wg_iconst (pc := 7) (v := (-1)) hX dJ7_indexOf_7 rfl ?_
    exact wu_rt (wg_iret (pc := 8) hX rfl rfl dJ7_indexOf_8)
  refine wu_f h2 ?_
  refine wg_iload_n (pc := 9) hX dJ7_indexOf_9 2 rfl ?_
  refine wg_iconst (pc := 10) (v := 0) hX dJ7_indexOf_10 rfl ?_
  refine wg_mmax (pc := 11) hX q1147 q712 q165 q713 (Nat.le_of_ble_eq_true rfl) (Nat.le_of_ble_eq_true rfl) dJ7_indexOf_11 ?_
  refine wu_ (wg_nmi hX fun v3 => ?_)
  refine wg_istore_n (pc := 14) (l' := [(0, .ref (rid 251 a1)), (1, .int a2), (2, .int v3), (3, .int a4)]) hX dJ7_indexOf_14 (by decide) rfl ?_
  refine wg_iload_n (pc := 15) hX dJ7_indexOf_15 3 rfl ?_
  refine wg_aload_n (pc := 16) hX dJ7_indexOf_16 0 rfl ?_
  refine wu_ (wg_gd fun h4 => ?_)
  refine wg_sL (pc := 17) hX h4 dJ7_indexOf_17 ?_
  refine wu_ (wg_nmi hX fun v5 => ?_)
  refine wg_mmin (pc := 18) hX q1148 q1149 q165 q1150 (Nat.le_of_ble_eq_true rfl) (Nat.le_of_ble_eq_true rfl) dJ7_indexOf_18 ?_
  refine wu_ (wg_nmi hX fun v6 => ?_)
  refine wg_istore_n (pc := 21) (l' := [(0, .ref (rid 251 a1)), (1, .int a2), (2, .int v3), (3, .int v6)]) hX dJ7_indexOf_21 (by decide) rfl ?_
  refine wg_iload_n (pc := 22) hX dJ7_indexOf_22 2 rfl ?_
  refine wg_iload_n (pc := 23) hX dJ7_indexOf_23 3 rfl ?_
  refine wg_icmp_lt (pc := 24) (tgt := 29) hX dJ7_indexOf_24 (by decide) (fun h7 => ?_) (fun h7 => ?_)
  rotate_left
  · refine wu_f h7 ?_
    refine wg_iconst (pc := 27) (v := (-1)) hX dJ7_indexOf_27 rfl ?_
    exact wu_rt (wg_iret (pc := 28) hX rfl rfl dJ7_indexOf_28)
  refine wu_t h7 ?_
  refine wg_aload_n (pc := 29) hX dJ7_indexOf_29 0 rfl ?_
  refine wg_iload_n (pc := 30) hX dJ7_indexOf_30 1 rfl ?_
  refine wg_iload_n (pc := 31) hX dJ7_indexOf_31 2 rfl ?_
  refine wg_iload_n (pc := 32) hX dJ7_indexOf_32 3 rfl ?_
  refine wu_ (wg_cSi (pc := 33) (As := [.ref (rid 251 a1), .int a2, .int v3, .int v6]) (rest := []) hX (m_J7_indexOfChar a1 a2 v3 v6) (lw_S q1151 q1152 q179 q1153) hd_J7_indexOfChar rfl (Nat.le_of_ble_eq_true rfl) (Nat.le_of_ble_eq_true rfl) (Nat.le_of_ble_eq_true rfl) rfl dJ7_indexOf_33 fun v8 => ?_)
  exact wu_rt (wg_iret (pc := 36) hX rfl rfl dJ7_indexOf_36)
theorem m_J8_length (a1 : Nat) : amMet yJ8_length cJ8_length 1 (some .int) 1 32 encI [.ref (rid 251 a1)] (up (p_J8_length a1)) := by
  refine amMet.of (own := RJ8) (by decide) rfl (Nat.le_of_ble_eq_true rfl) fun X hX hPs => ?_
  change WG X encI 0 [(0, .ref (rid 251 a1))] [] (bd1 (up (p_J8_length a1)) rt1)
  unfold p_J8_length
  refine wg_aload_n (pc := 0) hX dJ8_length_0 0 rfl ?_
  refine wu_ (wg_gd fun h1 => ?_)
  refine wg_sL (pc := 1) hX h1 dJ8_length_1 ?_
  refine wu_ (wg_nmi hX fun v2 => ?_)
  refine wg_iconst (pc := 2) (v := 1) hX dJ8_length_2 rfl ?_
  refine wg_ishr (pc := 3) hX dJ8_length_3 ?_
  exact wu_rt (wg_iret (pc := 4) hX rfl rfl dJ8_length_4)
theorem m_J6_indexOf_2 (r0 : Nat) (a1 : Int32) (a2 : Int32) : amMet yJ6_indexOf_2 cJ6_indexOf_2 3 (some .int) 3 87 encI [.ref (rid 250 r0), .int a1, .int a2] (up (p_J6_indexOf_2 r0 a1 a2)) := by
  refine amMet.of (own := RJ6) (by decide) rfl (Nat.le_of_ble_eq_true rfl) fun X hX hPs => ?_
  change WG X encI 0 [(0, .ref (rid 250 r0)), (1, .int a1), (2, .int a2)] [] (bd1 (up (p_J6_indexOf_2 r0 a1 a2)) rt1)
  unfold p_J6_indexOf_2
  refine wg_aload_n (pc := 0) hX dJ6_indexOf_2_0 0 rfl ?_
  refine wu_ (wg_gd fun h1 => ?_)
  refine wu_ (wg_cVsi (pc := 1) (As := []) (rest := []) hX (m_J6_isLatin1 r0) h1 rfl (lw_V q1127 q1128 q1129 q178 q1130) hd_J6_isLatin1 rfl (Nat.le_of_ble_eq_true rfl) (Nat.le_of_ble_eq_true rfl) (Nat.le_of_ble_eq_true rfl) rfl dJ6_indexOf_2_1 fun v2 => ?_)
  refine wg_if_eq (pc := 4) (tgt := 23) hX dJ6_indexOf_2_4 (by decide) (fun h3 => ?_) (fun h3 => ?_)
  · refine wu_t h3 ?_
    refine wg_aload_n (pc := 23) hX dJ6_indexOf_2_23 0 rfl ?_
    refine wu_ (wg_gd fun h4 => ?_)
    refine wg_sV (pc := 24) hX h4 q2884 dJ6_indexOf_2_24 ?_
    refine wg_iload_n (pc := 27) hX dJ6_indexOf_2_27 1 rfl ?_
    refine wg_iload_n (pc := 28) hX dJ6_indexOf_2_28 2 rfl ?_
    refine wg_aload_n (pc := 29) hX dJ6_indexOf_2_29 0 rfl ?_
    refine wu_ (wg_gd fun h5 => ?_)
    refine wu_ (wg_cVsi (pc := 30) (As := []) (rest := [.int a2, .int a1, .ref (rid 251 r0)]) hX (m_J6_length r0) h5 rfl (lw_V q1133 q1134 q1135 q178 q1136) hd_J6_length rfl (Nat.le_of_ble_eq_true rfl) (Nat.le_of_ble_eq_true rfl) (Nat.le_of_ble_eq_true rfl) rfl dJ6_indexOf_2_30 fun v6 => ?_)
    exact wg_fl
  refine wu_f h3 ?_
  refine wg_aload_n (pc := 7) hX dJ6_indexOf_2_7 0 rfl ?_
  refine wu_ (wg_gd fun h7 => ?_)
  refine wg_sV (pc := 8) hX h7 q2884 dJ6_indexOf_2_8 ?_
  refine wg_iload_n (pc := 11) hX dJ6_indexOf_2_11 1 rfl ?_
  refine wg_iload_n (pc := 12) hX dJ6_indexOf_2_12 2 rfl ?_
  refine wg_aload_n (pc := 13) hX dJ6_indexOf_2_13 0 rfl ?_
  refine wu_ (wg_gd fun h8 => ?_)
  refine wu_ (wg_cVsi (pc := 14) (As := []) (rest := [.int a2, .int a1, .ref (rid 251 r0)]) hX (m_J6_length r0) h8 rfl (lw_V q1133 q1134 q1135 q178 q1136) hd_J6_length rfl (Nat.le_of_ble_eq_true rfl) (Nat.le_of_ble_eq_true rfl) (Nat.le_of_ble_eq_true rfl) rfl dJ6_indexOf_2_14 fun v9 => ?_)
  refine wu_ (wg_cSi (pc := 17) (As := [.ref (rid 251 r0), .int a1, .int a2, .int v9]) (rest := []) hX (m_J7_indexOf r0 a1 a2 v9) (lw_S q1141 q1142 q179 q1143) hd_J7_indexOf rfl (Nat.le_of_ble_eq_true rfl) (Nat.le_of_ble_eq_true rfl) (Nat.le_of_ble_eq_true rfl) rfl dJ6_indexOf_2_17 fun v10 => ?_)
  refine wg_goto (pc := 20) (tgt := 36) hX dJ6_indexOf_2_20 (by decide) ?_
  exact wu_rt (wg_iret (pc := 36) hX rfl rfl dJ6_indexOf_2_36)
theorem m_J6_indexOf (r0 : Nat) (a1 : Int32) : amMet yJ6_indexOf cJ6_indexOf 2 (some .int) 4 109 encI [.ref (rid 250 r0), .int a1] (up (p_J6_indexOf r0 a1)) := by
  refine amMet.of (own := RJ6) (by decide) rfl (Nat.le_of_ble_eq_true rfl) fun X hX hPs => ?_
  change WG X encI 0 [(0, .ref (rid 250 r0)), (1, .int a1)] [] (bd1 (up (p_J6_indexOf r0 a1)) rt1)
  unfold p_J6_indexOf
  refine wg_aload_n (pc := 0) hX dJ6_indexOf_0 0 rfl ?_
  refine wg_iload_n (pc := 1) hX dJ6_indexOf_1 1 rfl ?_
  refine wg_iconst (pc := 2) (v := 0) hX dJ6_indexOf_2 rfl ?_
  refine wu_ (wg_gd fun h1 => ?_)
  refine wu_ (wg_cVsi (pc := 3) (As := [.int a1, .int 0]) (rest := []) hX (m_J6_indexOf_2 r0 a1 0) h1 rfl (lw_V q1123 q1124 q1125 q178 q1126) hd_J6_indexOf_2 rfl (Nat.le_of_ble_eq_true rfl) (Nat.le_of_ble_eq_true rfl) (Nat.le_of_ble_eq_true rfl) rfl dJ6_indexOf_3 fun v2 => ?_)
  exact wu_rt (wg_iret (pc := 6) hX rfl rfl dJ6_indexOf_6)
theorem m_X16_init (r0 : Nat) : amMet yX16_init cX16_init 1 none 1 32 encV [.ref (rid 9 r0)] (up (p_X16_init r0)) := by
  refine amMet.ofI (own := RX16) (by decide) rfl (Nat.le_of_ble_eq_true rfl) rfl fun X hX hN => ?_
  change WG X encV 0 [(0, .ref (rid 9 r0))] [] (bd1 (up (p_X16_init r0)) rt1)
  unfold p_X16_init
  refine wg_aload_n (pc := 0) hX dX16_init_0 0 rfl ?_
  refine wu_ (wg_gd fun h1 => ?_)
  refine wg_objI (pc := 1) hX h1 q1211 q207 q208 (Nat.le_of_ble_eq_true rfl) (Nat.le_of_ble_eq_true rfl) dX16_init_1 ?_
  exact wu_rt (wg_vret (pc := 4) hX rfl rfl dX16_init_4)
theorem m_X17_init (r0 : Nat) (a1 : Int32) : amMet yX17_init cX17_init 2 none 2 52 encV [.ref (rid 9 r0), .int a1] (up (p_X17_init r0 a1)) := by
  refine amMet.ofI (own := RX17) (by decide) rfl (Nat.le_of_ble_eq_true rfl) rfl fun X hX hN => ?_
  change WG X encV 0 [(0, .ref (rid 9 r0)), (1, .int a1)] [] (bd1 (up (p_X17_init r0 a1)) rt1)
  unfold p_X17_init
  refine wg_aload_n (pc := 0) hX dX17_init_0 0 rfl ?_
  refine wu_ (wg_gd fun h1 => ?_)
  refine wu_ (wg_cINv (pc := 1) (As := []) (rest := []) hX (m_X16_init r0) h1 rfl q1208 q1209 q185 q1210 hd_X16_init rfl (Nat.le_of_ble_eq_true rfl) (Nat.le_of_ble_eq_true rfl) (Nat.le_of_ble_eq_true rfl) rfl dX17_init_1 ?_)
  refine wg_aload_n (pc := 4) hX dX17_init_4 0 rfl ?_
  refine wg_iload_n (pc := 5) hX dX17_init_5 1 rfl ?_
  refine wu_ (wg_pIs (pc := 6) hX fp_X17_7 (fun _ => hN) dX17_init_6 ?_)
  exact wu_rt (wg_vret (pc := 9) hX rfl rfl dX17_init_9)
theorem m_X1_isDigit (a1 : Int32) : amMet yX1_isDigit cX1_isDigit 1 (some .boolean) 1 32 encI [.int a1] (up (p_X1_isDigit a1)) := by
  refine amMet.of (own := RX1) (by decide) rfl (Nat.le_of_ble_eq_true rfl) fun X hX hPs => ?_
  change WG X encI 0 [(0, .int a1)] [] (bd1 (up (p_X1_isDigit a1)) rt1)
  unfold p_X1_isDigit
  refine wg_iload_n (pc := 0) hX dX1_isDigit_0 0 rfl ?_
  refine wg_bipush (pc := 1) (v := 48) hX dX1_isDigit_1 rfl ?_
  refine wu_jn (α := Unit) (pcJ := 16) (lJ := fun x => []) (sJ := fun x => []) (fun k1 hk1 => ?_) (fun z1 => ?_)
  · refine wg_icmp_lt (pc := 3) (tgt := 16) hX dX1_isDigit_3 (by decide) (fun h2 => ?_) (fun h2 => ?_)
    · refine wu_t h2 ?_
      refine wg_sub hX [] rfl ?_
      exact hk1 ()
    refine wu_f h2 ?_
    refine wg_iload_n (pc := 6) hX dX1_isDigit_6 0 rfl ?_
    refine wg_bipush (pc := 7) (v := 57) hX dX1_isDigit_7 rfl ?_
    refine wg_icmp_gt (pc := 9) (tgt := 16) hX dX1_isDigit_9 (by decide) (fun h3 => ?_) (fun h3 => ?_)
    · refine wu_t h3 ?_
      refine wg_sub hX [] rfl ?_
      exact hk1 ()
    refine wu_f h3 ?_
    refine wg_iconst (pc := 12) (v := 1) hX dX1_isDigit_12 rfl ?_
    refine wg_goto (pc := 13) (tgt := 17) hX dX1_isDigit_13 (by decide) ?_
    exact wu_rt (wg_zret (pc := 17) hX rfl (by decide) rfl dX1_isDigit_17)
  refine wg_iconst (pc := 16) (v := 0) hX dX1_isDigit_16 rfl ?_
  exact wu_rt (wg_zret (pc := 17) hX rfl (by decide) rfl dX1_isDigit_17)
theorem m_X1_number (a1 : Int32) : amMetX yX1_number cX1_number 4 (some .int) 2 53 encI [.ref (rid 0 1), .int a1] (up (p_X1_number a1)) := by
  refine amMetX.of (own := RX1) (by decide) rfl (Nat.le_of_ble_eq_true rfl) fun X hXX hPs => ?_
  have hX := hXX.1
  change WG X (encX encI) 0 [(0, .ref (rid 0 1)), (1, .int a1)] [] (bd1 (up (p_X1_number a1)) rt1)
  unfold p_X1_number
  have hM0 := amPs.m0 hPs
  refine wu_ (wg_gM ?_)
  refine wg_aload_n (pc := 0) hX dX1_number_0 0 rfl ?_
  refine wg_aload_n (pc := 1) hX dX1_number_1 0 rfl ?_
  refine wu_ (wg_cVi (pc := 2) (As := []) (rest := [.ref (rid 0 1)]) hX (m_X1_look) (by decide) (by decide) (by decide) rc_X1 (lw_V q1072 q1074 qs26 q159 q1075) hd_X1_look rfl (Nat.le_of_ble_eq_true rfl) (Nat.le_of_ble_eq_true rfl) (Nat.le_of_ble_eq_true rfl) rfl dX1_number_2 fun v1 => ?_)
  refine wu_ (wg_cSi (pc := 5) (As := [.int v1]) (rest := [.ref (rid 0 1)]) hX (m_X1_isDigit v1) (lw_S q1222 q1223 q159 q1224) hd_X1_isDigit rfl (Nat.le_of_ble_eq_true rfl) (Nat.le_of_ble_eq_true rfl) (Nat.le_of_ble_eq_true rfl) rfl dX1_number_5 fun v2 => ?_)
  refine wux_ (wx_cVv (As := [.int v2]) (rest := []) hX (m_X1_need v2) (by decide) (by decide) (by decide) rc_X1 (lw_V q1080 q1082 qs28 q159 q1083) hd_X1_need rfl (Nat.le_of_ble_eq_true rfl) (Nat.le_of_ble_eq_true rfl) (Nat.le_of_ble_eq_true rfl) rfl dX1_number_8 ?_ ?_)
  rotate_left
  · exact wux_out hXX
  refine wg_iconst (pc := 11) (v := 0) hX dX1_number_11 rfl ?_
  refine wg_istore_n (pc := 12) (l' := [(0, .ref (rid 0 1)), (1, .int a1), (2, .int 0)]) hX dX1_number_12 (by decide) rfl ?_
  refine wg_iconst (pc := 13) (v := 0) hX dX1_number_13 rfl ?_
  refine wg_istore_n (pc := 14) (l' := [(0, .ref (rid 0 1)), (1, .int a1), (2, .int 0), (3, .int 0)]) hX dX1_number_14 (by decide) rfl ?_
  refine wu_lp (α := Int32 × Int32) (pcl := 15) (lo := fun x => [(0, .ref (rid 0 1)), (1, .int a1), (2, .int x.1), (3, .int x.2)]) (so := fun _ => []) (fun rec3 hrec3 x3 => ?_) amFu (0, 0)
  unfold p_X1_number_L15
  refine wg_aload_n (pc := 15) hX dX1_number_15 0 rfl ?_
  refine wu_ (wg_gI (pc := 16) hX fd_X1_461 dX1_number_16 fun v4 => ?_)
  refine wg_aload_n (pc := 19) hX dX1_number_19 0 rfl ?_
  refine wu_ (wg_gI (pc := 20) hX fd_X1_458 dX1_number_20 fun v5 => ?_)
  refine wg_icmp_ge (pc := 23) (tgt := 89) hX dX1_number_23 (by decide) (fun h6 => ?_) (fun h6 => ?_)
  · refine wu_t h6 ?_
    refine wg_iload_n (pc := 89) hX dX1_number_89 2 rfl ?_
    exact wu_rt (wg_iret (pc := 90) hX rfl rfl dX1_number_90)
  refine wu_f h6 ?_
  refine wg_aload_n (pc := 26) hX dX1_number_26 0 rfl ?_
  refine wg_gK (pc := 27) hX hM0 fd_X1_62 (by decide) dX1_number_27 ?_
  refine wg_aload_n (pc := 30) hX dX1_number_30 0 rfl ?_
  refine wu_ (wg_gI (pc := 31) hX fd_X1_461 dX1_number_31 fun v7 => ?_)
  refine wu_ (wg_rB (pc := 34) hX ar_30 dX1_number_34 fun v8 => ?_)
  refine wu_ (wg_cSi (pc := 35) (As := [.int v8]) (rest := []) hX (m_X1_isDigit v8) (lw_S q1222 q1223 q159 q1224) hd_X1_isDigit rfl (Nat.le_of_ble_eq_true rfl) (Nat.le_of_ble_eq_true rfl) (Nat.le_of_ble_eq_true rfl) rfl dX1_number_35 fun v9 => ?_)
  refine wg_if_eq (pc := 38) (tgt := 89) hX dX1_number_38 (by decide) (fun h10 => ?_) (fun h10 => ?_)
  · refine wu_t h10 ?_
    refine wg_iload_n (pc := 89) hX dX1_number_89 2 rfl ?_
    exact wu_rt (wg_iret (pc := 90) hX rfl rfl dX1_number_90)
  refine wu_f h10 ?_
  refine wg_aload_n (pc := 41) hX dX1_number_41 0 rfl ?_
  refine wg_iload_n (pc := 42) hX dX1_number_42 3 rfl ?_
  refine wg_iload_n (pc := 43) hX dX1_number_43 1 rfl ?_
  refine wu_jx (α := Int32) (pcJ := 52) (lJ := fun x => [(0, .ref (rid 0 1)), (1, .int a1), (2, .int x3.1), (3, .int x3.2)]) (sJ := fun x => [.int x, .ref (rid 0 1)]) (fun K11 hk11 => ?_) (fun z11 => ?_)
  · refine wg_icmp_ge (pc := 44) (tgt := 51) hX dX1_number_44 (by decide) (fun h12 => ?_) (fun h12 => ?_)
    · refine wu_t h12 ?_
      refine wg_iconst (pc := 51) (v := 0) hX dX1_number_51 rfl ?_
      exact wu_rt (hk11 0)
    refine wu_f h12 ?_
    refine wg_iconst (pc := 47) (v := 1) hX dX1_number_47 rfl ?_
    refine wg_goto (pc := 48) (tgt := 52) hX dX1_number_48 (by decide) ?_
    exact wu_rt (hk11 1)
  refine wux_ (wx_cVv (As := [.int z11]) (rest := []) hX (m_X1_need z11) (by decide) (by decide) (by decide) rc_X1 (lw_V q1080 q1082 qs28 q159 q1083) hd_X1_need rfl (Nat.le_of_ble_eq_true rfl) (Nat.le_of_ble_eq_true rfl) (Nat.le_of_ble_eq_true rfl) rfl dX1_number_52 ?_ ?_)
  rotate_left
  · exact wux_out hXX
  refine wg_bipush (pc := 55) (v := 10) hX dX1_number_55 rfl ?_
  refine wg_iload_n (pc := 57) hX dX1_number_57 2 rfl ?_
  refine wg_imul (pc := 58) hX dX1_number_58 ?_
  refine wg_aload_n (pc := 59) hX dX1_number_59 0 rfl ?_
  refine wg_gK (pc := 60) hX hM0 fd_X1_62 (by decide) dX1_number_60 ?_
  refine wg_aload_n (pc := 63) hX dX1_number_63 0 rfl ?_
  refine wu_ (wg_gI (pc := 64) hX fd_X1_461 dX1_number_64 fun v13 => ?_)
  refine wu_ (wg_rB (pc := 67) hX ar_30 dX1_number_67 fun v14 => ?_)
  refine wg_iadd (pc := 68) hX dX1_number_68 ?_
  refine wg_bipush (pc := 69) (v := 48) hX dX1_number_69 rfl ?_
  refine wg_isub (pc := 71) hX dX1_number_71 ?_
  refine wu_ (wg_nmi hX fun v15 => ?_)
  refine wg_istore_n (pc := 72) (l' := [(0, .ref (rid 0 1)), (1, .int a1), (2, .int v15), (3, .int x3.2)]) hX dX1_number_72 (by decide) rfl ?_
  refine wg_aload_n (pc := 73) hX dX1_number_73 0 rfl ?_
  refine wg_dup (pc := 74) hX dX1_number_74 rfl ?_
  refine wu_ (wg_gI (pc := 75) hX fd_X1_461 dX1_number_75 fun v16 => ?_)
  refine wg_iconst (pc := 78) (v := 1) hX dX1_number_78 rfl ?_
  refine wg_iadd (pc := 79) hX dX1_number_79 ?_
  refine wu_ (wg_pI (pc := 80) hX fp_X1_461 (fun h => by cases h) dX1_number_80 ?_)
  refine wg_iinc (pc := 83) (v := (x3.2 + 1)) (l' := [(0, .ref (rid 0 1)), (1, .int a1), (2, .int v15), (3, .int (x3.2 + 1))]) hX dX1_number_83 3 rfl rfl (by decide) rfl ?_
  refine wg_goto (pc := 86) (tgt := 15) hX dX1_number_86 (by decide) ?_
  exact hrec3 (v15, (x3.2 + 1))
theorem m_X18_init (r0 : Nat) (a1 : Int32) : amMet yX18_init cX18_init 2 none 2 52 encV [.ref (rid 9 r0), .int a1] (up (p_X18_init r0 a1)) := by
  refine amMet.ofI (own := RX18) (by decide) rfl (Nat.le_of_ble_eq_true rfl) rfl fun X hX hN => ?_
  change WG X encV 0 [(0, .ref (rid 9 r0)), (1, .int a1)] [] (bd1 (up (p_X18_init r0 a1)) rt1)
  unfold p_X18_init
  refine wg_aload_n (pc := 0) hX dX18_init_0 0 rfl ?_
  refine wu_ (wg_gd fun h1 => ?_)
  refine wu_ (wg_cINv (pc := 1) (As := []) (rest := []) hX (m_X16_init r0) h1 rfl q1228 q1209 q185 q1210 hd_X16_init rfl (Nat.le_of_ble_eq_true rfl) (Nat.le_of_ble_eq_true rfl) (Nat.le_of_ble_eq_true rfl) rfl dX18_init_1 ?_)
  refine wg_aload_n (pc := 4) hX dX18_init_4 0 rfl ?_
  refine wg_iload_n (pc := 5) hX dX18_init_5 1 rfl ?_
  refine wu_ (wg_pIs (pc := 6) hX fp_X18_7 (fun _ => hN) dX18_init_6 ?_)
  exact wu_rt (wg_vret (pc := 9) hX rfl rfl dX18_init_9)
theorem m_X19_init (r0 : Nat) (a1 : Int32) (a2 : Nat) (a3 : Nat) : amMet yX19_init cX19_init 4 none 2 52 encV [.ref (rid 9 r0), .int a1, .ref (rid 9 a2), .ref (rid 9 a3)] (up (p_X19_init r0 a1 a2 a3)) := by
  refine amMet.ofI (own := RX19) (by decide) rfl (Nat.le_of_ble_eq_true rfl) rfl fun X hX hN => ?_
  change WG X encV 0 [(0, .ref (rid 9 r0)), (1, .int a1), (2, .ref (rid 9 a2)), (3, .ref (rid 9 a3))] [] (bd1 (up (p_X19_init r0 a1 a2 a3)) rt1)
  unfold p_X19_init
  refine wg_aload_n (pc := 0) hX dX19_init_0 0 rfl ?_
  refine wu_ (wg_gd fun h1 => ?_)
  refine wu_ (wg_cINv (pc := 1) (As := []) (rest := []) hX (m_X16_init r0) h1 rfl q1238 q1209 q185 q1210 hd_X16_init rfl (Nat.le_of_ble_eq_true rfl) (Nat.le_of_ble_eq_true rfl) (Nat.le_of_ble_eq_true rfl) rfl dX19_init_1 ?_)
  refine wg_aload_n (pc := 4) hX dX19_init_4 0 rfl ?_
  refine wg_iload_n (pc := 5) hX dX19_init_5 1 rfl ?_
  refine wu_ (wg_pIs (pc := 6) hX fp_X19_9 (fun _ => hN) dX19_init_6 ?_)
  refine wg_aload_n (pc := 9) hX dX19_init_9 0 rfl ?_
  refine wg_aload_n (pc := 10) hX dX19_init_10 2 rfl ?_
  refine wu_ (wg_pRs (pc := 11) hX fp_X19_15 (fun _ => hN) (by decide) (by first | exact Or.inl ⟨_, rfl⟩ | exact Or.inr ⟨_, rfl⟩) dX19_init_11 ?_)
  refine wg_aload_n (pc := 14) hX dX19_init_14 0 rfl ?_
  refine wg_aload_n (pc := 15) hX dX19_init_15 3 rfl ?_
  refine wu_ (wg_pRs (pc := 16) hX fp_X19_19 (fun _ => hN) (by decide) (by first | exact Or.inl ⟨_, rfl⟩ | exact Or.inr ⟨_, rfl⟩) dX19_init_16 ?_)
  exact wu_rt (wg_vret (pc := 19) hX rfl rfl dX19_init_19)
theorem w_X1_atom (d : Nat) (s_X1_atom : am1 (Option Nat)) (s_X1_sum : am1 (Option Nat)) (s_X1_term : am1 (Option Nat)) (hm_X1_atom : amMetX yX1_atom cX1_atom 3 (some (.object "CityBrigade$Sum")) (5 + d) (130 + d * 22) (encR 9) [.ref (rid 0 1)] (s_X1_atom)) (hm_X1_sum : amMetX yX1_sum cX1_sum 3 (some (.object "CityBrigade$Sum")) (5 + d) (130 + d * 22) (encR 9) [.ref (rid 0 1)] (s_X1_sum)) (hm_X1_term : amMetX yX1_term cX1_term 2 (some (.object "CityBrigade$Sum")) (5 + d) (130 + d * 22) (encR 9) [.ref (rid 0 1)] (s_X1_term))  : amMetX yX1_atom cX1_atom 3 (some (.object "CityBrigade$Sum")) (5 + (d + 1)) (130 + (d + 1) * 22) (encR 9) [.ref (rid 0 1)] (b_X1_atom s_X1_atom s_X1_sum s_X1_term) := by
  refine amMetX.of (own := RX1) (by decide) rfl (Nat.le_of_ble_eq_true rfl) fun X hXX hPs => ?_
  have hX := hXX.1
  change WG X (encX (encR 9)) 0 [(0, .ref (rid 0 1))] [] (bd1 (b_X1_atom s_X1_atom s_X1_sum s_X1_term) rt1)
  unfold b_X1_atom
  refine wg_aload_n (pc := 0) hX dX1_atom_0 0 rfl ?_
  refine wv_ (wg_cVi (pc := 1) (As := []) (rest := []) hX (m_X1_look) (by decide) (by decide) (by decide) rc_X1 (lw_V q1072 q1074 qs26 q159 q1075) hd_X1_look rfl (by omega) (by omega) (Nat.le_of_ble_eq_true rfl) rfl dX1_atom_1 fun v1 => ?_)
  refine wg_istore_n (pc := 4) (l' := [(0, .ref (rid 0 1)), (1, .int v1)]) hX dX1_atom_4 (by decide) rfl ?_
  refine wg_iload_n (pc := 5) hX dX1_atom_5 1 rfl ?_
  refine wg_bipush (pc := 6) (v := 91) hX dX1_atom_6 rfl ?_
  refine wg_icmp_ne (pc := 8) (tgt := 28) hX dX1_atom_8 (by decide) (fun h2 => ?_) (fun h2 => ?_)
  · refine wv_t h2 ?_
    refine wg_aload_n (pc := 11) hX dX1_atom_11 0 rfl ?_
    refine wvx_ (wx_cVv (As := []) (rest := []) hX (m_X1_opens) (by decide) (by decide) (by decide) rc_X1 (lw_V q1076 q1078 qs27 q159 q1079) hd_X1_opens rfl (by omega) (by omega) (Nat.le_of_ble_eq_true rfl) rfl dX1_atom_12 ?_ ?_)
    rotate_left
    · exact wvx_out hXX
    refine wg_aload_n (pc := 15) hX dX1_atom_15 0 rfl ?_
    refine wvx_ (wx_cVr (As := []) (rest := []) hX (hm_X1_sum) (by decide) (by decide) (by decide) rc_X1 (lw_V q1101 q1103 qs30 q159 q1104) hd_X1_sum rfl (by omega) (by omega) (Nat.le_of_ble_eq_true rfl) rfl dX1_atom_16 (fun r3 => ?_) ?_)
    rotate_left
    · exact wvx_out hXX
    refine wg_astore_n (pc := 19) (l' := [(0, .ref (rid 0 1)), (1, .int v1), (2, .ref (rid 9 r3))]) hX dX1_atom_19 (by decide) rfl ?_
    refine wg_aload_n (pc := 20) hX dX1_atom_20 0 rfl ?_
    refine wg_bipush (pc := 21) (v := 93) hX dX1_atom_21 rfl ?_
    refine wvx_ (wx_cVv (As := [.int 93]) (rest := []) hX (m_X1_closes 93) (by decide) (by decide) (by decide) rc_X1 (lw_V q1097 q1099 qs29 q159 q1100) hd_X1_closes rfl (by omega) (by omega) (Nat.le_of_ble_eq_true rfl) rfl dX1_atom_23 ?_ ?_)
    rotate_left
    · exact wvx_out hXX
    refine wg_aload_n (pc := 26) hX dX1_atom_26 2 rfl ?_
    exact wv_rt (wg_aret (pc := 27) hX rfl (by first | exact Or.inl ⟨_, rfl⟩ | exact Or.inr ⟨_, rfl⟩) (by decide) rfl dX1_atom_27)
  refine wv_f h2 ?_
  refine wg_iload_n (pc := 28) hX dX1_atom_28 1 rfl ?_
  refine wv_jn (α := Unit) (pcJ := 65) (lJ := fun x => [(0, .ref (rid 0 1))]) (sJ := fun x => []) (fun k4 hk4 => ?_) (fun z4 => ?_)
  · refine wg_if_le (pc := 29) (tgt := 65) hX dX1_atom_29 (by decide) (fun h5 => ?_) (fun h5 => ?_)
    · refine wv_t h5 ?_
      refine wg_sub hX [0] rfl ?_
      exact hk4 ()
    refine wv_f h5 ?_
    refine wg_aload_n (pc := 32) hX dX1_atom_32 0 rfl ?_
    refine wv_ (wg_gI (pc := 33) hX fd_X1_493 dX1_atom_33 fun v6 => ?_)
    refine wv_ (wg_cSr (pc := 36) (As := [.int v6]) (rest := []) hX (m_X1_lettersOf v6) (lw_S q1113 q1114 q159 q1115) hd_X1_lettersOf rfl (by omega) (by omega) (Nat.le_of_ble_eq_true rfl) rfl dX1_atom_36 fun r7 => ?_)
    refine wg_iload_n (pc := 39) hX dX1_atom_39 1 rfl ?_
    refine wv_ (wg_gd fun h8 => ?_)
    refine wv_ (wg_cVsi (pc := 40) (As := [.int v1]) (rest := []) hX (m_J6_indexOf r7 v1) h8 rfl (lw_V q1119 q1120 q1121 q178 q1122) hd_J6_indexOf rfl (by omega) (by omega) (Nat.le_of_ble_eq_true rfl) rfl dX1_atom_40 fun v9 => ?_)
    refine wg_if_lt (pc := 43) (tgt := 65) hX dX1_atom_43 (by decide) (fun h10 => ?_) (fun h10 => ?_)
    · refine wv_t h10 ?_
      refine wg_sub hX [0] rfl ?_
      exact hk4 ()
    refine wv_f h10 ?_
    refine wg_aload_n (pc := 46) hX dX1_atom_46 0 rfl ?_
    refine wg_dup (pc := 47) hX dX1_atom_47 rfl ?_
    refine wv_ (wg_gI (pc := 48) hX fd_X1_461 dX1_atom_48 fun v11 => ?_)
    refine wg_iconst (pc := 51) (v := 1) hX dX1_atom_51 rfl ?_
    refine wg_iadd (pc := 52) hX dX1_atom_52 ?_
    refine wv_ (wg_pI (pc := 53) hX fp_X1_461 (fun h => by cases h) dX1_atom_53 ?_)
    refine wv_ (wg_nw (pc := 56) hX nw_X1_505 dX1_atom_56 fun r12 => ?_)
    refine wg_dup (pc := 59) hX dX1_atom_59 rfl ?_
    refine wg_iload_n (pc := 60) hX dX1_atom_60 1 rfl ?_
    refine wv_ (wg_gd fun h13 => ?_)
    refine wv_ (wg_cIv (pc := 61) (As := [.int v1]) (rest := [.ref (rid 9 r12)]) hX (m_X17_init r12 v1) h13 rfl q1205 q1206 q186 q1207 hd_X17_init rfl (by omega) (by omega) (Nat.le_of_ble_eq_true rfl) rfl dX1_atom_61 ?_)
    exact wv_rt (wg_aret (pc := 64) hX rfl (by first | exact Or.inl ⟨_, rfl⟩ | exact Or.inr ⟨_, rfl⟩) (by decide) rfl dX1_atom_64)
  refine wv_ (wg_nw (pc := 65) hX nw_X1_509 dX1_atom_65 fun r14 => ?_)
  refine wg_dup (pc := 68) hX dX1_atom_68 rfl ?_
  refine wg_aload_n (pc := 69) hX dX1_atom_69 0 rfl ?_
  refine wg_iconst (pc := 70) (v := 4) hX dX1_atom_70 rfl ?_
  refine wvx_ (wx_cVi (As := [.int 4]) (rest := [.ref (rid 9 r14), .ref (rid 9 r14)]) hX (m_X1_number 4) (by decide) (by decide) (by decide) rc_X1 (lw_V q1218 q1220 qs33 q159 q1221) hd_X1_number rfl (by omega) (by omega) (Nat.le_of_ble_eq_true rfl) rfl dX1_atom_71 (fun v15 => ?_) ?_)
  rotate_left
  · exact wvx_out hXX
  refine wv_ (wg_gd fun h16 => ?_)
  refine wv_ (wg_cIv (pc := 74) (As := [.int v15]) (rest := [.ref (rid 9 r14)]) hX (m_X18_init r14 v15) h16 rfl q1225 q1226 q187 q1227 hd_X18_init rfl (by omega) (by omega) (Nat.le_of_ble_eq_true rfl) rfl dX1_atom_74 ?_)
  exact wv_rt (wg_aret (pc := 77) hX rfl (by first | exact Or.inl ⟨_, rfl⟩ | exact Or.inr ⟨_, rfl⟩) (by decide) rfl dX1_atom_77)
theorem w_X1_sum (d : Nat) (s_X1_atom : am1 (Option Nat)) (s_X1_sum : am1 (Option Nat)) (s_X1_term : am1 (Option Nat)) (hm_X1_atom : amMetX yX1_atom cX1_atom 3 (some (.object "CityBrigade$Sum")) (5 + d) (130 + d * 22) (encR 9) [.ref (rid 0 1)] (s_X1_atom)) (hm_X1_sum : amMetX yX1_sum cX1_sum 3 (some (.object "CityBrigade$Sum")) (5 + d) (130 + d * 22) (encR 9) [.ref (rid 0 1)] (s_X1_sum)) (hm_X1_term : amMetX yX1_term cX1_term 2 (some (.object "CityBrigade$Sum")) (5 + d) (130 + d * 22) (encR 9) [.ref (rid 0 1)] (s_X1_term))  : amMetX yX1_sum cX1_sum 3 (some (.object "CityBrigade$Sum")) (5 + (d + 1)) (130 + (d + 1) * 22) (encR 9) [.ref (rid 0 1)] (b_X1_sum s_X1_atom s_X1_sum s_X1_term) := by
  refine amMetX.of (own := RX1) (by decide) rfl (Nat.le_of_ble_eq_true rfl) fun X hXX hPs => ?_
  have hX := hXX.1
  change WG X (encX (encR 9)) 0 [(0, .ref (rid 0 1))] [] (bd1 (b_X1_sum s_X1_atom s_X1_sum s_X1_term) rt1)
  unfold b_X1_sum
  refine wg_aload_n (pc := 0) hX dX1_sum_0 0 rfl ?_
  refine wvx_ (wx_cVr (As := []) (rest := []) hX (hm_X1_term) (by decide) (by decide) (by decide) rc_X1 (lw_V q1105 q1107 qs31 q159 q1108) hd_X1_term rfl (by omega) (by omega) (Nat.le_of_ble_eq_true rfl) rfl dX1_sum_1 (fun r1 => ?_) ?_)
  rotate_left
  · exact wvx_out hXX
  refine wg_astore_n (pc := 4) (l' := [(0, .ref (rid 0 1)), (1, .ref (rid 9 r1))]) hX dX1_sum_4 (by decide) rfl ?_
  refine wg_aload_n (pc := 5) hX dX1_sum_5 0 rfl ?_
  refine wv_ (wg_cVi (pc := 6) (As := []) (rest := []) hX (m_X1_look) (by decide) (by decide) (by decide) rc_X1 (lw_V q1072 q1074 qs26 q159 q1075) hd_X1_look rfl (by omega) (by omega) (Nat.le_of_ble_eq_true rfl) rfl dX1_sum_6 fun v2 => ?_)
  refine wg_istore_n (pc := 9) (l' := [(0, .ref (rid 0 1)), (1, .ref (rid 9 r1)), (2, .int v2)]) hX dX1_sum_9 (by decide) rfl ?_
  refine wv_lp (α := Nat × Int32) (pcl := 10) (lo := fun x => [(0, .ref (rid 0 1)), (1, .ref (rid 9 x.1)), (2, .int x.2)]) (so := fun _ => []) (fun rec3 hrec3 x3 => ?_) amFu (r1, v2)
  unfold p_X1_sum_L10
  refine wg_iload_n (pc := 10) hX dX1_sum_10 2 rfl ?_
  refine wg_bipush (pc := 11) (v := 43) hX dX1_sum_11 rfl ?_
  refine wv_jn (α := Unit) (pcJ := 22) (lJ := fun x => [(0, .ref (rid 0 1)), (1, .ref (rid 9 x3.1)), (2, .int x3.2)]) (sJ := fun x => []) (fun k4 hk4 => ?_) (fun z4 => ?_)
  · refine wg_icmp_eq (pc := 13) (tgt := 22) hX dX1_sum_13 (by decide) (fun h5 => ?_) (fun h5 => ?_)
    · refine wv_t h5 ?_
      exact hk4 ()
    refine wv_f h5 ?_
    refine wg_iload_n (pc := 16) hX dX1_sum_16 2 rfl ?_
    refine wg_bipush (pc := 17) (v := 45) hX dX1_sum_17 rfl ?_
    refine wg_icmp_ne (pc := 19) (tgt := 54) hX dX1_sum_19 (by decide) (fun h6 => ?_) (fun h6 => ?_)
    · refine wv_t h6 ?_
      exact hk4 ()
    refine wv_f h6 ?_
    refine wg_aload_n (pc := 54) hX dX1_sum_54 1 rfl ?_
    exact wv_rt (wg_aret (pc := 55) hX rfl (by first | exact Or.inl ⟨_, rfl⟩ | exact Or.inr ⟨_, rfl⟩) (by decide) rfl dX1_sum_55)
  refine wg_aload_n (pc := 22) hX dX1_sum_22 0 rfl ?_
  refine wg_dup (pc := 23) hX dX1_sum_23 rfl ?_
  refine wv_ (wg_gI (pc := 24) hX fd_X1_461 dX1_sum_24 fun v7 => ?_)
  refine wg_iconst (pc := 27) (v := 1) hX dX1_sum_27 rfl ?_
  refine wg_iadd (pc := 28) hX dX1_sum_28 ?_
  refine wv_ (wg_pI (pc := 29) hX fp_X1_461 (fun h => by cases h) dX1_sum_29 ?_)
  refine wv_ (wg_nw (pc := 32) hX nw_X1_518 dX1_sum_32 fun r8 => ?_)
  refine wg_dup (pc := 35) hX dX1_sum_35 rfl ?_
  refine wg_iload_n (pc := 36) hX dX1_sum_36 2 rfl ?_
  refine wg_aload_n (pc := 37) hX dX1_sum_37 1 rfl ?_
  refine wg_aload_n (pc := 38) hX dX1_sum_38 0 rfl ?_
  refine wvx_ (wx_cVr (As := []) (rest := [.ref (rid 9 x3.1), .int x3.2, .ref (rid 9 r8), .ref (rid 9 r8)]) hX (hm_X1_term) (by decide) (by decide) (by decide) rc_X1 (lw_V q1105 q1107 qs31 q159 q1108) hd_X1_term rfl (by omega) (by omega) (Nat.le_of_ble_eq_true rfl) rfl dX1_sum_39 (fun r9 => ?_) ?_)
  rotate_left
  · exact wvx_out hXX
  refine wv_ (wg_gd fun h10 => ?_)
  refine wv_ (wg_cIv (pc := 42) (As := [.int x3.2, .ref (rid 9 x3.1), .ref (rid 9 r9)]) (rest := [.ref (rid 9 r8)]) hX (m_X19_init r8 x3.2 x3.1 r9) h10 rfl q1235 q1236 q188 q1237 hd_X19_init rfl (by omega) (by omega) (Nat.le_of_ble_eq_true rfl) rfl dX1_sum_42 ?_)
  refine wg_astore_n (pc := 45) (l' := [(0, .ref (rid 0 1)), (1, .ref (rid 9 r8)), (2, .int x3.2)]) hX dX1_sum_45 (by decide) rfl ?_
  refine wg_aload_n (pc := 46) hX dX1_sum_46 0 rfl ?_
  refine wv_ (wg_cVi (pc := 47) (As := []) (rest := []) hX (m_X1_look) (by decide) (by decide) (by decide) rc_X1 (lw_V q1072 q1074 qs26 q159 q1075) hd_X1_look rfl (by omega) (by omega) (Nat.le_of_ble_eq_true rfl) rfl dX1_sum_47 fun v11 => ?_)
  refine wg_istore_n (pc := 50) (l' := [(0, .ref (rid 0 1)), (1, .ref (rid 9 r8)), (2, .int v11)]) hX dX1_sum_50 (by decide) rfl ?_
  refine wg_goto (pc := 51) (tgt := 10) hX dX1_sum_51 (by decide) ?_
  exact hrec3 (r8, v11)
theorem w_X1_term (d : Nat) (s_X1_atom : am1 (Option Nat)) (s_X1_sum : am1 (Option Nat)) (s_X1_term : am1 (Option Nat)) (hm_X1_atom : amMetX yX1_atom cX1_atom 3 (some (.object "CityBrigade$Sum")) (5 + d) (130 + d * 22) (encR 9) [.ref (rid 0 1)] (s_X1_atom)) (hm_X1_sum : amMetX yX1_sum cX1_sum 3 (some (.object "CityBrigade$Sum")) (5 + d) (130 + d * 22) (encR 9) [.ref (rid 0 1)] (s_X1_sum)) (hm_X1_term : amMetX yX1_term cX1_term 2 (some (.object "CityBrigade$Sum")) (5 + d) (130 + d * 22) (encR 9) [.ref (rid 0 1)] (s_X1_term))  : amMetX yX1_term cX1_term 2 (some (.object "CityBrigade$Sum")) (5 + (d + 1)) (130 + (d + 1) * 22) (encR 9) [.ref (rid 0 1)] (b_X1_term s_X1_atom s_X1_sum s_X1_term) := by
  refine amMetX.of (own := RX1) (by decide) rfl (Nat.le_of_ble_eq_true rfl) fun X hXX hPs => ?_
  have hX := hXX.1
  change WG X (encX (encR 9)) 0 [(0, .ref (rid 0 1))] [] (bd1 (b_X1_term s_X1_atom s_X1_sum s_X1_term) rt1)
  unfold b_X1_term
  refine wg_aload_n (pc := 0) hX dX1_term_0 0 rfl ?_
  refine wvx_ (wx_cVr (As := []) (rest := []) hX (hm_X1_atom) (by decide) (by decide) (by decide) rc_X1 (lw_V q1109 q1111 qs32 q159 q1112) hd_X1_atom rfl (by omega) (by omega) (Nat.le_of_ble_eq_true rfl) rfl dX1_term_1 (fun r1 => ?_) ?_)
  rotate_left
  · exact wvx_out hXX
  refine wg_astore_n (pc := 4) (l' := [(0, .ref (rid 0 1)), (1, .ref (rid 9 r1))]) hX dX1_term_4 (by decide) rfl ?_
  refine wv_lp (α := Nat) (pcl := 5) (lo := fun x => [(0, .ref (rid 0 1)), (1, .ref (rid 9 x))]) (so := fun _ => []) (fun rec2 hrec2 x2 => ?_) amFu r1
  unfold p_X1_term_L5
  refine wg_aload_n (pc := 5) hX dX1_term_5 0 rfl ?_
  refine wv_ (wg_cVi (pc := 6) (As := []) (rest := []) hX (m_X1_look) (by decide) (by decide) (by decide) rc_X1 (lw_V q1072 q1074 qs26 q159 q1075) hd_X1_look rfl (by omega) (by omega) (Nat.le_of_ble_eq_true rfl) rfl dX1_term_6 fun v3 => ?_)
  refine wg_bipush (pc := 9) (v := 42) hX dX1_term_9 rfl ?_
  refine wg_icmp_ne (pc := 11) (tgt := 42) hX dX1_term_11 (by decide) (fun h4 => ?_) (fun h4 => ?_)
  rotate_left
  · refine wv_f h4 ?_
    refine wg_aload_n (pc := 42) hX dX1_term_42 1 rfl ?_
    exact wv_rt (wg_aret (pc := 43) hX rfl (by first | exact Or.inl ⟨_, rfl⟩ | exact Or.inr ⟨_, rfl⟩) (by decide) rfl dX1_term_43)
  refine wv_t h4 ?_
  refine wg_aload_n (pc := 14) hX dX1_term_14 0 rfl ?_
  refine wg_dup (pc := 15) hX dX1_term_15 rfl ?_
  refine wv_ (wg_gI (pc := 16) hX fd_X1_461 dX1_term_16 fun v5 => ?_)
  refine wg_iconst (pc := 19) (v := 1) hX dX1_term_19 rfl ?_
  refine wg_iadd (pc := 20) hX dX1_term_20 ?_
  refine wv_ (wg_pI (pc := 21) hX fp_X1_461 (fun h => by cases h) dX1_term_21 ?_)
  refine wv_ (wg_nw (pc := 24) hX nw_X1_518 dX1_term_24 fun r6 => ?_)
  refine wg_dup (pc := 27) hX dX1_term_27 rfl ?_
  refine wg_bipush (pc := 28) (v := 42) hX dX1_term_28 rfl ?_
  refine wg_aload_n (pc := 30) hX dX1_term_30 1 rfl ?_
  refine wg_aload_n (pc := 31) hX dX1_term_31 0 rfl ?_
  refine wvx_ (wx_cVr (As := []) (rest := [.ref (rid 9 x2), .int 42, .ref (rid 9 r6), .ref (rid 9 r6)]) hX (hm_X1_atom) (by decide) (by decide) (by decide) rc_X1 (lw_V q1109 q1111 qs32 q159 q1112) hd_X1_atom rfl (by omega) (by omega) (Nat.le_of_ble_eq_true rfl) rfl dX1_term_32 (fun r7 => ?_) ?_)
  rotate_left
  · exact wvx_out hXX
  refine wv_ (wg_gd fun h8 => ?_)
  refine wv_ (wg_cIv (pc := 35) (As := [.int 42, .ref (rid 9 x2), .ref (rid 9 r7)]) (rest := [.ref (rid 9 r6)]) hX (m_X19_init r6 42 x2 r7) h8 rfl q1235 q1236 q188 q1237 hd_X19_init rfl (by omega) (by omega) (Nat.le_of_ble_eq_true rfl) rfl dX1_term_35 ?_)
  refine wg_astore_n (pc := 38) (l' := [(0, .ref (rid 0 1)), (1, .ref (rid 9 r6))]) hX dX1_term_38 (by decide) rfl ?_
  refine wg_goto (pc := 39) (tgt := 5) hX dX1_term_39 (by decide) ?_
  exact hrec2 r6
theorem gm_X1_atom : ∀ d : Nat, (amMetX yX1_atom cX1_atom 3 (some (.object "CityBrigade$Sum")) (5 + d) (130 + d * 22) (encR 9) [.ref (rid 0 1)] ((p_X1_atom d))) ∧ (amMetX yX1_sum cX1_sum 3 (some (.object "CityBrigade$Sum")) (5 + d) (130 + d * 22) (encR 9) [.ref (rid 0 1)] ((p_X1_sum d))) ∧ (amMetX yX1_term cX1_term 2 (some (.object "CityBrigade$Sum")) (5 + d) (130 + d * 22) (encR 9) [.ref (rid 0 1)] ((p_X1_term d)))
  | 0 => ⟨amMetX.none (fun _ _ => rfl), amMetX.none (fun _ _ => rfl), amMetX.none (fun _ _ => rfl)⟩
  | d + 1 => by
    obtain ⟨h0, h1, h2⟩ := gm_X1_atom d
    exact ⟨w_X1_atom d (p_X1_atom d) (p_X1_sum d) (p_X1_term d) h0 h1 h2, w_X1_sum d (p_X1_atom d) (p_X1_sum d) (p_X1_term d) h0 h1 h2, w_X1_term d (p_X1_atom d) (p_X1_sum d) (p_X1_term d) h0 h1 h2⟩
theorem m_X1_atom  : amMetX yX1_atom cX1_atom 3 (some (.object "CityBrigade$Sum")) 69 1538 (encR 9) [.ref (rid 0 1)] (p_X1_atom 64) := (gm_X1_atom 64).1 
theorem m_X1_sum  : amMetX yX1_sum cX1_sum 3 (some (.object "CityBrigade$Sum")) 69 1538 (encR 9) [.ref (rid 0 1)] (p_X1_sum 64) := (gm_X1_atom 64).2.1 
theorem m_X1_term  : amMetX yX1_term cX1_term 2 (some (.object "CityBrigade$Sum")) 69 1538 (encR 9) [.ref (rid 0 1)] (p_X1_term 64) := (gm_X1_atom 64).2.2 
theorem m_X20_init (r0 : Nat) (a1 : Int32) (a2 : Nat) (a3 : Nat) : amMet yX20_init cX20_init 4 none 2 52 encV [.ref (rid 10 r0), .int a1, .ref (rid 9 a2), .ref (rid 9 a3)] (up (p_X20_init r0 a1 a2 a3)) := by
  refine amMet.ofI (own := RX20) (by decide) rfl (Nat.le_of_ble_eq_true rfl) rfl fun X hX hN => ?_
  change WG X encV 0 [(0, .ref (rid 10 r0)), (1, .int a1), (2, .ref (rid 9 a2)), (3, .ref (rid 9 a3))] [] (bd1 (up (p_X20_init r0 a1 a2 a3)) rt1)
  unfold p_X20_init
  refine wg_aload_n (pc := 0) hX dX20_init_0 0 rfl ?_
  refine wu_ (wg_gd fun h1 => ?_)
  refine wu_ (wg_cINv (pc := 1) (As := []) (rest := []) hX (m_X14_init r0) h1 rfl q1254 q1090 q183 q1091 hd_X14_init rfl (Nat.le_of_ble_eq_true rfl) (Nat.le_of_ble_eq_true rfl) (Nat.le_of_ble_eq_true rfl) rfl dX20_init_1 ?_)
  refine wg_aload_n (pc := 4) hX dX20_init_4 0 rfl ?_
  refine wg_iload_n (pc := 5) hX dX20_init_5 1 rfl ?_
  refine wu_ (wg_pIs (pc := 6) hX fp_X20_7 (fun _ => hN) dX20_init_6 ?_)
  refine wg_aload_n (pc := 9) hX dX20_init_9 0 rfl ?_
  refine wg_aload_n (pc := 10) hX dX20_init_10 2 rfl ?_
  refine wu_ (wg_pRs (pc := 11) hX fp_X20_13 (fun _ => hN) (by decide) (by first | exact Or.inl ⟨_, rfl⟩ | exact Or.inr ⟨_, rfl⟩) dX20_init_11 ?_)
  refine wg_aload_n (pc := 14) hX dX20_init_14 0 rfl ?_
  refine wg_aload_n (pc := 15) hX dX20_init_15 3 rfl ?_
  refine wu_ (wg_pRs (pc := 16) hX fp_X20_17 (fun _ => hN) (by decide) (by first | exact Or.inl ⟨_, rfl⟩ | exact Or.inr ⟨_, rfl⟩) dX20_init_16 ?_)
  exact wu_rt (wg_vret (pc := 19) hX rfl rfl dX20_init_19)
theorem m_X21_init (r0 : Nat) (a1 : Int32) (a2 : Nat) (a3 : Nat) : amMet yX21_init cX21_init 4 none 2 52 encV [.ref (rid 10 r0), .int a1, .ref (rid 10 a2), .ref (rid 10 a3)] (up (p_X21_init r0 a1 a2 a3)) := by
  refine amMet.ofI (own := RX21) (by decide) rfl (Nat.le_of_ble_eq_true rfl) rfl fun X hX hN => ?_
  change WG X encV 0 [(0, .ref (rid 10 r0)), (1, .int a1), (2, .ref (rid 10 a2)), (3, .ref (rid 10 a3))] [] (bd1 (up (p_X21_init r0 a1 a2 a3)) rt1)
  unfold p_X21_init
  refine wg_aload_n (pc := 0) hX dX21_init_0 0 rfl ?_
  refine wu_ (wg_gd fun h1 => ?_)
  refine wu_ (wg_cINv (pc := 1) (As := []) (rest := []) hX (m_X14_init r0) h1 rfl q1270 q1090 q183 q1091 hd_X14_init rfl (Nat.le_of_ble_eq_true rfl) (Nat.le_of_ble_eq_true rfl) (Nat.le_of_ble_eq_true rfl) rfl dX21_init_1 ?_)
  refine wg_aload_n (pc := 4) hX dX21_init_4 0 rfl ?_
  refine wg_iload_n (pc := 5) hX dX21_init_5 1 rfl ?_
  refine wu_ (wg_gd fun h2 => ?_)
  refine wu_ (wg_pZs (pc := 6) hX fp_X21_7 (fun _ => hN) h2 dX21_init_6 ?_)
  refine wg_aload_n (pc := 9) hX dX21_init_9 0 rfl ?_
  refine wg_aload_n (pc := 10) hX dX21_init_10 2 rfl ?_
  refine wu_ (wg_pRs (pc := 11) hX fp_X21_13 (fun _ => hN) (by decide) (by first | exact Or.inl ⟨_, rfl⟩ | exact Or.inr ⟨_, rfl⟩) dX21_init_11 ?_)
  refine wg_aload_n (pc := 14) hX dX21_init_14 0 rfl ?_
  refine wg_aload_n (pc := 15) hX dX21_init_15 3 rfl ?_
  refine wu_ (wg_pRs (pc := 16) hX fp_X21_17 (fun _ => hN) (by decide) (by first | exact Or.inl ⟨_, rfl⟩ | exact Or.inr ⟨_, rfl⟩) dX21_init_16 ?_)
  exact wu_rt (wg_vret (pc := 19) hX rfl rfl dX21_init_19)
theorem w_X1_condition (d : Nat) (s_X1_condition : am1 (Option Nat)) (s_X1_part : am1 (Option Nat)) (s_X1_unit : am1 (Option Nat)) (hm_X1_condition : amMetX yX1_condition cX1_condition 2 (some (.object "CityBrigade$Test")) (70 + d) (1560 + d * 23) (encR 10) [.ref (rid 0 1)] (s_X1_condition)) (hm_X1_part : amMetX yX1_part cX1_part 2 (some (.object "CityBrigade$Test")) (70 + d) (1560 + d * 23) (encR 10) [.ref (rid 0 1)] (s_X1_part)) (hm_X1_unit : amMetX yX1_unit cX1_unit 4 (some (.object "CityBrigade$Test")) (70 + d) (1560 + d * 23) (encR 10) [.ref (rid 0 1)] (s_X1_unit))  : amMetX yX1_condition cX1_condition 2 (some (.object "CityBrigade$Test")) (70 + (d + 1)) (1560 + (d + 1) * 23) (encR 10) [.ref (rid 0 1)] (b_X1_condition s_X1_condition s_X1_part s_X1_unit) := by
  refine amMetX.of (own := RX1) (by decide) rfl (Nat.le_of_ble_eq_true rfl) fun X hXX hPs => ?_
  have hX := hXX.1
  change WG X (encX (encR 10)) 0 [(0, .ref (rid 0 1))] [] (bd1 (b_X1_condition s_X1_condition s_X1_part s_X1_unit) rt1)
  unfold b_X1_condition
  refine wg_aload_n (pc := 0) hX dX1_condition_0 0 rfl ?_
  refine wvx_ (wx_cVr (As := []) (rest := []) hX (hm_X1_part) (by decide) (by decide) (by decide) rc_X1 (lw_V q1064 q1066 qs24 q159 q1067) hd_X1_part rfl (by omega) (by omega) (Nat.le_of_ble_eq_true rfl) rfl dX1_condition_1 (fun r1 => ?_) ?_)
  rotate_left
  · exact wvx_out hXX
  refine wg_astore_n (pc := 4) (l' := [(0, .ref (rid 0 1)), (1, .ref (rid 10 r1))]) hX dX1_condition_4 (by decide) rfl ?_
  refine wv_lp (α := Nat) (pcl := 5) (lo := fun x => [(0, .ref (rid 0 1)), (1, .ref (rid 10 x))]) (so := fun _ => []) (fun rec2 hrec2 x2 => ?_) amFu r1
  unfold p_X1_condition_L5
  refine wg_aload_n (pc := 5) hX dX1_condition_5 0 rfl ?_
  refine wv_ (wg_cVi (pc := 6) (As := []) (rest := []) hX (m_X1_look) (by decide) (by decide) (by decide) rc_X1 (lw_V q1072 q1074 qs26 q159 q1075) hd_X1_look rfl (by omega) (by omega) (Nat.le_of_ble_eq_true rfl) rfl dX1_condition_6 fun v3 => ?_)
  refine wg_bipush (pc := 9) (v := 124) hX dX1_condition_9 rfl ?_
  refine wg_icmp_ne (pc := 11) (tgt := 41) hX dX1_condition_11 (by decide) (fun h4 => ?_) (fun h4 => ?_)
  rotate_left
  · refine wv_f h4 ?_
    refine wg_aload_n (pc := 41) hX dX1_condition_41 1 rfl ?_
    exact wv_rt (wg_aret (pc := 42) hX rfl (by first | exact Or.inl ⟨_, rfl⟩ | exact Or.inr ⟨_, rfl⟩) (by decide) rfl dX1_condition_42)
  refine wv_t h4 ?_
  refine wg_aload_n (pc := 14) hX dX1_condition_14 0 rfl ?_
  refine wg_dup (pc := 15) hX dX1_condition_15 rfl ?_
  refine wv_ (wg_gI (pc := 16) hX fd_X1_461 dX1_condition_16 fun v5 => ?_)
  refine wg_iconst (pc := 19) (v := 1) hX dX1_condition_19 rfl ?_
  refine wg_iadd (pc := 20) hX dX1_condition_20 ?_
  refine wv_ (wg_pI (pc := 21) hX fp_X1_461 (fun h => by cases h) dX1_condition_21 ?_)
  refine wv_ (wg_nw (pc := 24) hX nw_X1_541 dX1_condition_24 fun r6 => ?_)
  refine wg_dup (pc := 27) hX dX1_condition_27 rfl ?_
  refine wg_iconst (pc := 28) (v := 0) hX dX1_condition_28 rfl ?_
  refine wg_aload_n (pc := 29) hX dX1_condition_29 1 rfl ?_
  refine wg_aload_n (pc := 30) hX dX1_condition_30 0 rfl ?_
  refine wvx_ (wx_cVr (As := []) (rest := [.ref (rid 10 x2), .int 0, .ref (rid 10 r6), .ref (rid 10 r6)]) hX (hm_X1_part) (by decide) (by decide) (by decide) rc_X1 (lw_V q1064 q1066 qs24 q159 q1067) hd_X1_part rfl (by omega) (by omega) (Nat.le_of_ble_eq_true rfl) rfl dX1_condition_31 (fun r7 => ?_) ?_)
  rotate_left
  · exact wvx_out hXX
  refine wv_ (wg_gd fun h8 => ?_)
  refine wv_ (wg_cIv (pc := 34) (As := [.int 0, .ref (rid 10 x2), .ref (rid 10 r7)]) (rest := [.ref (rid 10 r6)]) hX (m_X21_init r6 0 x2 r7) h8 rfl q1267 q1268 q190 q1269 hd_X21_init rfl (by omega) (by omega) (Nat.le_of_ble_eq_true rfl) rfl dX1_condition_34 ?_)
  refine wg_astore_n (pc := 37) (l' := [(0, .ref (rid 0 1)), (1, .ref (rid 10 r6))]) hX dX1_condition_37 (by decide) rfl ?_
  refine wg_goto (pc := 38) (tgt := 5) hX dX1_condition_38 (by decide) ?_
  exact hrec2 r6
theorem w_X1_part (d : Nat) (s_X1_condition : am1 (Option Nat)) (s_X1_part : am1 (Option Nat)) (s_X1_unit : am1 (Option Nat)) (hm_X1_condition : amMetX yX1_condition cX1_condition 2 (some (.object "CityBrigade$Test")) (70 + d) (1560 + d * 23) (encR 10) [.ref (rid 0 1)] (s_X1_condition)) (hm_X1_part : amMetX yX1_part cX1_part 2 (some (.object "CityBrigade$Test")) (70 + d) (1560 + d * 23) (encR 10) [.ref (rid 0 1)] (s_X1_part)) (hm_X1_unit : amMetX yX1_unit cX1_unit 4 (some (.object "CityBrigade$Test")) (70 + d) (1560 + d * 23) (encR 10) [.ref (rid 0 1)] (s_X1_unit))  : amMetX yX1_part cX1_part 2 (some (.object "CityBrigade$Test")) (70 + (d + 1)) (1560 + (d + 1) * 23) (encR 10) [.ref (rid 0 1)] (b_X1_part s_X1_condition s_X1_part s_X1_unit) := by
  refine amMetX.of (own := RX1) (by decide) rfl (Nat.le_of_ble_eq_true rfl) fun X hXX hPs => ?_
  have hX := hXX.1
  change WG X (encX (encR 10)) 0 [(0, .ref (rid 0 1))] [] (bd1 (b_X1_part s_X1_condition s_X1_part s_X1_unit) rt1)
  unfold b_X1_part
  refine wg_aload_n (pc := 0) hX dX1_part_0 0 rfl ?_
  refine wvx_ (wx_cVr (As := []) (rest := []) hX (hm_X1_unit) (by decide) (by decide) (by decide) rc_X1 (lw_V q1068 q1070 qs25 q159 q1071) hd_X1_unit rfl (by omega) (by omega) (Nat.le_of_ble_eq_true rfl) rfl dX1_part_1 (fun r1 => ?_) ?_)
  rotate_left
  · exact wvx_out hXX
  refine wg_astore_n (pc := 4) (l' := [(0, .ref (rid 0 1)), (1, .ref (rid 10 r1))]) hX dX1_part_4 (by decide) rfl ?_
  refine wv_lp (α := Nat) (pcl := 5) (lo := fun x => [(0, .ref (rid 0 1)), (1, .ref (rid 10 x))]) (so := fun _ => []) (fun rec2 hrec2 x2 => ?_) amFu r1
  unfold p_X1_part_L5
  refine wg_aload_n (pc := 5) hX dX1_part_5 0 rfl ?_
  refine wv_ (wg_cVi (pc := 6) (As := []) (rest := []) hX (m_X1_look) (by decide) (by decide) (by decide) rc_X1 (lw_V q1072 q1074 qs26 q159 q1075) hd_X1_look rfl (by omega) (by omega) (Nat.le_of_ble_eq_true rfl) rfl dX1_part_6 fun v3 => ?_)
  refine wg_bipush (pc := 9) (v := 38) hX dX1_part_9 rfl ?_
  refine wg_icmp_ne (pc := 11) (tgt := 41) hX dX1_part_11 (by decide) (fun h4 => ?_) (fun h4 => ?_)
  rotate_left
  · refine wv_f h4 ?_
    refine wg_aload_n (pc := 41) hX dX1_part_41 1 rfl ?_
    exact wv_rt (wg_aret (pc := 42) hX rfl (by first | exact Or.inl ⟨_, rfl⟩ | exact Or.inr ⟨_, rfl⟩) (by decide) rfl dX1_part_42)
  refine wv_t h4 ?_
  refine wg_aload_n (pc := 14) hX dX1_part_14 0 rfl ?_
  refine wg_dup (pc := 15) hX dX1_part_15 rfl ?_
  refine wv_ (wg_gI (pc := 16) hX fd_X1_461 dX1_part_16 fun v5 => ?_)
  refine wg_iconst (pc := 19) (v := 1) hX dX1_part_19 rfl ?_
  refine wg_iadd (pc := 20) hX dX1_part_20 ?_
  refine wv_ (wg_pI (pc := 21) hX fp_X1_461 (fun h => by cases h) dX1_part_21 ?_)
  refine wv_ (wg_nw (pc := 24) hX nw_X1_541 dX1_part_24 fun r6 => ?_)
  refine wg_dup (pc := 27) hX dX1_part_27 rfl ?_
  refine wg_iconst (pc := 28) (v := 1) hX dX1_part_28 rfl ?_
  refine wg_aload_n (pc := 29) hX dX1_part_29 1 rfl ?_
  refine wg_aload_n (pc := 30) hX dX1_part_30 0 rfl ?_
  refine wvx_ (wx_cVr (As := []) (rest := [.ref (rid 10 x2), .int 1, .ref (rid 10 r6), .ref (rid 10 r6)]) hX (hm_X1_unit) (by decide) (by decide) (by decide) rc_X1 (lw_V q1068 q1070 qs25 q159 q1071) hd_X1_unit rfl (by omega) (by omega) (Nat.le_of_ble_eq_true rfl) rfl dX1_part_31 (fun r7 => ?_) ?_)
  rotate_left
  · exact wvx_out hXX
  refine wv_ (wg_gd fun h8 => ?_)
  refine wv_ (wg_cIv (pc := 34) (As := [.int 1, .ref (rid 10 x2), .ref (rid 10 r7)]) (rest := [.ref (rid 10 r6)]) hX (m_X21_init r6 1 x2 r7) h8 rfl q1267 q1268 q190 q1269 hd_X21_init rfl (by omega) (by omega) (Nat.le_of_ble_eq_true rfl) rfl dX1_part_34 ?_)
  refine wg_astore_n (pc := 37) (l' := [(0, .ref (rid 0 1)), (1, .ref (rid 10 r6))]) hX dX1_part_37 (by decide) rfl ?_
  refine wg_goto (pc := 38) (tgt := 5) hX dX1_part_38 (by decide) ?_
  exact hrec2 r6
theorem w_X1_unit (d : Nat) (s_X1_condition : am1 (Option Nat)) (s_X1_part : am1 (Option Nat)) (s_X1_unit : am1 (Option Nat)) (hm_X1_condition : amMetX yX1_condition cX1_condition 2 (some (.object "CityBrigade$Test")) (70 + d) (1560 + d * 23) (encR 10) [.ref (rid 0 1)] (s_X1_condition)) (hm_X1_part : amMetX yX1_part cX1_part 2 (some (.object "CityBrigade$Test")) (70 + d) (1560 + d * 23) (encR 10) [.ref (rid 0 1)] (s_X1_part)) (hm_X1_unit : amMetX yX1_unit cX1_unit 4 (some (.object "CityBrigade$Test")) (70 + d) (1560 + d * 23) (encR 10) [.ref (rid 0 1)] (s_X1_unit))  : amMetX yX1_unit cX1_unit 4 (some (.object "CityBrigade$Test")) (70 + (d + 1)) (1560 + (d + 1) * 23) (encR 10) [.ref (rid 0 1)] (b_X1_unit s_X1_condition s_X1_part s_X1_unit) := by
  refine amMetX.of (own := RX1) (by decide) rfl (Nat.le_of_ble_eq_true rfl) fun X hXX hPs => ?_
  have hX := hXX.1
  change WG X (encX (encR 10)) 0 [(0, .ref (rid 0 1))] [] (bd1 (b_X1_unit s_X1_condition s_X1_part s_X1_unit) rt1)
  unfold b_X1_unit
  refine wg_aload_n (pc := 0) hX dX1_unit_0 0 rfl ?_
  refine wv_ (wg_cVi (pc := 1) (As := []) (rest := []) hX (m_X1_look) (by decide) (by decide) (by decide) rc_X1 (lw_V q1072 q1074 qs26 q159 q1075) hd_X1_look rfl (by omega) (by omega) (Nat.le_of_ble_eq_true rfl) rfl dX1_unit_1 fun v1 => ?_)
  refine wg_istore_n (pc := 4) (l' := [(0, .ref (rid 0 1)), (1, .int v1)]) hX dX1_unit_4 (by decide) rfl ?_
  refine wg_iload_n (pc := 5) hX dX1_unit_5 1 rfl ?_
  refine wg_bipush (pc := 6) (v := 33) hX dX1_unit_6 rfl ?_
  refine wg_icmp_ne (pc := 8) (tgt := 39) hX dX1_unit_8 (by decide) (fun h2 => ?_) (fun h2 => ?_)
  · refine wv_t h2 ?_
    refine wg_aload_n (pc := 11) hX dX1_unit_11 0 rfl ?_
    refine wvx_ (wx_cVv (As := []) (rest := []) hX (m_X1_opens) (by decide) (by decide) (by decide) rc_X1 (lw_V q1076 q1078 qs27 q159 q1079) hd_X1_opens rfl (by omega) (by omega) (Nat.le_of_ble_eq_true rfl) rfl dX1_unit_12 ?_ ?_)
    rotate_left
    · exact wvx_out hXX
    refine wg_aload_n (pc := 15) hX dX1_unit_15 0 rfl ?_
    refine wvx_ (wx_cVr (As := []) (rest := []) hX (hm_X1_unit) (by decide) (by decide) (by decide) rc_X1 (lw_V q1068 q1070 qs25 q159 q1071) hd_X1_unit rfl (by omega) (by omega) (Nat.le_of_ble_eq_true rfl) rfl dX1_unit_16 (fun r3 => ?_) ?_)
    rotate_left
    · exact wvx_out hXX
    refine wg_astore_n (pc := 19) (l' := [(0, .ref (rid 0 1)), (1, .int v1), (2, .ref (rid 10 r3))]) hX dX1_unit_19 (by decide) rfl ?_
    refine wg_aload_n (pc := 20) hX dX1_unit_20 0 rfl ?_
    refine wg_dup (pc := 21) hX dX1_unit_21 rfl ?_
    refine wv_ (wg_gI (pc := 22) hX fd_X1_480 dX1_unit_22 fun v4 => ?_)
    refine wg_iconst (pc := 25) (v := 1) hX dX1_unit_25 rfl ?_
    refine wg_isub (pc := 26) hX dX1_unit_26 ?_
    refine wv_ (wg_pI (pc := 27) hX fp_X1_480 (fun h => by cases h) dX1_unit_27 ?_)
    refine wv_ (wg_nw (pc := 30) hX nw_X1_530 dX1_unit_30 fun r5 => ?_)
    refine wg_dup (pc := 33) hX dX1_unit_33 rfl ?_
    refine wg_aload_n (pc := 34) hX dX1_unit_34 2 rfl ?_
    refine wv_ (wg_gd fun h6 => ?_)
    refine wv_ (wg_cIv (pc := 35) (As := [.ref (rid 10 r3)]) (rest := [.ref (rid 10 r5)]) hX (m_X15_init r5 r3) h6 rfl q1086 q1087 q184 q1088 hd_X15_init rfl (by omega) (by omega) (Nat.le_of_ble_eq_true rfl) rfl dX1_unit_35 ?_)
    exact wv_rt (wg_aret (pc := 38) hX rfl (by first | exact Or.inl ⟨_, rfl⟩ | exact Or.inr ⟨_, rfl⟩) (by decide) rfl dX1_unit_38)
  refine wv_f h2 ?_
  refine wg_iload_n (pc := 39) hX dX1_unit_39 1 rfl ?_
  refine wg_bipush (pc := 40) (v := 40) hX dX1_unit_40 rfl ?_
  refine wg_icmp_ne (pc := 42) (tgt := 62) hX dX1_unit_42 (by decide) (fun h7 => ?_) (fun h7 => ?_)
  · refine wv_t h7 ?_
    refine wg_aload_n (pc := 45) hX dX1_unit_45 0 rfl ?_
    refine wvx_ (wx_cVv (As := []) (rest := []) hX (m_X1_opens) (by decide) (by decide) (by decide) rc_X1 (lw_V q1076 q1078 qs27 q159 q1079) hd_X1_opens rfl (by omega) (by omega) (Nat.le_of_ble_eq_true rfl) rfl dX1_unit_46 ?_ ?_)
    rotate_left
    · exact wvx_out hXX
    refine wg_aload_n (pc := 49) hX dX1_unit_49 0 rfl ?_
    refine wvx_ (wx_cVr (As := []) (rest := []) hX (hm_X1_condition) (by decide) (by decide) (by decide) rc_X1 (lw_V q1060 q1062 qs23 q159 q1063) hd_X1_condition rfl (by omega) (by omega) (Nat.le_of_ble_eq_true rfl) rfl dX1_unit_50 (fun r8 => ?_) ?_)
    rotate_left
    · exact wvx_out hXX
    refine wg_astore_n (pc := 53) (l' := [(0, .ref (rid 0 1)), (1, .int v1), (2, .ref (rid 10 r8))]) hX dX1_unit_53 (by decide) rfl ?_
    refine wg_aload_n (pc := 54) hX dX1_unit_54 0 rfl ?_
    refine wg_bipush (pc := 55) (v := 41) hX dX1_unit_55 rfl ?_
    refine wvx_ (wx_cVv (As := [.int 41]) (rest := []) hX (m_X1_closes 41) (by decide) (by decide) (by decide) rc_X1 (lw_V q1097 q1099 qs29 q159 q1100) hd_X1_closes rfl (by omega) (by omega) (Nat.le_of_ble_eq_true rfl) rfl dX1_unit_57 ?_ ?_)
    rotate_left
    · exact wvx_out hXX
    refine wg_aload_n (pc := 60) hX dX1_unit_60 2 rfl ?_
    exact wv_rt (wg_aret (pc := 61) hX rfl (by first | exact Or.inl ⟨_, rfl⟩ | exact Or.inr ⟨_, rfl⟩) (by decide) rfl dX1_unit_61)
  refine wv_f h7 ?_
  refine wg_aload_n (pc := 62) hX dX1_unit_62 0 rfl ?_
  refine wvx_ (wx_cVr (As := []) (rest := []) hX (m_X1_sum) (by decide) (by decide) (by decide) rc_X1 (lw_V q1101 q1103 qs30 q159 q1104) hd_X1_sum rfl (by omega) (by omega) (Nat.le_of_ble_eq_true rfl) rfl dX1_unit_63 (fun r9 => ?_) ?_)
  rotate_left
  · exact wvx_out hXX
  refine wg_astore_n (pc := 66) (l' := [(0, .ref (rid 0 1)), (1, .int v1), (2, .ref (rid 9 r9))]) hX dX1_unit_66 (by decide) rfl ?_
  refine wg_aload_n (pc := 67) hX dX1_unit_67 0 rfl ?_
  refine wv_ (wg_cVi (pc := 68) (As := []) (rest := []) hX (m_X1_look) (by decide) (by decide) (by decide) rc_X1 (lw_V q1072 q1074 qs26 q159 q1075) hd_X1_look rfl (by omega) (by omega) (Nat.le_of_ble_eq_true rfl) rfl dX1_unit_68 fun v10 => ?_)
  refine wg_istore_n (pc := 71) (l' := [(0, .ref (rid 0 1)), (1, .int v1), (2, .ref (rid 9 r9)), (3, .int v10)]) hX dX1_unit_71 (by decide) rfl ?_
  refine wg_aload_n (pc := 72) hX dX1_unit_72 0 rfl ?_
  refine wg_iload_n (pc := 73) hX dX1_unit_73 3 rfl ?_
  refine wg_bipush (pc := 74) (v := 61) hX dX1_unit_74 rfl ?_
  refine wv_jx (α := Int32) (pcJ := 96) (lJ := fun x => [(0, .ref (rid 0 1)), (2, .ref (rid 9 r9)), (3, .int v10)]) (sJ := fun x => [.int x, .ref (rid 0 1)]) (fun K11 hk11 => ?_) (fun z11 => ?_)
  · refine wv_jn (α := Unit) (pcJ := 91) (lJ := fun x => [(0, .ref (rid 0 1)), (2, .ref (rid 9 r9)), (3, .int v10)]) (sJ := fun x => [.ref (rid 0 1)]) (fun k12 hk12 => ?_) (fun z12 => ?_)
    · refine wg_icmp_eq (pc := 76) (tgt := 91) hX dX1_unit_76 (by decide) (fun h13 => ?_) (fun h13 => ?_)
      · refine wv_t h13 ?_
        refine wg_sub hX [0, 2, 3] rfl ?_
        exact hk12 ()
      refine wv_f h13 ?_
      refine wg_iload_n (pc := 79) hX dX1_unit_79 3 rfl ?_
      refine wg_bipush (pc := 80) (v := 60) hX dX1_unit_80 rfl ?_
      refine wg_icmp_eq (pc := 82) (tgt := 91) hX dX1_unit_82 (by decide) (fun h14 => ?_) (fun h14 => ?_)
      · refine wv_t h14 ?_
        refine wg_sub hX [0, 2, 3] rfl ?_
        exact hk12 ()
      refine wv_f h14 ?_
      refine wg_iload_n (pc := 85) hX dX1_unit_85 3 rfl ?_
      refine wg_bipush (pc := 86) (v := 62) hX dX1_unit_86 rfl ?_
      refine wg_icmp_ne (pc := 88) (tgt := 95) hX dX1_unit_88 (by decide) (fun h15 => ?_) (fun h15 => ?_)
      · refine wv_t h15 ?_
        refine wg_sub hX [0, 2, 3] rfl ?_
        exact hk12 ()
      refine wv_f h15 ?_
      refine wg_iconst (pc := 95) (v := 0) hX dX1_unit_95 rfl ?_
      refine wg_sub hX [0, 2, 3] rfl ?_
      exact wv_rt (hk11 0)
    refine wg_iconst (pc := 91) (v := 1) hX dX1_unit_91 rfl ?_
    refine wg_goto (pc := 92) (tgt := 96) hX dX1_unit_92 (by decide) ?_
    exact wv_rt (hk11 1)
  refine wvx_ (wx_cVv (As := [.int z11]) (rest := []) hX (m_X1_need z11) (by decide) (by decide) (by decide) rc_X1 (lw_V q1080 q1082 qs28 q159 q1083) hd_X1_need rfl (by omega) (by omega) (Nat.le_of_ble_eq_true rfl) rfl dX1_unit_96 ?_ ?_)
  rotate_left
  · exact wvx_out hXX
  refine wg_aload_n (pc := 99) hX dX1_unit_99 0 rfl ?_
  refine wg_dup (pc := 100) hX dX1_unit_100 rfl ?_
  refine wv_ (wg_gI (pc := 101) hX fd_X1_461 dX1_unit_101 fun v16 => ?_)
  refine wg_iconst (pc := 104) (v := 1) hX dX1_unit_104 rfl ?_
  refine wg_iadd (pc := 105) hX dX1_unit_105 ?_
  refine wv_ (wg_pI (pc := 106) hX fp_X1_461 (fun h => by cases h) dX1_unit_106 ?_)
  refine wv_ (wg_nw (pc := 109) hX nw_X1_538 dX1_unit_109 fun r17 => ?_)
  refine wg_dup (pc := 112) hX dX1_unit_112 rfl ?_
  refine wg_iload_n (pc := 113) hX dX1_unit_113 2 rfl ?_
  refine wg_aload_n (pc := 114) hX dX1_unit_114 1 rfl ?_
  refine wg_aload_n (pc := 115) hX dX1_unit_115 0 rfl ?_
  refine wvx_ (wx_cVr (As := []) (rest := [.ref (rid 9 r9), .int v10, .ref (rid 10 r17), .ref (rid 10 r17)]) hX (m_X1_sum) (by decide) (by decide) (by decide) rc_X1 (lw_V q1101 q1103 qs30 q159 q1104) hd_X1_sum rfl (by omega) (by omega) (Nat.le_of_ble_eq_true rfl) rfl dX1_unit_116 (fun r18 => ?_) ?_)
  rotate_left
  · exact wvx_out hXX
  refine wv_ (wg_gd fun h19 => ?_)
  refine wv_ (wg_cIv (pc := 119) (As := [.int v10, .ref (rid 9 r9), .ref (rid 9 r18)]) (rest := [.ref (rid 10 r17)]) hX (m_X20_init r17 v10 r9 r18) h19 rfl q1251 q1252 q189 q1253 hd_X20_init rfl (by omega) (by omega) (Nat.le_of_ble_eq_true rfl) rfl dX1_unit_119 ?_)
  exact wv_rt (wg_aret (pc := 122) hX rfl (by first | exact Or.inl ⟨_, rfl⟩ | exact Or.inr ⟨_, rfl⟩) (by decide) rfl dX1_unit_122)
theorem gm_X1_condition : ∀ d : Nat, (amMetX yX1_condition cX1_condition 2 (some (.object "CityBrigade$Test")) (70 + d) (1560 + d * 23) (encR 10) [.ref (rid 0 1)] ((p_X1_condition d))) ∧ (amMetX yX1_part cX1_part 2 (some (.object "CityBrigade$Test")) (70 + d) (1560 + d * 23) (encR 10) [.ref (rid 0 1)] ((p_X1_part d))) ∧ (amMetX yX1_unit cX1_unit 4 (some (.object "CityBrigade$Test")) (70 + d) (1560 + d * 23) (encR 10) [.ref (rid 0 1)] ((p_X1_unit d)))
  | 0 => ⟨amMetX.none (fun _ _ => rfl), amMetX.none (fun _ _ => rfl), amMetX.none (fun _ _ => rfl)⟩
  | d + 1 => by
    obtain ⟨h0, h1, h2⟩ := gm_X1_condition d
    exact ⟨w_X1_condition d (p_X1_condition d) (p_X1_part d) (p_X1_unit d) h0 h1 h2, w_X1_part d (p_X1_condition d) (p_X1_part d) (p_X1_unit d) h0 h1 h2, w_X1_unit d (p_X1_condition d) (p_X1_part d) (p_X1_unit d) h0 h1 h2⟩
theorem m_X1_condition  : amMetX yX1_condition cX1_condition 2 (some (.object "CityBrigade$Test")) 134 3032 (encR 10) [.ref (rid 0 1)] (p_X1_condition 64) := (gm_X1_condition 64).1 
theorem m_X1_part  : amMetX yX1_part cX1_part 2 (some (.object "CityBrigade$Test")) 134 3032 (encR 10) [.ref (rid 0 1)] (p_X1_part 64) := (gm_X1_condition 64).2.1 
theorem m_X1_unit  : amMetX yX1_unit cX1_unit 4 (some (.object "CityBrigade$Test")) 134 3032 (encR 10) [.ref (rid 0 1)] (p_X1_unit 64) := (gm_X1_condition 64).2.2 
theorem m_X1_alone  : amMetX yX1_alone cX1_alone 2 (some (.object "CityBrigade$Test")) 135 3053 (encR 10) [.ref (rid 0 1)] (p_X1_alone) := by
  refine amMetX.of (own := RX1) (by decide) rfl (Nat.le_of_ble_eq_true rfl) fun X hXX hPs => ?_
  have hX := hXX.1
  change WG X (encX (encR 10)) 0 [(0, .ref (rid 0 1))] [] (bd1 (p_X1_alone) rt1)
  unfold p_X1_alone
  refine wg_aload_n (pc := 0) hX dX1_alone_0 0 rfl ?_
  refine wg_iconst (pc := 1) (v := 1) hX dX1_alone_1 rfl ?_
  refine wv_ (wg_cVv (pc := 2) (As := [.int 1]) (rest := []) hX (m_X1_begin 1) (by decide) (by decide) (by decide) rc_X1 (lw_V q1056 q1058 qs22 q159 q1059) hd_X1_begin rfl (Nat.le_of_ble_eq_true rfl) (Nat.le_of_ble_eq_true rfl) (Nat.le_of_ble_eq_true rfl) rfl dX1_alone_2 ?_)
  refine wg_aload_n (pc := 5) hX dX1_alone_5 0 rfl ?_
  refine wvx_ (wx_cVr (As := []) (rest := []) hX (m_X1_condition) (by decide) (by decide) (by decide) rc_X1 (lw_V q1060 q1062 qs23 q159 q1063) hd_X1_condition rfl (Nat.le_of_ble_eq_true rfl) (Nat.le_of_ble_eq_true rfl) (Nat.le_of_ble_eq_true rfl) rfl dX1_alone_6 (fun r1 => ?_) ?_)
  rotate_left
  · exact wvx_out hXX
  refine wg_astore_n (pc := 9) (l' := [(0, .ref (rid 0 1)), (1, .ref (rid 10 r1))]) hX dX1_alone_9 (by decide) rfl ?_
  refine wg_aload_n (pc := 10) hX dX1_alone_10 0 rfl ?_
  refine wg_aload_n (pc := 11) hX dX1_alone_11 0 rfl ?_
  refine wv_ (wg_cVi (pc := 12) (As := []) (rest := [.ref (rid 0 1)]) hX (m_X1_look) (by decide) (by decide) (by decide) rc_X1 (lw_V q1072 q1074 qs26 q159 q1075) hd_X1_look rfl (Nat.le_of_ble_eq_true rfl) (Nat.le_of_ble_eq_true rfl) (Nat.le_of_ble_eq_true rfl) rfl dX1_alone_12 fun v2 => ?_)
  refine wg_iconst (pc := 15) (v := (-1)) hX dX1_alone_15 rfl ?_
  refine wv_jx (α := Int32) (pcJ := 24) (lJ := fun x => [(1, .ref (rid 10 r1))]) (sJ := fun x => [.int x, .ref (rid 0 1)]) (fun K3 hk3 => ?_) (fun z3 => ?_)
  · refine wg_icmp_ne (pc := 16) (tgt := 23) hX dX1_alone_16 (by decide) (fun h4 => ?_) (fun h4 => ?_)
    rotate_left
    · refine wv_f h4 ?_
      refine wg_iconst (pc := 23) (v := 0) hX dX1_alone_23 rfl ?_
      refine wg_sub hX [1] rfl ?_
      exact wv_rt (hk3 0)
    refine wv_t h4 ?_
    refine wg_iconst (pc := 19) (v := 1) hX dX1_alone_19 rfl ?_
    refine wg_goto (pc := 20) (tgt := 24) hX dX1_alone_20 (by decide) ?_
    refine wg_sub hX [1] rfl ?_
    exact wv_rt (hk3 1)
  refine wvx_ (wx_cVv (As := [.int z3]) (rest := []) hX (m_X1_need z3) (by decide) (by decide) (by decide) rc_X1 (lw_V q1080 q1082 qs28 q159 q1083) hd_X1_need rfl (Nat.le_of_ble_eq_true rfl) (Nat.le_of_ble_eq_true rfl) (Nat.le_of_ble_eq_true rfl) rfl dX1_alone_24 ?_ ?_)
  rotate_left
  · exact wvx_out hXX
  refine wg_aload_n (pc := 27) hX dX1_alone_27 0 rfl ?_
  exact wv_rt (wg_aret (pc := 28) hX rfl (by first | exact Or.inl ⟨_, rfl⟩ | exact Or.inr ⟨_, rfl⟩) (by decide) rfl dX1_alone_28)
theorem m_X22_init (r0 : Nat) (a1 : Nat) : amMet yX22_init cX22_init 2 none 1 32 encV [.ref (rid 8 r0), .ref (rid 10 a1)] (p_X22_init r0 a1) := by
  refine amMet.ofI (own := RX22) (by decide) rfl (Nat.le_of_ble_eq_true rfl) rfl fun X hX hN => ?_
  change WG X encV 0 [(0, .ref (rid 8 r0)), (1, .ref (rid 10 a1))] [] (bd1 (p_X22_init r0 a1) rt1)
  unfold p_X22_init
  refine wg_aload_n (pc := 0) hX dX22_init_0 0 rfl ?_
  refine wv_ (wg_gd fun h1 => ?_)
  refine wg_objI (pc := 1) hX h1 q1293 q207 q208 (Nat.le_of_ble_eq_true rfl) (Nat.le_of_ble_eq_true rfl) dX22_init_1 ?_
  refine wg_aload_n (pc := 4) hX dX22_init_4 0 rfl ?_
  refine wg_iconst (pc := 5) (v := 5) hX dX22_init_5 rfl ?_
  refine wv_ (wg_nwA (pc := 6) (atype := .int) hX (by decide) (by decide) (by decide) rfl (fun _ _ h => h) aq_int (by decide) (fun _ => Nat.le_of_ble_eq_true rfl) (by decide) dX22_init_6 fun r2 => ?_)
  refine wv_ (wg_pR (pc := 8) hX fp_X22_9 (fun _ => hN) (by decide) (by first | exact Or.inl ⟨_, rfl⟩ | exact Or.inr ⟨_, rfl⟩) dX22_init_8 ?_)
  refine wg_aload_n (pc := 11) hX dX22_init_11 0 rfl ?_
  refine wg_aload_n (pc := 12) hX dX22_init_12 1 rfl ?_
  refine wv_ (wg_pR (pc := 13) hX fp_X22_15 (fun _ => hN) (by decide) (by first | exact Or.inl ⟨_, rfl⟩ | exact Or.inr ⟨_, rfl⟩) dX22_init_13 ?_)
  exact wv_rt (wg_vret (pc := 16) hX rfl rfl dX22_init_16)
theorem m_X1_isAction  : amMet yX1_isAction cX1_isAction 2 (some .boolean) 5 130 encI [.ref (rid 0 1)] (up (p_X1_isAction)) := by
  refine amMet.of (own := RX1) (by decide) rfl (Nat.le_of_ble_eq_true rfl) fun X hX hPs => ?_
  change WG X encI 0 [(0, .ref (rid 0 1))] [] (bd1 (up (p_X1_isAction)) rt1)
  unfold p_X1_isAction
  refine wg_aload_n (pc := 0) hX dX1_isAction_0 0 rfl ?_
  refine wu_ (wg_cVi (pc := 1) (As := []) (rest := []) hX (m_X1_look) (by decide) (by decide) (by decide) rc_X1 (lw_V q1072 q1074 qs26 q159 q1075) hd_X1_look rfl (Nat.le_of_ble_eq_true rfl) (Nat.le_of_ble_eq_true rfl) (Nat.le_of_ble_eq_true rfl) rfl dX1_isAction_1 fun v1 => ?_)
  refine wg_istore_n (pc := 4) (l' := [(0, .ref (rid 0 1)), (1, .int v1)]) hX dX1_isAction_4 (by decide) rfl ?_
  refine wg_iload_n (pc := 5) hX dX1_isAction_5 1 rfl ?_
  refine wu_jn (α := Unit) (pcJ := 23) (lJ := fun x => []) (sJ := fun x => []) (fun k2 hk2 => ?_) (fun z2 => ?_)
  · refine wg_if_le (pc := 6) (tgt := 23) hX dX1_isAction_6 (by decide) (fun h3 => ?_) (fun h3 => ?_)
    · refine wu_t h3 ?_
      refine wg_sub hX [] rfl ?_
      exact hk2 ()
    refine wu_f h3 ?_
    refine wg_ldSw (pc := 9) (i := 3) (tx := "pslcm") hX (by decide) dX1_isAction_9 ?_
    refine wg_iload_n (pc := 12) hX dX1_isAction_12 1 rfl ?_
    refine wu_ (wg_gd fun h4 => ?_)
    refine wu_ (wg_cVsi (pc := 13) (As := [.int v1]) (rest := []) hX (m_J6_indexOf 4 v1) h4 rfl (lw_V q1119 q1120 q1121 q178 q1122) hd_J6_indexOf rfl (Nat.le_of_ble_eq_true rfl) (Nat.le_of_ble_eq_true rfl) (Nat.le_of_ble_eq_true rfl) rfl dX1_isAction_13 fun v5 => ?_)
    refine wg_if_lt (pc := 16) (tgt := 23) hX dX1_isAction_16 (by decide) (fun h6 => ?_) (fun h6 => ?_)
    · refine wu_t h6 ?_
      refine wg_sub hX [] rfl ?_
      exact hk2 ()
    refine wu_f h6 ?_
    refine wg_iconst (pc := 19) (v := 1) hX dX1_isAction_19 rfl ?_
    refine wg_goto (pc := 20) (tgt := 24) hX dX1_isAction_20 (by decide) ?_
    exact wu_rt (wg_zret (pc := 24) hX rfl (by decide) rfl dX1_isAction_24)
  refine wg_iconst (pc := 23) (v := 0) hX dX1_isAction_23 rfl ?_
  exact wu_rt (wg_zret (pc := 24) hX rfl (by decide) rfl dX1_isAction_24)
theorem m_X1_clause  : amMetX yX1_clause cX1_clause 4 (some (.object "CityBrigade$Clause")) 135 3053 (encR 8) [.ref (rid 0 1)] (p_X1_clause) := by
  refine amMetX.of (own := RX1) (by decide) rfl (Nat.le_of_ble_eq_true rfl) fun X hXX hPs => ?_
  have hX := hXX.1
  change WG X (encX (encR 8)) 0 [(0, .ref (rid 0 1))] [] (bd1 (p_X1_clause) rt1)
  unfold p_X1_clause
  refine wv_ (wg_nw (pc := 0) hX nw_X1_66 dX1_clause_0 fun r1 => ?_)
  refine wg_dup (pc := 3) hX dX1_clause_3 rfl ?_
  refine wg_aload_n (pc := 4) hX dX1_clause_4 0 rfl ?_
  refine wvx_ (wx_cVr (As := []) (rest := [.ref (rid 8 r1), .ref (rid 8 r1)]) hX (m_X1_condition) (by decide) (by decide) (by decide) rc_X1 (lw_V q1060 q1062 qs23 q159 q1063) hd_X1_condition rfl (Nat.le_of_ble_eq_true rfl) (Nat.le_of_ble_eq_true rfl) (Nat.le_of_ble_eq_true rfl) rfl dX1_clause_5 (fun r2 => ?_) ?_)
  rotate_left
  · exact wvx_out hXX
  refine wv_ (wg_gd fun h3 => ?_)
  refine wv_ (wg_cIv (pc := 8) (As := [.ref (rid 10 r2)]) (rest := [.ref (rid 8 r1)]) hX (m_X22_init r1 r2) h3 rfl q1290 q1291 q191 q1292 hd_X22_init rfl (Nat.le_of_ble_eq_true rfl) (Nat.le_of_ble_eq_true rfl) (Nat.le_of_ble_eq_true rfl) rfl dX1_clause_8 ?_)
  refine wg_astore_n (pc := 11) (l' := [(0, .ref (rid 0 1)), (1, .ref (rid 8 r1))]) hX dX1_clause_11 (by decide) rfl ?_
  refine wg_aload_n (pc := 12) hX dX1_clause_12 0 rfl ?_
  refine wg_aload_n (pc := 13) hX dX1_clause_13 0 rfl ?_
  refine wv_ (wg_cVi (pc := 14) (As := []) (rest := [.ref (rid 0 1)]) hX (m_X1_look) (by decide) (by decide) (by decide) rc_X1 (lw_V q1072 q1074 qs26 q159 q1075) hd_X1_look rfl (Nat.le_of_ble_eq_true rfl) (Nat.le_of_ble_eq_true rfl) (Nat.le_of_ble_eq_true rfl) rfl dX1_clause_14 fun v4 => ?_)
  refine wg_bipush (pc := 17) (v := 63) hX dX1_clause_17 rfl ?_
  refine wv_jx (α := Int32) (pcJ := 27) (lJ := fun x => [(0, .ref (rid 0 1)), (1, .ref (rid 8 r1))]) (sJ := fun x => [.int x, .ref (rid 0 1)]) (fun K5 hk5 => ?_) (fun z5 => ?_)
  · refine wg_icmp_ne (pc := 19) (tgt := 26) hX dX1_clause_19 (by decide) (fun h6 => ?_) (fun h6 => ?_)
    rotate_left
    · refine wv_f h6 ?_
      refine wg_iconst (pc := 26) (v := 0) hX dX1_clause_26 rfl ?_
      exact wv_rt (hk5 0)
    refine wv_t h6 ?_
    refine wg_iconst (pc := 22) (v := 1) hX dX1_clause_22 rfl ?_
    refine wg_goto (pc := 23) (tgt := 27) hX dX1_clause_23 (by decide) ?_
    exact wv_rt (hk5 1)
  refine wvx_ (wx_cVv (As := [.int z5]) (rest := []) hX (m_X1_need z5) (by decide) (by decide) (by decide) rc_X1 (lw_V q1080 q1082 qs28 q159 q1083) hd_X1_need rfl (Nat.le_of_ble_eq_true rfl) (Nat.le_of_ble_eq_true rfl) (Nat.le_of_ble_eq_true rfl) rfl dX1_clause_27 ?_ ?_)
  rotate_left
  · exact wvx_out hXX
  refine wg_aload_n (pc := 30) hX dX1_clause_30 0 rfl ?_
  refine wg_dup (pc := 31) hX dX1_clause_31 rfl ?_
  refine wv_ (wg_gI (pc := 32) hX fd_X1_461 dX1_clause_32 fun v7 => ?_)
  refine wg_iconst (pc := 35) (v := 1) hX dX1_clause_35 rfl ?_
  refine wg_iadd (pc := 36) hX dX1_clause_36 ?_
  refine wv_ (wg_pI (pc := 37) hX fp_X1_461 (fun h => by cases h) dX1_clause_37 ?_)
  refine wg_aload_n (pc := 40) hX dX1_clause_40 0 rfl ?_
  refine wv_ (wg_gI (pc := 41) hX fd_X1_493 dX1_clause_41 fun v8 => ?_)
  refine wg_iconst (pc := 44) (v := 2) hX dX1_clause_44 rfl ?_
  refine wg_icmp_ne (pc := 45) (tgt := 59) hX dX1_clause_45 (by decide) (fun h9 => ?_) (fun h9 => ?_)
  · refine wv_t h9 ?_
    refine wg_aload_n (pc := 48) hX dX1_clause_48 1 rfl ?_
    refine wg_aload_n (pc := 49) hX dX1_clause_49 0 rfl ?_
    refine wg_iconst (pc := 50) (v := 3) hX dX1_clause_50 rfl ?_
    refine wvx_ (wx_cVi (As := [.int 3]) (rest := [.ref (rid 8 r1)]) hX (m_X1_number 3) (by decide) (by decide) (by decide) rc_X1 (lw_V q1218 q1220 qs33 q159 q1221) hd_X1_number rfl (Nat.le_of_ble_eq_true rfl) (Nat.le_of_ble_eq_true rfl) (Nat.le_of_ble_eq_true rfl) rfl dX1_clause_51 (fun v10 => ?_) ?_)
    rotate_left
    · exact wvx_out hXX
    refine wv_ (wg_pI (pc := 54) hX fp_X1_552 (fun h => by cases h) dX1_clause_54 ?_)
    refine wg_aload_n (pc := 57) hX dX1_clause_57 1 rfl ?_
    exact wv_rt (wg_aret (pc := 58) hX rfl (by first | exact Or.inl ⟨_, rfl⟩ | exact Or.inr ⟨_, rfl⟩) (by decide) rfl dX1_clause_58)
  refine wv_f h9 ?_
  refine wg_aload_n (pc := 59) hX dX1_clause_59 0 rfl ?_
  refine wg_aload_n (pc := 60) hX dX1_clause_60 0 rfl ?_
  refine wv_ (wg_cVi (pc := 61) (As := []) (rest := [.ref (rid 0 1)]) hX (m_X1_isAction) (by decide) (by decide) (by decide) rc_X1 (lw_V q1309 q1311 qs36 q159 q1312) hd_X1_isAction rfl (Nat.le_of_ble_eq_true rfl) (Nat.le_of_ble_eq_true rfl) (Nat.le_of_ble_eq_true rfl) rfl dX1_clause_61 fun v11 => ?_)
  refine wvx_ (wx_cVv (As := [.int v11]) (rest := []) hX (m_X1_need v11) (by decide) (by decide) (by decide) rc_X1 (lw_V q1080 q1082 qs28 q159 q1083) hd_X1_need rfl (Nat.le_of_ble_eq_true rfl) (Nat.le_of_ble_eq_true rfl) (Nat.le_of_ble_eq_true rfl) rfl dX1_clause_64 ?_ ?_)
  rotate_left
  · exact wvx_out hXX
  refine wv_lp (α := Unit) (pcl := 67) (lo := fun x => [(0, .ref (rid 0 1)), (1, .ref (rid 8 r1))]) (so := fun _ => []) (fun rec12 hrec12 x12 => ?_) amFu ()
  unfold p_X1_clause_L67
  refine wg_aload_n (pc := 67) hX dX1_clause_67 0 rfl ?_
  refine wv_ (wg_cVi (pc := 68) (As := []) (rest := []) hX (m_X1_isAction) (by decide) (by decide) (by decide) rc_X1 (lw_V q1309 q1311 qs36 q159 q1312) hd_X1_isAction rfl (Nat.le_of_ble_eq_true rfl) (Nat.le_of_ble_eq_true rfl) (Nat.le_of_ble_eq_true rfl) rfl dX1_clause_68 fun v13 => ?_)
  refine wg_if_eq (pc := 71) (tgt := 143) hX dX1_clause_71 (by decide) (fun h14 => ?_) (fun h14 => ?_)
  · refine wv_t h14 ?_
    refine wg_aload_n (pc := 143) hX dX1_clause_143 1 rfl ?_
    exact wv_rt (wg_aret (pc := 144) hX rfl (by first | exact Or.inl ⟨_, rfl⟩ | exact Or.inr ⟨_, rfl⟩) (by decide) rfl dX1_clause_144)
  refine wv_f h14 ?_
  refine wg_ldSw (pc := 74) (i := 3) (tx := "pslcm") hX (by decide) dX1_clause_74 ?_
  refine wg_aload_n (pc := 77) hX dX1_clause_77 0 rfl ?_
  refine wv_ (wg_cVi (pc := 78) (As := []) (rest := [.ref (rid 250 4)]) hX (m_X1_look) (by decide) (by decide) (by decide) rc_X1 (lw_V q1072 q1074 qs26 q159 q1075) hd_X1_look rfl (Nat.le_of_ble_eq_true rfl) (Nat.le_of_ble_eq_true rfl) (Nat.le_of_ble_eq_true rfl) rfl dX1_clause_78 fun v15 => ?_)
  refine wv_ (wg_gd fun h16 => ?_)
  refine wv_ (wg_cVsi (pc := 81) (As := [.int v15]) (rest := []) hX (m_J6_indexOf 4 v15) h16 rfl (lw_V q1119 q1120 q1121 q178 q1122) hd_J6_indexOf rfl (Nat.le_of_ble_eq_true rfl) (Nat.le_of_ble_eq_true rfl) (Nat.le_of_ble_eq_true rfl) rfl dX1_clause_81 fun v17 => ?_)
  refine wg_istore_n (pc := 84) (l' := [(0, .ref (rid 0 1)), (1, .ref (rid 8 r1)), (2, .int v17)]) hX dX1_clause_84 (by decide) rfl ?_
  refine wg_aload_n (pc := 85) hX dX1_clause_85 0 rfl ?_
  refine wg_dup (pc := 86) hX dX1_clause_86 rfl ?_
  refine wv_ (wg_gI (pc := 87) hX fd_X1_461 dX1_clause_87 fun v18 => ?_)
  refine wg_iconst (pc := 90) (v := 1) hX dX1_clause_90 rfl ?_
  refine wg_iadd (pc := 91) hX dX1_clause_91 ?_
  refine wv_ (wg_pI (pc := 92) hX fp_X1_461 (fun h => by cases h) dX1_clause_92 ?_)
  refine wg_aload_n (pc := 95) hX dX1_clause_95 0 rfl ?_
  refine wv_ (wg_cVi (pc := 96) (As := []) (rest := []) hX (m_X1_look) (by decide) (by decide) (by decide) rc_X1 (lw_V q1072 q1074 qs26 q159 q1075) hd_X1_look rfl (Nat.le_of_ble_eq_true rfl) (Nat.le_of_ble_eq_true rfl) (Nat.le_of_ble_eq_true rfl) rfl dX1_clause_96 fun v19 => ?_)
  refine wg_istore_n (pc := 99) (l' := [(0, .ref (rid 0 1)), (1, .ref (rid 8 r1)), (2, .int v17), (3, .int v19)]) hX dX1_clause_99 (by decide) rfl ?_
  refine wg_aload_n (pc := 100) hX dX1_clause_100 0 rfl ?_
  refine wg_iload_n (pc := 101) hX dX1_clause_101 3 rfl ?_
  refine wv_ (wg_cSi (pc := 102) (As := [.int v19]) (rest := [.ref (rid 0 1)]) hX (m_X1_isDigit v19) (lw_S q1222 q1223 q159 q1224) hd_X1_isDigit rfl (Nat.le_of_ble_eq_true rfl) (Nat.le_of_ble_eq_true rfl) (Nat.le_of_ble_eq_true rfl) rfl dX1_clause_102 fun v20 => ?_)
  refine wvx_ (wx_cVv (As := [.int v20]) (rest := []) hX (m_X1_need v20) (by decide) (by decide) (by decide) rc_X1 (lw_V q1080 q1082 qs28 q159 q1083) hd_X1_need rfl (Nat.le_of_ble_eq_true rfl) (Nat.le_of_ble_eq_true rfl) (Nat.le_of_ble_eq_true rfl) rfl dX1_clause_105 ?_ ?_)
  rotate_left
  · exact wvx_out hXX
  refine wg_aload_n (pc := 108) hX dX1_clause_108 0 rfl ?_
  refine wg_dup (pc := 109) hX dX1_clause_109 rfl ?_
  refine wv_ (wg_gI (pc := 110) hX fd_X1_461 dX1_clause_110 fun v21 => ?_)
  refine wg_iconst (pc := 113) (v := 1) hX dX1_clause_113 rfl ?_
  refine wg_iadd (pc := 114) hX dX1_clause_114 ?_
  refine wv_ (wg_pI (pc := 115) hX fp_X1_461 (fun h => by cases h) dX1_clause_115 ?_)
  refine wg_aload_n (pc := 118) hX dX1_clause_118 1 rfl ?_
  refine wv_ (wg_gR (pc := 119) hX fd_X1_559 dX1_clause_119 fun r22 => ?_)
  refine wg_iload_n (pc := 122) hX dX1_clause_122 2 rfl ?_
  refine wg_bipush (pc := 123) (v := 9) hX dX1_clause_123 rfl ?_
  refine wg_aload_n (pc := 125) hX dX1_clause_125 1 rfl ?_
  refine wv_ (wg_gR (pc := 126) hX fd_X1_559 dX1_clause_126 fun r23 => ?_)
  refine wg_iload_n (pc := 129) hX dX1_clause_129 2 rfl ?_
  refine wv_ (wg_rI (pc := 130) hX ar_152 dX1_clause_130 fun v24 => ?_)
  refine wg_iload_n (pc := 131) hX dX1_clause_131 3 rfl ?_
  refine wg_iadd (pc := 132) hX dX1_clause_132 ?_
  refine wg_bipush (pc := 133) (v := 48) hX dX1_clause_133 rfl ?_
  refine wg_isub (pc := 135) hX dX1_clause_135 ?_
  refine wg_mmin (pc := 136) hX q1314 q1149 q165 q1150 (Nat.le_of_ble_eq_true rfl) (Nat.le_of_ble_eq_true rfl) dX1_clause_136 ?_
  refine wv_ (wg_nmi hX fun v25 => ?_)
  refine wv_ (wg_wI (pc := 139) hX ar_152 dX1_clause_139 ?_)
  refine wg_goto (pc := 140) (tgt := 67) hX dX1_clause_140 (by decide) ?_
  refine wg_sub hX [0, 1] rfl ?_
  exact hrec12 ()
theorem m_X1_whole (a1 : Int32) : amMetX yX1_whole cX1_whole 4 (some (.object "CityBrigade$Clause")) 136 3076 (encR 8) [.ref (rid 0 1), .int a1] (p_X1_whole a1) := by
  refine amMetX.of (own := RX1) (by decide) rfl (Nat.le_of_ble_eq_true rfl) fun X hXX hPs => ?_
  have hX := hXX.1
  change WG X (encX (encR 8)) 0 [(0, .ref (rid 0 1)), (1, .int a1)] [] (bd1 (p_X1_whole a1) rt1)
  unfold p_X1_whole
  refine wg_aload_n (pc := 0) hX dX1_whole_0 0 rfl ?_
  refine wg_iload_n (pc := 1) hX dX1_whole_1 1 rfl ?_
  refine wv_ (wg_cVv (pc := 2) (As := [.int a1]) (rest := []) hX (m_X1_begin a1) (by decide) (by decide) (by decide) rc_X1 (lw_V q1056 q1058 qs22 q159 q1059) hd_X1_begin rfl (Nat.le_of_ble_eq_true rfl) (Nat.le_of_ble_eq_true rfl) (Nat.le_of_ble_eq_true rfl) rfl dX1_whole_2 ?_)
  refine wg_aload_n (pc := 5) hX dX1_whole_5 0 rfl ?_
  refine wvx_ (wx_cVr (As := []) (rest := []) hX (m_X1_clause) (by decide) (by decide) (by decide) rc_X1 (lw_V q1285 q1287 qs35 q159 q1288) hd_X1_clause rfl (Nat.le_of_ble_eq_true rfl) (Nat.le_of_ble_eq_true rfl) (Nat.le_of_ble_eq_true rfl) rfl dX1_whole_6 (fun r1 => ?_) ?_)
  rotate_left
  · exact wvx_out hXX
  refine wg_astore_n (pc := 9) (l' := [(0, .ref (rid 0 1)), (1, .int a1), (2, .ref (rid 8 r1))]) hX dX1_whole_9 (by decide) rfl ?_
  refine wg_aload_n (pc := 10) hX dX1_whole_10 2 rfl ?_
  refine wg_astore_n (pc := 11) (l' := [(0, .ref (rid 0 1)), (1, .int a1), (2, .ref (rid 8 r1)), (3, .ref (rid 8 r1))]) hX dX1_whole_11 (by decide) rfl ?_
  refine wg_sub hX [0, 2, 3] rfl ?_
  refine wv_lp (α := Nat) (pcl := 12) (lo := fun x => [(0, .ref (rid 0 1)), (2, .ref (rid 8 r1)), (3, .ref (rid 8 x))]) (so := fun _ => []) (fun rec2 hrec2 x2 => ?_) amFu r1
  unfold p_X1_whole_L12
  refine wg_aload_n (pc := 12) hX dX1_whole_12 0 rfl ?_
  refine wv_ (wg_cVi (pc := 13) (As := []) (rest := []) hX (m_X1_look) (by decide) (by decide) (by decide) rc_X1 (lw_V q1072 q1074 qs26 q159 q1075) hd_X1_look rfl (Nat.le_of_ble_eq_true rfl) (Nat.le_of_ble_eq_true rfl) (Nat.le_of_ble_eq_true rfl) rfl dX1_whole_13 fun v3 => ?_)
  refine wg_bipush (pc := 16) (v := 59) hX dX1_whole_16 rfl ?_
  refine wg_icmp_ne (pc := 18) (tgt := 47) hX dX1_whole_18 (by decide) (fun h4 => ?_) (fun h4 => ?_)
  rotate_left
  · refine wv_f h4 ?_
    refine wg_aload_n (pc := 47) hX dX1_whole_47 0 rfl ?_
    refine wg_aload_n (pc := 48) hX dX1_whole_48 0 rfl ?_
    refine wv_ (wg_cVi (pc := 49) (As := []) (rest := [.ref (rid 0 1)]) hX (m_X1_look) (by decide) (by decide) (by decide) rc_X1 (lw_V q1072 q1074 qs26 q159 q1075) hd_X1_look rfl (Nat.le_of_ble_eq_true rfl) (Nat.le_of_ble_eq_true rfl) (Nat.le_of_ble_eq_true rfl) rfl dX1_whole_49 fun v5 => ?_)
    refine wg_iconst (pc := 52) (v := (-1)) hX dX1_whole_52 rfl ?_
    refine wv_jx (α := Int32) (pcJ := 61) (lJ := fun x => [(2, .ref (rid 8 r1))]) (sJ := fun x => [.int x, .ref (rid 0 1)]) (fun K6 hk6 => ?_) (fun z6 => ?_)
    · refine wg_icmp_ne (pc := 53) (tgt := 60) hX dX1_whole_53 (by decide) (fun h7 => ?_) (fun h7 => ?_)
      rotate_left
      · refine wv_f h7 ?_
        refine wg_iconst (pc := 60) (v := 0) hX dX1_whole_60 rfl ?_
        refine wg_sub hX [1] rfl ?_
        exact wv_rt (hk6 0)
      refine wv_t h7 ?_
      refine wg_iconst (pc := 56) (v := 1) hX dX1_whole_56 rfl ?_
      refine wg_goto (pc := 57) (tgt := 61) hX dX1_whole_57 (by decide) ?_
      refine wg_sub hX [1] rfl ?_
      exact wv_rt (hk6 1)
    refine wvx_ (wx_cVv (As := [.int z6]) (rest := []) hX (m_X1_need z6) (by decide) (by decide) (by decide) rc_X1 (lw_V q1080 q1082 qs28 q159 q1083) hd_X1_need rfl (Nat.le_of_ble_eq_true rfl) (Nat.le_of_ble_eq_true rfl) (Nat.le_of_ble_eq_true rfl) rfl dX1_whole_61 ?_ ?_)
    rotate_left
    · exact wvx_out hXX
    refine wg_aload_n (pc := 64) hX dX1_whole_64 0 rfl ?_
    exact wv_rt (wg_aret (pc := 65) hX rfl (by first | exact Or.inl ⟨_, rfl⟩ | exact Or.inr ⟨_, rfl⟩) (by decide) rfl dX1_whole_65)
  refine wv_t h4 ?_
  refine wg_aload_n (pc := 21) hX dX1_whole_21 0 rfl ?_
  refine wg_dup (pc := 22) hX dX1_whole_22 rfl ?_
  refine wv_ (wg_gI (pc := 23) hX fd_X1_461 dX1_whole_23 fun v8 => ?_)
  refine wg_iconst (pc := 26) (v := 1) hX dX1_whole_26 rfl ?_
  refine wg_iadd (pc := 27) hX dX1_whole_27 ?_
  refine wv_ (wg_pI (pc := 28) hX fp_X1_461 (fun h => by cases h) dX1_whole_28 ?_)
  refine wg_aload_n (pc := 31) hX dX1_whole_31 2 rfl ?_
  refine wg_aload_n (pc := 32) hX dX1_whole_32 0 rfl ?_
  refine wvx_ (wx_cVr (As := []) (rest := [.ref (rid 8 x2)]) hX (m_X1_clause) (by decide) (by decide) (by decide) rc_X1 (lw_V q1285 q1287 qs35 q159 q1288) hd_X1_clause rfl (Nat.le_of_ble_eq_true rfl) (Nat.le_of_ble_eq_true rfl) (Nat.le_of_ble_eq_true rfl) rfl dX1_whole_33 (fun r9 => ?_) ?_)
  rotate_left
  · exact wvx_out hXX
  refine wv_ (wg_pR (pc := 36) hX fp_X1_569 (fun h => by cases h) (by decide) (by first | exact Or.inl ⟨_, rfl⟩ | exact Or.inr ⟨_, rfl⟩) dX1_whole_36 ?_)
  refine wg_aload_n (pc := 39) hX dX1_whole_39 2 rfl ?_
  refine wv_ (wg_gR (pc := 40) hX fd_X1_569 dX1_whole_40 fun r10 => ?_)
  refine wg_astore_n (pc := 43) (l' := [(0, .ref (rid 0 1)), (2, .ref (rid 8 r1)), (3, .ref (rid 8 r10))]) hX dX1_whole_43 (by decide) rfl ?_
  refine wg_goto (pc := 44) (tgt := 12) hX dX1_whole_44 (by decide) ?_
  exact hrec2 r10
theorem m_X1_fault (a1 : Int32) : amMetW yX1_fault cX1_fault 3 (some .int) [((12 : Nat), (32 : Nat), (33 : Nat), (55 : Nat))] 137 3099 encI [.ref (rid 0 1), .int a1] (p_X1_fault a1) := by
  refine amMetW.of (own := RX1) (by decide) rfl (Nat.le_of_ble_eq_true rfl) fun X hX hTb hPs => ?_
  change WG X encI 0 [(0, .ref (rid 0 1)), (1, .int a1)] [] (bd1 (p_X1_fault a1) rt1)
  unfold p_X1_fault
  refine wg_iload_n (pc := 0) hX dX1_fault_0 1 rfl ?_
  refine wg_iconst (pc := 1) (v := 0) hX dX1_fault_1 rfl ?_
  refine wg_iconst (pc := 2) (v := 2) hX dX1_fault_2 rfl ?_
  refine wv_ (wg_cSi (pc := 3) (As := [.int a1, .int 0, .int 2]) (rest := []) hX (m_X1_in a1 0 2) (lw_S q471 q472 q159 q473) hd_X1_in rfl (Nat.le_of_ble_eq_true rfl) (Nat.le_of_ble_eq_true rfl) (Nat.le_of_ble_eq_true rfl) rfl dX1_fault_3 fun v1 => ?_)
  refine wg_if_ne (pc := 6) (tgt := 12) hX dX1_fault_6 (by decide) (fun h2 => ?_) (fun h2 => ?_)
  · refine wv_t h2 ?_
    refine wg_bipush (pc := 9) (v := (-2)) hX dX1_fault_9 rfl ?_
    exact wv_rt (wg_iret (pc := 11) hX rfl rfl dX1_fault_11)
  refine wv_f h2 ?_
  refine wg_iload_n (pc := 12) hX dX1_fault_12 1 rfl ?_
  refine wg_iconst (pc := 13) (v := 1) hX dX1_fault_13 rfl ?_
  refine wv_jn (α := Unit) (pcJ := 34) (lJ := fun x => [(0, .ref (rid 0 1))]) (sJ := fun x => []) (fun k3 hk3 => ?_) (fun z3 => ?_)
  · refine wg_icmp_ne (pc := 14) (tgt := 25) hX dX1_fault_14 (by decide) (fun h4 => ?_) (fun h4 => ?_)
    · refine wv_t h4 ?_
      refine wg_aload_n (pc := 17) hX dX1_fault_17 0 rfl ?_
      refine wvx_ (wx_cVr (As := []) (rest := []) hX (m_X1_alone) (by decide) (by decide) (by decide) rc_X1 (lw_V q1052 q1054 qs21 q159 q1055) hd_X1_alone rfl (Nat.le_of_ble_eq_true rfl) (Nat.le_of_ble_eq_true rfl) (Nat.le_of_ble_eq_true rfl) rfl dX1_fault_18 (fun r5 => ?_) ?_)
      rotate_left
      · refine wx_catch (i := 2) (k0 := 2) (l' := [(0, .ref (rid 0 1)), (1, .int a1)]) hX hTb rfl (by decide) q219 q221 dX1_fault_33 rfl (by decide) rfl ?_
        refine wg_sub hX [0] rfl ?_
        exact hk3 ()
      refine wg_pop (pc := 21) hX dX1_fault_21 rfl ?_
      refine wg_goto (pc := 22) (tgt := 31) hX dX1_fault_22 (by decide) ?_
      refine wg_iconst (pc := 31) (v := (-1)) hX dX1_fault_31 rfl ?_
      exact wv_rt (wg_iret (pc := 32) hX rfl rfl dX1_fault_32)
    refine wv_f h4 ?_
    refine wg_aload_n (pc := 25) hX dX1_fault_25 0 rfl ?_
    refine wg_iload_n (pc := 26) hX dX1_fault_26 1 rfl ?_
    refine wvx_ (wx_cVr (As := [.int a1]) (rest := []) hX (m_X1_whole a1) (by decide) (by decide) (by decide) rc_X1 (lw_V q1281 q1283 qs34 q159 q1284) hd_X1_whole rfl (Nat.le_of_ble_eq_true rfl) (Nat.le_of_ble_eq_true rfl) (Nat.le_of_ble_eq_true rfl) rfl dX1_fault_27 (fun r6 => ?_) ?_)
    rotate_left
    · refine wx_catch (i := 2) (k0 := 2) (l' := [(0, .ref (rid 0 1)), (1, .int a1)]) hX hTb rfl (by decide) q219 q221 dX1_fault_33 rfl (by decide) rfl ?_
      refine wg_sub hX [0] rfl ?_
      exact hk3 ()
    refine wg_pop (pc := 30) hX dX1_fault_30 rfl ?_
    refine wg_iconst (pc := 31) (v := (-1)) hX dX1_fault_31 rfl ?_
    exact wv_rt (wg_iret (pc := 32) hX rfl rfl dX1_fault_32)
  refine wg_aload_n (pc := 34) hX dX1_fault_34 0 rfl ?_
  refine wv_ (wg_gI (pc := 35) hX fd_X1_461 dX1_fault_35 fun v7 => ?_)
  exact wv_rt (wg_iret (pc := 38) hX rfl rfl dX1_fault_38)
theorem m_X1_orders  : amMetW yX1_orders cX1_orders 2 (some .int) [((11 : Nat), (25 : Nat), (28 : Nat), (55 : Nat))] 137 3099 encI [.ref (rid 0 1)] (p_X1_orders) := by
  refine amMetW.of (own := RX1) (by decide) rfl (Nat.le_of_ble_eq_true rfl) fun X hX hTb hPs => ?_
  change WG X encI 0 [(0, .ref (rid 0 1))] [] (bd1 (p_X1_orders) rt1)
  unfold p_X1_orders
  have hM0 := amPs.m1 hPs
  refine wv_ (wg_gM ?_)
  refine wg_aload_n (pc := 0) hX dX1_orders_0 0 rfl ?_
  refine wv_ (wg_gI (pc := 1) hX fd_X1_580 dX1_orders_1 fun v1 => ?_)
  refine wg_bipush (pc := 4) (v := 20) hX dX1_orders_4 rfl ?_
  refine wg_icmp_ne (pc := 6) (tgt := 11) hX dX1_orders_6 (by decide) (fun h2 => ?_) (fun h2 => ?_)
  · refine wv_t h2 ?_
    refine wg_iconst (pc := 9) (v := (-1)) hX dX1_orders_9 rfl ?_
    exact wv_rt (wg_iret (pc := 10) hX rfl rfl dX1_orders_10)
  refine wv_f h2 ?_
  refine wg_aload_n (pc := 11) hX dX1_orders_11 0 rfl ?_
  refine wg_gK (pc := 12) hX hM0 fd_X1_68 (by decide) dX1_orders_12 ?_
  refine wg_aload_n (pc := 15) hX dX1_orders_15 0 rfl ?_
  refine wv_ (wg_gI (pc := 16) hX fd_X1_580 dX1_orders_16 fun v3 => ?_)
  refine wg_aload_n (pc := 19) hX dX1_orders_19 0 rfl ?_
  refine wg_iconst (pc := 20) (v := 0) hX dX1_orders_20 rfl ?_
  refine wvx_ (wx_cVr (As := [.int 0]) (rest := [.int v3, .ref (rid 31 1)]) hX (m_X1_whole 0) (by decide) (by decide) (by decide) rc_X1 (lw_V q1281 q1283 qs34 q159 q1284) hd_X1_whole rfl (Nat.le_of_ble_eq_true rfl) (Nat.le_of_ble_eq_true rfl) (Nat.le_of_ble_eq_true rfl) rfl dX1_orders_21 (fun r4 => ?_) ?_)
  rotate_left
  · refine wx_catch (i := 1) (k0 := 1) (l' := [(0, .ref (rid 0 1))]) hX hTb rfl (by decide) q219 q221 dX1_orders_28 rfl (by decide) rfl ?_
    refine wg_iconst (pc := 29) (v := (-1)) hX dX1_orders_29 rfl ?_
    exact wv_rt (wg_iret (pc := 30) hX rfl rfl dX1_orders_30)
  refine wv_ (wg_wR (pc := 24) hX ar_31 el_31 dX1_orders_24 ?_)
  refine wg_goto (pc := 25) (tgt := 31) hX dX1_orders_25 (by decide) ?_
  refine wg_aload_n (pc := 31) hX dX1_orders_31 0 rfl ?_
  refine wg_dup (pc := 32) hX dX1_orders_32 rfl ?_
  refine wv_ (wg_gI (pc := 33) hX fd_X1_580 dX1_orders_33 fun v5 => ?_)
  refine wg_iconst (pc := 36) (v := 1) hX dX1_orders_36 rfl ?_
  refine wg_iadd (pc := 37) hX dX1_orders_37 ?_
  refine wv_ (wg_pI (pc := 38) hX fp_X1_580 (fun h => by cases h) dX1_orders_38 ?_)
  refine wg_aload_n (pc := 41) hX dX1_orders_41 0 rfl ?_
  refine wg_iconst (pc := 42) (v := 0) hX dX1_orders_42 rfl ?_
  refine wv_ (wg_pI (pc := 43) hX fp_X1_458 (fun h => by cases h) dX1_orders_43 ?_)
  refine wg_aload_n (pc := 46) hX dX1_orders_46 0 rfl ?_
  refine wv_ (wg_gI (pc := 47) hX fd_X1_580 dX1_orders_47 fun v6 => ?_)
  refine wg_iconst (pc := 50) (v := 1) hX dX1_orders_50 rfl ?_
  refine wg_isub (pc := 51) hX dX1_orders_51 ?_
  exact wv_rt (wg_iret (pc := 52) hX rfl rfl dX1_orders_52)
theorem m_X1_leaving  : amMetW yX1_leaving cX1_leaving 2 (some .boolean) [((0 : Nat), (8 : Nat), (11 : Nat), (55 : Nat))] 136 3074 encI [.ref (rid 0 1)] (p_X1_leaving) := by
  refine amMetW.of (own := RX1) (by decide) rfl (Nat.le_of_ble_eq_true rfl) fun X hX hTb hPs => ?_
  change WG X encI 0 [(0, .ref (rid 0 1))] [] (bd1 (p_X1_leaving) rt1)
  unfold p_X1_leaving
  refine wg_aload_n (pc := 0) hX dX1_leaving_0 0 rfl ?_
  refine wg_aload_n (pc := 1) hX dX1_leaving_1 0 rfl ?_
  refine wvx_ (wx_cVr (As := []) (rest := [.ref (rid 0 1)]) hX (m_X1_alone) (by decide) (by decide) (by decide) rc_X1 (lw_V q1052 q1054 qs21 q159 q1055) hd_X1_alone rfl (Nat.le_of_ble_eq_true rfl) (Nat.le_of_ble_eq_true rfl) (Nat.le_of_ble_eq_true rfl) rfl dX1_leaving_2 (fun r1 => ?_) ?_)
  rotate_left
  · refine wx_catch (i := 1) (k0 := 1) (l' := [(0, .ref (rid 0 1))]) hX hTb rfl (by decide) q219 q221 dX1_leaving_11 rfl (by decide) rfl ?_
    refine wg_iconst (pc := 12) (v := 0) hX dX1_leaving_12 rfl ?_
    exact wv_rt (wg_zret (pc := 13) hX rfl (by decide) rfl dX1_leaving_13)
  refine wv_ (wg_pR (pc := 5) hX fp_X1_583 (fun h => by cases h) (by decide) (by first | exact Or.inl ⟨_, rfl⟩ | exact Or.inr ⟨_, rfl⟩) dX1_leaving_5 ?_)
  refine wg_goto (pc := 8) (tgt := 14) hX dX1_leaving_8 (by decide) ?_
  refine wg_aload_n (pc := 14) hX dX1_leaving_14 0 rfl ?_
  refine wg_iconst (pc := 15) (v := 0) hX dX1_leaving_15 rfl ?_
  refine wv_ (wg_pI (pc := 16) hX fp_X1_458 (fun h => by cases h) dX1_leaving_16 ?_)
  refine wg_iconst (pc := 19) (v := 1) hX dX1_leaving_19 rfl ?_
  exact wv_rt (wg_zret (pc := 20) hX rfl (by decide) rfl dX1_leaving_20)
theorem m_X1_falsely (a1 : Int32) (a2 : Int32) : amMet yX1_falsely cX1_falsely 7 (some .int) 2 52 encI [.ref (rid 0 1), .int a1, .int a2] (up (p_X1_falsely a1 a2)) := by
  refine amMet.of (own := RX1) (by decide) rfl (Nat.le_of_ble_eq_true rfl) fun X hX hPs => ?_
  change WG X encI 0 [(0, .ref (rid 0 1)), (1, .int a1), (2, .int a2)] [] (bd1 (up (p_X1_falsely a1 a2)) rt1)
  unfold p_X1_falsely
  have hM0 := amPs.m0 hPs
  refine wu_ (wg_gM ?_)
  refine wg_iconst (pc := 0) (v := 0) hX dX1_falsely_0 rfl ?_
  refine wg_istore_n (pc := 1) (l' := [(0, .ref (rid 0 1)), (1, .int a1), (2, .int a2), (3, .int 0)]) hX dX1_falsely_1 (by decide) rfl ?_
  refine wg_iconst (pc := 2) (v := 0) hX dX1_falsely_2 rfl ?_
  refine wg_istore (pc := 3) (l' := [(0, .ref (rid 0 1)), (1, .int a1), (2, .int a2), (3, .int 0), (4, .int 0)]) hX dX1_falsely_3 (by decide) rfl ?_
  refine wg_iconst (pc := 5) (v := 0) hX dX1_falsely_5 rfl ?_
  refine wg_istore (pc := 6) (l' := [(0, .ref (rid 0 1)), (1, .int a1), (2, .int a2), (3, .int 0), (4, .int 0), (5, .int 0)]) hX dX1_falsely_6 (by decide) rfl ?_
  refine wu_lpx (α := Int32 × Int32 × Int32) (γ := Int32 × Int32) (pcl := 8) (pcT := 86) (lo := fun x => [(0, .ref (rid 0 1)), (1, .int a1), (2, .int a2), (3, .int x.1), (4, .int x.2.1), (5, .int x.2.2)]) (so := fun _ => []) (lT := fun x => [(3, .int x.1), (4, .int x.2)]) (sT := fun _ => []) (n := amFu) (x0 := (0, 0, 0)) (fun K1 rec1 hrec1 hk1 x1 => ?_) (fun y2 => ?_)
  · unfold p_X1_falsely_L8
    refine wg_iload (pc := 8) hX dX1_falsely_8 5 rfl ?_
    refine wg_aload_n (pc := 10) hX dX1_falsely_10 0 rfl ?_
    refine wu_ (wg_gI (pc := 11) hX fd_X1_587 dX1_falsely_11 fun v3 => ?_)
    refine wg_icmp_ge (pc := 14) (tgt := 86) hX dX1_falsely_14 (by decide) (fun h4 => ?_) (fun h4 => ?_)
    · refine wu_t h4 ?_
      refine wg_sub hX [3, 4] rfl ?_
      exact wu_rt (hk1 (x1.1, x1.2.1))
    refine wu_f h4 ?_
    refine wg_aload_n (pc := 17) hX dX1_falsely_17 0 rfl ?_
    refine wg_gK (pc := 18) hX hM0 fd_X1_74 (by decide) dX1_falsely_18 ?_
    refine wg_iload (pc := 21) hX dX1_falsely_21 5 rfl ?_
    refine wu_ (wg_rR (pc := 23) hX ar_32 (by decide) dX1_falsely_23 fun r5 => ?_)
    refine wg_astore (pc := 24) (l' := [(0, .ref (rid 0 1)), (1, .int a1), (2, .int a2), (3, .int x1.1), (4, .int x1.2.1), (5, .int x1.2.2), (6, .ref (rid 7 r5))]) hX dX1_falsely_24 (by decide) rfl ?_
    refine wg_aload (pc := 26) hX dX1_falsely_26 6 rfl ?_
    refine wu_ (wg_gI (pc := 28) hX fd_X1_590 dX1_falsely_28 fun v6 => ?_)
    refine wg_iload_n (pc := 31) hX dX1_falsely_31 1 rfl ?_
    refine wu_jx (α := Int32 × Int32) (pcJ := 80) (lJ := fun x => [(0, .ref (rid 0 1)), (1, .int a1), (2, .int a2), (3, .int x.1), (4, .int x.2), (5, .int x1.2.2)]) (sJ := fun x => []) (fun K7 hk7 => ?_) (fun z7 => ?_)
    · refine wg_icmp_ne (pc := 32) (tgt := 80) hX dX1_falsely_32 (by decide) (fun h8 => ?_) (fun h8 => ?_)
      rotate_left
      · refine wu_f h8 ?_
        refine wg_sub hX [0, 1, 2, 3, 4, 5] rfl ?_
        exact wu_rt (hk7 (x1.1, x1.2.1))
      refine wu_t h8 ?_
      refine wg_aload (pc := 35) hX dX1_falsely_35 6 rfl ?_
      refine wu_ (wg_gI (pc := 37) hX fd_X1_591 dX1_falsely_37 fun v9 => ?_)
      refine wg_if_eq (pc := 40) (tgt := 80) hX dX1_falsely_40 (by decide) (fun h10 => ?_) (fun h10 => ?_)
      · refine wu_t h10 ?_
        refine wg_sub hX [0, 1, 2, 3, 4, 5] rfl ?_
        exact wu_rt (hk7 (x1.1, x1.2.1))
      refine wu_f h10 ?_
      refine wg_aload (pc := 43) hX dX1_falsely_43 6 rfl ?_
      refine wu_ (wg_gI (pc := 45) hX fd_X1_600 dX1_falsely_45 fun v11 => ?_)
      refine wu_ (wg_cSi (pc := 48) (As := [.int v11]) (rest := []) hX (m_X1_partOf v11) (lw_S q1331 q531 q159 q532) hd_X1_partOf rfl (Nat.le_of_ble_eq_true rfl) (Nat.le_of_ble_eq_true rfl) (Nat.le_of_ble_eq_true rfl) rfl dX1_falsely_48 fun v12 => ?_)
      refine wg_iload_n (pc := 51) hX dX1_falsely_51 2 rfl ?_
      refine wg_icmp_eq (pc := 52) (tgt := 58) hX dX1_falsely_52 (by decide) (fun h13 => ?_) (fun h13 => ?_)
      rotate_left
      · refine wu_f h13 ?_
        refine wg_goto (pc := 55) (tgt := 80) hX dX1_falsely_55 (by decide) ?_
        refine wg_sub hX [0, 1, 2, 3, 4, 5] rfl ?_
        exact wu_rt (hk7 (x1.1, x1.2.1))
      refine wu_t h13 ?_
      refine wg_iinc (pc := 58) (v := (x1.1 + 1)) (l' := [(0, .ref (rid 0 1)), (1, .int a1), (2, .int a2), (3, .int (x1.1 + 1)), (4, .int x1.2.1), (5, .int x1.2.2), (6, .ref (rid 7 r5))]) hX dX1_falsely_58 3 rfl rfl (by decide) rfl ?_
      refine wg_iload (pc := 61) hX dX1_falsely_61 4 rfl ?_
      refine wg_aload (pc := 63) hX dX1_falsely_63 6 rfl ?_
      refine wu_ (wg_gI (pc := 65) hX fd_X1_591 dX1_falsely_65 fun v14 => ?_)
      refine wg_iconst (pc := 68) (v := 2) hX dX1_falsely_68 rfl ?_
      refine wu_jx (α := Int32) (pcJ := 77) (lJ := fun x => [(0, .ref (rid 0 1)), (1, .int a1), (2, .int a2), (3, .int (x1.1 + 1)), (5, .int x1.2.2)]) (sJ := fun x => [.int x, .int x1.2.1]) (fun K15 hk15 => ?_) (fun z15 => ?_)
      · refine wg_icmp_ne (pc := 69) (tgt := 76) hX dX1_falsely_69 (by decide) (fun h16 => ?_) (fun h16 => ?_)
        rotate_left
        · refine wu_f h16 ?_
          refine wg_iconst (pc := 76) (v := 0) hX dX1_falsely_76 rfl ?_
          refine wg_sub hX [0, 1, 2, 3, 5] rfl ?_
          exact wu_rt (hk15 0)
        refine wu_t h16 ?_
        refine wg_iconst (pc := 72) (v := 1) hX dX1_falsely_72 rfl ?_
        refine wg_goto (pc := 73) (tgt := 77) hX dX1_falsely_73 (by decide) ?_
        refine wg_sub hX [0, 1, 2, 3, 5] rfl ?_
        exact wu_rt (hk15 1)
      refine wg_iadd (pc := 77) hX dX1_falsely_77 ?_
      refine wu_ (wg_nmi hX fun v17 => ?_)
      refine wg_istore (pc := 78) (l' := [(0, .ref (rid 0 1)), (1, .int a1), (2, .int a2), (3, .int (x1.1 + 1)), (4, .int v17), (5, .int x1.2.2)]) hX dX1_falsely_78 (by decide) rfl ?_
      exact wu_rt (hk7 ((x1.1 + 1), v17))
    refine wg_iinc (pc := 80) (v := (x1.2.2 + 1)) (l' := [(0, .ref (rid 0 1)), (1, .int a1), (2, .int a2), (3, .int z7.1), (4, .int z7.2), (5, .int (x1.2.2 + 1))]) hX dX1_falsely_80 5 rfl rfl (by decide) rfl ?_
    refine wg_goto (pc := 83) (tgt := 8) hX dX1_falsely_83 (by decide) ?_
    exact hrec1 (z7.1, z7.2, (x1.2.2 + 1))
  refine wg_iload_n (pc := 86) hX dX1_falsely_86 0 rfl ?_
  refine wg_if_ne (pc := 87) (tgt := 94) hX dX1_falsely_87 (by decide) (fun h18 => ?_) (fun h18 => ?_)
  · refine wu_t h18 ?_
    refine wg_iconst (pc := 90) (v := 0) hX dX1_falsely_90 rfl ?_
    refine wg_goto (pc := 91) (tgt := 101) hX dX1_falsely_91 (by decide) ?_
    exact wu_rt (wg_iret (pc := 101) hX rfl rfl dX1_falsely_101)
  refine wu_f h18 ?_
  refine wg_bipush (pc := 94) (v := 100) hX dX1_falsely_94 rfl ?_
  refine wg_iload (pc := 96) hX dX1_falsely_96 1 rfl ?_
  refine wg_imul (pc := 98) hX dX1_falsely_98 ?_
  refine wg_iload_n (pc := 99) hX dX1_falsely_99 0 rfl ?_
  refine wu_ (wg_gd fun h19 => ?_)
  refine wg_idiv (pc := 100) hX dX1_falsely_100 h19 ?_
  exact wu_rt (wg_iret (pc := 101) hX rfl rfl dX1_falsely_101)
theorem m_X1_falses (a1 : Int32) (a2 : Int32) : amMet yX1_falses cX1_falses 3 (some .int) 3 78 encI [.ref (rid 0 1), .int a1, .int a2] (up (p_X1_falses a1 a2)) := by
  refine amMet.of (own := RX1) (by decide) rfl (Nat.le_of_ble_eq_true rfl) fun X hX hPs => ?_
  change WG X encI 0 [(0, .ref (rid 0 1)), (1, .int a1), (2, .int a2)] [] (bd1 (up (p_X1_falses a1 a2)) rt1)
  unfold p_X1_falses
  refine wg_iload_n (pc := 0) hX dX1_falses_0 1 rfl ?_
  refine wu_ (wg_cSi (pc := 1) (As := [.int a1]) (rest := []) hX (m_X1_isCorner a1) (lw_S q468 q469 q159 q470) hd_X1_isCorner rfl (Nat.le_of_ble_eq_true rfl) (Nat.le_of_ble_eq_true rfl) (Nat.le_of_ble_eq_true rfl) rfl dX1_falses_1 fun v1 => ?_)
  refine wu_jn (α := Unit) (pcJ := 25) (lJ := fun x => []) (sJ := fun x => []) (fun k2 hk2 => ?_) (fun z2 => ?_)
  · refine wg_if_eq (pc := 4) (tgt := 25) hX dX1_falses_4 (by decide) (fun h3 => ?_) (fun h3 => ?_)
    · refine wu_t h3 ?_
      refine wg_sub hX [] rfl ?_
      exact hk2 ()
    refine wu_f h3 ?_
    refine wg_iload_n (pc := 7) hX dX1_falses_7 2 rfl ?_
    refine wg_iconst (pc := 8) (v := 0) hX dX1_falses_8 rfl ?_
    refine wg_iconst (pc := 9) (v := 3) hX dX1_falses_9 rfl ?_
    refine wu_ (wg_cSi (pc := 10) (As := [.int a2, .int 0, .int 3]) (rest := []) hX (m_X1_in a2 0 3) (lw_S q471 q472 q159 q473) hd_X1_in rfl (Nat.le_of_ble_eq_true rfl) (Nat.le_of_ble_eq_true rfl) (Nat.le_of_ble_eq_true rfl) rfl dX1_falses_10 fun v4 => ?_)
    refine wg_if_eq (pc := 13) (tgt := 25) hX dX1_falses_13 (by decide) (fun h5 => ?_) (fun h5 => ?_)
    · refine wu_t h5 ?_
      refine wg_sub hX [] rfl ?_
      exact hk2 ()
    refine wu_f h5 ?_
    refine wg_aload_n (pc := 16) hX dX1_falses_16 0 rfl ?_
    refine wg_iload_n (pc := 17) hX dX1_falses_17 1 rfl ?_
    refine wg_iload_n (pc := 18) hX dX1_falses_18 2 rfl ?_
    refine wu_ (wg_cVi (pc := 19) (As := [.int a1, .int a2]) (rest := []) hX (m_X1_falsely a1 a2) (by decide) (by decide) (by decide) rc_X1 (lw_V q1327 q1329 qs37 q159 q1330) hd_X1_falsely rfl (Nat.le_of_ble_eq_true rfl) (Nat.le_of_ble_eq_true rfl) (Nat.le_of_ble_eq_true rfl) rfl dX1_falses_19 fun v6 => ?_)
    refine wg_goto (pc := 22) (tgt := 26) hX dX1_falses_22 (by decide) ?_
    exact wu_rt (wg_iret (pc := 26) hX rfl rfl dX1_falses_26)
  refine wg_iconst (pc := 25) (v := (-1)) hX dX1_falses_25 rfl ?_
  exact wu_rt (wg_iret (pc := 26) hX rfl rfl dX1_falses_26)
theorem m_X10_sort (r0 : Nat) : amMet yX10_sort cX10_sort 1 (some .int) 1 32 encI [.ref (rid 6 r0)] (up (p_X10_sort r0)) := by
  refine amMet.of (own := RX10) (by decide) rfl (Nat.le_of_ble_eq_true rfl) fun X hX hPs => ?_
  change WG X encI 0 [(0, .ref (rid 6 r0))] [] (bd1 (up (p_X10_sort r0)) rt1)
  unfold p_X10_sort
  refine wg_iconst (pc := 0) (v := 1) hX dX10_sort_0 rfl ?_
  exact wu_rt (wg_iret (pc := 1) hX rfl rfl dX10_sort_1)
theorem m_X11_sort (r0 : Nat) : amMet yX11_sort cX11_sort 1 (some .int) 1 32 encI [.ref (rid 6 r0)] (up (p_X11_sort r0)) := by
  refine amMet.of (own := RX11) (by decide) rfl (Nat.le_of_ble_eq_true rfl) fun X hX hPs => ?_
  change WG X encI 0 [(0, .ref (rid 6 r0))] [] (bd1 (up (p_X11_sort r0)) rt1)
  unfold p_X11_sort
  refine wg_iconst (pc := 0) (v := 2) hX dX11_sort_0 rfl ?_
  exact wu_rt (wg_iret (pc := 1) hX rfl rfl dX11_sort_1)
theorem m_X12_sort (r0 : Nat) : amMet yX12_sort cX12_sort 1 (some .int) 1 32 encI [.ref (rid 6 r0)] (up (p_X12_sort r0)) := by
  refine amMet.of (own := RX12) (by decide) rfl (Nat.le_of_ble_eq_true rfl) fun X hX hPs => ?_
  change WG X encI 0 [(0, .ref (rid 6 r0))] [] (bd1 (up (p_X12_sort r0)) rt1)
  unfold p_X12_sort
  refine wg_iconst (pc := 0) (v := 3) hX dX12_sort_0 rfl ?_
  exact wu_rt (wg_iret (pc := 1) hX rfl rfl dX12_sort_1)
theorem m_X9_sort (r0 : Nat) : amMet yX9_sort cX9_sort 1 (some .int) 1 32 encI [.ref (rid 6 r0)] (up (p_X9_sort r0)) := by
  refine amMet.of (own := RX9) (by decide) rfl (Nat.le_of_ble_eq_true rfl) fun X hX hPs => ?_
  change WG X encI 0 [(0, .ref (rid 6 r0))] [] (bd1 (up (p_X9_sort r0)) rt1)
  unfold p_X9_sort
  refine wg_iconst (pc := 0) (v := 0) hX dX9_sort_0 rfl ?_
  exact wu_rt (wg_iret (pc := 1) hX rfl rfl dX9_sort_1)
theorem m_X1_readyOf (a1 : Int32) : amMet yX1_readyOf cX1_readyOf 4 (some .int) 2 52 encI [.ref (rid 0 1), .int a1] (up (p_X1_readyOf a1)) := by
  refine amMet.of (own := RX1) (by decide) rfl (Nat.le_of_ble_eq_true rfl) fun X hX hPs => ?_
  change WG X encI 0 [(0, .ref (rid 0 1)), (1, .int a1)] [] (bd1 (up (p_X1_readyOf a1)) rt1)
  unfold p_X1_readyOf
  have hM0 := amPs.m0 hPs
  refine wu_ (wg_gM ?_)
  refine wg_iconst (pc := 0) (v := 0) hX dX1_readyOf_0 rfl ?_
  refine wg_istore_n (pc := 1) (l' := [(0, .ref (rid 0 1)), (1, .int a1), (2, .int 0)]) hX dX1_readyOf_1 (by decide) rfl ?_
  refine wg_iconst (pc := 2) (v := 0) hX dX1_readyOf_2 rfl ?_
  refine wg_istore_n (pc := 3) (l' := [(0, .ref (rid 0 1)), (1, .int a1), (2, .int 0), (3, .int 0)]) hX dX1_readyOf_3 (by decide) rfl ?_
  refine wu_lpx (α := Int32 × Int32) (γ := Int32) (pcl := 4) (pcT := 46) (lo := fun x => [(0, .ref (rid 0 1)), (1, .int a1), (2, .int x.1), (3, .int x.2)]) (so := fun _ => []) (lT := fun x => [(2, .int x)]) (sT := fun _ => []) (n := amFu) (x0 := (0, 0)) (fun K1 rec1 hrec1 hk1 x1 => ?_) (fun y2 => ?_)
  · unfold p_X1_readyOf_L4
    refine wg_iload_n (pc := 4) hX dX1_readyOf_4 3 rfl ?_
    refine wg_aload_n (pc := 5) hX dX1_readyOf_5 0 rfl ?_
    refine wu_ (wg_gI (pc := 6) hX fd_X1_365 dX1_readyOf_6 fun v3 => ?_)
    refine wg_icmp_ge (pc := 9) (tgt := 46) hX dX1_readyOf_9 (by decide) (fun h4 => ?_) (fun h4 => ?_)
    · refine wu_t h4 ?_
      refine wg_sub hX [2] rfl ?_
      exact wu_rt (hk1 x1.1)
    refine wu_f h4 ?_
    refine wg_aload_n (pc := 12) hX dX1_readyOf_12 0 rfl ?_
    refine wg_gK (pc := 13) hX hM0 fd_X1_48 (by decide) dX1_readyOf_13 ?_
    refine wg_iload_n (pc := 16) hX dX1_readyOf_16 3 rfl ?_
    refine wu_ (wg_rR (pc := 17) hX ar_28 (by decide) dX1_readyOf_17 fun r5 => ?_)
    refine wu_ (wg_vciu (pc := 18) (x := ⟨"CityBrigade$Crew", "sort", "()I"⟩) (n := 0) (f := fun c => if c = 6 then p_X9_sort r5 else if c = 7 then p_X10_sort r5 else if c = 8 then p_X11_sort r5 else if c = 9 then p_X12_sort r5 else fl0) (As := []) (rest := []) hX (by decide) (by decide) (fun c hc => by
          rcases am_mem4 hc with rfl | rfl | rfl | rfl
          · exact Or.inr ⟨RX9, TX9, 18, yX9_sort, cX9_sort, 1, (some .int), _, _, rfl, ⟨"CityBrigade$Crew", lw_U q1348 q1350 q1357 q1358 q171 q1359, by decide +kernel, Or.inr q1349⟩, m_X9_sort r5, (Nat.le_of_ble_eq_true rfl), (Nat.le_of_ble_eq_true rfl)⟩
          · exact Or.inr ⟨RX10, TX10, 19, yX10_sort, cX10_sort, 1, (some .int), _, _, rfl, ⟨"CityBrigade$Crew", lw_U q1348 q1350 q1360 q1361 q172 q1362, by decide +kernel, Or.inr q1349⟩, m_X10_sort r5, (Nat.le_of_ble_eq_true rfl), (Nat.le_of_ble_eq_true rfl)⟩
          · exact Or.inr ⟨RX11, TX11, 17, yX11_sort, cX11_sort, 1, (some .int), _, _, rfl, ⟨"CityBrigade$Crew", lw_U q1348 q1350 q1354 q1355 q173 q1356, by decide +kernel, Or.inr q1349⟩, m_X11_sort r5, (Nat.le_of_ble_eq_true rfl), (Nat.le_of_ble_eq_true rfl)⟩
          · exact Or.inr ⟨RX12, TX12, 16, yX12_sort, cX12_sort, 1, (some .int), _, _, rfl, ⟨"CityBrigade$Crew", lw_U q1348 q1350 q1351 q1352 q174 q1353, by decide +kernel, Or.inr q1349⟩, m_X12_sort r5, (Nat.le_of_ble_eq_true rfl), (Nat.le_of_ble_eq_true rfl)⟩) rfl (Nat.le_of_ble_eq_true rfl) rfl dX1_readyOf_18 fun v7 => ?_)
    refine wg_iload_n (pc := 21) hX dX1_readyOf_21 1 rfl ?_
    refine wu_jx (α := Int32) (pcJ := 40) (lJ := fun x => [(0, .ref (rid 0 1)), (1, .int a1), (2, .int x), (3, .int x1.2)]) (sJ := fun x => []) (fun K8 hk8 => ?_) (fun z8 => ?_)
    · refine wg_icmp_ne (pc := 22) (tgt := 40) hX dX1_readyOf_22 (by decide) (fun h9 => ?_) (fun h9 => ?_)
      rotate_left
      · refine wu_f h9 ?_
        exact wu_rt (hk8 x1.1)
      refine wu_t h9 ?_
      refine wg_aload_n (pc := 25) hX dX1_readyOf_25 0 rfl ?_
      refine wg_gK (pc := 26) hX hM0 fd_X1_48 (by decide) dX1_readyOf_26 ?_
      refine wg_iload_n (pc := 29) hX dX1_readyOf_29 3 rfl ?_
      refine wu_ (wg_rR (pc := 30) hX ar_28 (by decide) dX1_readyOf_30 fun r10 => ?_)
      refine wu_ (wg_gI (pc := 31) hX fd_X1_389 dX1_readyOf_31 fun v11 => ?_)
      refine wg_if_ne (pc := 34) (tgt := 40) hX dX1_readyOf_34 (by decide) (fun h12 => ?_) (fun h12 => ?_)
      rotate_left
      · refine wu_f h12 ?_
        exact wu_rt (hk8 x1.1)
      refine wu_t h12 ?_
      refine wg_iinc (pc := 37) (v := (x1.1 + 1)) (l' := [(0, .ref (rid 0 1)), (1, .int a1), (2, .int (x1.1 + 1)), (3, .int x1.2)]) hX dX1_readyOf_37 2 rfl rfl (by decide) rfl ?_
      exact wu_rt (hk8 (x1.1 + 1))
    refine wg_iinc (pc := 40) (v := (x1.2 + 1)) (l' := [(0, .ref (rid 0 1)), (1, .int a1), (2, .int z8), (3, .int (x1.2 + 1))]) hX dX1_readyOf_40 3 rfl rfl (by decide) rfl ?_
    refine wg_goto (pc := 43) (tgt := 4) hX dX1_readyOf_43 (by decide) ?_
    exact hrec1 (z8, (x1.2 + 1))
  refine wg_iload_n (pc := 46) hX dX1_readyOf_46 0 rfl ?_
  exact wu_rt (wg_iret (pc := 47) hX rfl rfl dX1_readyOf_47)
theorem m_X1_hear (a1 : Int32) (a2 : Int32) : amMet yX1_hear cX1_hear 7 none 3 78 encV [.ref (rid 0 1), .int a1, .int a2] (up (p_X1_hear a1 a2)) := by
  refine amMet.of (own := RX1) (by decide) rfl (Nat.le_of_ble_eq_true rfl) fun X hX hPs => ?_
  change WG X encV 0 [(0, .ref (rid 0 1)), (1, .int a1), (2, .int a2)] [] (bd1 (up (p_X1_hear a1 a2)) rt1)
  unfold p_X1_hear
  have hM0 := amPs.m0 hPs
  refine wu_ (wg_gM ?_)
  refine wg_iconst (pc := 0) (v := 0) hX dX1_hear_0 rfl ?_
  refine wg_istore_n (pc := 1) (l' := [(0, .ref (rid 0 1)), (1, .int a1), (2, .int a2), (3, .int 0)]) hX dX1_hear_1 (by decide) rfl ?_
  refine wg_iconst (pc := 2) (v := 0) hX dX1_hear_2 rfl ?_
  refine wg_istore (pc := 3) (l' := [(0, .ref (rid 0 1)), (1, .int a1), (2, .int a2), (3, .int 0), (4, .int 0)]) hX dX1_hear_3 (by decide) rfl ?_
  refine wg_iconst (pc := 5) (v := 0) hX dX1_hear_5 rfl ?_
  refine wg_istore (pc := 6) (l' := [(0, .ref (rid 0 1)), (1, .int a1), (2, .int a2), (3, .int 0), (4, .int 0), (5, .int 0)]) hX dX1_hear_6 (by decide) rfl ?_
  refine wg_iconst (pc := 8) (v := 0) hX dX1_hear_8 rfl ?_
  refine wg_istore (pc := 9) (l' := [(0, .ref (rid 0 1)), (1, .int a1), (2, .int a2), (3, .int 0), (4, .int 0), (5, .int 0), (6, .int 0)]) hX dX1_hear_9 (by decide) rfl ?_
  refine wu_lpx (α := Int32 × Int32 × Int32) (γ := Int32 × Int32) (pcl := 11) (pcT := 61) (lo := fun x => [(0, .ref (rid 0 1)), (1, .int a1), (2, .int a2), (3, .int x.1), (4, .int x.2.1), (5, .int 0), (6, .int x.2.2)]) (so := fun _ => []) (lT := fun x => [(0, .ref (rid 0 1)), (1, .int a1), (2, .int a2), (3, .int x.1), (4, .int x.2), (5, .int 0)]) (sT := fun _ => []) (n := amFu) (x0 := (0, 0, 0)) (fun K1 rec1 hrec1 hk1 x1 => ?_) (fun y2 => ?_)
  · unfold p_X1_hear_L11
    refine wg_iload (pc := 11) hX dX1_hear_11 6 rfl ?_
    refine wg_aload_n (pc := 13) hX dX1_hear_13 0 rfl ?_
    refine wu_ (wg_gI (pc := 14) hX fd_X1_199 dX1_hear_14 fun v3 => ?_)
    refine wg_icmp_ge (pc := 17) (tgt := 61) hX dX1_hear_17 (by decide) (fun h4 => ?_) (fun h4 => ?_)
    · refine wu_t h4 ?_
      refine wg_sub hX [0, 1, 2, 3, 4, 5] rfl ?_
      exact wu_rt (hk1 (x1.1, x1.2.1))
    refine wu_f h4 ?_
    refine wg_aload_n (pc := 20) hX dX1_hear_20 0 rfl ?_
    refine wg_gK (pc := 21) hX hM0 fd_X1_30 (by decide) dX1_hear_21 ?_
    refine wg_iload (pc := 24) hX dX1_hear_24 6 rfl ?_
    refine wu_ (wg_rR (pc := 26) hX ar_24 (by decide) dX1_hear_26 fun r5 => ?_)
    refine wu_ (wg_gI (pc := 27) hX fd_X1_308 dX1_hear_27 fun v6 => ?_)
    refine wg_iload_n (pc := 30) hX dX1_hear_30 1 rfl ?_
    refine wu_jx (α := Int32 × Int32) (pcJ := 55) (lJ := fun x => [(0, .ref (rid 0 1)), (1, .int a1), (2, .int a2), (3, .int x.1), (4, .int x.2), (5, .int 0), (6, .int x1.2.2)]) (sJ := fun x => []) (fun K7 hk7 => ?_) (fun z7 => ?_)
    · refine wg_icmp_eq (pc := 31) (tgt := 37) hX dX1_hear_31 (by decide) (fun h8 => ?_) (fun h8 => ?_)
      rotate_left
      · refine wu_f h8 ?_
        refine wg_goto (pc := 34) (tgt := 55) hX dX1_hear_34 (by decide) ?_
        exact wu_rt (hk7 (x1.1, x1.2.1))
      refine wu_t h8 ?_
      refine wg_iinc (pc := 37) (v := (x1.2.1 + 1)) (l' := [(0, .ref (rid 0 1)), (1, .int a1), (2, .int a2), (3, .int x1.1), (4, .int (x1.2.1 + 1)), (5, .int 0), (6, .int x1.2.2)]) hX dX1_hear_37 4 rfl rfl (by decide) rfl ?_
      refine wg_iload_n (pc := 40) hX dX1_hear_40 3 rfl ?_
      refine wg_aload_n (pc := 41) hX dX1_hear_41 0 rfl ?_
      refine wg_gK (pc := 42) hX hM0 fd_X1_30 (by decide) dX1_hear_42 ?_
      refine wg_iload (pc := 45) hX dX1_hear_45 6 rfl ?_
      refine wu_ (wg_rR (pc := 47) hX ar_24 (by decide) dX1_hear_47 fun r9 => ?_)
      refine wu_ (wg_gI (pc := 48) hX fd_X1_209 dX1_hear_48 fun v10 => ?_)
      refine wg_mmax (pc := 51) hX q711 q712 q165 q713 (Nat.le_of_ble_eq_true rfl) (Nat.le_of_ble_eq_true rfl) dX1_hear_51 ?_
      refine wu_ (wg_nmi hX fun v11 => ?_)
      refine wg_istore_n (pc := 54) (l' := [(0, .ref (rid 0 1)), (1, .int a1), (2, .int a2), (3, .int v11), (4, .int (x1.2.1 + 1)), (5, .int 0), (6, .int x1.2.2)]) hX dX1_hear_54 (by decide) rfl ?_
      exact wu_rt (hk7 (v11, (x1.2.1 + 1)))
    refine wg_iinc (pc := 55) (v := (x1.2.2 + 1)) (l' := [(0, .ref (rid 0 1)), (1, .int a1), (2, .int a2), (3, .int z7.1), (4, .int z7.2), (5, .int 0), (6, .int (x1.2.2 + 1))]) hX dX1_hear_55 6 rfl rfl (by decide) rfl ?_
    refine wg_goto (pc := 58) (tgt := 11) hX dX1_hear_58 (by decide) ?_
    exact hrec1 (z7.1, z7.2, (x1.2.2 + 1))
  refine wg_iconst (pc := 61) (v := 0) hX dX1_hear_61 rfl ?_
  refine wg_istore (pc := 62) (l' := [(0, .ref (rid 0 1)), (1, .int a1), (2, .int a2), (3, .int y2.1), (4, .int y2.2), (5, .int 0), (6, .int 0)]) hX dX1_hear_62 (by decide) rfl ?_
  refine wu_lpx (α := Int32 × Int32) (γ := Int32) (pcl := 64) (pcT := 109) (lo := fun x => [(0, .ref (rid 0 1)), (1, .int a1), (2, .int a2), (3, .int y2.1), (4, .int y2.2), (5, .int x.1), (6, .int x.2)]) (so := fun _ => []) (lT := fun x => [(0, .ref (rid 0 1)), (1, .int a1), (2, .int a2), (3, .int y2.1), (4, .int y2.2), (5, .int x)]) (sT := fun _ => []) (n := amFu) (x0 := (0, 0)) (fun K12 rec12 hrec12 hk12 x12 => ?_) (fun y13 => ?_)
  · unfold p_X1_hear_L64
    refine wg_iload (pc := 64) hX dX1_hear_64 6 rfl ?_
    refine wg_aload_n (pc := 66) hX dX1_hear_66 0 rfl ?_
    refine wu_ (wg_gI (pc := 67) hX fd_X1_587 dX1_hear_67 fun v14 => ?_)
    refine wg_icmp_ge (pc := 70) (tgt := 109) hX dX1_hear_70 (by decide) (fun h15 => ?_) (fun h15 => ?_)
    · refine wu_t h15 ?_
      refine wg_sub hX [0, 1, 2, 3, 4, 5] rfl ?_
      exact wu_rt (hk12 x12.1)
    refine wu_f h15 ?_
    refine wg_aload_n (pc := 73) hX dX1_hear_73 0 rfl ?_
    refine wg_gK (pc := 74) hX hM0 fd_X1_74 (by decide) dX1_hear_74 ?_
    refine wg_iload (pc := 77) hX dX1_hear_77 6 rfl ?_
    refine wu_ (wg_rR (pc := 79) hX ar_32 (by decide) dX1_hear_79 fun r16 => ?_)
    refine wu_ (wg_gI (pc := 80) hX fd_X1_591 dX1_hear_80 fun v17 => ?_)
    refine wu_jx (α := Int32) (pcJ := 103) (lJ := fun x => [(0, .ref (rid 0 1)), (1, .int a1), (2, .int a2), (3, .int y2.1), (4, .int y2.2), (5, .int x), (6, .int x12.2)]) (sJ := fun x => []) (fun K18 hk18 => ?_) (fun z18 => ?_)
    · refine wg_if_ne (pc := 83) (tgt := 103) hX dX1_hear_83 (by decide) (fun h19 => ?_) (fun h19 => ?_)
      rotate_left
      · refine wu_f h19 ?_
        exact wu_rt (hk18 x12.1)
      refine wu_t h19 ?_
      refine wg_aload_n (pc := 86) hX dX1_hear_86 0 rfl ?_
      refine wg_gK (pc := 87) hX hM0 fd_X1_74 (by decide) dX1_hear_87 ?_
      refine wg_iload (pc := 90) hX dX1_hear_90 6 rfl ?_
      refine wu_ (wg_rR (pc := 92) hX ar_32 (by decide) dX1_hear_92 fun r20 => ?_)
      refine wu_ (wg_gI (pc := 93) hX fd_X1_590 dX1_hear_93 fun v21 => ?_)
      refine wg_iload_n (pc := 96) hX dX1_hear_96 1 rfl ?_
      refine wg_icmp_eq (pc := 97) (tgt := 103) hX dX1_hear_97 (by decide) (fun h22 => ?_) (fun h22 => ?_)
      · refine wu_t h22 ?_
        exact wu_rt (hk18 x12.1)
      refine wu_f h22 ?_
      refine wg_iinc (pc := 100) (v := (x12.1 + 1)) (l' := [(0, .ref (rid 0 1)), (1, .int a1), (2, .int a2), (3, .int y2.1), (4, .int y2.2), (5, .int (x12.1 + 1)), (6, .int x12.2)]) hX dX1_hear_100 5 rfl rfl (by decide) rfl ?_
      exact wu_rt (hk18 (x12.1 + 1))
    refine wg_iinc (pc := 103) (v := (x12.2 + 1)) (l' := [(0, .ref (rid 0 1)), (1, .int a1), (2, .int a2), (3, .int y2.1), (4, .int y2.2), (5, .int z18), (6, .int (x12.2 + 1))]) hX dX1_hear_103 6 rfl rfl (by decide) rfl ?_
    refine wg_goto (pc := 106) (tgt := 64) hX dX1_hear_106 (by decide) ?_
    exact hrec12 (z18, (x12.2 + 1))
  refine wg_aload_n (pc := 109) hX dX1_hear_109 0 rfl ?_
  refine wg_gK (pc := 110) hX hM0 fd_X1_52 (by decide) dX1_hear_110 ?_
  refine wg_bipush (pc := 113) (v := 119) hX dX1_hear_113 rfl ?_
  refine wg_iload_n (pc := 115) hX dX1_hear_115 2 rfl ?_
  refine wu_ (wg_wI (pc := 116) hX ar_29 dX1_hear_116 ?_)
  refine wg_aload_n (pc := 117) hX dX1_hear_117 0 rfl ?_
  refine wg_gK (pc := 118) hX hM0 fd_X1_52 (by decide) dX1_hear_118 ?_
  refine wg_bipush (pc := 121) (v := 104) hX dX1_hear_121 rfl ?_
  refine wg_aload_n (pc := 123) hX dX1_hear_123 0 rfl ?_
  refine wu_ (wg_gI (pc := 124) hX fd_X1_415 dX1_hear_124 fun v23 => ?_)
  refine wg_bipush (pc := 127) (v := 60) hX dX1_hear_127 rfl ?_
  refine wg_idiv (pc := 129) hX dX1_hear_129 (by decide) ?_
  refine wg_bipush (pc := 130) (v := 24) hX dX1_hear_130 rfl ?_
  refine wg_irem (pc := 132) hX dX1_hear_132 (by decide) ?_
  refine wu_ (wg_wI (pc := 133) hX ar_29 dX1_hear_133 ?_)
  refine wg_aload_n (pc := 134) hX dX1_hear_134 0 rfl ?_
  refine wg_gK (pc := 135) hX hM0 fd_X1_52 (by decide) dX1_hear_135 ?_
  refine wg_bipush (pc := 138) (v := 102) hX dX1_hear_138 rfl ?_
  refine wg_iload_n (pc := 140) hX dX1_hear_140 3 rfl ?_
  refine wu_ (wg_wI (pc := 141) hX ar_29 dX1_hear_141 ?_)
  refine wg_aload_n (pc := 142) hX dX1_hear_142 0 rfl ?_
  refine wg_gK (pc := 143) hX hM0 fd_X1_52 (by decide) dX1_hear_143 ?_
  refine wg_bipush (pc := 146) (v := 107) hX dX1_hear_146 rfl ?_
  refine wg_iload (pc := 148) hX dX1_hear_148 4 rfl ?_
  refine wu_ (wg_wI (pc := 150) hX ar_29 dX1_hear_150 ?_)
  refine wg_aload_n (pc := 151) hX dX1_hear_151 0 rfl ?_
  refine wg_gK (pc := 152) hX hM0 fd_X1_52 (by decide) dX1_hear_152 ?_
  refine wg_bipush (pc := 155) (v := 97) hX dX1_hear_155 rfl ?_
  refine wg_aload_n (pc := 157) hX dX1_hear_157 0 rfl ?_
  refine wg_iload_n (pc := 158) hX dX1_hear_158 1 rfl ?_
  refine wg_aload_n (pc := 159) hX dX1_hear_159 0 rfl ?_
  refine wu_ (wg_gI (pc := 160) hX fd_X1_415 dX1_hear_160 fun v24 => ?_)
  refine wu_ (wg_cSi (pc := 163) (As := [.int v24]) (rest := [.int a1, .ref (rid 0 1), .int 97, .ref (rid 29 1)]) hX (m_X1_partOf v24) (lw_S q1331 q531 q159 q532) hd_X1_partOf rfl (Nat.le_of_ble_eq_true rfl) (Nat.le_of_ble_eq_true rfl) (Nat.le_of_ble_eq_true rfl) rfl dX1_hear_163 fun v25 => ?_)
  refine wu_ (wg_cVi (pc := 166) (As := [.int a1, .int v25]) (rest := [.int 97, .ref (rid 29 1)]) hX (m_X1_falsely a1 v25) (by decide) (by decide) (by decide) rc_X1 (lw_V q1327 q1329 qs37 q159 q1330) hd_X1_falsely rfl (Nat.le_of_ble_eq_true rfl) (Nat.le_of_ble_eq_true rfl) (Nat.le_of_ble_eq_true rfl) rfl dX1_hear_166 fun v26 => ?_)
  refine wu_ (wg_wI (pc := 169) hX ar_29 dX1_hear_169 ?_)
  refine wg_aload_n (pc := 170) hX dX1_hear_170 0 rfl ?_
  refine wg_gK (pc := 171) hX hM0 fd_X1_52 (by decide) dX1_hear_171 ?_
  refine wg_bipush (pc := 174) (v := 112) hX dX1_hear_174 rfl ?_
  refine wg_aload_n (pc := 176) hX dX1_hear_176 0 rfl ?_
  refine wg_iconst (pc := 177) (v := 0) hX dX1_hear_177 rfl ?_
  refine wu_ (wg_cVi (pc := 178) (As := [.int 0]) (rest := [.int 112, .ref (rid 29 1)]) hX (m_X1_readyOf 0) (by decide) (by decide) (by decide) rc_X1 (lw_V q1344 q1346 qs40 q159 q1347) hd_X1_readyOf rfl (Nat.le_of_ble_eq_true rfl) (Nat.le_of_ble_eq_true rfl) (Nat.le_of_ble_eq_true rfl) rfl dX1_hear_178 fun v27 => ?_)
  refine wu_ (wg_wI (pc := 181) hX ar_29 dX1_hear_181 ?_)
  refine wg_aload_n (pc := 182) hX dX1_hear_182 0 rfl ?_
  refine wg_gK (pc := 183) hX hM0 fd_X1_52 (by decide) dX1_hear_183 ?_
  refine wg_bipush (pc := 186) (v := 115) hX dX1_hear_186 rfl ?_
  refine wg_aload_n (pc := 188) hX dX1_hear_188 0 rfl ?_
  refine wg_iconst (pc := 189) (v := 1) hX dX1_hear_189 rfl ?_
  refine wu_ (wg_cVi (pc := 190) (As := [.int 1]) (rest := [.int 115, .ref (rid 29 1)]) hX (m_X1_readyOf 1) (by decide) (by decide) (by decide) rc_X1 (lw_V q1344 q1346 qs40 q159 q1347) hd_X1_readyOf rfl (Nat.le_of_ble_eq_true rfl) (Nat.le_of_ble_eq_true rfl) (Nat.le_of_ble_eq_true rfl) rfl dX1_hear_190 fun v28 => ?_)
  refine wu_ (wg_wI (pc := 193) hX ar_29 dX1_hear_193 ?_)
  refine wg_aload_n (pc := 194) hX dX1_hear_194 0 rfl ?_
  refine wg_gK (pc := 195) hX hM0 fd_X1_52 (by decide) dX1_hear_195 ?_
  refine wg_bipush (pc := 198) (v := 108) hX dX1_hear_198 rfl ?_
  refine wg_aload_n (pc := 200) hX dX1_hear_200 0 rfl ?_
  refine wg_iconst (pc := 201) (v := 2) hX dX1_hear_201 rfl ?_
  refine wu_ (wg_cVi (pc := 202) (As := [.int 2]) (rest := [.int 108, .ref (rid 29 1)]) hX (m_X1_readyOf 2) (by decide) (by decide) (by decide) rc_X1 (lw_V q1344 q1346 qs40 q159 q1347) hd_X1_readyOf rfl (Nat.le_of_ble_eq_true rfl) (Nat.le_of_ble_eq_true rfl) (Nat.le_of_ble_eq_true rfl) rfl dX1_hear_202 fun v29 => ?_)
  refine wu_ (wg_wI (pc := 205) hX ar_29 dX1_hear_205 ?_)
  refine wg_aload_n (pc := 206) hX dX1_hear_206 0 rfl ?_
  refine wg_gK (pc := 207) hX hM0 fd_X1_52 (by decide) dX1_hear_207 ?_
  refine wg_bipush (pc := 210) (v := 99) hX dX1_hear_210 rfl ?_
  refine wg_aload_n (pc := 212) hX dX1_hear_212 0 rfl ?_
  refine wg_iconst (pc := 213) (v := 3) hX dX1_hear_213 rfl ?_
  refine wu_ (wg_cVi (pc := 214) (As := [.int 3]) (rest := [.int 99, .ref (rid 29 1)]) hX (m_X1_readyOf 3) (by decide) (by decide) (by decide) rc_X1 (lw_V q1344 q1346 qs40 q159 q1347) hd_X1_readyOf rfl (Nat.le_of_ble_eq_true rfl) (Nat.le_of_ble_eq_true rfl) (Nat.le_of_ble_eq_true rfl) rfl dX1_hear_214 fun v30 => ?_)
  refine wu_ (wg_wI (pc := 217) hX ar_29 dX1_hear_217 ?_)
  refine wg_aload_n (pc := 218) hX dX1_hear_218 0 rfl ?_
  refine wg_gK (pc := 219) hX hM0 fd_X1_52 (by decide) dX1_hear_219 ?_
  refine wg_bipush (pc := 222) (v := 111) hX dX1_hear_222 rfl ?_
  refine wg_iload (pc := 224) hX dX1_hear_224 5 rfl ?_
  refine wu_ (wg_wI (pc := 226) hX ar_29 dX1_hear_226 ?_)
  exact wu_rt (wg_vret (pc := 227) hX rfl rfl dX1_hear_227)
theorem m_X17_value (r0 : Nat) : amMet yX17_value cX17_value 2 (some .int) 1 32 encI [.ref (rid 9 r0), .ref (rid 29 1)] (up (p_X17_value r0)) := by
  refine amMet.of (own := RX17) (by decide) rfl (Nat.le_of_ble_eq_true rfl) fun X hX hPs => ?_
  change WG X encI 0 [(0, .ref (rid 9 r0)), (1, .ref (rid 29 1))] [] (bd1 (up (p_X17_value r0)) rt1)
  unfold p_X17_value
  refine wg_aload_n (pc := 0) hX dX17_value_0 1 rfl ?_
  refine wg_aload_n (pc := 1) hX dX17_value_1 0 rfl ?_
  refine wu_ (wg_gIs (pc := 2) hX fd_X17_7 dX17_value_2 fun v1 => ?_)
  refine wu_ (wg_rI (pc := 5) hX ar_29 dX17_value_5 fun v2 => ?_)
  exact wu_rt (wg_iret (pc := 6) hX rfl rfl dX17_value_6)
theorem m_X18_value (r0 : Nat) : amMet yX18_value cX18_value 2 (some .int) 1 32 encI [.ref (rid 9 r0), .ref (rid 29 1)] (up (p_X18_value r0)) := by
  refine amMet.of (own := RX18) (by decide) rfl (Nat.le_of_ble_eq_true rfl) fun X hX hPs => ?_
  change WG X encI 0 [(0, .ref (rid 9 r0)), (1, .ref (rid 29 1))] [] (bd1 (up (p_X18_value r0)) rt1)
  unfold p_X18_value
  refine wg_aload_n (pc := 0) hX dX18_value_0 0 rfl ?_
  refine wu_ (wg_gIs (pc := 1) hX fd_X18_7 dX18_value_1 fun v1 => ?_)
  exact wu_rt (wg_iret (pc := 4) hX rfl rfl dX18_value_4)
theorem w_X19_value (d : Nat) (s_X19_value : Nat → am0 Int32) (hm_X19_value : ∀ (r0 : Nat), amMet yX19_value cX19_value 8 (some .int) (2 + d) (64 + d * 27) encI [.ref (rid 9 r0), .ref (rid 29 1)] (up (s_X19_value r0))) (r0 : Nat) : amMet yX19_value cX19_value 8 (some .int) (2 + (d + 1)) (64 + (d + 1) * 27) encI [.ref (rid 9 r0), .ref (rid 29 1)] (up (b_X19_value s_X19_value r0)) := by
  refine amMet.of (own := RX19) (by decide) rfl (Nat.le_of_ble_eq_true rfl) fun X hX hPs => ?_
  change WG X encI 0 [(0, .ref (rid 9 r0)), (1, .ref (rid 29 1))] [] (bd1 (up (b_X19_value s_X19_value r0)) rt1)
  unfold b_X19_value
  refine wg_aload_n (pc := 0) hX dX19_value_0 0 rfl ?_
  refine wu_ (wg_gRs (pc := 1) hX fd_X19_15 dX19_value_1 fun r1 => ?_)
  refine wg_aload_n (pc := 4) hX dX19_value_4 1 rfl ?_
  refine wu_ (wg_vciu (pc := 5) (x := ⟨"CityBrigade$Sum", "value", "([I)I"⟩) (n := 1) (f := fun c => if c = 12 then p_X18_value r1 else if c = 13 then p_X17_value r1 else if c = 14 then s_X19_value r1 else fl0) (As := [.ref (rid 29 1)]) (rest := []) hX (by decide) (by decide) (fun c hc => by
        rcases am_mem3 hc with rfl | rfl | rfl
        · exact Or.inr ⟨RX18, TX18, 1, yX18_value, cX18_value, 2, (some .int), _, _, rfl, ⟨"CityBrigade$Sum", lw_U q1384 q1374 q1378 q1379 q187 q1380, by decide +kernel, Or.inr q1373⟩, m_X18_value r1, (by omega), (by omega)⟩
        · exact Or.inr ⟨RX17, TX17, 1, yX17_value, cX17_value, 2, (some .int), _, _, rfl, ⟨"CityBrigade$Sum", lw_U q1384 q1374 q1375 q1376 q186 q1377, by decide +kernel, Or.inr q1373⟩, m_X17_value r1, (by omega), (by omega)⟩
        · exact Or.inr ⟨RX19, TX19, 3, yX19_value, cX19_value, 8, (some .int), _, _, rfl, ⟨"CityBrigade$Sum", lw_U q1384 q1374 q1381 q1382 q188 q1383, by decide +kernel, Or.inr q1373⟩, hm_X19_value r1, (by omega), (by omega)⟩) rfl (Nat.le_of_ble_eq_true rfl) rfl dX19_value_5 fun v3 => ?_)
  refine wg_i2l (pc := 8) hX dX19_value_8 ?_
  refine wg_lstore_n (pc := 9) (l' := [(0, .ref (rid 9 r0)), (1, .ref (rid 29 1)), (2, .long v3.toInt64)]) hX dX19_value_9 (by decide) rfl ?_
  refine wg_aload_n (pc := 10) hX dX19_value_10 0 rfl ?_
  refine wu_ (wg_gRs (pc := 11) hX fd_X19_19 dX19_value_11 fun r4 => ?_)
  refine wg_aload_n (pc := 14) hX dX19_value_14 1 rfl ?_
  refine wu_ (wg_vciu (pc := 15) (x := ⟨"CityBrigade$Sum", "value", "([I)I"⟩) (n := 1) (f := fun c => if c = 12 then p_X18_value r4 else if c = 13 then p_X17_value r4 else if c = 14 then s_X19_value r4 else fl0) (As := [.ref (rid 29 1)]) (rest := []) hX (by decide) (by decide) (fun c hc => by
        rcases am_mem3 hc with rfl | rfl | rfl
        · exact Or.inr ⟨RX18, TX18, 1, yX18_value, cX18_value, 2, (some .int), _, _, rfl, ⟨"CityBrigade$Sum", lw_U q1384 q1374 q1378 q1379 q187 q1380, by decide +kernel, Or.inr q1373⟩, m_X18_value r4, (by omega), (by omega)⟩
        · exact Or.inr ⟨RX17, TX17, 1, yX17_value, cX17_value, 2, (some .int), _, _, rfl, ⟨"CityBrigade$Sum", lw_U q1384 q1374 q1375 q1376 q186 q1377, by decide +kernel, Or.inr q1373⟩, m_X17_value r4, (by omega), (by omega)⟩
        · exact Or.inr ⟨RX19, TX19, 3, yX19_value, cX19_value, 8, (some .int), _, _, rfl, ⟨"CityBrigade$Sum", lw_U q1384 q1374 q1381 q1382 q188 q1383, by decide +kernel, Or.inr q1373⟩, hm_X19_value r4, (by omega), (by omega)⟩) rfl (Nat.le_of_ble_eq_true rfl) rfl dX19_value_15 fun v6 => ?_)
  refine wg_i2l (pc := 18) hX dX19_value_18 ?_
  refine wg_lstore (pc := 19) (l' := [(0, .ref (rid 9 r0)), (1, .ref (rid 29 1)), (2, .long v3.toInt64), (4, .long v6.toInt64)]) hX dX19_value_19 (by decide) rfl ?_
  refine wg_aload_n (pc := 21) hX dX19_value_21 0 rfl ?_
  refine wu_ (wg_gIs (pc := 22) hX fd_X19_9 dX19_value_22 fun v7 => ?_)
  refine wg_bipush (pc := 25) (v := 43) hX dX19_value_25 rfl ?_
  refine wu_jx (α := Int64) (pcJ := 57) (lJ := fun x => []) (sJ := fun x => [.long x]) (fun K8 hk8 => ?_) (fun z8 => ?_)
  · refine wg_icmp_ne (pc := 27) (tgt := 37) hX dX19_value_27 (by decide) (fun h9 => ?_) (fun h9 => ?_)
    · refine wu_t h9 ?_
      refine wg_lload_n (pc := 30) hX dX19_value_30 2 rfl ?_
      refine wg_lload (pc := 31) hX dX19_value_31 3 rfl ?_
      refine wg_ladd (pc := 33) hX dX19_value_33 ?_
      refine wg_goto (pc := 34) (tgt := 57) hX dX19_value_34 (by decide) ?_
      refine wg_sub hX [] rfl ?_
      exact wu_rt (hk8 (v3.toInt64 + v6.toInt64))
    refine wu_f h9 ?_
    refine wg_aload_n (pc := 37) hX dX19_value_37 0 rfl ?_
    refine wu_ (wg_gIs (pc := 38) hX fd_X19_9 dX19_value_38 fun v10 => ?_)
    refine wg_bipush (pc := 41) (v := 45) hX dX19_value_41 rfl ?_
    refine wg_icmp_ne (pc := 43) (tgt := 53) hX dX19_value_43 (by decide) (fun h11 => ?_) (fun h11 => ?_)
    rotate_left
    · refine wu_f h11 ?_
      refine wg_lload_n (pc := 53) hX dX19_value_53 2 rfl ?_
      refine wg_lload (pc := 54) hX dX19_value_54 3 rfl ?_
      refine wg_lmul (pc := 56) hX dX19_value_56 ?_
      refine wg_sub hX [] rfl ?_
      exact wu_rt (hk8 (v3.toInt64 * v6.toInt64))
    refine wu_t h11 ?_
    refine wg_lload_n (pc := 46) hX dX19_value_46 2 rfl ?_
    refine wg_lload (pc := 47) hX dX19_value_47 3 rfl ?_
    refine wg_lsub (pc := 49) hX dX19_value_49 ?_
    refine wg_goto (pc := 50) (tgt := 57) hX dX19_value_50 (by decide) ?_
    refine wg_sub hX [] rfl ?_
    exact wu_rt (hk8 (v3.toInt64 - v6.toInt64))
  refine wg_lstore (pc := 57) (l' := [(6, .long z8)]) hX dX19_value_57 (by decide) rfl ?_
  refine wg_ldc2 (pc := 59) hX dX19_value_59 q1385 ?_
  refine wg_ldc2 (pc := 62) hX dX19_value_62 q1386 ?_
  refine wg_lload (pc := 65) hX dX19_value_65 0 rfl ?_
  refine wg_mminl (pc := 67) hX q1387 q1388 q165 q1389 (by omega) (Nat.le_trans (Nat.le_of_ble_eq_true rfl : _ ≤ 60) (by omega)) dX19_value_67 ?_
  refine wu_ (wg_nml hX fun v12 => ?_)
  refine wg_mmaxl (pc := 70) hX q1390 q1391 q165 q1392 (by omega) (Nat.le_trans (Nat.le_of_ble_eq_true rfl : _ ≤ 60) (by omega)) dX19_value_70 ?_
  refine wu_ (wg_nml hX fun v13 => ?_)
  refine wg_l2i (pc := 73) hX dX19_value_73 ?_
  exact wu_rt (wg_iret (pc := 74) hX rfl rfl dX19_value_74)
theorem gm_X19_value : ∀ d : Nat, (∀ (r0 : Nat), amMet yX19_value cX19_value 8 (some .int) (2 + d) (64 + d * 27) encI [.ref (rid 9 r0), .ref (rid 29 1)] (up ((p_X19_value d) r0)))
  | 0 => fun _ => amMet.none (fun _ _ => rfl)
  | d + 1 => by
    have h0 := gm_X19_value d
    exact w_X19_value d (p_X19_value d) h0
theorem m_X19_value (r0 : Nat) : amMet yX19_value cX19_value 8 (some .int) 258 6976 encI [.ref (rid 9 r0), .ref (rid 29 1)] (up (p_X19_value 256 r0)) := (gm_X19_value 256) r0
theorem m_X20_holds (r0 : Nat) : amMet yX20_holds cX20_holds 4 (some .boolean) 259 7003 encI [.ref (rid 10 r0), .ref (rid 29 1)] (up (p_X20_holds r0)) := by
  refine amMet.of (own := RX20) (by decide) rfl (Nat.le_of_ble_eq_true rfl) fun X hX hPs => ?_
  change WG X encI 0 [(0, .ref (rid 10 r0)), (1, .ref (rid 29 1))] [] (bd1 (up (p_X20_holds r0)) rt1)
  unfold p_X20_holds
  refine wg_aload_n (pc := 0) hX dX20_holds_0 0 rfl ?_
  refine wu_ (wg_gRs (pc := 1) hX fd_X20_13 dX20_holds_1 fun r1 => ?_)
  refine wg_aload_n (pc := 4) hX dX20_holds_4 1 rfl ?_
  refine wu_ (wg_vciu (pc := 5) (x := ⟨"CityBrigade$Sum", "value", "([I)I"⟩) (n := 1) (f := fun c => if c = 12 then p_X18_value r1 else if c = 13 then p_X17_value r1 else if c = 14 then p_X19_value 256 r1 else fl0) (As := [.ref (rid 29 1)]) (rest := []) hX (by decide) (by decide) (fun c hc => by
        rcases am_mem3 hc with rfl | rfl | rfl
        · exact Or.inr ⟨RX18, TX18, 1, yX18_value, cX18_value, 2, (some .int), _, _, rfl, ⟨"CityBrigade$Sum", lw_U q1372 q1374 q1378 q1379 q187 q1380, by decide +kernel, Or.inr q1373⟩, m_X18_value r1, (Nat.le_of_ble_eq_true rfl), (Nat.le_of_ble_eq_true rfl)⟩
        · exact Or.inr ⟨RX17, TX17, 1, yX17_value, cX17_value, 2, (some .int), _, _, rfl, ⟨"CityBrigade$Sum", lw_U q1372 q1374 q1375 q1376 q186 q1377, by decide +kernel, Or.inr q1373⟩, m_X17_value r1, (Nat.le_of_ble_eq_true rfl), (Nat.le_of_ble_eq_true rfl)⟩
        · exact Or.inr ⟨RX19, TX19, 3, yX19_value, cX19_value, 8, (some .int), _, _, rfl, ⟨"CityBrigade$Sum", lw_U q1372 q1374 q1381 q1382 q188 q1383, by decide +kernel, Or.inr q1373⟩, m_X19_value r1, (Nat.le_of_ble_eq_true rfl), (Nat.le_of_ble_eq_true rfl)⟩) rfl (Nat.le_of_ble_eq_true rfl) rfl dX20_holds_5 fun v3 => ?_)
  refine wg_istore_n (pc := 8) (l' := [(0, .ref (rid 10 r0)), (1, .ref (rid 29 1)), (2, .int v3)]) hX dX20_holds_8 (by decide) rfl ?_
  refine wg_aload_n (pc := 9) hX dX20_holds_9 0 rfl ?_
  refine wu_ (wg_gRs (pc := 10) hX fd_X20_17 dX20_holds_10 fun r4 => ?_)
  refine wg_aload_n (pc := 13) hX dX20_holds_13 1 rfl ?_
  refine wu_ (wg_vciu (pc := 14) (x := ⟨"CityBrigade$Sum", "value", "([I)I"⟩) (n := 1) (f := fun c => if c = 12 then p_X18_value r4 else if c = 13 then p_X17_value r4 else if c = 14 then p_X19_value 256 r4 else fl0) (As := [.ref (rid 29 1)]) (rest := []) hX (by decide) (by decide) (fun c hc => by
        rcases am_mem3 hc with rfl | rfl | rfl
        · exact Or.inr ⟨RX18, TX18, 1, yX18_value, cX18_value, 2, (some .int), _, _, rfl, ⟨"CityBrigade$Sum", lw_U q1372 q1374 q1378 q1379 q187 q1380, by decide +kernel, Or.inr q1373⟩, m_X18_value r4, (Nat.le_of_ble_eq_true rfl), (Nat.le_of_ble_eq_true rfl)⟩
        · exact Or.inr ⟨RX17, TX17, 1, yX17_value, cX17_value, 2, (some .int), _, _, rfl, ⟨"CityBrigade$Sum", lw_U q1372 q1374 q1375 q1376 q186 q1377, by decide +kernel, Or.inr q1373⟩, m_X17_value r4, (Nat.le_of_ble_eq_true rfl), (Nat.le_of_ble_eq_true rfl)⟩
        · exact Or.inr ⟨RX19, TX19, 3, yX19_value, cX19_value, 8, (some .int), _, _, rfl, ⟨"CityBrigade$Sum", lw_U q1372 q1374 q1381 q1382 q188 q1383, by decide +kernel, Or.inr q1373⟩, m_X19_value r4, (Nat.le_of_ble_eq_true rfl), (Nat.le_of_ble_eq_true rfl)⟩) rfl (Nat.le_of_ble_eq_true rfl) rfl dX20_holds_14 fun v6 => ?_)
  refine wg_istore_n (pc := 17) (l' := [(0, .ref (rid 10 r0)), (1, .ref (rid 29 1)), (2, .int v3), (3, .int v6)]) hX dX20_holds_17 (by decide) rfl ?_
  refine wg_aload_n (pc := 18) hX dX20_holds_18 0 rfl ?_
  refine wu_ (wg_gIs (pc := 19) hX fd_X20_7 dX20_holds_19 fun v7 => ?_)
  refine wg_bipush (pc := 22) (v := 61) hX dX20_holds_22 rfl ?_
  refine wg_icmp_ne (pc := 24) (tgt := 40) hX dX20_holds_24 (by decide) (fun h8 => ?_) (fun h8 => ?_)
  · refine wu_t h8 ?_
    refine wg_iload_n (pc := 27) hX dX20_holds_27 2 rfl ?_
    refine wg_iload_n (pc := 28) hX dX20_holds_28 3 rfl ?_
    refine wg_icmp_ne (pc := 29) (tgt := 36) hX dX20_holds_29 (by decide) (fun h9 => ?_) (fun h9 => ?_)
    · refine wu_t h9 ?_
      refine wg_iconst (pc := 32) (v := 1) hX dX20_holds_32 rfl ?_
      refine wg_goto (pc := 33) (tgt := 72) hX dX20_holds_33 (by decide) ?_
      exact wu_rt (wg_zret (pc := 72) hX rfl (by decide) rfl dX20_holds_72)
    refine wu_f h9 ?_
    refine wg_iconst (pc := 36) (v := 0) hX dX20_holds_36 rfl ?_
    refine wg_goto (pc := 37) (tgt := 72) hX dX20_holds_37 (by decide) ?_
    exact wu_rt (wg_zret (pc := 72) hX rfl (by decide) rfl dX20_holds_72)
  refine wu_f h8 ?_
  refine wg_aload_n (pc := 40) hX dX20_holds_40 0 rfl ?_
  refine wu_ (wg_gIs (pc := 41) hX fd_X20_7 dX20_holds_41 fun v10 => ?_)
  refine wg_bipush (pc := 44) (v := 60) hX dX20_holds_44 rfl ?_
  refine wg_icmp_ne (pc := 46) (tgt := 62) hX dX20_holds_46 (by decide) (fun h11 => ?_) (fun h11 => ?_)
  rotate_left
  · refine wu_f h11 ?_
    refine wg_iload_n (pc := 62) hX dX20_holds_62 2 rfl ?_
    refine wg_iload_n (pc := 63) hX dX20_holds_63 3 rfl ?_
    refine wg_icmp_le (pc := 64) (tgt := 71) hX dX20_holds_64 (by decide) (fun h12 => ?_) (fun h12 => ?_)
    · refine wu_t h12 ?_
      refine wg_iconst (pc := 71) (v := 0) hX dX20_holds_71 rfl ?_
      exact wu_rt (wg_zret (pc := 72) hX rfl (by decide) rfl dX20_holds_72)
    refine wu_f h12 ?_
    refine wg_iconst (pc := 67) (v := 1) hX dX20_holds_67 rfl ?_
    refine wg_goto (pc := 68) (tgt := 72) hX dX20_holds_68 (by decide) ?_
    exact wu_rt (wg_zret (pc := 72) hX rfl (by decide) rfl dX20_holds_72)
  refine wu_t h11 ?_
  refine wg_iload_n (pc := 49) hX dX20_holds_49 2 rfl ?_
  refine wg_iload_n (pc := 50) hX dX20_holds_50 3 rfl ?_
  refine wg_icmp_ge (pc := 51) (tgt := 58) hX dX20_holds_51 (by decide) (fun h13 => ?_) (fun h13 => ?_)
  · refine wu_t h13 ?_
    refine wg_iconst (pc := 58) (v := 0) hX dX20_holds_58 rfl ?_
    refine wg_goto (pc := 59) (tgt := 72) hX dX20_holds_59 (by decide) ?_
    exact wu_rt (wg_zret (pc := 72) hX rfl (by decide) rfl dX20_holds_72)
  refine wu_f h13 ?_
  refine wg_iconst (pc := 54) (v := 1) hX dX20_holds_54 rfl ?_
  refine wg_goto (pc := 55) (tgt := 72) hX dX20_holds_55 (by decide) ?_
  exact wu_rt (wg_zret (pc := 72) hX rfl (by decide) rfl dX20_holds_72)
theorem w_X15_holds (d : Nat) (s_X15_holds : Nat → am0 Int32) (s_X21_holds : Nat → am0 Int32) (hm_X15_holds : ∀ (r0 : Nat), amMet yX15_holds cX15_holds 2 (some .boolean) (260 + d) (7026 + d * 21) encI [.ref (rid 10 r0), .ref (rid 29 1)] (up (s_X15_holds r0))) (hm_X21_holds : ∀ (r0 : Nat), amMet yX21_holds cX21_holds 2 (some .boolean) (260 + d) (7026 + d * 21) encI [.ref (rid 10 r0), .ref (rid 29 1)] (up (s_X21_holds r0))) (r0 : Nat) : amMet yX15_holds cX15_holds 2 (some .boolean) (260 + (d + 1)) (7026 + (d + 1) * 21) encI [.ref (rid 10 r0), .ref (rid 29 1)] (up (b_X15_holds s_X15_holds s_X21_holds r0)) := by
  refine amMet.of (own := RX15) (by decide) rfl (Nat.le_of_ble_eq_true rfl) fun X hX hPs => ?_
  change WG X encI 0 [(0, .ref (rid 10 r0)), (1, .ref (rid 29 1))] [] (bd1 (up (b_X15_holds s_X15_holds s_X21_holds r0)) rt1)
  unfold b_X15_holds
  refine wg_aload_n (pc := 0) hX dX15_holds_0 0 rfl ?_
  refine wu_ (wg_gRs (pc := 1) hX fd_X15_7 dX15_holds_1 fun r1 => ?_)
  refine wg_aload_n (pc := 4) hX dX15_holds_4 1 rfl ?_
  refine wu_ (wg_vciu (pc := 5) (x := ⟨"CityBrigade$Test", "holds", "([I)Z"⟩) (n := 1) (f := fun c => if c = 15 then p_X20_holds r1 else if c = 16 then s_X15_holds r1 else if c = 17 then s_X21_holds r1 else fl0) (As := [.ref (rid 29 1)]) (rest := []) hX (by decide) (by decide) (fun c hc => by
        rcases am_mem3 hc with rfl | rfl | rfl
        · exact Or.inr ⟨RX20, TX20, 3, yX20_holds, cX20_holds, 4, (some .boolean), _, _, rfl, ⟨"CityBrigade$Test", lw_U q1395 q1365 q1396 q1370 q189 q1371, by decide +kernel, Or.inr q1364⟩, m_X20_holds r1, (by omega), (by omega)⟩
        · exact Or.inr ⟨RX15, TX15, 1, yX15_holds, cX15_holds, 2, (some .boolean), _, _, rfl, ⟨"CityBrigade$Test", lw_U q1395 q1365 q1397 q1393 q184 q1394, by decide +kernel, Or.inr q1364⟩, hm_X15_holds r1, (by omega), (by omega)⟩
        · exact Or.inr ⟨RX21, TX21, 3, yX21_holds, cX21_holds, 2, (some .boolean), _, _, rfl, ⟨"CityBrigade$Test", lw_U q1395 q1365 q1366 q1367 q190 q1368, by decide +kernel, Or.inr q1364⟩, hm_X21_holds r1, (by omega), (by omega)⟩) rfl (Nat.le_of_ble_eq_true rfl) rfl dX15_holds_5 fun v3 => ?_)
  refine wg_if_ne (pc := 8) (tgt := 15) hX dX15_holds_8 (by decide) (fun h4 => ?_) (fun h4 => ?_)
  rotate_left
  · refine wu_f h4 ?_
    refine wg_iconst (pc := 15) (v := 0) hX dX15_holds_15 rfl ?_
    exact wu_rt (wg_zret (pc := 16) hX rfl (by decide) rfl dX15_holds_16)
  refine wu_t h4 ?_
  refine wg_iconst (pc := 11) (v := 1) hX dX15_holds_11 rfl ?_
  refine wg_goto (pc := 12) (tgt := 16) hX dX15_holds_12 (by decide) ?_
  exact wu_rt (wg_zret (pc := 16) hX rfl (by decide) rfl dX15_holds_16)
theorem w_X21_holds (d : Nat) (s_X15_holds : Nat → am0 Int32) (s_X21_holds : Nat → am0 Int32) (hm_X15_holds : ∀ (r0 : Nat), amMet yX15_holds cX15_holds 2 (some .boolean) (260 + d) (7026 + d * 21) encI [.ref (rid 10 r0), .ref (rid 29 1)] (up (s_X15_holds r0))) (hm_X21_holds : ∀ (r0 : Nat), amMet yX21_holds cX21_holds 2 (some .boolean) (260 + d) (7026 + d * 21) encI [.ref (rid 10 r0), .ref (rid 29 1)] (up (s_X21_holds r0))) (r0 : Nat) : amMet yX21_holds cX21_holds 2 (some .boolean) (260 + (d + 1)) (7026 + (d + 1) * 21) encI [.ref (rid 10 r0), .ref (rid 29 1)] (up (b_X21_holds s_X15_holds s_X21_holds r0)) := by
  refine amMet.of (own := RX21) (by decide) rfl (Nat.le_of_ble_eq_true rfl) fun X hX hPs => ?_
  change WG X encI 0 [(0, .ref (rid 10 r0)), (1, .ref (rid 29 1))] [] (bd1 (up (b_X21_holds s_X15_holds s_X21_holds r0)) rt1)
  unfold b_X21_holds
  refine wg_aload_n (pc := 0) hX dX21_holds_0 0 rfl ?_
  refine wu_ (wg_gIs (pc := 1) hX fd_X21_7 dX21_holds_1 fun v1 => ?_)
  refine wg_if_eq (pc := 4) (tgt := 37) hX dX21_holds_4 (by decide) (fun h2 => ?_) (fun h2 => ?_)
  · refine wu_t h2 ?_
    refine wg_aload_n (pc := 37) hX dX21_holds_37 0 rfl ?_
    refine wu_ (wg_gRs (pc := 38) hX fd_X21_13 dX21_holds_38 fun r3 => ?_)
    refine wg_aload_n (pc := 41) hX dX21_holds_41 1 rfl ?_
    refine wu_ (wg_vciu (pc := 42) (x := ⟨"CityBrigade$Test", "holds", "([I)Z"⟩) (n := 1) (f := fun c => if c = 15 then p_X20_holds r3 else if c = 16 then s_X15_holds r3 else if c = 17 then s_X21_holds r3 else fl0) (As := [.ref (rid 29 1)]) (rest := []) hX (by decide) (by decide) (fun c hc => by
          rcases am_mem3 hc with rfl | rfl | rfl
          · exact Or.inr ⟨RX20, TX20, 3, yX20_holds, cX20_holds, 4, (some .boolean), _, _, rfl, ⟨"CityBrigade$Test", lw_U q1369 q1365 q1396 q1370 q189 q1371, by decide +kernel, Or.inr q1364⟩, m_X20_holds r3, (by omega), (by omega)⟩
          · exact Or.inr ⟨RX15, TX15, 1, yX15_holds, cX15_holds, 2, (some .boolean), _, _, rfl, ⟨"CityBrigade$Test", lw_U q1369 q1365 q1397 q1393 q184 q1394, by decide +kernel, Or.inr q1364⟩, hm_X15_holds r3, (by omega), (by omega)⟩
          · exact Or.inr ⟨RX21, TX21, 3, yX21_holds, cX21_holds, 2, (some .boolean), _, _, rfl, ⟨"CityBrigade$Test", lw_U q1369 q1365 q1366 q1367 q190 q1368, by decide +kernel, Or.inr q1364⟩, hm_X21_holds r3, (by omega), (by omega)⟩) rfl (Nat.le_of_ble_eq_true rfl) rfl dX21_holds_42 fun v5 => ?_)
    refine wu_jn (α := Unit) (pcJ := 59) (lJ := fun x => []) (sJ := fun x => []) (fun k6 hk6 => ?_) (fun z6 => ?_)
    · refine wg_if_ne (pc := 45) (tgt := 59) hX dX21_holds_45 (by decide) (fun h7 => ?_) (fun h7 => ?_)
      rotate_left
      · refine wu_f h7 ?_
        refine wg_sub hX [] rfl ?_
        exact hk6 ()
      refine wu_t h7 ?_
      refine wg_aload_n (pc := 48) hX dX21_holds_48 0 rfl ?_
      refine wu_ (wg_gRs (pc := 49) hX fd_X21_17 dX21_holds_49 fun r8 => ?_)
      refine wg_aload_n (pc := 52) hX dX21_holds_52 1 rfl ?_
      refine wu_ (wg_vciu (pc := 53) (x := ⟨"CityBrigade$Test", "holds", "([I)Z"⟩) (n := 1) (f := fun c => if c = 15 then p_X20_holds r8 else if c = 16 then s_X15_holds r8 else if c = 17 then s_X21_holds r8 else fl0) (As := [.ref (rid 29 1)]) (rest := []) hX (by decide) (by decide) (fun c hc => by
            rcases am_mem3 hc with rfl | rfl | rfl
            · exact Or.inr ⟨RX20, TX20, 3, yX20_holds, cX20_holds, 4, (some .boolean), _, _, rfl, ⟨"CityBrigade$Test", lw_U q1369 q1365 q1396 q1370 q189 q1371, by decide +kernel, Or.inr q1364⟩, m_X20_holds r8, (by omega), (by omega)⟩
            · exact Or.inr ⟨RX15, TX15, 1, yX15_holds, cX15_holds, 2, (some .boolean), _, _, rfl, ⟨"CityBrigade$Test", lw_U q1369 q1365 q1397 q1393 q184 q1394, by decide +kernel, Or.inr q1364⟩, hm_X15_holds r8, (by omega), (by omega)⟩
            · exact Or.inr ⟨RX21, TX21, 3, yX21_holds, cX21_holds, 2, (some .boolean), _, _, rfl, ⟨"CityBrigade$Test", lw_U q1369 q1365 q1366 q1367 q190 q1368, by decide +kernel, Or.inr q1364⟩, hm_X21_holds r8, (by omega), (by omega)⟩) rfl (Nat.le_of_ble_eq_true rfl) rfl dX21_holds_53 fun v10 => ?_)
      refine wg_if_eq (pc := 56) (tgt := 63) hX dX21_holds_56 (by decide) (fun h11 => ?_) (fun h11 => ?_)
      rotate_left
      · refine wu_f h11 ?_
        refine wg_sub hX [] rfl ?_
        exact hk6 ()
      refine wu_t h11 ?_
      refine wg_iconst (pc := 63) (v := 0) hX dX21_holds_63 rfl ?_
      exact wu_rt (wg_zret (pc := 64) hX rfl (by decide) rfl dX21_holds_64)
    refine wg_iconst (pc := 59) (v := 1) hX dX21_holds_59 rfl ?_
    refine wg_goto (pc := 60) (tgt := 64) hX dX21_holds_60 (by decide) ?_
    exact wu_rt (wg_zret (pc := 64) hX rfl (by decide) rfl dX21_holds_64)
  refine wu_f h2 ?_
  refine wg_aload_n (pc := 7) hX dX21_holds_7 0 rfl ?_
  refine wu_ (wg_gRs (pc := 8) hX fd_X21_13 dX21_holds_8 fun r12 => ?_)
  refine wg_aload_n (pc := 11) hX dX21_holds_11 1 rfl ?_
  refine wu_ (wg_vciu (pc := 12) (x := ⟨"CityBrigade$Test", "holds", "([I)Z"⟩) (n := 1) (f := fun c => if c = 15 then p_X20_holds r12 else if c = 16 then s_X15_holds r12 else if c = 17 then s_X21_holds r12 else fl0) (As := [.ref (rid 29 1)]) (rest := []) hX (by decide) (by decide) (fun c hc => by
        rcases am_mem3 hc with rfl | rfl | rfl
        · exact Or.inr ⟨RX20, TX20, 3, yX20_holds, cX20_holds, 4, (some .boolean), _, _, rfl, ⟨"CityBrigade$Test", lw_U q1369 q1365 q1396 q1370 q189 q1371, by decide +kernel, Or.inr q1364⟩, m_X20_holds r12, (by omega), (by omega)⟩
        · exact Or.inr ⟨RX15, TX15, 1, yX15_holds, cX15_holds, 2, (some .boolean), _, _, rfl, ⟨"CityBrigade$Test", lw_U q1369 q1365 q1397 q1393 q184 q1394, by decide +kernel, Or.inr q1364⟩, hm_X15_holds r12, (by omega), (by omega)⟩
        · exact Or.inr ⟨RX21, TX21, 3, yX21_holds, cX21_holds, 2, (some .boolean), _, _, rfl, ⟨"CityBrigade$Test", lw_U q1369 q1365 q1366 q1367 q190 q1368, by decide +kernel, Or.inr q1364⟩, hm_X21_holds r12, (by omega), (by omega)⟩) rfl (Nat.le_of_ble_eq_true rfl) rfl dX21_holds_12 fun v14 => ?_)
  refine wu_jn (α := Unit) (pcJ := 33) (lJ := fun x => []) (sJ := fun x => []) (fun k15 hk15 => ?_) (fun z15 => ?_)
  · refine wg_if_eq (pc := 15) (tgt := 33) hX dX21_holds_15 (by decide) (fun h16 => ?_) (fun h16 => ?_)
    · refine wu_t h16 ?_
      refine wg_sub hX [] rfl ?_
      exact hk15 ()
    refine wu_f h16 ?_
    refine wg_aload_n (pc := 18) hX dX21_holds_18 0 rfl ?_
    refine wu_ (wg_gRs (pc := 19) hX fd_X21_17 dX21_holds_19 fun r17 => ?_)
    refine wg_aload_n (pc := 22) hX dX21_holds_22 1 rfl ?_
    refine wu_ (wg_vciu (pc := 23) (x := ⟨"CityBrigade$Test", "holds", "([I)Z"⟩) (n := 1) (f := fun c => if c = 15 then p_X20_holds r17 else if c = 16 then s_X15_holds r17 else if c = 17 then s_X21_holds r17 else fl0) (As := [.ref (rid 29 1)]) (rest := []) hX (by decide) (by decide) (fun c hc => by
          rcases am_mem3 hc with rfl | rfl | rfl
          · exact Or.inr ⟨RX20, TX20, 3, yX20_holds, cX20_holds, 4, (some .boolean), _, _, rfl, ⟨"CityBrigade$Test", lw_U q1369 q1365 q1396 q1370 q189 q1371, by decide +kernel, Or.inr q1364⟩, m_X20_holds r17, (by omega), (by omega)⟩
          · exact Or.inr ⟨RX15, TX15, 1, yX15_holds, cX15_holds, 2, (some .boolean), _, _, rfl, ⟨"CityBrigade$Test", lw_U q1369 q1365 q1397 q1393 q184 q1394, by decide +kernel, Or.inr q1364⟩, hm_X15_holds r17, (by omega), (by omega)⟩
          · exact Or.inr ⟨RX21, TX21, 3, yX21_holds, cX21_holds, 2, (some .boolean), _, _, rfl, ⟨"CityBrigade$Test", lw_U q1369 q1365 q1366 q1367 q190 q1368, by decide +kernel, Or.inr q1364⟩, hm_X21_holds r17, (by omega), (by omega)⟩) rfl (Nat.le_of_ble_eq_true rfl) rfl dX21_holds_23 fun v19 => ?_)
    refine wg_if_eq (pc := 26) (tgt := 33) hX dX21_holds_26 (by decide) (fun h20 => ?_) (fun h20 => ?_)
    · refine wu_t h20 ?_
      refine wg_sub hX [] rfl ?_
      exact hk15 ()
    refine wu_f h20 ?_
    refine wg_iconst (pc := 29) (v := 1) hX dX21_holds_29 rfl ?_
    refine wg_goto (pc := 30) (tgt := 64) hX dX21_holds_30 (by decide) ?_
    exact wu_rt (wg_zret (pc := 64) hX rfl (by decide) rfl dX21_holds_64)
  refine wg_iconst (pc := 33) (v := 0) hX dX21_holds_33 rfl ?_
  refine wg_goto (pc := 34) (tgt := 64) hX dX21_holds_34 (by decide) ?_
  exact wu_rt (wg_zret (pc := 64) hX rfl (by decide) rfl dX21_holds_64)
theorem gm_X15_holds : ∀ d : Nat, (∀ (r0 : Nat), amMet yX15_holds cX15_holds 2 (some .boolean) (260 + d) (7026 + d * 21) encI [.ref (rid 10 r0), .ref (rid 29 1)] (up ((p_X15_holds d) r0))) ∧ (∀ (r0 : Nat), amMet yX21_holds cX21_holds 2 (some .boolean) (260 + d) (7026 + d * 21) encI [.ref (rid 10 r0), .ref (rid 29 1)] (up ((p_X21_holds d) r0)))
  | 0 => ⟨fun _ => amMet.none (fun _ _ => rfl), fun _ => amMet.none (fun _ _ => rfl)⟩
  | d + 1 => by
    obtain ⟨h0, h1⟩ := gm_X15_holds d
    exact ⟨w_X15_holds d (p_X15_holds d) (p_X21_holds d) h0 h1, w_X21_holds d (p_X15_holds d) (p_X21_holds d) h0 h1⟩
theorem m_X15_holds (r0 : Nat) : amMet yX15_holds cX15_holds 2 (some .boolean) 516 12402 encI [.ref (rid 10 r0), .ref (rid 29 1)] (up (p_X15_holds 256 r0)) := (gm_X15_holds 256).1 r0
theorem m_X21_holds (r0 : Nat) : amMet yX21_holds cX21_holds 2 (some .boolean) 516 12402 encI [.ref (rid 10 r0), .ref (rid 29 1)] (up (p_X21_holds 256 r0)) := (gm_X15_holds 256).2 r0
theorem m_X1_answer (a1 : Int32) (a2 : Int32) : amMet yX1_answer cX1_answer 6 none 517 12423 encV [.ref (rid 0 1), .int a1, .int a2] (up (p_X1_answer a1 a2)) := by
  refine amMet.of (own := RX1) (by decide) rfl (Nat.le_of_ble_eq_true rfl) fun X hX hPs => ?_
  change WG X encV 0 [(0, .ref (rid 0 1)), (1, .int a1), (2, .int a2)] [] (bd1 (up (p_X1_answer a1 a2)) rt1)
  unfold p_X1_answer
  have hM0 := amPs.m0 hPs
  refine wu_ (wg_gM ?_)
  refine wg_aload_n (pc := 0) hX dX1_answer_0 0 rfl ?_
  refine wg_iload_n (pc := 1) hX dX1_answer_1 1 rfl ?_
  refine wg_iload_n (pc := 2) hX dX1_answer_2 2 rfl ?_
  refine wu_ (wg_cVv (pc := 3) (As := [.int a1, .int a2]) (rest := []) hX (m_X1_hear a1 a2) (by decide) (by decide) (by decide) rc_X1 (lw_V q1340 q1342 qs39 q159 q1343) hd_X1_hear rfl (Nat.le_of_ble_eq_true rfl) (Nat.le_of_ble_eq_true rfl) (Nat.le_of_ble_eq_true rfl) rfl dX1_answer_3 ?_)
  refine wg_aload_n (pc := 6) hX dX1_answer_6 0 rfl ?_
  refine wg_iconst (pc := 7) (v := 0) hX dX1_answer_7 rfl ?_
  refine wu_ (wg_pI (pc := 8) hX fp_X1_618 (fun h => by cases h) dX1_answer_8 ?_)
  refine wg_iconst (pc := 11) (v := 0) hX dX1_answer_11 rfl ?_
  refine wg_istore_n (pc := 12) (l' := [(0, .ref (rid 0 1)), (1, .int a1), (2, .int a2), (3, .int 0)]) hX dX1_answer_12 (by decide) rfl ?_
  refine wg_sub hX [0, 3] rfl ?_
  refine wu_lpx (α := Int32) (γ := Unit) (pcl := 13) (pcT := 31) (lo := fun x => [(0, .ref (rid 0 1)), (3, .int x)]) (so := fun _ => []) (lT := fun x => [(0, .ref (rid 0 1))]) (sT := fun _ => []) (n := amFu) (x0 := 0) (fun K1 rec1 hrec1 hk1 x1 => ?_) (fun y2 => ?_)
  · unfold p_X1_answer_L13
    refine wg_iload_n (pc := 13) hX dX1_answer_13 1 rfl ?_
    refine wg_iconst (pc := 14) (v := 4) hX dX1_answer_14 rfl ?_
    refine wg_icmp_gt (pc := 15) (tgt := 31) hX dX1_answer_15 (by decide) (fun h3 => ?_) (fun h3 => ?_)
    · refine wu_t h3 ?_
      refine wg_sub hX [0] rfl ?_
      exact wu_rt (hk1 ())
    refine wu_f h3 ?_
    refine wg_aload_n (pc := 18) hX dX1_answer_18 0 rfl ?_
    refine wg_gK (pc := 19) hX hM0 fd_X1_78 (by decide) dX1_answer_19 ?_
    refine wg_iload_n (pc := 22) hX dX1_answer_22 1 rfl ?_
    refine wg_iconst (pc := 23) (v := 0) hX dX1_answer_23 rfl ?_
    refine wu_ (wg_wI (pc := 24) hX ar_33 dX1_answer_24 ?_)
    refine wg_iinc (pc := 25) (v := (x1 + 1)) (l' := [(0, .ref (rid 0 1)), (3, .int (x1 + 1))]) hX dX1_answer_25 1 rfl rfl (by decide) rfl ?_
    refine wg_goto (pc := 28) (tgt := 13) hX dX1_answer_28 (by decide) ?_
    exact hrec1 (x1 + 1)
  refine wg_iconst (pc := 31) (v := 0) hX dX1_answer_31 rfl ?_
  refine wg_istore_n (pc := 32) (l' := [(0, .ref (rid 0 1)), (3, .int 0)]) hX dX1_answer_32 (by decide) rfl ?_
  refine wg_aload_n (pc := 33) hX dX1_answer_33 0 rfl ?_
  refine wu_ (wg_gI (pc := 34) hX fd_X1_580 dX1_answer_34 fun v4 => ?_)
  refine wu_jx (α := Nat) (pcJ := 55) (lJ := fun x => [(0, .ref (rid 0 1)), (3, .int 0)]) (sJ := fun x => [.ref (rid 8 x)]) (fun K5 hk5 => ?_) (fun z5 => ?_)
  · refine wg_if_ne (pc := 37) (tgt := 44) hX dX1_answer_37 (by decide) (fun h6 => ?_) (fun h6 => ?_)
    · refine wu_t h6 ?_
      refine wg_null (pc := 40) (q := 8) hX (by decide) dX1_answer_40 ?_
      refine wg_goto (pc := 41) (tgt := 55) hX dX1_answer_41 (by decide) ?_
      exact wu_rt (hk5 0)
    refine wu_f h6 ?_
    refine wg_aload_n (pc := 44) hX dX1_answer_44 0 rfl ?_
    refine wg_gK (pc := 45) hX hM0 fd_X1_68 (by decide) dX1_answer_45 ?_
    refine wg_aload_n (pc := 48) hX dX1_answer_48 0 rfl ?_
    refine wu_ (wg_gI (pc := 49) hX fd_X1_580 dX1_answer_49 fun v7 => ?_)
    refine wg_iconst (pc := 52) (v := 1) hX dX1_answer_52 rfl ?_
    refine wg_isub (pc := 53) hX dX1_answer_53 ?_
    refine wu_ (wg_rR (pc := 54) hX ar_31 (by decide) dX1_answer_54 fun r8 => ?_)
    exact wu_rt (hk5 r8)
  refine wg_astore (pc := 55) (l' := [(0, .ref (rid 0 1)), (3, .int 0), (4, .ref (rid 8 z5))]) hX dX1_answer_55 (by decide) rfl ?_
  refine wu_lpx (α := Int32 × Nat) (γ := Unit) (pcl := 57) (pcT := 155) (lo := fun x => [(0, .ref (rid 0 1)), (3, .int x.1), (4, .ref (rid 8 x.2))]) (so := fun _ => []) (lT := fun x => []) (sT := fun _ => []) (n := amFu) (x0 := (0, z5)) (fun K9 rec9 hrec9 hk9 x9 => ?_) (fun y10 => ?_)
  · unfold p_X1_answer_L57
    refine wg_aload (pc := 57) hX dX1_answer_57 2 rfl ?_
    refine wg_ifnull (pc := 59) (tgt := 155) hX (by decide) dX1_answer_59 (by decide) (fun h11 => ?_) (fun h11 => ?_)
    · refine wu_t h11 ?_
      refine wg_sub hX [] rfl ?_
      exact wu_rt (hk9 ())
    refine wu_f h11 ?_
    refine wg_aload (pc := 62) hX dX1_answer_62 2 rfl ?_
    refine wu_ (wg_gR (pc := 64) hX fd_X1_621 dX1_answer_64 fun r12 => ?_)
    refine wg_aload_n (pc := 67) hX dX1_answer_67 0 rfl ?_
    refine wg_gK (pc := 68) hX hM0 fd_X1_52 (by decide) dX1_answer_68 ?_
    refine wu_ (wg_vciu (pc := 71) (x := ⟨"CityBrigade$Test", "holds", "([I)Z"⟩) (n := 1) (f := fun c => if c = 15 then p_X20_holds r12 else if c = 16 then p_X15_holds 256 r12 else if c = 17 then p_X21_holds 256 r12 else fl0) (As := [.ref (rid 29 1)]) (rest := []) hX (by decide) (by decide) (fun c hc => by
          rcases am_mem3 hc with rfl | rfl | rfl
          · exact Or.inr ⟨RX20, TX20, 3, yX20_holds, cX20_holds, 4, (some .boolean), _, _, rfl, ⟨"CityBrigade$Test", lw_U q1363 q1365 q1396 q1370 q189 q1371, by decide +kernel, Or.inr q1364⟩, m_X20_holds r12, (Nat.le_of_ble_eq_true rfl), (Nat.le_of_ble_eq_true rfl)⟩
          · exact Or.inr ⟨RX15, TX15, 1, yX15_holds, cX15_holds, 2, (some .boolean), _, _, rfl, ⟨"CityBrigade$Test", lw_U q1363 q1365 q1397 q1393 q184 q1394, by decide +kernel, Or.inr q1364⟩, m_X15_holds r12, (Nat.le_of_ble_eq_true rfl), (Nat.le_of_ble_eq_true rfl)⟩
          · exact Or.inr ⟨RX21, TX21, 3, yX21_holds, cX21_holds, 2, (some .boolean), _, _, rfl, ⟨"CityBrigade$Test", lw_U q1363 q1365 q1366 q1367 q190 q1368, by decide +kernel, Or.inr q1364⟩, m_X21_holds r12, (Nat.le_of_ble_eq_true rfl), (Nat.le_of_ble_eq_true rfl)⟩) rfl (Nat.le_of_ble_eq_true rfl) rfl dX1_answer_71 fun v14 => ?_)
    refine wu_jx (α := Unit) (pcJ := 142) (lJ := fun x => [(0, .ref (rid 0 1)), (3, .int x9.1), (4, .ref (rid 8 x9.2))]) (sJ := fun x => []) (fun K15 hk15 => ?_) (fun z15 => ?_)
    · refine wg_if_eq (pc := 74) (tgt := 142) hX dX1_answer_74 (by decide) (fun h16 => ?_) (fun h16 => ?_)
      · refine wu_t h16 ?_
        exact wu_rt (hk15 ())
      refine wu_f h16 ?_
      refine wg_aload_n (pc := 77) hX dX1_answer_77 0 rfl ?_
      refine wg_dup (pc := 78) hX dX1_answer_78 rfl ?_
      refine wu_ (wg_gI (pc := 79) hX fd_X1_618 dX1_answer_79 fun v17 => ?_)
      refine wg_iload_n (pc := 82) hX dX1_answer_82 1 rfl ?_
      refine wg_bipush (pc := 83) (v := 30) hX dX1_answer_83 rfl ?_
      refine wu_jx (α := Int32) (pcJ := 95) (lJ := fun x => [(0, .ref (rid 0 1)), (3, .int x9.1), (4, .ref (rid 8 x9.2))]) (sJ := fun x => [.int x, .int v17, .ref (rid 0 1)]) (fun K18 hk18 => ?_) (fun z18 => ?_)
      · refine wg_icmp_ge (pc := 85) (tgt := 94) hX dX1_answer_85 (by decide) (fun h19 => ?_) (fun h19 => ?_)
        · refine wu_t h19 ?_
          refine wg_iconst (pc := 94) (v := 0) hX dX1_answer_94 rfl ?_
          exact wu_rt (hk18 0)
        refine wu_f h19 ?_
        refine wg_iconst (pc := 88) (v := 1) hX dX1_answer_88 rfl ?_
        refine wg_iload_n (pc := 89) hX dX1_answer_89 1 rfl ?_
        refine wg_ishl (pc := 90) hX dX1_answer_90 ?_
        refine wg_goto (pc := 91) (tgt := 95) hX dX1_answer_91 (by decide) ?_
        exact wu_rt (hk18 ((1 : Int32) <<< (x9.1 &&& 31)))
      refine wg_ior (pc := 95) hX dX1_answer_95 ?_
      refine wu_ (wg_pI (pc := 96) hX fp_X1_618 (fun h => by cases h) dX1_answer_96 ?_)
      refine wg_iconst (pc := 99) (v := 0) hX dX1_answer_99 rfl ?_
      refine wg_istore (pc := 100) (l' := [(0, .ref (rid 0 1)), (3, .int x9.1), (4, .ref (rid 8 x9.2)), (5, .int 0)]) hX dX1_answer_100 (by decide) rfl ?_
      refine wu_lpx (α := Int32) (γ := Unit) (pcl := 102) (pcT := 142) (lo := fun x => [(0, .ref (rid 0 1)), (3, .int x9.1), (4, .ref (rid 8 x9.2)), (5, .int x)]) (so := fun _ => []) (lT := fun x => [(0, .ref (rid 0 1)), (3, .int x9.1), (4, .ref (rid 8 x9.2))]) (sT := fun _ => []) (n := amFu) (x0 := 0) (fun K20 rec20 hrec20 hk20 x20 => ?_) (fun y21 => ?_)
      · unfold p_X1_answer_L102
        refine wg_iload (pc := 102) hX dX1_answer_102 3 rfl ?_
        refine wg_iconst (pc := 104) (v := 4) hX dX1_answer_104 rfl ?_
        refine wg_icmp_gt (pc := 105) (tgt := 142) hX dX1_answer_105 (by decide) (fun h22 => ?_) (fun h22 => ?_)
        · refine wu_t h22 ?_
          refine wg_sub hX [0, 1, 2] rfl ?_
          exact wu_rt (hk20 ())
        refine wu_f h22 ?_
        refine wg_aload_n (pc := 108) hX dX1_answer_108 0 rfl ?_
        refine wg_gK (pc := 109) hX hM0 fd_X1_78 (by decide) dX1_answer_109 ?_
        refine wg_iload (pc := 112) hX dX1_answer_112 3 rfl ?_
        refine wg_bipush (pc := 114) (v := 9) hX dX1_answer_114 rfl ?_
        refine wg_aload_n (pc := 116) hX dX1_answer_116 0 rfl ?_
        refine wg_gK (pc := 117) hX hM0 fd_X1_78 (by decide) dX1_answer_117 ?_
        refine wg_iload (pc := 120) hX dX1_answer_120 3 rfl ?_
        refine wu_ (wg_rI (pc := 122) hX ar_33 dX1_answer_122 fun v23 => ?_)
        refine wg_aload (pc := 123) hX dX1_answer_123 2 rfl ?_
        refine wu_ (wg_gR (pc := 125) hX fd_X1_559 dX1_answer_125 fun r24 => ?_)
        refine wg_iload (pc := 128) hX dX1_answer_128 3 rfl ?_
        refine wu_ (wg_rI (pc := 130) hX ar_152 dX1_answer_130 fun v25 => ?_)
        refine wg_iadd (pc := 131) hX dX1_answer_131 ?_
        refine wg_mmin (pc := 132) hX q1314 q1149 q165 q1150 (Nat.le_of_ble_eq_true rfl) (Nat.le_of_ble_eq_true rfl) dX1_answer_132 ?_
        refine wu_ (wg_nmi hX fun v26 => ?_)
        refine wu_ (wg_wI (pc := 135) hX ar_33 dX1_answer_135 ?_)
        refine wg_iinc (pc := 136) (v := (x20 + 1)) (l' := [(0, .ref (rid 0 1)), (3, .int x9.1), (4, .ref (rid 8 x9.2)), (5, .int (x20 + 1))]) hX dX1_answer_136 3 rfl rfl (by decide) rfl ?_
        refine wg_goto (pc := 139) (tgt := 102) hX dX1_answer_139 (by decide) ?_
        exact hrec20 (x20 + 1)
      exact wu_rt (hk15 ())
    refine wg_iinc (pc := 142) (v := (x9.1 + 1)) (l' := [(0, .ref (rid 0 1)), (3, .int (x9.1 + 1)), (4, .ref (rid 8 x9.2))]) hX dX1_answer_142 1 rfl rfl (by decide) rfl ?_
    refine wg_aload (pc := 145) hX dX1_answer_145 2 rfl ?_
    refine wu_ (wg_gR (pc := 147) hX fd_X1_569 dX1_answer_147 fun r27 => ?_)
    refine wg_astore (pc := 150) (l' := [(0, .ref (rid 0 1)), (3, .int (x9.1 + 1)), (4, .ref (rid 8 r27))]) hX dX1_answer_150 (by decide) rfl ?_
    refine wg_goto (pc := 152) (tgt := 57) hX dX1_answer_152 (by decide) ?_
    exact hrec9 ((x9.1 + 1), r27)
  exact wu_rt (wg_vret (pc := 155) hX rfl rfl dX1_answer_155)
theorem m_X1_asks (a1 : Int32) (a2 : Int32) (a3 : Int32) : amMet yX1_asks cX1_asks 4 (some .int) 518 12448 encI [.ref (rid 0 1), .int a1, .int a2, .int a3] (up (p_X1_asks a1 a2 a3)) := by
  refine amMet.of (own := RX1) (by decide) rfl (Nat.le_of_ble_eq_true rfl) fun X hX hPs => ?_
  change WG X encI 0 [(0, .ref (rid 0 1)), (1, .int a1), (2, .int a2), (3, .int a3)] [] (bd1 (up (p_X1_asks a1 a2 a3)) rt1)
  unfold p_X1_asks
  have hM0 := amPs.m0 hPs
  refine wu_ (wg_gM ?_)
  refine wg_iload_n (pc := 0) hX dX1_asks_0 1 rfl ?_
  refine wu_ (wg_cSi (pc := 1) (As := [.int a1]) (rest := []) hX (m_X1_isCorner a1) (lw_S q468 q469 q159 q470) hd_X1_isCorner rfl (Nat.le_of_ble_eq_true rfl) (Nat.le_of_ble_eq_true rfl) (Nat.le_of_ble_eq_true rfl) rfl dX1_asks_1 fun v1 => ?_)
  refine wg_if_eq (pc := 4) (tgt := 25) hX dX1_asks_4 (by decide) (fun h2 => ?_) (fun h2 => ?_)
  · refine wu_t h2 ?_
    refine wg_iconst (pc := 25) (v := (-1)) hX dX1_asks_25 rfl ?_
    exact wu_rt (wg_iret (pc := 26) hX rfl rfl dX1_asks_26)
  refine wu_f h2 ?_
  refine wg_iload_n (pc := 7) hX dX1_asks_7 2 rfl ?_
  refine wg_iconst (pc := 8) (v := 1) hX dX1_asks_8 rfl ?_
  refine wg_iconst (pc := 9) (v := 3) hX dX1_asks_9 rfl ?_
  refine wu_ (wg_cSi (pc := 10) (As := [.int a2, .int 1, .int 3]) (rest := []) hX (m_X1_in a2 1 3) (lw_S q471 q472 q159 q473) hd_X1_in rfl (Nat.le_of_ble_eq_true rfl) (Nat.le_of_ble_eq_true rfl) (Nat.le_of_ble_eq_true rfl) rfl dX1_asks_10 fun v3 => ?_)
  refine wg_if_eq (pc := 13) (tgt := 25) hX dX1_asks_13 (by decide) (fun h4 => ?_) (fun h4 => ?_)
  · refine wu_t h4 ?_
    refine wg_iconst (pc := 25) (v := (-1)) hX dX1_asks_25 rfl ?_
    exact wu_rt (wg_iret (pc := 26) hX rfl rfl dX1_asks_26)
  refine wu_f h4 ?_
  refine wg_iload_n (pc := 16) hX dX1_asks_16 3 rfl ?_
  refine wg_iconst (pc := 17) (v := 0) hX dX1_asks_17 rfl ?_
  refine wg_iconst (pc := 18) (v := 4) hX dX1_asks_18 rfl ?_
  refine wu_ (wg_cSi (pc := 19) (As := [.int a3, .int 0, .int 4]) (rest := []) hX (m_X1_in a3 0 4) (lw_S q471 q472 q159 q473) hd_X1_in rfl (Nat.le_of_ble_eq_true rfl) (Nat.le_of_ble_eq_true rfl) (Nat.le_of_ble_eq_true rfl) rfl dX1_asks_19 fun v5 => ?_)
  refine wg_if_ne (pc := 22) (tgt := 27) hX dX1_asks_22 (by decide) (fun h6 => ?_) (fun h6 => ?_)
  · refine wu_t h6 ?_
    refine wg_iconst (pc := 25) (v := (-1)) hX dX1_asks_25 rfl ?_
    exact wu_rt (wg_iret (pc := 26) hX rfl rfl dX1_asks_26)
  refine wu_f h6 ?_
  refine wg_aload_n (pc := 27) hX dX1_asks_27 0 rfl ?_
  refine wg_iload_n (pc := 28) hX dX1_asks_28 1 rfl ?_
  refine wg_iload_n (pc := 29) hX dX1_asks_29 2 rfl ?_
  refine wu_ (wg_cVv (pc := 30) (As := [.int a1, .int a2]) (rest := []) hX (m_X1_answer a1 a2) (by decide) (by decide) (by decide) rc_X1 (lw_V q1336 q1338 qs38 q159 q1339) hd_X1_answer rfl (Nat.le_of_ble_eq_true rfl) (Nat.le_of_ble_eq_true rfl) (Nat.le_of_ble_eq_true rfl) rfl dX1_asks_30 ?_)
  refine wg_aload_n (pc := 33) hX dX1_asks_33 0 rfl ?_
  refine wg_gK (pc := 34) hX hM0 fd_X1_78 (by decide) dX1_asks_34 ?_
  refine wg_iload_n (pc := 37) hX dX1_asks_37 3 rfl ?_
  refine wu_ (wg_rI (pc := 38) hX ar_33 dX1_asks_38 fun v7 => ?_)
  exact wu_rt (wg_iret (pc := 39) hX rfl rfl dX1_asks_39)
theorem m_X1_why (a1 : Int32) (a2 : Int32) : amMet yX1_why cX1_why 3 (some .int) 518 12448 encI [.ref (rid 0 1), .int a1, .int a2] (up (p_X1_why a1 a2)) := by
  refine amMet.of (own := RX1) (by decide) rfl (Nat.le_of_ble_eq_true rfl) fun X hX hPs => ?_
  change WG X encI 0 [(0, .ref (rid 0 1)), (1, .int a1), (2, .int a2)] [] (bd1 (up (p_X1_why a1 a2)) rt1)
  unfold p_X1_why
  refine wg_iload_n (pc := 0) hX dX1_why_0 1 rfl ?_
  refine wu_ (wg_cSi (pc := 1) (As := [.int a1]) (rest := []) hX (m_X1_isCorner a1) (lw_S q468 q469 q159 q470) hd_X1_isCorner rfl (Nat.le_of_ble_eq_true rfl) (Nat.le_of_ble_eq_true rfl) (Nat.le_of_ble_eq_true rfl) rfl dX1_why_1 fun v1 => ?_)
  refine wg_if_eq (pc := 4) (tgt := 16) hX dX1_why_4 (by decide) (fun h2 => ?_) (fun h2 => ?_)
  · refine wu_t h2 ?_
    refine wg_iconst (pc := 16) (v := (-1)) hX dX1_why_16 rfl ?_
    exact wu_rt (wg_iret (pc := 17) hX rfl rfl dX1_why_17)
  refine wu_f h2 ?_
  refine wg_iload_n (pc := 7) hX dX1_why_7 2 rfl ?_
  refine wg_iconst (pc := 8) (v := 1) hX dX1_why_8 rfl ?_
  refine wg_iconst (pc := 9) (v := 3) hX dX1_why_9 rfl ?_
  refine wu_ (wg_cSi (pc := 10) (As := [.int a2, .int 1, .int 3]) (rest := []) hX (m_X1_in a2 1 3) (lw_S q471 q472 q159 q473) hd_X1_in rfl (Nat.le_of_ble_eq_true rfl) (Nat.le_of_ble_eq_true rfl) (Nat.le_of_ble_eq_true rfl) rfl dX1_why_10 fun v3 => ?_)
  refine wg_if_ne (pc := 13) (tgt := 18) hX dX1_why_13 (by decide) (fun h4 => ?_) (fun h4 => ?_)
  · refine wu_t h4 ?_
    refine wg_iconst (pc := 16) (v := (-1)) hX dX1_why_16 rfl ?_
    exact wu_rt (wg_iret (pc := 17) hX rfl rfl dX1_why_17)
  refine wu_f h4 ?_
  refine wg_aload_n (pc := 18) hX dX1_why_18 0 rfl ?_
  refine wg_iload_n (pc := 19) hX dX1_why_19 1 rfl ?_
  refine wg_iload_n (pc := 20) hX dX1_why_20 2 rfl ?_
  refine wu_ (wg_cVv (pc := 21) (As := [.int a1, .int a2]) (rest := []) hX (m_X1_answer a1 a2) (by decide) (by decide) (by decide) rc_X1 (lw_V q1336 q1338 qs38 q159 q1339) hd_X1_answer rfl (Nat.le_of_ble_eq_true rfl) (Nat.le_of_ble_eq_true rfl) (Nat.le_of_ble_eq_true rfl) rfl dX1_why_21 ?_)
  refine wg_aload_n (pc := 24) hX dX1_why_24 0 rfl ?_
  refine wu_ (wg_gI (pc := 25) hX fd_X1_618 dX1_why_25 fun v5 => ?_)
  exact wu_rt (wg_iret (pc := 28) hX rfl rfl dX1_why_28)
theorem m_X1_openAt (a1 : Int32) : amMet yX1_openAt cX1_openAt 3 (some (.object "CityBrigade$Call")) 1 32 (encR 7) [.ref (rid 0 1), .int a1] (up (p_X1_openAt a1)) := by
  refine amMet.of (own := RX1) (by decide) rfl (Nat.le_of_ble_eq_true rfl) fun X hX hPs => ?_
  change WG X (encR 7) 0 [(0, .ref (rid 0 1)), (1, .int a1)] [] (bd1 (up (p_X1_openAt a1)) rt1)
  unfold p_X1_openAt
  have hM0 := amPs.m0 hPs
  refine wu_ (wg_gM ?_)
  refine wg_iconst (pc := 0) (v := 0) hX dX1_openAt_0 rfl ?_
  refine wg_istore_n (pc := 1) (l' := [(0, .ref (rid 0 1)), (1, .int a1), (2, .int 0)]) hX dX1_openAt_1 (by decide) rfl ?_
  refine wu_lp (α := Int32) (pcl := 2) (lo := fun x => [(0, .ref (rid 0 1)), (1, .int a1), (2, .int x)]) (so := fun _ => []) (fun rec1 hrec1 x1 => ?_) amFu 0
  unfold p_X1_openAt_L2
  refine wg_iload_n (pc := 2) hX dX1_openAt_2 2 rfl ?_
  refine wg_aload_n (pc := 3) hX dX1_openAt_3 0 rfl ?_
  refine wu_ (wg_gI (pc := 4) hX fd_X1_587 dX1_openAt_4 fun v2 => ?_)
  refine wg_icmp_ge (pc := 7) (tgt := 48) hX dX1_openAt_7 (by decide) (fun h3 => ?_) (fun h3 => ?_)
  · refine wu_t h3 ?_
    refine wg_null (pc := 48) (q := 7) hX (by decide) dX1_openAt_48 ?_
    exact wu_rt (wg_aret (pc := 49) hX rfl (by first | exact Or.inl ⟨_, rfl⟩ | exact Or.inr ⟨_, rfl⟩) (by decide) rfl dX1_openAt_49)
  refine wu_f h3 ?_
  refine wg_aload_n (pc := 10) hX dX1_openAt_10 0 rfl ?_
  refine wg_gK (pc := 11) hX hM0 fd_X1_74 (by decide) dX1_openAt_11 ?_
  refine wg_iload_n (pc := 14) hX dX1_openAt_14 2 rfl ?_
  refine wu_ (wg_rR (pc := 15) hX ar_32 (by decide) dX1_openAt_15 fun r4 => ?_)
  refine wu_ (wg_gI (pc := 16) hX fd_X1_590 dX1_openAt_16 fun v5 => ?_)
  refine wg_iload_n (pc := 19) hX dX1_openAt_19 1 rfl ?_
  refine wu_jn (α := Unit) (pcJ := 42) (lJ := fun x => [(0, .ref (rid 0 1)), (1, .int a1), (2, .int x1)]) (sJ := fun x => []) (fun k6 hk6 => ?_) (fun z6 => ?_)
  · refine wg_icmp_ne (pc := 20) (tgt := 42) hX dX1_openAt_20 (by decide) (fun h7 => ?_) (fun h7 => ?_)
    rotate_left
    · refine wu_f h7 ?_
      exact hk6 ()
    refine wu_t h7 ?_
    refine wg_aload_n (pc := 23) hX dX1_openAt_23 0 rfl ?_
    refine wg_gK (pc := 24) hX hM0 fd_X1_74 (by decide) dX1_openAt_24 ?_
    refine wg_iload_n (pc := 27) hX dX1_openAt_27 2 rfl ?_
    refine wu_ (wg_rR (pc := 28) hX ar_32 (by decide) dX1_openAt_28 fun r8 => ?_)
    refine wu_ (wg_gI (pc := 29) hX fd_X1_591 dX1_openAt_29 fun v9 => ?_)
    refine wg_if_ne (pc := 32) (tgt := 42) hX dX1_openAt_32 (by decide) (fun h10 => ?_) (fun h10 => ?_)
    rotate_left
    · refine wu_f h10 ?_
      exact hk6 ()
    refine wu_t h10 ?_
    refine wg_aload_n (pc := 35) hX dX1_openAt_35 0 rfl ?_
    refine wg_gK (pc := 36) hX hM0 fd_X1_74 (by decide) dX1_openAt_36 ?_
    refine wg_iload_n (pc := 39) hX dX1_openAt_39 2 rfl ?_
    refine wu_ (wg_rR (pc := 40) hX ar_32 (by decide) dX1_openAt_40 fun r11 => ?_)
    exact wu_rt (wg_aret (pc := 41) hX rfl (by first | exact Or.inl ⟨_, rfl⟩ | exact Or.inr ⟨_, rfl⟩) (by decide) rfl dX1_openAt_41)
  refine wg_iinc (pc := 42) (v := (x1 + 1)) (l' := [(0, .ref (rid 0 1)), (1, .int a1), (2, .int (x1 + 1))]) hX dX1_openAt_42 2 rfl rfl (by decide) rfl ?_
  refine wg_goto (pc := 45) (tgt := 2) hX dX1_openAt_45 (by decide) ?_
  exact hrec1 (x1 + 1)
theorem m_X13_init (r0 : Nat) (a1 : Int32) (a2 : Int32) (a3 : Int32) : amMet yX13_init cX13_init 4 none 1 32 encV [.ref (rid 7 r0), .int a1, .int a2, .int a3] (up (p_X13_init r0 a1 a2 a3)) := by
  refine amMet.ofI (own := RX13) (by decide) rfl (Nat.le_of_ble_eq_true rfl) rfl fun X hX hN => ?_
  change WG X encV 0 [(0, .ref (rid 7 r0)), (1, .int a1), (2, .int a2), (3, .int a3)] [] (bd1 (up (p_X13_init r0 a1 a2 a3)) rt1)
  unfold p_X13_init
  refine wg_aload_n (pc := 0) hX dX13_init_0 0 rfl ?_
  refine wu_ (wg_gd fun h1 => ?_)
  refine wg_objI (pc := 1) hX h1 q1414 q207 q208 (Nat.le_of_ble_eq_true rfl) (Nat.le_of_ble_eq_true rfl) dX13_init_1 ?_
  refine wg_aload_n (pc := 4) hX dX13_init_4 0 rfl ?_
  refine wg_iconst (pc := 5) (v := 1) hX dX13_init_5 rfl ?_
  refine wu_ (wg_pI (pc := 6) hX fp_X13_9 (fun h => by cases h) dX13_init_6 ?_)
  refine wg_aload_n (pc := 9) hX dX13_init_9 0 rfl ?_
  refine wg_iconst (pc := 10) (v := 0) hX dX13_init_10 rfl ?_
  refine wu_ (wg_pI (pc := 11) hX fp_X13_15 (fun h => by cases h) dX13_init_11 ?_)
  refine wg_aload_n (pc := 14) hX dX13_init_14 0 rfl ?_
  refine wg_iconst (pc := 15) (v := (-1)) hX dX13_init_15 rfl ?_
  refine wu_ (wg_pI (pc := 16) hX fp_X13_18 (fun h => by cases h) dX13_init_16 ?_)
  refine wg_aload_n (pc := 19) hX dX13_init_19 0 rfl ?_
  refine wg_iconst (pc := 20) (v := 1) hX dX13_init_20 rfl ?_
  refine wu_ (wg_pI (pc := 21) hX fp_X13_21 (fun h => by cases h) dX13_init_21 ?_)
  refine wg_aload_n (pc := 24) hX dX13_init_24 0 rfl ?_
  refine wg_iload_n (pc := 25) hX dX13_init_25 1 rfl ?_
  refine wu_ (wg_pI (pc := 26) hX fp_X13_24 (fun _ => hN) dX13_init_26 ?_)
  refine wg_aload_n (pc := 29) hX dX13_init_29 0 rfl ?_
  refine wg_iload_n (pc := 30) hX dX13_init_30 2 rfl ?_
  refine wu_ (wg_pI (pc := 31) hX fp_X13_27 (fun _ => hN) dX13_init_31 ?_)
  refine wg_aload_n (pc := 34) hX dX13_init_34 0 rfl ?_
  refine wg_iload_n (pc := 35) hX dX13_init_35 3 rfl ?_
  refine wu_ (wg_pI (pc := 36) hX fp_X13_30 (fun _ => hN) dX13_init_36 ?_)
  exact wu_rt (wg_vret (pc := 39) hX rfl rfl dX13_init_39)
theorem m_X1_nearest (a1 : Int32) (a2 : Int32) : amMet yX1_nearest cX1_nearest 7 (some (.object "CityBrigade$Crew")) 5 127 (encR 6) [.ref (rid 0 1), .int a1, .int a2] (up (p_X1_nearest a1 a2)) := by
  refine amMet.of (own := RX1) (by decide) rfl (Nat.le_of_ble_eq_true rfl) fun X hX hPs => ?_
  change WG X (encR 6) 0 [(0, .ref (rid 0 1)), (1, .int a1), (2, .int a2)] [] (bd1 (up (p_X1_nearest a1 a2)) rt1)
  unfold p_X1_nearest
  have hM0 := amPs.m0 hPs
  refine wu_ (wg_gM ?_)
  refine wg_null (pc := 0) (q := 6) hX (by decide) dX1_nearest_0 ?_
  refine wg_astore_n (pc := 1) (l' := [(0, .ref (rid 0 1)), (1, .int a1), (2, .int a2), (3, .ref (rid 6 0))]) hX dX1_nearest_1 (by decide) rfl ?_
  refine wg_iconst (pc := 2) (v := 0) hX dX1_nearest_2 rfl ?_
  refine wg_istore (pc := 3) (l' := [(0, .ref (rid 0 1)), (1, .int a1), (2, .int a2), (3, .ref (rid 6 0)), (4, .int 0)]) hX dX1_nearest_3 (by decide) rfl ?_
  refine wu_lpx (α := Nat × Int32) (γ := Nat) (pcl := 5) (pcT := 101) (lo := fun x => [(0, .ref (rid 0 1)), (1, .int a1), (2, .int a2), (3, .ref (rid 6 x.1)), (4, .int x.2)]) (so := fun _ => []) (lT := fun x => [(3, .ref (rid 6 x))]) (sT := fun _ => []) (n := amFu) (x0 := (0, 0)) (fun K1 rec1 hrec1 hk1 x1 => ?_) (fun y2 => ?_)
  · unfold p_X1_nearest_L5
    refine wg_iload (pc := 5) hX dX1_nearest_5 4 rfl ?_
    refine wg_aload_n (pc := 7) hX dX1_nearest_7 0 rfl ?_
    refine wu_ (wg_gI (pc := 8) hX fd_X1_365 dX1_nearest_8 fun v3 => ?_)
    refine wg_icmp_ge (pc := 11) (tgt := 101) hX dX1_nearest_11 (by decide) (fun h4 => ?_) (fun h4 => ?_)
    · refine wu_t h4 ?_
      refine wg_sub hX [3] rfl ?_
      exact wu_rt (hk1 x1.1)
    refine wu_f h4 ?_
    refine wg_aload_n (pc := 14) hX dX1_nearest_14 0 rfl ?_
    refine wg_gK (pc := 15) hX hM0 fd_X1_48 (by decide) dX1_nearest_15 ?_
    refine wg_iload (pc := 18) hX dX1_nearest_18 4 rfl ?_
    refine wu_ (wg_rR (pc := 20) hX ar_28 (by decide) dX1_nearest_20 fun r5 => ?_)
    refine wg_astore (pc := 21) (l' := [(0, .ref (rid 0 1)), (1, .int a1), (2, .int a2), (3, .ref (rid 6 x1.1)), (4, .int x1.2), (5, .ref (rid 6 r5))]) hX dX1_nearest_21 (by decide) rfl ?_
    refine wg_aload (pc := 23) hX dX1_nearest_23 5 rfl ?_
    refine wu_ (wg_gI (pc := 25) hX fd_X1_389 dX1_nearest_25 fun v6 => ?_)
    refine wu_jx (α := Nat) (pcJ := 95) (lJ := fun x => [(0, .ref (rid 0 1)), (1, .int a1), (2, .int a2), (3, .ref (rid 6 x)), (4, .int x1.2)]) (sJ := fun x => []) (fun K7 hk7 => ?_) (fun z7 => ?_)
    · refine wg_if_ne (pc := 28) (tgt := 95) hX dX1_nearest_28 (by decide) (fun h8 => ?_) (fun h8 => ?_)
      rotate_left
      · refine wu_f h8 ?_
        refine wg_sub hX [0, 1, 2, 3, 4] rfl ?_
        exact wu_rt (hk7 x1.1)
      refine wu_t h8 ?_
      refine wg_aload (pc := 31) hX dX1_nearest_31 5 rfl ?_
      refine wu_ (wg_vciu (pc := 33) (x := ⟨"CityBrigade$Crew", "sort", "()I"⟩) (n := 0) (f := fun c => if c = 6 then p_X9_sort r5 else if c = 7 then p_X10_sort r5 else if c = 8 then p_X11_sort r5 else if c = 9 then p_X12_sort r5 else fl0) (As := []) (rest := []) hX (by decide) (by decide) (fun c hc => by
            rcases am_mem4 hc with rfl | rfl | rfl | rfl
            · exact Or.inr ⟨RX9, TX9, 18, yX9_sort, cX9_sort, 1, (some .int), _, _, rfl, ⟨"CityBrigade$Crew", lw_U q1348 q1350 q1357 q1358 q171 q1359, by decide +kernel, Or.inr q1349⟩, m_X9_sort r5, (Nat.le_of_ble_eq_true rfl), (Nat.le_of_ble_eq_true rfl)⟩
            · exact Or.inr ⟨RX10, TX10, 19, yX10_sort, cX10_sort, 1, (some .int), _, _, rfl, ⟨"CityBrigade$Crew", lw_U q1348 q1350 q1360 q1361 q172 q1362, by decide +kernel, Or.inr q1349⟩, m_X10_sort r5, (Nat.le_of_ble_eq_true rfl), (Nat.le_of_ble_eq_true rfl)⟩
            · exact Or.inr ⟨RX11, TX11, 17, yX11_sort, cX11_sort, 1, (some .int), _, _, rfl, ⟨"CityBrigade$Crew", lw_U q1348 q1350 q1354 q1355 q173 q1356, by decide +kernel, Or.inr q1349⟩, m_X11_sort r5, (Nat.le_of_ble_eq_true rfl), (Nat.le_of_ble_eq_true rfl)⟩
            · exact Or.inr ⟨RX12, TX12, 16, yX12_sort, cX12_sort, 1, (some .int), _, _, rfl, ⟨"CityBrigade$Crew", lw_U q1348 q1350 q1351 q1352 q174 q1353, by decide +kernel, Or.inr q1349⟩, m_X12_sort r5, (Nat.le_of_ble_eq_true rfl), (Nat.le_of_ble_eq_true rfl)⟩) rfl (Nat.le_of_ble_eq_true rfl) rfl dX1_nearest_33 fun v10 => ?_)
      refine wg_iload_n (pc := 36) hX dX1_nearest_36 1 rfl ?_
      refine wg_icmp_eq (pc := 37) (tgt := 43) hX dX1_nearest_37 (by decide) (fun h11 => ?_) (fun h11 => ?_)
      rotate_left
      · refine wu_f h11 ?_
        refine wg_goto (pc := 40) (tgt := 95) hX dX1_nearest_40 (by decide) ?_
        refine wg_sub hX [0, 1, 2, 3, 4] rfl ?_
        exact wu_rt (hk7 x1.1)
      refine wu_t h11 ?_
      refine wg_aload_n (pc := 43) hX dX1_nearest_43 0 rfl ?_
      refine wg_aload (pc := 44) hX dX1_nearest_44 5 rfl ?_
      refine wu_ (wg_gI (pc := 46) hX fd_X1_395 dX1_nearest_46 fun v12 => ?_)
      refine wg_iload_n (pc := 49) hX dX1_nearest_49 2 rfl ?_
      refine wg_aload_n (pc := 50) hX dX1_nearest_50 0 rfl ?_
      refine wu_ (wg_gI (pc := 51) hX fd_X1_415 dX1_nearest_51 fun v13 => ?_)
      refine wg_aload (pc := 54) hX dX1_nearest_54 5 rfl ?_
      refine wu_ (wg_vciu (pc := 56) (x := ⟨"CityBrigade$Crew", "slowNow", "()I"⟩) (n := 0) (f := fun c => if c = 6 then p_X8_slowNow r5 else if c = 7 then p_X8_slowNow r5 else if c = 8 then p_X8_slowNow r5 else if c = 9 then p_X8_slowNow r5 else fl0) (As := []) (rest := [.int v13, .int a2, .int v12, .ref (rid 0 1)]) hX (by decide) (by decide) (fun c hc => by
            rcases am_mem4 hc with rfl | rfl | rfl | rfl
            · exact Or.inr ⟨RX9, TX9, 18, yX8_slowNow, cX8_slowNow, 1, (some .int), _, _, rfl, ⟨"CityBrigade$Crew", lw_U q970 q972 q975 q971 q170 q977, by decide +kernel, Or.inl rfl⟩, m_X8_slowNow r5, (Nat.le_of_ble_eq_true rfl), (Nat.le_of_ble_eq_true rfl)⟩
            · exact Or.inr ⟨RX10, TX10, 19, yX8_slowNow, cX8_slowNow, 1, (some .int), _, _, rfl, ⟨"CityBrigade$Crew", lw_U q970 q972 q976 q971 q170 q977, by decide +kernel, Or.inl rfl⟩, m_X8_slowNow r5, (Nat.le_of_ble_eq_true rfl), (Nat.le_of_ble_eq_true rfl)⟩
            · exact Or.inr ⟨RX11, TX11, 17, yX8_slowNow, cX8_slowNow, 1, (some .int), _, _, rfl, ⟨"CityBrigade$Crew", lw_U q970 q972 q974 q971 q170 q977, by decide +kernel, Or.inl rfl⟩, m_X8_slowNow r5, (Nat.le_of_ble_eq_true rfl), (Nat.le_of_ble_eq_true rfl)⟩
            · exact Or.inr ⟨RX12, TX12, 16, yX8_slowNow, cX8_slowNow, 1, (some .int), _, _, rfl, ⟨"CityBrigade$Crew", lw_U q970 q972 q973 q971 q170 q977, by decide +kernel, Or.inl rfl⟩, m_X8_slowNow r5, (Nat.le_of_ble_eq_true rfl), (Nat.le_of_ble_eq_true rfl)⟩) rfl (Nat.le_of_ble_eq_true rfl) rfl dX1_nearest_56 fun v15 => ?_)
      refine wu_ (wg_cVi (pc := 59) (As := [.int v12, .int a2, .int v13, .int v15]) (rest := []) hX (m_X1_comeOn v12 a2 v13 v15) (by decide) (by decide) (by decide) rc_X1 (lw_V q515 q517 qs2 q159 q518) hd_X1_comeOn rfl (Nat.le_of_ble_eq_true rfl) (Nat.le_of_ble_eq_true rfl) (Nat.le_of_ble_eq_true rfl) rfl dX1_nearest_59 fun v16 => ?_)
      refine wg_istore (pc := 62) (l' := [(0, .ref (rid 0 1)), (1, .int a1), (2, .int a2), (3, .ref (rid 6 x1.1)), (4, .int x1.2), (5, .ref (rid 6 r5)), (6, .int v16)]) hX dX1_nearest_62 (by decide) rfl ?_
      refine wg_iload (pc := 64) hX dX1_nearest_64 6 rfl ?_
      refine wg_iconst (pc := 66) (v := (-1)) hX dX1_nearest_66 rfl ?_
      refine wg_icmp_eq (pc := 67) (tgt := 95) hX dX1_nearest_67 (by decide) (fun h17 => ?_) (fun h17 => ?_)
      · refine wu_t h17 ?_
        refine wg_sub hX [0, 1, 2, 3, 4] rfl ?_
        exact wu_rt (hk7 x1.1)
      refine wu_f h17 ?_
      refine wg_aload_n (pc := 70) hX dX1_nearest_70 3 rfl ?_
      refine wu_jn (α := Unit) (pcJ := 86) (lJ := fun x => [(0, .ref (rid 0 1)), (1, .int a1), (2, .int a2), (4, .int x1.2), (5, .ref (rid 6 r5)), (6, .int v16)]) (sJ := fun x => []) (fun k18 hk18 => ?_) (fun z18 => ?_)
      · refine wg_ifnull (pc := 71) (tgt := 86) hX (by decide) dX1_nearest_71 (by decide) (fun h19 => ?_) (fun h19 => ?_)
        · refine wu_t h19 ?_
          refine wg_sub hX [0, 1, 2, 4, 5, 6] rfl ?_
          exact hk18 ()
        refine wu_f h19 ?_
        refine wg_iload (pc := 74) hX dX1_nearest_74 6 rfl ?_
        refine wg_aload_n (pc := 76) hX dX1_nearest_76 0 rfl ?_
        refine wu_ (wg_gI (pc := 77) hX fd_X1_633 dX1_nearest_77 fun v20 => ?_)
        refine wg_icmp_lt (pc := 80) (tgt := 86) hX dX1_nearest_80 (by decide) (fun h21 => ?_) (fun h21 => ?_)
        · refine wu_t h21 ?_
          refine wg_sub hX [0, 1, 2, 4, 5, 6] rfl ?_
          exact hk18 ()
        refine wu_f h21 ?_
        refine wg_goto (pc := 83) (tgt := 95) hX dX1_nearest_83 (by decide) ?_
        refine wg_sub hX [0, 1, 2, 3, 4] rfl ?_
        exact wu_rt (hk7 x1.1)
      refine wg_aload (pc := 86) hX dX1_nearest_86 4 rfl ?_
      refine wg_astore_n (pc := 88) (l' := [(0, .ref (rid 0 1)), (1, .int a1), (2, .int a2), (3, .ref (rid 6 r5)), (4, .int x1.2), (5, .ref (rid 6 r5)), (6, .int v16)]) hX dX1_nearest_88 (by decide) rfl ?_
      refine wg_aload_n (pc := 89) hX dX1_nearest_89 0 rfl ?_
      refine wg_iload (pc := 90) hX dX1_nearest_90 6 rfl ?_
      refine wu_ (wg_pI (pc := 92) hX fp_X1_633 (fun h => by cases h) dX1_nearest_92 ?_)
      refine wg_sub hX [0, 1, 2, 3, 4] rfl ?_
      exact wu_rt (hk7 r5)
    refine wg_iinc (pc := 95) (v := (x1.2 + 1)) (l' := [(0, .ref (rid 0 1)), (1, .int a1), (2, .int a2), (3, .ref (rid 6 z7)), (4, .int (x1.2 + 1))]) hX dX1_nearest_95 4 rfl rfl (by decide) rfl ?_
    refine wg_goto (pc := 98) (tgt := 5) hX dX1_nearest_98 (by decide) ?_
    exact hrec1 (z7, (x1.2 + 1))
  refine wg_aload_n (pc := 101) hX dX1_nearest_101 0 rfl ?_
  exact wu_rt (wg_aret (pc := 102) hX rfl (by first | exact Or.inl ⟨_, rfl⟩ | exact Or.inr ⟨_, rfl⟩) (by decide) rfl dX1_nearest_102)
theorem m_X1_isManned (a1 : Int32) : amMet yX1_isManned cX1_isManned 3 (some .boolean) 1 32 encI [.ref (rid 0 1), .int a1] (up (p_X1_isManned a1)) := by
  refine amMet.of (own := RX1) (by decide) rfl (Nat.le_of_ble_eq_true rfl) fun X hX hPs => ?_
  change WG X encI 0 [(0, .ref (rid 0 1)), (1, .int a1)] [] (bd1 (up (p_X1_isManned a1)) rt1)
  unfold p_X1_isManned
  have hM0 := amPs.m0 hPs
  refine wu_ (wg_gM ?_)
  refine wg_iconst (pc := 0) (v := 0) hX dX1_isManned_0 rfl ?_
  refine wg_istore_n (pc := 1) (l' := [(0, .ref (rid 0 1)), (1, .int a1), (2, .int 0)]) hX dX1_isManned_1 (by decide) rfl ?_
  refine wu_lp (α := Int32) (pcl := 2) (lo := fun x => [(0, .ref (rid 0 1)), (1, .int a1), (2, .int x)]) (so := fun _ => []) (fun rec1 hrec1 x1 => ?_) amFu 0
  unfold p_X1_isManned_L2
  refine wg_iload_n (pc := 2) hX dX1_isManned_2 2 rfl ?_
  refine wg_aload_n (pc := 3) hX dX1_isManned_3 0 rfl ?_
  refine wu_ (wg_gI (pc := 4) hX fd_X1_365 dX1_isManned_4 fun v2 => ?_)
  refine wg_icmp_ge (pc := 7) (tgt := 56) hX dX1_isManned_7 (by decide) (fun h3 => ?_) (fun h3 => ?_)
  · refine wu_t h3 ?_
    refine wg_iconst (pc := 56) (v := 0) hX dX1_isManned_56 rfl ?_
    exact wu_rt (wg_zret (pc := 57) hX rfl (by decide) rfl dX1_isManned_57)
  refine wu_f h3 ?_
  refine wg_aload_n (pc := 10) hX dX1_isManned_10 0 rfl ?_
  refine wg_gK (pc := 11) hX hM0 fd_X1_48 (by decide) dX1_isManned_11 ?_
  refine wg_iload_n (pc := 14) hX dX1_isManned_14 2 rfl ?_
  refine wu_ (wg_rR (pc := 15) hX ar_28 (by decide) dX1_isManned_15 fun r4 => ?_)
  refine wu_ (wg_gI (pc := 16) hX fd_X1_395 dX1_isManned_16 fun v5 => ?_)
  refine wg_iload_n (pc := 19) hX dX1_isManned_19 1 rfl ?_
  refine wu_jn (α := Unit) (pcJ := 50) (lJ := fun x => [(0, .ref (rid 0 1)), (1, .int a1), (2, .int x1)]) (sJ := fun x => []) (fun k6 hk6 => ?_) (fun z6 => ?_)
  · refine wg_icmp_ne (pc := 20) (tgt := 50) hX dX1_isManned_20 (by decide) (fun h7 => ?_) (fun h7 => ?_)
    rotate_left
    · refine wu_f h7 ?_
      exact hk6 ()
    refine wu_t h7 ?_
    refine wg_aload_n (pc := 23) hX dX1_isManned_23 0 rfl ?_
    refine wg_gK (pc := 24) hX hM0 fd_X1_48 (by decide) dX1_isManned_24 ?_
    refine wg_iload_n (pc := 27) hX dX1_isManned_27 2 rfl ?_
    refine wu_ (wg_rR (pc := 28) hX ar_28 (by decide) dX1_isManned_28 fun r8 => ?_)
    refine wu_ (wg_gI (pc := 29) hX fd_X1_389 dX1_isManned_29 fun v9 => ?_)
    refine wg_if_eq (pc := 32) (tgt := 48) hX dX1_isManned_32 (by decide) (fun h10 => ?_) (fun h10 => ?_)
    · refine wu_t h10 ?_
      refine wg_iconst (pc := 48) (v := 1) hX dX1_isManned_48 rfl ?_
      exact wu_rt (wg_zret (pc := 49) hX rfl (by decide) rfl dX1_isManned_49)
    refine wu_f h10 ?_
    refine wg_aload_n (pc := 35) hX dX1_isManned_35 0 rfl ?_
    refine wg_gK (pc := 36) hX hM0 fd_X1_48 (by decide) dX1_isManned_36 ?_
    refine wg_iload_n (pc := 39) hX dX1_isManned_39 2 rfl ?_
    refine wu_ (wg_rR (pc := 40) hX ar_28 (by decide) dX1_isManned_40 fun r11 => ?_)
    refine wu_ (wg_gI (pc := 41) hX fd_X1_389 dX1_isManned_41 fun v12 => ?_)
    refine wg_iconst (pc := 44) (v := 3) hX dX1_isManned_44 rfl ?_
    refine wg_icmp_ne (pc := 45) (tgt := 50) hX dX1_isManned_45 (by decide) (fun h13 => ?_) (fun h13 => ?_)
    rotate_left
    · refine wu_f h13 ?_
      exact hk6 ()
    refine wu_t h13 ?_
    refine wg_iconst (pc := 48) (v := 1) hX dX1_isManned_48 rfl ?_
    exact wu_rt (wg_zret (pc := 49) hX rfl (by decide) rfl dX1_isManned_49)
  refine wg_iinc (pc := 50) (v := (x1 + 1)) (l' := [(0, .ref (rid 0 1)), (1, .int a1), (2, .int (x1 + 1))]) hX dX1_isManned_50 2 rfl rfl (by decide) rfl ?_
  refine wg_goto (pc := 53) (tgt := 2) hX dX1_isManned_53 (by decide) ?_
  exact hrec1 (x1 + 1)
theorem m_X1_emptyHome  : amMet yX1_emptyHome cX1_emptyHome 3 (some .int) 2 54 encI [.ref (rid 0 1)] (up (p_X1_emptyHome)) := by
  refine amMet.of (own := RX1) (by decide) rfl (Nat.le_of_ble_eq_true rfl) fun X hX hPs => ?_
  change WG X encI 0 [(0, .ref (rid 0 1))] [] (bd1 (up (p_X1_emptyHome)) rt1)
  unfold p_X1_emptyHome
  have hM0 := amPs.m0 hPs
  refine wu_ (wg_gM ?_)
  refine wg_iconst (pc := 0) (v := (-1)) hX dX1_emptyHome_0 rfl ?_
  refine wg_istore_n (pc := 1) (l' := [(0, .ref (rid 0 1)), (1, .int (-1))]) hX dX1_emptyHome_1 (by decide) rfl ?_
  refine wg_iconst (pc := 2) (v := 0) hX dX1_emptyHome_2 rfl ?_
  refine wg_istore_n (pc := 3) (l' := [(0, .ref (rid 0 1)), (1, .int (-1)), (2, .int 0)]) hX dX1_emptyHome_3 (by decide) rfl ?_
  refine wu_lpx (α := Int32 × Int32) (γ := Int32) (pcl := 4) (pcT := 62) (lo := fun x => [(0, .ref (rid 0 1)), (1, .int x.1), (2, .int x.2)]) (so := fun _ => []) (lT := fun x => [(1, .int x)]) (sT := fun _ => []) (n := amFu) (x0 := ((-1), 0)) (fun K1 rec1 hrec1 hk1 x1 => ?_) (fun y2 => ?_)
  · unfold p_X1_emptyHome_L4
    refine wg_iload_n (pc := 4) hX dX1_emptyHome_4 2 rfl ?_
    refine wg_aload_n (pc := 5) hX dX1_emptyHome_5 0 rfl ?_
    refine wu_ (wg_gI (pc := 6) hX fd_X1_365 dX1_emptyHome_6 fun v3 => ?_)
    refine wg_icmp_ge (pc := 9) (tgt := 62) hX dX1_emptyHome_9 (by decide) (fun h4 => ?_) (fun h4 => ?_)
    · refine wu_t h4 ?_
      refine wg_sub hX [1] rfl ?_
      exact wu_rt (hk1 x1.1)
    refine wu_f h4 ?_
    refine wg_aload_n (pc := 12) hX dX1_emptyHome_12 0 rfl ?_
    refine wg_aload_n (pc := 13) hX dX1_emptyHome_13 0 rfl ?_
    refine wg_gK (pc := 14) hX hM0 fd_X1_48 (by decide) dX1_emptyHome_14 ?_
    refine wg_iload_n (pc := 17) hX dX1_emptyHome_17 2 rfl ?_
    refine wu_ (wg_rR (pc := 18) hX ar_28 (by decide) dX1_emptyHome_18 fun r5 => ?_)
    refine wu_ (wg_gI (pc := 19) hX fd_X1_408 dX1_emptyHome_19 fun v6 => ?_)
    refine wu_ (wg_cVi (pc := 22) (As := [.int v6]) (rest := []) hX (m_X1_isManned v6) (by decide) (by decide) (by decide) rc_X1 (lw_V q1469 q1471 qs46 q159 q1472) hd_X1_isManned rfl (Nat.le_of_ble_eq_true rfl) (Nat.le_of_ble_eq_true rfl) (Nat.le_of_ble_eq_true rfl) rfl dX1_emptyHome_22 fun v7 => ?_)
    refine wu_jx (α := Int32) (pcJ := 56) (lJ := fun x => [(0, .ref (rid 0 1)), (1, .int x), (2, .int x1.2)]) (sJ := fun x => []) (fun K8 hk8 => ?_) (fun z8 => ?_)
    · refine wg_if_ne (pc := 25) (tgt := 56) hX dX1_emptyHome_25 (by decide) (fun h9 => ?_) (fun h9 => ?_)
      rotate_left
      · refine wu_f h9 ?_
        exact wu_rt (hk8 x1.1)
      refine wu_t h9 ?_
      refine wg_iload_n (pc := 28) hX dX1_emptyHome_28 1 rfl ?_
      refine wg_iconst (pc := 29) (v := (-1)) hX dX1_emptyHome_29 rfl ?_
      refine wu_jn (α := Unit) (pcJ := 46) (lJ := fun x => [(0, .ref (rid 0 1)), (2, .int x1.2)]) (sJ := fun x => []) (fun k10 hk10 => ?_) (fun z10 => ?_)
      · refine wg_icmp_eq (pc := 30) (tgt := 46) hX dX1_emptyHome_30 (by decide) (fun h11 => ?_) (fun h11 => ?_)
        · refine wu_t h11 ?_
          refine wg_sub hX [0, 2] rfl ?_
          exact hk10 ()
        refine wu_f h11 ?_
        refine wg_aload_n (pc := 33) hX dX1_emptyHome_33 0 rfl ?_
        refine wg_gK (pc := 34) hX hM0 fd_X1_48 (by decide) dX1_emptyHome_34 ?_
        refine wg_iload_n (pc := 37) hX dX1_emptyHome_37 2 rfl ?_
        refine wu_ (wg_rR (pc := 38) hX ar_28 (by decide) dX1_emptyHome_38 fun r12 => ?_)
        refine wu_ (wg_gI (pc := 39) hX fd_X1_408 dX1_emptyHome_39 fun v13 => ?_)
        refine wg_iload_n (pc := 42) hX dX1_emptyHome_42 1 rfl ?_
        refine wg_icmp_ge (pc := 43) (tgt := 56) hX dX1_emptyHome_43 (by decide) (fun h14 => ?_) (fun h14 => ?_)
        · refine wu_t h14 ?_
          exact wu_rt (hk8 x1.1)
        refine wu_f h14 ?_
        refine wg_sub hX [0, 2] rfl ?_
        exact hk10 ()
      refine wg_aload_n (pc := 46) hX dX1_emptyHome_46 0 rfl ?_
      refine wg_gK (pc := 47) hX hM0 fd_X1_48 (by decide) dX1_emptyHome_47 ?_
      refine wg_iload_n (pc := 50) hX dX1_emptyHome_50 1 rfl ?_
      refine wu_ (wg_rR (pc := 51) hX ar_28 (by decide) dX1_emptyHome_51 fun r15 => ?_)
      refine wu_ (wg_gI (pc := 52) hX fd_X1_408 dX1_emptyHome_52 fun v16 => ?_)
      refine wg_istore_n (pc := 55) (l' := [(0, .ref (rid 0 1)), (1, .int v16), (2, .int x1.2)]) hX dX1_emptyHome_55 (by decide) rfl ?_
      exact wu_rt (hk8 v16)
    refine wg_iinc (pc := 56) (v := (x1.2 + 1)) (l' := [(0, .ref (rid 0 1)), (1, .int z8), (2, .int (x1.2 + 1))]) hX dX1_emptyHome_56 2 rfl rfl (by decide) rfl ?_
    refine wg_goto (pc := 59) (tgt := 4) hX dX1_emptyHome_59 (by decide) ?_
    exact hrec1 (z8, (x1.2 + 1))
  refine wg_iload_n (pc := 62) hX dX1_emptyHome_62 0 rfl ?_
  exact wu_rt (wg_iret (pc := 63) hX rfl rfl dX1_emptyHome_63)
theorem m_X1_hasMate (a1 : Nat) : amMet yX1_hasMate cX1_hasMate 3 (some .boolean) 1 32 encI [.ref (rid 0 1), .ref (rid 6 a1)] (up (p_X1_hasMate a1)) := by
  refine amMet.of (own := RX1) (by decide) rfl (Nat.le_of_ble_eq_true rfl) fun X hX hPs => ?_
  change WG X encI 0 [(0, .ref (rid 0 1)), (1, .ref (rid 6 a1))] [] (bd1 (up (p_X1_hasMate a1)) rt1)
  unfold p_X1_hasMate
  have hM0 := amPs.m0 hPs
  refine wu_ (wg_gM ?_)
  refine wg_iconst (pc := 0) (v := 0) hX dX1_hasMate_0 rfl ?_
  refine wg_istore_n (pc := 1) (l' := [(0, .ref (rid 0 1)), (1, .ref (rid 6 a1)), (2, .int 0)]) hX dX1_hasMate_1 (by decide) rfl ?_
  refine wu_lp (α := Int32) (pcl := 2) (lo := fun x => [(0, .ref (rid 0 1)), (1, .ref (rid 6 a1)), (2, .int x)]) (so := fun _ => []) (fun rec1 hrec1 x1 => ?_) amFu 0
  unfold p_X1_hasMate_L2
  refine wg_iload_n (pc := 2) hX dX1_hasMate_2 2 rfl ?_
  refine wg_aload_n (pc := 3) hX dX1_hasMate_3 0 rfl ?_
  refine wu_ (wg_gI (pc := 4) hX fd_X1_365 dX1_hasMate_4 fun v2 => ?_)
  refine wg_icmp_ge (pc := 7) (tgt := 56) hX dX1_hasMate_7 (by decide) (fun h3 => ?_) (fun h3 => ?_)
  · refine wu_t h3 ?_
    refine wg_iconst (pc := 56) (v := 0) hX dX1_hasMate_56 rfl ?_
    exact wu_rt (wg_zret (pc := 57) hX rfl (by decide) rfl dX1_hasMate_57)
  refine wu_f h3 ?_
  refine wg_aload_n (pc := 10) hX dX1_hasMate_10 0 rfl ?_
  refine wg_gK (pc := 11) hX hM0 fd_X1_48 (by decide) dX1_hasMate_11 ?_
  refine wg_iload_n (pc := 14) hX dX1_hasMate_14 2 rfl ?_
  refine wu_ (wg_rR (pc := 15) hX ar_28 (by decide) dX1_hasMate_15 fun r4 => ?_)
  refine wg_aload_n (pc := 16) hX dX1_hasMate_16 1 rfl ?_
  refine wu_jn (α := Unit) (pcJ := 50) (lJ := fun x => [(0, .ref (rid 0 1)), (1, .ref (rid 6 a1)), (2, .int x1)]) (sJ := fun x => []) (fun k5 hk5 => ?_) (fun z5 => ?_)
  · refine wg_acmp_eq (pc := 17) (tgt := 50) hX (by decide) dX1_hasMate_17 (by decide) (fun h6 => ?_) (fun h6 => ?_)
    · refine wu_t h6 ?_
      exact hk5 ()
    refine wu_f h6 ?_
    refine wg_aload_n (pc := 20) hX dX1_hasMate_20 0 rfl ?_
    refine wg_gK (pc := 21) hX hM0 fd_X1_48 (by decide) dX1_hasMate_21 ?_
    refine wg_iload_n (pc := 24) hX dX1_hasMate_24 2 rfl ?_
    refine wu_ (wg_rR (pc := 25) hX ar_28 (by decide) dX1_hasMate_25 fun r7 => ?_)
    refine wu_ (wg_gI (pc := 26) hX fd_X1_389 dX1_hasMate_26 fun v8 => ?_)
    refine wg_if_ne (pc := 29) (tgt := 50) hX dX1_hasMate_29 (by decide) (fun h9 => ?_) (fun h9 => ?_)
    rotate_left
    · refine wu_f h9 ?_
      exact hk5 ()
    refine wu_t h9 ?_
    refine wg_aload_n (pc := 32) hX dX1_hasMate_32 0 rfl ?_
    refine wg_gK (pc := 33) hX hM0 fd_X1_48 (by decide) dX1_hasMate_33 ?_
    refine wg_iload_n (pc := 36) hX dX1_hasMate_36 2 rfl ?_
    refine wu_ (wg_rR (pc := 37) hX ar_28 (by decide) dX1_hasMate_37 fun r10 => ?_)
    refine wu_ (wg_gI (pc := 38) hX fd_X1_395 dX1_hasMate_38 fun v11 => ?_)
    refine wg_aload_n (pc := 41) hX dX1_hasMate_41 1 rfl ?_
    refine wu_ (wg_gI (pc := 42) hX fd_X1_395 dX1_hasMate_42 fun v12 => ?_)
    refine wg_icmp_ne (pc := 45) (tgt := 50) hX dX1_hasMate_45 (by decide) (fun h13 => ?_) (fun h13 => ?_)
    rotate_left
    · refine wu_f h13 ?_
      exact hk5 ()
    refine wu_t h13 ?_
    refine wg_iconst (pc := 48) (v := 1) hX dX1_hasMate_48 rfl ?_
    exact wu_rt (wg_zret (pc := 49) hX rfl (by decide) rfl dX1_hasMate_49)
  refine wg_iinc (pc := 50) (v := (x1 + 1)) (l' := [(0, .ref (rid 0 1)), (1, .ref (rid 6 a1)), (2, .int (x1 + 1))]) hX dX1_hasMate_50 2 rfl rfl (by decide) rfl ?_
  refine wg_goto (pc := 53) (tgt := 2) hX dX1_hasMate_53 (by decide) ?_
  exact hrec1 (x1 + 1)
theorem m_X1_moveUp  : amMet yX1_moveUp cX1_moveUp 7 (some .boolean) 5 127 encI [.ref (rid 0 1)] (up (p_X1_moveUp)) := by
  refine amMet.of (own := RX1) (by decide) rfl (Nat.le_of_ble_eq_true rfl) fun X hX hPs => ?_
  change WG X encI 0 [(0, .ref (rid 0 1))] [] (bd1 (up (p_X1_moveUp)) rt1)
  unfold p_X1_moveUp
  have hM0 := amPs.m0 hPs
  refine wu_ (wg_gM ?_)
  refine wg_aload_n (pc := 0) hX dX1_moveUp_0 0 rfl ?_
  refine wu_ (wg_cVi (pc := 1) (As := []) (rest := []) hX (m_X1_emptyHome) (by decide) (by decide) (by decide) rc_X1 (lw_V q1465 q1467 qs45 q159 q1468) hd_X1_emptyHome rfl (Nat.le_of_ble_eq_true rfl) (Nat.le_of_ble_eq_true rfl) (Nat.le_of_ble_eq_true rfl) rfl dX1_moveUp_1 fun v1 => ?_)
  refine wg_istore_n (pc := 4) (l' := [(0, .ref (rid 0 1)), (1, .int v1)]) hX dX1_moveUp_4 (by decide) rfl ?_
  refine wg_iload_n (pc := 5) hX dX1_moveUp_5 1 rfl ?_
  refine wg_iconst (pc := 6) (v := (-1)) hX dX1_moveUp_6 rfl ?_
  refine wg_icmp_ne (pc := 7) (tgt := 12) hX dX1_moveUp_7 (by decide) (fun h2 => ?_) (fun h2 => ?_)
  · refine wu_t h2 ?_
    refine wg_iconst (pc := 10) (v := 0) hX dX1_moveUp_10 rfl ?_
    exact wu_rt (wg_zret (pc := 11) hX rfl (by decide) rfl dX1_moveUp_11)
  refine wu_f h2 ?_
  refine wg_null (pc := 12) (q := 6) hX (by decide) dX1_moveUp_12 ?_
  refine wg_astore_n (pc := 13) (l' := [(0, .ref (rid 0 1)), (1, .int v1), (2, .ref (rid 6 0))]) hX dX1_moveUp_13 (by decide) rfl ?_
  refine wg_iconst (pc := 14) (v := 0) hX dX1_moveUp_14 rfl ?_
  refine wg_istore_n (pc := 15) (l' := [(0, .ref (rid 0 1)), (1, .int v1), (2, .ref (rid 6 0)), (3, .int 0)]) hX dX1_moveUp_15 (by decide) rfl ?_
  refine wg_iconst (pc := 16) (v := 0) hX dX1_moveUp_16 rfl ?_
  refine wg_istore (pc := 17) (l' := [(0, .ref (rid 0 1)), (1, .int v1), (2, .ref (rid 6 0)), (3, .int 0), (4, .int 0)]) hX dX1_moveUp_17 (by decide) rfl ?_
  refine wu_lpx (α := Nat × Int32 × Int32) (γ := Nat × Int32) (pcl := 19) (pcT := 109) (lo := fun x => [(0, .ref (rid 0 1)), (1, .int v1), (2, .ref (rid 6 x.1)), (3, .int x.2.1), (4, .int x.2.2)]) (so := fun _ => []) (lT := fun x => [(1, .int v1), (2, .ref (rid 6 x.1)), (3, .int x.2)]) (sT := fun _ => []) (n := amFu) (x0 := (0, 0, 0)) (fun K3 rec3 hrec3 hk3 x3 => ?_) (fun y4 => ?_)
  · unfold p_X1_moveUp_L19
    refine wg_iload (pc := 19) hX dX1_moveUp_19 4 rfl ?_
    refine wg_aload_n (pc := 21) hX dX1_moveUp_21 0 rfl ?_
    refine wu_ (wg_gI (pc := 22) hX fd_X1_365 dX1_moveUp_22 fun v5 => ?_)
    refine wg_icmp_ge (pc := 25) (tgt := 109) hX dX1_moveUp_25 (by decide) (fun h6 => ?_) (fun h6 => ?_)
    · refine wu_t h6 ?_
      refine wg_sub hX [1, 2, 3] rfl ?_
      exact wu_rt (hk3 (x3.1, x3.2.1))
    refine wu_f h6 ?_
    refine wg_aload_n (pc := 28) hX dX1_moveUp_28 0 rfl ?_
    refine wg_gK (pc := 29) hX hM0 fd_X1_48 (by decide) dX1_moveUp_29 ?_
    refine wg_iload (pc := 32) hX dX1_moveUp_32 4 rfl ?_
    refine wu_ (wg_rR (pc := 34) hX ar_28 (by decide) dX1_moveUp_34 fun r7 => ?_)
    refine wg_astore (pc := 35) (l' := [(0, .ref (rid 0 1)), (1, .int v1), (2, .ref (rid 6 x3.1)), (3, .int x3.2.1), (4, .int x3.2.2), (5, .ref (rid 6 r7))]) hX dX1_moveUp_35 (by decide) rfl ?_
    refine wg_aload (pc := 37) hX dX1_moveUp_37 5 rfl ?_
    refine wu_ (wg_gI (pc := 39) hX fd_X1_389 dX1_moveUp_39 fun v8 => ?_)
    refine wu_jx (α := Nat × Int32) (pcJ := 103) (lJ := fun x => [(0, .ref (rid 0 1)), (1, .int v1), (2, .ref (rid 6 x.1)), (3, .int x.2), (4, .int x3.2.2)]) (sJ := fun x => []) (fun K9 hk9 => ?_) (fun z9 => ?_)
    · refine wg_if_ne (pc := 42) (tgt := 103) hX dX1_moveUp_42 (by decide) (fun h10 => ?_) (fun h10 => ?_)
      rotate_left
      · refine wu_f h10 ?_
        refine wg_sub hX [0, 1, 2, 3, 4] rfl ?_
        exact wu_rt (hk9 (x3.1, x3.2.1))
      refine wu_t h10 ?_
      refine wg_aload_n (pc := 45) hX dX1_moveUp_45 0 rfl ?_
      refine wg_aload (pc := 46) hX dX1_moveUp_46 5 rfl ?_
      refine wu_ (wg_cVi (pc := 48) (As := [.ref (rid 6 r7)]) (rest := []) hX (m_X1_hasMate r7) (by decide) (by decide) (by decide) rc_X1 (lw_V q1473 q1475 qs47 q159 q1476) hd_X1_hasMate rfl (Nat.le_of_ble_eq_true rfl) (Nat.le_of_ble_eq_true rfl) (Nat.le_of_ble_eq_true rfl) rfl dX1_moveUp_48 fun v11 => ?_)
      refine wg_if_ne (pc := 51) (tgt := 57) hX dX1_moveUp_51 (by decide) (fun h12 => ?_) (fun h12 => ?_)
      · refine wu_t h12 ?_
        refine wg_goto (pc := 54) (tgt := 103) hX dX1_moveUp_54 (by decide) ?_
        refine wg_sub hX [0, 1, 2, 3, 4] rfl ?_
        exact wu_rt (hk9 (x3.1, x3.2.1))
      refine wu_f h12 ?_
      refine wg_aload_n (pc := 57) hX dX1_moveUp_57 0 rfl ?_
      refine wg_aload (pc := 58) hX dX1_moveUp_58 5 rfl ?_
      refine wu_ (wg_gI (pc := 60) hX fd_X1_395 dX1_moveUp_60 fun v13 => ?_)
      refine wg_iload_n (pc := 63) hX dX1_moveUp_63 1 rfl ?_
      refine wg_aload_n (pc := 64) hX dX1_moveUp_64 0 rfl ?_
      refine wu_ (wg_gI (pc := 65) hX fd_X1_415 dX1_moveUp_65 fun v14 => ?_)
      refine wg_aload (pc := 68) hX dX1_moveUp_68 5 rfl ?_
      refine wu_ (wg_vciu (pc := 70) (x := ⟨"CityBrigade$Crew", "slowNow", "()I"⟩) (n := 0) (f := fun c => if c = 6 then p_X8_slowNow r7 else if c = 7 then p_X8_slowNow r7 else if c = 8 then p_X8_slowNow r7 else if c = 9 then p_X8_slowNow r7 else fl0) (As := []) (rest := [.int v14, .int v1, .int v13, .ref (rid 0 1)]) hX (by decide) (by decide) (fun c hc => by
            rcases am_mem4 hc with rfl | rfl | rfl | rfl
            · exact Or.inr ⟨RX9, TX9, 18, yX8_slowNow, cX8_slowNow, 1, (some .int), _, _, rfl, ⟨"CityBrigade$Crew", lw_U q970 q972 q975 q971 q170 q977, by decide +kernel, Or.inl rfl⟩, m_X8_slowNow r7, (Nat.le_of_ble_eq_true rfl), (Nat.le_of_ble_eq_true rfl)⟩
            · exact Or.inr ⟨RX10, TX10, 19, yX8_slowNow, cX8_slowNow, 1, (some .int), _, _, rfl, ⟨"CityBrigade$Crew", lw_U q970 q972 q976 q971 q170 q977, by decide +kernel, Or.inl rfl⟩, m_X8_slowNow r7, (Nat.le_of_ble_eq_true rfl), (Nat.le_of_ble_eq_true rfl)⟩
            · exact Or.inr ⟨RX11, TX11, 17, yX8_slowNow, cX8_slowNow, 1, (some .int), _, _, rfl, ⟨"CityBrigade$Crew", lw_U q970 q972 q974 q971 q170 q977, by decide +kernel, Or.inl rfl⟩, m_X8_slowNow r7, (Nat.le_of_ble_eq_true rfl), (Nat.le_of_ble_eq_true rfl)⟩
            · exact Or.inr ⟨RX12, TX12, 16, yX8_slowNow, cX8_slowNow, 1, (some .int), _, _, rfl, ⟨"CityBrigade$Crew", lw_U q970 q972 q973 q971 q170 q977, by decide +kernel, Or.inl rfl⟩, m_X8_slowNow r7, (Nat.le_of_ble_eq_true rfl), (Nat.le_of_ble_eq_true rfl)⟩) rfl (Nat.le_of_ble_eq_true rfl) rfl dX1_moveUp_70 fun v16 => ?_)
      refine wu_ (wg_cVi (pc := 73) (As := [.int v13, .int v1, .int v14, .int v16]) (rest := []) hX (m_X1_comeOn v13 v1 v14 v16) (by decide) (by decide) (by decide) rc_X1 (lw_V q515 q517 qs2 q159 q518) hd_X1_comeOn rfl (Nat.le_of_ble_eq_true rfl) (Nat.le_of_ble_eq_true rfl) (Nat.le_of_ble_eq_true rfl) rfl dX1_moveUp_73 fun v17 => ?_)
      refine wg_istore (pc := 76) (l' := [(0, .ref (rid 0 1)), (1, .int v1), (2, .ref (rid 6 x3.1)), (3, .int x3.2.1), (4, .int x3.2.2), (5, .ref (rid 6 r7)), (6, .int v17)]) hX dX1_moveUp_76 (by decide) rfl ?_
      refine wg_iload (pc := 78) hX dX1_moveUp_78 6 rfl ?_
      refine wg_iconst (pc := 80) (v := (-1)) hX dX1_moveUp_80 rfl ?_
      refine wg_icmp_eq (pc := 81) (tgt := 103) hX dX1_moveUp_81 (by decide) (fun h18 => ?_) (fun h18 => ?_)
      · refine wu_t h18 ?_
        refine wg_sub hX [0, 1, 2, 3, 4] rfl ?_
        exact wu_rt (hk9 (x3.1, x3.2.1))
      refine wu_f h18 ?_
      refine wg_aload_n (pc := 84) hX dX1_moveUp_84 2 rfl ?_
      refine wu_jn (α := Unit) (pcJ := 97) (lJ := fun x => [(0, .ref (rid 0 1)), (1, .int v1), (4, .int x3.2.2), (5, .ref (rid 6 r7)), (6, .int v17)]) (sJ := fun x => []) (fun k19 hk19 => ?_) (fun z19 => ?_)
      · refine wg_ifnull (pc := 85) (tgt := 97) hX (by decide) dX1_moveUp_85 (by decide) (fun h20 => ?_) (fun h20 => ?_)
        · refine wu_t h20 ?_
          refine wg_sub hX [0, 1, 4, 5, 6] rfl ?_
          exact hk19 ()
        refine wu_f h20 ?_
        refine wg_iload (pc := 88) hX dX1_moveUp_88 6 rfl ?_
        refine wg_iload_n (pc := 90) hX dX1_moveUp_90 3 rfl ?_
        refine wg_icmp_lt (pc := 91) (tgt := 97) hX dX1_moveUp_91 (by decide) (fun h21 => ?_) (fun h21 => ?_)
        · refine wu_t h21 ?_
          refine wg_sub hX [0, 1, 4, 5, 6] rfl ?_
          exact hk19 ()
        refine wu_f h21 ?_
        refine wg_goto (pc := 94) (tgt := 103) hX dX1_moveUp_94 (by decide) ?_
        refine wg_sub hX [0, 1, 2, 3, 4] rfl ?_
        exact wu_rt (hk9 (x3.1, x3.2.1))
      refine wg_aload (pc := 97) hX dX1_moveUp_97 3 rfl ?_
      refine wg_astore_n (pc := 99) (l' := [(0, .ref (rid 0 1)), (1, .int v1), (2, .ref (rid 6 r7)), (4, .int x3.2.2), (5, .ref (rid 6 r7)), (6, .int v17)]) hX dX1_moveUp_99 (by decide) rfl ?_
      refine wg_iload (pc := 100) hX dX1_moveUp_100 5 rfl ?_
      refine wg_istore_n (pc := 102) (l' := [(0, .ref (rid 0 1)), (1, .int v1), (2, .ref (rid 6 r7)), (3, .int v17), (4, .int x3.2.2), (5, .ref (rid 6 r7)), (6, .int v17)]) hX dX1_moveUp_102 (by decide) rfl ?_
      refine wg_sub hX [0, 1, 2, 3, 4] rfl ?_
      exact wu_rt (hk9 (r7, v17))
    refine wg_iinc (pc := 103) (v := (x3.2.2 + 1)) (l' := [(0, .ref (rid 0 1)), (1, .int v1), (2, .ref (rid 6 z9.1)), (3, .int z9.2), (4, .int (x3.2.2 + 1))]) hX dX1_moveUp_103 4 rfl rfl (by decide) rfl ?_
    refine wg_goto (pc := 106) (tgt := 19) hX dX1_moveUp_106 (by decide) ?_
    exact hrec3 (z9.1, z9.2, (x3.2.2 + 1))
  refine wg_aload_n (pc := 109) hX dX1_moveUp_109 1 rfl ?_
  refine wg_ifnonnull (pc := 110) (tgt := 115) hX (by decide) dX1_moveUp_110 (by decide) (fun h22 => ?_) (fun h22 => ?_)
  · refine wu_t h22 ?_
    refine wg_iconst (pc := 113) (v := 0) hX dX1_moveUp_113 rfl ?_
    exact wu_rt (wg_zret (pc := 114) hX rfl (by decide) rfl dX1_moveUp_114)
  refine wu_f h22 ?_
  refine wg_aload_n (pc := 115) hX dX1_moveUp_115 1 rfl ?_
  refine wg_iconst (pc := 116) (v := 3) hX dX1_moveUp_116 rfl ?_
  refine wu_ (wg_pI (pc := 117) hX fp_X1_389 (fun h => by cases h) dX1_moveUp_117 ?_)
  refine wg_aload_n (pc := 120) hX dX1_moveUp_120 1 rfl ?_
  refine wg_iload_n (pc := 121) hX dX1_moveUp_121 0 rfl ?_
  refine wu_ (wg_pI (pc := 122) hX fp_X1_395 (fun h => by cases h) dX1_moveUp_122 ?_)
  refine wg_aload_n (pc := 125) hX dX1_moveUp_125 1 rfl ?_
  refine wg_iload_n (pc := 126) hX dX1_moveUp_126 2 rfl ?_
  refine wu_ (wg_pI (pc := 127) hX fp_X1_398 (fun h => by cases h) dX1_moveUp_127 ?_)
  refine wg_iconst (pc := 130) (v := 1) hX dX1_moveUp_130 rfl ?_
  exact wu_rt (wg_zret (pc := 131) hX rfl (by decide) rfl dX1_moveUp_131)
