/-! the walks (printed by gen/build.py) -/
theorem m_X1_send (a1 : Nat) : amMet yX1_send cX1_send 5 none 518 12448 encV [.ref (rid 0 1), .ref (rid 7 a1)] (up (p_X1_send a1)) := by
  refine amMet.of (own := RX1) (by decide) rfl (Nat.le_of_ble_eq_true rfl) fun X hX hPs => ?_
  change WG X encV 0 [(0, .ref (rid 0 1)), (1, .ref (rid 7 a1))] [] (bd1 (up (p_X1_send a1)) rt1)
  unfold p_X1_send
  have hM0 := amPs.m0 hPs
  refine wu_ (wg_gM ?_)
  refine wg_aload_n (pc := 0) hX dX1_send_0 0 rfl ?_
  refine wg_aload_n (pc := 1) hX dX1_send_1 1 rfl ?_
  refine wu_ (wg_gI (pc := 2) hX fd_X1_590 dX1_send_2 fun v1 => ?_)
  refine wg_aload_n (pc := 5) hX dX1_send_5 1 rfl ?_
  refine wu_ (wg_gI (pc := 6) hX fd_X1_636 dX1_send_6 fun v2 => ?_)
  refine wu_ (wg_cVv (pc := 9) (As := [.int v1, .int v2]) (rest := []) hX (m_X1_answer v1 v2) (by decide) (by decide) (by decide) rc_X1 (lw_V q1336 q1338 qs38 q159 q1339) hd_X1_answer rfl (Nat.le_of_ble_eq_true rfl) (Nat.le_of_ble_eq_true rfl) (Nat.le_of_ble_eq_true rfl) rfl dX1_send_9 ?_)
  refine wg_iconst (pc := 12) (v := 0) hX dX1_send_12 rfl ?_
  refine wg_istore_n (pc := 13) (l' := [(0, .ref (rid 0 1)), (1, .ref (rid 7 a1)), (2, .int 0)]) hX dX1_send_13 (by decide) rfl ?_
  refine wu_lpx (α := Int32) (γ := Unit) (pcl := 14) (pcT := 115) (lo := fun x => [(0, .ref (rid 0 1)), (1, .ref (rid 7 a1)), (2, .int x)]) (so := fun _ => []) (lT := fun x => [(0, .ref (rid 0 1))]) (sT := fun _ => []) (n := amFu) (x0 := 0) (fun K3 rec3 hrec3 hk3 x3 => ?_) (fun y4 => ?_)
  · unfold p_X1_send_L14
    refine wg_iload_n (pc := 14) hX dX1_send_14 2 rfl ?_
    refine wg_iconst (pc := 15) (v := 4) hX dX1_send_15 rfl ?_
    refine wg_icmp_ge (pc := 16) (tgt := 115) hX dX1_send_16 (by decide) (fun h5 => ?_) (fun h5 => ?_)
    · refine wu_t h5 ?_
      refine wg_sub hX [0] rfl ?_
      exact wu_rt (hk3 ())
    refine wu_f h5 ?_
    refine wg_iconst (pc := 19) (v := 0) hX dX1_send_19 rfl ?_
    refine wg_istore_n (pc := 20) (l' := [(0, .ref (rid 0 1)), (1, .ref (rid 7 a1)), (2, .int x3), (3, .int 0)]) hX dX1_send_20 (by decide) rfl ?_
    refine wu_lpx (α := Int32) (γ := Unit) (pcl := 21) (pcT := 109) (lo := fun x => [(0, .ref (rid 0 1)), (1, .ref (rid 7 a1)), (2, .int x3), (3, .int x)]) (so := fun _ => []) (lT := fun x => [(0, .ref (rid 0 1)), (1, .ref (rid 7 a1)), (2, .int x3)]) (sT := fun _ => []) (n := amFu) (x0 := 0) (fun K6 rec6 hrec6 hk6 x6 => ?_) (fun y7 => ?_)
    · unfold p_X1_send_L21
      refine wg_iload_n (pc := 21) hX dX1_send_21 3 rfl ?_
      refine wg_aload_n (pc := 22) hX dX1_send_22 0 rfl ?_
      refine wg_gK (pc := 23) hX hM0 fd_X1_78 (by decide) dX1_send_23 ?_
      refine wg_iload_n (pc := 26) hX dX1_send_26 2 rfl ?_
      refine wu_ (wg_rI (pc := 27) hX ar_33 dX1_send_27 fun v8 => ?_)
      refine wg_icmp_ge (pc := 28) (tgt := 109) hX dX1_send_28 (by decide) (fun h9 => ?_) (fun h9 => ?_)
      · refine wu_t h9 ?_
        refine wg_sub hX [0, 1, 2] rfl ?_
        exact wu_rt (hk6 ())
      refine wu_f h9 ?_
      refine wg_aload_n (pc := 31) hX dX1_send_31 0 rfl ?_
      refine wg_iload_n (pc := 32) hX dX1_send_32 2 rfl ?_
      refine wg_aload_n (pc := 33) hX dX1_send_33 1 rfl ?_
      refine wu_ (wg_gI (pc := 34) hX fd_X1_590 dX1_send_34 fun v10 => ?_)
      refine wu_ (wg_cVr (pc := 37) (As := [.int x3, .int v10]) (rest := []) hX (m_X1_nearest x3 v10) (by decide) (by decide) (by decide) rc_X1 (lw_V q1457 q1459 qs43 q159 q1460) hd_X1_nearest rfl (Nat.le_of_ble_eq_true rfl) (Nat.le_of_ble_eq_true rfl) (Nat.le_of_ble_eq_true rfl) rfl dX1_send_37 fun r11 => ?_)
      refine wg_astore (pc := 40) (l' := [(0, .ref (rid 0 1)), (1, .ref (rid 7 a1)), (2, .int x3), (3, .int x6), (4, .ref (rid 6 r11))]) hX dX1_send_40 (by decide) rfl ?_
      refine wg_aload (pc := 42) hX dX1_send_42 4 rfl ?_
      refine wu_jx (α := Unit) (pcJ := 103) (lJ := fun x => [(0, .ref (rid 0 1)), (1, .ref (rid 7 a1)), (2, .int x3), (3, .int x6)]) (sJ := fun x => []) (fun K12 hk12 => ?_) (fun z12 => ?_)
      · refine wg_ifnonnull (pc := 44) (tgt := 60) hX (by decide) dX1_send_44 (by decide) (fun h13 => ?_) (fun h13 => ?_)
        · refine wu_t h13 ?_
          refine wg_aload_n (pc := 47) hX dX1_send_47 1 rfl ?_
          refine wg_dup (pc := 48) hX dX1_send_48 rfl ?_
          refine wu_ (wg_gI (pc := 49) hX fd_X1_643 dX1_send_49 fun v14 => ?_)
          refine wg_iconst (pc := 52) (v := 1) hX dX1_send_52 rfl ?_
          refine wg_iadd (pc := 53) hX dX1_send_53 ?_
          refine wu_ (wg_pI (pc := 54) hX fp_X1_643 (fun h => by cases h) dX1_send_54 ?_)
          refine wg_goto (pc := 57) (tgt := 103) hX dX1_send_57 (by decide) ?_
          refine wg_sub hX [0, 1, 2, 3] rfl ?_
          exact wu_rt (hk12 ())
        refine wu_f h13 ?_
        refine wg_aload (pc := 60) hX dX1_send_60 4 rfl ?_
        refine wg_iconst (pc := 62) (v := 1) hX dX1_send_62 rfl ?_
        refine wu_ (wg_pI (pc := 63) hX fp_X1_389 (fun h => by cases h) dX1_send_63 ?_)
        refine wg_aload (pc := 66) hX dX1_send_66 4 rfl ?_
        refine wg_aload_n (pc := 68) hX dX1_send_68 1 rfl ?_
        refine wu_ (wg_gI (pc := 69) hX fd_X1_590 dX1_send_69 fun v15 => ?_)
        refine wu_ (wg_pI (pc := 72) hX fp_X1_395 (fun h => by cases h) dX1_send_72 ?_)
        refine wg_aload (pc := 75) hX dX1_send_75 4 rfl ?_
        refine wg_aload_n (pc := 77) hX dX1_send_77 0 rfl ?_
        refine wu_ (wg_gI (pc := 78) hX fd_X1_633 dX1_send_78 fun v16 => ?_)
        refine wu_ (wg_pI (pc := 81) hX fp_X1_398 (fun h => by cases h) dX1_send_81 ?_)
        refine wg_aload (pc := 84) hX dX1_send_84 4 rfl ?_
        refine wg_aload_n (pc := 86) hX dX1_send_86 1 rfl ?_
        refine wu_ (wg_gI (pc := 87) hX fd_X1_646 dX1_send_87 fun v17 => ?_)
        refine wu_ (wg_pI (pc := 90) hX fp_X1_428 (fun h => by cases h) dX1_send_90 ?_)
        refine wg_aload_n (pc := 93) hX dX1_send_93 1 rfl ?_
        refine wg_dup (pc := 94) hX dX1_send_94 rfl ?_
        refine wu_ (wg_gI (pc := 95) hX fd_X1_648 dX1_send_95 fun v18 => ?_)
        refine wg_iconst (pc := 98) (v := 1) hX dX1_send_98 rfl ?_
        refine wg_iadd (pc := 99) hX dX1_send_99 ?_
        refine wu_ (wg_pI (pc := 100) hX fp_X1_648 (fun h => by cases h) dX1_send_100 ?_)
        refine wg_sub hX [0, 1, 2, 3] rfl ?_
        exact wu_rt (hk12 ())
      refine wg_iinc (pc := 103) (v := (x6 + 1)) (l' := [(0, .ref (rid 0 1)), (1, .ref (rid 7 a1)), (2, .int x3), (3, .int (x6 + 1))]) hX dX1_send_103 3 rfl rfl (by decide) rfl ?_
      refine wg_goto (pc := 106) (tgt := 21) hX dX1_send_106 (by decide) ?_
      exact hrec6 (x6 + 1)
    refine wg_iinc (pc := 109) (v := (x3 + 1)) (l' := [(0, .ref (rid 0 1)), (1, .ref (rid 7 a1)), (2, .int (x3 + 1))]) hX dX1_send_109 2 rfl rfl (by decide) rfl ?_
    refine wg_goto (pc := 112) (tgt := 14) hX dX1_send_112 (by decide) ?_
    exact hrec3 (x3 + 1)
  refine wg_aload_n (pc := 115) hX dX1_send_115 0 rfl ?_
  refine wg_gK (pc := 116) hX hM0 fd_X1_78 (by decide) dX1_send_116 ?_
  refine wg_iconst (pc := 119) (v := 4) hX dX1_send_119 rfl ?_
  refine wu_ (wg_rI (pc := 120) hX ar_33 dX1_send_120 fun v19 => ?_)
  refine wg_istore_n (pc := 121) (l' := [(0, .ref (rid 0 1)), (2, .int v19)]) hX dX1_send_121 (by decide) rfl ?_
  refine wu_lpx (α := Int32) (γ := Unit) (pcl := 122) (pcT := 139) (lo := fun x => [(0, .ref (rid 0 1)), (2, .int x)]) (so := fun _ => []) (lT := fun x => []) (sT := fun _ => []) (n := amFu) (x0 := v19) (fun K20 rec20 hrec20 hk20 x20 => ?_) (fun y21 => ?_)
  · unfold p_X1_send_L122
    refine wg_iload_n (pc := 122) hX dX1_send_122 1 rfl ?_
    refine wg_if_le (pc := 123) (tgt := 139) hX dX1_send_123 (by decide) (fun h22 => ?_) (fun h22 => ?_)
    · refine wu_t h22 ?_
      refine wg_sub hX [] rfl ?_
      exact wu_rt (hk20 ())
    refine wu_f h22 ?_
    refine wg_aload_n (pc := 126) hX dX1_send_126 0 rfl ?_
    refine wu_ (wg_cVi (pc := 127) (As := []) (rest := []) hX (m_X1_moveUp) (by decide) (by decide) (by decide) rc_X1 (lw_V q1461 q1463 qs44 q159 q1464) hd_X1_moveUp rfl (Nat.le_of_ble_eq_true rfl) (Nat.le_of_ble_eq_true rfl) (Nat.le_of_ble_eq_true rfl) rfl dX1_send_127 fun v23 => ?_)
    refine wg_if_eq (pc := 130) (tgt := 139) hX dX1_send_130 (by decide) (fun h24 => ?_) (fun h24 => ?_)
    · refine wu_t h24 ?_
      refine wg_sub hX [] rfl ?_
      exact wu_rt (hk20 ())
    refine wu_f h24 ?_
    refine wg_iinc (pc := 133) (v := (x20 + (-1))) (l' := [(0, .ref (rid 0 1)), (2, .int (x20 + (-1)))]) hX dX1_send_133 1 rfl rfl (by decide) rfl ?_
    refine wg_goto (pc := 136) (tgt := 122) hX dX1_send_136 (by decide) ?_
    exact hrec20 (x20 + (-1))
  exact wu_rt (wg_vret (pc := 139) hX rfl rfl dX1_send_139)
theorem m_X1_call (a1 : Int32) : amMet yX1_call cX1_call 3 (some .int) 519 12472 encI [.ref (rid 0 1), .int a1] (p_X1_call a1) := by
  refine amMet.of (own := RX1) (by decide) rfl (Nat.le_of_ble_eq_true rfl) fun X hX hPs => ?_
  change WG X encI 0 [(0, .ref (rid 0 1)), (1, .int a1)] [] (bd1 (p_X1_call a1) rt1)
  unfold p_X1_call
  have hM0 := amPs.m1 hPs
  refine wv_ (wg_gM ?_)
  refine wg_iload_n (pc := 0) hX dX1_call_0 1 rfl ?_
  refine wv_ (wg_cSi (pc := 1) (As := [.int a1]) (rest := []) hX (m_X1_isCorner a1) (lw_S q468 q469 q159 q470) hd_X1_isCorner rfl (Nat.le_of_ble_eq_true rfl) (Nat.le_of_ble_eq_true rfl) (Nat.le_of_ble_eq_true rfl) rfl dX1_call_1 fun v1 => ?_)
  refine wg_if_ne (pc := 4) (tgt := 9) hX dX1_call_4 (by decide) (fun h2 => ?_) (fun h2 => ?_)
  · refine wv_t h2 ?_
    refine wg_iconst (pc := 7) (v := (-1)) hX dX1_call_7 rfl ?_
    exact wv_rt (wg_iret (pc := 8) hX rfl rfl dX1_call_8)
  refine wv_f h2 ?_
  refine wg_aload_n (pc := 9) hX dX1_call_9 0 rfl ?_
  refine wg_iload_n (pc := 10) hX dX1_call_10 1 rfl ?_
  refine wv_ (wg_cVr (pc := 11) (As := [.int a1]) (rest := []) hX (m_X1_openAt a1) (by decide) (by decide) (by decide) rc_X1 (lw_V q1406 q1408 qs41 q159 q1409) hd_X1_openAt rfl (Nat.le_of_ble_eq_true rfl) (Nat.le_of_ble_eq_true rfl) (Nat.le_of_ble_eq_true rfl) rfl dX1_call_11 fun r3 => ?_)
  refine wg_astore_n (pc := 14) (l' := [(0, .ref (rid 0 1)), (1, .int a1), (2, .ref (rid 7 r3))]) hX dX1_call_14 (by decide) rfl ?_
  refine wg_aload_n (pc := 15) hX dX1_call_15 2 rfl ?_
  refine wg_ifnonnull (pc := 16) (tgt := 81) hX (by decide) dX1_call_16 (by decide) (fun h4 => ?_) (fun h4 => ?_)
  rotate_left
  · refine wv_f h4 ?_
    refine wg_aload_n (pc := 81) hX dX1_call_81 2 rfl ?_
    refine wg_dup (pc := 82) hX dX1_call_82 rfl ?_
    refine wv_ (wg_gI (pc := 83) hX fd_X1_671 dX1_call_83 fun v5 => ?_)
    refine wg_iconst (pc := 86) (v := 1) hX dX1_call_86 rfl ?_
    refine wg_iadd (pc := 87) hX dX1_call_87 ?_
    refine wv_ (wg_pI (pc := 88) hX fp_X1_671 (fun h => by cases h) dX1_call_88 ?_)
    refine wg_aload_n (pc := 91) hX dX1_call_91 2 rfl ?_
    refine wv_ (wg_gI (pc := 92) hX fd_X1_636 dX1_call_92 fun v6 => ?_)
    refine wg_iconst (pc := 95) (v := 3) hX dX1_call_95 rfl ?_
    refine wv_jx (α := Unit) (pcJ := 114) (lJ := fun x => [(2, .ref (rid 7 r3))]) (sJ := fun x => []) (fun K7 hk7 => ?_) (fun z7 => ?_)
    · refine wg_icmp_ge (pc := 96) (tgt := 114) hX dX1_call_96 (by decide) (fun h8 => ?_) (fun h8 => ?_)
      · refine wv_t h8 ?_
        refine wg_sub hX [2] rfl ?_
        exact wv_rt (hk7 ())
      refine wv_f h8 ?_
      refine wg_aload_n (pc := 99) hX dX1_call_99 2 rfl ?_
      refine wg_dup (pc := 100) hX dX1_call_100 rfl ?_
      refine wv_ (wg_gI (pc := 101) hX fd_X1_636 dX1_call_101 fun v9 => ?_)
      refine wg_iconst (pc := 104) (v := 1) hX dX1_call_104 rfl ?_
      refine wg_iadd (pc := 105) hX dX1_call_105 ?_
      refine wv_ (wg_pI (pc := 106) hX fp_X1_636 (fun h => by cases h) dX1_call_106 ?_)
      refine wg_aload_n (pc := 109) hX dX1_call_109 0 rfl ?_
      refine wg_aload_n (pc := 110) hX dX1_call_110 2 rfl ?_
      refine wv_ (wg_cVv (pc := 111) (As := [.ref (rid 7 r3)]) (rest := []) hX (m_X1_send r3) (by decide) (by decide) (by decide) rc_X1 (lw_V q1453 q1455 qs42 q159 q1456) hd_X1_send rfl (Nat.le_of_ble_eq_true rfl) (Nat.le_of_ble_eq_true rfl) (Nat.le_of_ble_eq_true rfl) rfl dX1_call_111 ?_)
      refine wg_sub hX [2] rfl ?_
      exact wv_rt (hk7 ())
    refine wg_aload_n (pc := 114) hX dX1_call_114 0 rfl ?_
    refine wv_ (wg_gI (pc := 115) hX fd_X1_646 dX1_call_115 fun v10 => ?_)
    exact wv_rt (wg_iret (pc := 118) hX rfl rfl dX1_call_118)
  refine wv_t h4 ?_
  refine wg_aload_n (pc := 19) hX dX1_call_19 0 rfl ?_
  refine wv_ (wg_gI (pc := 20) hX fd_X1_587 dX1_call_20 fun v11 => ?_)
  refine wg_bipush (pc := 23) (v := 60) hX dX1_call_23 rfl ?_
  refine wg_icmp_ne (pc := 25) (tgt := 30) hX dX1_call_25 (by decide) (fun h12 => ?_) (fun h12 => ?_)
  · refine wv_t h12 ?_
    refine wg_iconst (pc := 28) (v := (-1)) hX dX1_call_28 rfl ?_
    exact wv_rt (wg_iret (pc := 29) hX rfl rfl dX1_call_29)
  refine wv_f h12 ?_
  refine wv_ (wg_nw (pc := 30) hX nw_X1_72 dX1_call_30 fun r13 => ?_)
  refine wg_dup (pc := 33) hX dX1_call_33 rfl ?_
  refine wg_aload_n (pc := 34) hX dX1_call_34 0 rfl ?_
  refine wv_ (wg_gI (pc := 35) hX fd_X1_587 dX1_call_35 fun v14 => ?_)
  refine wg_iload_n (pc := 38) hX dX1_call_38 1 rfl ?_
  refine wg_aload_n (pc := 39) hX dX1_call_39 0 rfl ?_
  refine wv_ (wg_gI (pc := 40) hX fd_X1_415 dX1_call_40 fun v15 => ?_)
  refine wv_ (wg_gd fun h16 => ?_)
  refine wv_ (wg_cIv (pc := 43) (As := [.int v14, .int a1, .int v15]) (rest := [.ref (rid 7 r13)]) hX (m_X13_init r13 v14 a1 v15) h16 rfl q1411 q1412 q177 q1413 hd_X13_init rfl (Nat.le_of_ble_eq_true rfl) (Nat.le_of_ble_eq_true rfl) (Nat.le_of_ble_eq_true rfl) rfl dX1_call_43 ?_)
  refine wg_astore_n (pc := 46) (l' := [(0, .ref (rid 0 1)), (1, .int a1), (2, .ref (rid 7 r13))]) hX dX1_call_46 (by decide) rfl ?_
  refine wg_aload_n (pc := 47) hX dX1_call_47 0 rfl ?_
  refine wg_gK (pc := 48) hX hM0 fd_X1_74 (by decide) dX1_call_48 ?_
  refine wg_aload_n (pc := 51) hX dX1_call_51 0 rfl ?_
  refine wv_ (wg_gI (pc := 52) hX fd_X1_587 dX1_call_52 fun v17 => ?_)
  refine wg_aload_n (pc := 55) hX dX1_call_55 2 rfl ?_
  refine wv_ (wg_wR (pc := 56) hX ar_32 el_32 dX1_call_56 ?_)
  refine wg_aload_n (pc := 57) hX dX1_call_57 0 rfl ?_
  refine wg_dup (pc := 58) hX dX1_call_58 rfl ?_
  refine wv_ (wg_gI (pc := 59) hX fd_X1_587 dX1_call_59 fun v18 => ?_)
  refine wg_iconst (pc := 62) (v := 1) hX dX1_call_62 rfl ?_
  refine wg_iadd (pc := 63) hX dX1_call_63 ?_
  refine wv_ (wg_pI (pc := 64) hX fp_X1_587 (fun h => by cases h) dX1_call_64 ?_)
  refine wg_aload_n (pc := 67) hX dX1_call_67 0 rfl ?_
  refine wv_ (wg_cVv (pc := 68) (As := []) (rest := []) hX (m_X1_notice) (by decide) (by decide) (by decide) rc_X1 (lw_V q677 q679 qs9 q159 q680) hd_X1_notice rfl (Nat.le_of_ble_eq_true rfl) (Nat.le_of_ble_eq_true rfl) (Nat.le_of_ble_eq_true rfl) rfl dX1_call_68 ?_)
  refine wg_aload_n (pc := 71) hX dX1_call_71 0 rfl ?_
  refine wg_aload_n (pc := 72) hX dX1_call_72 2 rfl ?_
  refine wv_ (wg_cVv (pc := 73) (As := [.ref (rid 7 r13)]) (rest := []) hX (m_X1_send r13) (by decide) (by decide) (by decide) rc_X1 (lw_V q1453 q1455 qs42 q159 q1456) hd_X1_send rfl (Nat.le_of_ble_eq_true rfl) (Nat.le_of_ble_eq_true rfl) (Nat.le_of_ble_eq_true rfl) rfl dX1_call_73 ?_)
  refine wg_aload_n (pc := 76) hX dX1_call_76 2 rfl ?_
  refine wv_ (wg_gI (pc := 77) hX fd_X1_646 dX1_call_77 fun v19 => ?_)
  exact wv_rt (wg_iret (pc := 80) hX rfl rfl dX1_call_80)
theorem m_X1_called (a1 : Int32) (a2 : Int32) : amMet yX1_called cX1_called 4 (some .int) 2 54 encI [.ref (rid 0 1), .int a1, .int a2] (up (p_X1_called a1 a2)) := by
  refine amMet.of (own := RX1) (by decide) rfl (Nat.le_of_ble_eq_true rfl) fun X hX hPs => ?_
  change WG X encI 0 [(0, .ref (rid 0 1)), (1, .int a1), (2, .int a2)] [] (bd1 (up (p_X1_called a1 a2)) rt1)
  unfold p_X1_called
  have hM0 := amPs.m0 hPs
  refine wu_ (wg_gM ?_)
  refine wg_iload_n (pc := 0) hX dX1_called_0 1 rfl ?_
  refine wg_iconst (pc := 1) (v := 0) hX dX1_called_1 rfl ?_
  refine wg_aload_n (pc := 2) hX dX1_called_2 0 rfl ?_
  refine wu_ (wg_gI (pc := 3) hX fd_X1_587 dX1_called_3 fun v1 => ?_)
  refine wg_iconst (pc := 6) (v := 1) hX dX1_called_6 rfl ?_
  refine wg_isub (pc := 7) hX dX1_called_7 ?_
  refine wu_ (wg_cSi (pc := 8) (As := [.int a1, .int 0, .int (v1 - 1)]) (rest := []) hX (m_X1_in a1 0 (v1 - 1)) (lw_S q471 q472 q159 q473) hd_X1_in rfl (Nat.le_of_ble_eq_true rfl) (Nat.le_of_ble_eq_true rfl) (Nat.le_of_ble_eq_true rfl) rfl dX1_called_8 fun v2 => ?_)
  refine wg_if_ne (pc := 11) (tgt := 16) hX dX1_called_11 (by decide) (fun h3 => ?_) (fun h3 => ?_)
  · refine wu_t h3 ?_
    refine wg_iconst (pc := 14) (v := (-1)) hX dX1_called_14 rfl ?_
    exact wu_rt (wg_iret (pc := 15) hX rfl rfl dX1_called_15)
  refine wu_f h3 ?_
  refine wg_aload_n (pc := 16) hX dX1_called_16 0 rfl ?_
  refine wg_gK (pc := 17) hX hM0 fd_X1_74 (by decide) dX1_called_17 ?_
  refine wg_iload_n (pc := 20) hX dX1_called_20 1 rfl ?_
  refine wu_ (wg_rR (pc := 21) hX ar_32 (by decide) dX1_called_21 fun r4 => ?_)
  refine wg_astore_n (pc := 22) (l' := [(0, .ref (rid 0 1)), (1, .int a1), (2, .int a2), (3, .ref (rid 7 r4))]) hX dX1_called_22 (by decide) rfl ?_
  refine wg_iload_n (pc := 23) hX dX1_called_23 2 rfl ?_
  by_cases h5 : a2 = 0
  · refine wu_t h5 ?_
    refine wg_tableIn (pc := 24) hX dX1_called_24 (by rw [h5]; decide) (by rw [h5]; decide) (by rw [h5]; rfl) (by decide : ((24 : Nat) : Int) + 48 = ((72 : Nat) : Int)) ?_
    refine wg_aload_n (pc := 72) hX dX1_called_72 3 rfl ?_
    refine wu_ (wg_gI (pc := 73) hX fd_X1_590 dX1_called_73 fun v6 => ?_)
    exact wu_rt (wg_iret (pc := 76) hX rfl rfl dX1_called_76)
  refine wu_f h5 ?_
  by_cases h7 : a2 = 1
  · refine wu_t h7 ?_
    refine wg_tableIn (pc := 24) hX dX1_called_24 (by rw [h7]; decide) (by rw [h7]; decide) (by rw [h7]; rfl) (by decide : ((24 : Nat) : Int) + 53 = ((77 : Nat) : Int)) ?_
    refine wg_aload_n (pc := 77) hX dX1_called_77 3 rfl ?_
    refine wu_ (wg_gI (pc := 78) hX fd_X1_636 dX1_called_78 fun v8 => ?_)
    exact wu_rt (wg_iret (pc := 81) hX rfl rfl dX1_called_81)
  refine wu_f h7 ?_
  by_cases h9 : a2 = 2
  · refine wu_t h9 ?_
    refine wg_tableIn (pc := 24) hX dX1_called_24 (by rw [h9]; decide) (by rw [h9]; decide) (by rw [h9]; rfl) (by decide : ((24 : Nat) : Int) + 58 = ((82 : Nat) : Int)) ?_
    refine wg_aload_n (pc := 82) hX dX1_called_82 3 rfl ?_
    refine wu_ (wg_gI (pc := 83) hX fd_X1_591 dX1_called_83 fun v10 => ?_)
    exact wu_rt (wg_iret (pc := 86) hX rfl rfl dX1_called_86)
  refine wu_f h9 ?_
  by_cases h11 : a2 = 3
  · refine wu_t h11 ?_
    refine wg_tableIn (pc := 24) hX dX1_called_24 (by rw [h11]; decide) (by rw [h11]; decide) (by rw [h11]; rfl) (by decide : ((24 : Nat) : Int) + 63 = ((87 : Nat) : Int)) ?_
    refine wg_aload_n (pc := 87) hX dX1_called_87 3 rfl ?_
    refine wu_ (wg_gI (pc := 88) hX fd_X1_600 dX1_called_88 fun v12 => ?_)
    exact wu_rt (wg_iret (pc := 91) hX rfl rfl dX1_called_91)
  refine wu_f h11 ?_
  by_cases h13 : a2 = 4
  · refine wu_t h13 ?_
    refine wg_tableIn (pc := 24) hX dX1_called_24 (by rw [h13]; decide) (by rw [h13]; decide) (by rw [h13]; rfl) (by decide : ((24 : Nat) : Int) + 68 = ((92 : Nat) : Int)) ?_
    refine wg_aload_n (pc := 92) hX dX1_called_92 3 rfl ?_
    refine wu_ (wg_gI (pc := 93) hX fd_X1_674 dX1_called_93 fun v14 => ?_)
    exact wu_rt (wg_iret (pc := 96) hX rfl rfl dX1_called_96)
  refine wu_f h13 ?_
  by_cases h15 : a2 = 5
  · refine wu_t h15 ?_
    refine wg_tableIn (pc := 24) hX dX1_called_24 (by rw [h15]; decide) (by rw [h15]; decide) (by rw [h15]; rfl) (by decide : ((24 : Nat) : Int) + 73 = ((97 : Nat) : Int)) ?_
    refine wg_aload_n (pc := 97) hX dX1_called_97 3 rfl ?_
    refine wu_ (wg_gI (pc := 98) hX fd_X1_648 dX1_called_98 fun v16 => ?_)
    exact wu_rt (wg_iret (pc := 101) hX rfl rfl dX1_called_101)
  refine wu_f h15 ?_
  by_cases h17 : a2 = 6
  · refine wu_t h17 ?_
    refine wg_tableIn (pc := 24) hX dX1_called_24 (by rw [h17]; decide) (by rw [h17]; decide) (by rw [h17]; rfl) (by decide : ((24 : Nat) : Int) + 78 = ((102 : Nat) : Int)) ?_
    refine wg_aload_n (pc := 102) hX dX1_called_102 3 rfl ?_
    refine wu_ (wg_gI (pc := 103) hX fd_X1_643 dX1_called_103 fun v18 => ?_)
    exact wu_rt (wg_iret (pc := 106) hX rfl rfl dX1_called_106)
  refine wu_f h17 ?_
  by_cases h19 : a2 = 7
  · refine wu_t h19 ?_
    refine wg_tableIn (pc := 24) hX dX1_called_24 (by rw [h19]; decide) (by rw [h19]; decide) (by rw [h19]; rfl) (by decide : ((24 : Nat) : Int) + 83 = ((107 : Nat) : Int)) ?_
    refine wg_aload_n (pc := 107) hX dX1_called_107 3 rfl ?_
    refine wu_ (wg_gI (pc := 108) hX fd_X1_671 dX1_called_108 fun v20 => ?_)
    exact wu_rt (wg_iret (pc := 111) hX rfl rfl dX1_called_111)
  refine wu_f h19 ?_
  refine wg_tableOut (pc := 24) hX dX1_called_24 (am_out8 h5 h7 h9 h11 h13 h15 h17 h19) (by decide : ((24 : Nat) : Int) + 88 = ((112 : Nat) : Int)) ?_
  refine wg_iconst (pc := 112) (v := (-1)) hX dX1_called_112 rfl ?_
  exact wu_rt (wg_iret (pc := 113) hX rfl rfl dX1_called_113)
theorem m_X1_close (a1 : Nat) (a2 : Int32) : amMet yX1_close cX1_close 3 none 1 32 encV [.ref (rid 0 1), .ref (rid 7 a1), .int a2] (up (p_X1_close a1 a2)) := by
  refine amMet.of (own := RX1) (by decide) rfl (Nat.le_of_ble_eq_true rfl) fun X hX hPs => ?_
  change WG X encV 0 [(0, .ref (rid 0 1)), (1, .ref (rid 7 a1)), (2, .int a2)] [] (bd1 (up (p_X1_close a1 a2)) rt1)
  unfold p_X1_close
  refine wg_aload_n (pc := 0) hX dX1_close_0 1 rfl ?_
  refine wg_iload_n (pc := 1) hX dX1_close_1 2 rfl ?_
  refine wu_ (wg_pI (pc := 2) hX fp_X1_591 (fun h => by cases h) dX1_close_2 ?_)
  refine wg_aload_n (pc := 5) hX dX1_close_5 1 rfl ?_
  refine wg_aload_n (pc := 6) hX dX1_close_6 0 rfl ?_
  refine wu_ (wg_gI (pc := 7) hX fd_X1_415 dX1_close_7 fun v1 => ?_)
  refine wu_ (wg_pI (pc := 10) hX fp_X1_674 (fun h => by cases h) dX1_close_10 ?_)
  exact wu_rt (wg_vret (pc := 13) hX rfl rfl dX1_close_13)
theorem m_X1_arrive (a1 : Nat) : amMet yX1_arrive cX1_arrive 4 none 6 149 encV [.ref (rid 0 1), .ref (rid 6 a1)] (up (p_X1_arrive a1)) := by
  refine amMet.of (own := RX1) (by decide) rfl (Nat.le_of_ble_eq_true rfl) fun X hX hPs => ?_
  change WG X encV 0 [(0, .ref (rid 0 1)), (1, .ref (rid 6 a1))] [] (bd1 (up (p_X1_arrive a1)) rt1)
  unfold p_X1_arrive
  have hM0 := amPs.m0 hPs
  refine wu_ (wg_gM ?_)
  refine wg_aload_n (pc := 0) hX dX1_arrive_0 1 rfl ?_
  refine wu_ (wg_gI (pc := 1) hX fd_X1_398 dX1_arrive_1 fun v1 => ?_)
  refine wg_iconst (pc := 4) (v := (-1)) hX dX1_arrive_4 rfl ?_
  refine wg_icmp_eq (pc := 5) (tgt := 35) hX dX1_arrive_5 (by decide) (fun h2 => ?_) (fun h2 => ?_)
  · refine wu_t h2 ?_
    exact wu_rt (wg_vret (pc := 35) hX rfl rfl dX1_arrive_35)
  refine wu_f h2 ?_
  refine wg_aload_n (pc := 8) hX dX1_arrive_8 1 rfl ?_
  refine wu_ (wg_gI (pc := 9) hX fd_X1_398 dX1_arrive_9 fun v3 => ?_)
  refine wg_aload_n (pc := 12) hX dX1_arrive_12 0 rfl ?_
  refine wu_ (wg_gI (pc := 13) hX fd_X1_415 dX1_arrive_13 fun v4 => ?_)
  refine wg_icmp_gt (pc := 16) (tgt := 35) hX dX1_arrive_16 (by decide) (fun h5 => ?_) (fun h5 => ?_)
  · refine wu_t h5 ?_
    exact wu_rt (wg_vret (pc := 35) hX rfl rfl dX1_arrive_35)
  refine wu_f h5 ?_
  refine wg_aload_n (pc := 19) hX dX1_arrive_19 1 rfl ?_
  refine wu_ (wg_gI (pc := 20) hX fd_X1_389 dX1_arrive_20 fun v6 => ?_)
  refine wg_iconst (pc := 23) (v := 1) hX dX1_arrive_23 rfl ?_
  refine wu_jn (α := Unit) (pcJ := 36) (lJ := fun x => [(0, .ref (rid 0 1)), (1, .ref (rid 6 a1))]) (sJ := fun x => []) (fun k7 hk7 => ?_) (fun z7 => ?_)
  · refine wg_icmp_eq (pc := 24) (tgt := 36) hX dX1_arrive_24 (by decide) (fun h8 => ?_) (fun h8 => ?_)
    · refine wu_t h8 ?_
      exact hk7 ()
    refine wu_f h8 ?_
    refine wg_aload_n (pc := 27) hX dX1_arrive_27 1 rfl ?_
    refine wu_ (wg_gI (pc := 28) hX fd_X1_389 dX1_arrive_28 fun v9 => ?_)
    refine wg_iconst (pc := 31) (v := 3) hX dX1_arrive_31 rfl ?_
    refine wg_icmp_eq (pc := 32) (tgt := 36) hX dX1_arrive_32 (by decide) (fun h10 => ?_) (fun h10 => ?_)
    · refine wu_t h10 ?_
      exact hk7 ()
    refine wu_f h10 ?_
    exact wu_rt (wg_vret (pc := 35) hX rfl rfl dX1_arrive_35)
  refine wg_aload_n (pc := 36) hX dX1_arrive_36 1 rfl ?_
  refine wg_iconst (pc := 37) (v := (-1)) hX dX1_arrive_37 rfl ?_
  refine wu_ (wg_pI (pc := 38) hX fp_X1_398 (fun h => by cases h) dX1_arrive_38 ?_)
  refine wg_aload_n (pc := 41) hX dX1_arrive_41 1 rfl ?_
  refine wu_ (wg_gI (pc := 42) hX fd_X1_389 dX1_arrive_42 fun v11 => ?_)
  refine wg_iconst (pc := 45) (v := 3) hX dX1_arrive_45 rfl ?_
  refine wg_icmp_ne (pc := 46) (tgt := 59) hX dX1_arrive_46 (by decide) (fun h12 => ?_) (fun h12 => ?_)
  · refine wu_t h12 ?_
    refine wg_aload_n (pc := 49) hX dX1_arrive_49 0 rfl ?_
    refine wg_aload_n (pc := 50) hX dX1_arrive_50 1 rfl ?_
    refine wg_aload_n (pc := 51) hX dX1_arrive_51 1 rfl ?_
    refine wu_ (wg_gI (pc := 52) hX fd_X1_395 dX1_arrive_52 fun v13 => ?_)
    refine wu_ (wg_cVv (pc := 55) (As := [.ref (rid 6 a1), .int v13]) (rest := []) hX (m_X1_ready a1 v13) (by decide) (by decide) (by decide) rc_X1 (lw_V q958 q960 qs17 q159 q961) hd_X1_ready rfl (Nat.le_of_ble_eq_true rfl) (Nat.le_of_ble_eq_true rfl) (Nat.le_of_ble_eq_true rfl) rfl dX1_arrive_55 ?_)
    exact wu_rt (wg_vret (pc := 58) hX rfl rfl dX1_arrive_58)
  refine wu_f h12 ?_
  refine wg_aload_n (pc := 59) hX dX1_arrive_59 0 rfl ?_
  refine wg_gK (pc := 60) hX hM0 fd_X1_74 (by decide) dX1_arrive_60 ?_
  refine wg_aload_n (pc := 63) hX dX1_arrive_63 1 rfl ?_
  refine wu_ (wg_gI (pc := 64) hX fd_X1_428 dX1_arrive_64 fun v14 => ?_)
  refine wu_ (wg_rR (pc := 67) hX ar_32 (by decide) dX1_arrive_67 fun r15 => ?_)
  refine wg_astore_n (pc := 68) (l' := [(0, .ref (rid 0 1)), (1, .ref (rid 6 a1)), (2, .ref (rid 7 r15))]) hX dX1_arrive_68 (by decide) rfl ?_
  refine wg_aload_n (pc := 69) hX dX1_arrive_69 0 rfl ?_
  refine wg_aload_n (pc := 70) hX dX1_arrive_70 2 rfl ?_
  refine wu_ (wg_gI (pc := 71) hX fd_X1_590 dX1_arrive_71 fun v16 => ?_)
  refine wu_ (wg_cVr (pc := 74) (As := [.int v16]) (rest := []) hX (m_X1_worst v16) (by decide) (by decide) (by decide) rc_X1 (lw_V q681 q683 qs10 q159 q684) hd_X1_worst rfl (Nat.le_of_ble_eq_true rfl) (Nat.le_of_ble_eq_true rfl) (Nat.le_of_ble_eq_true rfl) rfl dX1_arrive_74 fun r17 => ?_)
  refine wg_astore_n (pc := 77) (l' := [(0, .ref (rid 0 1)), (1, .ref (rid 6 a1)), (2, .ref (rid 7 r15)), (3, .ref (rid 3 r17))]) hX dX1_arrive_77 (by decide) rfl ?_
  refine wg_aload_n (pc := 78) hX dX1_arrive_78 3 rfl ?_
  refine wu_jn (α := Unit) (pcJ := 89) (lJ := fun x => [(0, .ref (rid 0 1)), (1, .ref (rid 6 a1)), (2, .ref (rid 7 r15))]) (sJ := fun x => []) (fun k18 hk18 => ?_) (fun z18 => ?_)
  · refine wg_ifnull (pc := 79) (tgt := 89) hX (by decide) dX1_arrive_79 (by decide) (fun h19 => ?_) (fun h19 => ?_)
    · refine wu_t h19 ?_
      refine wg_sub hX [0, 1, 2] rfl ?_
      exact hk18 ()
    refine wu_f h19 ?_
    refine wg_aload_n (pc := 82) hX dX1_arrive_82 2 rfl ?_
    refine wu_ (wg_gI (pc := 83) hX fd_X1_591 dX1_arrive_83 fun v20 => ?_)
    refine wg_if_eq (pc := 86) (tgt := 119) hX dX1_arrive_86 (by decide) (fun h21 => ?_) (fun h21 => ?_)
    rotate_left
    · refine wu_f h21 ?_
      refine wg_sub hX [0, 1, 2] rfl ?_
      exact hk18 ()
    refine wu_t h21 ?_
    refine wg_aload_n (pc := 119) hX dX1_arrive_119 1 rfl ?_
    refine wg_iconst (pc := 120) (v := 2) hX dX1_arrive_120 rfl ?_
    refine wu_ (wg_pI (pc := 121) hX fp_X1_389 (fun h => by cases h) dX1_arrive_121 ?_)
    refine wg_aload_n (pc := 124) hX dX1_arrive_124 1 rfl ?_
    refine wg_aload_n (pc := 125) hX dX1_arrive_125 3 rfl ?_
    refine wu_ (wg_pR (pc := 126) hX fp_X1_401 (fun h => by cases h) (by decide) (by first | exact Or.inl ⟨_, rfl⟩ | exact Or.inr ⟨_, rfl⟩) dX1_arrive_126 ?_)
    refine wg_aload_n (pc := 129) hX dX1_arrive_129 1 rfl ?_
    refine wg_aload_n (pc := 130) hX dX1_arrive_130 0 rfl ?_
    refine wu_ (wg_gI (pc := 131) hX fd_X1_415 dX1_arrive_131 fun v22 => ?_)
    refine wu_ (wg_pI (pc := 134) hX fp_X1_681 (fun h => by cases h) dX1_arrive_134 ?_)
    exact wu_rt (wg_vret (pc := 137) hX rfl rfl dX1_arrive_137)
  refine wg_aload_n (pc := 89) hX dX1_arrive_89 2 rfl ?_
  refine wu_ (wg_gI (pc := 90) hX fd_X1_591 dX1_arrive_90 fun v23 => ?_)
  refine wu_jx (α := Unit) (pcJ := 113) (lJ := fun x => [(0, .ref (rid 0 1)), (1, .ref (rid 6 a1))]) (sJ := fun x => []) (fun K24 hk24 => ?_) (fun z24 => ?_)
  · refine wg_if_ne (pc := 93) (tgt := 113) hX dX1_arrive_93 (by decide) (fun h25 => ?_) (fun h25 => ?_)
    rotate_left
    · refine wu_f h25 ?_
      refine wg_sub hX [0, 1] rfl ?_
      exact wu_rt (hk24 ())
    refine wu_t h25 ?_
    refine wg_aload_n (pc := 96) hX dX1_arrive_96 0 rfl ?_
    refine wg_aload_n (pc := 97) hX dX1_arrive_97 2 rfl ?_
    refine wg_aload_n (pc := 98) hX dX1_arrive_98 2 rfl ?_
    refine wu_ (wg_gI (pc := 99) hX fd_X1_598 dX1_arrive_99 fun v26 => ?_)
    refine wu_jx (α := Int32) (pcJ := 110) (lJ := fun x => [(0, .ref (rid 0 1)), (1, .ref (rid 6 a1))]) (sJ := fun x => [.int x, .ref (rid 7 r15), .ref (rid 0 1)]) (fun K27 hk27 => ?_) (fun z27 => ?_)
    · refine wg_if_eq (pc := 102) (tgt := 109) hX dX1_arrive_102 (by decide) (fun h28 => ?_) (fun h28 => ?_)
      · refine wu_t h28 ?_
        refine wg_iconst (pc := 109) (v := 2) hX dX1_arrive_109 rfl ?_
        refine wg_sub hX [0, 1] rfl ?_
        exact wu_rt (hk27 2)
      refine wu_f h28 ?_
      refine wg_iconst (pc := 105) (v := 1) hX dX1_arrive_105 rfl ?_
      refine wg_goto (pc := 106) (tgt := 110) hX dX1_arrive_106 (by decide) ?_
      refine wg_sub hX [0, 1] rfl ?_
      exact wu_rt (hk27 1)
    refine wu_ (wg_cVv (pc := 110) (As := [.ref (rid 7 r15), .int z27]) (rest := []) hX (m_X1_close r15 z27) (by decide) (by decide) (by decide) rc_X1 (lw_V q1493 q1495 qs50 q159 q1496) hd_X1_close rfl (Nat.le_of_ble_eq_true rfl) (Nat.le_of_ble_eq_true rfl) (Nat.le_of_ble_eq_true rfl) rfl dX1_arrive_110 ?_)
    exact wu_rt (hk24 ())
  refine wg_aload_n (pc := 113) hX dX1_arrive_113 0 rfl ?_
  refine wg_aload_n (pc := 114) hX dX1_arrive_114 1 rfl ?_
  refine wu_ (wg_cVv (pc := 115) (As := [.ref (rid 6 a1)]) (rest := []) hX (m_X1_turnHome a1) (by decide) (by decide) (by decide) rc_X1 (lw_V q966 q968 qs18 q159 q969) hd_X1_turnHome rfl (Nat.le_of_ble_eq_true rfl) (Nat.le_of_ble_eq_true rfl) (Nat.le_of_ble_eq_true rfl) rfl dX1_arrive_115 ?_)
  exact wu_rt (wg_vret (pc := 118) hX rfl rfl dX1_arrive_118)
theorem m_X1_goOver (a1 : Nat) : amMet yX1_goOver cX1_goOver 3 none 5 121 encV [.ref (rid 0 1), .ref (rid 6 a1)] (up (p_X1_goOver a1)) := by
  refine amMet.of (own := RX1) (by decide) rfl (Nat.le_of_ble_eq_true rfl) fun X hX hPs => ?_
  change WG X encV 0 [(0, .ref (rid 0 1)), (1, .ref (rid 6 a1))] [] (bd1 (up (p_X1_goOver a1)) rt1)
  unfold p_X1_goOver
  refine wg_aload_n (pc := 0) hX dX1_goOver_0 1 rfl ?_
  refine wu_ (wg_gI (pc := 1) hX fd_X1_389 dX1_goOver_1 fun v1 => ?_)
  refine wg_iconst (pc := 4) (v := 2) hX dX1_goOver_4 rfl ?_
  refine wg_icmp_ne (pc := 5) (tgt := 18) hX dX1_goOver_5 (by decide) (fun h2 => ?_) (fun h2 => ?_)
  rotate_left
  · refine wu_f h2 ?_
    exact wu_rt (wg_vret (pc := 18) hX rfl rfl dX1_goOver_18)
  refine wu_t h2 ?_
  refine wg_aload_n (pc := 8) hX dX1_goOver_8 1 rfl ?_
  refine wu_ (wg_gR (pc := 9) hX fd_X1_401 dX1_goOver_9 fun r3 => ?_)
  refine wu_ (wg_gd fun h4 => ?_)
  refine wu_ (wg_cVi (pc := 12) (As := []) (rest := []) hX (m_X5_burning r3) (by decide) (by decide) h4 rc_X5 (lw_V q685 q686 q687 q167 q688) hd_X5_burning rfl (Nat.le_of_ble_eq_true rfl) (Nat.le_of_ble_eq_true rfl) (Nat.le_of_ble_eq_true rfl) rfl dX1_goOver_12 fun v5 => ?_)
  refine wg_if_le (pc := 15) (tgt := 19) hX dX1_goOver_15 (by decide) (fun h6 => ?_) (fun h6 => ?_)
  rotate_left
  · refine wu_f h6 ?_
    exact wu_rt (wg_vret (pc := 18) hX rfl rfl dX1_goOver_18)
  refine wu_t h6 ?_
  refine wg_aload_n (pc := 19) hX dX1_goOver_19 0 rfl ?_
  refine wg_aload_n (pc := 20) hX dX1_goOver_20 1 rfl ?_
  refine wu_ (wg_gR (pc := 21) hX fd_X1_401 dX1_goOver_21 fun r7 => ?_)
  refine wu_ (wg_gI (pc := 24) hX fd_X1_308 dX1_goOver_24 fun v8 => ?_)
  refine wu_ (wg_cVr (pc := 27) (As := [.int v8]) (rest := []) hX (m_X1_worst v8) (by decide) (by decide) (by decide) rc_X1 (lw_V q681 q683 qs10 q159 q684) hd_X1_worst rfl (Nat.le_of_ble_eq_true rfl) (Nat.le_of_ble_eq_true rfl) (Nat.le_of_ble_eq_true rfl) rfl dX1_goOver_27 fun r9 => ?_)
  refine wg_astore_n (pc := 30) (l' := [(0, .ref (rid 0 1)), (1, .ref (rid 6 a1)), (2, .ref (rid 3 r9))]) hX dX1_goOver_30 (by decide) rfl ?_
  refine wg_aload_n (pc := 31) hX dX1_goOver_31 2 rfl ?_
  refine wg_ifnull (pc := 32) (tgt := 40) hX (by decide) dX1_goOver_32 (by decide) (fun h10 => ?_) (fun h10 => ?_)
  · refine wu_t h10 ?_
    exact wu_rt (wg_vret (pc := 40) hX rfl rfl dX1_goOver_40)
  refine wu_f h10 ?_
  refine wg_aload_n (pc := 35) hX dX1_goOver_35 1 rfl ?_
  refine wg_aload_n (pc := 36) hX dX1_goOver_36 2 rfl ?_
  refine wu_ (wg_pR (pc := 37) hX fp_X1_401 (fun h => by cases h) (by decide) (by first | exact Or.inl ⟨_, rfl⟩ | exact Or.inr ⟨_, rfl⟩) dX1_goOver_37 ?_)
  exact wu_rt (wg_vret (pc := 40) hX rfl rfl dX1_goOver_40)
theorem m_X1_save (a1 : Nat) : amMet yX1_save cX1_save 5 none 1 64 encV [.ref (rid 0 1), .ref (rid 6 a1)] (up (p_X1_save a1)) := by
  refine amMet.of (own := RX1) (by decide) rfl (Nat.le_of_ble_eq_true rfl) fun X hX hPs => ?_
  change WG X encV 0 [(0, .ref (rid 0 1)), (1, .ref (rid 6 a1))] [] (bd1 (up (p_X1_save a1)) rt1)
  unfold p_X1_save
  refine wg_aload_n (pc := 0) hX dX1_save_0 1 rfl ?_
  refine wu_ (wg_gRs (pc := 1) hX fd_X1_682 dX1_save_1 fun r1 => ?_)
  refine wg_astore_n (pc := 4) (l' := [(0, .ref (rid 0 1)), (1, .ref (rid 6 a1)), (2, .ref (rid 3 r1))]) hX dX1_save_4 (by decide) rfl ?_
  refine wg_aload_n (pc := 5) hX dX1_save_5 1 rfl ?_
  refine wu_ (wg_gIs (pc := 6) hX fd_X1_683 dX1_save_6 fun v2 => ?_)
  refine wg_aload_n (pc := 9) hX dX1_save_9 2 rfl ?_
  refine wu_ (wg_gI (pc := 10) hX fd_X1_209 dX1_save_10 fun v3 => ?_)
  refine wg_mmin (pc := 13) hX q1314 q1149 q165 q1150 (Nat.le_of_ble_eq_true rfl) (Nat.le_of_ble_eq_true rfl) dX1_save_13 ?_
  refine wu_ (wg_nmi hX fun v4 => ?_)
  refine wg_iconst (pc := 16) (v := 1) hX dX1_save_16 rfl ?_
  refine wg_isub (pc := 17) hX dX1_save_17 ?_
  refine wu_ (wg_nmi hX fun v5 => ?_)
  refine wg_istore_n (pc := 18) (l' := [(0, .ref (rid 0 1)), (1, .ref (rid 6 a1)), (2, .ref (rid 3 r1)), (3, .int v5)]) hX dX1_save_18 (by decide) rfl ?_
  refine wg_sub hX [2, 3] rfl ?_
  refine wu_lp (α := Int32) (pcl := 19) (lo := fun x => [(2, .ref (rid 3 r1)), (3, .int x)]) (so := fun _ => []) (fun rec6 hrec6 x6 => ?_) amFu v5
  unfold p_X1_save_L19
  refine wg_iload_n (pc := 19) hX dX1_save_19 1 rfl ?_
  refine wg_if_lt (pc := 20) (tgt := 88) hX dX1_save_20 (by decide) (fun h7 => ?_) (fun h7 => ?_)
  · refine wu_t h7 ?_
    exact wu_rt (wg_vret (pc := 88) hX rfl rfl dX1_save_88)
  refine wu_f h7 ?_
  refine wg_aload_n (pc := 23) hX dX1_save_23 0 rfl ?_
  refine wu_ (wg_gC (pc := 24) (v := (2 * r1 - 1)) hX fd_X1_235 (by decide) rfl dX1_save_24 ?_)
  refine wu_ (wg_gC (pc := 27) (v := (2 * r1 - 1)) hX fd_X1_239 (by decide) rfl dX1_save_27 ?_)
  refine wg_iload_n (pc := 30) hX dX1_save_30 1 rfl ?_
  refine wu_ (wg_rZ (pc := 31) hX ar_149 dX1_save_31 fun v8 => ?_)
  refine wu_jn (α := Unit) (pcJ := 82) (lJ := fun x => [(2, .ref (rid 3 r1)), (3, .int x6)]) (sJ := fun x => []) (fun k9 hk9 => ?_) (fun z9 => ?_)
  · refine wg_if_ne (pc := 32) (tgt := 82) hX dX1_save_32 (by decide) (fun h10 => ?_) (fun h10 => ?_)
    rotate_left
    · refine wu_f h10 ?_
      exact hk9 ()
    refine wu_t h10 ?_
    refine wg_aload_n (pc := 35) hX dX1_save_35 0 rfl ?_
    refine wu_ (wg_gC (pc := 36) (v := r1) hX fd_X1_254 (by decide) rfl dX1_save_36 ?_)
    refine wg_iload_n (pc := 39) hX dX1_save_39 1 rfl ?_
    refine wu_ (wg_rI (pc := 40) hX ar_143 dX1_save_40 fun v11 => ?_)
    refine wg_if_ne (pc := 41) (tgt := 47) hX dX1_save_41 (by decide) (fun h12 => ?_) (fun h12 => ?_)
    · refine wu_t h12 ?_
      refine wg_goto (pc := 44) (tgt := 82) hX dX1_save_44 (by decide) ?_
      exact hk9 ()
    refine wu_f h12 ?_
    refine wg_iconst (pc := 47) (v := 2) hX dX1_save_47 rfl ?_
    refine wg_aload_n (pc := 48) hX dX1_save_48 0 rfl ?_
    refine wu_ (wg_gC (pc := 49) (v := r1) hX fd_X1_254 (by decide) rfl dX1_save_49 ?_)
    refine wg_iload_n (pc := 52) hX dX1_save_52 1 rfl ?_
    refine wu_ (wg_rI (pc := 53) hX ar_143 dX1_save_53 fun v13 => ?_)
    refine wg_mmin (pc := 54) hX q1314 q1149 q165 q1150 (Nat.le_of_ble_eq_true rfl) (Nat.le_of_ble_eq_true rfl) dX1_save_54 ?_
    refine wu_ (wg_nmi hX fun v14 => ?_)
    refine wg_istore (pc := 57) (l' := [(2, .ref (rid 3 r1)), (3, .int x6), (4, .int v14)]) hX dX1_save_57 (by decide) rfl ?_
    refine wg_aload_n (pc := 59) hX dX1_save_59 0 rfl ?_
    refine wu_ (wg_gC (pc := 60) (v := r1) hX fd_X1_254 (by decide) rfl dX1_save_60 ?_)
    refine wg_iload_n (pc := 63) hX dX1_save_63 1 rfl ?_
    refine wg_dup2 (pc := 64) hX dX1_save_64 rfl rfl ?_
    refine wu_ (wg_rI (pc := 65) hX ar_143 dX1_save_65 fun v15 => ?_)
    refine wg_iload (pc := 66) hX dX1_save_66 2 rfl ?_
    refine wg_isub (pc := 68) hX dX1_save_68 ?_
    refine wu_ (wg_wI (pc := 69) hX ar_143 dX1_save_69 ?_)
    refine wg_aload_n (pc := 70) hX dX1_save_70 0 rfl ?_
    refine wg_dup (pc := 71) hX dX1_save_71 rfl ?_
    refine wu_ (wg_gI (pc := 72) hX fd_X1_292 dX1_save_72 fun v16 => ?_)
    refine wg_iload (pc := 75) hX dX1_save_75 2 rfl ?_
    refine wg_iadd (pc := 77) hX dX1_save_77 ?_
    refine wu_ (wg_pI (pc := 78) hX fp_X1_292 (fun h => by cases h) dX1_save_78 ?_)
    exact wu_rt (wg_vret (pc := 81) hX rfl rfl dX1_save_81)
  refine wg_iinc (pc := 82) (v := (x6 + (-1))) (l' := [(2, .ref (rid 3 r1)), (3, .int (x6 + (-1)))]) hX dX1_save_82 1 rfl rfl (by decide) rfl ?_
  refine wg_goto (pc := 85) (tgt := 19) hX dX1_save_85 (by decide) ?_
  exact hrec6 (x6 + (-1))
theorem m_X1_hasChief (a1 : Nat) : amMet yX1_hasChief cX1_hasChief 3 (some .boolean) 1 32 encI [.ref (rid 0 1), .ref (rid 3 a1)] (up (p_X1_hasChief a1)) := by
  refine amMet.of (own := RX1) (by decide) rfl (Nat.le_of_ble_eq_true rfl) fun X hX hPs => ?_
  change WG X encI 0 [(0, .ref (rid 0 1)), (1, .ref (rid 3 a1))] [] (bd1 (up (p_X1_hasChief a1)) rt1)
  unfold p_X1_hasChief
  have hM0 := amPs.m0 hPs
  refine wu_ (wg_gM ?_)
  refine wg_iconst (pc := 0) (v := 0) hX dX1_hasChief_0 rfl ?_
  refine wg_istore_n (pc := 1) (l' := [(0, .ref (rid 0 1)), (1, .ref (rid 3 a1)), (2, .int 0)]) hX dX1_hasChief_1 (by decide) rfl ?_
  refine wu_lp (α := Int32) (pcl := 2) (lo := fun x => [(0, .ref (rid 0 1)), (1, .ref (rid 3 a1)), (2, .int x)]) (so := fun _ => []) (fun rec1 hrec1 x1 => ?_) amFu 0
  unfold p_X1_hasChief_L2
  refine wg_iload_n (pc := 2) hX dX1_hasChief_2 2 rfl ?_
  refine wg_aload_n (pc := 3) hX dX1_hasChief_3 0 rfl ?_
  refine wu_ (wg_gI (pc := 4) hX fd_X1_365 dX1_hasChief_4 fun v2 => ?_)
  refine wg_icmp_ge (pc := 7) (tgt := 56) hX dX1_hasChief_7 (by decide) (fun h3 => ?_) (fun h3 => ?_)
  · refine wu_t h3 ?_
    refine wg_iconst (pc := 56) (v := 0) hX dX1_hasChief_56 rfl ?_
    exact wu_rt (wg_zret (pc := 57) hX rfl (by decide) rfl dX1_hasChief_57)
  refine wu_f h3 ?_
  refine wg_aload_n (pc := 10) hX dX1_hasChief_10 0 rfl ?_
  refine wg_gK (pc := 11) hX hM0 fd_X1_48 (by decide) dX1_hasChief_11 ?_
  refine wg_iload_n (pc := 14) hX dX1_hasChief_14 2 rfl ?_
  refine wu_ (wg_rR (pc := 15) hX ar_28 (by decide) dX1_hasChief_15 fun r4 => ?_)
  refine wu_ (wg_gI (pc := 16) hX fd_X1_389 dX1_hasChief_16 fun v5 => ?_)
  refine wg_iconst (pc := 19) (v := 2) hX dX1_hasChief_19 rfl ?_
  refine wu_jn (α := Unit) (pcJ := 50) (lJ := fun x => [(0, .ref (rid 0 1)), (1, .ref (rid 3 a1)), (2, .int x1)]) (sJ := fun x => []) (fun k6 hk6 => ?_) (fun z6 => ?_)
  · refine wg_icmp_ne (pc := 20) (tgt := 50) hX dX1_hasChief_20 (by decide) (fun h7 => ?_) (fun h7 => ?_)
    rotate_left
    · refine wu_f h7 ?_
      exact hk6 ()
    refine wu_t h7 ?_
    refine wg_aload_n (pc := 23) hX dX1_hasChief_23 0 rfl ?_
    refine wg_gK (pc := 24) hX hM0 fd_X1_48 (by decide) dX1_hasChief_24 ?_
    refine wg_iload_n (pc := 27) hX dX1_hasChief_27 2 rfl ?_
    refine wu_ (wg_rR (pc := 28) hX ar_28 (by decide) dX1_hasChief_28 fun r8 => ?_)
    refine wu_ (wg_gR (pc := 29) hX fd_X1_401 dX1_hasChief_29 fun r9 => ?_)
    refine wg_aload_n (pc := 32) hX dX1_hasChief_32 1 rfl ?_
    refine wg_acmp_ne (pc := 33) (tgt := 50) hX (by decide) dX1_hasChief_33 (by decide) (fun h10 => ?_) (fun h10 => ?_)
    rotate_left
    · refine wu_f h10 ?_
      exact hk6 ()
    refine wu_t h10 ?_
    refine wg_aload_n (pc := 36) hX dX1_hasChief_36 0 rfl ?_
    refine wg_gK (pc := 37) hX hM0 fd_X1_48 (by decide) dX1_hasChief_37 ?_
    refine wg_iload_n (pc := 40) hX dX1_hasChief_40 2 rfl ?_
    refine wu_ (wg_rR (pc := 41) hX ar_28 (by decide) dX1_hasChief_41 fun r11 => ?_)
    refine wu_ (wg_io (pc := 42) hX ci_X12 q904 dX1_hasChief_42 fun v12 => ?_)
    refine wg_if_eq (pc := 45) (tgt := 50) hX dX1_hasChief_45 (by decide) (fun h13 => ?_) (fun h13 => ?_)
    · refine wu_t h13 ?_
      exact hk6 ()
    refine wu_f h13 ?_
    refine wg_iconst (pc := 48) (v := 1) hX dX1_hasChief_48 rfl ?_
    exact wu_rt (wg_zret (pc := 49) hX rfl (by decide) rfl dX1_hasChief_49)
  refine wg_iinc (pc := 50) (v := (x1 + 1)) (l' := [(0, .ref (rid 0 1)), (1, .ref (rid 3 a1)), (2, .int (x1 + 1))]) hX dX1_hasChief_50 2 rfl rfl (by decide) rfl ?_
  refine wg_goto (pc := 53) (tgt := 2) hX dX1_hasChief_53 (by decide) ?_
  exact hrec1 (x1 + 1)
theorem m_X1_roomFor (a1 : Nat) (a2 : Int32) : amMet yX1_roomFor cX1_roomFor 8 (some .int) 3 75 encI [.ref (rid 0 1), .ref (rid 3 a1), .int a2] (up (p_X1_roomFor a1 a2)) := by
  refine amMet.of (own := RX1) (by decide) rfl (Nat.le_of_ble_eq_true rfl) fun X hX hPs => ?_
  change WG X encI 0 [(0, .ref (rid 0 1)), (1, .ref (rid 3 a1)), (2, .int a2)] [] (bd1 (up (p_X1_roomFor a1 a2)) rt1)
  unfold p_X1_roomFor
  refine wg_aload_n (pc := 0) hX dX1_roomFor_0 0 rfl ?_
  refine wg_aload_n (pc := 1) hX dX1_roomFor_1 1 rfl ?_
  refine wu_ (wg_cVi (pc := 2) (As := [.ref (rid 3 a1)]) (rest := []) hX (m_X1_hasChief a1) (by decide) (by decide) (by decide) rc_X1 (lw_V q1513 q1515 qs55 q159 q1516) hd_X1_hasChief rfl (Nat.le_of_ble_eq_true rfl) (Nat.le_of_ble_eq_true rfl) (Nat.le_of_ble_eq_true rfl) rfl dX1_roomFor_2 fun v1 => ?_)
  refine wg_istore_n (pc := 5) (l' := [(0, .ref (rid 0 1)), (1, .ref (rid 3 a1)), (2, .int a2), (3, .int v1)]) hX dX1_roomFor_5 (by decide) rfl ?_
  refine wg_iconst (pc := 6) (v := (-1)) hX dX1_roomFor_6 rfl ?_
  refine wg_istore (pc := 7) (l' := [(0, .ref (rid 0 1)), (1, .ref (rid 3 a1)), (2, .int a2), (3, .int v1), (4, .int (-1))]) hX dX1_roomFor_7 (by decide) rfl ?_
  refine wg_iconst (pc := 9) (v := 0) hX dX1_roomFor_9 rfl ?_
  refine wg_istore (pc := 10) (l' := [(0, .ref (rid 0 1)), (1, .ref (rid 3 a1)), (2, .int a2), (3, .int v1), (4, .int (-1)), (5, .int 0)]) hX dX1_roomFor_10 (by decide) rfl ?_
  refine wg_iconst (pc := 12) (v := 0) hX dX1_roomFor_12 rfl ?_
  refine wg_istore (pc := 13) (l' := [(0, .ref (rid 0 1)), (1, .ref (rid 3 a1)), (2, .int a2), (3, .int v1), (4, .int (-1)), (5, .int 0), (6, .int 0)]) hX dX1_roomFor_13 (by decide) rfl ?_
  refine wg_sub hX [1, 2, 3, 4, 5, 6] rfl ?_
  refine wu_lpx (α := Int32 × Int32 × Int32) (γ := Int32) (pcl := 15) (pcT := 113) (lo := fun x => [(1, .ref (rid 3 a1)), (2, .int a2), (3, .int v1), (4, .int x.1), (5, .int x.2.1), (6, .int x.2.2)]) (so := fun _ => []) (lT := fun x => [(4, .int x)]) (sT := fun _ => []) (n := amFu) (x0 := ((-1), 0, 0)) (fun K2 rec2 hrec2 hk2 x2 => ?_) (fun y3 => ?_)
  · unfold p_X1_roomFor_L15
    refine wg_iload (pc := 15) hX dX1_roomFor_15 5 rfl ?_
    refine wg_aload_n (pc := 17) hX dX1_roomFor_17 0 rfl ?_
    refine wu_ (wg_gd fun h4 => ?_)
    refine wu_ (wg_cVi (pc := 18) (As := []) (rest := [.int x2.2.2]) hX (m_X5_all a1) (by decide) (by decide) h4 rc_X5 (lw_V q709 q690 q691 q167 q692) hd_X5_all rfl (Nat.le_of_ble_eq_true rfl) (Nat.le_of_ble_eq_true rfl) (Nat.le_of_ble_eq_true rfl) rfl dX1_roomFor_18 fun v5 => ?_)
    refine wg_icmp_ge (pc := 21) (tgt := 113) hX dX1_roomFor_21 (by decide) (fun h6 => ?_) (fun h6 => ?_)
    · refine wu_t h6 ?_
      refine wg_sub hX [3] rfl ?_
      exact wu_rt (hk2 x2.1)
    refine wu_f h6 ?_
    refine wg_aload_n (pc := 24) hX dX1_roomFor_24 0 rfl ?_
    refine wg_iload (pc := 25) hX dX1_roomFor_25 5 rfl ?_
    refine wu_ (wg_gd fun h7 => ?_)
    refine wu_ (wg_cVi (pc := 27) (As := [.int x2.2.2]) (rest := []) hX (m_X5_floorOf a1 x2.2.2) (by decide) (by decide) h7 rc_X5 (lw_V q710 q698 q699 q167 q700) hd_X5_floorOf rfl (Nat.le_of_ble_eq_true rfl) (Nat.le_of_ble_eq_true rfl) (Nat.le_of_ble_eq_true rfl) rfl dX1_roomFor_27 fun v8 => ?_)
    refine wg_iload_n (pc := 30) hX dX1_roomFor_30 1 rfl ?_
    refine wg_icmp_gt (pc := 31) (tgt := 113) hX dX1_roomFor_31 (by decide) (fun h9 => ?_) (fun h9 => ?_)
    · refine wu_t h9 ?_
      refine wg_sub hX [3] rfl ?_
      exact wu_rt (hk2 x2.1)
    refine wu_f h9 ?_
    refine wg_aload_n (pc := 34) hX dX1_roomFor_34 0 rfl ?_
    refine wg_aload_n (pc := 35) hX dX1_roomFor_35 0 rfl ?_
    refine wu_ (wg_gC (pc := 36) (v := (2 * a1 - 1)) hX fd_X1_235 (by decide) rfl dX1_roomFor_36 ?_)
    refine wg_iload (pc := 39) hX dX1_roomFor_39 5 rfl ?_
    refine wu_ (wg_gd fun h10 => ?_)
    refine wu_ (wg_cVi (pc := 41) (As := [.ref (rid 4 (2 * a1 - 1)), .int x2.2.2]) (rest := []) hX (m_X5_burns a1 (2 * a1 - 1) x2.2.2) (by decide) (by decide) h10 rc_X5 (lw_V q718 q694 q695 q167 q696) hd_X5_burns rfl (Nat.le_of_ble_eq_true rfl) (Nat.le_of_ble_eq_true rfl) (Nat.le_of_ble_eq_true rfl) rfl dX1_roomFor_41 fun v11 => ?_)
    refine wu_jx (α := Int32 × Int32) (pcJ := 107) (lJ := fun x => [(1, .ref (rid 3 a1)), (2, .int a2), (3, .int v1), (4, .int x.1), (5, .int x.2), (6, .int x2.2.2)]) (sJ := fun x => []) (fun K12 hk12 => ?_) (fun z12 => ?_)
    · refine wg_if_ne (pc := 44) (tgt := 50) hX dX1_roomFor_44 (by decide) (fun h13 => ?_) (fun h13 => ?_)
      · refine wu_t h13 ?_
        refine wg_goto (pc := 47) (tgt := 107) hX dX1_roomFor_47 (by decide) ?_
        exact wu_rt (hk12 (x2.1, x2.2.1))
      refine wu_f h13 ?_
      refine wg_iload_n (pc := 50) hX dX1_roomFor_50 2 rfl ?_
      refine wu_jx (α := Int32) (pcJ := 81) (lJ := fun x => [(1, .ref (rid 3 a1)), (2, .int a2), (3, .int v1), (4, .int x2.1), (5, .int x2.2.1), (6, .int x2.2.2)]) (sJ := fun x => [.int x]) (fun K14 hk14 => ?_) (fun z14 => ?_)
      · refine wg_if_eq (pc := 51) (tgt := 80) hX dX1_roomFor_51 (by decide) (fun h15 => ?_) (fun h15 => ?_)
        · refine wu_t h15 ?_
          refine wg_iconst (pc := 80) (v := 0) hX dX1_roomFor_80 rfl ?_
          exact wu_rt (hk14 0)
        refine wu_f h15 ?_
        refine wg_aload_n (pc := 54) hX dX1_roomFor_54 0 rfl ?_
        refine wu_ (wg_gC (pc := 55) (v := (2 * a1 - 1)) hX fd_X1_235 (by decide) rfl dX1_roomFor_55 ?_)
        refine wu_ (wg_gC (pc := 58) (v := (2 * a1 - 1)) hX fd_X1_266 (by decide) rfl dX1_roomFor_58 ?_)
        refine wg_iload (pc := 61) hX dX1_roomFor_61 5 rfl ?_
        refine wu_ (wg_rI (pc := 63) hX ar_145 dX1_roomFor_63 fun v16 => ?_)
        refine wg_aload_n (pc := 64) hX dX1_roomFor_64 0 rfl ?_
        refine wu_ (wg_gC (pc := 65) (v := (2 * a1 - 1)) hX fd_X1_235 (by decide) rfl dX1_roomFor_65 ?_)
        refine wu_ (wg_gC (pc := 68) (v := (2 * a1 - 1)) hX fd_X1_332 (by decide) rfl dX1_roomFor_68 ?_)
        refine wg_iload (pc := 71) hX dX1_roomFor_71 5 rfl ?_
        refine wu_ (wg_rI (pc := 73) hX ar_147 dX1_roomFor_73 fun v17 => ?_)
        refine wg_iconst (pc := 74) (v := 4) hX dX1_roomFor_74 rfl ?_
        refine wg_idiv (pc := 75) hX dX1_roomFor_75 (by decide) ?_
        refine wg_isub (pc := 76) hX dX1_roomFor_76 ?_
        refine wg_goto (pc := 77) (tgt := 81) hX dX1_roomFor_77 (by decide) ?_
        exact wu_rt (hk14 (v16 - (v17 / 4)))
      refine wg_istore (pc := 81) (l' := [(1, .ref (rid 3 a1)), (2, .int a2), (3, .int v1), (4, .int x2.1), (5, .int x2.2.1), (6, .int x2.2.2), (7, .int z14)]) hX dX1_roomFor_81 (by decide) rfl ?_
      refine wg_iload (pc := 83) hX dX1_roomFor_83 3 rfl ?_
      refine wg_iconst (pc := 85) (v := (-1)) hX dX1_roomFor_85 rfl ?_
      refine wu_jn (α := Unit) (pcJ := 99) (lJ := fun x => [(1, .ref (rid 3 a1)), (2, .int a2), (3, .int v1), (6, .int x2.2.2), (7, .int z14)]) (sJ := fun x => []) (fun k18 hk18 => ?_) (fun z18 => ?_)
      · refine wg_icmp_eq (pc := 86) (tgt := 99) hX dX1_roomFor_86 (by decide) (fun h19 => ?_) (fun h19 => ?_)
        · refine wu_t h19 ?_
          refine wg_sub hX [0, 1, 2, 5, 6] rfl ?_
          exact hk18 ()
        refine wu_f h19 ?_
        refine wg_iload (pc := 89) hX dX1_roomFor_89 6 rfl ?_
        refine wg_iload (pc := 91) hX dX1_roomFor_91 4 rfl ?_
        refine wg_icmp_gt (pc := 93) (tgt := 99) hX dX1_roomFor_93 (by decide) (fun h20 => ?_) (fun h20 => ?_)
        · refine wu_t h20 ?_
          refine wg_sub hX [0, 1, 2, 5, 6] rfl ?_
          exact hk18 ()
        refine wu_f h20 ?_
        refine wg_goto (pc := 96) (tgt := 107) hX dX1_roomFor_96 (by decide) ?_
        refine wg_sub hX [0, 1, 2, 3, 4, 5] rfl ?_
        exact wu_rt (hk12 (x2.1, x2.2.1))
      refine wg_iload (pc := 99) hX dX1_roomFor_99 3 rfl ?_
      refine wg_istore (pc := 101) (l' := [(1, .ref (rid 3 a1)), (2, .int a2), (3, .int v1), (4, .int x2.2.2), (6, .int x2.2.2), (7, .int z14)]) hX dX1_roomFor_101 (by decide) rfl ?_
      refine wg_iload (pc := 103) hX dX1_roomFor_103 5 rfl ?_
      refine wg_istore (pc := 105) (l' := [(1, .ref (rid 3 a1)), (2, .int a2), (3, .int v1), (4, .int x2.2.2), (5, .int z14), (6, .int x2.2.2), (7, .int z14)]) hX dX1_roomFor_105 (by decide) rfl ?_
      refine wg_sub hX [0, 1, 2, 3, 4, 5] rfl ?_
      exact wu_rt (hk12 (x2.2.2, z14))
    refine wg_iinc (pc := 107) (v := (x2.2.2 + 1)) (l' := [(1, .ref (rid 3 a1)), (2, .int a2), (3, .int v1), (4, .int z12.1), (5, .int z12.2), (6, .int (x2.2.2 + 1))]) hX dX1_roomFor_107 5 rfl rfl (by decide) rfl ?_
    refine wg_goto (pc := 110) (tgt := 15) hX dX1_roomFor_110 (by decide) ?_
    exact hrec2 (z12.1, z12.2, (x2.2.2 + 1))
  refine wg_iload (pc := 113) hX dX1_roomFor_113 0 rfl ?_
  exact wu_rt (wg_iret (pc := 115) hX rfl rfl dX1_roomFor_115)
theorem m_X9_asks (r0 : Nat) (a1 : Int32) : amMet yX9_asks cX9_asks 2 (some .int) 1 32 encI [.ref (rid 6 r0), .int a1] (up (p_X9_asks r0 a1)) := by
  refine amMet.of (own := RX9) (by decide) rfl (Nat.le_of_ble_eq_true rfl) fun X hX hPs => ?_
  change WG X encI 0 [(0, .ref (rid 6 r0)), (1, .int a1)] [] (bd1 (up (p_X9_asks r0 a1)) rt1)
  unfold p_X9_asks
  refine wg_aload_n (pc := 0) hX dX9_asks_0 0 rfl ?_
  refine wu_ (wg_gIs (pc := 1) hX fd_X9_13 dX9_asks_1 fun v1 => ?_)
  exact wu_rt (wg_iret (pc := 4) hX rfl rfl dX9_asks_4)
theorem m_X10_asks (r0 : Nat) (a1 : Int32) : amMet yX10_asks cX10_asks 2 (some .int) 2 53 encI [.ref (rid 6 r0), .int a1] (up (p_X10_asks r0 a1)) := by
  refine amMet.of (own := RX10) (by decide) rfl (Nat.le_of_ble_eq_true rfl) fun X hX hPs => ?_
  change WG X encI 0 [(0, .ref (rid 6 r0)), (1, .int a1)] [] (bd1 (up (p_X10_asks r0 a1)) rt1)
  unfold p_X10_asks
  refine wg_iload_n (pc := 0) hX dX10_asks_0 1 rfl ?_
  refine wg_aload_n (pc := 1) hX dX10_asks_1 0 rfl ?_
  refine wu_ (wg_gIs (pc := 2) hX fd_X10_7 dX10_asks_2 fun v1 => ?_)
  refine wg_icmp_ge (pc := 5) (tgt := 12) hX dX10_asks_5 (by decide) (fun h2 => ?_) (fun h2 => ?_)
  rotate_left
  · refine wu_f h2 ?_
    refine wg_iconst (pc := 8) (v := 0) hX dX10_asks_8 rfl ?_
    refine wg_goto (pc := 9) (tgt := 17) hX dX10_asks_9 (by decide) ?_
    exact wu_rt (wg_iret (pc := 17) hX rfl rfl dX10_asks_17)
  refine wu_t h2 ?_
  refine wg_aload_n (pc := 12) hX dX10_asks_12 0 rfl ?_
  refine wg_iload_n (pc := 13) hX dX10_asks_13 1 rfl ?_
  refine wu_ (wg_gd fun h3 => ?_)
  refine wu_ (wg_cSUi (pc := 14) (n := 1) (As := [.int a1]) (rest := []) hX (m_X9_asks r0 a1) (by decide) (by decide) h3 rcs_6 (lw_SU q1531 q2845 q876 q1523 q171 q1525) (by decide +kernel) rfl (Nat.le_of_ble_eq_true rfl) (Nat.le_of_ble_eq_true rfl) (Nat.le_of_ble_eq_true rfl) rfl dX10_asks_14 fun v4 => ?_)
  exact wu_rt (wg_iret (pc := 17) hX rfl rfl dX10_asks_17)
theorem m_X5_bears (r0 : Nat) : amMet yX5_bears cX5_bears 1 (some .int) 1 32 encI [.ref (rid 3 r0)] (up (p_X5_bears r0)) := by
  refine amMet.of (own := RX5) (by decide) rfl (Nat.le_of_ble_eq_true rfl) fun X hX hPs => ?_
  change WG X encI 0 [(0, .ref (rid 3 r0))] [] (bd1 (up (p_X5_bears r0)) rt1)
  unfold p_X5_bears
  refine wg_aload_n (pc := 0) hX dX5_bears_0 0 rfl ?_
  refine wu_ (wg_gI (pc := 1) hX fd_X5_41 dX5_bears_1 fun v1 => ?_)
  refine wg_aload_n (pc := 4) hX dX5_bears_4 0 rfl ?_
  refine wu_ (wg_gI (pc := 5) hX fd_X5_35 dX5_bears_5 fun v2 => ?_)
  refine wu_jx (α := Int32) (pcJ := 32) (lJ := fun x => []) (sJ := fun x => [.int x, .int v1]) (fun K3 hk3 => ?_) (fun z3 => ?_)
  · refine wg_if_ne (pc := 8) (tgt := 16) hX dX5_bears_8 (by decide) (fun h4 => ?_) (fun h4 => ?_)
    · refine wu_t h4 ?_
      refine wg_bipush (pc := 11) (v := 60) hX dX5_bears_11 rfl ?_
      refine wg_goto (pc := 13) (tgt := 32) hX dX5_bears_13 (by decide) ?_
      refine wg_sub hX [] rfl ?_
      exact wu_rt (hk3 60)
    refine wu_f h4 ?_
    refine wg_aload_n (pc := 16) hX dX5_bears_16 0 rfl ?_
    refine wu_ (wg_gI (pc := 17) hX fd_X5_35 dX5_bears_17 fun v5 => ?_)
    refine wg_iconst (pc := 20) (v := 1) hX dX5_bears_20 rfl ?_
    refine wg_icmp_ne (pc := 21) (tgt := 29) hX dX5_bears_21 (by decide) (fun h6 => ?_) (fun h6 => ?_)
    rotate_left
    · refine wu_f h6 ?_
      refine wg_sipush (pc := 29) (v := 140) hX dX5_bears_29 rfl ?_
      refine wg_sub hX [] rfl ?_
      exact wu_rt (hk3 140)
    refine wu_t h6 ?_
    refine wg_bipush (pc := 24) (v := 100) hX dX5_bears_24 rfl ?_
    refine wg_goto (pc := 26) (tgt := 32) hX dX5_bears_26 (by decide) ?_
    refine wg_sub hX [] rfl ?_
    exact wu_rt (hk3 100)
  refine wg_imul (pc := 32) hX dX5_bears_32 ?_
  exact wu_rt (wg_iret (pc := 33) hX rfl rfl dX5_bears_33)
theorem m_X1_leaves (a1 : Nat) (a2 : Nat) (a3 : Int32) : amMet yX1_leaves cX1_leaves 5 (some .boolean) 517 12423 encI [.ref (rid 0 1), .ref (rid 6 a1), .ref (rid 3 a2), .int a3] (up (p_X1_leaves a1 a2 a3)) := by
  refine amMet.of (own := RX1) (by decide) rfl (Nat.le_of_ble_eq_true rfl) fun X hX hPs => ?_
  change WG X encI 0 [(0, .ref (rid 0 1)), (1, .ref (rid 6 a1)), (2, .ref (rid 3 a2)), (3, .int a3)] [] (bd1 (up (p_X1_leaves a1 a2 a3)) rt1)
  unfold p_X1_leaves
  have hM0 := amPs.m0 hPs
  refine wu_ (wg_gM ?_)
  refine wg_aload_n (pc := 0) hX dX1_leaves_0 0 rfl ?_
  refine wu_ (wg_gR (pc := 1) hX fd_X1_583 dX1_leaves_1 fun r1 => ?_)
  refine wg_ifnonnull (pc := 4) (tgt := 9) hX (by decide) dX1_leaves_4 (by decide) (fun h2 => ?_) (fun h2 => ?_)
  · refine wu_t h2 ?_
    refine wg_iconst (pc := 7) (v := 0) hX dX1_leaves_7 rfl ?_
    exact wu_rt (wg_zret (pc := 8) hX rfl (by decide) rfl dX1_leaves_8)
  refine wu_f h2 ?_
  refine wg_aload_n (pc := 9) hX dX1_leaves_9 2 rfl ?_
  refine wg_iload_n (pc := 10) hX dX1_leaves_10 3 rfl ?_
  refine wu_ (wg_gd fun h3 => ?_)
  refine wu_ (wg_cVi (pc := 11) (As := [.int a3]) (rest := []) hX (m_X5_floorOf a2 a3) (by decide) (by decide) h3 rc_X5 (lw_V q710 q698 q699 q167 q700) hd_X5_floorOf rfl (Nat.le_of_ble_eq_true rfl) (Nat.le_of_ble_eq_true rfl) (Nat.le_of_ble_eq_true rfl) rfl dX1_leaves_11 fun v4 => ?_)
  refine wg_istore (pc := 14) (l' := [(0, .ref (rid 0 1)), (1, .ref (rid 6 a1)), (2, .ref (rid 3 a2)), (3, .int a3), (4, .int v4)]) hX dX1_leaves_14 (by decide) rfl ?_
  refine wg_aload_n (pc := 16) hX dX1_leaves_16 0 rfl ?_
  refine wg_gK (pc := 17) hX hM0 fd_X1_52 (by decide) dX1_leaves_17 ?_
  refine wg_bipush (pc := 20) (v := 118) hX dX1_leaves_20 rfl ?_
  refine wg_iload (pc := 22) hX dX1_leaves_22 4 rfl ?_
  refine wu_ (wg_wI (pc := 24) hX ar_29 dX1_leaves_24 ?_)
  refine wg_aload_n (pc := 25) hX dX1_leaves_25 0 rfl ?_
  refine wg_gK (pc := 26) hX hM0 fd_X1_52 (by decide) dX1_leaves_26 ?_
  refine wg_bipush (pc := 29) (v := 98) hX dX1_leaves_29 rfl ?_
  refine wg_bipush (pc := 31) (v := 100) hX dX1_leaves_31 rfl ?_
  refine wg_aload_n (pc := 33) hX dX1_leaves_33 2 rfl ?_
  refine wg_aload_n (pc := 34) hX dX1_leaves_34 2 rfl ?_
  refine wu_ (wg_gC (pc := 35) (v := (2 * a2 - 1)) hX fd_X1_235 (by decide) rfl dX1_leaves_35 ?_)
  refine wg_iload (pc := 38) hX dX1_leaves_38 4 rfl ?_
  refine wu_ (wg_gd fun h5 => ?_)
  refine wu_ (wg_cVi (pc := 40) (As := [.ref (rid 4 (2 * a2 - 1)), .int v4]) (rest := [.int 100, .int 98, .ref (rid 29 1)]) hX (m_X5_load a2 (2 * a2 - 1) v4) (by decide) (by decide) h5 rc_X5 (lw_V q723 q724 q725 q167 q726) hd_X5_load rfl (Nat.le_of_ble_eq_true rfl) (Nat.le_of_ble_eq_true rfl) (Nat.le_of_ble_eq_true rfl) rfl dX1_leaves_40 fun v6 => ?_)
  refine wg_imul (pc := 43) hX dX1_leaves_43 ?_
  refine wg_aload_n (pc := 44) hX dX1_leaves_44 2 rfl ?_
  refine wu_ (wg_gd fun h7 => ?_)
  refine wu_ (wg_cVi (pc := 45) (As := []) (rest := [.int (100 * v6), .int 98, .ref (rid 29 1)]) hX (m_X5_bears a2) (by decide) (by decide) h7 rc_X5 (lw_V q1536 q1537 q1538 q167 q1539) hd_X5_bears rfl (Nat.le_of_ble_eq_true rfl) (Nat.le_of_ble_eq_true rfl) (Nat.le_of_ble_eq_true rfl) rfl dX1_leaves_45 fun v8 => ?_)
  refine wu_ (wg_gd fun h9 => ?_)
  refine wg_idiv (pc := 48) hX dX1_leaves_48 h9 ?_
  refine wu_ (wg_wI (pc := 49) hX ar_29 dX1_leaves_49 ?_)
  refine wg_aload_n (pc := 50) hX dX1_leaves_50 0 rfl ?_
  refine wg_gK (pc := 51) hX hM0 fd_X1_52 (by decide) dX1_leaves_51 ?_
  refine wg_bipush (pc := 54) (v := 101) hX dX1_leaves_54 rfl ?_
  refine wg_aload_n (pc := 56) hX dX1_leaves_56 0 rfl ?_
  refine wu_ (wg_gI (pc := 57) hX fd_X1_415 dX1_leaves_57 fun v10 => ?_)
  refine wg_aload_n (pc := 60) hX dX1_leaves_60 1 rfl ?_
  refine wu_ (wg_gI (pc := 61) hX fd_X1_681 dX1_leaves_61 fun v11 => ?_)
  refine wg_isub (pc := 64) hX dX1_leaves_64 ?_
  refine wu_ (wg_wI (pc := 65) hX ar_29 dX1_leaves_65 ?_)
  refine wg_aload_n (pc := 66) hX dX1_leaves_66 0 rfl ?_
  refine wg_gK (pc := 67) hX hM0 fd_X1_52 (by decide) dX1_leaves_67 ?_
  refine wg_bipush (pc := 70) (v := 116) hX dX1_leaves_70 rfl ?_
  refine wg_aload_n (pc := 72) hX dX1_leaves_72 2 rfl ?_
  refine wu_ (wg_gC (pc := 73) (v := (2 * a2 - 1)) hX fd_X1_235 (by decide) rfl dX1_leaves_73 ?_)
  refine wu_ (wg_gC (pc := 76) (v := (2 * a2 - 1)) hX fd_X1_266 (by decide) rfl dX1_leaves_76 ?_)
  refine wg_iload_n (pc := 79) hX dX1_leaves_79 3 rfl ?_
  refine wu_ (wg_rI (pc := 80) hX ar_145 dX1_leaves_80 fun v12 => ?_)
  refine wu_ (wg_wI (pc := 81) hX ar_29 dX1_leaves_81 ?_)
  refine wg_aload_n (pc := 82) hX dX1_leaves_82 0 rfl ?_
  refine wg_gK (pc := 83) hX hM0 fd_X1_52 (by decide) dX1_leaves_83 ?_
  refine wg_bipush (pc := 86) (v := 109) hX dX1_leaves_86 rfl ?_
  refine wg_aload_n (pc := 88) hX dX1_leaves_88 1 rfl ?_
  refine wu_ (wg_gI (pc := 89) hX fd_X1_690 dX1_leaves_89 fun v13 => ?_)
  refine wu_ (wg_wI (pc := 92) hX ar_29 dX1_leaves_92 ?_)
  refine wg_aload_n (pc := 93) hX dX1_leaves_93 0 rfl ?_
  refine wg_gK (pc := 94) hX hM0 fd_X1_52 (by decide) dX1_leaves_94 ?_
  refine wg_bipush (pc := 97) (v := 103) hX dX1_leaves_97 rfl ?_
  refine wg_aload_n (pc := 99) hX dX1_leaves_99 2 rfl ?_
  refine wu_ (wg_gd fun h14 => ?_)
  refine wu_ (wg_cVi (pc := 100) (As := []) (rest := [.int 103, .ref (rid 29 1)]) hX (m_X5_burning a2) (by decide) (by decide) h14 rc_X5 (lw_V q685 q686 q687 q167 q688) hd_X5_burning rfl (Nat.le_of_ble_eq_true rfl) (Nat.le_of_ble_eq_true rfl) (Nat.le_of_ble_eq_true rfl) rfl dX1_leaves_100 fun v15 => ?_)
  refine wu_ (wg_wI (pc := 103) hX ar_29 dX1_leaves_103 ?_)
  refine wg_aload_n (pc := 104) hX dX1_leaves_104 0 rfl ?_
  refine wu_ (wg_gR (pc := 105) hX fd_X1_583 dX1_leaves_105 fun r16 => ?_)
  refine wg_aload_n (pc := 108) hX dX1_leaves_108 0 rfl ?_
  refine wg_gK (pc := 109) hX hM0 fd_X1_52 (by decide) dX1_leaves_109 ?_
  refine wu_ (wg_vciu (pc := 112) (x := ⟨"CityBrigade$Test", "holds", "([I)Z"⟩) (n := 1) (f := fun c => if c = 15 then p_X20_holds r16 else if c = 16 then p_X15_holds 256 r16 else if c = 17 then p_X21_holds 256 r16 else fl0) (As := [.ref (rid 29 1)]) (rest := []) hX (by decide) (by decide) (fun c hc => by
        rcases am_mem3 hc with rfl | rfl | rfl
        · exact Or.inr ⟨RX20, TX20, 3, yX20_holds, cX20_holds, 4, (some .boolean), _, _, rfl, ⟨"CityBrigade$Test", lw_U q1363 q1365 q1396 q1370 q189 q1371, by decide +kernel, Or.inr q1364⟩, m_X20_holds r16, (Nat.le_of_ble_eq_true rfl), (Nat.le_of_ble_eq_true rfl)⟩
        · exact Or.inr ⟨RX15, TX15, 1, yX15_holds, cX15_holds, 2, (some .boolean), _, _, rfl, ⟨"CityBrigade$Test", lw_U q1363 q1365 q1397 q1393 q184 q1394, by decide +kernel, Or.inr q1364⟩, m_X15_holds r16, (Nat.le_of_ble_eq_true rfl), (Nat.le_of_ble_eq_true rfl)⟩
        · exact Or.inr ⟨RX21, TX21, 3, yX21_holds, cX21_holds, 2, (some .boolean), _, _, rfl, ⟨"CityBrigade$Test", lw_U q1363 q1365 q1366 q1367 q190 q1368, by decide +kernel, Or.inr q1364⟩, m_X21_holds r16, (Nat.le_of_ble_eq_true rfl), (Nat.le_of_ble_eq_true rfl)⟩) rfl (Nat.le_of_ble_eq_true rfl) rfl dX1_leaves_112 fun v18 => ?_)
  refine wu_ (wg_gd fun h19 => ?_)
  exact wu_rt (wg_zret (pc := 115) hX rfl h19 rfl dX1_leaves_115)
theorem m_X1_work (a1 : Nat) : amMet yX1_work cX1_work 6 none 518 12447 encV [.ref (rid 0 1), .ref (rid 6 a1)] (up (p_X1_work a1)) := by
  refine amMet.of (own := RX1) (by decide) rfl (Nat.le_of_ble_eq_true rfl) fun X hX hPs => ?_
  change WG X encV 0 [(0, .ref (rid 0 1)), (1, .ref (rid 6 a1))] [] (bd1 (up (p_X1_work a1)) rt1)
  unfold p_X1_work
  have hM0 := amPs.m0 hPs
  refine wu_ (wg_gM ?_)
  refine wg_aload_n (pc := 0) hX dX1_work_0 1 rfl ?_
  refine wg_iconst (pc := 1) (v := 0) hX dX1_work_1 rfl ?_
  refine wu_ (wg_pI (pc := 2) hX fp_X1_437 (fun h => by cases h) dX1_work_2 ?_)
  refine wg_aload_n (pc := 5) hX dX1_work_5 1 rfl ?_
  refine wg_iconst (pc := 6) (v := 0) hX dX1_work_6 rfl ?_
  refine wu_ (wg_pI (pc := 7) hX fp_X1_693 (fun h => by cases h) dX1_work_7 ?_)
  refine wg_aload_n (pc := 10) hX dX1_work_10 1 rfl ?_
  refine wg_iconst (pc := 11) (v := (-1)) hX dX1_work_11 rfl ?_
  refine wu_ (wg_pI (pc := 12) hX fp_X1_695 (fun h => by cases h) dX1_work_12 ?_)
  refine wg_aload_n (pc := 15) hX dX1_work_15 1 rfl ?_
  refine wg_iconst (pc := 16) (v := (-1)) hX dX1_work_16 rfl ?_
  refine wu_ (wg_pI (pc := 17) hX fp_X1_405 (fun h => by cases h) dX1_work_17 ?_)
  refine wg_aload_n (pc := 20) hX dX1_work_20 1 rfl ?_
  refine wu_ (wg_gI (pc := 21) hX fd_X1_389 dX1_work_21 fun v1 => ?_)
  refine wg_iconst (pc := 24) (v := 2) hX dX1_work_24 rfl ?_
  refine wg_icmp_eq (pc := 25) (tgt := 29) hX dX1_work_25 (by decide) (fun h2 => ?_) (fun h2 => ?_)
  rotate_left
  · refine wu_f h2 ?_
    exact wu_rt (wg_vret (pc := 28) hX rfl rfl dX1_work_28)
  refine wu_t h2 ?_
  refine wg_aload_n (pc := 29) hX dX1_work_29 1 rfl ?_
  refine wu_ (wg_io (pc := 30) hX ci_X11 q877 dX1_work_30 fun v3 => ?_)
  refine wu_jx (α := Unit) (pcJ := 44) (lJ := fun x => [(0, .ref (rid 0 1)), (1, .ref (rid 6 a1))]) (sJ := fun x => []) (fun K4 hk4 => ?_) (fun z4 => ?_)
  · refine wg_if_eq (pc := 33) (tgt := 44) hX dX1_work_33 (by decide) (fun h5 => ?_) (fun h5 => ?_)
    · refine wu_t h5 ?_
      exact wu_rt (hk4 ())
    refine wu_f h5 ?_
    refine wg_aload_n (pc := 36) hX dX1_work_36 0 rfl ?_
    refine wg_aload_n (pc := 37) hX dX1_work_37 1 rfl ?_
    refine wu_ (wg_ck (pc := 38) hX ck_X11 q877 dX1_work_38 ?_)
    refine wu_ (wg_cVv (pc := 41) (As := [.ref (rid 6 a1)]) (rest := []) hX (m_X1_save a1) (by decide) (by decide) (by decide) rc_X1 (lw_V q1505 q1507 qs53 q159 q1508) hd_X1_save rfl (Nat.le_of_ble_eq_true rfl) (Nat.le_of_ble_eq_true rfl) (Nat.le_of_ble_eq_true rfl) rfl dX1_work_41 ?_)
    exact wu_rt (hk4 ())
  refine wg_aload_n (pc := 44) hX dX1_work_44 1 rfl ?_
  refine wu_ (wg_io (pc := 45) hX ci_Gives q1015 dX1_work_45 fun v6 => ?_)
  refine wg_if_ne (pc := 48) (tgt := 52) hX dX1_work_48 (by decide) (fun h7 => ?_) (fun h7 => ?_)
  · refine wu_t h7 ?_
    exact wu_rt (wg_vret (pc := 51) hX rfl rfl dX1_work_51)
  refine wu_f h7 ?_
  refine wg_aload_n (pc := 52) hX dX1_work_52 1 rfl ?_
  refine wu_ (wg_gR (pc := 53) hX fd_X1_401 dX1_work_53 fun r8 => ?_)
  refine wg_astore_n (pc := 56) (l' := [(0, .ref (rid 0 1)), (1, .ref (rid 6 a1)), (2, .ref (rid 3 r8))]) hX dX1_work_56 (by decide) rfl ?_
  refine wg_aload_n (pc := 57) hX dX1_work_57 0 rfl ?_
  refine wg_aload_n (pc := 58) hX dX1_work_58 1 rfl ?_
  refine wu_ (wg_ck (pc := 59) hX ck_Gives q1015 dX1_work_59 ?_)
  refine wg_aload_n (pc := 62) hX dX1_work_62 2 rfl ?_
  refine wu_ (wg_cVi (pc := 63) (As := [.ref (rid 6 a1), .ref (rid 3 r8)]) (rest := []) hX (m_X1_reachOf a1 r8) (by decide) (by decide) (by decide) rc_X1 (lw_V q1016 q1018 qs19 q159 q1019) hd_X1_reachOf rfl (Nat.le_of_ble_eq_true rfl) (Nat.le_of_ble_eq_true rfl) (Nat.le_of_ble_eq_true rfl) rfl dX1_work_63 fun v9 => ?_)
  refine wg_istore_n (pc := 66) (l' := [(0, .ref (rid 0 1)), (1, .ref (rid 6 a1)), (2, .ref (rid 3 r8)), (3, .int v9)]) hX dX1_work_66 (by decide) rfl ?_
  refine wg_iload_n (pc := 67) hX dX1_work_67 3 rfl ?_
  refine wg_iconst (pc := 68) (v := (-1)) hX dX1_work_68 rfl ?_
  refine wu_jx (α := Int32) (pcJ := 82) (lJ := fun x => [(0, .ref (rid 0 1)), (1, .ref (rid 6 a1)), (2, .ref (rid 3 r8))]) (sJ := fun x => [.int x]) (fun K10 hk10 => ?_) (fun z10 => ?_)
  · refine wg_icmp_ne (pc := 69) (tgt := 76) hX dX1_work_69 (by decide) (fun h11 => ?_) (fun h11 => ?_)
    · refine wu_t h11 ?_
      refine wg_iconst (pc := 72) (v := (-1)) hX dX1_work_72 rfl ?_
      refine wg_goto (pc := 73) (tgt := 82) hX dX1_work_73 (by decide) ?_
      refine wg_sub hX [0, 1, 2] rfl ?_
      exact wu_rt (hk10 (-1))
    refine wu_f h11 ?_
    refine wg_aload_n (pc := 76) hX dX1_work_76 0 rfl ?_
    refine wg_aload_n (pc := 77) hX dX1_work_77 2 rfl ?_
    refine wg_iload_n (pc := 78) hX dX1_work_78 3 rfl ?_
    refine wu_ (wg_cVi (pc := 79) (As := [.ref (rid 3 r8), .int v9]) (rest := []) hX (m_X1_roomFor r8 v9) (by decide) (by decide) (by decide) rc_X1 (lw_V q1509 q1511 qs54 q159 q1512) hd_X1_roomFor rfl (Nat.le_of_ble_eq_true rfl) (Nat.le_of_ble_eq_true rfl) (Nat.le_of_ble_eq_true rfl) rfl dX1_work_79 fun v12 => ?_)
    refine wg_sub hX [0, 1, 2] rfl ?_
    exact wu_rt (hk10 v12)
  refine wg_istore (pc := 82) (l' := [(0, .ref (rid 0 1)), (1, .ref (rid 6 a1)), (2, .ref (rid 3 r8)), (4, .int z10)]) hX dX1_work_82 (by decide) rfl ?_
  refine wg_iload (pc := 84) hX dX1_work_84 3 rfl ?_
  refine wg_iconst (pc := 86) (v := (-1)) hX dX1_work_86 rfl ?_
  refine wu_jx (α := Int32) (pcJ := 112) (lJ := fun x => [(0, .ref (rid 0 1)), (1, .ref (rid 6 a1)), (2, .ref (rid 3 r8)), (4, .int z10)]) (sJ := fun x => [.int x]) (fun K13 hk13 => ?_) (fun z13 => ?_)
  · refine wg_icmp_ne (pc := 87) (tgt := 94) hX dX1_work_87 (by decide) (fun h14 => ?_) (fun h14 => ?_)
    · refine wu_t h14 ?_
      refine wg_iconst (pc := 90) (v := 0) hX dX1_work_90 rfl ?_
      refine wg_goto (pc := 91) (tgt := 112) hX dX1_work_91 (by decide) ?_
      exact wu_rt (hk13 0)
    refine wu_f h14 ?_
    refine wg_aload_n (pc := 94) hX dX1_work_94 1 rfl ?_
    refine wu_ (wg_ck (pc := 95) hX ck_Gives q1015 dX1_work_95 ?_)
    refine wg_aload_n (pc := 98) hX dX1_work_98 0 rfl ?_
    refine wu_ (wg_gI (pc := 99) hX fd_X1_415 dX1_work_99 fun v15 => ?_)
    refine wg_aload_n (pc := 102) hX dX1_work_102 1 rfl ?_
    refine wu_ (wg_gI (pc := 103) hX fd_X1_681 dX1_work_103 fun v16 => ?_)
    refine wg_isub (pc := 106) hX dX1_work_106 ?_
    refine wu_ (wg_vfiu (pc := 107) (x := ⟨"CityBrigade$Gives", "asks", "(I)I"⟩) (n := 1) (f := fun c => if c = 6 then p_X9_asks a1 (v15 - v16) else if c = 7 then p_X10_asks a1 (v15 - v16) else fl0) (As := [.int (v15 - v16)]) (rest := []) hX (by decide) (by decide) (fun c hc => by
          rcases am_mem4 hc with rfl | rfl | rfl | rfl
          · exact Or.inr ⟨RX9, TX9, 18, yX9_asks, cX9_asks, 2, (some .int), _, _, rfl, ⟨lw_F q1518 q1521 q1523 q171 q1525, by decide, by decide +kernel⟩, m_X9_asks a1 (v15 - v16), (Nat.le_of_ble_eq_true rfl), (Nat.le_of_ble_eq_true rfl)⟩
          · exact Or.inr ⟨RX10, TX10, 19, yX10_asks, cX10_asks, 2, (some .int), _, _, rfl, ⟨lw_F q1518 q1526 q1528 q172 q1530, by decide, by decide +kernel⟩, m_X10_asks a1 (v15 - v16), (Nat.le_of_ble_eq_true rfl), (Nat.le_of_ble_eq_true rfl)⟩
          · exact Or.inl (fun _ _ => rfl)
          · exact Or.inl (fun _ _ => rfl)) rfl (Nat.le_of_ble_eq_true rfl) rfl dX1_work_107 fun v18 => ?_)
    exact wu_rt (hk13 v18)
  refine wg_istore (pc := 112) (l' := [(0, .ref (rid 0 1)), (1, .ref (rid 6 a1)), (2, .ref (rid 3 r8)), (4, .int z10), (5, .int z13)]) hX dX1_work_112 (by decide) rfl ?_
  refine wg_iload (pc := 114) hX dX1_work_114 4 rfl ?_
  refine wg_if_ne (pc := 116) (tgt := 120) hX dX1_work_116 (by decide) (fun h19 => ?_) (fun h19 => ?_)
  · refine wu_t h19 ?_
    exact wu_rt (wg_vret (pc := 119) hX rfl rfl dX1_work_119)
  refine wu_f h19 ?_
  refine wg_aload_n (pc := 120) hX dX1_work_120 1 rfl ?_
  refine wg_iload (pc := 121) hX dX1_work_121 3 rfl ?_
  refine wu_ (wg_pI (pc := 123) hX fp_X1_695 (fun h => by cases h) dX1_work_123 ?_)
  refine wg_aload_n (pc := 126) hX dX1_work_126 1 rfl ?_
  refine wg_iload (pc := 127) hX dX1_work_127 4 rfl ?_
  refine wu_ (wg_pI (pc := 129) hX fp_X1_693 (fun h => by cases h) dX1_work_129 ?_)
  refine wg_aload_n (pc := 132) hX dX1_work_132 0 rfl ?_
  refine wg_aload_n (pc := 133) hX dX1_work_133 1 rfl ?_
  refine wg_aload_n (pc := 134) hX dX1_work_134 2 rfl ?_
  refine wg_iload (pc := 135) hX dX1_work_135 3 rfl ?_
  refine wu_ (wg_cVi (pc := 137) (As := [.ref (rid 6 a1), .ref (rid 3 r8), .int z10]) (rest := []) hX (m_X1_leaves a1 r8 z10) (by decide) (by decide) (by decide) rc_X1 (lw_V q1532 q1534 qs56 q159 q1535) hd_X1_leaves rfl (Nat.le_of_ble_eq_true rfl) (Nat.le_of_ble_eq_true rfl) (Nat.le_of_ble_eq_true rfl) rfl dX1_work_137 fun v20 => ?_)
  refine wu_jx (α := Unit) (pcJ := 166) (lJ := fun x => [(0, .ref (rid 0 1)), (1, .ref (rid 6 a1)), (2, .ref (rid 3 r8)), (4, .int z10)]) (sJ := fun x => []) (fun K21 hk21 => ?_) (fun z21 => ?_)
  · refine wg_if_eq (pc := 140) (tgt := 156) hX dX1_work_140 (by decide) (fun h22 => ?_) (fun h22 => ?_)
    · refine wu_t h22 ?_
      refine wg_aload_n (pc := 156) hX dX1_work_156 1 rfl ?_
      refine wg_aload_n (pc := 157) hX dX1_work_157 2 rfl ?_
      refine wg_iload (pc := 158) hX dX1_work_158 3 rfl ?_
      refine wu_ (wg_gd fun h23 => ?_)
      refine wu_ (wg_cVi (pc := 160) (As := [.int z10]) (rest := [.ref (rid 6 a1)]) hX (m_X5_floorOf r8 z10) (by decide) (by decide) h23 rc_X5 (lw_V q710 q698 q699 q167 q700) hd_X5_floorOf rfl (Nat.le_of_ble_eq_true rfl) (Nat.le_of_ble_eq_true rfl) (Nat.le_of_ble_eq_true rfl) rfl dX1_work_160 fun v24 => ?_)
      refine wu_ (wg_pI (pc := 163) hX fp_X1_405 (fun h => by cases h) dX1_work_163 ?_)
      refine wg_sub hX [0, 1, 2, 3] rfl ?_
      exact wu_rt (hk21 ())
    refine wu_f h22 ?_
    refine wg_aload_n (pc := 143) hX dX1_work_143 1 rfl ?_
    refine wg_dup (pc := 144) hX dX1_work_144 rfl ?_
    refine wu_ (wg_gI (pc := 145) hX fd_X1_693 dX1_work_145 fun v25 => ?_)
    refine wg_iconst (pc := 148) (v := 2) hX dX1_work_148 rfl ?_
    refine wg_idiv (pc := 149) hX dX1_work_149 (by decide) ?_
    refine wu_ (wg_pI (pc := 150) hX fp_X1_693 (fun h => by cases h) dX1_work_150 ?_)
    refine wg_goto (pc := 153) (tgt := 166) hX dX1_work_153 (by decide) ?_
    refine wg_sub hX [0, 1, 2, 3] rfl ?_
    exact wu_rt (hk21 ())
  refine wg_aload_n (pc := 166) hX dX1_work_166 0 rfl ?_
  refine wg_gK (pc := 167) hX hM0 fd_X1_81 (by decide) dX1_work_167 ?_
  refine wg_aload_n (pc := 170) hX dX1_work_170 1 rfl ?_
  refine wu_ (wg_gI (pc := 171) hX fd_X1_712 dX1_work_171 fun v26 => ?_)
  refine wg_aload_n (pc := 174) hX dX1_work_174 0 rfl ?_
  refine wg_aload_n (pc := 175) hX dX1_work_175 2 rfl ?_
  refine wu_ (wg_gI (pc := 176) hX fd_X1_308 dX1_work_176 fun v27 => ?_)
  refine wu_ (wg_cVr (pc := 179) (As := [.int v27]) (rest := [.int v26, .ref (rid 34 1)]) hX (m_X1_headFor v27) (by decide) (by decide) (by decide) rc_X1 (lw_V q1020 q1022 qs20 q159 q1023) hd_X1_headFor rfl (Nat.le_of_ble_eq_true rfl) (Nat.le_of_ble_eq_true rfl) (Nat.le_of_ble_eq_true rfl) rfl dX1_work_179 fun r28 => ?_)
  refine wu_ (wg_gI (pc := 182) hX fd_X1_713 dX1_work_182 fun v29 => ?_)
  refine wu_ (wg_wI (pc := 185) hX ar_34 dX1_work_185 ?_)
  refine wg_aload_n (pc := 186) hX dX1_work_186 2 rfl ?_
  refine wu_ (wg_gC (pc := 187) (v := (2 * r8 - 1)) hX fd_X1_235 (by decide) rfl dX1_work_187 ?_)
  refine wu_ (wg_gC (pc := 190) (v := (2 * r8 - 1)) hX fd_X1_332 (by decide) rfl dX1_work_190 ?_)
  refine wg_iload (pc := 193) hX dX1_work_193 3 rfl ?_
  refine wg_dup2 (pc := 195) hX dX1_work_195 rfl rfl ?_
  refine wu_ (wg_rI (pc := 196) hX ar_147 dX1_work_196 fun v30 => ?_)
  refine wg_aload_n (pc := 197) hX dX1_work_197 1 rfl ?_
  refine wu_ (wg_gI (pc := 198) hX fd_X1_693 dX1_work_198 fun v31 => ?_)
  refine wg_iadd (pc := 201) hX dX1_work_201 ?_
  refine wu_ (wg_wI (pc := 202) hX ar_147 dX1_work_202 ?_)
  refine wg_aload_n (pc := 203) hX dX1_work_203 0 rfl ?_
  refine wg_gK (pc := 204) hX hM0 fd_X1_37 (by decide) dX1_work_204 ?_
  refine wg_aload_n (pc := 207) hX dX1_work_207 0 rfl ?_
  refine wg_gK (pc := 208) hX hM0 fd_X1_81 (by decide) dX1_work_208 ?_
  refine wg_aload_n (pc := 211) hX dX1_work_211 1 rfl ?_
  refine wu_ (wg_gI (pc := 212) hX fd_X1_712 dX1_work_212 fun v32 => ?_)
  refine wu_ (wg_rI (pc := 215) hX ar_34 dX1_work_215 fun v33 => ?_)
  refine wg_dup2 (pc := 216) hX dX1_work_216 rfl rfl ?_
  refine wu_ (wg_rI (pc := 217) hX ar_26 dX1_work_217 fun v34 => ?_)
  refine wg_aload_n (pc := 218) hX dX1_work_218 1 rfl ?_
  refine wu_ (wg_gI (pc := 219) hX fd_X1_693 dX1_work_219 fun v35 => ?_)
  refine wg_iadd (pc := 222) hX dX1_work_222 ?_
  refine wu_ (wg_wI (pc := 223) hX ar_26 dX1_work_223 ?_)
  exact wu_rt (wg_vret (pc := 224) hX rfl rfl dX1_work_224)
theorem m_X1_share  : amMet yX1_share cX1_share 4 none 1 32 encV [.ref (rid 0 1)] (up (p_X1_share)) := by
  refine amMet.of (own := RX1) (by decide) rfl (Nat.le_of_ble_eq_true rfl) fun X hX hPs => ?_
  change WG X encV 0 [(0, .ref (rid 0 1))] [] (bd1 (up (p_X1_share)) rt1)
  unfold p_X1_share
  have hM0 := amPs.m0 hPs
  refine wu_ (wg_gM ?_)
  refine wg_iconst (pc := 0) (v := 0) hX dX1_share_0 rfl ?_
  refine wg_istore_n (pc := 1) (l' := [(0, .ref (rid 0 1)), (1, .int 0)]) hX dX1_share_1 (by decide) rfl ?_
  refine wu_lpx (α := Int32) (γ := Unit) (pcl := 2) (pcT := 45) (lo := fun x => [(0, .ref (rid 0 1)), (1, .int x)]) (so := fun _ => []) (lT := fun x => [(0, .ref (rid 0 1))]) (sT := fun _ => []) (n := amFu) (x0 := 0) (fun K1 rec1 hrec1 hk1 x1 => ?_) (fun y2 => ?_)
  · unfold p_X1_share_L2
    refine wg_iload_n (pc := 2) hX dX1_share_2 1 rfl ?_
    refine wg_aload_n (pc := 3) hX dX1_share_3 0 rfl ?_
    refine wu_ (wg_gI (pc := 4) hX fd_X1_199 dX1_share_4 fun v3 => ?_)
    refine wg_icmp_ge (pc := 7) (tgt := 45) hX dX1_share_7 (by decide) (fun h4 => ?_) (fun h4 => ?_)
    · refine wu_t h4 ?_
      refine wg_sub hX [0] rfl ?_
      exact wu_rt (hk1 ())
    refine wu_f h4 ?_
    refine wg_iconst (pc := 10) (v := 0) hX dX1_share_10 rfl ?_
    refine wg_istore_n (pc := 11) (l' := [(0, .ref (rid 0 1)), (1, .int x1), (2, .int 0)]) hX dX1_share_11 (by decide) rfl ?_
    refine wu_lpx (α := Int32) (γ := Unit) (pcl := 12) (pcT := 39) (lo := fun x => [(0, .ref (rid 0 1)), (1, .int x1), (2, .int x)]) (so := fun _ => []) (lT := fun x => [(0, .ref (rid 0 1)), (1, .int x1)]) (sT := fun _ => []) (n := amFu) (x0 := 0) (fun K5 rec5 hrec5 hk5 x5 => ?_) (fun y6 => ?_)
    · unfold p_X1_share_L12
      refine wg_iload_n (pc := 12) hX dX1_share_12 2 rfl ?_
      refine wg_bipush (pc := 13) (v := 24) hX dX1_share_13 rfl ?_
      refine wg_icmp_ge (pc := 15) (tgt := 39) hX dX1_share_15 (by decide) (fun h7 => ?_) (fun h7 => ?_)
      · refine wu_t h7 ?_
        refine wg_sub hX [0, 1] rfl ?_
        exact wu_rt (hk5 ())
      refine wu_f h7 ?_
      refine wg_aload_n (pc := 18) hX dX1_share_18 0 rfl ?_
      refine wg_gK (pc := 19) hX hM0 fd_X1_30 (by decide) dX1_share_19 ?_
      refine wg_iload_n (pc := 22) hX dX1_share_22 1 rfl ?_
      refine wu_ (wg_rR (pc := 23) hX ar_24 (by decide) dX1_share_23 fun r8 => ?_)
      refine wu_ (wg_gC (pc := 24) (v := (2 * r8 - 1)) hX fd_X1_235 (by decide) rfl dX1_share_24 ?_)
      refine wu_ (wg_gC (pc := 27) (v := (2 * r8 - 1)) hX fd_X1_332 (by decide) rfl dX1_share_27 ?_)
      refine wg_iload_n (pc := 30) hX dX1_share_30 2 rfl ?_
      refine wg_iconst (pc := 31) (v := 0) hX dX1_share_31 rfl ?_
      refine wu_ (wg_wI (pc := 32) hX ar_147 dX1_share_32 ?_)
      refine wg_iinc (pc := 33) (v := (x5 + 1)) (l' := [(0, .ref (rid 0 1)), (1, .int x1), (2, .int (x5 + 1))]) hX dX1_share_33 2 rfl rfl (by decide) rfl ?_
      refine wg_goto (pc := 36) (tgt := 12) hX dX1_share_36 (by decide) ?_
      exact hrec5 (x5 + 1)
    refine wg_iinc (pc := 39) (v := (x1 + 1)) (l' := [(0, .ref (rid 0 1)), (1, .int (x1 + 1))]) hX dX1_share_39 1 rfl rfl (by decide) rfl ?_
    refine wg_goto (pc := 42) (tgt := 2) hX dX1_share_42 (by decide) ?_
    exact hrec1 (x1 + 1)
  refine wg_iconst (pc := 45) (v := 0) hX dX1_share_45 rfl ?_
  refine wg_istore_n (pc := 46) (l' := [(0, .ref (rid 0 1)), (1, .int 0)]) hX dX1_share_46 (by decide) rfl ?_
  refine wu_lpx (α := Int32) (γ := Unit) (pcl := 47) (pcT := 168) (lo := fun x => [(0, .ref (rid 0 1)), (1, .int x)]) (so := fun _ => []) (lT := fun x => []) (sT := fun _ => []) (n := amFu) (x0 := 0) (fun K9 rec9 hrec9 hk9 x9 => ?_) (fun y10 => ?_)
  · unfold p_X1_share_L47
    refine wg_iload_n (pc := 47) hX dX1_share_47 1 rfl ?_
    refine wg_aload_n (pc := 48) hX dX1_share_48 0 rfl ?_
    refine wu_ (wg_gI (pc := 49) hX fd_X1_365 dX1_share_49 fun v11 => ?_)
    refine wg_icmp_ge (pc := 52) (tgt := 168) hX dX1_share_52 (by decide) (fun h12 => ?_) (fun h12 => ?_)
    · refine wu_t h12 ?_
      refine wg_sub hX [] rfl ?_
      exact wu_rt (hk9 ())
    refine wu_f h12 ?_
    refine wg_aload_n (pc := 55) hX dX1_share_55 0 rfl ?_
    refine wg_gK (pc := 56) hX hM0 fd_X1_48 (by decide) dX1_share_56 ?_
    refine wg_iload_n (pc := 59) hX dX1_share_59 1 rfl ?_
    refine wu_ (wg_rR (pc := 60) hX ar_28 (by decide) dX1_share_60 fun r13 => ?_)
    refine wg_astore_n (pc := 61) (l' := [(0, .ref (rid 0 1)), (1, .int x9), (2, .ref (rid 6 r13))]) hX dX1_share_61 (by decide) rfl ?_
    refine wg_aload_n (pc := 62) hX dX1_share_62 2 rfl ?_
    refine wu_ (wg_gI (pc := 63) hX fd_X1_695 dX1_share_63 fun v14 => ?_)
    refine wg_iconst (pc := 66) (v := (-1)) hX dX1_share_66 rfl ?_
    refine wu_jx (α := Unit) (pcJ := 162) (lJ := fun x => [(0, .ref (rid 0 1)), (1, .int x9)]) (sJ := fun x => []) (fun K15 hk15 => ?_) (fun z15 => ?_)
    · refine wg_icmp_ne (pc := 67) (tgt := 73) hX dX1_share_67 (by decide) (fun h16 => ?_) (fun h16 => ?_)
      · refine wu_t h16 ?_
        refine wg_goto (pc := 70) (tgt := 162) hX dX1_share_70 (by decide) ?_
        refine wg_sub hX [0, 1] rfl ?_
        exact wu_rt (hk15 ())
      refine wu_f h16 ?_
      refine wg_aload_n (pc := 73) hX dX1_share_73 0 rfl ?_
      refine wg_gK (pc := 74) hX hM0 fd_X1_81 (by decide) dX1_share_74 ?_
      refine wg_iload_n (pc := 77) hX dX1_share_77 1 rfl ?_
      refine wu_ (wg_rI (pc := 78) hX ar_34 dX1_share_78 fun v17 => ?_)
      refine wg_istore_n (pc := 79) (l' := [(0, .ref (rid 0 1)), (1, .int x9), (2, .ref (rid 6 r13)), (3, .int v17)]) hX dX1_share_79 (by decide) rfl ?_
      refine wg_aload_n (pc := 80) hX dX1_share_80 2 rfl ?_
      refine wg_aload_n (pc := 81) hX dX1_share_81 0 rfl ?_
      refine wg_gK (pc := 82) hX hM0 fd_X1_37 (by decide) dX1_share_82 ?_
      refine wg_iload_n (pc := 85) hX dX1_share_85 3 rfl ?_
      refine wu_ (wg_rI (pc := 86) hX ar_26 dX1_share_86 fun v18 => ?_)
      refine wg_aload_n (pc := 87) hX dX1_share_87 0 rfl ?_
      refine wg_gK (pc := 88) hX hM0 fd_X1_34 (by decide) dX1_share_88 ?_
      refine wg_iload_n (pc := 91) hX dX1_share_91 3 rfl ?_
      refine wu_ (wg_rI (pc := 92) hX ar_25 dX1_share_92 fun v19 => ?_)
      refine wu_jx (α := Int32) (pcJ := 121) (lJ := fun x => [(0, .ref (rid 0 1)), (1, .int x9), (2, .ref (rid 6 r13))]) (sJ := fun x => [.int x, .ref (rid 6 r13)]) (fun K20 hk20 => ?_) (fun z20 => ?_)
      · refine wg_icmp_gt (pc := 93) (tgt := 103) hX dX1_share_93 (by decide) (fun h21 => ?_) (fun h21 => ?_)
        rotate_left
        · refine wu_f h21 ?_
          refine wg_aload_n (pc := 96) hX dX1_share_96 2 rfl ?_
          refine wu_ (wg_gI (pc := 97) hX fd_X1_693 dX1_share_97 fun v22 => ?_)
          refine wg_goto (pc := 100) (tgt := 121) hX dX1_share_100 (by decide) ?_
          refine wg_sub hX [0, 1, 2] rfl ?_
          exact wu_rt (hk20 v22)
        refine wu_t h21 ?_
        refine wg_aload_n (pc := 103) hX dX1_share_103 2 rfl ?_
        refine wu_ (wg_gI (pc := 104) hX fd_X1_693 dX1_share_104 fun v23 => ?_)
        refine wg_aload_n (pc := 107) hX dX1_share_107 0 rfl ?_
        refine wg_gK (pc := 108) hX hM0 fd_X1_34 (by decide) dX1_share_108 ?_
        refine wg_iload_n (pc := 111) hX dX1_share_111 3 rfl ?_
        refine wu_ (wg_rI (pc := 112) hX ar_25 dX1_share_112 fun v24 => ?_)
        refine wg_imul (pc := 113) hX dX1_share_113 ?_
        refine wg_aload_n (pc := 114) hX dX1_share_114 0 rfl ?_
        refine wg_gK (pc := 115) hX hM0 fd_X1_37 (by decide) dX1_share_115 ?_
        refine wg_iload_n (pc := 118) hX dX1_share_118 3 rfl ?_
        refine wu_ (wg_rI (pc := 119) hX ar_26 dX1_share_119 fun v25 => ?_)
        refine wu_ (wg_gd fun h26 => ?_)
        refine wg_idiv (pc := 120) hX dX1_share_120 h26 ?_
        refine wg_sub hX [0, 1, 2] rfl ?_
        exact wu_rt (hk20 ((v23 * v24) / v25))
      refine wu_ (wg_pI (pc := 121) hX fp_X1_437 (fun h => by cases h) dX1_share_121 ?_)
      refine wg_aload_n (pc := 124) hX dX1_share_124 2 rfl ?_
      refine wu_ (wg_gR (pc := 125) hX fd_X1_401 dX1_share_125 fun r27 => ?_)
      refine wu_ (wg_gC (pc := 128) (v := (2 * r27 - 1)) hX fd_X1_235 (by decide) rfl dX1_share_128 ?_)
      refine wu_ (wg_gC (pc := 131) (v := (2 * r27 - 1)) hX fd_X1_332 (by decide) rfl dX1_share_131 ?_)
      refine wg_aload_n (pc := 134) hX dX1_share_134 2 rfl ?_
      refine wu_ (wg_gI (pc := 135) hX fd_X1_695 dX1_share_135 fun v28 => ?_)
      refine wg_dup2 (pc := 138) hX dX1_share_138 rfl rfl ?_
      refine wu_ (wg_rI (pc := 139) hX ar_147 dX1_share_139 fun v29 => ?_)
      refine wg_aload_n (pc := 140) hX dX1_share_140 2 rfl ?_
      refine wu_ (wg_gI (pc := 141) hX fd_X1_437 dX1_share_141 fun v30 => ?_)
      refine wg_iadd (pc := 144) hX dX1_share_144 ?_
      refine wu_ (wg_wI (pc := 145) hX ar_147 dX1_share_145 ?_)
      refine wg_aload_n (pc := 146) hX dX1_share_146 2 rfl ?_
      refine wu_ (wg_gR (pc := 147) hX fd_X1_401 dX1_share_147 fun r31 => ?_)
      refine wg_dup (pc := 150) hX dX1_share_150 rfl ?_
      refine wu_ (wg_gI (pc := 151) hX fd_X1_305 dX1_share_151 fun v32 => ?_)
      refine wg_aload_n (pc := 154) hX dX1_share_154 2 rfl ?_
      refine wu_ (wg_gI (pc := 155) hX fd_X1_437 dX1_share_155 fun v33 => ?_)
      refine wg_iadd (pc := 158) hX dX1_share_158 ?_
      refine wu_ (wg_pI (pc := 159) hX fp_X1_305 (fun h => by cases h) dX1_share_159 ?_)
      refine wg_sub hX [0, 1] rfl ?_
      exact wu_rt (hk15 ())
    refine wg_iinc (pc := 162) (v := (x9 + 1)) (l' := [(0, .ref (rid 0 1)), (1, .int (x9 + 1))]) hX dX1_share_162 1 rfl rfl (by decide) rfl ?_
    refine wg_goto (pc := 165) (tgt := 47) hX dX1_share_165 (by decide) ?_
    exact hrec9 (x9 + 1)
  exact wu_rt (wg_vret (pc := 168) hX rfl rfl dX1_share_168)
theorem m_X1_blazeOf (a1 : Nat) (a2 : Int32) : amMet yX1_blazeOf cX1_blazeOf 3 (some (.object "CityBrigade$Blaze")) 1 32 (encR 4) [.ref (rid 0 1), .ref (rid 3 a1), .int a2] (up (p_X1_blazeOf a1 a2)) := by
  refine amMet.of (own := RX1) (by decide) rfl (Nat.le_of_ble_eq_true rfl) fun X hX hPs => ?_
  change WG X (encR 4) 0 [(0, .ref (rid 0 1)), (1, .ref (rid 3 a1)), (2, .int a2)] [] (bd1 (up (p_X1_blazeOf a1 a2)) rt1)
  unfold p_X1_blazeOf
  refine wg_iload_n (pc := 0) hX dX1_blazeOf_0 2 rfl ?_
  refine wg_if_eq (pc := 1) (tgt := 11) hX dX1_blazeOf_1 (by decide) (fun h1 => ?_) (fun h1 => ?_)
  · refine wu_t h1 ?_
    refine wg_aload_n (pc := 11) hX dX1_blazeOf_11 1 rfl ?_
    refine wu_ (wg_gC (pc := 12) (v := (2 * a1 - 1)) hX fd_X1_235 (by decide) rfl dX1_blazeOf_12 ?_)
    exact wu_rt (wg_aret (pc := 15) hX rfl (by first | exact Or.inl ⟨_, rfl⟩ | exact Or.inr ⟨_, rfl⟩) (by decide) rfl dX1_blazeOf_15)
  refine wu_f h1 ?_
  refine wg_aload_n (pc := 4) hX dX1_blazeOf_4 1 rfl ?_
  refine wu_ (wg_gC (pc := 5) (v := (2 * a1)) hX fd_X1_315 (by decide) rfl dX1_blazeOf_5 ?_)
  refine wg_goto (pc := 8) (tgt := 15) hX dX1_blazeOf_8 (by decide) ?_
  exact wu_rt (wg_aret (pc := 15) hX rfl (by first | exact Or.inl ⟨_, rfl⟩ | exact Or.inr ⟨_, rfl⟩) (by decide) rfl dX1_blazeOf_15)
theorem m_X1_beside (a1 : Int32) (a2 : Int32) : amMet yX1_beside cX1_beside 4 (some (.object "CityBrigade$House")) 1 32 (encR 3) [.ref (rid 0 1), .int a1, .int a2] (up (p_X1_beside a1 a2)) := by
  refine amMet.of (own := RX1) (by decide) rfl (Nat.le_of_ble_eq_true rfl) fun X hX hPs => ?_
  change WG X (encR 3) 0 [(0, .ref (rid 0 1)), (1, .int a1), (2, .int a2)] [] (bd1 (up (p_X1_beside a1 a2)) rt1)
  unfold p_X1_beside
  have hM0 := amPs.m0 hPs
  refine wu_ (wg_gM ?_)
  refine wg_iload_n (pc := 0) hX dX1_beside_0 1 rfl ?_
  refine wg_iload_n (pc := 1) hX dX1_beside_1 2 rfl ?_
  refine wg_iadd (pc := 2) hX dX1_beside_2 ?_
  refine wu_ (wg_nmi hX fun v1 => ?_)
  refine wg_istore_n (pc := 3) (l' := [(0, .ref (rid 0 1)), (1, .int a1), (2, .int a2), (3, .int v1)]) hX dX1_beside_3 (by decide) rfl ?_
  refine wu_lp (α := Int32) (pcl := 4) (lo := fun x => [(0, .ref (rid 0 1)), (1, .int a1), (2, .int a2), (3, .int x)]) (so := fun _ => []) (fun rec2 hrec2 x2 => ?_) amFu v1
  unfold p_X1_beside_L4
  refine wg_iload_n (pc := 4) hX dX1_beside_4 3 rfl ?_
  refine wg_if_lt (pc := 5) (tgt := 51) hX dX1_beside_5 (by decide) (fun h3 => ?_) (fun h3 => ?_)
  · refine wu_t h3 ?_
    refine wg_null (pc := 51) (q := 3) hX (by decide) dX1_beside_51 ?_
    exact wu_rt (wg_aret (pc := 52) hX rfl (by first | exact Or.inl ⟨_, rfl⟩ | exact Or.inr ⟨_, rfl⟩) (by decide) rfl dX1_beside_52)
  refine wu_f h3 ?_
  refine wg_iload_n (pc := 8) hX dX1_beside_8 3 rfl ?_
  refine wg_aload_n (pc := 9) hX dX1_beside_9 0 rfl ?_
  refine wu_ (wg_gI (pc := 10) hX fd_X1_199 dX1_beside_10 fun v4 => ?_)
  refine wg_icmp_ge (pc := 13) (tgt := 51) hX dX1_beside_13 (by decide) (fun h5 => ?_) (fun h5 => ?_)
  · refine wu_t h5 ?_
    refine wg_null (pc := 51) (q := 3) hX (by decide) dX1_beside_51 ?_
    exact wu_rt (wg_aret (pc := 52) hX rfl (by first | exact Or.inl ⟨_, rfl⟩ | exact Or.inr ⟨_, rfl⟩) (by decide) rfl dX1_beside_52)
  refine wu_f h5 ?_
  refine wg_aload_n (pc := 16) hX dX1_beside_16 0 rfl ?_
  refine wg_gK (pc := 17) hX hM0 fd_X1_30 (by decide) dX1_beside_17 ?_
  refine wg_iload_n (pc := 20) hX dX1_beside_20 3 rfl ?_
  refine wu_ (wg_rR (pc := 21) hX ar_24 (by decide) dX1_beside_21 fun r6 => ?_)
  refine wu_ (wg_gI (pc := 22) hX fd_X1_308 dX1_beside_22 fun v7 => ?_)
  refine wg_aload_n (pc := 25) hX dX1_beside_25 0 rfl ?_
  refine wg_gK (pc := 26) hX hM0 fd_X1_30 (by decide) dX1_beside_26 ?_
  refine wg_iload_n (pc := 29) hX dX1_beside_29 1 rfl ?_
  refine wu_ (wg_rR (pc := 30) hX ar_24 (by decide) dX1_beside_30 fun r8 => ?_)
  refine wu_ (wg_gI (pc := 31) hX fd_X1_308 dX1_beside_31 fun v9 => ?_)
  refine wg_icmp_ne (pc := 34) (tgt := 44) hX dX1_beside_34 (by decide) (fun h10 => ?_) (fun h10 => ?_)
  · refine wu_t h10 ?_
    refine wg_aload_n (pc := 37) hX dX1_beside_37 0 rfl ?_
    refine wg_gK (pc := 38) hX hM0 fd_X1_30 (by decide) dX1_beside_38 ?_
    refine wg_iload_n (pc := 41) hX dX1_beside_41 3 rfl ?_
    refine wu_ (wg_rR (pc := 42) hX ar_24 (by decide) dX1_beside_42 fun r11 => ?_)
    exact wu_rt (wg_aret (pc := 43) hX rfl (by first | exact Or.inl ⟨_, rfl⟩ | exact Or.inr ⟨_, rfl⟩) (by decide) rfl dX1_beside_43)
  refine wu_f h10 ?_
  refine wg_iload_n (pc := 44) hX dX1_beside_44 3 rfl ?_
  refine wg_iload_n (pc := 45) hX dX1_beside_45 2 rfl ?_
  refine wg_iadd (pc := 46) hX dX1_beside_46 ?_
  refine wu_ (wg_nmi hX fun v12 => ?_)
  refine wg_istore_n (pc := 47) (l' := [(0, .ref (rid 0 1)), (1, .int a1), (2, .int a2), (3, .int v12)]) hX dX1_beside_47 (by decide) rfl ?_
  refine wg_goto (pc := 48) (tgt := 4) hX dX1_beside_48 (by decide) ?_
  exact hrec2 v12
theorem m_X1_gainBy (a1 : Nat) (a2 : Nat) (a3 : Int32) (a4 : Int32) : amMet yX1_gainBy cX1_gainBy 7 (some .int) 2 54 encI [.ref (rid 0 1), .ref (rid 3 a1), .ref (rid 3 a2), .int a3, .int a4] (up (p_X1_gainBy a1 a2 a3 a4)) := by
  refine amMet.of (own := RX1) (by decide) rfl (Nat.le_of_ble_eq_true rfl) fun X hX hPs => ?_
  change WG X encI 0 [(0, .ref (rid 0 1)), (1, .ref (rid 3 a1)), (2, .ref (rid 3 a2)), (3, .int a3), (4, .int a4)] [] (bd1 (up (p_X1_gainBy a1 a2 a3 a4)) rt1)
  unfold p_X1_gainBy
  refine wg_aload_n (pc := 0) hX dX1_gainBy_0 1 rfl ?_
  refine wg_ifnull (pc := 1) (tgt := 12) hX (by decide) dX1_gainBy_1 (by decide) (fun h1 => ?_) (fun h1 => ?_)
  · refine wu_t h1 ?_
    refine wg_iconst (pc := 12) (v := 0) hX dX1_gainBy_12 rfl ?_
    exact wu_rt (wg_iret (pc := 13) hX rfl rfl dX1_gainBy_13)
  refine wu_f h1 ?_
  refine wg_iload_n (pc := 4) hX dX1_gainBy_4 3 rfl ?_
  refine wg_aload_n (pc := 5) hX dX1_gainBy_5 1 rfl ?_
  refine wu_ (wg_gI (pc := 6) hX fd_X1_209 dX1_gainBy_6 fun v2 => ?_)
  refine wg_icmp_lt (pc := 9) (tgt := 14) hX dX1_gainBy_9 (by decide) (fun h3 => ?_) (fun h3 => ?_)
  rotate_left
  · refine wu_f h3 ?_
    refine wg_iconst (pc := 12) (v := 0) hX dX1_gainBy_12 rfl ?_
    exact wu_rt (wg_iret (pc := 13) hX rfl rfl dX1_gainBy_13)
  refine wu_t h3 ?_
  refine wg_iconst (pc := 14) (v := 0) hX dX1_gainBy_14 rfl ?_
  refine wg_istore (pc := 15) (l' := [(0, .ref (rid 0 1)), (1, .ref (rid 3 a1)), (2, .ref (rid 3 a2)), (3, .int a3), (4, .int a4), (5, .int 0)]) hX dX1_gainBy_15 (by decide) rfl ?_
  refine wg_iconst (pc := 17) (v := 0) hX dX1_gainBy_17 rfl ?_
  refine wg_istore (pc := 18) (l' := [(0, .ref (rid 0 1)), (1, .ref (rid 3 a1)), (2, .ref (rid 3 a2)), (3, .int a3), (4, .int a4), (5, .int 0), (6, .int 0)]) hX dX1_gainBy_18 (by decide) rfl ?_
  refine wu_lpx (α := Int32 × Int32) (γ := Int32) (pcl := 20) (pcT := 61) (lo := fun x => [(0, .ref (rid 0 1)), (1, .ref (rid 3 a1)), (2, .ref (rid 3 a2)), (3, .int a3), (4, .int a4), (5, .int x.1), (6, .int x.2)]) (so := fun _ => []) (lT := fun x => [(1, .ref (rid 3 a1)), (2, .ref (rid 3 a2)), (5, .int x)]) (sT := fun _ => []) (n := amFu) (x0 := (0, 0)) (fun K4 rec4 hrec4 hk4 x4 => ?_) (fun y5 => ?_)
  · unfold p_X1_gainBy_L20
    refine wg_iload (pc := 20) hX dX1_gainBy_20 6 rfl ?_
    refine wg_aload_n (pc := 22) hX dX1_gainBy_22 1 rfl ?_
    refine wu_ (wg_gI (pc := 23) hX fd_X1_245 dX1_gainBy_23 fun v6 => ?_)
    refine wg_icmp_ge (pc := 26) (tgt := 61) hX dX1_gainBy_26 (by decide) (fun h7 => ?_) (fun h7 => ?_)
    · refine wu_t h7 ?_
      refine wg_sub hX [1, 2, 5] rfl ?_
      exact wu_rt (hk4 x4.1)
    refine wu_f h7 ?_
    refine wg_aload_n (pc := 29) hX dX1_gainBy_29 0 rfl ?_
    refine wg_aload_n (pc := 30) hX dX1_gainBy_30 1 rfl ?_
    refine wg_iload (pc := 31) hX dX1_gainBy_31 4 rfl ?_
    refine wu_ (wg_cVr (pc := 33) (As := [.ref (rid 3 a1), .int a4]) (rest := []) hX (m_X1_blazeOf a1 a4) (by decide) (by decide) (by decide) rc_X1 (lw_V q1548 q1550 qs59 q159 q1551) hd_X1_blazeOf rfl (Nat.le_of_ble_eq_true rfl) (Nat.le_of_ble_eq_true rfl) (Nat.le_of_ble_eq_true rfl) rfl dX1_gainBy_33 fun r8 => ?_)
    refine wu_ (wg_gC (pc := 36) (v := r8) hX fd_X1_322 (by decide) rfl dX1_gainBy_36 ?_)
    refine wg_iload_n (pc := 39) hX dX1_gainBy_39 3 rfl ?_
    refine wg_aload_n (pc := 40) hX dX1_gainBy_40 1 rfl ?_
    refine wu_ (wg_gI (pc := 41) hX fd_X1_245 dX1_gainBy_41 fun v9 => ?_)
    refine wg_imul (pc := 44) hX dX1_gainBy_44 ?_
    refine wg_iload (pc := 45) hX dX1_gainBy_45 6 rfl ?_
    refine wg_iadd (pc := 47) hX dX1_gainBy_47 ?_
    refine wu_ (wg_rZ (pc := 48) hX ar_150 dX1_gainBy_48 fun v10 => ?_)
    refine wu_jx (α := Int32) (pcJ := 55) (lJ := fun x => [(0, .ref (rid 0 1)), (1, .ref (rid 3 a1)), (2, .ref (rid 3 a2)), (3, .int a3), (4, .int a4), (5, .int x), (6, .int x4.2)]) (sJ := fun x => []) (fun K11 hk11 => ?_) (fun z11 => ?_)
    · refine wg_if_eq (pc := 49) (tgt := 55) hX dX1_gainBy_49 (by decide) (fun h12 => ?_) (fun h12 => ?_)
      · refine wu_t h12 ?_
        exact wu_rt (hk11 x4.1)
      refine wu_f h12 ?_
      refine wg_iinc (pc := 52) (v := (x4.1 + 1)) (l' := [(0, .ref (rid 0 1)), (1, .ref (rid 3 a1)), (2, .ref (rid 3 a2)), (3, .int a3), (4, .int a4), (5, .int (x4.1 + 1)), (6, .int x4.2)]) hX dX1_gainBy_52 5 rfl rfl (by decide) rfl ?_
      exact wu_rt (hk11 (x4.1 + 1))
    refine wg_iinc (pc := 55) (v := (x4.2 + 1)) (l' := [(0, .ref (rid 0 1)), (1, .ref (rid 3 a1)), (2, .ref (rid 3 a2)), (3, .int a3), (4, .int a4), (5, .int z11), (6, .int (x4.2 + 1))]) hX dX1_gainBy_55 6 rfl rfl (by decide) rfl ?_
    refine wg_goto (pc := 58) (tgt := 20) hX dX1_gainBy_58 (by decide) ?_
    exact hrec4 (z11, (x4.2 + 1))
  refine wg_iload (pc := 61) hX dX1_gainBy_61 2 rfl ?_
  refine wg_bipush (pc := 63) (v := 24) hX dX1_gainBy_63 rfl ?_
  refine wg_iconst (pc := 65) (v := 1) hX dX1_gainBy_65 rfl ?_
  refine wg_aload_n (pc := 66) hX dX1_gainBy_66 1 rfl ?_
  refine wu_ (wg_gI (pc := 67) hX fd_X1_218 dX1_gainBy_67 fun v13 => ?_)
  refine wg_iadd (pc := 70) hX dX1_gainBy_70 ?_
  refine wg_aload_n (pc := 71) hX dX1_gainBy_71 0 rfl ?_
  refine wu_ (wg_gI (pc := 72) hX fd_X1_218 dX1_gainBy_72 fun v14 => ?_)
  refine wg_iadd (pc := 75) hX dX1_gainBy_75 ?_
  refine wu_ (wg_nmi hX fun v15 => ?_)
  refine wu_ (wg_gd fun h16 => ?_)
  refine wg_idiv (pc := 76) hX dX1_gainBy_76 h16 ?_
  refine wg_imul (pc := 77) hX dX1_gainBy_77 ?_
  exact wu_rt (wg_iret (pc := 78) hX rfl rfl dX1_gainBy_78)
theorem m_X1_gainOf (a1 : Int32) (a2 : Int32) (a3 : Int32) : amMet yX1_gainOf cX1_gainOf 10 (some .int) 3 80 encI [.ref (rid 0 1), .int a1, .int a2, .int a3] (up (p_X1_gainOf a1 a2 a3)) := by
  refine amMet.of (own := RX1) (by decide) rfl (Nat.le_of_ble_eq_true rfl) fun X hX hPs => ?_
  change WG X encI 0 [(0, .ref (rid 0 1)), (1, .int a1), (2, .int a2), (3, .int a3)] [] (bd1 (up (p_X1_gainOf a1 a2 a3)) rt1)
  unfold p_X1_gainOf
  have hM0 := amPs.m0 hPs
  refine wu_ (wg_gM ?_)
  refine wg_aload_n (pc := 0) hX dX1_gainOf_0 0 rfl ?_
  refine wg_gK (pc := 1) hX hM0 fd_X1_30 (by decide) dX1_gainOf_1 ?_
  refine wg_iload_n (pc := 4) hX dX1_gainOf_4 1 rfl ?_
  refine wu_ (wg_rR (pc := 5) hX ar_24 (by decide) dX1_gainOf_5 fun r1 => ?_)
  refine wg_astore (pc := 6) (l' := [(0, .ref (rid 0 1)), (1, .int a1), (2, .int a2), (3, .int a3), (4, .ref (rid 3 r1))]) hX dX1_gainOf_6 (by decide) rfl ?_
  refine wg_aload_n (pc := 8) hX dX1_gainOf_8 0 rfl ?_
  refine wg_aload (pc := 9) hX dX1_gainOf_9 4 rfl ?_
  refine wg_iload_n (pc := 11) hX dX1_gainOf_11 3 rfl ?_
  refine wu_ (wg_cVr (pc := 12) (As := [.ref (rid 3 r1), .int a3]) (rest := []) hX (m_X1_blazeOf r1 a3) (by decide) (by decide) (by decide) rc_X1 (lw_V q1548 q1550 qs59 q159 q1551) hd_X1_blazeOf rfl (Nat.le_of_ble_eq_true rfl) (Nat.le_of_ble_eq_true rfl) (Nat.le_of_ble_eq_true rfl) rfl dX1_gainOf_12 fun r2 => ?_)
  refine wg_astore (pc := 15) (l' := [(0, .ref (rid 0 1)), (1, .int a1), (2, .int a2), (3, .int a3), (4, .ref (rid 3 r1)), (5, .ref (rid 4 r2))]) hX dX1_gainOf_15 (by decide) rfl ?_
  refine wg_aload (pc := 17) hX dX1_gainOf_17 4 rfl ?_
  refine wg_iload_n (pc := 19) hX dX1_gainOf_19 2 rfl ?_
  refine wu_ (wg_gd fun h3 => ?_)
  refine wu_ (wg_cVi (pc := 20) (As := [.int a2]) (rest := []) hX (m_X5_floorOf r1 a2) (by decide) (by decide) h3 rc_X5 (lw_V q710 q698 q699 q167 q700) hd_X5_floorOf rfl (Nat.le_of_ble_eq_true rfl) (Nat.le_of_ble_eq_true rfl) (Nat.le_of_ble_eq_true rfl) rfl dX1_gainOf_20 fun v4 => ?_)
  refine wg_istore (pc := 23) (l' := [(0, .ref (rid 0 1)), (1, .int a1), (2, .int a2), (3, .int a3), (4, .ref (rid 3 r1)), (5, .ref (rid 4 r2)), (6, .int v4)]) hX dX1_gainOf_23 (by decide) rfl ?_
  refine wg_iload_n (pc := 25) hX dX1_gainOf_25 2 rfl ?_
  refine wg_aload (pc := 26) hX dX1_gainOf_26 4 rfl ?_
  refine wu_ (wg_gI (pc := 28) hX fd_X1_245 dX1_gainOf_28 fun v5 => ?_)
  refine wu_ (wg_gd fun h6 => ?_)
  refine wg_irem (pc := 31) hX dX1_gainOf_31 h6 ?_
  refine wu_ (wg_nmi hX fun v7 => ?_)
  refine wg_istore (pc := 32) (l' := [(0, .ref (rid 0 1)), (1, .int a1), (2, .int a2), (3, .int a3), (4, .ref (rid 3 r1)), (5, .ref (rid 4 r2)), (6, .int v4), (7, .int v7)]) hX dX1_gainOf_32 (by decide) rfl ?_
  refine wg_aload (pc := 34) hX dX1_gainOf_34 5 rfl ?_
  refine wu_ (wg_gC (pc := 36) (v := r2) hX fd_X1_322 (by decide) rfl dX1_gainOf_36 ?_)
  refine wg_iload_n (pc := 39) hX dX1_gainOf_39 2 rfl ?_
  refine wu_ (wg_rZ (pc := 40) hX ar_150 dX1_gainOf_40 fun v8 => ?_)
  refine wu_jx (α := Int32) (pcJ := 51) (lJ := fun x => [(0, .ref (rid 0 1)), (1, .int a1), (2, .int a2), (3, .int a3), (4, .ref (rid 3 r1)), (5, .ref (rid 4 r2)), (6, .int v4), (7, .int v7)]) (sJ := fun x => [.int x]) (fun K9 hk9 => ?_) (fun z9 => ?_)
  · refine wg_if_eq (pc := 41) (tgt := 49) hX dX1_gainOf_41 (by decide) (fun h10 => ?_) (fun h10 => ?_)
    · refine wu_t h10 ?_
      refine wg_bipush (pc := 49) (v := (-10)) hX dX1_gainOf_49 rfl ?_
      exact wu_rt (hk9 (-10))
    refine wu_f h10 ?_
    refine wg_bipush (pc := 44) (v := 50) hX dX1_gainOf_44 rfl ?_
    refine wg_goto (pc := 46) (tgt := 51) hX dX1_gainOf_46 (by decide) ?_
    exact wu_rt (hk9 50)
  refine wg_istore (pc := 51) (l' := [(0, .ref (rid 0 1)), (1, .int a1), (2, .int a2), (3, .int a3), (4, .ref (rid 3 r1)), (5, .ref (rid 4 r2)), (6, .int v4), (7, .int v7), (8, .int z9)]) hX dX1_gainOf_51 (by decide) rfl ?_
  refine wg_aload (pc := 53) hX dX1_gainOf_53 4 rfl ?_
  refine wu_ (wg_gI (pc := 55) hX fd_X1_215 dX1_gainOf_55 fun v11 => ?_)
  refine wu_jx (α := Int32) (pcJ := 68) (lJ := fun x => [(0, .ref (rid 0 1)), (1, .int a1), (2, .int a2), (3, .int a3), (4, .ref (rid 3 r1)), (5, .ref (rid 4 r2)), (6, .int v4), (7, .int v7), (8, .int z9)]) (sJ := fun x => [.int x]) (fun K12 hk12 => ?_) (fun z12 => ?_)
  · refine wg_if_eq (pc := 58) (tgt := 66) hX dX1_gainOf_58 (by decide) (fun h13 => ?_) (fun h13 => ?_)
    · refine wu_t h13 ?_
      refine wg_bipush (pc := 66) (v := 10) hX dX1_gainOf_66 rfl ?_
      exact wu_rt (hk12 10)
    refine wu_f h13 ?_
    refine wg_bipush (pc := 61) (v := 30) hX dX1_gainOf_61 rfl ?_
    refine wg_goto (pc := 63) (tgt := 68) hX dX1_gainOf_63 (by decide) ?_
    exact wu_rt (hk12 30)
  refine wg_istore (pc := 68) (l' := [(0, .ref (rid 0 1)), (1, .int a1), (2, .int a2), (3, .int a3), (4, .ref (rid 3 r1)), (5, .ref (rid 4 r2)), (6, .int v4), (7, .int v7), (8, .int z9), (9, .int z12)]) hX dX1_gainOf_68 (by decide) rfl ?_
  refine wg_iload (pc := 70) hX dX1_gainOf_70 7 rfl ?_
  refine wu_jx (α := Int32) (pcJ := 94) (lJ := fun x => [(0, .ref (rid 0 1)), (1, .int a1), (2, .int a2), (3, .int a3), (4, .ref (rid 3 r1)), (5, .ref (rid 4 r2)), (6, .int v4), (7, .int v7), (8, .int x), (9, .int z12)]) (sJ := fun x => []) (fun K14 hk14 => ?_) (fun z14 => ?_)
  · refine wg_if_le (pc := 72) (tgt := 94) hX dX1_gainOf_72 (by decide) (fun h15 => ?_) (fun h15 => ?_)
    · refine wu_t h15 ?_
      exact wu_rt (hk14 z9)
    refine wu_f h15 ?_
    refine wg_aload (pc := 75) hX dX1_gainOf_75 5 rfl ?_
    refine wu_ (wg_gC (pc := 77) (v := r2) hX fd_X1_322 (by decide) rfl dX1_gainOf_77 ?_)
    refine wg_iload_n (pc := 80) hX dX1_gainOf_80 2 rfl ?_
    refine wg_iconst (pc := 81) (v := 1) hX dX1_gainOf_81 rfl ?_
    refine wg_isub (pc := 82) hX dX1_gainOf_82 ?_
    refine wu_ (wg_rZ (pc := 83) hX ar_150 dX1_gainOf_83 fun v16 => ?_)
    refine wg_if_eq (pc := 84) (tgt := 94) hX dX1_gainOf_84 (by decide) (fun h17 => ?_) (fun h17 => ?_)
    · refine wu_t h17 ?_
      exact wu_rt (hk14 z9)
    refine wu_f h17 ?_
    refine wg_iload (pc := 87) hX dX1_gainOf_87 8 rfl ?_
    refine wg_iload (pc := 89) hX dX1_gainOf_89 9 rfl ?_
    refine wg_iadd (pc := 91) hX dX1_gainOf_91 ?_
    refine wu_ (wg_nmi hX fun v18 => ?_)
    refine wg_istore (pc := 92) (l' := [(0, .ref (rid 0 1)), (1, .int a1), (2, .int a2), (3, .int a3), (4, .ref (rid 3 r1)), (5, .ref (rid 4 r2)), (6, .int v4), (7, .int v7), (8, .int v18), (9, .int z12)]) hX dX1_gainOf_92 (by decide) rfl ?_
    exact wu_rt (hk14 v18)
  refine wg_iload (pc := 94) hX dX1_gainOf_94 7 rfl ?_
  refine wg_aload (pc := 96) hX dX1_gainOf_96 4 rfl ?_
  refine wu_ (wg_gI (pc := 98) hX fd_X1_245 dX1_gainOf_98 fun v19 => ?_)
  refine wg_iconst (pc := 101) (v := 1) hX dX1_gainOf_101 rfl ?_
  refine wg_isub (pc := 102) hX dX1_gainOf_102 ?_
  refine wu_jx (α := Int32) (pcJ := 125) (lJ := fun x => [(0, .ref (rid 0 1)), (1, .int a1), (2, .int a2), (3, .int a3), (4, .ref (rid 3 r1)), (5, .ref (rid 4 r2)), (6, .int v4), (7, .int v7), (8, .int x)]) (sJ := fun x => []) (fun K20 hk20 => ?_) (fun z20 => ?_)
  · refine wg_icmp_ge (pc := 103) (tgt := 125) hX dX1_gainOf_103 (by decide) (fun h21 => ?_) (fun h21 => ?_)
    · refine wu_t h21 ?_
      refine wg_sub hX [0, 1, 2, 3, 4, 5, 6, 7, 8] rfl ?_
      exact wu_rt (hk20 z14)
    refine wu_f h21 ?_
    refine wg_aload (pc := 106) hX dX1_gainOf_106 5 rfl ?_
    refine wu_ (wg_gC (pc := 108) (v := r2) hX fd_X1_322 (by decide) rfl dX1_gainOf_108 ?_)
    refine wg_iload_n (pc := 111) hX dX1_gainOf_111 2 rfl ?_
    refine wg_iconst (pc := 112) (v := 1) hX dX1_gainOf_112 rfl ?_
    refine wg_iadd (pc := 113) hX dX1_gainOf_113 ?_
    refine wu_ (wg_rZ (pc := 114) hX ar_150 dX1_gainOf_114 fun v22 => ?_)
    refine wg_if_eq (pc := 115) (tgt := 125) hX dX1_gainOf_115 (by decide) (fun h23 => ?_) (fun h23 => ?_)
    · refine wu_t h23 ?_
      refine wg_sub hX [0, 1, 2, 3, 4, 5, 6, 7, 8] rfl ?_
      exact wu_rt (hk20 z14)
    refine wu_f h23 ?_
    refine wg_iload (pc := 118) hX dX1_gainOf_118 8 rfl ?_
    refine wg_iload (pc := 120) hX dX1_gainOf_120 9 rfl ?_
    refine wg_iadd (pc := 122) hX dX1_gainOf_122 ?_
    refine wu_ (wg_nmi hX fun v24 => ?_)
    refine wg_istore (pc := 123) (l' := [(0, .ref (rid 0 1)), (1, .int a1), (2, .int a2), (3, .int a3), (4, .ref (rid 3 r1)), (5, .ref (rid 4 r2)), (6, .int v4), (7, .int v7), (8, .int v24), (9, .int z12)]) hX dX1_gainOf_123 (by decide) rfl ?_
    refine wg_sub hX [0, 1, 2, 3, 4, 5, 6, 7, 8] rfl ?_
    exact wu_rt (hk20 v24)
  refine wg_iload (pc := 125) hX dX1_gainOf_125 6 rfl ?_
  refine wu_jx (α := Int32) (pcJ := 168) (lJ := fun x => [(0, .ref (rid 0 1)), (1, .int a1), (2, .int a2), (3, .int a3), (4, .ref (rid 3 r1)), (5, .ref (rid 4 r2)), (6, .int v4), (8, .int x)]) (sJ := fun x => []) (fun K25 hk25 => ?_) (fun z25 => ?_)
  · refine wg_if_le (pc := 127) (tgt := 168) hX dX1_gainOf_127 (by decide) (fun h26 => ?_) (fun h26 => ?_)
    · refine wu_t h26 ?_
      refine wg_sub hX [0, 1, 2, 3, 4, 5, 6, 8] rfl ?_
      exact wu_rt (hk25 z20)
    refine wu_f h26 ?_
    refine wg_aload (pc := 130) hX dX1_gainOf_130 5 rfl ?_
    refine wu_ (wg_gC (pc := 132) (v := r2) hX fd_X1_322 (by decide) rfl dX1_gainOf_132 ?_)
    refine wg_iload_n (pc := 135) hX dX1_gainOf_135 2 rfl ?_
    refine wg_aload (pc := 136) hX dX1_gainOf_136 4 rfl ?_
    refine wu_ (wg_gI (pc := 138) hX fd_X1_245 dX1_gainOf_138 fun v27 => ?_)
    refine wg_isub (pc := 141) hX dX1_gainOf_141 ?_
    refine wu_ (wg_rZ (pc := 142) hX ar_150 dX1_gainOf_142 fun v28 => ?_)
    refine wg_if_eq (pc := 143) (tgt := 168) hX dX1_gainOf_143 (by decide) (fun h29 => ?_) (fun h29 => ?_)
    · refine wu_t h29 ?_
      refine wg_sub hX [0, 1, 2, 3, 4, 5, 6, 8] rfl ?_
      exact wu_rt (hk25 z20)
    refine wu_f h29 ?_
    refine wg_iload (pc := 146) hX dX1_gainOf_146 8 rfl ?_
    refine wg_iload (pc := 148) hX dX1_gainOf_148 7 rfl ?_
    refine wg_aload (pc := 150) hX dX1_gainOf_150 4 rfl ?_
    refine wu_ (wg_gI (pc := 152) hX fd_X1_325 dX1_gainOf_152 fun v30 => ?_)
    refine wu_jx (α := Int32) (pcJ := 165) (lJ := fun x => [(0, .ref (rid 0 1)), (1, .int a1), (2, .int a2), (3, .int a3), (4, .ref (rid 3 r1)), (5, .ref (rid 4 r2)), (6, .int v4)]) (sJ := fun x => [.int x, .int z20]) (fun K31 hk31 => ?_) (fun z31 => ?_)
    · refine wg_icmp_ne (pc := 155) (tgt := 163) hX dX1_gainOf_155 (by decide) (fun h32 => ?_) (fun h32 => ?_)
      rotate_left
      · refine wu_f h32 ?_
        refine wg_bipush (pc := 163) (v := 20) hX dX1_gainOf_163 rfl ?_
        refine wg_sub hX [0, 1, 2, 3, 4, 5, 6] rfl ?_
        exact wu_rt (hk31 20)
      refine wu_t h32 ?_
      refine wg_bipush (pc := 158) (v := 60) hX dX1_gainOf_158 rfl ?_
      refine wg_goto (pc := 160) (tgt := 165) hX dX1_gainOf_160 (by decide) ?_
      refine wg_sub hX [0, 1, 2, 3, 4, 5, 6] rfl ?_
      exact wu_rt (hk31 60)
    refine wg_iadd (pc := 165) hX dX1_gainOf_165 ?_
    refine wu_ (wg_nmi hX fun v33 => ?_)
    refine wg_istore (pc := 166) (l' := [(0, .ref (rid 0 1)), (1, .int a1), (2, .int a2), (3, .int a3), (4, .ref (rid 3 r1)), (5, .ref (rid 4 r2)), (6, .int v4), (8, .int v33)]) hX dX1_gainOf_166 (by decide) rfl ?_
    exact wu_rt (hk25 v33)
  refine wg_iload (pc := 168) hX dX1_gainOf_168 6 rfl ?_
  refine wg_aload (pc := 170) hX dX1_gainOf_170 4 rfl ?_
  refine wu_ (wg_gI (pc := 172) hX fd_X1_209 dX1_gainOf_172 fun v34 => ?_)
  refine wg_iconst (pc := 175) (v := 1) hX dX1_gainOf_175 rfl ?_
  refine wg_isub (pc := 176) hX dX1_gainOf_176 ?_
  refine wu_jx (α := Int32) (pcJ := 199) (lJ := fun x => [(0, .ref (rid 0 1)), (1, .int a1), (2, .int a2), (3, .int a3), (4, .ref (rid 3 r1)), (5, .ref (rid 4 r2)), (6, .int v4), (8, .int x)]) (sJ := fun x => []) (fun K35 hk35 => ?_) (fun z35 => ?_)
  · refine wg_icmp_ge (pc := 177) (tgt := 199) hX dX1_gainOf_177 (by decide) (fun h36 => ?_) (fun h36 => ?_)
    · refine wu_t h36 ?_
      exact wu_rt (hk35 z25)
    refine wu_f h36 ?_
    refine wg_aload (pc := 180) hX dX1_gainOf_180 5 rfl ?_
    refine wu_ (wg_gC (pc := 182) (v := r2) hX fd_X1_322 (by decide) rfl dX1_gainOf_182 ?_)
    refine wg_iload_n (pc := 185) hX dX1_gainOf_185 2 rfl ?_
    refine wg_aload (pc := 186) hX dX1_gainOf_186 4 rfl ?_
    refine wu_ (wg_gI (pc := 188) hX fd_X1_245 dX1_gainOf_188 fun v37 => ?_)
    refine wg_iadd (pc := 191) hX dX1_gainOf_191 ?_
    refine wu_ (wg_rZ (pc := 192) hX ar_150 dX1_gainOf_192 fun v38 => ?_)
    refine wg_if_eq (pc := 193) (tgt := 199) hX dX1_gainOf_193 (by decide) (fun h39 => ?_) (fun h39 => ?_)
    · refine wu_t h39 ?_
      exact wu_rt (hk35 z25)
    refine wu_f h39 ?_
    refine wg_iinc (pc := 196) (v := (z25 + 5)) (l' := [(0, .ref (rid 0 1)), (1, .int a1), (2, .int a2), (3, .int a3), (4, .ref (rid 3 r1)), (5, .ref (rid 4 r2)), (6, .int v4), (8, .int (z25 + 5))]) hX dX1_gainOf_196 7 rfl rfl (by decide) rfl ?_
    exact wu_rt (hk35 (z25 + 5))
  refine wg_iload (pc := 199) hX dX1_gainOf_199 7 rfl ?_
  refine wg_aload_n (pc := 201) hX dX1_gainOf_201 0 rfl ?_
  refine wg_aload_n (pc := 202) hX dX1_gainOf_202 0 rfl ?_
  refine wg_iload_n (pc := 203) hX dX1_gainOf_203 1 rfl ?_
  refine wg_iconst (pc := 204) (v := (-1)) hX dX1_gainOf_204 rfl ?_
  refine wu_ (wg_cVr (pc := 205) (As := [.int a1, .int (-1)]) (rest := [.ref (rid 0 1), .int z35]) hX (m_X1_beside a1 (-1)) (by decide) (by decide) (by decide) rc_X1 (lw_V q1556 q1558 qs61 q159 q1559) hd_X1_beside rfl (Nat.le_of_ble_eq_true rfl) (Nat.le_of_ble_eq_true rfl) (Nat.le_of_ble_eq_true rfl) rfl dX1_gainOf_205 fun r40 => ?_)
  refine wg_aload (pc := 208) hX dX1_gainOf_208 4 rfl ?_
  refine wg_iload (pc := 210) hX dX1_gainOf_210 6 rfl ?_
  refine wg_iload_n (pc := 212) hX dX1_gainOf_212 3 rfl ?_
  refine wu_ (wg_cVi (pc := 213) (As := [.ref (rid 3 r40), .ref (rid 3 r1), .int v4, .int a3]) (rest := [.int z35]) hX (m_X1_gainBy r40 r1 v4 a3) (by decide) (by decide) (by decide) rc_X1 (lw_V q1560 q1562 qs62 q159 q1563) hd_X1_gainBy rfl (Nat.le_of_ble_eq_true rfl) (Nat.le_of_ble_eq_true rfl) (Nat.le_of_ble_eq_true rfl) rfl dX1_gainOf_213 fun v41 => ?_)
  refine wg_iadd (pc := 216) hX dX1_gainOf_216 ?_
  refine wg_aload_n (pc := 217) hX dX1_gainOf_217 0 rfl ?_
  refine wg_aload_n (pc := 218) hX dX1_gainOf_218 0 rfl ?_
  refine wg_iload_n (pc := 219) hX dX1_gainOf_219 1 rfl ?_
  refine wg_iconst (pc := 220) (v := 1) hX dX1_gainOf_220 rfl ?_
  refine wu_ (wg_cVr (pc := 221) (As := [.int a1, .int 1]) (rest := [.ref (rid 0 1), .int (z35 + v41)]) hX (m_X1_beside a1 1) (by decide) (by decide) (by decide) rc_X1 (lw_V q1556 q1558 qs61 q159 q1559) hd_X1_beside rfl (Nat.le_of_ble_eq_true rfl) (Nat.le_of_ble_eq_true rfl) (Nat.le_of_ble_eq_true rfl) rfl dX1_gainOf_221 fun r42 => ?_)
  refine wg_aload (pc := 224) hX dX1_gainOf_224 4 rfl ?_
  refine wg_iload (pc := 226) hX dX1_gainOf_226 6 rfl ?_
  refine wg_iload_n (pc := 228) hX dX1_gainOf_228 3 rfl ?_
  refine wu_ (wg_cVi (pc := 229) (As := [.ref (rid 3 r42), .ref (rid 3 r1), .int v4, .int a3]) (rest := [.int (z35 + v41)]) hX (m_X1_gainBy r42 r1 v4 a3) (by decide) (by decide) (by decide) rc_X1 (lw_V q1560 q1562 qs62 q159 q1563) hd_X1_gainBy rfl (Nat.le_of_ble_eq_true rfl) (Nat.le_of_ble_eq_true rfl) (Nat.le_of_ble_eq_true rfl) rfl dX1_gainOf_229 fun v43 => ?_)
  refine wg_iadd (pc := 232) hX dX1_gainOf_232 ?_
  refine wg_aload (pc := 233) hX dX1_gainOf_233 5 rfl ?_
  refine wu_ (wg_gC (pc := 235) (v := r2) hX fd_X1_332 (by decide) rfl dX1_gainOf_235 ?_)
  refine wg_iload_n (pc := 238) hX dX1_gainOf_238 2 rfl ?_
  refine wu_ (wg_rI (pc := 239) hX ar_147 dX1_gainOf_239 fun v44 => ?_)
  refine wg_iconst (pc := 240) (v := 4) hX dX1_gainOf_240 rfl ?_
  refine wg_idiv (pc := 241) hX dX1_gainOf_241 (by decide) ?_
  refine wg_isub (pc := 242) hX dX1_gainOf_242 ?_
  exact wu_rt (wg_iret (pc := 243) hX rfl rfl dX1_gainOf_243)
theorem m_X1_hurt (a1 : Nat) (a2 : Int32) : amMet yX1_hurt cX1_hurt 5 none 2 54 encV [.ref (rid 0 1), .ref (rid 3 a1), .int a2] (up (p_X1_hurt a1 a2)) := by
  refine amMet.of (own := RX1) (by decide) rfl (Nat.le_of_ble_eq_true rfl) fun X hX hPs => ?_
  change WG X encV 0 [(0, .ref (rid 0 1)), (1, .ref (rid 3 a1)), (2, .int a2)] [] (bd1 (up (p_X1_hurt a1 a2)) rt1)
  unfold p_X1_hurt
  have hM0 := amPs.m0 hPs
  refine wu_ (wg_gM ?_)
  refine wg_iconst (pc := 0) (v := 0) hX dX1_hurt_0 rfl ?_
  refine wg_istore_n (pc := 1) (l' := [(0, .ref (rid 0 1)), (1, .ref (rid 3 a1)), (2, .int a2), (3, .int 0)]) hX dX1_hurt_1 (by decide) rfl ?_
  refine wu_lpx (α := Int32) (γ := Unit) (pcl := 2) (pcT := 71) (lo := fun x => [(0, .ref (rid 0 1)), (1, .ref (rid 3 a1)), (2, .int a2), (3, .int x)]) (so := fun _ => []) (lT := fun x => []) (sT := fun _ => []) (n := amFu) (x0 := 0) (fun K1 rec1 hrec1 hk1 x1 => ?_) (fun y2 => ?_)
  · unfold p_X1_hurt_L2
    refine wg_iload_n (pc := 2) hX dX1_hurt_2 3 rfl ?_
    refine wg_aload_n (pc := 3) hX dX1_hurt_3 0 rfl ?_
    refine wu_ (wg_gI (pc := 4) hX fd_X1_365 dX1_hurt_4 fun v3 => ?_)
    refine wg_icmp_ge (pc := 7) (tgt := 71) hX dX1_hurt_7 (by decide) (fun h4 => ?_) (fun h4 => ?_)
    · refine wu_t h4 ?_
      refine wg_sub hX [] rfl ?_
      exact wu_rt (hk1 ())
    refine wu_f h4 ?_
    refine wg_aload_n (pc := 10) hX dX1_hurt_10 0 rfl ?_
    refine wg_gK (pc := 11) hX hM0 fd_X1_48 (by decide) dX1_hurt_11 ?_
    refine wg_iload_n (pc := 14) hX dX1_hurt_14 3 rfl ?_
    refine wu_ (wg_rR (pc := 15) hX ar_28 (by decide) dX1_hurt_15 fun r5 => ?_)
    refine wg_astore (pc := 16) (l' := [(0, .ref (rid 0 1)), (1, .ref (rid 3 a1)), (2, .int a2), (3, .int x1), (4, .ref (rid 6 r5))]) hX dX1_hurt_16 (by decide) rfl ?_
    refine wg_aload (pc := 18) hX dX1_hurt_18 4 rfl ?_
    refine wu_ (wg_gI (pc := 20) hX fd_X1_389 dX1_hurt_20 fun v6 => ?_)
    refine wg_iconst (pc := 23) (v := 2) hX dX1_hurt_23 rfl ?_
    refine wu_jx (α := Unit) (pcJ := 65) (lJ := fun x => [(0, .ref (rid 0 1)), (1, .ref (rid 3 a1)), (2, .int a2), (3, .int x1)]) (sJ := fun x => []) (fun K7 hk7 => ?_) (fun z7 => ?_)
    · refine wg_icmp_ne (pc := 24) (tgt := 65) hX dX1_hurt_24 (by decide) (fun h8 => ?_) (fun h8 => ?_)
      rotate_left
      · refine wu_f h8 ?_
        refine wg_sub hX [0, 1, 2, 3] rfl ?_
        exact wu_rt (hk7 ())
      refine wu_t h8 ?_
      refine wg_aload (pc := 27) hX dX1_hurt_27 4 rfl ?_
      refine wu_ (wg_gR (pc := 29) hX fd_X1_401 dX1_hurt_29 fun r9 => ?_)
      refine wg_aload_n (pc := 32) hX dX1_hurt_32 1 rfl ?_
      refine wg_acmp_ne (pc := 33) (tgt := 65) hX (by decide) dX1_hurt_33 (by decide) (fun h10 => ?_) (fun h10 => ?_)
      rotate_left
      · refine wu_f h10 ?_
        refine wg_sub hX [0, 1, 2, 3] rfl ?_
        exact wu_rt (hk7 ())
      refine wu_t h10 ?_
      refine wg_aload (pc := 36) hX dX1_hurt_36 4 rfl ?_
      refine wu_ (wg_gI (pc := 38) hX fd_X1_405 dX1_hurt_38 fun v11 => ?_)
      refine wg_iload_n (pc := 41) hX dX1_hurt_41 2 rfl ?_
      refine wg_icmp_eq (pc := 42) (tgt := 48) hX dX1_hurt_42 (by decide) (fun h12 => ?_) (fun h12 => ?_)
      rotate_left
      · refine wu_f h12 ?_
        refine wg_goto (pc := 45) (tgt := 65) hX dX1_hurt_45 (by decide) ?_
        refine wg_sub hX [0, 1, 2, 3] rfl ?_
        exact wu_rt (hk7 ())
      refine wu_t h12 ?_
      refine wg_aload_n (pc := 48) hX dX1_hurt_48 0 rfl ?_
      refine wg_aload (pc := 49) hX dX1_hurt_49 4 rfl ?_
      refine wg_aload (pc := 51) hX dX1_hurt_51 4 rfl ?_
      refine wu_ (wg_gI (pc := 53) hX fd_X1_408 dX1_hurt_53 fun v13 => ?_)
      refine wu_ (wg_cVv (pc := 56) (As := [.ref (rid 6 r5), .int v13]) (rest := []) hX (m_X1_ready r5 v13) (by decide) (by decide) (by decide) rc_X1 (lw_V q958 q960 qs17 q159 q961) hd_X1_ready rfl (Nat.le_of_ble_eq_true rfl) (Nat.le_of_ble_eq_true rfl) (Nat.le_of_ble_eq_true rfl) rfl dX1_hurt_56 ?_)
      refine wg_aload (pc := 59) hX dX1_hurt_59 4 rfl ?_
      refine wg_iconst (pc := 61) (v := 4) hX dX1_hurt_61 rfl ?_
      refine wu_ (wg_pI (pc := 62) hX fp_X1_389 (fun h => by cases h) dX1_hurt_62 ?_)
      refine wg_sub hX [0, 1, 2, 3] rfl ?_
      exact wu_rt (hk7 ())
    refine wg_iinc (pc := 65) (v := (x1 + 1)) (l' := [(0, .ref (rid 0 1)), (1, .ref (rid 3 a1)), (2, .int a2), (3, .int (x1 + 1))]) hX dX1_hurt_65 3 rfl rfl (by decide) rfl ?_
    refine wg_goto (pc := 68) (tgt := 2) hX dX1_hurt_68 (by decide) ?_
    exact hrec1 (x1 + 1)
  exact wu_rt (wg_vret (pc := 71) hX rfl rfl dX1_hurt_71)
theorem m_X1_fall (a1 : Nat) (a2 : Nat) (a3 : Int32) : amMet yX1_fall cX1_fall 8 none 3 78 encV [.ref (rid 0 1), .ref (rid 3 a1), .ref (rid 4 a2), .int a3] (up (p_X1_fall a1 a2 a3)) := by
  refine amMet.of (own := RX1) (by decide) rfl (Nat.le_of_ble_eq_true rfl) fun X hX hPs => ?_
  change WG X encV 0 [(0, .ref (rid 0 1)), (1, .ref (rid 3 a1)), (2, .ref (rid 4 a2)), (3, .int a3)] [] (bd1 (up (p_X1_fall a1 a2 a3)) rt1)
  unfold p_X1_fall
  refine wg_aload_n (pc := 0) hX dX1_fall_0 1 rfl ?_
  refine wu_ (wg_gI (pc := 1) hX fd_X1_209 dX1_fall_1 fun v1 => ?_)
  refine wg_iconst (pc := 4) (v := 1) hX dX1_fall_4 rfl ?_
  refine wg_isub (pc := 5) hX dX1_fall_5 ?_
  refine wu_ (wg_nmi hX fun v2 => ?_)
  refine wg_istore (pc := 6) (l' := [(0, .ref (rid 0 1)), (1, .ref (rid 3 a1)), (2, .ref (rid 4 a2)), (3, .int a3), (4, .int v2)]) hX dX1_fall_6 (by decide) rfl ?_
  refine wu_lpx (α := Int32) (γ := Unit) (pcl := 8) (pcT := 211) (lo := fun x => [(0, .ref (rid 0 1)), (1, .ref (rid 3 a1)), (2, .ref (rid 4 a2)), (3, .int a3), (4, .int x)]) (so := fun _ => []) (lT := fun x => []) (sT := fun _ => []) (n := amFu) (x0 := v2) (fun K3 rec3 hrec3 hk3 x3 => ?_) (fun y4 => ?_)
  · unfold p_X1_fall_L8
    refine wg_iload (pc := 8) hX dX1_fall_8 4 rfl ?_
    refine wg_if_le (pc := 10) (tgt := 211) hX dX1_fall_10 (by decide) (fun h5 => ?_) (fun h5 => ?_)
    · refine wu_t h5 ?_
      refine wg_sub hX [] rfl ?_
      exact wu_rt (hk3 ())
    refine wu_f h5 ?_
    refine wg_aload_n (pc := 13) hX dX1_fall_13 2 rfl ?_
    refine wu_ (wg_gC (pc := 14) (v := a2) hX fd_X1_239 (by decide) rfl dX1_fall_14 ?_)
    refine wg_iload (pc := 17) hX dX1_fall_17 4 rfl ?_
    refine wu_ (wg_rZ (pc := 19) hX ar_149 dX1_fall_19 fun v6 => ?_)
    refine wu_jx (α := Unit) (pcJ := 205) (lJ := fun x => [(0, .ref (rid 0 1)), (1, .ref (rid 3 a1)), (2, .ref (rid 4 a2)), (3, .int a3), (4, .int x3)]) (sJ := fun x => []) (fun K7 hk7 => ?_) (fun z7 => ?_)
    · refine wg_if_ne (pc := 20) (tgt := 205) hX dX1_fall_20 (by decide) (fun h8 => ?_) (fun h8 => ?_)
      rotate_left
      · refine wu_f h8 ?_
        exact wu_rt (hk7 ())
      refine wu_t h8 ?_
      refine wg_aload_n (pc := 23) hX dX1_fall_23 1 rfl ?_
      refine wg_aload_n (pc := 24) hX dX1_fall_24 2 rfl ?_
      refine wg_iload (pc := 25) hX dX1_fall_25 4 rfl ?_
      refine wu_ (wg_gd fun h9 => ?_)
      refine wu_ (wg_cVi (pc := 27) (As := [.ref (rid 4 a2), .int x3]) (rest := []) hX (m_X5_load a1 a2 x3) (by decide) (by decide) h9 rc_X5 (lw_V q723 q724 q725 q167 q726) hd_X5_load rfl (Nat.le_of_ble_eq_true rfl) (Nat.le_of_ble_eq_true rfl) (Nat.le_of_ble_eq_true rfl) rfl dX1_fall_27 fun v10 => ?_)
      refine wg_aload_n (pc := 30) hX dX1_fall_30 1 rfl ?_
      refine wu_ (wg_gd fun h11 => ?_)
      refine wu_ (wg_cVi (pc := 31) (As := []) (rest := [.int v10]) hX (m_X5_bears a1) (by decide) (by decide) h11 rc_X5 (lw_V q1536 q1537 q1538 q167 q1539) hd_X5_bears rfl (Nat.le_of_ble_eq_true rfl) (Nat.le_of_ble_eq_true rfl) (Nat.le_of_ble_eq_true rfl) rfl dX1_fall_31 fun v12 => ?_)
      refine wg_icmp_ge (pc := 34) (tgt := 40) hX dX1_fall_34 (by decide) (fun h13 => ?_) (fun h13 => ?_)
      rotate_left
      · refine wu_f h13 ?_
        refine wg_goto (pc := 37) (tgt := 205) hX dX1_fall_37 (by decide) ?_
        exact wu_rt (hk7 ())
      refine wu_t h13 ?_
      refine wg_aload_n (pc := 40) hX dX1_fall_40 2 rfl ?_
      refine wu_ (wg_gC (pc := 41) (v := a2) hX fd_X1_239 (by decide) rfl dX1_fall_41 ?_)
      refine wg_iload (pc := 44) hX dX1_fall_44 4 rfl ?_
      refine wg_iconst (pc := 46) (v := 1) hX dX1_fall_46 rfl ?_
      refine wu_ (wg_wZ (pc := 47) hX ar_149 (by decide) dX1_fall_47 ?_)
      refine wg_iconst (pc := 48) (v := 0) hX dX1_fall_48 rfl ?_
      refine wg_istore (pc := 49) (l' := [(0, .ref (rid 0 1)), (1, .ref (rid 3 a1)), (2, .ref (rid 4 a2)), (3, .int a3), (4, .int x3), (5, .int 0)]) hX dX1_fall_49 (by decide) rfl ?_
      refine wu_lpx (α := Int32) (γ := Unit) (pcl := 51) (pcT := 167) (lo := fun x => [(0, .ref (rid 0 1)), (1, .ref (rid 3 a1)), (2, .ref (rid 4 a2)), (3, .int a3), (4, .int x3), (5, .int x)]) (so := fun _ => []) (lT := fun x => [(0, .ref (rid 0 1)), (1, .ref (rid 3 a1)), (2, .ref (rid 4 a2)), (3, .int a3), (4, .int x3)]) (sT := fun _ => []) (n := amFu) (x0 := 0) (fun K14 rec14 hrec14 hk14 x14 => ?_) (fun y15 => ?_)
      · unfold p_X1_fall_L51
        refine wg_iload (pc := 51) hX dX1_fall_51 5 rfl ?_
        refine wg_aload_n (pc := 53) hX dX1_fall_53 1 rfl ?_
        refine wu_ (wg_gI (pc := 54) hX fd_X1_245 dX1_fall_54 fun v16 => ?_)
        refine wg_icmp_ge (pc := 57) (tgt := 167) hX dX1_fall_57 (by decide) (fun h17 => ?_) (fun h17 => ?_)
        · refine wu_t h17 ?_
          refine wg_sub hX [0, 1, 2, 3, 4] rfl ?_
          exact wu_rt (hk14 ())
        refine wu_f h17 ?_
        refine wg_iload (pc := 60) hX dX1_fall_60 4 rfl ?_
        refine wg_aload_n (pc := 62) hX dX1_fall_62 1 rfl ?_
        refine wu_ (wg_gI (pc := 63) hX fd_X1_245 dX1_fall_63 fun v18 => ?_)
        refine wg_imul (pc := 66) hX dX1_fall_66 ?_
        refine wg_iload (pc := 67) hX dX1_fall_67 5 rfl ?_
        refine wg_iadd (pc := 69) hX dX1_fall_69 ?_
        refine wu_ (wg_nmi hX fun v19 => ?_)
        refine wg_istore (pc := 70) (l' := [(0, .ref (rid 0 1)), (1, .ref (rid 3 a1)), (2, .ref (rid 4 a2)), (3, .int a3), (4, .int x3), (5, .int x14), (6, .int v19)]) hX dX1_fall_70 (by decide) rfl ?_
        refine wg_iload (pc := 72) hX dX1_fall_72 6 rfl ?_
        refine wg_aload_n (pc := 74) hX dX1_fall_74 1 rfl ?_
        refine wu_ (wg_gI (pc := 75) hX fd_X1_245 dX1_fall_75 fun v20 => ?_)
        refine wg_isub (pc := 78) hX dX1_fall_78 ?_
        refine wu_ (wg_nmi hX fun v21 => ?_)
        refine wg_istore (pc := 79) (l' := [(0, .ref (rid 0 1)), (1, .ref (rid 3 a1)), (2, .ref (rid 4 a2)), (3, .int a3), (4, .int x3), (5, .int x14), (6, .int v19), (7, .int v21)]) hX dX1_fall_79 (by decide) rfl ?_
        refine wg_aload_n (pc := 81) hX dX1_fall_81 2 rfl ?_
        refine wu_ (wg_gC (pc := 82) (v := a2) hX fd_X1_248 (by decide) rfl dX1_fall_82 ?_)
        refine wg_iload (pc := 85) hX dX1_fall_85 7 rfl ?_
        refine wg_sipush (pc := 87) (v := 2000) hX dX1_fall_87 rfl ?_
        refine wg_aload_n (pc := 90) hX dX1_fall_90 2 rfl ?_
        refine wu_ (wg_gC (pc := 91) (v := a2) hX fd_X1_248 (by decide) rfl dX1_fall_91 ?_)
        refine wg_iload (pc := 94) hX dX1_fall_94 7 rfl ?_
        refine wu_ (wg_rI (pc := 96) hX ar_146 dX1_fall_96 fun v22 => ?_)
        refine wg_aload_n (pc := 97) hX dX1_fall_97 2 rfl ?_
        refine wu_ (wg_gC (pc := 98) (v := a2) hX fd_X1_248 (by decide) rfl dX1_fall_98 ?_)
        refine wg_iload (pc := 101) hX dX1_fall_101 6 rfl ?_
        refine wu_ (wg_rI (pc := 103) hX ar_146 dX1_fall_103 fun v23 => ?_)
        refine wg_iadd (pc := 104) hX dX1_fall_104 ?_
        refine wg_mmin (pc := 105) hX q1314 q1149 q165 q1150 (Nat.le_of_ble_eq_true rfl) (Nat.le_of_ble_eq_true rfl) dX1_fall_105 ?_
        refine wu_ (wg_nmi hX fun v24 => ?_)
        refine wu_ (wg_wI (pc := 108) hX ar_146 dX1_fall_108 ?_)
        refine wg_aload_n (pc := 109) hX dX1_fall_109 2 rfl ?_
        refine wu_ (wg_gC (pc := 110) (v := a2) hX fd_X1_239 (by decide) rfl dX1_fall_110 ?_)
        refine wg_iload (pc := 113) hX dX1_fall_113 4 rfl ?_
        refine wg_iconst (pc := 115) (v := 1) hX dX1_fall_115 rfl ?_
        refine wg_isub (pc := 116) hX dX1_fall_116 ?_
        refine wu_ (wg_rZ (pc := 117) hX ar_149 dX1_fall_117 fun v25 => ?_)
        refine wu_jx (α := Unit) (pcJ := 145) (lJ := fun x => [(0, .ref (rid 0 1)), (1, .ref (rid 3 a1)), (2, .ref (rid 4 a2)), (3, .int a3), (4, .int x3), (5, .int x14), (6, .int v19)]) (sJ := fun x => []) (fun K26 hk26 => ?_) (fun z26 => ?_)
        · refine wg_if_ne (pc := 118) (tgt := 145) hX dX1_fall_118 (by decide) (fun h27 => ?_) (fun h27 => ?_)
          rotate_left
          · refine wu_f h27 ?_
            refine wg_sub hX [0, 1, 2, 3, 4, 5, 6] rfl ?_
            exact wu_rt (hk26 ())
          refine wu_t h27 ?_
          refine wg_aload_n (pc := 121) hX dX1_fall_121 2 rfl ?_
          refine wu_ (wg_gC (pc := 122) (v := a2) hX fd_X1_266 (by decide) rfl dX1_fall_122 ?_)
          refine wg_iload (pc := 125) hX dX1_fall_125 7 rfl ?_
          refine wg_aload_n (pc := 127) hX dX1_fall_127 2 rfl ?_
          refine wu_ (wg_gC (pc := 128) (v := a2) hX fd_X1_266 (by decide) rfl dX1_fall_128 ?_)
          refine wg_iload (pc := 131) hX dX1_fall_131 7 rfl ?_
          refine wu_ (wg_rI (pc := 133) hX ar_145 dX1_fall_133 fun v28 => ?_)
          refine wg_aload_n (pc := 134) hX dX1_fall_134 2 rfl ?_
          refine wu_ (wg_gC (pc := 135) (v := a2) hX fd_X1_266 (by decide) rfl dX1_fall_135 ?_)
          refine wg_iload (pc := 138) hX dX1_fall_138 6 rfl ?_
          refine wu_ (wg_rI (pc := 140) hX ar_145 dX1_fall_140 fun v29 => ?_)
          refine wg_mmax (pc := 141) hX q711 q712 q165 q713 (Nat.le_of_ble_eq_true rfl) (Nat.le_of_ble_eq_true rfl) dX1_fall_141 ?_
          refine wu_ (wg_nmi hX fun v30 => ?_)
          refine wu_ (wg_wI (pc := 144) hX ar_145 dX1_fall_144 ?_)
          refine wg_sub hX [0, 1, 2, 3, 4, 5, 6] rfl ?_
          exact wu_rt (hk26 ())
        refine wg_aload_n (pc := 145) hX dX1_fall_145 2 rfl ?_
        refine wu_ (wg_gC (pc := 146) (v := a2) hX fd_X1_248 (by decide) rfl dX1_fall_146 ?_)
        refine wg_iload (pc := 149) hX dX1_fall_149 6 rfl ?_
        refine wg_iconst (pc := 151) (v := 0) hX dX1_fall_151 rfl ?_
        refine wu_ (wg_wI (pc := 152) hX ar_146 dX1_fall_152 ?_)
        refine wg_aload_n (pc := 153) hX dX1_fall_153 2 rfl ?_
        refine wu_ (wg_gC (pc := 154) (v := a2) hX fd_X1_266 (by decide) rfl dX1_fall_154 ?_)
        refine wg_iload (pc := 157) hX dX1_fall_157 6 rfl ?_
        refine wg_iconst (pc := 159) (v := 0) hX dX1_fall_159 rfl ?_
        refine wu_ (wg_wI (pc := 160) hX ar_145 dX1_fall_160 ?_)
        refine wg_iinc (pc := 161) (v := (x14 + 1)) (l' := [(0, .ref (rid 0 1)), (1, .ref (rid 3 a1)), (2, .ref (rid 4 a2)), (3, .int a3), (4, .int x3), (5, .int (x14 + 1)), (6, .int v19)]) hX dX1_fall_161 5 rfl rfl (by decide) rfl ?_
        refine wg_goto (pc := 164) (tgt := 51) hX dX1_fall_164 (by decide) ?_
        refine wg_sub hX [0, 1, 2, 3, 4, 5] rfl ?_
        exact hrec14 (x14 + 1)
      refine wg_iload_n (pc := 167) hX dX1_fall_167 3 rfl ?_
      refine wg_if_ne (pc := 168) (tgt := 174) hX dX1_fall_168 (by decide) (fun h31 => ?_) (fun h31 => ?_)
      · refine wu_t h31 ?_
        refine wg_goto (pc := 171) (tgt := 205) hX dX1_fall_171 (by decide) ?_
        exact wu_rt (hk7 ())
      refine wu_f h31 ?_
      refine wg_aload_n (pc := 174) hX dX1_fall_174 1 rfl ?_
      refine wg_dup (pc := 175) hX dX1_fall_175 rfl ?_
      refine wu_ (wg_gI (pc := 176) hX fd_X1_295 dX1_fall_176 fun v32 => ?_)
      refine wg_aload_n (pc := 179) hX dX1_fall_179 1 rfl ?_
      refine wu_ (wg_gC (pc := 180) (v := a1) hX fd_X1_254 (by decide) rfl dX1_fall_180 ?_)
      refine wg_iload (pc := 183) hX dX1_fall_183 4 rfl ?_
      refine wu_ (wg_rI (pc := 185) hX ar_143 dX1_fall_185 fun v33 => ?_)
      refine wg_iadd (pc := 186) hX dX1_fall_186 ?_
      refine wu_ (wg_pI (pc := 187) hX fp_X1_295 (fun h => by cases h) dX1_fall_187 ?_)
      refine wg_aload_n (pc := 190) hX dX1_fall_190 1 rfl ?_
      refine wu_ (wg_gC (pc := 191) (v := a1) hX fd_X1_254 (by decide) rfl dX1_fall_191 ?_)
      refine wg_iload (pc := 194) hX dX1_fall_194 4 rfl ?_
      refine wg_iconst (pc := 196) (v := 0) hX dX1_fall_196 rfl ?_
      refine wu_ (wg_wI (pc := 197) hX ar_143 dX1_fall_197 ?_)
      refine wg_aload_n (pc := 198) hX dX1_fall_198 0 rfl ?_
      refine wg_aload_n (pc := 199) hX dX1_fall_199 1 rfl ?_
      refine wg_iload (pc := 200) hX dX1_fall_200 4 rfl ?_
      refine wu_ (wg_cVv (pc := 202) (As := [.ref (rid 3 a1), .int x3]) (rest := []) hX (m_X1_hurt a1 x3) (by decide) (by decide) (by decide) rc_X1 (lw_V q1568 q1570 qs64 q159 q1571) hd_X1_hurt rfl (Nat.le_of_ble_eq_true rfl) (Nat.le_of_ble_eq_true rfl) (Nat.le_of_ble_eq_true rfl) rfl dX1_fall_202 ?_)
      exact wu_rt (hk7 ())
    refine wg_iinc (pc := 205) (v := (x3 + (-1))) (l' := [(0, .ref (rid 0 1)), (1, .ref (rid 3 a1)), (2, .ref (rid 4 a2)), (3, .int a3), (4, .int (x3 + (-1)))]) hX dX1_fall_205 4 rfl rfl (by decide) rfl ?_
    refine wg_goto (pc := 208) (tgt := 8) hX dX1_fall_208 (by decide) ?_
    exact hrec3 (x3 + (-1))
  exact wu_rt (wg_vret (pc := 211) hX rfl rfl dX1_fall_211)
theorem m_X1_change (a1 : Int32) : amMet yX1_change cX1_change 8 none 4 109 encV [.ref (rid 0 1), .int a1] (up (p_X1_change a1)) := by
  refine amMet.of (own := RX1) (by decide) rfl (Nat.le_of_ble_eq_true rfl) fun X hX hPs => ?_
  change WG X encV 0 [(0, .ref (rid 0 1)), (1, .int a1)] [] (bd1 (up (p_X1_change a1)) rt1)
  unfold p_X1_change
  have hM0 := amPs.m0 hPs
  refine wu_ (wg_gM ?_)
  refine wg_iconst (pc := 0) (v := 0) hX dX1_change_0 rfl ?_
  refine wg_istore_n (pc := 1) (l' := [(0, .ref (rid 0 1)), (1, .int a1), (2, .int 0)]) hX dX1_change_1 (by decide) rfl ?_
  refine wu_lpx (α := Int32) (γ := Unit) (pcl := 2) (pcT := 74) (lo := fun x => [(0, .ref (rid 0 1)), (1, .int a1), (2, .int x)]) (so := fun _ => []) (lT := fun x => [(0, .ref (rid 0 1)), (1, .int a1)]) (sT := fun _ => []) (n := amFu) (x0 := 0) (fun K1 rec1 hrec1 hk1 x1 => ?_) (fun y2 => ?_)
  · unfold p_X1_change_L2
    refine wg_iload_n (pc := 2) hX dX1_change_2 2 rfl ?_
    refine wg_aload_n (pc := 3) hX dX1_change_3 0 rfl ?_
    refine wu_ (wg_gI (pc := 4) hX fd_X1_199 dX1_change_4 fun v3 => ?_)
    refine wg_icmp_ge (pc := 7) (tgt := 74) hX dX1_change_7 (by decide) (fun h4 => ?_) (fun h4 => ?_)
    · refine wu_t h4 ?_
      refine wg_sub hX [0, 1] rfl ?_
      exact wu_rt (hk1 ())
    refine wu_f h4 ?_
    refine wg_iconst (pc := 10) (v := 0) hX dX1_change_10 rfl ?_
    refine wg_istore_n (pc := 11) (l' := [(0, .ref (rid 0 1)), (1, .int a1), (2, .int x1), (3, .int 0)]) hX dX1_change_11 (by decide) rfl ?_
    refine wu_lpx (α := Int32) (γ := Unit) (pcl := 12) (pcT := 68) (lo := fun x => [(0, .ref (rid 0 1)), (1, .int a1), (2, .int x1), (3, .int x)]) (so := fun _ => []) (lT := fun x => [(0, .ref (rid 0 1)), (1, .int a1), (2, .int x1)]) (sT := fun _ => []) (n := amFu) (x0 := 0) (fun K5 rec5 hrec5 hk5 x5 => ?_) (fun y6 => ?_)
    · unfold p_X1_change_L12
      refine wg_iload_n (pc := 12) hX dX1_change_12 3 rfl ?_
      refine wg_aload_n (pc := 13) hX dX1_change_13 0 rfl ?_
      refine wg_gK (pc := 14) hX hM0 fd_X1_30 (by decide) dX1_change_14 ?_
      refine wg_iload_n (pc := 17) hX dX1_change_17 2 rfl ?_
      refine wu_ (wg_rR (pc := 18) hX ar_24 (by decide) dX1_change_18 fun r7 => ?_)
      refine wu_ (wg_gd fun h8 => ?_)
      refine wu_ (wg_cVi (pc := 19) (As := []) (rest := [.int x5]) hX (m_X5_all r7) (by decide) (by decide) h8 rc_X5 (lw_V q709 q690 q691 q167 q692) hd_X5_all rfl (Nat.le_of_ble_eq_true rfl) (Nat.le_of_ble_eq_true rfl) (Nat.le_of_ble_eq_true rfl) rfl dX1_change_19 fun v9 => ?_)
      refine wg_icmp_ge (pc := 22) (tgt := 68) hX dX1_change_22 (by decide) (fun h10 => ?_) (fun h10 => ?_)
      · refine wu_t h10 ?_
        refine wg_sub hX [0, 1, 2] rfl ?_
        exact wu_rt (hk5 ())
      refine wu_f h10 ?_
      refine wg_aload_n (pc := 25) hX dX1_change_25 0 rfl ?_
      refine wg_aload_n (pc := 26) hX dX1_change_26 0 rfl ?_
      refine wg_gK (pc := 27) hX hM0 fd_X1_30 (by decide) dX1_change_27 ?_
      refine wg_iload_n (pc := 30) hX dX1_change_30 2 rfl ?_
      refine wu_ (wg_rR (pc := 31) hX ar_24 (by decide) dX1_change_31 fun r11 => ?_)
      refine wg_iload_n (pc := 32) hX dX1_change_32 1 rfl ?_
      refine wu_ (wg_cVr (pc := 33) (As := [.ref (rid 3 r11), .int a1]) (rest := []) hX (m_X1_blazeOf r11 a1) (by decide) (by decide) (by decide) rc_X1 (lw_V q1548 q1550 qs59 q159 q1551) hd_X1_blazeOf rfl (Nat.le_of_ble_eq_true rfl) (Nat.le_of_ble_eq_true rfl) (Nat.le_of_ble_eq_true rfl) rfl dX1_change_33 fun r12 => ?_)
      refine wu_ (wg_gC (pc := 36) (v := r12) hX fd_X1_322 (by decide) rfl dX1_change_36 ?_)
      refine wg_iload_n (pc := 39) hX dX1_change_39 3 rfl ?_
      refine wg_aload_n (pc := 40) hX dX1_change_40 0 rfl ?_
      refine wg_gK (pc := 41) hX hM0 fd_X1_30 (by decide) dX1_change_41 ?_
      refine wg_iload_n (pc := 44) hX dX1_change_44 2 rfl ?_
      refine wu_ (wg_rR (pc := 45) hX ar_24 (by decide) dX1_change_45 fun r13 => ?_)
      refine wg_aload_n (pc := 46) hX dX1_change_46 0 rfl ?_
      refine wg_aload_n (pc := 47) hX dX1_change_47 0 rfl ?_
      refine wg_gK (pc := 48) hX hM0 fd_X1_30 (by decide) dX1_change_48 ?_
      refine wg_iload_n (pc := 51) hX dX1_change_51 2 rfl ?_
      refine wu_ (wg_rR (pc := 52) hX ar_24 (by decide) dX1_change_52 fun r14 => ?_)
      refine wg_iload_n (pc := 53) hX dX1_change_53 1 rfl ?_
      refine wu_ (wg_cVr (pc := 54) (As := [.ref (rid 3 r14), .int a1]) (rest := [.ref (rid 3 r13), .int x5, .ref (rid 150 r12)]) hX (m_X1_blazeOf r14 a1) (by decide) (by decide) (by decide) rc_X1 (lw_V q1548 q1550 qs59 q159 q1551) hd_X1_blazeOf rfl (Nat.le_of_ble_eq_true rfl) (Nat.le_of_ble_eq_true rfl) (Nat.le_of_ble_eq_true rfl) rfl dX1_change_54 fun r15 => ?_)
      refine wg_iload_n (pc := 57) hX dX1_change_57 3 rfl ?_
      refine wu_ (wg_gd fun h16 => ?_)
      refine wu_ (wg_cVi (pc := 58) (As := [.ref (rid 4 r15), .int x5]) (rest := [.int x5, .ref (rid 150 r12)]) hX (m_X5_burns r13 r15 x5) (by decide) (by decide) h16 rc_X5 (lw_V q718 q694 q695 q167 q696) hd_X5_burns rfl (Nat.le_of_ble_eq_true rfl) (Nat.le_of_ble_eq_true rfl) (Nat.le_of_ble_eq_true rfl) rfl dX1_change_58 fun v17 => ?_)
      refine wu_ (wg_gd fun h18 => ?_)
      refine wu_ (wg_wZ (pc := 61) hX ar_150 h18 dX1_change_61 ?_)
      refine wg_iinc (pc := 62) (v := (x5 + 1)) (l' := [(0, .ref (rid 0 1)), (1, .int a1), (2, .int x1), (3, .int (x5 + 1))]) hX dX1_change_62 3 rfl rfl (by decide) rfl ?_
      refine wg_goto (pc := 65) (tgt := 12) hX dX1_change_65 (by decide) ?_
      exact hrec5 (x5 + 1)
    refine wg_iinc (pc := 68) (v := (x1 + 1)) (l' := [(0, .ref (rid 0 1)), (1, .int a1), (2, .int (x1 + 1))]) hX dX1_change_68 2 rfl rfl (by decide) rfl ?_
    refine wg_goto (pc := 71) (tgt := 2) hX dX1_change_71 (by decide) ?_
    exact hrec1 (x1 + 1)
  refine wg_iconst (pc := 74) (v := 0) hX dX1_change_74 rfl ?_
  refine wg_istore_n (pc := 75) (l' := [(0, .ref (rid 0 1)), (1, .int a1), (2, .int 0)]) hX dX1_change_75 (by decide) rfl ?_
  refine wu_lpx (α := Int32) (γ := Unit) (pcl := 76) (pcT := 134) (lo := fun x => [(0, .ref (rid 0 1)), (1, .int a1), (2, .int x)]) (so := fun _ => []) (lT := fun x => [(0, .ref (rid 0 1)), (1, .int a1)]) (sT := fun _ => []) (n := amFu) (x0 := 0) (fun K19 rec19 hrec19 hk19 x19 => ?_) (fun y20 => ?_)
  · unfold p_X1_change_L76
    refine wg_iload_n (pc := 76) hX dX1_change_76 2 rfl ?_
    refine wg_aload_n (pc := 77) hX dX1_change_77 0 rfl ?_
    refine wu_ (wg_gI (pc := 78) hX fd_X1_199 dX1_change_78 fun v21 => ?_)
    refine wg_icmp_ge (pc := 81) (tgt := 134) hX dX1_change_81 (by decide) (fun h22 => ?_) (fun h22 => ?_)
    · refine wu_t h22 ?_
      refine wg_sub hX [0, 1] rfl ?_
      exact wu_rt (hk19 ())
    refine wu_f h22 ?_
    refine wg_iconst (pc := 84) (v := 0) hX dX1_change_84 rfl ?_
    refine wg_istore_n (pc := 85) (l' := [(0, .ref (rid 0 1)), (1, .int a1), (2, .int x19), (3, .int 0)]) hX dX1_change_85 (by decide) rfl ?_
    refine wu_lpx (α := Int32) (γ := Unit) (pcl := 86) (pcT := 128) (lo := fun x => [(0, .ref (rid 0 1)), (1, .int a1), (2, .int x19), (3, .int x)]) (so := fun _ => []) (lT := fun x => [(0, .ref (rid 0 1)), (1, .int a1), (2, .int x19)]) (sT := fun _ => []) (n := amFu) (x0 := 0) (fun K23 rec23 hrec23 hk23 x23 => ?_) (fun y24 => ?_)
    · unfold p_X1_change_L86
      refine wg_iload_n (pc := 86) hX dX1_change_86 3 rfl ?_
      refine wg_aload_n (pc := 87) hX dX1_change_87 0 rfl ?_
      refine wg_gK (pc := 88) hX hM0 fd_X1_30 (by decide) dX1_change_88 ?_
      refine wg_iload_n (pc := 91) hX dX1_change_91 2 rfl ?_
      refine wu_ (wg_rR (pc := 92) hX ar_24 (by decide) dX1_change_92 fun r25 => ?_)
      refine wu_ (wg_gd fun h26 => ?_)
      refine wu_ (wg_cVi (pc := 93) (As := []) (rest := [.int x23]) hX (m_X5_all r25) (by decide) (by decide) h26 rc_X5 (lw_V q709 q690 q691 q167 q692) hd_X5_all rfl (Nat.le_of_ble_eq_true rfl) (Nat.le_of_ble_eq_true rfl) (Nat.le_of_ble_eq_true rfl) rfl dX1_change_93 fun v27 => ?_)
      refine wg_icmp_ge (pc := 96) (tgt := 128) hX dX1_change_96 (by decide) (fun h28 => ?_) (fun h28 => ?_)
      · refine wu_t h28 ?_
        refine wg_sub hX [0, 1, 2] rfl ?_
        exact wu_rt (hk23 ())
      refine wu_f h28 ?_
      refine wg_aload_n (pc := 99) hX dX1_change_99 0 rfl ?_
      refine wg_aload_n (pc := 100) hX dX1_change_100 0 rfl ?_
      refine wg_gK (pc := 101) hX hM0 fd_X1_30 (by decide) dX1_change_101 ?_
      refine wg_iload_n (pc := 104) hX dX1_change_104 2 rfl ?_
      refine wu_ (wg_rR (pc := 105) hX ar_24 (by decide) dX1_change_105 fun r29 => ?_)
      refine wg_iload_n (pc := 106) hX dX1_change_106 1 rfl ?_
      refine wu_ (wg_cVr (pc := 107) (As := [.ref (rid 3 r29), .int a1]) (rest := []) hX (m_X1_blazeOf r29 a1) (by decide) (by decide) (by decide) rc_X1 (lw_V q1548 q1550 qs59 q159 q1551) hd_X1_blazeOf rfl (Nat.le_of_ble_eq_true rfl) (Nat.le_of_ble_eq_true rfl) (Nat.le_of_ble_eq_true rfl) rfl dX1_change_107 fun r30 => ?_)
      refine wu_ (wg_gC (pc := 110) (v := r30) hX fd_X1_335 (by decide) rfl dX1_change_110 ?_)
      refine wg_iload_n (pc := 113) hX dX1_change_113 3 rfl ?_
      refine wg_aload_n (pc := 114) hX dX1_change_114 0 rfl ?_
      refine wg_iload_n (pc := 115) hX dX1_change_115 2 rfl ?_
      refine wg_iload_n (pc := 116) hX dX1_change_116 3 rfl ?_
      refine wg_iload_n (pc := 117) hX dX1_change_117 1 rfl ?_
      refine wu_ (wg_cVi (pc := 118) (As := [.int x19, .int x23, .int a1]) (rest := [.int x23, .ref (rid 151 r30)]) hX (m_X1_gainOf x19 x23 a1) (by decide) (by decide) (by decide) rc_X1 (lw_V q1552 q1554 qs60 q159 q1555) hd_X1_gainOf rfl (Nat.le_of_ble_eq_true rfl) (Nat.le_of_ble_eq_true rfl) (Nat.le_of_ble_eq_true rfl) rfl dX1_change_118 fun v31 => ?_)
      refine wu_ (wg_wI (pc := 121) hX ar_151 dX1_change_121 ?_)
      refine wg_iinc (pc := 122) (v := (x23 + 1)) (l' := [(0, .ref (rid 0 1)), (1, .int a1), (2, .int x19), (3, .int (x23 + 1))]) hX dX1_change_122 3 rfl rfl (by decide) rfl ?_
      refine wg_goto (pc := 125) (tgt := 86) hX dX1_change_125 (by decide) ?_
      exact hrec23 (x23 + 1)
    refine wg_iinc (pc := 128) (v := (x19 + 1)) (l' := [(0, .ref (rid 0 1)), (1, .int a1), (2, .int (x19 + 1))]) hX dX1_change_128 2 rfl rfl (by decide) rfl ?_
    refine wg_goto (pc := 131) (tgt := 76) hX dX1_change_131 (by decide) ?_
    exact hrec19 (x19 + 1)
  refine wg_iconst (pc := 134) (v := 0) hX dX1_change_134 rfl ?_
  refine wg_istore_n (pc := 135) (l' := [(0, .ref (rid 0 1)), (1, .int a1), (2, .int 0)]) hX dX1_change_135 (by decide) rfl ?_
  refine wu_lpx (α := Int32) (γ := Unit) (pcl := 136) (pcT := 314) (lo := fun x => [(0, .ref (rid 0 1)), (1, .int a1), (2, .int x)]) (so := fun _ => []) (lT := fun x => [(0, .ref (rid 0 1)), (1, .int a1)]) (sT := fun _ => []) (n := amFu) (x0 := 0) (fun K32 rec32 hrec32 hk32 x32 => ?_) (fun y33 => ?_)
  · unfold p_X1_change_L136
    refine wg_iload_n (pc := 136) hX dX1_change_136 2 rfl ?_
    refine wg_aload_n (pc := 137) hX dX1_change_137 0 rfl ?_
    refine wu_ (wg_gI (pc := 138) hX fd_X1_199 dX1_change_138 fun v34 => ?_)
    refine wg_icmp_ge (pc := 141) (tgt := 314) hX dX1_change_141 (by decide) (fun h35 => ?_) (fun h35 => ?_)
    · refine wu_t h35 ?_
      refine wg_sub hX [0, 1] rfl ?_
      exact wu_rt (hk32 ())
    refine wu_f h35 ?_
    refine wg_aload_n (pc := 144) hX dX1_change_144 0 rfl ?_
    refine wg_gK (pc := 145) hX hM0 fd_X1_30 (by decide) dX1_change_145 ?_
    refine wg_iload_n (pc := 148) hX dX1_change_148 2 rfl ?_
    refine wu_ (wg_rR (pc := 149) hX ar_24 (by decide) dX1_change_149 fun r36 => ?_)
    refine wg_astore_n (pc := 150) (l' := [(0, .ref (rid 0 1)), (1, .int a1), (2, .int x32), (3, .ref (rid 3 r36))]) hX dX1_change_150 (by decide) rfl ?_
    refine wg_aload_n (pc := 151) hX dX1_change_151 0 rfl ?_
    refine wg_aload_n (pc := 152) hX dX1_change_152 3 rfl ?_
    refine wg_iload_n (pc := 153) hX dX1_change_153 1 rfl ?_
    refine wu_ (wg_cVr (pc := 154) (As := [.ref (rid 3 r36), .int a1]) (rest := []) hX (m_X1_blazeOf r36 a1) (by decide) (by decide) (by decide) rc_X1 (lw_V q1548 q1550 qs59 q159 q1551) hd_X1_blazeOf rfl (Nat.le_of_ble_eq_true rfl) (Nat.le_of_ble_eq_true rfl) (Nat.le_of_ble_eq_true rfl) rfl dX1_change_154 fun r37 => ?_)
    refine wg_astore (pc := 157) (l' := [(0, .ref (rid 0 1)), (1, .int a1), (2, .int x32), (3, .ref (rid 3 r36)), (4, .ref (rid 4 r37))]) hX dX1_change_157 (by decide) rfl ?_
    refine wg_iconst (pc := 159) (v := 0) hX dX1_change_159 rfl ?_
    refine wg_istore (pc := 160) (l' := [(0, .ref (rid 0 1)), (1, .int a1), (2, .int x32), (3, .ref (rid 3 r36)), (4, .ref (rid 4 r37)), (5, .int 0)]) hX dX1_change_160 (by decide) rfl ?_
    refine wu_lpx (α := Int32) (γ := Unit) (pcl := 162) (pcT := 308) (lo := fun x => [(0, .ref (rid 0 1)), (1, .int a1), (2, .int x32), (3, .ref (rid 3 r36)), (4, .ref (rid 4 r37)), (5, .int x)]) (so := fun _ => []) (lT := fun x => [(0, .ref (rid 0 1)), (1, .int a1), (2, .int x32)]) (sT := fun _ => []) (n := amFu) (x0 := 0) (fun K38 rec38 hrec38 hk38 x38 => ?_) (fun y39 => ?_)
    · unfold p_X1_change_L162
      refine wg_iload (pc := 162) hX dX1_change_162 5 rfl ?_
      refine wg_aload_n (pc := 164) hX dX1_change_164 3 rfl ?_
      refine wu_ (wg_gd fun h40 => ?_)
      refine wu_ (wg_cVi (pc := 165) (As := []) (rest := [.int x38]) hX (m_X5_all r36) (by decide) (by decide) h40 rc_X5 (lw_V q709 q690 q691 q167 q692) hd_X5_all rfl (Nat.le_of_ble_eq_true rfl) (Nat.le_of_ble_eq_true rfl) (Nat.le_of_ble_eq_true rfl) rfl dX1_change_165 fun v41 => ?_)
      refine wg_icmp_ge (pc := 168) (tgt := 308) hX dX1_change_168 (by decide) (fun h42 => ?_) (fun h42 => ?_)
      · refine wu_t h42 ?_
        refine wg_sub hX [0, 1, 2] rfl ?_
        exact wu_rt (hk38 ())
      refine wu_f h42 ?_
      refine wg_aload_n (pc := 171) hX dX1_change_171 3 rfl ?_
      refine wg_iload (pc := 172) hX dX1_change_172 5 rfl ?_
      refine wu_ (wg_gd fun h43 => ?_)
      refine wu_ (wg_cVi (pc := 174) (As := [.int x38]) (rest := []) hX (m_X5_floorOf r36 x38) (by decide) (by decide) h43 rc_X5 (lw_V q710 q698 q699 q167 q700) hd_X5_floorOf rfl (Nat.le_of_ble_eq_true rfl) (Nat.le_of_ble_eq_true rfl) (Nat.le_of_ble_eq_true rfl) rfl dX1_change_174 fun v44 => ?_)
      refine wg_istore (pc := 177) (l' := [(0, .ref (rid 0 1)), (1, .int a1), (2, .int x32), (3, .ref (rid 3 r36)), (4, .ref (rid 4 r37)), (5, .int x38), (6, .int v44)]) hX dX1_change_177 (by decide) rfl ?_
      refine wg_aload (pc := 179) hX dX1_change_179 4 rfl ?_
      refine wu_ (wg_gC (pc := 181) (v := r37) hX fd_X1_322 (by decide) rfl dX1_change_181 ?_)
      refine wg_iload (pc := 184) hX dX1_change_184 5 rfl ?_
      refine wu_ (wg_rZ (pc := 186) hX ar_150 dX1_change_186 fun v45 => ?_)
      refine wu_jx (α := Unit) (pcJ := 243) (lJ := fun x => [(0, .ref (rid 0 1)), (1, .int a1), (2, .int x32), (3, .ref (rid 3 r36)), (4, .ref (rid 4 r37)), (5, .int x38), (6, .int v44)]) (sJ := fun x => []) (fun K46 hk46 => ?_) (fun z46 => ?_)
      · refine wg_if_eq (pc := 187) (tgt := 243) hX dX1_change_187 (by decide) (fun h47 => ?_) (fun h47 => ?_)
        · refine wu_t h47 ?_
          exact wu_rt (hk46 ())
        refine wu_f h47 ?_
        refine wg_aload (pc := 190) hX dX1_change_190 4 rfl ?_
        refine wu_ (wg_gC (pc := 192) (v := r37) hX fd_X1_248 (by decide) rfl dX1_change_192 ?_)
        refine wg_iload (pc := 195) hX dX1_change_195 5 rfl ?_
        refine wu_ (wg_rI (pc := 197) hX ar_146 dX1_change_197 fun v48 => ?_)
        refine wg_iconst (pc := 198) (v := 1) hX dX1_change_198 rfl ?_
        refine wg_aload (pc := 199) hX dX1_change_199 4 rfl ?_
        refine wu_ (wg_gC (pc := 201) (v := r37) hX fd_X1_266 (by decide) rfl dX1_change_201 ?_)
        refine wg_iload (pc := 204) hX dX1_change_204 5 rfl ?_
        refine wu_ (wg_rI (pc := 206) hX ar_145 dX1_change_206 fun v49 => ?_)
        refine wg_sipush (pc := 207) (v := 250) hX dX1_change_207 rfl ?_
        refine wg_idiv (pc := 210) hX dX1_change_210 (by decide) ?_
        refine wg_iadd (pc := 211) hX dX1_change_211 ?_
        refine wg_mmin (pc := 212) hX q1314 q1149 q165 q1150 (Nat.le_of_ble_eq_true rfl) (Nat.le_of_ble_eq_true rfl) dX1_change_212 ?_
        refine wu_ (wg_nmi hX fun v50 => ?_)
        refine wg_istore (pc := 215) (l' := [(0, .ref (rid 0 1)), (1, .int a1), (2, .int x32), (3, .ref (rid 3 r36)), (4, .ref (rid 4 r37)), (5, .int x38), (6, .int v44), (7, .int v50)]) hX dX1_change_215 (by decide) rfl ?_
        refine wg_aload (pc := 217) hX dX1_change_217 4 rfl ?_
        refine wu_ (wg_gC (pc := 219) (v := r37) hX fd_X1_248 (by decide) rfl dX1_change_219 ?_)
        refine wg_iload (pc := 222) hX dX1_change_222 5 rfl ?_
        refine wg_dup2 (pc := 224) hX dX1_change_224 rfl rfl ?_
        refine wu_ (wg_rI (pc := 225) hX ar_146 dX1_change_225 fun v51 => ?_)
        refine wg_iload (pc := 226) hX dX1_change_226 7 rfl ?_
        refine wg_isub (pc := 228) hX dX1_change_228 ?_
        refine wu_ (wg_wI (pc := 229) hX ar_146 dX1_change_229 ?_)
        refine wg_aload (pc := 230) hX dX1_change_230 4 rfl ?_
        refine wu_ (wg_gC (pc := 232) (v := r37) hX fd_X1_278 (by decide) rfl dX1_change_232 ?_)
        refine wg_iload (pc := 235) hX dX1_change_235 6 rfl ?_
        refine wg_dup2 (pc := 237) hX dX1_change_237 rfl rfl ?_
        refine wu_ (wg_rI (pc := 238) hX ar_148 dX1_change_238 fun v52 => ?_)
        refine wg_iload (pc := 239) hX dX1_change_239 7 rfl ?_
        refine wg_iadd (pc := 241) hX dX1_change_241 ?_
        refine wu_ (wg_wI (pc := 242) hX ar_148 dX1_change_242 ?_)
        refine wg_sub hX [0, 1, 2, 3, 4, 5, 6] rfl ?_
        exact wu_rt (hk46 ())
      refine wg_aload (pc := 243) hX dX1_change_243 4 rfl ?_
      refine wu_ (wg_gC (pc := 245) (v := r37) hX fd_X1_266 (by decide) rfl dX1_change_245 ?_)
      refine wg_iload (pc := 248) hX dX1_change_248 5 rfl ?_
      refine wg_aload (pc := 250) hX dX1_change_250 4 rfl ?_
      refine wu_ (wg_gC (pc := 252) (v := r37) hX fd_X1_239 (by decide) rfl dX1_change_252 ?_)
      refine wg_iload (pc := 255) hX dX1_change_255 6 rfl ?_
      refine wu_ (wg_rZ (pc := 257) hX ar_149 dX1_change_257 fun v53 => ?_)
      refine wu_jx (α := Int32) (pcJ := 292) (lJ := fun x => [(0, .ref (rid 0 1)), (1, .int a1), (2, .int x32), (3, .ref (rid 3 r36)), (4, .ref (rid 4 r37)), (5, .int x38)]) (sJ := fun x => [.int x, .int x38, .ref (rid 145 r37)]) (fun K54 hk54 => ?_) (fun z54 => ?_)
      · refine wg_if_eq (pc := 258) (tgt := 265) hX dX1_change_258 (by decide) (fun h55 => ?_) (fun h55 => ?_)
        rotate_left
        · refine wu_f h55 ?_
          refine wg_iconst (pc := 261) (v := 0) hX dX1_change_261 rfl ?_
          refine wg_goto (pc := 262) (tgt := 292) hX dX1_change_262 (by decide) ?_
          refine wg_sub hX [0, 1, 2, 3, 4, 5] rfl ?_
          exact wu_rt (hk54 0)
        refine wu_t h55 ?_
        refine wg_iconst (pc := 265) (v := 0) hX dX1_change_265 rfl ?_
        refine wg_sipush (pc := 266) (v := 1000) hX dX1_change_266 rfl ?_
        refine wg_aload (pc := 269) hX dX1_change_269 4 rfl ?_
        refine wu_ (wg_gC (pc := 271) (v := r37) hX fd_X1_266 (by decide) rfl dX1_change_271 ?_)
        refine wg_iload (pc := 274) hX dX1_change_274 5 rfl ?_
        refine wu_ (wg_rI (pc := 276) hX ar_145 dX1_change_276 fun v56 => ?_)
        refine wg_aload (pc := 277) hX dX1_change_277 4 rfl ?_
        refine wu_ (wg_gC (pc := 279) (v := r37) hX fd_X1_335 (by decide) rfl dX1_change_279 ?_)
        refine wg_iload (pc := 282) hX dX1_change_282 5 rfl ?_
        refine wu_ (wg_rI (pc := 284) hX ar_151 dX1_change_284 fun v57 => ?_)
        refine wg_iadd (pc := 285) hX dX1_change_285 ?_
        refine wg_mmin (pc := 286) hX q1314 q1149 q165 q1150 (Nat.le_of_ble_eq_true rfl) (Nat.le_of_ble_eq_true rfl) dX1_change_286 ?_
        refine wu_ (wg_nmi hX fun v58 => ?_)
        refine wg_mmax (pc := 289) hX q711 q712 q165 q713 (Nat.le_of_ble_eq_true rfl) (Nat.le_of_ble_eq_true rfl) dX1_change_289 ?_
        refine wu_ (wg_nmi hX fun v59 => ?_)
        refine wg_sub hX [0, 1, 2, 3, 4, 5] rfl ?_
        exact wu_rt (hk54 v59)
      refine wu_ (wg_wI (pc := 292) hX ar_145 dX1_change_292 ?_)
      refine wg_aload (pc := 293) hX dX1_change_293 4 rfl ?_
      refine wu_ (wg_gC (pc := 295) (v := r37) hX fd_X1_332 (by decide) rfl dX1_change_295 ?_)
      refine wg_iload (pc := 298) hX dX1_change_298 5 rfl ?_
      refine wg_iconst (pc := 300) (v := 0) hX dX1_change_300 rfl ?_
      refine wu_ (wg_wI (pc := 301) hX ar_147 dX1_change_301 ?_)
      refine wg_iinc (pc := 302) (v := (x38 + 1)) (l' := [(0, .ref (rid 0 1)), (1, .int a1), (2, .int x32), (3, .ref (rid 3 r36)), (4, .ref (rid 4 r37)), (5, .int (x38 + 1))]) hX dX1_change_302 5 rfl rfl (by decide) rfl ?_
      refine wg_goto (pc := 305) (tgt := 162) hX dX1_change_305 (by decide) ?_
      exact hrec38 (x38 + 1)
    refine wg_iinc (pc := 308) (v := (x32 + 1)) (l' := [(0, .ref (rid 0 1)), (1, .int a1), (2, .int (x32 + 1))]) hX dX1_change_308 2 rfl rfl (by decide) rfl ?_
    refine wg_goto (pc := 311) (tgt := 136) hX dX1_change_311 (by decide) ?_
    exact hrec32 (x32 + 1)
  refine wg_iconst (pc := 314) (v := 0) hX dX1_change_314 rfl ?_
  refine wg_istore_n (pc := 315) (l' := [(0, .ref (rid 0 1)), (1, .int a1), (2, .int 0)]) hX dX1_change_315 (by decide) rfl ?_
  refine wu_lpx (α := Int32) (γ := Unit) (pcl := 316) (pcT := 360) (lo := fun x => [(0, .ref (rid 0 1)), (1, .int a1), (2, .int x)]) (so := fun _ => []) (lT := fun x => []) (sT := fun _ => []) (n := amFu) (x0 := 0) (fun K60 rec60 hrec60 hk60 x60 => ?_) (fun y61 => ?_)
  · unfold p_X1_change_L316
    refine wg_iload_n (pc := 316) hX dX1_change_316 2 rfl ?_
    refine wg_aload_n (pc := 317) hX dX1_change_317 0 rfl ?_
    refine wu_ (wg_gI (pc := 318) hX fd_X1_199 dX1_change_318 fun v62 => ?_)
    refine wg_icmp_ge (pc := 321) (tgt := 360) hX dX1_change_321 (by decide) (fun h63 => ?_) (fun h63 => ?_)
    · refine wu_t h63 ?_
      refine wg_sub hX [] rfl ?_
      exact wu_rt (hk60 ())
    refine wu_f h63 ?_
    refine wg_aload_n (pc := 324) hX dX1_change_324 0 rfl ?_
    refine wg_aload_n (pc := 325) hX dX1_change_325 0 rfl ?_
    refine wg_gK (pc := 326) hX hM0 fd_X1_30 (by decide) dX1_change_326 ?_
    refine wg_iload_n (pc := 329) hX dX1_change_329 2 rfl ?_
    refine wu_ (wg_rR (pc := 330) hX ar_24 (by decide) dX1_change_330 fun r64 => ?_)
    refine wg_aload_n (pc := 331) hX dX1_change_331 0 rfl ?_
    refine wg_aload_n (pc := 332) hX dX1_change_332 0 rfl ?_
    refine wg_gK (pc := 333) hX hM0 fd_X1_30 (by decide) dX1_change_333 ?_
    refine wg_iload_n (pc := 336) hX dX1_change_336 2 rfl ?_
    refine wu_ (wg_rR (pc := 337) hX ar_24 (by decide) dX1_change_337 fun r65 => ?_)
    refine wg_iload_n (pc := 338) hX dX1_change_338 1 rfl ?_
    refine wu_ (wg_cVr (pc := 339) (As := [.ref (rid 3 r65), .int a1]) (rest := [.ref (rid 3 r64), .ref (rid 0 1)]) hX (m_X1_blazeOf r65 a1) (by decide) (by decide) (by decide) rc_X1 (lw_V q1548 q1550 qs59 q159 q1551) hd_X1_blazeOf rfl (Nat.le_of_ble_eq_true rfl) (Nat.le_of_ble_eq_true rfl) (Nat.le_of_ble_eq_true rfl) rfl dX1_change_339 fun r66 => ?_)
    refine wg_iload_n (pc := 342) hX dX1_change_342 1 rfl ?_
    refine wu_jx (α := Int32) (pcJ := 351) (lJ := fun x => [(0, .ref (rid 0 1)), (1, .int a1), (2, .int x60)]) (sJ := fun x => [.int x, .ref (rid 4 r66), .ref (rid 3 r64), .ref (rid 0 1)]) (fun K67 hk67 => ?_) (fun z67 => ?_)
    · refine wg_if_ne (pc := 343) (tgt := 350) hX dX1_change_343 (by decide) (fun h68 => ?_) (fun h68 => ?_)
      rotate_left
      · refine wu_f h68 ?_
        refine wg_iconst (pc := 350) (v := 0) hX dX1_change_350 rfl ?_
        exact wu_rt (hk67 0)
      refine wu_t h68 ?_
      refine wg_iconst (pc := 346) (v := 1) hX dX1_change_346 rfl ?_
      refine wg_goto (pc := 347) (tgt := 351) hX dX1_change_347 (by decide) ?_
      exact wu_rt (hk67 1)
    refine wu_ (wg_cVv (pc := 351) (As := [.ref (rid 3 r64), .ref (rid 4 r66), .int z67]) (rest := []) hX (m_X1_fall r64 r66 z67) (by decide) (by decide) (by decide) rc_X1 (lw_V q1564 q1566 qs63 q159 q1567) hd_X1_fall rfl (Nat.le_of_ble_eq_true rfl) (Nat.le_of_ble_eq_true rfl) (Nat.le_of_ble_eq_true rfl) rfl dX1_change_351 ?_)
    refine wg_iinc (pc := 354) (v := (x60 + 1)) (l' := [(0, .ref (rid 0 1)), (1, .int a1), (2, .int (x60 + 1))]) hX dX1_change_354 2 rfl rfl (by decide) rfl ?_
    refine wg_goto (pc := 357) (tgt := 316) hX dX1_change_357 (by decide) ?_
    exact hrec60 (x60 + 1)
  exact wu_rt (wg_vret (pc := 360) hX rfl rfl dX1_change_360)
theorem m_X1_smother  : amMet yX1_smother cX1_smother 5 none 3 75 encV [.ref (rid 0 1)] (up (p_X1_smother)) := by
  refine amMet.of (own := RX1) (by decide) rfl (Nat.le_of_ble_eq_true rfl) fun X hX hPs => ?_
  change WG X encV 0 [(0, .ref (rid 0 1))] [] (bd1 (up (p_X1_smother)) rt1)
  unfold p_X1_smother
  have hM0 := amPs.m0 hPs
  refine wu_ (wg_gM ?_)
  refine wg_iconst (pc := 0) (v := 0) hX dX1_smother_0 rfl ?_
  refine wg_istore_n (pc := 1) (l' := [(0, .ref (rid 0 1)), (1, .int 0)]) hX dX1_smother_1 (by decide) rfl ?_
  refine wu_lpx (α := Int32) (γ := Unit) (pcl := 2) (pcT := 107) (lo := fun x => [(0, .ref (rid 0 1)), (1, .int x)]) (so := fun _ => []) (lT := fun x => []) (sT := fun _ => []) (n := amFu) (x0 := 0) (fun K1 rec1 hrec1 hk1 x1 => ?_) (fun y2 => ?_)
  · unfold p_X1_smother_L2
    refine wg_iload_n (pc := 2) hX dX1_smother_2 1 rfl ?_
    refine wg_aload_n (pc := 3) hX dX1_smother_3 0 rfl ?_
    refine wu_ (wg_gI (pc := 4) hX fd_X1_199 dX1_smother_4 fun v3 => ?_)
    refine wg_icmp_ge (pc := 7) (tgt := 107) hX dX1_smother_7 (by decide) (fun h4 => ?_) (fun h4 => ?_)
    · refine wu_t h4 ?_
      refine wg_sub hX [] rfl ?_
      exact wu_rt (hk1 ())
    refine wu_f h4 ?_
    refine wg_aload_n (pc := 10) hX dX1_smother_10 0 rfl ?_
    refine wg_gK (pc := 11) hX hM0 fd_X1_30 (by decide) dX1_smother_11 ?_
    refine wg_iload_n (pc := 14) hX dX1_smother_14 1 rfl ?_
    refine wu_ (wg_rR (pc := 15) hX ar_24 (by decide) dX1_smother_15 fun r5 => ?_)
    refine wg_astore_n (pc := 16) (l' := [(0, .ref (rid 0 1)), (1, .int x1), (2, .ref (rid 3 r5))]) hX dX1_smother_16 (by decide) rfl ?_
    refine wg_iconst (pc := 17) (v := 0) hX dX1_smother_17 rfl ?_
    refine wg_istore_n (pc := 18) (l' := [(0, .ref (rid 0 1)), (1, .int x1), (2, .ref (rid 3 r5)), (3, .int 0)]) hX dX1_smother_18 (by decide) rfl ?_
    refine wu_lpx (α := Int32) (γ := Unit) (pcl := 19) (pcT := 101) (lo := fun x => [(0, .ref (rid 0 1)), (1, .int x1), (2, .ref (rid 3 r5)), (3, .int x)]) (so := fun _ => []) (lT := fun x => [(0, .ref (rid 0 1)), (1, .int x1)]) (sT := fun _ => []) (n := amFu) (x0 := 0) (fun K6 rec6 hrec6 hk6 x6 => ?_) (fun y7 => ?_)
    · unfold p_X1_smother_L19
      refine wg_iload_n (pc := 19) hX dX1_smother_19 3 rfl ?_
      refine wg_aload_n (pc := 20) hX dX1_smother_20 2 rfl ?_
      refine wu_ (wg_gd fun h8 => ?_)
      refine wu_ (wg_cVi (pc := 21) (As := []) (rest := [.int x6]) hX (m_X5_all r5) (by decide) (by decide) h8 rc_X5 (lw_V q709 q690 q691 q167 q692) hd_X5_all rfl (Nat.le_of_ble_eq_true rfl) (Nat.le_of_ble_eq_true rfl) (Nat.le_of_ble_eq_true rfl) rfl dX1_smother_21 fun v9 => ?_)
      refine wg_icmp_ge (pc := 24) (tgt := 101) hX dX1_smother_24 (by decide) (fun h10 => ?_) (fun h10 => ?_)
      · refine wu_t h10 ?_
        refine wg_sub hX [0, 1] rfl ?_
        exact wu_rt (hk6 ())
      refine wu_f h10 ?_
      refine wg_aload_n (pc := 27) hX dX1_smother_27 2 rfl ?_
      refine wg_iload_n (pc := 28) hX dX1_smother_28 3 rfl ?_
      refine wu_ (wg_gd fun h11 => ?_)
      refine wu_ (wg_cVi (pc := 29) (As := [.int x6]) (rest := []) hX (m_X5_floorOf r5 x6) (by decide) (by decide) h11 rc_X5 (lw_V q710 q698 q699 q167 q700) hd_X5_floorOf rfl (Nat.le_of_ble_eq_true rfl) (Nat.le_of_ble_eq_true rfl) (Nat.le_of_ble_eq_true rfl) rfl dX1_smother_29 fun v12 => ?_)
      refine wg_istore (pc := 32) (l' := [(0, .ref (rid 0 1)), (1, .int x1), (2, .ref (rid 3 r5)), (3, .int x6), (4, .int v12)]) hX dX1_smother_32 (by decide) rfl ?_
      refine wg_aload_n (pc := 34) hX dX1_smother_34 2 rfl ?_
      refine wg_aload_n (pc := 35) hX dX1_smother_35 2 rfl ?_
      refine wu_ (wg_gC (pc := 36) (v := (2 * r5 - 1)) hX fd_X1_235 (by decide) rfl dX1_smother_36 ?_)
      refine wg_iload_n (pc := 39) hX dX1_smother_39 3 rfl ?_
      refine wu_ (wg_gd fun h13 => ?_)
      refine wu_ (wg_cVi (pc := 40) (As := [.ref (rid 4 (2 * r5 - 1)), .int x6]) (rest := []) hX (m_X5_burns r5 (2 * r5 - 1) x6) (by decide) (by decide) h13 rc_X5 (lw_V q718 q694 q695 q167 q696) hd_X5_burns rfl (Nat.le_of_ble_eq_true rfl) (Nat.le_of_ble_eq_true rfl) (Nat.le_of_ble_eq_true rfl) rfl dX1_smother_40 fun v14 => ?_)
      refine wu_jx (α := Unit) (pcJ := 95) (lJ := fun x => [(0, .ref (rid 0 1)), (1, .int x1), (2, .ref (rid 3 r5)), (3, .int x6)]) (sJ := fun x => []) (fun K15 hk15 => ?_) (fun z15 => ?_)
      · refine wg_if_eq (pc := 43) (tgt := 95) hX dX1_smother_43 (by decide) (fun h16 => ?_) (fun h16 => ?_)
        · refine wu_t h16 ?_
          refine wg_sub hX [0, 1, 2, 3] rfl ?_
          exact wu_rt (hk15 ())
        refine wu_f h16 ?_
        refine wg_aload_n (pc := 46) hX dX1_smother_46 2 rfl ?_
        refine wu_ (wg_gC (pc := 47) (v := (2 * r5 - 1)) hX fd_X1_235 (by decide) rfl dX1_smother_47 ?_)
        refine wu_ (wg_gC (pc := 50) (v := (2 * r5 - 1)) hX fd_X1_266 (by decide) rfl dX1_smother_50 ?_)
        refine wg_iload_n (pc := 53) hX dX1_smother_53 3 rfl ?_
        refine wu_ (wg_rI (pc := 54) hX ar_145 dX1_smother_54 fun v17 => ?_)
        refine wg_sipush (pc := 55) (v := 600) hX dX1_smother_55 rfl ?_
        refine wg_icmp_lt (pc := 58) (tgt := 95) hX dX1_smother_58 (by decide) (fun h18 => ?_) (fun h18 => ?_)
        · refine wu_t h18 ?_
          refine wg_sub hX [0, 1, 2, 3] rfl ?_
          exact wu_rt (hk15 ())
        refine wu_f h18 ?_
        refine wg_aload_n (pc := 61) hX dX1_smother_61 2 rfl ?_
        refine wu_ (wg_gC (pc := 62) (v := r5) hX fd_X1_254 (by decide) rfl dX1_smother_62 ?_)
        refine wg_iload (pc := 65) hX dX1_smother_65 4 rfl ?_
        refine wu_ (wg_rI (pc := 67) hX ar_143 dX1_smother_67 fun v19 => ?_)
        refine wg_if_ne (pc := 68) (tgt := 74) hX dX1_smother_68 (by decide) (fun h20 => ?_) (fun h20 => ?_)
        · refine wu_t h20 ?_
          refine wg_goto (pc := 71) (tgt := 95) hX dX1_smother_71 (by decide) ?_
          refine wg_sub hX [0, 1, 2, 3] rfl ?_
          exact wu_rt (hk15 ())
        refine wu_f h20 ?_
        refine wg_aload_n (pc := 74) hX dX1_smother_74 2 rfl ?_
        refine wu_ (wg_gC (pc := 75) (v := r5) hX fd_X1_254 (by decide) rfl dX1_smother_75 ?_)
        refine wg_iload (pc := 78) hX dX1_smother_78 4 rfl ?_
        refine wg_dup2 (pc := 80) hX dX1_smother_80 rfl rfl ?_
        refine wu_ (wg_rI (pc := 81) hX ar_143 dX1_smother_81 fun v21 => ?_)
        refine wg_iconst (pc := 82) (v := 1) hX dX1_smother_82 rfl ?_
        refine wg_isub (pc := 83) hX dX1_smother_83 ?_
        refine wu_ (wg_wI (pc := 84) hX ar_143 dX1_smother_84 ?_)
        refine wg_aload_n (pc := 85) hX dX1_smother_85 2 rfl ?_
        refine wg_dup (pc := 86) hX dX1_smother_86 rfl ?_
        refine wu_ (wg_gI (pc := 87) hX fd_X1_295 dX1_smother_87 fun v22 => ?_)
        refine wg_iconst (pc := 90) (v := 1) hX dX1_smother_90 rfl ?_
        refine wg_iadd (pc := 91) hX dX1_smother_91 ?_
        refine wu_ (wg_pI (pc := 92) hX fp_X1_295 (fun h => by cases h) dX1_smother_92 ?_)
        refine wg_sub hX [0, 1, 2, 3] rfl ?_
        exact wu_rt (hk15 ())
      refine wg_iinc (pc := 95) (v := (x6 + 1)) (l' := [(0, .ref (rid 0 1)), (1, .int x1), (2, .ref (rid 3 r5)), (3, .int (x6 + 1))]) hX dX1_smother_95 3 rfl rfl (by decide) rfl ?_
      refine wg_goto (pc := 98) (tgt := 19) hX dX1_smother_98 (by decide) ?_
      exact hrec6 (x6 + 1)
    refine wg_iinc (pc := 101) (v := (x1 + 1)) (l' := [(0, .ref (rid 0 1)), (1, .int (x1 + 1))]) hX dX1_smother_101 1 rfl rfl (by decide) rfl ?_
    refine wg_goto (pc := 104) (tgt := 2) hX dX1_smother_104 (by decide) ?_
    exact hrec1 (x1 + 1)
  exact wu_rt (wg_vret (pc := 107) hX rfl rfl dX1_smother_107)
theorem m_X1_isWorked (a1 : Int32) : amMet yX1_isWorked cX1_isWorked 3 (some .boolean) 1 32 encI [.ref (rid 0 1), .int a1] (up (p_X1_isWorked a1)) := by
  refine amMet.of (own := RX1) (by decide) rfl (Nat.le_of_ble_eq_true rfl) fun X hX hPs => ?_
  change WG X encI 0 [(0, .ref (rid 0 1)), (1, .int a1)] [] (bd1 (up (p_X1_isWorked a1)) rt1)
  unfold p_X1_isWorked
  have hM0 := amPs.m0 hPs
  refine wu_ (wg_gM ?_)
  refine wg_iconst (pc := 0) (v := 0) hX dX1_isWorked_0 rfl ?_
  refine wg_istore_n (pc := 1) (l' := [(0, .ref (rid 0 1)), (1, .int a1), (2, .int 0)]) hX dX1_isWorked_1 (by decide) rfl ?_
  refine wu_lp (α := Int32) (pcl := 2) (lo := fun x => [(0, .ref (rid 0 1)), (1, .int a1), (2, .int x)]) (so := fun _ => []) (fun rec1 hrec1 x1 => ?_) amFu 0
  unfold p_X1_isWorked_L2
  refine wg_iload_n (pc := 2) hX dX1_isWorked_2 2 rfl ?_
  refine wg_aload_n (pc := 3) hX dX1_isWorked_3 0 rfl ?_
  refine wu_ (wg_gI (pc := 4) hX fd_X1_365 dX1_isWorked_4 fun v2 => ?_)
  refine wg_icmp_ge (pc := 7) (tgt := 47) hX dX1_isWorked_7 (by decide) (fun h3 => ?_) (fun h3 => ?_)
  · refine wu_t h3 ?_
    refine wg_iconst (pc := 47) (v := 0) hX dX1_isWorked_47 rfl ?_
    exact wu_rt (wg_zret (pc := 48) hX rfl (by decide) rfl dX1_isWorked_48)
  refine wu_f h3 ?_
  refine wg_aload_n (pc := 10) hX dX1_isWorked_10 0 rfl ?_
  refine wg_gK (pc := 11) hX hM0 fd_X1_48 (by decide) dX1_isWorked_11 ?_
  refine wg_iload_n (pc := 14) hX dX1_isWorked_14 2 rfl ?_
  refine wu_ (wg_rR (pc := 15) hX ar_28 (by decide) dX1_isWorked_15 fun r4 => ?_)
  refine wu_ (wg_gI (pc := 16) hX fd_X1_389 dX1_isWorked_16 fun v5 => ?_)
  refine wg_iconst (pc := 19) (v := 2) hX dX1_isWorked_19 rfl ?_
  refine wu_jn (α := Unit) (pcJ := 41) (lJ := fun x => [(0, .ref (rid 0 1)), (1, .int a1), (2, .int x1)]) (sJ := fun x => []) (fun k6 hk6 => ?_) (fun z6 => ?_)
  · refine wg_icmp_ne (pc := 20) (tgt := 41) hX dX1_isWorked_20 (by decide) (fun h7 => ?_) (fun h7 => ?_)
    rotate_left
    · refine wu_f h7 ?_
      exact hk6 ()
    refine wu_t h7 ?_
    refine wg_aload_n (pc := 23) hX dX1_isWorked_23 0 rfl ?_
    refine wg_gK (pc := 24) hX hM0 fd_X1_48 (by decide) dX1_isWorked_24 ?_
    refine wg_iload_n (pc := 27) hX dX1_isWorked_27 2 rfl ?_
    refine wu_ (wg_rR (pc := 28) hX ar_28 (by decide) dX1_isWorked_28 fun r8 => ?_)
    refine wu_ (wg_gR (pc := 29) hX fd_X1_401 dX1_isWorked_29 fun r9 => ?_)
    refine wu_ (wg_gI (pc := 32) hX fd_X1_308 dX1_isWorked_32 fun v10 => ?_)
    refine wg_iload_n (pc := 35) hX dX1_isWorked_35 1 rfl ?_
    refine wg_icmp_ne (pc := 36) (tgt := 41) hX dX1_isWorked_36 (by decide) (fun h11 => ?_) (fun h11 => ?_)
    rotate_left
    · refine wu_f h11 ?_
      exact hk6 ()
    refine wu_t h11 ?_
    refine wg_iconst (pc := 39) (v := 1) hX dX1_isWorked_39 rfl ?_
    exact wu_rt (wg_zret (pc := 40) hX rfl (by decide) rfl dX1_isWorked_40)
  refine wg_iinc (pc := 41) (v := (x1 + 1)) (l' := [(0, .ref (rid 0 1)), (1, .int a1), (2, .int (x1 + 1))]) hX dX1_isWorked_41 2 rfl rfl (by decide) rfl ?_
  refine wg_goto (pc := 44) (tgt := 2) hX dX1_isWorked_44 (by decide) ?_
  exact hrec1 (x1 + 1)
theorem m_X1_finish  : amMet yX1_finish cX1_finish 2 none 6 149 encV [.ref (rid 0 1)] (up (p_X1_finish)) := by
  refine amMet.of (own := RX1) (by decide) rfl (Nat.le_of_ble_eq_true rfl) fun X hX hPs => ?_
  change WG X encV 0 [(0, .ref (rid 0 1))] [] (bd1 (up (p_X1_finish)) rt1)
  unfold p_X1_finish
  have hM0 := amPs.m0 hPs
  refine wu_ (wg_gM ?_)
  refine wg_iconst (pc := 0) (v := 0) hX dX1_finish_0 rfl ?_
  refine wg_istore_n (pc := 1) (l' := [(0, .ref (rid 0 1)), (1, .int 0)]) hX dX1_finish_1 (by decide) rfl ?_
  refine wu_lpx (α := Int32) (γ := Unit) (pcl := 2) (pcT := 71) (lo := fun x => [(0, .ref (rid 0 1)), (1, .int x)]) (so := fun _ => []) (lT := fun x => [(0, .ref (rid 0 1))]) (sT := fun _ => []) (n := amFu) (x0 := 0) (fun K1 rec1 hrec1 hk1 x1 => ?_) (fun y2 => ?_)
  · unfold p_X1_finish_L2
    refine wg_iload_n (pc := 2) hX dX1_finish_2 1 rfl ?_
    refine wg_aload_n (pc := 3) hX dX1_finish_3 0 rfl ?_
    refine wu_ (wg_gI (pc := 4) hX fd_X1_587 dX1_finish_4 fun v3 => ?_)
    refine wg_icmp_ge (pc := 7) (tgt := 71) hX dX1_finish_7 (by decide) (fun h4 => ?_) (fun h4 => ?_)
    · refine wu_t h4 ?_
      refine wg_sub hX [0] rfl ?_
      exact wu_rt (hk1 ())
    refine wu_f h4 ?_
    refine wg_aload_n (pc := 10) hX dX1_finish_10 0 rfl ?_
    refine wg_gK (pc := 11) hX hM0 fd_X1_74 (by decide) dX1_finish_11 ?_
    refine wg_iload_n (pc := 14) hX dX1_finish_14 1 rfl ?_
    refine wu_ (wg_rR (pc := 15) hX ar_32 (by decide) dX1_finish_15 fun r5 => ?_)
    refine wu_ (wg_gI (pc := 16) hX fd_X1_591 dX1_finish_16 fun v6 => ?_)
    refine wu_jx (α := Unit) (pcJ := 65) (lJ := fun x => [(0, .ref (rid 0 1)), (1, .int x1)]) (sJ := fun x => []) (fun K7 hk7 => ?_) (fun z7 => ?_)
    · refine wg_if_ne (pc := 19) (tgt := 65) hX dX1_finish_19 (by decide) (fun h8 => ?_) (fun h8 => ?_)
      rotate_left
      · refine wu_f h8 ?_
        exact wu_rt (hk7 ())
      refine wu_t h8 ?_
      refine wg_aload_n (pc := 22) hX dX1_finish_22 0 rfl ?_
      refine wg_aload_n (pc := 23) hX dX1_finish_23 0 rfl ?_
      refine wg_gK (pc := 24) hX hM0 fd_X1_74 (by decide) dX1_finish_24 ?_
      refine wg_iload_n (pc := 27) hX dX1_finish_27 1 rfl ?_
      refine wu_ (wg_rR (pc := 28) hX ar_32 (by decide) dX1_finish_28 fun r9 => ?_)
      refine wu_ (wg_gI (pc := 29) hX fd_X1_590 dX1_finish_29 fun v10 => ?_)
      refine wu_ (wg_cVi (pc := 32) (As := [.int v10]) (rest := []) hX (m_X1_isWorked v10) (by decide) (by decide) (by decide) rc_X1 (lw_V q1580 q1582 qs67 q159 q1583) hd_X1_isWorked rfl (Nat.le_of_ble_eq_true rfl) (Nat.le_of_ble_eq_true rfl) (Nat.le_of_ble_eq_true rfl) rfl dX1_finish_32 fun v11 => ?_)
      refine wg_if_eq (pc := 35) (tgt := 65) hX dX1_finish_35 (by decide) (fun h12 => ?_) (fun h12 => ?_)
      · refine wu_t h12 ?_
        exact wu_rt (hk7 ())
      refine wu_f h12 ?_
      refine wg_aload_n (pc := 38) hX dX1_finish_38 0 rfl ?_
      refine wg_aload_n (pc := 39) hX dX1_finish_39 0 rfl ?_
      refine wg_gK (pc := 40) hX hM0 fd_X1_74 (by decide) dX1_finish_40 ?_
      refine wg_iload_n (pc := 43) hX dX1_finish_43 1 rfl ?_
      refine wu_ (wg_rR (pc := 44) hX ar_32 (by decide) dX1_finish_44 fun r13 => ?_)
      refine wu_ (wg_gI (pc := 45) hX fd_X1_590 dX1_finish_45 fun v14 => ?_)
      refine wu_ (wg_cVr (pc := 48) (As := [.int v14]) (rest := []) hX (m_X1_worst v14) (by decide) (by decide) (by decide) rc_X1 (lw_V q681 q683 qs10 q159 q684) hd_X1_worst rfl (Nat.le_of_ble_eq_true rfl) (Nat.le_of_ble_eq_true rfl) (Nat.le_of_ble_eq_true rfl) rfl dX1_finish_48 fun r15 => ?_)
      refine wg_ifnonnull (pc := 51) (tgt := 65) hX (by decide) dX1_finish_51 (by decide) (fun h16 => ?_) (fun h16 => ?_)
      rotate_left
      · refine wu_f h16 ?_
        exact wu_rt (hk7 ())
      refine wu_t h16 ?_
      refine wg_aload_n (pc := 54) hX dX1_finish_54 0 rfl ?_
      refine wg_aload_n (pc := 55) hX dX1_finish_55 0 rfl ?_
      refine wg_gK (pc := 56) hX hM0 fd_X1_74 (by decide) dX1_finish_56 ?_
      refine wg_iload_n (pc := 59) hX dX1_finish_59 1 rfl ?_
      refine wu_ (wg_rR (pc := 60) hX ar_32 (by decide) dX1_finish_60 fun r17 => ?_)
      refine wg_iconst (pc := 61) (v := 1) hX dX1_finish_61 rfl ?_
      refine wu_ (wg_cVv (pc := 62) (As := [.ref (rid 7 r17), .int 1]) (rest := []) hX (m_X1_close r17 1) (by decide) (by decide) (by decide) rc_X1 (lw_V q1493 q1495 qs50 q159 q1496) hd_X1_close rfl (Nat.le_of_ble_eq_true rfl) (Nat.le_of_ble_eq_true rfl) (Nat.le_of_ble_eq_true rfl) rfl dX1_finish_62 ?_)
      exact wu_rt (hk7 ())
    refine wg_iinc (pc := 65) (v := (x1 + 1)) (l' := [(0, .ref (rid 0 1)), (1, .int (x1 + 1))]) hX dX1_finish_65 1 rfl rfl (by decide) rfl ?_
    refine wg_goto (pc := 68) (tgt := 2) hX dX1_finish_68 (by decide) ?_
    exact hrec1 (x1 + 1)
  refine wg_iconst (pc := 71) (v := 0) hX dX1_finish_71 rfl ?_
  refine wg_istore_n (pc := 72) (l' := [(0, .ref (rid 0 1)), (1, .int 0)]) hX dX1_finish_72 (by decide) rfl ?_
  refine wu_lpx (α := Int32) (γ := Unit) (pcl := 73) (pcT := 129) (lo := fun x => [(0, .ref (rid 0 1)), (1, .int x)]) (so := fun _ => []) (lT := fun x => []) (sT := fun _ => []) (n := amFu) (x0 := 0) (fun K18 rec18 hrec18 hk18 x18 => ?_) (fun y19 => ?_)
  · unfold p_X1_finish_L73
    refine wg_iload_n (pc := 73) hX dX1_finish_73 1 rfl ?_
    refine wg_aload_n (pc := 74) hX dX1_finish_74 0 rfl ?_
    refine wu_ (wg_gI (pc := 75) hX fd_X1_365 dX1_finish_75 fun v20 => ?_)
    refine wg_icmp_ge (pc := 78) (tgt := 129) hX dX1_finish_78 (by decide) (fun h21 => ?_) (fun h21 => ?_)
    · refine wu_t h21 ?_
      refine wg_sub hX [] rfl ?_
      exact wu_rt (hk18 ())
    refine wu_f h21 ?_
    refine wg_aload_n (pc := 81) hX dX1_finish_81 0 rfl ?_
    refine wg_gK (pc := 82) hX hM0 fd_X1_48 (by decide) dX1_finish_82 ?_
    refine wg_iload_n (pc := 85) hX dX1_finish_85 1 rfl ?_
    refine wu_ (wg_rR (pc := 86) hX ar_28 (by decide) dX1_finish_86 fun r22 => ?_)
    refine wu_ (wg_gI (pc := 87) hX fd_X1_389 dX1_finish_87 fun v23 => ?_)
    refine wg_iconst (pc := 90) (v := 2) hX dX1_finish_90 rfl ?_
    refine wu_jx (α := Unit) (pcJ := 123) (lJ := fun x => [(0, .ref (rid 0 1)), (1, .int x18)]) (sJ := fun x => []) (fun K24 hk24 => ?_) (fun z24 => ?_)
    · refine wg_icmp_ne (pc := 91) (tgt := 123) hX dX1_finish_91 (by decide) (fun h25 => ?_) (fun h25 => ?_)
      rotate_left
      · refine wu_f h25 ?_
        exact wu_rt (hk24 ())
      refine wu_t h25 ?_
      refine wg_aload_n (pc := 94) hX dX1_finish_94 0 rfl ?_
      refine wg_aload_n (pc := 95) hX dX1_finish_95 0 rfl ?_
      refine wg_gK (pc := 96) hX hM0 fd_X1_48 (by decide) dX1_finish_96 ?_
      refine wg_iload_n (pc := 99) hX dX1_finish_99 1 rfl ?_
      refine wu_ (wg_rR (pc := 100) hX ar_28 (by decide) dX1_finish_100 fun r26 => ?_)
      refine wu_ (wg_gR (pc := 101) hX fd_X1_401 dX1_finish_101 fun r27 => ?_)
      refine wu_ (wg_gI (pc := 104) hX fd_X1_308 dX1_finish_104 fun v28 => ?_)
      refine wu_ (wg_cVr (pc := 107) (As := [.int v28]) (rest := []) hX (m_X1_worst v28) (by decide) (by decide) (by decide) rc_X1 (lw_V q681 q683 qs10 q159 q684) hd_X1_worst rfl (Nat.le_of_ble_eq_true rfl) (Nat.le_of_ble_eq_true rfl) (Nat.le_of_ble_eq_true rfl) rfl dX1_finish_107 fun r29 => ?_)
      refine wg_ifnonnull (pc := 110) (tgt := 123) hX (by decide) dX1_finish_110 (by decide) (fun h30 => ?_) (fun h30 => ?_)
      rotate_left
      · refine wu_f h30 ?_
        exact wu_rt (hk24 ())
      refine wu_t h30 ?_
      refine wg_aload_n (pc := 113) hX dX1_finish_113 0 rfl ?_
      refine wg_aload_n (pc := 114) hX dX1_finish_114 0 rfl ?_
      refine wg_gK (pc := 115) hX hM0 fd_X1_48 (by decide) dX1_finish_115 ?_
      refine wg_iload_n (pc := 118) hX dX1_finish_118 1 rfl ?_
      refine wu_ (wg_rR (pc := 119) hX ar_28 (by decide) dX1_finish_119 fun r31 => ?_)
      refine wu_ (wg_cVv (pc := 120) (As := [.ref (rid 6 r31)]) (rest := []) hX (m_X1_turnHome r31) (by decide) (by decide) (by decide) rc_X1 (lw_V q966 q968 qs18 q159 q969) hd_X1_turnHome rfl (Nat.le_of_ble_eq_true rfl) (Nat.le_of_ble_eq_true rfl) (Nat.le_of_ble_eq_true rfl) rfl dX1_finish_120 ?_)
      exact wu_rt (hk24 ())
    refine wg_iinc (pc := 123) (v := (x18 + 1)) (l' := [(0, .ref (rid 0 1)), (1, .int (x18 + 1))]) hX dX1_finish_123 1 rfl rfl (by decide) rfl ?_
    refine wg_goto (pc := 126) (tgt := 73) hX dX1_finish_126 (by decide) ?_
    exact hrec18 (x18 + 1)
  exact wu_rt (wg_vret (pc := 129) hX rfl rfl dX1_finish_129)
theorem m_X29_more (r0 : Nat) (a1 : Int32) : amMet yX29_more cX29_more 2 (some .int) 1 32 encI [.ref (rid 6 r0), .int a1] (up (p_X29_more r0 a1)) := by
  refine amMet.of (own := RX29) (by decide) rfl (Nat.le_of_ble_eq_true rfl) fun X hX hPs => ?_
  change WG X encI 0 [(0, .ref (rid 6 r0)), (1, .int a1)] [] (bd1 (up (p_X29_more r0 a1)) rt1)
  unfold p_X29_more
  refine wg_iload_n (pc := 0) hX dX29_more_0 1 rfl ?_
  refine wg_if_ne (pc := 1) (tgt := 8) hX dX29_more_1 (by decide) (fun h1 => ?_) (fun h1 => ?_)
  · refine wu_t h1 ?_
    refine wg_iconst (pc := 4) (v := (-1)) hX dX29_more_4 rfl ?_
    refine wg_goto (pc := 5) (tgt := 18) hX dX29_more_5 (by decide) ?_
    exact wu_rt (wg_iret (pc := 18) hX rfl rfl dX29_more_18)
  refine wu_f h1 ?_
  refine wg_iload_n (pc := 8) hX dX29_more_8 1 rfl ?_
  refine wg_iconst (pc := 9) (v := 2) hX dX29_more_9 rfl ?_
  refine wg_icmp_ne (pc := 10) (tgt := 17) hX dX29_more_10 (by decide) (fun h2 => ?_) (fun h2 => ?_)
  rotate_left
  · refine wu_f h2 ?_
    refine wg_iconst (pc := 17) (v := 1) hX dX29_more_17 rfl ?_
    exact wu_rt (wg_iret (pc := 18) hX rfl rfl dX29_more_18)
  refine wu_t h2 ?_
  refine wg_iconst (pc := 13) (v := 2) hX dX29_more_13 rfl ?_
  refine wg_goto (pc := 14) (tgt := 18) hX dX29_more_14 (by decide) ?_
  exact wu_rt (wg_iret (pc := 18) hX rfl rfl dX29_more_18)
theorem m_X8_tire (r0 : Nat) : amMet yX8_tire cX8_tire 1 none 2 64 encV [.ref (rid 6 r0)] (up (p_X8_tire r0)) := by
  refine amMet.of (own := RX8) (by decide) rfl (Nat.le_of_ble_eq_true rfl) fun X hX hPs => ?_
  change WG X encV 0 [(0, .ref (rid 6 r0))] [] (bd1 (up (p_X8_tire r0)) rt1)
  unfold p_X8_tire
  refine wg_aload_n (pc := 0) hX dX8_tire_0 0 rfl ?_
  refine wg_aload_n (pc := 1) hX dX8_tire_1 0 rfl ?_
  refine wu_ (wg_gI (pc := 2) hX fd_X8_9 dX8_tire_2 fun v1 => ?_)
  refine wg_iconst (pc := 5) (v := 4) hX dX8_tire_5 rfl ?_
  refine wu_jx (α := Int32) (pcJ := 36) (lJ := fun x => []) (sJ := fun x => [.int x, .ref (rid 6 r0)]) (fun K2 hk2 => ?_) (fun z2 => ?_)
  · refine wg_icmp_ne (pc := 6) (tgt := 13) hX dX8_tire_6 (by decide) (fun h3 => ?_) (fun h3 => ?_)
    · refine wu_t h3 ?_
      refine wg_iconst (pc := 9) (v := 0) hX dX8_tire_9 rfl ?_
      refine wg_goto (pc := 10) (tgt := 36) hX dX8_tire_10 (by decide) ?_
      refine wg_sub hX [] rfl ?_
      exact wu_rt (hk2 0)
    refine wu_f h3 ?_
    refine wg_iconst (pc := 13) (v := 0) hX dX8_tire_13 rfl ?_
    refine wg_sipush (pc := 14) (v := 300) hX dX8_tire_14 rfl ?_
    refine wg_aload_n (pc := 17) hX dX8_tire_17 0 rfl ?_
    refine wu_ (wg_gI (pc := 18) hX fd_X8_52 dX8_tire_18 fun v4 => ?_)
    refine wg_aload_n (pc := 21) hX dX8_tire_21 0 rfl ?_
    refine wg_aload_n (pc := 22) hX dX8_tire_22 0 rfl ?_
    refine wu_ (wg_gI (pc := 23) hX fd_X8_9 dX8_tire_23 fun v5 => ?_)
    refine wu_ (wg_gd fun h6 => ?_)
    refine wu_ (wg_cD (pc := 26) (n := 1) (As := [.int v5]) (rest := [.int v4, .int 300, .int 0, .ref (rid 6 r0)]) hX (m_X29_more r0 v5) (by decide) (by decide) h6 rcD_6 q1597 q2846 q1599 q1592 (by decide +kernel) rfl (Nat.le_of_ble_eq_true rfl) (Nat.le_of_ble_eq_true rfl) (Nat.le_of_ble_eq_true rfl) rfl dX8_tire_26 fun v7 => ?_)
    refine wg_iadd (pc := 29) hX dX8_tire_29 ?_
    refine wg_mmin (pc := 30) hX q1600 q1149 q165 q1150 (Nat.le_of_ble_eq_true rfl) (Nat.le_of_ble_eq_true rfl) dX8_tire_30 ?_
    refine wu_ (wg_nmi hX fun v8 => ?_)
    refine wg_mmax (pc := 33) hX q1601 q712 q165 q713 (Nat.le_of_ble_eq_true rfl) (Nat.le_of_ble_eq_true rfl) dX8_tire_33 ?_
    refine wu_ (wg_nmi hX fun v9 => ?_)
    refine wg_sub hX [] rfl ?_
    exact wu_rt (hk2 v9)
  refine wu_ (wg_pI (pc := 36) hX fp_X8_52 (fun h => by cases h) dX8_tire_36 ?_)
  exact wu_rt (wg_vret (pc := 39) hX rfl rfl dX8_tire_39)
theorem m_X1_minute  : amMet yX1_minute cX1_minute 2 none 519 12472 encV [.ref (rid 0 1)] (up (p_X1_minute)) := by
  refine amMet.of (own := RX1) (by decide) rfl (Nat.le_of_ble_eq_true rfl) fun X hX hPs => ?_
  change WG X encV 0 [(0, .ref (rid 0 1))] [] (bd1 (up (p_X1_minute)) rt1)
  unfold p_X1_minute
  have hM0 := amPs.m0 hPs
  refine wu_ (wg_gM ?_)
  refine wg_aload_n (pc := 0) hX dX1_minute_0 0 rfl ?_
  refine wg_dup (pc := 1) hX dX1_minute_1 rfl ?_
  refine wu_ (wg_gI (pc := 2) hX fd_X1_415 dX1_minute_2 fun v1 => ?_)
  refine wg_iconst (pc := 5) (v := 1) hX dX1_minute_5 rfl ?_
  refine wg_iadd (pc := 6) hX dX1_minute_6 ?_
  refine wu_ (wg_pI (pc := 7) hX fp_X1_415 (fun h => by cases h) dX1_minute_7 ?_)
  refine wg_iconst (pc := 10) (v := 0) hX dX1_minute_10 rfl ?_
  refine wg_istore_n (pc := 11) (l' := [(0, .ref (rid 0 1)), (1, .int 0)]) hX dX1_minute_11 (by decide) rfl ?_
  refine wu_lpx (α := Int32) (γ := Unit) (pcl := 12) (pcT := 36) (lo := fun x => [(0, .ref (rid 0 1)), (1, .int x)]) (so := fun _ => []) (lT := fun x => [(0, .ref (rid 0 1))]) (sT := fun _ => []) (n := amFu) (x0 := 0) (fun K2 rec2 hrec2 hk2 x2 => ?_) (fun y3 => ?_)
  · unfold p_X1_minute_L12
    refine wg_iload_n (pc := 12) hX dX1_minute_12 1 rfl ?_
    refine wg_aload_n (pc := 13) hX dX1_minute_13 0 rfl ?_
    refine wu_ (wg_gI (pc := 14) hX fd_X1_365 dX1_minute_14 fun v4 => ?_)
    refine wg_icmp_ge (pc := 17) (tgt := 36) hX dX1_minute_17 (by decide) (fun h5 => ?_) (fun h5 => ?_)
    · refine wu_t h5 ?_
      refine wg_sub hX [0] rfl ?_
      exact wu_rt (hk2 ())
    refine wu_f h5 ?_
    refine wg_aload_n (pc := 20) hX dX1_minute_20 0 rfl ?_
    refine wg_aload_n (pc := 21) hX dX1_minute_21 0 rfl ?_
    refine wg_gK (pc := 22) hX hM0 fd_X1_48 (by decide) dX1_minute_22 ?_
    refine wg_iload_n (pc := 25) hX dX1_minute_25 1 rfl ?_
    refine wu_ (wg_rR (pc := 26) hX ar_28 (by decide) dX1_minute_26 fun r6 => ?_)
    refine wu_ (wg_cVv (pc := 27) (As := [.ref (rid 6 r6)]) (rest := []) hX (m_X1_arrive r6) (by decide) (by decide) (by decide) rc_X1 (lw_V q1489 q1491 qs49 q159 q1492) hd_X1_arrive rfl (Nat.le_of_ble_eq_true rfl) (Nat.le_of_ble_eq_true rfl) (Nat.le_of_ble_eq_true rfl) rfl dX1_minute_27 ?_)
    refine wg_iinc (pc := 30) (v := (x2 + 1)) (l' := [(0, .ref (rid 0 1)), (1, .int (x2 + 1))]) hX dX1_minute_30 1 rfl rfl (by decide) rfl ?_
    refine wg_goto (pc := 33) (tgt := 12) hX dX1_minute_33 (by decide) ?_
    exact hrec2 (x2 + 1)
  refine wg_iconst (pc := 36) (v := 0) hX dX1_minute_36 rfl ?_
  refine wg_istore_n (pc := 37) (l' := [(0, .ref (rid 0 1)), (1, .int 0)]) hX dX1_minute_37 (by decide) rfl ?_
  refine wu_lpx (α := Int32) (γ := Unit) (pcl := 38) (pcT := 62) (lo := fun x => [(0, .ref (rid 0 1)), (1, .int x)]) (so := fun _ => []) (lT := fun x => [(0, .ref (rid 0 1))]) (sT := fun _ => []) (n := amFu) (x0 := 0) (fun K7 rec7 hrec7 hk7 x7 => ?_) (fun y8 => ?_)
  · unfold p_X1_minute_L38
    refine wg_iload_n (pc := 38) hX dX1_minute_38 1 rfl ?_
    refine wg_aload_n (pc := 39) hX dX1_minute_39 0 rfl ?_
    refine wu_ (wg_gI (pc := 40) hX fd_X1_365 dX1_minute_40 fun v9 => ?_)
    refine wg_icmp_ge (pc := 43) (tgt := 62) hX dX1_minute_43 (by decide) (fun h10 => ?_) (fun h10 => ?_)
    · refine wu_t h10 ?_
      refine wg_sub hX [0] rfl ?_
      exact wu_rt (hk7 ())
    refine wu_f h10 ?_
    refine wg_aload_n (pc := 46) hX dX1_minute_46 0 rfl ?_
    refine wg_aload_n (pc := 47) hX dX1_minute_47 0 rfl ?_
    refine wg_gK (pc := 48) hX hM0 fd_X1_48 (by decide) dX1_minute_48 ?_
    refine wg_iload_n (pc := 51) hX dX1_minute_51 1 rfl ?_
    refine wu_ (wg_rR (pc := 52) hX ar_28 (by decide) dX1_minute_52 fun r11 => ?_)
    refine wu_ (wg_cVv (pc := 53) (As := [.ref (rid 6 r11)]) (rest := []) hX (m_X1_goOver r11) (by decide) (by decide) (by decide) rc_X1 (lw_V q1497 q1499 qs51 q159 q1500) hd_X1_goOver rfl (Nat.le_of_ble_eq_true rfl) (Nat.le_of_ble_eq_true rfl) (Nat.le_of_ble_eq_true rfl) rfl dX1_minute_53 ?_)
    refine wg_iinc (pc := 56) (v := (x7 + 1)) (l' := [(0, .ref (rid 0 1)), (1, .int (x7 + 1))]) hX dX1_minute_56 1 rfl rfl (by decide) rfl ?_
    refine wg_goto (pc := 59) (tgt := 38) hX dX1_minute_59 (by decide) ?_
    exact hrec7 (x7 + 1)
  refine wg_iconst (pc := 62) (v := 0) hX dX1_minute_62 rfl ?_
  refine wg_istore_n (pc := 63) (l' := [(0, .ref (rid 0 1)), (1, .int 0)]) hX dX1_minute_63 (by decide) rfl ?_
  refine wu_lpx (α := Int32) (γ := Unit) (pcl := 64) (pcT := 85) (lo := fun x => [(0, .ref (rid 0 1)), (1, .int x)]) (so := fun _ => []) (lT := fun x => [(0, .ref (rid 0 1))]) (sT := fun _ => []) (n := amFu) (x0 := 0) (fun K12 rec12 hrec12 hk12 x12 => ?_) (fun y13 => ?_)
  · unfold p_X1_minute_L64
    refine wg_iload_n (pc := 64) hX dX1_minute_64 1 rfl ?_
    refine wg_aload_n (pc := 65) hX dX1_minute_65 0 rfl ?_
    refine wu_ (wg_gI (pc := 66) hX fd_X1_356 dX1_minute_66 fun v14 => ?_)
    refine wg_icmp_ge (pc := 69) (tgt := 85) hX dX1_minute_69 (by decide) (fun h15 => ?_) (fun h15 => ?_)
    · refine wu_t h15 ?_
      refine wg_sub hX [0] rfl ?_
      exact wu_rt (hk12 ())
    refine wu_f h15 ?_
    refine wg_aload_n (pc := 72) hX dX1_minute_72 0 rfl ?_
    refine wg_gK (pc := 73) hX hM0 fd_X1_37 (by decide) dX1_minute_73 ?_
    refine wg_iload_n (pc := 76) hX dX1_minute_76 1 rfl ?_
    refine wg_iconst (pc := 77) (v := 0) hX dX1_minute_77 rfl ?_
    refine wu_ (wg_wI (pc := 78) hX ar_26 dX1_minute_78 ?_)
    refine wg_iinc (pc := 79) (v := (x12 + 1)) (l' := [(0, .ref (rid 0 1)), (1, .int (x12 + 1))]) hX dX1_minute_79 1 rfl rfl (by decide) rfl ?_
    refine wg_goto (pc := 82) (tgt := 64) hX dX1_minute_82 (by decide) ?_
    exact hrec12 (x12 + 1)
  refine wg_iconst (pc := 85) (v := 0) hX dX1_minute_85 rfl ?_
  refine wg_istore_n (pc := 86) (l' := [(0, .ref (rid 0 1)), (1, .int 0)]) hX dX1_minute_86 (by decide) rfl ?_
  refine wu_lpx (α := Int32) (γ := Unit) (pcl := 87) (pcT := 111) (lo := fun x => [(0, .ref (rid 0 1)), (1, .int x)]) (so := fun _ => []) (lT := fun x => [(0, .ref (rid 0 1))]) (sT := fun _ => []) (n := amFu) (x0 := 0) (fun K16 rec16 hrec16 hk16 x16 => ?_) (fun y17 => ?_)
  · unfold p_X1_minute_L87
    refine wg_iload_n (pc := 87) hX dX1_minute_87 1 rfl ?_
    refine wg_aload_n (pc := 88) hX dX1_minute_88 0 rfl ?_
    refine wu_ (wg_gI (pc := 89) hX fd_X1_365 dX1_minute_89 fun v18 => ?_)
    refine wg_icmp_ge (pc := 92) (tgt := 111) hX dX1_minute_92 (by decide) (fun h19 => ?_) (fun h19 => ?_)
    · refine wu_t h19 ?_
      refine wg_sub hX [0] rfl ?_
      exact wu_rt (hk16 ())
    refine wu_f h19 ?_
    refine wg_aload_n (pc := 95) hX dX1_minute_95 0 rfl ?_
    refine wg_aload_n (pc := 96) hX dX1_minute_96 0 rfl ?_
    refine wg_gK (pc := 97) hX hM0 fd_X1_48 (by decide) dX1_minute_97 ?_
    refine wg_iload_n (pc := 100) hX dX1_minute_100 1 rfl ?_
    refine wu_ (wg_rR (pc := 101) hX ar_28 (by decide) dX1_minute_101 fun r20 => ?_)
    refine wu_ (wg_cVv (pc := 102) (As := [.ref (rid 6 r20)]) (rest := []) hX (m_X1_work r20) (by decide) (by decide) (by decide) rc_X1 (lw_V q1501 q1503 qs52 q159 q1504) hd_X1_work rfl (Nat.le_of_ble_eq_true rfl) (Nat.le_of_ble_eq_true rfl) (Nat.le_of_ble_eq_true rfl) rfl dX1_minute_102 ?_)
    refine wg_iinc (pc := 105) (v := (x16 + 1)) (l' := [(0, .ref (rid 0 1)), (1, .int (x16 + 1))]) hX dX1_minute_105 1 rfl rfl (by decide) rfl ?_
    refine wg_goto (pc := 108) (tgt := 87) hX dX1_minute_108 (by decide) ?_
    exact hrec16 (x16 + 1)
  refine wg_aload_n (pc := 111) hX dX1_minute_111 0 rfl ?_
  refine wu_ (wg_cVv (pc := 112) (As := []) (rest := []) hX (m_X1_share) (by decide) (by decide) (by decide) rc_X1 (lw_V q1540 q1542 qs57 q159 q1543) hd_X1_share rfl (Nat.le_of_ble_eq_true rfl) (Nat.le_of_ble_eq_true rfl) (Nat.le_of_ble_eq_true rfl) rfl dX1_minute_112 ?_)
  refine wg_aload_n (pc := 115) hX dX1_minute_115 0 rfl ?_
  refine wg_iconst (pc := 116) (v := 0) hX dX1_minute_116 rfl ?_
  refine wu_ (wg_cVv (pc := 117) (As := [.int 0]) (rest := []) hX (m_X1_change 0) (by decide) (by decide) (by decide) rc_X1 (lw_V q1544 q1546 qs58 q159 q1547) hd_X1_change rfl (Nat.le_of_ble_eq_true rfl) (Nat.le_of_ble_eq_true rfl) (Nat.le_of_ble_eq_true rfl) rfl dX1_minute_117 ?_)
  refine wg_aload_n (pc := 120) hX dX1_minute_120 0 rfl ?_
  refine wu_ (wg_cVv (pc := 121) (As := []) (rest := []) hX (m_X1_smother) (by decide) (by decide) (by decide) rc_X1 (lw_V q1572 q1574 qs65 q159 q1575) hd_X1_smother rfl (Nat.le_of_ble_eq_true rfl) (Nat.le_of_ble_eq_true rfl) (Nat.le_of_ble_eq_true rfl) rfl dX1_minute_121 ?_)
  refine wg_aload_n (pc := 124) hX dX1_minute_124 0 rfl ?_
  refine wu_ (wg_cVv (pc := 125) (As := []) (rest := []) hX (m_X1_notice) (by decide) (by decide) (by decide) rc_X1 (lw_V q677 q679 qs9 q159 q680) hd_X1_notice rfl (Nat.le_of_ble_eq_true rfl) (Nat.le_of_ble_eq_true rfl) (Nat.le_of_ble_eq_true rfl) rfl dX1_minute_125 ?_)
  refine wg_aload_n (pc := 128) hX dX1_minute_128 0 rfl ?_
  refine wu_ (wg_cVv (pc := 129) (As := []) (rest := []) hX (m_X1_finish) (by decide) (by decide) (by decide) rc_X1 (lw_V q1576 q1578 qs66 q159 q1579) hd_X1_finish rfl (Nat.le_of_ble_eq_true rfl) (Nat.le_of_ble_eq_true rfl) (Nat.le_of_ble_eq_true rfl) rfl dX1_minute_129 ?_)
  refine wg_iconst (pc := 132) (v := 0) hX dX1_minute_132 rfl ?_
  refine wg_istore_n (pc := 133) (l' := [(0, .ref (rid 0 1)), (1, .int 0)]) hX dX1_minute_133 (by decide) rfl ?_
  refine wu_lpx (α := Int32) (γ := Unit) (pcl := 134) (pcT := 157) (lo := fun x => [(0, .ref (rid 0 1)), (1, .int x)]) (so := fun _ => []) (lT := fun x => []) (sT := fun _ => []) (n := amFu) (x0 := 0) (fun K21 rec21 hrec21 hk21 x21 => ?_) (fun y22 => ?_)
  · unfold p_X1_minute_L134
    refine wg_iload_n (pc := 134) hX dX1_minute_134 1 rfl ?_
    refine wg_aload_n (pc := 135) hX dX1_minute_135 0 rfl ?_
    refine wu_ (wg_gI (pc := 136) hX fd_X1_365 dX1_minute_136 fun v23 => ?_)
    refine wg_icmp_ge (pc := 139) (tgt := 157) hX dX1_minute_139 (by decide) (fun h24 => ?_) (fun h24 => ?_)
    · refine wu_t h24 ?_
      refine wg_sub hX [] rfl ?_
      exact wu_rt (hk21 ())
    refine wu_f h24 ?_
    refine wg_aload_n (pc := 142) hX dX1_minute_142 0 rfl ?_
    refine wg_gK (pc := 143) hX hM0 fd_X1_48 (by decide) dX1_minute_143 ?_
    refine wg_iload_n (pc := 146) hX dX1_minute_146 1 rfl ?_
    refine wu_ (wg_rR (pc := 147) hX ar_28 (by decide) dX1_minute_147 fun r25 => ?_)
    refine wu_ (wg_vcvu (pc := 148) (x := ⟨"CityBrigade$Crew", "tire", "()V"⟩) (n := 0) (f := fun c => if c = 6 then p_X8_tire r25 else if c = 7 then p_X8_tire r25 else if c = 8 then p_X8_tire r25 else if c = 9 then p_X8_tire r25 else fl0) (As := []) (rest := []) hX (by decide) (by decide) (fun c hc => by
          rcases am_mem4 hc with rfl | rfl | rfl | rfl
          · exact Or.inr ⟨RX9, TX9, 18, yX8_tire, cX8_tire, 1, none, _, _, rfl, ⟨"CityBrigade$Crew", lw_U q1584 q1586 q1589 q1585 q170 q1591, by decide +kernel, Or.inl rfl⟩, m_X8_tire r25, (Nat.le_of_ble_eq_true rfl), (Nat.le_of_ble_eq_true rfl)⟩
          · exact Or.inr ⟨RX10, TX10, 19, yX8_tire, cX8_tire, 1, none, _, _, rfl, ⟨"CityBrigade$Crew", lw_U q1584 q1586 q1590 q1585 q170 q1591, by decide +kernel, Or.inl rfl⟩, m_X8_tire r25, (Nat.le_of_ble_eq_true rfl), (Nat.le_of_ble_eq_true rfl)⟩
          · exact Or.inr ⟨RX11, TX11, 17, yX8_tire, cX8_tire, 1, none, _, _, rfl, ⟨"CityBrigade$Crew", lw_U q1584 q1586 q1588 q1585 q170 q1591, by decide +kernel, Or.inl rfl⟩, m_X8_tire r25, (Nat.le_of_ble_eq_true rfl), (Nat.le_of_ble_eq_true rfl)⟩
          · exact Or.inr ⟨RX12, TX12, 16, yX8_tire, cX8_tire, 1, none, _, _, rfl, ⟨"CityBrigade$Crew", lw_U q1584 q1586 q1587 q1585 q170 q1591, by decide +kernel, Or.inl rfl⟩, m_X8_tire r25, (Nat.le_of_ble_eq_true rfl), (Nat.le_of_ble_eq_true rfl)⟩) rfl (Nat.le_of_ble_eq_true rfl) rfl dX1_minute_148 ?_)
    refine wg_iinc (pc := 151) (v := (x21 + 1)) (l' := [(0, .ref (rid 0 1)), (1, .int (x21 + 1))]) hX dX1_minute_151 1 rfl rfl (by decide) rfl ?_
    refine wg_goto (pc := 154) (tgt := 134) hX dX1_minute_154 (by decide) ?_
    exact hrec21 (x21 + 1)
  exact wu_rt (wg_vret (pc := 157) hX rfl rfl dX1_minute_157)
theorem m_X1_tick (a1 : Int32) : amMet yX1_tick cX1_tick 3 (some .int) 520 12493 encI [.ref (rid 0 1), .int a1] (up (p_X1_tick a1)) := by
  refine amMet.of (own := RX1) (by decide) rfl (Nat.le_of_ble_eq_true rfl) fun X hX hPs => ?_
  change WG X encI 0 [(0, .ref (rid 0 1)), (1, .int a1)] [] (bd1 (up (p_X1_tick a1)) rt1)
  unfold p_X1_tick
  refine wg_iload_n (pc := 0) hX dX1_tick_0 1 rfl ?_
  refine wg_iconst (pc := 1) (v := 0) hX dX1_tick_1 rfl ?_
  refine wg_sipush (pc := 2) (v := 300) hX dX1_tick_2 rfl ?_
  refine wu_ (wg_cSi (pc := 5) (As := [.int a1, .int 0, .int 300]) (rest := []) hX (m_X1_in a1 0 300) (lw_S q471 q472 q159 q473) hd_X1_in rfl (Nat.le_of_ble_eq_true rfl) (Nat.le_of_ble_eq_true rfl) (Nat.le_of_ble_eq_true rfl) rfl dX1_tick_5 fun v1 => ?_)
  refine wg_if_eq (pc := 8) (tgt := 23) hX dX1_tick_8 (by decide) (fun h2 => ?_) (fun h2 => ?_)
  · refine wu_t h2 ?_
    refine wg_iconst (pc := 23) (v := (-1)) hX dX1_tick_23 rfl ?_
    exact wu_rt (wg_iret (pc := 24) hX rfl rfl dX1_tick_24)
  refine wu_f h2 ?_
  refine wg_aload_n (pc := 11) hX dX1_tick_11 0 rfl ?_
  refine wu_ (wg_gI (pc := 12) hX fd_X1_415 dX1_tick_12 fun v3 => ?_)
  refine wg_iload_n (pc := 15) hX dX1_tick_15 1 rfl ?_
  refine wg_iadd (pc := 16) hX dX1_tick_16 ?_
  refine wg_sipush (pc := 17) (v := 20000) hX dX1_tick_17 rfl ?_
  refine wg_icmp_le (pc := 20) (tgt := 25) hX dX1_tick_20 (by decide) (fun h4 => ?_) (fun h4 => ?_)
  rotate_left
  · refine wu_f h4 ?_
    refine wg_iconst (pc := 23) (v := (-1)) hX dX1_tick_23 rfl ?_
    exact wu_rt (wg_iret (pc := 24) hX rfl rfl dX1_tick_24)
  refine wu_t h4 ?_
  refine wg_iconst (pc := 25) (v := 0) hX dX1_tick_25 rfl ?_
  refine wg_istore_n (pc := 26) (l' := [(0, .ref (rid 0 1)), (1, .int a1), (2, .int 0)]) hX dX1_tick_26 (by decide) rfl ?_
  refine wu_lpx (α := Int32) (γ := Unit) (pcl := 27) (pcT := 42) (lo := fun x => [(0, .ref (rid 0 1)), (1, .int a1), (2, .int x)]) (so := fun _ => []) (lT := fun x => [(0, .ref (rid 0 1))]) (sT := fun _ => []) (n := amFu) (x0 := 0) (fun K5 rec5 hrec5 hk5 x5 => ?_) (fun y6 => ?_)
  · unfold p_X1_tick_L27
    refine wg_iload_n (pc := 27) hX dX1_tick_27 2 rfl ?_
    refine wg_iload_n (pc := 28) hX dX1_tick_28 1 rfl ?_
    refine wg_icmp_ge (pc := 29) (tgt := 42) hX dX1_tick_29 (by decide) (fun h7 => ?_) (fun h7 => ?_)
    · refine wu_t h7 ?_
      refine wg_sub hX [0] rfl ?_
      exact wu_rt (hk5 ())
    refine wu_f h7 ?_
    refine wg_aload_n (pc := 32) hX dX1_tick_32 0 rfl ?_
    refine wu_ (wg_cVv (pc := 33) (As := []) (rest := []) hX (m_X1_minute) (by decide) (by decide) (by decide) rc_X1 (lw_V q1485 q1487 qs48 q159 q1488) hd_X1_minute rfl (Nat.le_of_ble_eq_true rfl) (Nat.le_of_ble_eq_true rfl) (Nat.le_of_ble_eq_true rfl) rfl dX1_tick_33 ?_)
    refine wg_iinc (pc := 36) (v := (x5 + 1)) (l' := [(0, .ref (rid 0 1)), (1, .int a1), (2, .int (x5 + 1))]) hX dX1_tick_36 2 rfl rfl (by decide) rfl ?_
    refine wg_goto (pc := 39) (tgt := 27) hX dX1_tick_39 (by decide) ?_
    exact hrec5 (x5 + 1)
  refine wg_aload_n (pc := 42) hX dX1_tick_42 0 rfl ?_
  refine wu_ (wg_gI (pc := 43) hX fd_X1_415 dX1_tick_43 fun v8 => ?_)
  exact wu_rt (wg_iret (pc := 46) hX rfl rfl dX1_tick_46)
theorem m_X1_act (a1 : Int32) : amMetW yX1_act cX1_act 3 (some .int) [((22 : Nat), (36 : Nat), (39 : Nat), (55 : Nat))] 137 3099 encI [.ref (rid 0 1), .int a1] (p_X1_act a1) := by
  refine amMetW.of (own := RX1) (by decide) rfl (Nat.le_of_ble_eq_true rfl) fun X hX hTb hPs => ?_
  change WG X encI 0 [(0, .ref (rid 0 1)), (1, .int a1)] [] (bd1 (p_X1_act a1) rt1)
  unfold p_X1_act
  have hM0 := amPs.m1 hPs
  refine wv_ (wg_gM ?_)
  refine wg_iload_n (pc := 0) hX dX1_act_0 1 rfl ?_
  refine wg_iconst (pc := 1) (v := 1) hX dX1_act_1 rfl ?_
  refine wg_sipush (pc := 2) (v := 200) hX dX1_act_2 rfl ?_
  refine wv_ (wg_cSi (pc := 5) (As := [.int a1, .int 1, .int 200]) (rest := []) hX (m_X1_in a1 1 200) (lw_S q471 q472 q159 q473) hd_X1_in rfl (Nat.le_of_ble_eq_true rfl) (Nat.le_of_ble_eq_true rfl) (Nat.le_of_ble_eq_true rfl) rfl dX1_act_5 fun v1 => ?_)
  refine wg_if_eq (pc := 8) (tgt := 20) hX dX1_act_8 (by decide) (fun h2 => ?_) (fun h2 => ?_)
  · refine wv_t h2 ?_
    refine wg_iconst (pc := 20) (v := (-1)) hX dX1_act_20 rfl ?_
    exact wv_rt (wg_iret (pc := 21) hX rfl rfl dX1_act_21)
  refine wv_f h2 ?_
  refine wg_aload_n (pc := 11) hX dX1_act_11 0 rfl ?_
  refine wv_ (wg_gI (pc := 12) hX fd_X1_746 dX1_act_12 fun v3 => ?_)
  refine wg_bipush (pc := 15) (v := 12) hX dX1_act_15 rfl ?_
  refine wg_icmp_ne (pc := 17) (tgt := 22) hX dX1_act_17 (by decide) (fun h4 => ?_) (fun h4 => ?_)
  · refine wv_t h4 ?_
    refine wg_iconst (pc := 20) (v := (-1)) hX dX1_act_20 rfl ?_
    exact wv_rt (wg_iret (pc := 21) hX rfl rfl dX1_act_21)
  refine wv_f h4 ?_
  refine wg_aload_n (pc := 22) hX dX1_act_22 0 rfl ?_
  refine wg_gK (pc := 23) hX hM0 fd_X1_84 (by decide) dX1_act_23 ?_
  refine wg_aload_n (pc := 26) hX dX1_act_26 0 rfl ?_
  refine wv_ (wg_gI (pc := 27) hX fd_X1_746 dX1_act_27 fun v5 => ?_)
  refine wg_aload_n (pc := 30) hX dX1_act_30 0 rfl ?_
  refine wg_iconst (pc := 31) (v := 2) hX dX1_act_31 rfl ?_
  refine wvx_ (wx_cVr (As := [.int 2]) (rest := [.int v5, .ref (rid 35 1)]) hX (m_X1_whole 2) (by decide) (by decide) (by decide) rc_X1 (lw_V q1281 q1283 qs34 q159 q1284) hd_X1_whole rfl (Nat.le_of_ble_eq_true rfl) (Nat.le_of_ble_eq_true rfl) (Nat.le_of_ble_eq_true rfl) rfl dX1_act_32 (fun r6 => ?_) ?_)
  rotate_left
  · refine wx_catch (i := 2) (k0 := 2) (l' := [(0, .ref (rid 0 1)), (1, .int a1)]) hX hTb rfl (by decide) q219 q221 dX1_act_39 rfl (by decide) rfl ?_
    refine wg_iconst (pc := 40) (v := (-1)) hX dX1_act_40 rfl ?_
    exact wv_rt (wg_iret (pc := 41) hX rfl rfl dX1_act_41)
  refine wv_ (wg_wR (pc := 35) hX ar_35 el_35 dX1_act_35 ?_)
  refine wg_goto (pc := 36) (tgt := 42) hX dX1_act_36 (by decide) ?_
  refine wg_aload_n (pc := 42) hX dX1_act_42 0 rfl ?_
  refine wg_gK (pc := 43) hX hM0 fd_X1_87 (by decide) dX1_act_43 ?_
  refine wg_aload_n (pc := 46) hX dX1_act_46 0 rfl ?_
  refine wv_ (wg_gI (pc := 47) hX fd_X1_746 dX1_act_47 fun v7 => ?_)
  refine wg_iload_n (pc := 50) hX dX1_act_50 1 rfl ?_
  refine wv_ (wg_wI (pc := 51) hX ar_36 dX1_act_51 ?_)
  refine wg_aload_n (pc := 52) hX dX1_act_52 0 rfl ?_
  refine wg_gK (pc := 53) hX hM0 fd_X1_90 (by decide) dX1_act_53 ?_
  refine wg_aload_n (pc := 56) hX dX1_act_56 0 rfl ?_
  refine wv_ (wg_gI (pc := 57) hX fd_X1_746 dX1_act_57 fun v8 => ?_)
  refine wg_aload_n (pc := 60) hX dX1_act_60 0 rfl ?_
  refine wv_ (wg_gI (pc := 61) hX fd_X1_415 dX1_act_61 fun v9 => ?_)
  refine wv_ (wg_wI (pc := 64) hX ar_37 dX1_act_64 ?_)
  refine wg_aload_n (pc := 65) hX dX1_act_65 0 rfl ?_
  refine wg_dup (pc := 66) hX dX1_act_66 rfl ?_
  refine wv_ (wg_gI (pc := 67) hX fd_X1_746 dX1_act_67 fun v10 => ?_)
  refine wg_iconst (pc := 70) (v := 1) hX dX1_act_70 rfl ?_
  refine wg_iadd (pc := 71) hX dX1_act_71 ?_
  refine wv_ (wg_pI (pc := 72) hX fp_X1_746 (fun h => by cases h) dX1_act_72 ?_)
  refine wg_aload_n (pc := 75) hX dX1_act_75 0 rfl ?_
  refine wg_iconst (pc := 76) (v := 0) hX dX1_act_76 rfl ?_
  refine wv_ (wg_pI (pc := 77) hX fp_X1_458 (fun h => by cases h) dX1_act_77 ?_)
  refine wg_aload_n (pc := 80) hX dX1_act_80 0 rfl ?_
  refine wv_ (wg_gI (pc := 81) hX fd_X1_746 dX1_act_81 fun v11 => ?_)
  refine wg_iconst (pc := 84) (v := 1) hX dX1_act_84 rfl ?_
  refine wg_isub (pc := 85) hX dX1_act_85 ?_
  exact wv_rt (wg_iret (pc := 86) hX rfl rfl dX1_act_86)
theorem m_X1_isAsked (a1 : Int32) (a2 : Int32) : amMet yX1_isAsked cX1_isAsked 3 (some .boolean) 3 75 encI [.ref (rid 0 1), .int a1, .int a2] (up (p_X1_isAsked a1 a2)) := by
  refine amMet.of (own := RX1) (by decide) rfl (Nat.le_of_ble_eq_true rfl) fun X hX hPs => ?_
  change WG X encI 0 [(0, .ref (rid 0 1)), (1, .int a1), (2, .int a2)] [] (bd1 (up (p_X1_isAsked a1 a2)) rt1)
  unfold p_X1_isAsked
  refine wg_aload_n (pc := 0) hX dX1_isAsked_0 0 rfl ?_
  refine wg_iload_n (pc := 1) hX dX1_isAsked_1 1 rfl ?_
  refine wu_ (wg_cVi (pc := 2) (As := [.int a1]) (rest := []) hX (m_X1_isHouse a1) (by decide) (by decide) (by decide) rc_X1 (lw_V q657 q659 qs6 q159 q660) hd_X1_isHouse rfl (Nat.le_of_ble_eq_true rfl) (Nat.le_of_ble_eq_true rfl) (Nat.le_of_ble_eq_true rfl) rfl dX1_isAsked_2 fun v1 => ?_)
  refine wu_jn (α := Unit) (pcJ := 24) (lJ := fun x => []) (sJ := fun x => []) (fun k2 hk2 => ?_) (fun z2 => ?_)
  · refine wg_if_eq (pc := 5) (tgt := 24) hX dX1_isAsked_5 (by decide) (fun h3 => ?_) (fun h3 => ?_)
    · refine wu_t h3 ?_
      refine wg_sub hX [] rfl ?_
      exact hk2 ()
    refine wu_f h3 ?_
    refine wg_iload_n (pc := 8) hX dX1_isAsked_8 2 rfl ?_
    refine wg_iconst (pc := 9) (v := 0) hX dX1_isAsked_9 rfl ?_
    refine wg_aload_n (pc := 10) hX dX1_isAsked_10 0 rfl ?_
    refine wu_ (wg_gI (pc := 11) hX fd_X1_415 dX1_isAsked_11 fun v4 => ?_)
    refine wu_ (wg_cSi (pc := 14) (As := [.int a2, .int 0, .int v4]) (rest := []) hX (m_X1_in a2 0 v4) (lw_S q471 q472 q159 q473) hd_X1_in rfl (Nat.le_of_ble_eq_true rfl) (Nat.le_of_ble_eq_true rfl) (Nat.le_of_ble_eq_true rfl) rfl dX1_isAsked_14 fun v5 => ?_)
    refine wg_if_eq (pc := 17) (tgt := 24) hX dX1_isAsked_17 (by decide) (fun h6 => ?_) (fun h6 => ?_)
    · refine wu_t h6 ?_
      refine wg_sub hX [] rfl ?_
      exact hk2 ()
    refine wu_f h6 ?_
    refine wg_iconst (pc := 20) (v := 1) hX dX1_isAsked_20 rfl ?_
    refine wg_goto (pc := 21) (tgt := 25) hX dX1_isAsked_21 (by decide) ?_
    exact wu_rt (wg_zret (pc := 25) hX rfl (by decide) rfl dX1_isAsked_25)
  refine wg_iconst (pc := 24) (v := 0) hX dX1_isAsked_24 rfl ?_
  exact wu_rt (wg_zret (pc := 25) hX rfl (by decide) rfl dX1_isAsked_25)
theorem m_X1_forceOf (a1 : Nat) (a2 : Int32) : amMet yX1_forceOf cX1_forceOf 5 (some .int) 1 32 encI [.ref (rid 0 1), .ref (rid 3 a1), .int a2] (up (p_X1_forceOf a1 a2)) := by
  refine amMet.of (own := RX1) (by decide) rfl (Nat.le_of_ble_eq_true rfl) fun X hX hPs => ?_
  change WG X encI 0 [(0, .ref (rid 0 1)), (1, .ref (rid 3 a1)), (2, .int a2)] [] (bd1 (up (p_X1_forceOf a1 a2)) rt1)
  unfold p_X1_forceOf
  have hM0 := amPs.m0 hPs
  refine wu_ (wg_gM ?_)
  refine wg_iconst (pc := 0) (v := (-1)) hX dX1_forceOf_0 rfl ?_
  refine wg_istore_n (pc := 1) (l' := [(0, .ref (rid 0 1)), (1, .ref (rid 3 a1)), (2, .int a2), (3, .int (-1))]) hX dX1_forceOf_1 (by decide) rfl ?_
  refine wg_iconst (pc := 2) (v := 0) hX dX1_forceOf_2 rfl ?_
  refine wg_istore (pc := 3) (l' := [(0, .ref (rid 0 1)), (1, .ref (rid 3 a1)), (2, .int a2), (3, .int (-1)), (4, .int 0)]) hX dX1_forceOf_3 (by decide) rfl ?_
  refine wu_lpx (α := Int32 × Int32) (γ := Int32) (pcl := 5) (pcT := 69) (lo := fun x => [(0, .ref (rid 0 1)), (1, .ref (rid 3 a1)), (2, .int a2), (3, .int x.1), (4, .int x.2)]) (so := fun _ => []) (lT := fun x => [(3, .int x)]) (sT := fun _ => []) (n := amFu) (x0 := ((-1), 0)) (fun K1 rec1 hrec1 hk1 x1 => ?_) (fun y2 => ?_)
  · unfold p_X1_forceOf_L5
    refine wg_iload (pc := 5) hX dX1_forceOf_5 4 rfl ?_
    refine wg_aload_n (pc := 7) hX dX1_forceOf_7 0 rfl ?_
    refine wu_ (wg_gI (pc := 8) hX fd_X1_746 dX1_forceOf_8 fun v3 => ?_)
    refine wg_icmp_ge (pc := 11) (tgt := 69) hX dX1_forceOf_11 (by decide) (fun h4 => ?_) (fun h4 => ?_)
    · refine wu_t h4 ?_
      refine wg_sub hX [3] rfl ?_
      exact wu_rt (hk1 x1.1)
    refine wu_f h4 ?_
    refine wg_aload_n (pc := 14) hX dX1_forceOf_14 0 rfl ?_
    refine wg_gK (pc := 15) hX hM0 fd_X1_90 (by decide) dX1_forceOf_15 ?_
    refine wg_iload (pc := 18) hX dX1_forceOf_18 4 rfl ?_
    refine wu_ (wg_rI (pc := 20) hX ar_37 dX1_forceOf_20 fun v5 => ?_)
    refine wg_iload_n (pc := 21) hX dX1_forceOf_21 2 rfl ?_
    refine wu_jx (α := Int32) (pcJ := 63) (lJ := fun x => [(0, .ref (rid 0 1)), (1, .ref (rid 3 a1)), (2, .int a2), (3, .int x), (4, .int x1.2)]) (sJ := fun x => []) (fun K6 hk6 => ?_) (fun z6 => ?_)
    · refine wg_icmp_gt (pc := 22) (tgt := 63) hX dX1_forceOf_22 (by decide) (fun h7 => ?_) (fun h7 => ?_)
      · refine wu_t h7 ?_
        exact wu_rt (hk6 x1.1)
      refine wu_f h7 ?_
      refine wg_aload_n (pc := 25) hX dX1_forceOf_25 0 rfl ?_
      refine wg_gK (pc := 26) hX hM0 fd_X1_87 (by decide) dX1_forceOf_26 ?_
      refine wg_iload (pc := 29) hX dX1_forceOf_29 4 rfl ?_
      refine wu_ (wg_rI (pc := 31) hX ar_36 dX1_forceOf_31 fun v8 => ?_)
      refine wg_aload_n (pc := 32) hX dX1_forceOf_32 1 rfl ?_
      refine wu_ (wg_gI (pc := 33) hX fd_X1_221 dX1_forceOf_33 fun v9 => ?_)
      refine wg_icmp_gt (pc := 36) (tgt := 63) hX dX1_forceOf_36 (by decide) (fun h10 => ?_) (fun h10 => ?_)
      · refine wu_t h10 ?_
        exact wu_rt (hk6 x1.1)
      refine wu_f h10 ?_
      refine wg_iload_n (pc := 39) hX dX1_forceOf_39 3 rfl ?_
      refine wg_iconst (pc := 40) (v := (-1)) hX dX1_forceOf_40 rfl ?_
      refine wu_jn (α := Unit) (pcJ := 60) (lJ := fun x => [(0, .ref (rid 0 1)), (1, .ref (rid 3 a1)), (2, .int a2), (4, .int x1.2)]) (sJ := fun x => []) (fun k11 hk11 => ?_) (fun z11 => ?_)
      · refine wg_icmp_eq (pc := 41) (tgt := 60) hX dX1_forceOf_41 (by decide) (fun h12 => ?_) (fun h12 => ?_)
        · refine wu_t h12 ?_
          refine wg_sub hX [0, 1, 2, 4] rfl ?_
          exact hk11 ()
        refine wu_f h12 ?_
        refine wg_aload_n (pc := 44) hX dX1_forceOf_44 0 rfl ?_
        refine wg_gK (pc := 45) hX hM0 fd_X1_87 (by decide) dX1_forceOf_45 ?_
        refine wg_iload (pc := 48) hX dX1_forceOf_48 4 rfl ?_
        refine wu_ (wg_rI (pc := 50) hX ar_36 dX1_forceOf_50 fun v13 => ?_)
        refine wg_aload_n (pc := 51) hX dX1_forceOf_51 0 rfl ?_
        refine wg_gK (pc := 52) hX hM0 fd_X1_87 (by decide) dX1_forceOf_52 ?_
        refine wg_iload_n (pc := 55) hX dX1_forceOf_55 3 rfl ?_
        refine wu_ (wg_rI (pc := 56) hX ar_36 dX1_forceOf_56 fun v14 => ?_)
        refine wg_icmp_lt (pc := 57) (tgt := 63) hX dX1_forceOf_57 (by decide) (fun h15 => ?_) (fun h15 => ?_)
        · refine wu_t h15 ?_
          exact wu_rt (hk6 x1.1)
        refine wu_f h15 ?_
        refine wg_sub hX [0, 1, 2, 4] rfl ?_
        exact hk11 ()
      refine wg_iload (pc := 60) hX dX1_forceOf_60 3 rfl ?_
      refine wg_istore_n (pc := 62) (l' := [(0, .ref (rid 0 1)), (1, .ref (rid 3 a1)), (2, .int a2), (3, .int x1.2), (4, .int x1.2)]) hX dX1_forceOf_62 (by decide) rfl ?_
      exact wu_rt (hk6 x1.2)
    refine wg_iinc (pc := 63) (v := (x1.2 + 1)) (l' := [(0, .ref (rid 0 1)), (1, .ref (rid 3 a1)), (2, .int a2), (3, .int z6), (4, .int (x1.2 + 1))]) hX dX1_forceOf_63 4 rfl rfl (by decide) rfl ?_
    refine wg_goto (pc := 66) (tgt := 5) hX dX1_forceOf_66 (by decide) ?_
    exact hrec1 (z6, (x1.2 + 1))
  refine wg_iload_n (pc := 69) hX dX1_forceOf_69 0 rfl ?_
  exact wu_rt (wg_iret (pc := 70) hX rfl rfl dX1_forceOf_70)
theorem m_X1_force (a1 : Int32) (a2 : Int32) : amMet yX1_force cX1_force 3 (some .int) 4 97 encI [.ref (rid 0 1), .int a1, .int a2] (up (p_X1_force a1 a2)) := by
  refine amMet.of (own := RX1) (by decide) rfl (Nat.le_of_ble_eq_true rfl) fun X hX hPs => ?_
  change WG X encI 0 [(0, .ref (rid 0 1)), (1, .int a1), (2, .int a2)] [] (bd1 (up (p_X1_force a1 a2)) rt1)
  unfold p_X1_force
  have hM0 := amPs.m0 hPs
  refine wu_ (wg_gM ?_)
  refine wg_aload_n (pc := 0) hX dX1_force_0 0 rfl ?_
  refine wg_iload_n (pc := 1) hX dX1_force_1 1 rfl ?_
  refine wg_iload_n (pc := 2) hX dX1_force_2 2 rfl ?_
  refine wu_ (wg_cVi (pc := 3) (As := [.int a1, .int a2]) (rest := []) hX (m_X1_isAsked a1 a2) (by decide) (by decide) (by decide) rc_X1 (lw_V q1610 q1612 qs68 q159 q1613) hd_X1_isAsked rfl (Nat.le_of_ble_eq_true rfl) (Nat.le_of_ble_eq_true rfl) (Nat.le_of_ble_eq_true rfl) rfl dX1_force_3 fun v1 => ?_)
  refine wg_if_eq (pc := 6) (tgt := 23) hX dX1_force_6 (by decide) (fun h2 => ?_) (fun h2 => ?_)
  · refine wu_t h2 ?_
    refine wg_iconst (pc := 23) (v := (-1)) hX dX1_force_23 rfl ?_
    exact wu_rt (wg_iret (pc := 24) hX rfl rfl dX1_force_24)
  refine wu_f h2 ?_
  refine wg_aload_n (pc := 9) hX dX1_force_9 0 rfl ?_
  refine wg_aload_n (pc := 10) hX dX1_force_10 0 rfl ?_
  refine wg_gK (pc := 11) hX hM0 fd_X1_30 (by decide) dX1_force_11 ?_
  refine wg_iload_n (pc := 14) hX dX1_force_14 1 rfl ?_
  refine wu_ (wg_rR (pc := 15) hX ar_24 (by decide) dX1_force_15 fun r3 => ?_)
  refine wg_iload_n (pc := 16) hX dX1_force_16 2 rfl ?_
  refine wu_ (wg_cVi (pc := 17) (As := [.ref (rid 3 r3), .int a2]) (rest := []) hX (m_X1_forceOf r3 a2) (by decide) (by decide) (by decide) rc_X1 (lw_V q1614 q1616 qs69 q159 q1617) hd_X1_forceOf rfl (Nat.le_of_ble_eq_true rfl) (Nat.le_of_ble_eq_true rfl) (Nat.le_of_ble_eq_true rfl) rfl dX1_force_17 fun v4 => ?_)
  refine wg_goto (pc := 20) (tgt := 24) hX dX1_force_20 (by decide) ?_
  exact wu_rt (wg_iret (pc := 24) hX rfl rfl dX1_force_24)
