/-! the walks (printed by gen/build.py) -/
theorem m_X3_soonest (a1 : Int32) (a2 : Int32) : amMet yX3_soonest cX3_soonest 7 (some .int) 3 82 encI [.ref (rid 1 1), .int a1, .int a2] (up (p_X3_soonest a1 a2)) := by
  refine amMet.of (own := RX3) (by decide) rfl (Nat.le_of_ble_eq_true rfl) fun X hX hPs => ?_
  change WG X encI 0 [(0, .ref (rid 1 1)), (1, .int a1), (2, .int a2)] [] (bd1 (up (p_X3_soonest a1 a2)) rt1)
  unfold p_X3_soonest
  have hM0 := amPs.m0 hPs
  refine wu_ (wg_gM ?_)
  refine wg_iconst (pc := 0) (v := (-1)) hX dX3_soonest_0 rfl ?_
  refine wg_istore_n (pc := 1) (l' := [(0, .ref (rid 1 1)), (1, .int a1), (2, .int a2), (3, .int (-1))]) hX dX3_soonest_1 (by decide) rfl ?_
  refine wg_iconst (pc := 2) (v := 0) hX dX3_soonest_2 rfl ?_
  refine wg_istore (pc := 3) (l' := [(0, .ref (rid 1 1)), (1, .int a1), (2, .int a2), (3, .int (-1)), (4, .int 0)]) hX dX3_soonest_3 (by decide) rfl ?_
  refine wg_iconst (pc := 5) (v := 0) hX dX3_soonest_5 rfl ?_
  refine wg_istore (pc := 6) (l' := [(0, .ref (rid 1 1)), (1, .int a1), (2, .int a2), (3, .int (-1)), (4, .int 0), (5, .int 0)]) hX dX3_soonest_6 (by decide) rfl ?_
  refine wu_lpx (α := Int32 × Int32 × Int32) (γ := Int32 × Int32) (pcl := 8) (pcT := 118) (lo := fun x => [(0, .ref (rid 1 1)), (1, .int a1), (2, .int a2), (3, .int x.1), (4, .int x.2.1), (5, .int x.2.2)]) (so := fun _ => []) (lT := fun x => [(0, .ref (rid 1 1)), (3, .int x.1), (4, .int x.2)]) (sT := fun _ => []) (n := amFu) (x0 := ((-1), 0, 0)) (fun K1 rec1 hrec1 hk1 x1 => ?_) (fun y2 => ?_)
  · unfold p_X3_soonest_L8
    refine wg_iload (pc := 8) hX dX3_soonest_8 5 rfl ?_
    refine wg_aload_n (pc := 10) hX dX3_soonest_10 0 rfl ?_
    refine wu_ (wg_gI (pc := 11) hX fd_X3_366 dX3_soonest_11 fun v3 => ?_)
    refine wg_icmp_ge (pc := 14) (tgt := 118) hX dX3_soonest_14 (by decide) (fun h4 => ?_) (fun h4 => ?_)
    · refine wu_t h4 ?_
      refine wg_sub hX [0, 3, 4] rfl ?_
      exact wu_rt (hk1 (x1.1, x1.2.1))
    refine wu_f h4 ?_
    refine wg_aload_n (pc := 17) hX dX3_soonest_17 0 rfl ?_
    refine wg_gK (pc := 18) hX hM0 fd_X3_128 (by decide) dX3_soonest_18 ?_
    refine wg_iload (pc := 21) hX dX3_soonest_21 5 rfl ?_
    refine wu_ (wg_rI (pc := 23) hX ar_94 dX3_soonest_23 fun v5 => ?_)
    refine wu_jx (α := Int32 × Int32) (pcJ := 112) (lJ := fun x => [(0, .ref (rid 1 1)), (1, .int a1), (2, .int a2), (3, .int x.1), (4, .int x.2), (5, .int x1.2.2)]) (sJ := fun x => []) (fun K6 hk6 => ?_) (fun z6 => ?_)
    · refine wg_if_ne (pc := 24) (tgt := 112) hX dX3_soonest_24 (by decide) (fun h7 => ?_) (fun h7 => ?_)
      rotate_left
      · refine wu_f h7 ?_
        exact wu_rt (hk6 (x1.1, x1.2.1))
      refine wu_t h7 ?_
      refine wg_iload_n (pc := 27) hX dX3_soonest_27 1 rfl ?_
      refine wg_iconst (pc := 28) (v := (-1)) hX dX3_soonest_28 rfl ?_
      refine wu_jn (α := Unit) (pcJ := 43) (lJ := fun x => [(0, .ref (rid 1 1)), (1, .int a1), (2, .int a2), (3, .int x1.1), (4, .int x1.2.1), (5, .int x1.2.2)]) (sJ := fun x => []) (fun k8 hk8 => ?_) (fun z8 => ?_)
      · refine wg_icmp_eq (pc := 29) (tgt := 43) hX dX3_soonest_29 (by decide) (fun h9 => ?_) (fun h9 => ?_)
        · refine wu_t h9 ?_
          exact hk8 ()
        refine wu_f h9 ?_
        refine wg_aload_n (pc := 32) hX dX3_soonest_32 0 rfl ?_
        refine wg_gK (pc := 33) hX hM0 fd_X3_107 (by decide) dX3_soonest_33 ?_
        refine wg_iload (pc := 36) hX dX3_soonest_36 5 rfl ?_
        refine wu_ (wg_rI (pc := 38) hX ar_87 dX3_soonest_38 fun v10 => ?_)
        refine wg_iload_n (pc := 39) hX dX3_soonest_39 1 rfl ?_
        refine wg_icmp_ne (pc := 40) (tgt := 112) hX dX3_soonest_40 (by decide) (fun h11 => ?_) (fun h11 => ?_)
        · refine wu_t h11 ?_
          exact hk8 ()
        refine wu_f h11 ?_
        exact wu_rt (hk6 (x1.1, x1.2.1))
      refine wg_iload_n (pc := 43) hX dX3_soonest_43 1 rfl ?_
      refine wg_iconst (pc := 44) (v := (-1)) hX dX3_soonest_44 rfl ?_
      refine wu_jn (α := Unit) (pcJ := 60) (lJ := fun x => [(0, .ref (rid 1 1)), (1, .int a1), (2, .int a2), (3, .int x1.1), (4, .int x1.2.1), (5, .int x1.2.2)]) (sJ := fun x => []) (fun k12 hk12 => ?_) (fun z12 => ?_)
      · refine wg_icmp_ne (pc := 45) (tgt := 60) hX dX3_soonest_45 (by decide) (fun h13 => ?_) (fun h13 => ?_)
        rotate_left
        · refine wu_f h13 ?_
          exact hk12 ()
        refine wu_t h13 ?_
        refine wg_aload_n (pc := 48) hX dX3_soonest_48 0 rfl ?_
        refine wg_iload (pc := 49) hX dX3_soonest_49 5 rfl ?_
        refine wu_ (wg_cVi (pc := 51) (As := [.int x1.2.2]) (rest := []) hX (m_X3_isShared x1.2.2) (by decide) (by decide) (by decide) rc_X3 (lw_V q2619 q2621 qs127 q163 q2622) hd_X3_isShared rfl (Nat.le_of_ble_eq_true rfl) (Nat.le_of_ble_eq_true rfl) (Nat.le_of_ble_eq_true rfl) rfl dX3_soonest_51 fun v14 => ?_)
        refine wg_if_ne (pc := 54) (tgt := 60) hX dX3_soonest_54 (by decide) (fun h15 => ?_) (fun h15 => ?_)
        rotate_left
        · refine wu_f h15 ?_
          exact hk12 ()
        refine wu_t h15 ?_
        refine wg_goto (pc := 57) (tgt := 112) hX dX3_soonest_57 (by decide) ?_
        exact wu_rt (hk6 (x1.1, x1.2.1))
      refine wg_aload_n (pc := 60) hX dX3_soonest_60 0 rfl ?_
      refine wg_aload_n (pc := 61) hX dX3_soonest_61 0 rfl ?_
      refine wg_gK (pc := 62) hX hM0 fd_X3_131 (by decide) dX3_soonest_62 ?_
      refine wg_iload (pc := 65) hX dX3_soonest_65 5 rfl ?_
      refine wu_ (wg_rI (pc := 67) hX ar_95 dX3_soonest_67 fun v16 => ?_)
      refine wg_iload_n (pc := 68) hX dX3_soonest_68 2 rfl ?_
      refine wg_aload_n (pc := 69) hX dX3_soonest_69 0 rfl ?_
      refine wu_ (wg_gI (pc := 70) hX fd_X3_395 dX3_soonest_70 fun v17 => ?_)
      refine wg_aload_n (pc := 73) hX dX3_soonest_73 0 rfl ?_
      refine wg_iload (pc := 74) hX dX3_soonest_74 5 rfl ?_
      refine wu_ (wg_cVi (pc := 76) (As := [.int x1.2.2]) (rest := [.int v17, .int a2, .int v16, .ref (rid 1 1)]) hX (m_X3_slowOf x1.2.2) (by decide) (by decide) (by decide) rc_X3 (lw_V q2461 q2463 qs104 q163 q2464) hd_X3_slowOf rfl (Nat.le_of_ble_eq_true rfl) (Nat.le_of_ble_eq_true rfl) (Nat.le_of_ble_eq_true rfl) rfl dX3_soonest_76 fun v18 => ?_)
      refine wu_ (wg_cVi (pc := 79) (As := [.int v16, .int a2, .int v17, .int v18]) (rest := []) hX (m_X3_comeBy v16 a2 v17 v18) (by decide) (by decide) (by decide) rc_X3 (lw_V q2337 q2339 qs88 q163 q2340) hd_X3_comeBy rfl (Nat.le_of_ble_eq_true rfl) (Nat.le_of_ble_eq_true rfl) (Nat.le_of_ble_eq_true rfl) rfl dX3_soonest_79 fun v19 => ?_)
      refine wg_istore (pc := 82) (l' := [(0, .ref (rid 1 1)), (1, .int a1), (2, .int a2), (3, .int x1.1), (4, .int x1.2.1), (5, .int x1.2.2), (6, .int v19)]) hX dX3_soonest_82 (by decide) rfl ?_
      refine wg_iload (pc := 84) hX dX3_soonest_84 6 rfl ?_
      refine wg_iconst (pc := 86) (v := (-1)) hX dX3_soonest_86 rfl ?_
      refine wg_icmp_eq (pc := 87) (tgt := 112) hX dX3_soonest_87 (by decide) (fun h20 => ?_) (fun h20 => ?_)
      · refine wu_t h20 ?_
        refine wg_sub hX [0, 1, 2, 3, 4, 5] rfl ?_
        exact wu_rt (hk6 (x1.1, x1.2.1))
      refine wu_f h20 ?_
      refine wg_iload_n (pc := 90) hX dX3_soonest_90 3 rfl ?_
      refine wg_iconst (pc := 91) (v := (-1)) hX dX3_soonest_91 rfl ?_
      refine wu_jn (α := Unit) (pcJ := 105) (lJ := fun x => [(0, .ref (rid 1 1)), (1, .int a1), (2, .int a2), (5, .int x1.2.2), (6, .int v19)]) (sJ := fun x => []) (fun k21 hk21 => ?_) (fun z21 => ?_)
      · refine wg_icmp_eq (pc := 92) (tgt := 105) hX dX3_soonest_92 (by decide) (fun h22 => ?_) (fun h22 => ?_)
        · refine wu_t h22 ?_
          refine wg_sub hX [0, 1, 2, 5, 6] rfl ?_
          exact hk21 ()
        refine wu_f h22 ?_
        refine wg_iload (pc := 95) hX dX3_soonest_95 6 rfl ?_
        refine wg_iload (pc := 97) hX dX3_soonest_97 4 rfl ?_
        refine wg_icmp_lt (pc := 99) (tgt := 105) hX dX3_soonest_99 (by decide) (fun h23 => ?_) (fun h23 => ?_)
        · refine wu_t h23 ?_
          refine wg_sub hX [0, 1, 2, 5, 6] rfl ?_
          exact hk21 ()
        refine wu_f h23 ?_
        refine wg_goto (pc := 102) (tgt := 112) hX dX3_soonest_102 (by decide) ?_
        refine wg_sub hX [0, 1, 2, 3, 4, 5] rfl ?_
        exact wu_rt (hk6 (x1.1, x1.2.1))
      refine wg_iload (pc := 105) hX dX3_soonest_105 3 rfl ?_
      refine wg_istore_n (pc := 107) (l' := [(0, .ref (rid 1 1)), (1, .int a1), (2, .int a2), (3, .int x1.2.2), (5, .int x1.2.2), (6, .int v19)]) hX dX3_soonest_107 (by decide) rfl ?_
      refine wg_iload (pc := 108) hX dX3_soonest_108 5 rfl ?_
      refine wg_istore (pc := 110) (l' := [(0, .ref (rid 1 1)), (1, .int a1), (2, .int a2), (3, .int x1.2.2), (4, .int v19), (5, .int x1.2.2), (6, .int v19)]) hX dX3_soonest_110 (by decide) rfl ?_
      refine wg_sub hX [0, 1, 2, 3, 4, 5] rfl ?_
      exact wu_rt (hk6 (x1.2.2, v19))
    refine wg_iinc (pc := 112) (v := (x1.2.2 + 1)) (l' := [(0, .ref (rid 1 1)), (1, .int a1), (2, .int a2), (3, .int z6.1), (4, .int z6.2), (5, .int (x1.2.2 + 1))]) hX dX3_soonest_112 5 rfl rfl (by decide) rfl ?_
    refine wg_goto (pc := 115) (tgt := 8) hX dX3_soonest_115 (by decide) ?_
    exact hrec1 (z6.1, z6.2, (x1.2.2 + 1))
  refine wg_aload_n (pc := 118) hX dX3_soonest_118 0 rfl ?_
  refine wg_iload (pc := 119) hX dX3_soonest_119 2 rfl ?_
  refine wu_ (wg_pI (pc := 121) hX fp_X3_546 (fun h => by cases h) dX3_soonest_121 ?_)
  refine wg_iload_n (pc := 124) hX dX3_soonest_124 1 rfl ?_
  exact wu_rt (wg_iret (pc := 125) hX rfl rfl dX3_soonest_125)
theorem m_X3_emptyHome  : amMet yX3_emptyHome cX3_emptyHome 5 (some .int) 1 32 encI [.ref (rid 1 1)] (up (p_X3_emptyHome)) := by
  refine amMet.of (own := RX3) (by decide) rfl (Nat.le_of_ble_eq_true rfl) fun X hX hPs => ?_
  change WG X encI 0 [(0, .ref (rid 1 1))] [] (bd1 (up (p_X3_emptyHome)) rt1)
  unfold p_X3_emptyHome
  have hM0 := amPs.m0 hPs
  refine wu_ (wg_gM ?_)
  refine wg_iconst (pc := 0) (v := 0) hX dX3_emptyHome_0 rfl ?_
  refine wg_istore_n (pc := 1) (l' := [(0, .ref (rid 1 1)), (1, .int 0)]) hX dX3_emptyHome_1 (by decide) rfl ?_
  refine wu_lp (α := Int32) (pcl := 2) (lo := fun x => [(0, .ref (rid 1 1)), (1, .int x)]) (so := fun _ => []) (fun rec1 hrec1 x1 => ?_) amFu 0
  unfold p_X3_emptyHome_L2
  refine wg_iload_n (pc := 2) hX dX3_emptyHome_2 1 rfl ?_
  refine wg_bipush (pc := 3) (v := 20) hX dX3_emptyHome_3 rfl ?_
  refine wg_icmp_ge (pc := 5) (tgt := 109) hX dX3_emptyHome_5 (by decide) (fun h2 => ?_) (fun h2 => ?_)
  · refine wu_t h2 ?_
    refine wg_iconst (pc := 109) (v := (-1)) hX dX3_emptyHome_109 rfl ?_
    exact wu_rt (wg_iret (pc := 110) hX rfl rfl dX3_emptyHome_110)
  refine wu_f h2 ?_
  refine wg_iconst (pc := 8) (v := 0) hX dX3_emptyHome_8 rfl ?_
  refine wg_istore_n (pc := 9) (l' := [(0, .ref (rid 1 1)), (1, .int x1), (2, .int 0)]) hX dX3_emptyHome_9 (by decide) rfl ?_
  refine wg_iconst (pc := 10) (v := 0) hX dX3_emptyHome_10 rfl ?_
  refine wg_istore_n (pc := 11) (l' := [(0, .ref (rid 1 1)), (1, .int x1), (2, .int 0), (3, .int 0)]) hX dX3_emptyHome_11 (by decide) rfl ?_
  refine wg_iconst (pc := 12) (v := 0) hX dX3_emptyHome_12 rfl ?_
  refine wg_istore (pc := 13) (l' := [(0, .ref (rid 1 1)), (1, .int x1), (2, .int 0), (3, .int 0), (4, .int 0)]) hX dX3_emptyHome_13 (by decide) rfl ?_
  refine wu_lpx (α := Int32 × Int32 × Int32) (γ := Int32 × Int32) (pcl := 15) (pcT := 93) (lo := fun x => [(0, .ref (rid 1 1)), (1, .int x1), (2, .int x.1), (3, .int x.2.1), (4, .int x.2.2)]) (so := fun _ => []) (lT := fun x => [(0, .ref (rid 1 1)), (1, .int x1), (2, .int x.1), (3, .int x.2)]) (sT := fun _ => []) (n := amFu) (x0 := (0, 0, 0)) (fun K3 rec3 hrec3 hk3 x3 => ?_) (fun y4 => ?_)
  · unfold p_X3_emptyHome_L15
    refine wg_iload (pc := 15) hX dX3_emptyHome_15 4 rfl ?_
    refine wg_aload_n (pc := 17) hX dX3_emptyHome_17 0 rfl ?_
    refine wu_ (wg_gI (pc := 18) hX fd_X3_366 dX3_emptyHome_18 fun v5 => ?_)
    refine wg_icmp_ge (pc := 21) (tgt := 93) hX dX3_emptyHome_21 (by decide) (fun h6 => ?_) (fun h6 => ?_)
    · refine wu_t h6 ?_
      refine wg_sub hX [0, 1, 2, 3] rfl ?_
      exact wu_rt (hk3 (x3.1, x3.2.1))
    refine wu_f h6 ?_
    refine wg_iload_n (pc := 24) hX dX3_emptyHome_24 2 rfl ?_
    refine wu_jx (α := Int32) (pcJ := 44) (lJ := fun x => [(0, .ref (rid 1 1)), (1, .int x1), (3, .int x3.2.1), (4, .int x3.2.2)]) (sJ := fun x => [.int x]) (fun K7 hk7 => ?_) (fun z7 => ?_)
    · refine wu_jn (α := Unit) (pcJ := 39) (lJ := fun x => [(0, .ref (rid 1 1)), (1, .int x1), (3, .int x3.2.1), (4, .int x3.2.2)]) (sJ := fun x => []) (fun k8 hk8 => ?_) (fun z8 => ?_)
      · refine wg_if_ne (pc := 25) (tgt := 39) hX dX3_emptyHome_25 (by decide) (fun h9 => ?_) (fun h9 => ?_)
        rotate_left
        · refine wu_f h9 ?_
          refine wg_sub hX [0, 1, 3, 4] rfl ?_
          exact hk8 ()
        refine wu_t h9 ?_
        refine wg_aload_n (pc := 28) hX dX3_emptyHome_28 0 rfl ?_
        refine wg_gK (pc := 29) hX hM0 fd_X3_110 (by decide) dX3_emptyHome_29 ?_
        refine wg_iload (pc := 32) hX dX3_emptyHome_32 4 rfl ?_
        refine wu_ (wg_rI (pc := 34) hX ar_88 dX3_emptyHome_34 fun v10 => ?_)
        refine wg_iload_n (pc := 35) hX dX3_emptyHome_35 1 rfl ?_
        refine wg_icmp_ne (pc := 36) (tgt := 43) hX dX3_emptyHome_36 (by decide) (fun h11 => ?_) (fun h11 => ?_)
        · refine wu_t h11 ?_
          refine wg_sub hX [0, 1, 3, 4] rfl ?_
          exact hk8 ()
        refine wu_f h11 ?_
        refine wg_iconst (pc := 43) (v := 0) hX dX3_emptyHome_43 rfl ?_
        refine wg_sub hX [0, 1, 3, 4] rfl ?_
        exact wu_rt (hk7 0)
      refine wg_iconst (pc := 39) (v := 1) hX dX3_emptyHome_39 rfl ?_
      refine wg_goto (pc := 40) (tgt := 44) hX dX3_emptyHome_40 (by decide) ?_
      exact wu_rt (hk7 1)
    refine wg_istore_n (pc := 44) (l' := [(0, .ref (rid 1 1)), (1, .int x1), (2, .int z7), (3, .int x3.2.1), (4, .int x3.2.2)]) hX dX3_emptyHome_44 (by decide) rfl ?_
    refine wg_iload_n (pc := 45) hX dX3_emptyHome_45 3 rfl ?_
    refine wu_jx (α := Int32) (pcJ := 86) (lJ := fun x => [(0, .ref (rid 1 1)), (1, .int x1), (2, .int z7), (4, .int x3.2.2)]) (sJ := fun x => [.int x]) (fun K12 hk12 => ?_) (fun z12 => ?_)
    · refine wu_jn (α := Unit) (pcJ := 81) (lJ := fun x => [(0, .ref (rid 1 1)), (1, .int x1), (2, .int z7), (4, .int x3.2.2)]) (sJ := fun x => []) (fun k13 hk13 => ?_) (fun z13 => ?_)
      · refine wg_if_ne (pc := 46) (tgt := 81) hX dX3_emptyHome_46 (by decide) (fun h14 => ?_) (fun h14 => ?_)
        rotate_left
        · refine wu_f h14 ?_
          refine wg_sub hX [0, 1, 2, 4] rfl ?_
          exact hk13 ()
        refine wu_t h14 ?_
        refine wg_aload_n (pc := 49) hX dX3_emptyHome_49 0 rfl ?_
        refine wg_gK (pc := 50) hX hM0 fd_X3_128 (by decide) dX3_emptyHome_50 ?_
        refine wg_iload (pc := 53) hX dX3_emptyHome_53 4 rfl ?_
        refine wu_ (wg_rI (pc := 55) hX ar_94 dX3_emptyHome_55 fun v15 => ?_)
        refine wu_jn (α := Unit) (pcJ := 85) (lJ := fun x => [(0, .ref (rid 1 1)), (1, .int x1), (2, .int z7), (4, .int x3.2.2)]) (sJ := fun x => []) (fun k16 hk16 => ?_) (fun z16 => ?_)
        · refine wu_jn (α := Unit) (pcJ := 70) (lJ := fun x => [(0, .ref (rid 1 1)), (1, .int x1), (2, .int z7), (4, .int x3.2.2)]) (sJ := fun x => []) (fun k17 hk17 => ?_) (fun z17 => ?_)
          · refine wg_if_eq (pc := 56) (tgt := 70) hX dX3_emptyHome_56 (by decide) (fun h18 => ?_) (fun h18 => ?_)
            · refine wu_t h18 ?_
              refine wg_sub hX [0, 1, 2, 4] rfl ?_
              exact hk17 ()
            refine wu_f h18 ?_
            refine wg_aload_n (pc := 59) hX dX3_emptyHome_59 0 rfl ?_
            refine wg_gK (pc := 60) hX hM0 fd_X3_128 (by decide) dX3_emptyHome_60 ?_
            refine wg_iload (pc := 63) hX dX3_emptyHome_63 4 rfl ?_
            refine wu_ (wg_rI (pc := 65) hX ar_94 dX3_emptyHome_65 fun v19 => ?_)
            refine wg_iconst (pc := 66) (v := 3) hX dX3_emptyHome_66 rfl ?_
            refine wg_icmp_ne (pc := 67) (tgt := 85) hX dX3_emptyHome_67 (by decide) (fun h20 => ?_) (fun h20 => ?_)
            · refine wu_t h20 ?_
              refine wg_sub hX [0, 1, 2, 4] rfl ?_
              exact hk17 ()
            refine wu_f h20 ?_
            refine wg_sub hX [0, 1, 2, 4] rfl ?_
            exact hk16 ()
          refine wg_aload_n (pc := 70) hX dX3_emptyHome_70 0 rfl ?_
          refine wg_gK (pc := 71) hX hM0 fd_X3_131 (by decide) dX3_emptyHome_71 ?_
          refine wg_iload (pc := 74) hX dX3_emptyHome_74 3 rfl ?_
          refine wu_ (wg_rI (pc := 76) hX ar_95 dX3_emptyHome_76 fun v21 => ?_)
          refine wg_iload_n (pc := 77) hX dX3_emptyHome_77 1 rfl ?_
          refine wg_icmp_ne (pc := 78) (tgt := 85) hX dX3_emptyHome_78 (by decide) (fun h22 => ?_) (fun h22 => ?_)
          · refine wu_t h22 ?_
            exact hk13 ()
          refine wu_f h22 ?_
          exact hk16 ()
        refine wg_iconst (pc := 85) (v := 0) hX dX3_emptyHome_85 rfl ?_
        exact wu_rt (hk12 0)
      refine wg_iconst (pc := 81) (v := 1) hX dX3_emptyHome_81 rfl ?_
      refine wg_goto (pc := 82) (tgt := 86) hX dX3_emptyHome_82 (by decide) ?_
      exact wu_rt (hk12 1)
    refine wg_istore_n (pc := 86) (l' := [(0, .ref (rid 1 1)), (1, .int x1), (2, .int z7), (3, .int z12), (4, .int x3.2.2)]) hX dX3_emptyHome_86 (by decide) rfl ?_
    refine wg_iinc (pc := 87) (v := (x3.2.2 + 1)) (l' := [(0, .ref (rid 1 1)), (1, .int x1), (2, .int z7), (3, .int z12), (4, .int (x3.2.2 + 1))]) hX dX3_emptyHome_87 4 rfl rfl (by decide) rfl ?_
    refine wg_goto (pc := 90) (tgt := 15) hX dX3_emptyHome_90 (by decide) ?_
    exact hrec3 (z7, z12, (x3.2.2 + 1))
  refine wg_iload_n (pc := 93) hX dX3_emptyHome_93 2 rfl ?_
  refine wu_jn (α := Unit) (pcJ := 103) (lJ := fun x => [(0, .ref (rid 1 1)), (1, .int x1)]) (sJ := fun x => []) (fun k23 hk23 => ?_) (fun z23 => ?_)
  · refine wg_if_eq (pc := 94) (tgt := 103) hX dX3_emptyHome_94 (by decide) (fun h24 => ?_) (fun h24 => ?_)
    · refine wu_t h24 ?_
      refine wg_sub hX [0, 1] rfl ?_
      exact hk23 ()
    refine wu_f h24 ?_
    refine wg_iload_n (pc := 97) hX dX3_emptyHome_97 3 rfl ?_
    refine wg_if_ne (pc := 98) (tgt := 103) hX dX3_emptyHome_98 (by decide) (fun h25 => ?_) (fun h25 => ?_)
    rotate_left
    · refine wu_f h25 ?_
      refine wg_sub hX [0, 1] rfl ?_
      exact hk23 ()
    refine wu_t h25 ?_
    refine wg_iload_n (pc := 101) hX dX3_emptyHome_101 1 rfl ?_
    exact wu_rt (wg_iret (pc := 102) hX rfl rfl dX3_emptyHome_102)
  refine wg_iinc (pc := 103) (v := (x1 + 1)) (l' := [(0, .ref (rid 1 1)), (1, .int (x1 + 1))]) hX dX3_emptyHome_103 1 rfl rfl (by decide) rfl ?_
  refine wg_goto (pc := 106) (tgt := 2) hX dX3_emptyHome_106 (by decide) ?_
  exact hrec1 (x1 + 1)
theorem m_X3_answer (a1 : Int32) : amMet yX3_answer cX3_answer 6 none 138 3325 encV [.ref (rid 1 1), .int a1] (up (p_X3_answer a1)) := by
  refine amMet.of (own := RX3) (by decide) rfl (Nat.le_of_ble_eq_true rfl) fun X hX hPs => ?_
  change WG X encV 0 [(0, .ref (rid 1 1)), (1, .int a1)] [] (bd1 (up (p_X3_answer a1)) rt1)
  unfold p_X3_answer
  have hM0 := amPs.m0 hPs
  refine wu_ (wg_gM ?_)
  refine wg_aload_n (pc := 0) hX dX3_answer_0 0 rfl ?_
  refine wg_aload_n (pc := 1) hX dX3_answer_1 0 rfl ?_
  refine wg_gK (pc := 2) hX hM0 fd_X3_214 (by decide) dX3_answer_2 ?_
  refine wg_iload_n (pc := 5) hX dX3_answer_5 1 rfl ?_
  refine wu_ (wg_rI (pc := 6) hX ar_115 dX3_answer_6 fun v1 => ?_)
  refine wg_aload_n (pc := 7) hX dX3_answer_7 0 rfl ?_
  refine wg_gK (pc := 8) hX hM0 fd_X3_217 (by decide) dX3_answer_8 ?_
  refine wg_iload_n (pc := 11) hX dX3_answer_11 1 rfl ?_
  refine wu_ (wg_rI (pc := 12) hX ar_116 dX3_answer_12 fun v2 => ?_)
  refine wu_ (wg_cVv (pc := 13) (As := [.int v1, .int v2]) (rest := []) hX (m_X3_askFor v1 v2) (by decide) (by decide) (by decide) rc_X3 (lw_V q2595 q2597 qs123 q163 q2598) hd_X3_askFor rfl (Nat.le_of_ble_eq_true rfl) (Nat.le_of_ble_eq_true rfl) (Nat.le_of_ble_eq_true rfl) rfl dX3_answer_13 ?_)
  refine wg_iconst (pc := 16) (v := 0) hX dX3_answer_16 rfl ?_
  refine wg_istore_n (pc := 17) (l' := [(0, .ref (rid 1 1)), (1, .int a1), (2, .int 0)]) hX dX3_answer_17 (by decide) rfl ?_
  refine wu_lpx (α := Int32) (γ := Unit) (pcl := 18) (pcT := 41) (lo := fun x => [(0, .ref (rid 1 1)), (1, .int a1), (2, .int x)]) (so := fun _ => []) (lT := fun x => [(0, .ref (rid 1 1)), (1, .int a1)]) (sT := fun _ => []) (n := amFu) (x0 := 0) (fun K3 rec3 hrec3 hk3 x3 => ?_) (fun y4 => ?_)
  · unfold p_X3_answer_L18
    refine wg_iload_n (pc := 18) hX dX3_answer_18 2 rfl ?_
    refine wg_iconst (pc := 19) (v := 5) hX dX3_answer_19 rfl ?_
    refine wg_icmp_ge (pc := 20) (tgt := 41) hX dX3_answer_20 (by decide) (fun h5 => ?_) (fun h5 => ?_)
    · refine wu_t h5 ?_
      refine wg_sub hX [0, 1] rfl ?_
      exact wu_rt (hk3 ())
    refine wu_f h5 ?_
    refine wg_aload_n (pc := 23) hX dX3_answer_23 0 rfl ?_
    refine wg_gK (pc := 24) hX hM0 fd_X3_241 (by decide) dX3_answer_24 ?_
    refine wg_iload_n (pc := 27) hX dX3_answer_27 2 rfl ?_
    refine wg_aload_n (pc := 28) hX dX3_answer_28 0 rfl ?_
    refine wg_gK (pc := 29) hX hM0 fd_X3_195 (by decide) dX3_answer_29 ?_
    refine wg_iload_n (pc := 32) hX dX3_answer_32 2 rfl ?_
    refine wu_ (wg_rI (pc := 33) hX ar_113 dX3_answer_33 fun v6 => ?_)
    refine wu_ (wg_wI (pc := 34) hX ar_124 dX3_answer_34 ?_)
    refine wg_iinc (pc := 35) (v := (x3 + 1)) (l' := [(0, .ref (rid 1 1)), (1, .int a1), (2, .int (x3 + 1))]) hX dX3_answer_35 2 rfl rfl (by decide) rfl ?_
    refine wg_goto (pc := 38) (tgt := 18) hX dX3_answer_38 (by decide) ?_
    exact hrec3 (x3 + 1)
  refine wg_iconst (pc := 41) (v := 0) hX dX3_answer_41 rfl ?_
  refine wg_istore_n (pc := 42) (l' := [(0, .ref (rid 1 1)), (1, .int a1), (2, .int 0)]) hX dX3_answer_42 (by decide) rfl ?_
  refine wu_lpx (α := Int32) (γ := Unit) (pcl := 43) (pcT := 154) (lo := fun x => [(0, .ref (rid 1 1)), (1, .int a1), (2, .int x)]) (so := fun _ => []) (lT := fun x => [(0, .ref (rid 1 1))]) (sT := fun _ => []) (n := amFu) (x0 := 0) (fun K7 rec7 hrec7 hk7 x7 => ?_) (fun y8 => ?_)
  · unfold p_X3_answer_L43
    refine wg_iload_n (pc := 43) hX dX3_answer_43 2 rfl ?_
    refine wg_iconst (pc := 44) (v := 3) hX dX3_answer_44 rfl ?_
    refine wg_icmp_gt (pc := 45) (tgt := 154) hX dX3_answer_45 (by decide) (fun h9 => ?_) (fun h9 => ?_)
    · refine wu_t h9 ?_
      refine wg_sub hX [0] rfl ?_
      exact wu_rt (hk7 ())
    refine wu_f h9 ?_
    refine wg_iconst (pc := 48) (v := 0) hX dX3_answer_48 rfl ?_
    refine wg_istore_n (pc := 49) (l' := [(0, .ref (rid 1 1)), (1, .int a1), (2, .int x7), (3, .int 0)]) hX dX3_answer_49 (by decide) rfl ?_
    refine wu_lpx (α := Int32) (γ := Unit) (pcl := 50) (pcT := 148) (lo := fun x => [(0, .ref (rid 1 1)), (1, .int a1), (2, .int x7), (3, .int x)]) (so := fun _ => []) (lT := fun x => [(0, .ref (rid 1 1)), (1, .int a1), (2, .int x7)]) (sT := fun _ => []) (n := amFu) (x0 := 0) (fun K10 rec10 hrec10 hk10 x10 => ?_) (fun y11 => ?_)
    · unfold p_X3_answer_L50
      refine wg_iload_n (pc := 50) hX dX3_answer_50 3 rfl ?_
      refine wg_aload_n (pc := 51) hX dX3_answer_51 0 rfl ?_
      refine wg_gK (pc := 52) hX hM0 fd_X3_241 (by decide) dX3_answer_52 ?_
      refine wg_iload_n (pc := 55) hX dX3_answer_55 2 rfl ?_
      refine wu_ (wg_rI (pc := 56) hX ar_124 dX3_answer_56 fun v12 => ?_)
      refine wg_icmp_ge (pc := 57) (tgt := 148) hX dX3_answer_57 (by decide) (fun h13 => ?_) (fun h13 => ?_)
      · refine wu_t h13 ?_
        refine wg_sub hX [0, 1, 2] rfl ?_
        exact wu_rt (hk10 ())
      refine wu_f h13 ?_
      refine wg_aload_n (pc := 60) hX dX3_answer_60 0 rfl ?_
      refine wg_iload_n (pc := 61) hX dX3_answer_61 2 rfl ?_
      refine wg_aload_n (pc := 62) hX dX3_answer_62 0 rfl ?_
      refine wg_gK (pc := 63) hX hM0 fd_X3_214 (by decide) dX3_answer_63 ?_
      refine wg_iload_n (pc := 66) hX dX3_answer_66 1 rfl ?_
      refine wu_ (wg_rI (pc := 67) hX ar_115 dX3_answer_67 fun v14 => ?_)
      refine wu_ (wg_cVi (pc := 68) (As := [.int x7, .int v14]) (rest := []) hX (m_X3_soonest x7 v14) (by decide) (by decide) (by decide) rc_X3 (lw_V q2615 q2617 qs126 q163 q2618) hd_X3_soonest rfl (Nat.le_of_ble_eq_true rfl) (Nat.le_of_ble_eq_true rfl) (Nat.le_of_ble_eq_true rfl) rfl dX3_answer_68 fun v15 => ?_)
      refine wg_istore (pc := 71) (l' := [(0, .ref (rid 1 1)), (1, .int a1), (2, .int x7), (3, .int x10), (4, .int v15)]) hX dX3_answer_71 (by decide) rfl ?_
      refine wg_iload (pc := 73) hX dX3_answer_73 4 rfl ?_
      refine wg_iconst (pc := 75) (v := (-1)) hX dX3_answer_75 rfl ?_
      refine wu_jx (α := Unit) (pcJ := 142) (lJ := fun x => [(0, .ref (rid 1 1)), (1, .int a1), (2, .int x7), (3, .int x10)]) (sJ := fun x => []) (fun K16 hk16 => ?_) (fun z16 => ?_)
      · refine wg_icmp_ne (pc := 76) (tgt := 92) hX dX3_answer_76 (by decide) (fun h17 => ?_) (fun h17 => ?_)
        · refine wu_t h17 ?_
          refine wg_aload_n (pc := 79) hX dX3_answer_79 0 rfl ?_
          refine wg_gK (pc := 80) hX hM0 fd_X3_232 (by decide) dX3_answer_80 ?_
          refine wg_iload_n (pc := 83) hX dX3_answer_83 1 rfl ?_
          refine wg_dup2 (pc := 84) hX dX3_answer_84 rfl rfl ?_
          refine wu_ (wg_rI (pc := 85) hX ar_121 dX3_answer_85 fun v18 => ?_)
          refine wg_iconst (pc := 86) (v := 1) hX dX3_answer_86 rfl ?_
          refine wg_iadd (pc := 87) hX dX3_answer_87 ?_
          refine wu_ (wg_wI (pc := 88) hX ar_121 dX3_answer_88 ?_)
          refine wg_goto (pc := 89) (tgt := 142) hX dX3_answer_89 (by decide) ?_
          refine wg_sub hX [0, 1, 2, 3] rfl ?_
          exact wu_rt (hk16 ())
        refine wu_f h17 ?_
        refine wg_aload_n (pc := 92) hX dX3_answer_92 0 rfl ?_
        refine wg_gK (pc := 93) hX hM0 fd_X3_128 (by decide) dX3_answer_93 ?_
        refine wg_iload (pc := 96) hX dX3_answer_96 4 rfl ?_
        refine wg_iconst (pc := 98) (v := 1) hX dX3_answer_98 rfl ?_
        refine wu_ (wg_wI (pc := 99) hX ar_94 dX3_answer_99 ?_)
        refine wg_aload_n (pc := 100) hX dX3_answer_100 0 rfl ?_
        refine wg_gK (pc := 101) hX hM0 fd_X3_131 (by decide) dX3_answer_101 ?_
        refine wg_iload (pc := 104) hX dX3_answer_104 4 rfl ?_
        refine wg_aload_n (pc := 106) hX dX3_answer_106 0 rfl ?_
        refine wg_gK (pc := 107) hX hM0 fd_X3_214 (by decide) dX3_answer_107 ?_
        refine wg_iload_n (pc := 110) hX dX3_answer_110 1 rfl ?_
        refine wu_ (wg_rI (pc := 111) hX ar_115 dX3_answer_111 fun v19 => ?_)
        refine wu_ (wg_wI (pc := 112) hX ar_95 dX3_answer_112 ?_)
        refine wg_aload_n (pc := 113) hX dX3_answer_113 0 rfl ?_
        refine wg_gK (pc := 114) hX hM0 fd_X3_134 (by decide) dX3_answer_114 ?_
        refine wg_iload (pc := 117) hX dX3_answer_117 4 rfl ?_
        refine wg_aload_n (pc := 119) hX dX3_answer_119 0 rfl ?_
        refine wu_ (wg_gI (pc := 120) hX fd_X3_546 dX3_answer_120 fun v20 => ?_)
        refine wu_ (wg_wI (pc := 123) hX ar_96 dX3_answer_123 ?_)
        refine wg_aload_n (pc := 124) hX dX3_answer_124 0 rfl ?_
        refine wg_gK (pc := 125) hX hM0 fd_X3_137 (by decide) dX3_answer_125 ?_
        refine wg_iload (pc := 128) hX dX3_answer_128 4 rfl ?_
        refine wg_iload_n (pc := 130) hX dX3_answer_130 1 rfl ?_
        refine wu_ (wg_wI (pc := 131) hX ar_97 dX3_answer_131 ?_)
        refine wg_aload_n (pc := 132) hX dX3_answer_132 0 rfl ?_
        refine wg_gK (pc := 133) hX hM0 fd_X3_229 (by decide) dX3_answer_133 ?_
        refine wg_iload_n (pc := 136) hX dX3_answer_136 1 rfl ?_
        refine wg_dup2 (pc := 137) hX dX3_answer_137 rfl rfl ?_
        refine wu_ (wg_rI (pc := 138) hX ar_120 dX3_answer_138 fun v21 => ?_)
        refine wg_iconst (pc := 139) (v := 1) hX dX3_answer_139 rfl ?_
        refine wg_iadd (pc := 140) hX dX3_answer_140 ?_
        refine wu_ (wg_wI (pc := 141) hX ar_120 dX3_answer_141 ?_)
        refine wg_sub hX [0, 1, 2, 3] rfl ?_
        exact wu_rt (hk16 ())
      refine wg_iinc (pc := 142) (v := (x10 + 1)) (l' := [(0, .ref (rid 1 1)), (1, .int a1), (2, .int x7), (3, .int (x10 + 1))]) hX dX3_answer_142 3 rfl rfl (by decide) rfl ?_
      refine wg_goto (pc := 145) (tgt := 50) hX dX3_answer_145 (by decide) ?_
      exact hrec10 (x10 + 1)
    refine wg_iinc (pc := 148) (v := (x7 + 1)) (l' := [(0, .ref (rid 1 1)), (1, .int a1), (2, .int (x7 + 1))]) hX dX3_answer_148 2 rfl rfl (by decide) rfl ?_
    refine wg_goto (pc := 151) (tgt := 43) hX dX3_answer_151 (by decide) ?_
    exact hrec7 (x7 + 1)
  refine wg_iconst (pc := 154) (v := 1) hX dX3_answer_154 rfl ?_
  refine wg_istore_n (pc := 155) (l' := [(0, .ref (rid 1 1)), (2, .int 1)]) hX dX3_answer_155 (by decide) rfl ?_
  refine wg_iconst (pc := 156) (v := 0) hX dX3_answer_156 rfl ?_
  refine wg_istore_n (pc := 157) (l' := [(0, .ref (rid 1 1)), (2, .int 1), (3, .int 0)]) hX dX3_answer_157 (by decide) rfl ?_
  refine wu_lpx (α := Int32 × Int32) (γ := Unit) (pcl := 158) (pcT := 250) (lo := fun x => [(0, .ref (rid 1 1)), (2, .int x.1), (3, .int x.2)]) (so := fun _ => []) (lT := fun x => []) (sT := fun _ => []) (n := amFu) (x0 := (1, 0)) (fun K22 rec22 hrec22 hk22 x22 => ?_) (fun y23 => ?_)
  · unfold p_X3_answer_L158
    refine wg_iload_n (pc := 158) hX dX3_answer_158 2 rfl ?_
    refine wg_aload_n (pc := 159) hX dX3_answer_159 0 rfl ?_
    refine wg_gK (pc := 160) hX hM0 fd_X3_241 (by decide) dX3_answer_160 ?_
    refine wg_iconst (pc := 163) (v := 4) hX dX3_answer_163 rfl ?_
    refine wu_ (wg_rI (pc := 164) hX ar_124 dX3_answer_164 fun v24 => ?_)
    refine wg_icmp_ge (pc := 165) (tgt := 250) hX dX3_answer_165 (by decide) (fun h25 => ?_) (fun h25 => ?_)
    · refine wu_t h25 ?_
      refine wg_sub hX [] rfl ?_
      exact wu_rt (hk22 ())
    refine wu_f h25 ?_
    refine wg_iload_n (pc := 168) hX dX3_answer_168 1 rfl ?_
    refine wg_if_eq (pc := 169) (tgt := 250) hX dX3_answer_169 (by decide) (fun h26 => ?_) (fun h26 => ?_)
    · refine wu_t h26 ?_
      refine wg_sub hX [] rfl ?_
      exact wu_rt (hk22 ())
    refine wu_f h26 ?_
    refine wg_aload_n (pc := 172) hX dX3_answer_172 0 rfl ?_
    refine wu_ (wg_cVi (pc := 173) (As := []) (rest := []) hX (m_X3_emptyHome) (by decide) (by decide) (by decide) rc_X3 (lw_V q2623 q2625 qs128 q163 q2626) hd_X3_emptyHome rfl (Nat.le_of_ble_eq_true rfl) (Nat.le_of_ble_eq_true rfl) (Nat.le_of_ble_eq_true rfl) rfl dX3_answer_173 fun v27 => ?_)
    refine wg_istore (pc := 176) (l' := [(0, .ref (rid 1 1)), (2, .int x22.1), (3, .int x22.2), (4, .int v27)]) hX dX3_answer_176 (by decide) rfl ?_
    refine wg_iload (pc := 178) hX dX3_answer_178 3 rfl ?_
    refine wg_iconst (pc := 180) (v := (-1)) hX dX3_answer_180 rfl ?_
    refine wu_jx (α := Int32) (pcJ := 195) (lJ := fun x => [(0, .ref (rid 1 1)), (3, .int x22.2), (4, .int v27)]) (sJ := fun x => [.int x]) (fun K28 hk28 => ?_) (fun z28 => ?_)
    · refine wg_icmp_ne (pc := 181) (tgt := 188) hX dX3_answer_181 (by decide) (fun h29 => ?_) (fun h29 => ?_)
      · refine wu_t h29 ?_
        refine wg_iconst (pc := 184) (v := (-1)) hX dX3_answer_184 rfl ?_
        refine wg_goto (pc := 185) (tgt := 195) hX dX3_answer_185 (by decide) ?_
        refine wg_sub hX [0, 2, 3] rfl ?_
        exact wu_rt (hk28 (-1))
      refine wu_f h29 ?_
      refine wg_aload_n (pc := 188) hX dX3_answer_188 0 rfl ?_
      refine wg_iconst (pc := 189) (v := (-1)) hX dX3_answer_189 rfl ?_
      refine wg_iload (pc := 190) hX dX3_answer_190 3 rfl ?_
      refine wu_ (wg_cVi (pc := 192) (As := [.int (-1), .int v27]) (rest := []) hX (m_X3_soonest (-1) v27) (by decide) (by decide) (by decide) rc_X3 (lw_V q2615 q2617 qs126 q163 q2618) hd_X3_soonest rfl (Nat.le_of_ble_eq_true rfl) (Nat.le_of_ble_eq_true rfl) (Nat.le_of_ble_eq_true rfl) rfl dX3_answer_192 fun v30 => ?_)
      refine wg_sub hX [0, 2, 3] rfl ?_
      exact wu_rt (hk28 v30)
    refine wg_istore (pc := 195) (l' := [(0, .ref (rid 1 1)), (3, .int x22.2), (4, .int v27), (5, .int z28)]) hX dX3_answer_195 (by decide) rfl ?_
    refine wg_iload (pc := 197) hX dX3_answer_197 3 rfl ?_
    refine wg_iconst (pc := 199) (v := (-1)) hX dX3_answer_199 rfl ?_
    refine wu_jx (α := Int32) (pcJ := 208) (lJ := fun x => [(0, .ref (rid 1 1)), (3, .int x22.2), (4, .int v27), (5, .int z28)]) (sJ := fun x => [.int x]) (fun K31 hk31 => ?_) (fun z31 => ?_)
    · refine wg_icmp_eq (pc := 200) (tgt := 207) hX dX3_answer_200 (by decide) (fun h32 => ?_) (fun h32 => ?_)
      · refine wu_t h32 ?_
        refine wg_iconst (pc := 207) (v := 0) hX dX3_answer_207 rfl ?_
        exact wu_rt (hk31 0)
      refine wu_f h32 ?_
      refine wg_iconst (pc := 203) (v := 1) hX dX3_answer_203 rfl ?_
      refine wg_goto (pc := 204) (tgt := 208) hX dX3_answer_204 (by decide) ?_
      exact wu_rt (hk31 1)
    refine wg_istore_n (pc := 208) (l' := [(0, .ref (rid 1 1)), (2, .int z31), (3, .int x22.2), (4, .int v27), (5, .int z28)]) hX dX3_answer_208 (by decide) rfl ?_
    refine wg_iload_n (pc := 209) hX dX3_answer_209 1 rfl ?_
    refine wu_jx (α := Unit) (pcJ := 244) (lJ := fun x => [(0, .ref (rid 1 1)), (2, .int z31), (3, .int x22.2)]) (sJ := fun x => []) (fun K33 hk33 => ?_) (fun z33 => ?_)
    · refine wg_if_ne (pc := 210) (tgt := 216) hX dX3_answer_210 (by decide) (fun h34 => ?_) (fun h34 => ?_)
      · refine wu_t h34 ?_
        refine wg_goto (pc := 213) (tgt := 244) hX dX3_answer_213 (by decide) ?_
        refine wg_sub hX [0, 1, 2] rfl ?_
        exact wu_rt (hk33 ())
      refine wu_f h34 ?_
      refine wg_aload_n (pc := 216) hX dX3_answer_216 0 rfl ?_
      refine wg_gK (pc := 217) hX hM0 fd_X3_128 (by decide) dX3_answer_217 ?_
      refine wg_iload (pc := 220) hX dX3_answer_220 4 rfl ?_
      refine wg_iconst (pc := 222) (v := 3) hX dX3_answer_222 rfl ?_
      refine wu_ (wg_wI (pc := 223) hX ar_94 dX3_answer_223 ?_)
      refine wg_aload_n (pc := 224) hX dX3_answer_224 0 rfl ?_
      refine wg_gK (pc := 225) hX hM0 fd_X3_131 (by decide) dX3_answer_225 ?_
      refine wg_iload (pc := 228) hX dX3_answer_228 4 rfl ?_
      refine wg_iload (pc := 230) hX dX3_answer_230 3 rfl ?_
      refine wu_ (wg_wI (pc := 232) hX ar_95 dX3_answer_232 ?_)
      refine wg_aload_n (pc := 233) hX dX3_answer_233 0 rfl ?_
      refine wg_gK (pc := 234) hX hM0 fd_X3_134 (by decide) dX3_answer_234 ?_
      refine wg_iload (pc := 237) hX dX3_answer_237 4 rfl ?_
      refine wg_aload_n (pc := 239) hX dX3_answer_239 0 rfl ?_
      refine wu_ (wg_gI (pc := 240) hX fd_X3_546 dX3_answer_240 fun v35 => ?_)
      refine wu_ (wg_wI (pc := 243) hX ar_96 dX3_answer_243 ?_)
      refine wg_sub hX [0, 1, 2] rfl ?_
      exact wu_rt (hk33 ())
    refine wg_iinc (pc := 244) (v := (x22.2 + 1)) (l' := [(0, .ref (rid 1 1)), (2, .int z31), (3, .int (x22.2 + 1))]) hX dX3_answer_244 2 rfl rfl (by decide) rfl ?_
    refine wg_goto (pc := 247) (tgt := 158) hX dX3_answer_247 (by decide) ?_
    exact hrec22 (z31, (x22.2 + 1))
  exact wu_rt (wg_vret (pc := 250) hX rfl rfl dX3_answer_250)
theorem m_X3_call (a1 : Int32) : amMet yX3_call cX3_call 3 (some .int) 139 3350 encI [.ref (rid 1 1), .int a1] (up (p_X3_call a1)) := by
  refine amMet.of (own := RX3) (by decide) rfl (Nat.le_of_ble_eq_true rfl) fun X hX hPs => ?_
  change WG X encI 0 [(0, .ref (rid 1 1)), (1, .int a1)] [] (bd1 (up (p_X3_call a1)) rt1)
  unfold p_X3_call
  have hM0 := amPs.m0 hPs
  refine wu_ (wg_gM ?_)
  refine wg_aload_n (pc := 0) hX dX3_call_0 0 rfl ?_
  refine wg_iconst (pc := 1) (v := 0) hX dX3_call_1 rfl ?_
  refine wu_ (wg_pI (pc := 2) hX fp_X3_297 (fun h => by cases h) dX3_call_2 ?_)
  refine wg_iload_n (pc := 5) hX dX3_call_5 1 rfl ?_
  refine wu_ (wg_cSi (pc := 6) (As := [.int a1]) (rest := []) hX (m_X3_isCorner a1) (lw_S q2314 q2315 q163 q2316) hd_X3_isCorner rfl (Nat.le_of_ble_eq_true rfl) (Nat.le_of_ble_eq_true rfl) (Nat.le_of_ble_eq_true rfl) rfl dX3_call_6 fun v1 => ?_)
  refine wg_if_ne (pc := 9) (tgt := 14) hX dX3_call_9 (by decide) (fun h2 => ?_) (fun h2 => ?_)
  · refine wu_t h2 ?_
    refine wg_iconst (pc := 12) (v := (-1)) hX dX3_call_12 rfl ?_
    exact wu_rt (wg_iret (pc := 13) hX rfl rfl dX3_call_13)
  refine wu_f h2 ?_
  refine wg_aload_n (pc := 14) hX dX3_call_14 0 rfl ?_
  refine wg_iload_n (pc := 15) hX dX3_call_15 1 rfl ?_
  refine wu_ (wg_cVi (pc := 16) (As := [.int a1]) (rest := []) hX (m_X3_openAt a1) (by decide) (by decide) (by decide) rc_X3 (lw_V q2376 q2378 qs93 q163 q2379) hd_X3_openAt rfl (Nat.le_of_ble_eq_true rfl) (Nat.le_of_ble_eq_true rfl) (Nat.le_of_ble_eq_true rfl) rfl dX3_call_16 fun v3 => ?_)
  refine wg_istore_n (pc := 19) (l' := [(0, .ref (rid 1 1)), (1, .int a1), (2, .int v3)]) hX dX3_call_19 (by decide) rfl ?_
  refine wg_iload_n (pc := 20) hX dX3_call_20 2 rfl ?_
  refine wg_iconst (pc := 21) (v := (-1)) hX dX3_call_21 rfl ?_
  refine wu_jn (α := Int32) (pcJ := 93) (lJ := fun x => [(0, .ref (rid 1 1)), (2, .int x)]) (sJ := fun x => []) (fun k4 hk4 => ?_) (fun z4 => ?_)
  · refine wg_icmp_ne (pc := 22) (tgt := 93) hX dX3_call_22 (by decide) (fun h5 => ?_) (fun h5 => ?_)
    rotate_left
    · refine wu_f h5 ?_
      refine wg_sub hX [0, 2] rfl ?_
      exact hk4 v3
    refine wu_t h5 ?_
    refine wg_aload_n (pc := 25) hX dX3_call_25 0 rfl ?_
    refine wu_ (wg_gI (pc := 26) hX fd_X3_525 dX3_call_26 fun v6 => ?_)
    refine wg_bipush (pc := 29) (v := 60) hX dX3_call_29 rfl ?_
    refine wg_icmp_ne (pc := 31) (tgt := 36) hX dX3_call_31 (by decide) (fun h7 => ?_) (fun h7 => ?_)
    · refine wu_t h7 ?_
      refine wg_iconst (pc := 34) (v := (-1)) hX dX3_call_34 rfl ?_
      exact wu_rt (wg_iret (pc := 35) hX rfl rfl dX3_call_35)
    refine wu_f h7 ?_
    refine wg_aload_n (pc := 36) hX dX3_call_36 0 rfl ?_
    refine wu_ (wg_gI (pc := 37) hX fd_X3_525 dX3_call_37 fun v8 => ?_)
    refine wg_istore_n (pc := 40) (l' := [(0, .ref (rid 1 1)), (1, .int a1), (2, .int v8)]) hX dX3_call_40 (by decide) rfl ?_
    refine wg_aload_n (pc := 41) hX dX3_call_41 0 rfl ?_
    refine wg_gK (pc := 42) hX hM0 fd_X3_214 (by decide) dX3_call_42 ?_
    refine wg_iload_n (pc := 45) hX dX3_call_45 2 rfl ?_
    refine wg_iload_n (pc := 46) hX dX3_call_46 1 rfl ?_
    refine wu_ (wg_wI (pc := 47) hX ar_115 dX3_call_47 ?_)
    refine wg_aload_n (pc := 48) hX dX3_call_48 0 rfl ?_
    refine wg_gK (pc := 49) hX hM0 fd_X3_217 (by decide) dX3_call_49 ?_
    refine wg_iload_n (pc := 52) hX dX3_call_52 2 rfl ?_
    refine wg_iconst (pc := 53) (v := 0) hX dX3_call_53 rfl ?_
    refine wu_ (wg_wI (pc := 54) hX ar_116 dX3_call_54 ?_)
    refine wg_aload_n (pc := 55) hX dX3_call_55 0 rfl ?_
    refine wg_gK (pc := 56) hX hM0 fd_X3_223 (by decide) dX3_call_56 ?_
    refine wg_iload_n (pc := 59) hX dX3_call_59 2 rfl ?_
    refine wg_aload_n (pc := 60) hX dX3_call_60 0 rfl ?_
    refine wu_ (wg_gI (pc := 61) hX fd_X3_395 dX3_call_61 fun v9 => ?_)
    refine wu_ (wg_wI (pc := 64) hX ar_118 dX3_call_64 ?_)
    refine wg_aload_n (pc := 65) hX dX3_call_65 0 rfl ?_
    refine wg_gK (pc := 66) hX hM0 fd_X3_226 (by decide) dX3_call_66 ?_
    refine wg_iload_n (pc := 69) hX dX3_call_69 2 rfl ?_
    refine wg_iconst (pc := 70) (v := (-1)) hX dX3_call_70 rfl ?_
    refine wu_ (wg_wI (pc := 71) hX ar_119 dX3_call_71 ?_)
    refine wg_aload_n (pc := 72) hX dX3_call_72 0 rfl ?_
    refine wg_dup (pc := 73) hX dX3_call_73 rfl ?_
    refine wu_ (wg_gI (pc := 74) hX fd_X3_525 dX3_call_74 fun v10 => ?_)
    refine wg_iconst (pc := 77) (v := 1) hX dX3_call_77 rfl ?_
    refine wg_iadd (pc := 78) hX dX3_call_78 ?_
    refine wu_ (wg_pI (pc := 79) hX fp_X3_525 (fun h => by cases h) dX3_call_79 ?_)
    refine wg_aload_n (pc := 82) hX dX3_call_82 0 rfl ?_
    refine wg_gK (pc := 83) hX hM0 fd_X3_238 (by decide) dX3_call_83 ?_
    refine wg_iload_n (pc := 86) hX dX3_call_86 2 rfl ?_
    refine wg_aload_n (pc := 87) hX dX3_call_87 0 rfl ?_
    refine wg_iload_n (pc := 88) hX dX3_call_88 1 rfl ?_
    refine wu_ (wg_cVi (pc := 89) (As := [.int a1]) (rest := [.int v8, .ref (rid 123 1)]) hX (m_X3_burnsAt a1) (by decide) (by decide) (by decide) rc_X3 (lw_V q2380 q2382 qs94 q163 q2383) hd_X3_burnsAt rfl (Nat.le_of_ble_eq_true rfl) (Nat.le_of_ble_eq_true rfl) (Nat.le_of_ble_eq_true rfl) rfl dX3_call_89 fun v11 => ?_)
    refine wu_ (wg_gd fun h12 => ?_)
    refine wu_ (wg_wZ (pc := 92) hX ar_123 h12 dX3_call_92 ?_)
    refine wg_sub hX [0, 2] rfl ?_
    exact hk4 v8
  refine wg_aload_n (pc := 93) hX dX3_call_93 0 rfl ?_
  refine wg_gK (pc := 94) hX hM0 fd_X3_235 (by decide) dX3_call_94 ?_
  refine wg_iload_n (pc := 97) hX dX3_call_97 1 rfl ?_
  refine wg_dup2 (pc := 98) hX dX3_call_98 rfl rfl ?_
  refine wu_ (wg_rI (pc := 99) hX ar_122 dX3_call_99 fun v13 => ?_)
  refine wg_iconst (pc := 100) (v := 1) hX dX3_call_100 rfl ?_
  refine wg_iadd (pc := 101) hX dX3_call_101 ?_
  refine wu_ (wg_wI (pc := 102) hX ar_122 dX3_call_102 ?_)
  refine wg_aload_n (pc := 103) hX dX3_call_103 0 rfl ?_
  refine wg_gK (pc := 104) hX hM0 fd_X3_217 (by decide) dX3_call_104 ?_
  refine wg_iload_n (pc := 107) hX dX3_call_107 1 rfl ?_
  refine wu_ (wg_rI (pc := 108) hX ar_116 dX3_call_108 fun v14 => ?_)
  refine wg_iconst (pc := 109) (v := 3) hX dX3_call_109 rfl ?_
  refine wg_icmp_ne (pc := 110) (tgt := 115) hX dX3_call_110 (by decide) (fun h15 => ?_) (fun h15 => ?_)
  · refine wu_t h15 ?_
    refine wg_iload_n (pc := 113) hX dX3_call_113 1 rfl ?_
    exact wu_rt (wg_iret (pc := 114) hX rfl rfl dX3_call_114)
  refine wu_f h15 ?_
  refine wg_aload_n (pc := 115) hX dX3_call_115 0 rfl ?_
  refine wg_gK (pc := 116) hX hM0 fd_X3_217 (by decide) dX3_call_116 ?_
  refine wg_iload_n (pc := 119) hX dX3_call_119 1 rfl ?_
  refine wg_dup2 (pc := 120) hX dX3_call_120 rfl rfl ?_
  refine wu_ (wg_rI (pc := 121) hX ar_116 dX3_call_121 fun v16 => ?_)
  refine wg_iconst (pc := 122) (v := 1) hX dX3_call_122 rfl ?_
  refine wg_iadd (pc := 123) hX dX3_call_123 ?_
  refine wu_ (wg_wI (pc := 124) hX ar_116 dX3_call_124 ?_)
  refine wg_aload_n (pc := 125) hX dX3_call_125 0 rfl ?_
  refine wg_iload_n (pc := 126) hX dX3_call_126 1 rfl ?_
  refine wu_ (wg_cVv (pc := 127) (As := [.int z4]) (rest := []) hX (m_X3_answer z4) (by decide) (by decide) (by decide) rc_X3 (lw_V q2611 q2613 qs125 q163 q2614) hd_X3_answer rfl (Nat.le_of_ble_eq_true rfl) (Nat.le_of_ble_eq_true rfl) (Nat.le_of_ble_eq_true rfl) rfl dX3_call_127 ?_)
  refine wg_iload_n (pc := 130) hX dX3_call_130 1 rfl ?_
  exact wu_rt (wg_iret (pc := 131) hX rfl rfl dX3_call_131)
theorem m_X3_called (a1 : Int32) (a2 : Int32) : amMet yX3_called cX3_called 3 (some .int) 1 32 encI [.ref (rid 1 1), .int a1, .int a2] (up (p_X3_called a1 a2)) := by
  refine amMet.of (own := RX3) (by decide) rfl (Nat.le_of_ble_eq_true rfl) fun X hX hPs => ?_
  change WG X encI 0 [(0, .ref (rid 1 1)), (1, .int a1), (2, .int a2)] [] (bd1 (up (p_X3_called a1 a2)) rt1)
  unfold p_X3_called
  have hM0 := amPs.m0 hPs
  refine wu_ (wg_gM ?_)
  refine wg_aload_n (pc := 0) hX dX3_called_0 0 rfl ?_
  refine wg_iconst (pc := 1) (v := 0) hX dX3_called_1 rfl ?_
  refine wu_ (wg_pI (pc := 2) hX fp_X3_297 (fun h => by cases h) dX3_called_2 ?_)
  refine wg_iload_n (pc := 5) hX dX3_called_5 1 rfl ?_
  refine wg_if_lt (pc := 6) (tgt := 17) hX dX3_called_6 (by decide) (fun h1 => ?_) (fun h1 => ?_)
  · refine wu_t h1 ?_
    refine wg_iconst (pc := 17) (v := (-1)) hX dX3_called_17 rfl ?_
    exact wu_rt (wg_iret (pc := 18) hX rfl rfl dX3_called_18)
  refine wu_f h1 ?_
  refine wg_iload_n (pc := 9) hX dX3_called_9 1 rfl ?_
  refine wg_aload_n (pc := 10) hX dX3_called_10 0 rfl ?_
  refine wu_ (wg_gI (pc := 11) hX fd_X3_525 dX3_called_11 fun v2 => ?_)
  refine wg_icmp_lt (pc := 14) (tgt := 19) hX dX3_called_14 (by decide) (fun h3 => ?_) (fun h3 => ?_)
  rotate_left
  · refine wu_f h3 ?_
    refine wg_iconst (pc := 17) (v := (-1)) hX dX3_called_17 rfl ?_
    exact wu_rt (wg_iret (pc := 18) hX rfl rfl dX3_called_18)
  refine wu_t h3 ?_
  refine wg_iload_n (pc := 19) hX dX3_called_19 2 rfl ?_
  by_cases h4 : a2 = 0
  · refine wu_t h4 ?_
    refine wg_tableIn (pc := 20) hX dX3_called_20 (by rw [h4]; decide) (by rw [h4]; decide) (by rw [h4]; rfl) (by decide : ((20 : Nat) : Int) + 48 = ((68 : Nat) : Int)) ?_
    refine wg_aload_n (pc := 68) hX dX3_called_68 0 rfl ?_
    refine wg_gK (pc := 69) hX hM0 fd_X3_214 (by decide) dX3_called_69 ?_
    refine wg_iload_n (pc := 72) hX dX3_called_72 1 rfl ?_
    refine wu_ (wg_rI (pc := 73) hX ar_115 dX3_called_73 fun v5 => ?_)
    exact wu_rt (wg_iret (pc := 74) hX rfl rfl dX3_called_74)
  refine wu_f h4 ?_
  by_cases h6 : a2 = 1
  · refine wu_t h6 ?_
    refine wg_tableIn (pc := 20) hX dX3_called_20 (by rw [h6]; decide) (by rw [h6]; decide) (by rw [h6]; rfl) (by decide : ((20 : Nat) : Int) + 55 = ((75 : Nat) : Int)) ?_
    refine wg_aload_n (pc := 75) hX dX3_called_75 0 rfl ?_
    refine wg_gK (pc := 76) hX hM0 fd_X3_217 (by decide) dX3_called_76 ?_
    refine wg_iload_n (pc := 79) hX dX3_called_79 1 rfl ?_
    refine wu_ (wg_rI (pc := 80) hX ar_116 dX3_called_80 fun v7 => ?_)
    exact wu_rt (wg_iret (pc := 81) hX rfl rfl dX3_called_81)
  refine wu_f h6 ?_
  by_cases h8 : a2 = 2
  · refine wu_t h8 ?_
    refine wg_tableIn (pc := 20) hX dX3_called_20 (by rw [h8]; decide) (by rw [h8]; decide) (by rw [h8]; rfl) (by decide : ((20 : Nat) : Int) + 62 = ((82 : Nat) : Int)) ?_
    refine wg_aload_n (pc := 82) hX dX3_called_82 0 rfl ?_
    refine wg_gK (pc := 83) hX hM0 fd_X3_220 (by decide) dX3_called_83 ?_
    refine wg_iload_n (pc := 86) hX dX3_called_86 1 rfl ?_
    refine wu_ (wg_rI (pc := 87) hX ar_117 dX3_called_87 fun v9 => ?_)
    exact wu_rt (wg_iret (pc := 88) hX rfl rfl dX3_called_88)
  refine wu_f h8 ?_
  by_cases h10 : a2 = 3
  · refine wu_t h10 ?_
    refine wg_tableIn (pc := 20) hX dX3_called_20 (by rw [h10]; decide) (by rw [h10]; decide) (by rw [h10]; rfl) (by decide : ((20 : Nat) : Int) + 69 = ((89 : Nat) : Int)) ?_
    refine wg_aload_n (pc := 89) hX dX3_called_89 0 rfl ?_
    refine wg_gK (pc := 90) hX hM0 fd_X3_223 (by decide) dX3_called_90 ?_
    refine wg_iload_n (pc := 93) hX dX3_called_93 1 rfl ?_
    refine wu_ (wg_rI (pc := 94) hX ar_118 dX3_called_94 fun v11 => ?_)
    exact wu_rt (wg_iret (pc := 95) hX rfl rfl dX3_called_95)
  refine wu_f h10 ?_
  by_cases h12 : a2 = 4
  · refine wu_t h12 ?_
    refine wg_tableIn (pc := 20) hX dX3_called_20 (by rw [h12]; decide) (by rw [h12]; decide) (by rw [h12]; rfl) (by decide : ((20 : Nat) : Int) + 76 = ((96 : Nat) : Int)) ?_
    refine wg_aload_n (pc := 96) hX dX3_called_96 0 rfl ?_
    refine wg_gK (pc := 97) hX hM0 fd_X3_226 (by decide) dX3_called_97 ?_
    refine wg_iload_n (pc := 100) hX dX3_called_100 1 rfl ?_
    refine wu_ (wg_rI (pc := 101) hX ar_119 dX3_called_101 fun v13 => ?_)
    exact wu_rt (wg_iret (pc := 102) hX rfl rfl dX3_called_102)
  refine wu_f h12 ?_
  by_cases h14 : a2 = 5
  · refine wu_t h14 ?_
    refine wg_tableIn (pc := 20) hX dX3_called_20 (by rw [h14]; decide) (by rw [h14]; decide) (by rw [h14]; rfl) (by decide : ((20 : Nat) : Int) + 83 = ((103 : Nat) : Int)) ?_
    refine wg_aload_n (pc := 103) hX dX3_called_103 0 rfl ?_
    refine wg_gK (pc := 104) hX hM0 fd_X3_229 (by decide) dX3_called_104 ?_
    refine wg_iload_n (pc := 107) hX dX3_called_107 1 rfl ?_
    refine wu_ (wg_rI (pc := 108) hX ar_120 dX3_called_108 fun v15 => ?_)
    exact wu_rt (wg_iret (pc := 109) hX rfl rfl dX3_called_109)
  refine wu_f h14 ?_
  by_cases h16 : a2 = 6
  · refine wu_t h16 ?_
    refine wg_tableIn (pc := 20) hX dX3_called_20 (by rw [h16]; decide) (by rw [h16]; decide) (by rw [h16]; rfl) (by decide : ((20 : Nat) : Int) + 90 = ((110 : Nat) : Int)) ?_
    refine wg_aload_n (pc := 110) hX dX3_called_110 0 rfl ?_
    refine wg_gK (pc := 111) hX hM0 fd_X3_232 (by decide) dX3_called_111 ?_
    refine wg_iload_n (pc := 114) hX dX3_called_114 1 rfl ?_
    refine wu_ (wg_rI (pc := 115) hX ar_121 dX3_called_115 fun v17 => ?_)
    exact wu_rt (wg_iret (pc := 116) hX rfl rfl dX3_called_116)
  refine wu_f h16 ?_
  by_cases h18 : a2 = 7
  · refine wu_t h18 ?_
    refine wg_tableIn (pc := 20) hX dX3_called_20 (by rw [h18]; decide) (by rw [h18]; decide) (by rw [h18]; rfl) (by decide : ((20 : Nat) : Int) + 97 = ((117 : Nat) : Int)) ?_
    refine wg_aload_n (pc := 117) hX dX3_called_117 0 rfl ?_
    refine wg_gK (pc := 118) hX hM0 fd_X3_235 (by decide) dX3_called_118 ?_
    refine wg_iload_n (pc := 121) hX dX3_called_121 1 rfl ?_
    refine wu_ (wg_rI (pc := 122) hX ar_122 dX3_called_122 fun v19 => ?_)
    exact wu_rt (wg_iret (pc := 123) hX rfl rfl dX3_called_123)
  refine wu_f h18 ?_
  refine wg_tableOut (pc := 20) hX dX3_called_20 (am_out8 h4 h6 h8 h10 h12 h14 h16 h18) (by decide : ((20 : Nat) : Int) + 104 = ((124 : Nat) : Int)) ?_
  refine wg_iconst (pc := 124) (v := (-1)) hX dX3_called_124 rfl ?_
  exact wu_rt (wg_iret (pc := 125) hX rfl rfl dX3_called_125)
theorem m_X3_worstAt (a1 : Int32) : amMet yX3_worstAt cX3_worstAt 4 (some .int) 4 100 encI [.ref (rid 1 1), .int a1] (up (p_X3_worstAt a1)) := by
  refine amMet.of (own := RX3) (by decide) rfl (Nat.le_of_ble_eq_true rfl) fun X hX hPs => ?_
  change WG X encI 0 [(0, .ref (rid 1 1)), (1, .int a1)] [] (bd1 (up (p_X3_worstAt a1)) rt1)
  unfold p_X3_worstAt
  have hM0 := amPs.m0 hPs
  refine wu_ (wg_gM ?_)
  refine wg_iconst (pc := 0) (v := (-1)) hX dX3_worstAt_0 rfl ?_
  refine wg_istore_n (pc := 1) (l' := [(0, .ref (rid 1 1)), (1, .int a1), (2, .int (-1))]) hX dX3_worstAt_1 (by decide) rfl ?_
  refine wg_iconst (pc := 2) (v := 0) hX dX3_worstAt_2 rfl ?_
  refine wg_istore_n (pc := 3) (l' := [(0, .ref (rid 1 1)), (1, .int a1), (2, .int (-1)), (3, .int 0)]) hX dX3_worstAt_3 (by decide) rfl ?_
  refine wu_lpx (α := Int32 × Int32) (γ := Int32) (pcl := 4) (pcT := 52) (lo := fun x => [(0, .ref (rid 1 1)), (1, .int a1), (2, .int x.1), (3, .int x.2)]) (so := fun _ => []) (lT := fun x => [(2, .int x)]) (sT := fun _ => []) (n := amFu) (x0 := ((-1), 0)) (fun K1 rec1 hrec1 hk1 x1 => ?_) (fun y2 => ?_)
  · unfold p_X3_worstAt_L4
    refine wg_iload_n (pc := 4) hX dX3_worstAt_4 3 rfl ?_
    refine wg_aload_n (pc := 5) hX dX3_worstAt_5 0 rfl ?_
    refine wu_ (wg_gI (pc := 6) hX fd_X3_331 dX3_worstAt_6 fun v3 => ?_)
    refine wg_icmp_ge (pc := 9) (tgt := 52) hX dX3_worstAt_9 (by decide) (fun h4 => ?_) (fun h4 => ?_)
    · refine wu_t h4 ?_
      refine wg_sub hX [2] rfl ?_
      exact wu_rt (hk1 x1.1)
    refine wu_f h4 ?_
    refine wg_aload_n (pc := 12) hX dX3_worstAt_12 0 rfl ?_
    refine wg_gK (pc := 13) hX hM0 fd_X3_32 (by decide) dX3_worstAt_13 ?_
    refine wg_iload_n (pc := 16) hX dX3_worstAt_16 3 rfl ?_
    refine wu_ (wg_rI (pc := 17) hX ar_62 dX3_worstAt_17 fun v5 => ?_)
    refine wg_iload_n (pc := 18) hX dX3_worstAt_18 1 rfl ?_
    refine wu_jx (α := Int32) (pcJ := 46) (lJ := fun x => [(0, .ref (rid 1 1)), (1, .int a1), (2, .int x), (3, .int x1.2)]) (sJ := fun x => []) (fun K6 hk6 => ?_) (fun z6 => ?_)
    · refine wg_icmp_ne (pc := 19) (tgt := 46) hX dX3_worstAt_19 (by decide) (fun h7 => ?_) (fun h7 => ?_)
      rotate_left
      · refine wu_f h7 ?_
        exact wu_rt (hk6 x1.1)
      refine wu_t h7 ?_
      refine wg_aload_n (pc := 22) hX dX3_worstAt_22 0 rfl ?_
      refine wg_iload_n (pc := 23) hX dX3_worstAt_23 3 rfl ?_
      refine wu_ (wg_cVi (pc := 24) (As := [.int x1.2]) (rest := []) hX (m_X3_burning x1.2) (by decide) (by decide) (by decide) rc_X3 (lw_V q2384 q2386 qs95 q163 q2387) hd_X3_burning rfl (Nat.le_of_ble_eq_true rfl) (Nat.le_of_ble_eq_true rfl) (Nat.le_of_ble_eq_true rfl) rfl dX3_worstAt_24 fun v8 => ?_)
      refine wg_iload_n (pc := 27) hX dX3_worstAt_27 2 rfl ?_
      refine wg_iconst (pc := 28) (v := (-1)) hX dX3_worstAt_28 rfl ?_
      refine wu_jx (α := Int32) (pcJ := 41) (lJ := fun x => [(0, .ref (rid 1 1)), (1, .int a1), (2, .int x1.1), (3, .int x1.2)]) (sJ := fun x => [.int x, .int v8]) (fun K9 hk9 => ?_) (fun z9 => ?_)
      · refine wg_icmp_ne (pc := 29) (tgt := 36) hX dX3_worstAt_29 (by decide) (fun h10 => ?_) (fun h10 => ?_)
        · refine wu_t h10 ?_
          refine wg_iconst (pc := 32) (v := 0) hX dX3_worstAt_32 rfl ?_
          refine wg_goto (pc := 33) (tgt := 41) hX dX3_worstAt_33 (by decide) ?_
          exact wu_rt (hk9 0)
        refine wu_f h10 ?_
        refine wg_aload_n (pc := 36) hX dX3_worstAt_36 0 rfl ?_
        refine wg_iload_n (pc := 37) hX dX3_worstAt_37 2 rfl ?_
        refine wu_ (wg_cVi (pc := 38) (As := [.int x1.1]) (rest := [.int v8]) hX (m_X3_burning x1.1) (by decide) (by decide) (by decide) rc_X3 (lw_V q2384 q2386 qs95 q163 q2387) hd_X3_burning rfl (Nat.le_of_ble_eq_true rfl) (Nat.le_of_ble_eq_true rfl) (Nat.le_of_ble_eq_true rfl) rfl dX3_worstAt_38 fun v11 => ?_)
        exact wu_rt (hk9 v11)
      refine wg_icmp_le (pc := 41) (tgt := 46) hX dX3_worstAt_41 (by decide) (fun h12 => ?_) (fun h12 => ?_)
      · refine wu_t h12 ?_
        exact wu_rt (hk6 x1.1)
      refine wu_f h12 ?_
      refine wg_iload_n (pc := 44) hX dX3_worstAt_44 3 rfl ?_
      refine wg_istore_n (pc := 45) (l' := [(0, .ref (rid 1 1)), (1, .int a1), (2, .int x1.2), (3, .int x1.2)]) hX dX3_worstAt_45 (by decide) rfl ?_
      exact wu_rt (hk6 x1.2)
    refine wg_iinc (pc := 46) (v := (x1.2 + 1)) (l' := [(0, .ref (rid 1 1)), (1, .int a1), (2, .int z6), (3, .int (x1.2 + 1))]) hX dX3_worstAt_46 3 rfl rfl (by decide) rfl ?_
    refine wg_goto (pc := 49) (tgt := 4) hX dX3_worstAt_49 (by decide) ?_
    exact hrec1 (z6, (x1.2 + 1))
  refine wg_iload_n (pc := 52) hX dX3_worstAt_52 0 rfl ?_
  exact wu_rt (wg_iret (pc := 53) hX rfl rfl dX3_worstAt_53)
theorem m_X3_close (a1 : Int32) (a2 : Int32) : amMet yX3_close cX3_close 3 none 1 32 encV [.ref (rid 1 1), .int a1, .int a2] (up (p_X3_close a1 a2)) := by
  refine amMet.of (own := RX3) (by decide) rfl (Nat.le_of_ble_eq_true rfl) fun X hX hPs => ?_
  change WG X encV 0 [(0, .ref (rid 1 1)), (1, .int a1), (2, .int a2)] [] (bd1 (up (p_X3_close a1 a2)) rt1)
  unfold p_X3_close
  have hM0 := amPs.m0 hPs
  refine wu_ (wg_gM ?_)
  refine wg_aload_n (pc := 0) hX dX3_close_0 0 rfl ?_
  refine wg_gK (pc := 1) hX hM0 fd_X3_220 (by decide) dX3_close_1 ?_
  refine wg_iload_n (pc := 4) hX dX3_close_4 1 rfl ?_
  refine wg_iload_n (pc := 5) hX dX3_close_5 2 rfl ?_
  refine wu_jx (α := Int32) (pcJ := 14) (lJ := fun x => [(0, .ref (rid 1 1)), (1, .int a1)]) (sJ := fun x => [.int x, .int a1, .ref (rid 117 1)]) (fun K1 hk1 => ?_) (fun z1 => ?_)
  · refine wg_if_eq (pc := 6) (tgt := 13) hX dX3_close_6 (by decide) (fun h2 => ?_) (fun h2 => ?_)
    · refine wu_t h2 ?_
      refine wg_iconst (pc := 13) (v := 1) hX dX3_close_13 rfl ?_
      refine wg_sub hX [0, 1] rfl ?_
      exact wu_rt (hk1 1)
    refine wu_f h2 ?_
    refine wg_iconst (pc := 9) (v := 2) hX dX3_close_9 rfl ?_
    refine wg_goto (pc := 10) (tgt := 14) hX dX3_close_10 (by decide) ?_
    refine wg_sub hX [0, 1] rfl ?_
    exact wu_rt (hk1 2)
  refine wu_ (wg_wI (pc := 14) hX ar_117 dX3_close_14 ?_)
  refine wg_aload_n (pc := 15) hX dX3_close_15 0 rfl ?_
  refine wg_gK (pc := 16) hX hM0 fd_X3_226 (by decide) dX3_close_16 ?_
  refine wg_iload_n (pc := 19) hX dX3_close_19 1 rfl ?_
  refine wg_aload_n (pc := 20) hX dX3_close_20 0 rfl ?_
  refine wu_ (wg_gI (pc := 21) hX fd_X3_395 dX3_close_21 fun v3 => ?_)
  refine wu_ (wg_wI (pc := 24) hX ar_119 dX3_close_24 ?_)
  exact wu_rt (wg_vret (pc := 25) hX rfl rfl dX3_close_25)
theorem m_X3_arrives (a1 : Int32) : amMet yX3_arrives cX3_arrives 5 none 5 123 encV [.ref (rid 1 1), .int a1] (up (p_X3_arrives a1)) := by
  refine amMet.of (own := RX3) (by decide) rfl (Nat.le_of_ble_eq_true rfl) fun X hX hPs => ?_
  change WG X encV 0 [(0, .ref (rid 1 1)), (1, .int a1)] [] (bd1 (up (p_X3_arrives a1)) rt1)
  unfold p_X3_arrives
  have hM0 := amPs.m0 hPs
  refine wu_ (wg_gM ?_)
  refine wg_aload_n (pc := 0) hX dX3_arrives_0 0 rfl ?_
  refine wg_gK (pc := 1) hX hM0 fd_X3_128 (by decide) dX3_arrives_1 ?_
  refine wg_iload_n (pc := 4) hX dX3_arrives_4 1 rfl ?_
  refine wu_ (wg_rI (pc := 5) hX ar_94 dX3_arrives_5 fun v1 => ?_)
  refine wg_iconst (pc := 6) (v := 3) hX dX3_arrives_6 rfl ?_
  refine wg_icmp_ne (pc := 7) (tgt := 22) hX dX3_arrives_7 (by decide) (fun h2 => ?_) (fun h2 => ?_)
  · refine wu_t h2 ?_
    refine wg_aload_n (pc := 10) hX dX3_arrives_10 0 rfl ?_
    refine wg_iload_n (pc := 11) hX dX3_arrives_11 1 rfl ?_
    refine wg_aload_n (pc := 12) hX dX3_arrives_12 0 rfl ?_
    refine wg_gK (pc := 13) hX hM0 fd_X3_131 (by decide) dX3_arrives_13 ?_
    refine wg_iload_n (pc := 16) hX dX3_arrives_16 1 rfl ?_
    refine wu_ (wg_rI (pc := 17) hX ar_95 dX3_arrives_17 fun v3 => ?_)
    refine wu_ (wg_cVv (pc := 18) (As := [.int a1, .int v3]) (rest := []) hX (m_X3_rests a1 v3) (by decide) (by decide) (by decide) rc_X3 (lw_V q2449 q2451 qs102 q163 q2452) hd_X3_rests rfl (Nat.le_of_ble_eq_true rfl) (Nat.le_of_ble_eq_true rfl) (Nat.le_of_ble_eq_true rfl) rfl dX3_arrives_18 ?_)
    exact wu_rt (wg_vret (pc := 21) hX rfl rfl dX3_arrives_21)
  refine wu_f h2 ?_
  refine wg_aload_n (pc := 22) hX dX3_arrives_22 0 rfl ?_
  refine wg_gK (pc := 23) hX hM0 fd_X3_137 (by decide) dX3_arrives_23 ?_
  refine wg_iload_n (pc := 26) hX dX3_arrives_26 1 rfl ?_
  refine wu_ (wg_rI (pc := 27) hX ar_97 dX3_arrives_27 fun v4 => ?_)
  refine wg_istore_n (pc := 28) (l' := [(0, .ref (rid 1 1)), (1, .int a1), (2, .int v4)]) hX dX3_arrives_28 (by decide) rfl ?_
  refine wg_aload_n (pc := 29) hX dX3_arrives_29 0 rfl ?_
  refine wg_gK (pc := 30) hX hM0 fd_X3_131 (by decide) dX3_arrives_30 ?_
  refine wg_iload_n (pc := 33) hX dX3_arrives_33 1 rfl ?_
  refine wu_ (wg_rI (pc := 34) hX ar_95 dX3_arrives_34 fun v5 => ?_)
  refine wg_istore_n (pc := 35) (l' := [(0, .ref (rid 1 1)), (1, .int a1), (2, .int v4), (3, .int v5)]) hX dX3_arrives_35 (by decide) rfl ?_
  refine wg_aload_n (pc := 36) hX dX3_arrives_36 0 rfl ?_
  refine wg_iload_n (pc := 37) hX dX3_arrives_37 3 rfl ?_
  refine wu_ (wg_cVi (pc := 38) (As := [.int v5]) (rest := []) hX (m_X3_worstAt v5) (by decide) (by decide) (by decide) rc_X3 (lw_V q2643 q2645 qs131 q163 q2646) hd_X3_worstAt rfl (Nat.le_of_ble_eq_true rfl) (Nat.le_of_ble_eq_true rfl) (Nat.le_of_ble_eq_true rfl) rfl dX3_arrives_38 fun v6 => ?_)
  refine wg_istore (pc := 41) (l' := [(0, .ref (rid 1 1)), (1, .int a1), (2, .int v4), (3, .int v5), (4, .int v6)]) hX dX3_arrives_41 (by decide) rfl ?_
  refine wg_iload (pc := 43) hX dX3_arrives_43 4 rfl ?_
  refine wg_iconst (pc := 45) (v := (-1)) hX dX3_arrives_45 rfl ?_
  refine wu_jn (α := Unit) (pcJ := 58) (lJ := fun x => [(0, .ref (rid 1 1)), (1, .int a1), (2, .int v4), (3, .int v5)]) (sJ := fun x => []) (fun k7 hk7 => ?_) (fun z7 => ?_)
  · refine wg_icmp_eq (pc := 46) (tgt := 58) hX dX3_arrives_46 (by decide) (fun h8 => ?_) (fun h8 => ?_)
    · refine wu_t h8 ?_
      refine wg_sub hX [0, 1, 2, 3] rfl ?_
      exact hk7 ()
    refine wu_f h8 ?_
    refine wg_aload_n (pc := 49) hX dX3_arrives_49 0 rfl ?_
    refine wg_gK (pc := 50) hX hM0 fd_X3_220 (by decide) dX3_arrives_50 ?_
    refine wg_iload_n (pc := 53) hX dX3_arrives_53 2 rfl ?_
    refine wu_ (wg_rI (pc := 54) hX ar_117 dX3_arrives_54 fun v9 => ?_)
    refine wg_if_eq (pc := 55) (tgt := 93) hX dX3_arrives_55 (by decide) (fun h10 => ?_) (fun h10 => ?_)
    rotate_left
    · refine wu_f h10 ?_
      refine wg_sub hX [0, 1, 2, 3] rfl ?_
      exact hk7 ()
    refine wu_t h10 ?_
    refine wg_aload_n (pc := 93) hX dX3_arrives_93 0 rfl ?_
    refine wg_gK (pc := 94) hX hM0 fd_X3_128 (by decide) dX3_arrives_94 ?_
    refine wg_iload_n (pc := 97) hX dX3_arrives_97 1 rfl ?_
    refine wg_iconst (pc := 98) (v := 2) hX dX3_arrives_98 rfl ?_
    refine wu_ (wg_wI (pc := 99) hX ar_94 dX3_arrives_99 ?_)
    refine wg_aload_n (pc := 100) hX dX3_arrives_100 0 rfl ?_
    refine wg_gK (pc := 101) hX hM0 fd_X3_134 (by decide) dX3_arrives_101 ?_
    refine wg_iload_n (pc := 104) hX dX3_arrives_104 1 rfl ?_
    refine wg_iconst (pc := 105) (v := (-1)) hX dX3_arrives_105 rfl ?_
    refine wu_ (wg_wI (pc := 106) hX ar_96 dX3_arrives_106 ?_)
    refine wg_aload_n (pc := 107) hX dX3_arrives_107 0 rfl ?_
    refine wg_gK (pc := 108) hX hM0 fd_X3_140 (by decide) dX3_arrives_108 ?_
    refine wg_iload_n (pc := 111) hX dX3_arrives_111 1 rfl ?_
    refine wg_iload (pc := 112) hX dX3_arrives_112 4 rfl ?_
    refine wu_ (wg_wI (pc := 114) hX ar_98 dX3_arrives_114 ?_)
    refine wg_aload_n (pc := 115) hX dX3_arrives_115 0 rfl ?_
    refine wg_gK (pc := 116) hX hM0 fd_X3_149 (by decide) dX3_arrives_116 ?_
    refine wg_iload_n (pc := 119) hX dX3_arrives_119 1 rfl ?_
    refine wg_aload_n (pc := 120) hX dX3_arrives_120 0 rfl ?_
    refine wu_ (wg_gI (pc := 121) hX fd_X3_395 dX3_arrives_121 fun v11 => ?_)
    refine wu_ (wg_wI (pc := 124) hX ar_101 dX3_arrives_124 ?_)
    exact wu_rt (wg_vret (pc := 125) hX rfl rfl dX3_arrives_125)
  refine wg_aload_n (pc := 58) hX dX3_arrives_58 0 rfl ?_
  refine wg_gK (pc := 59) hX hM0 fd_X3_220 (by decide) dX3_arrives_59 ?_
  refine wg_iload_n (pc := 62) hX dX3_arrives_62 2 rfl ?_
  refine wu_ (wg_rI (pc := 63) hX ar_117 dX3_arrives_63 fun v12 => ?_)
  refine wu_jx (α := Unit) (pcJ := 86) (lJ := fun x => [(0, .ref (rid 1 1)), (1, .int a1), (3, .int v5)]) (sJ := fun x => []) (fun K13 hk13 => ?_) (fun z13 => ?_)
  · refine wg_if_ne (pc := 64) (tgt := 86) hX dX3_arrives_64 (by decide) (fun h14 => ?_) (fun h14 => ?_)
    rotate_left
    · refine wu_f h14 ?_
      refine wg_sub hX [0, 1, 3] rfl ?_
      exact wu_rt (hk13 ())
    refine wu_t h14 ?_
    refine wg_aload_n (pc := 67) hX dX3_arrives_67 0 rfl ?_
    refine wg_iload_n (pc := 68) hX dX3_arrives_68 2 rfl ?_
    refine wg_aload_n (pc := 69) hX dX3_arrives_69 0 rfl ?_
    refine wg_gK (pc := 70) hX hM0 fd_X3_238 (by decide) dX3_arrives_70 ?_
    refine wg_iload_n (pc := 73) hX dX3_arrives_73 2 rfl ?_
    refine wu_ (wg_rZ (pc := 74) hX ar_123 dX3_arrives_74 fun v15 => ?_)
    refine wu_jx (α := Int32) (pcJ := 83) (lJ := fun x => [(0, .ref (rid 1 1)), (1, .int a1), (3, .int v5)]) (sJ := fun x => [.int x, .int v4, .ref (rid 1 1)]) (fun K16 hk16 => ?_) (fun z16 => ?_)
    · refine wg_if_ne (pc := 75) (tgt := 82) hX dX3_arrives_75 (by decide) (fun h17 => ?_) (fun h17 => ?_)
      rotate_left
      · refine wu_f h17 ?_
        refine wg_iconst (pc := 82) (v := 0) hX dX3_arrives_82 rfl ?_
        refine wg_sub hX [0, 1, 3] rfl ?_
        exact wu_rt (hk16 0)
      refine wu_t h17 ?_
      refine wg_iconst (pc := 78) (v := 1) hX dX3_arrives_78 rfl ?_
      refine wg_goto (pc := 79) (tgt := 83) hX dX3_arrives_79 (by decide) ?_
      refine wg_sub hX [0, 1, 3] rfl ?_
      exact wu_rt (hk16 1)
    refine wu_ (wg_cVv (pc := 83) (As := [.int v4, .int z16]) (rest := []) hX (m_X3_close v4 z16) (by decide) (by decide) (by decide) rc_X3 (lw_V q2647 q2649 qs132 q163 q2650) hd_X3_close rfl (Nat.le_of_ble_eq_true rfl) (Nat.le_of_ble_eq_true rfl) (Nat.le_of_ble_eq_true rfl) rfl dX3_arrives_83 ?_)
    exact wu_rt (hk13 ())
  refine wg_aload_n (pc := 86) hX dX3_arrives_86 0 rfl ?_
  refine wg_iload_n (pc := 87) hX dX3_arrives_87 1 rfl ?_
  refine wg_iload_n (pc := 88) hX dX3_arrives_88 2 rfl ?_
  refine wu_ (wg_cVv (pc := 89) (As := [.int a1, .int v5]) (rest := []) hX (m_X3_turns a1 v5) (by decide) (by decide) (by decide) rc_X3 (lw_V q2457 q2459 qs103 q163 q2460) hd_X3_turns rfl (Nat.le_of_ble_eq_true rfl) (Nat.le_of_ble_eq_true rfl) (Nat.le_of_ble_eq_true rfl) rfl dX3_arrives_89 ?_)
  exact wu_rt (wg_vret (pc := 92) hX rfl rfl dX3_arrives_92)
theorem m_X3_save (a1 : Int32) (a2 : Int32) : amMet yX3_save cX3_save 5 none 1 64 encV [.ref (rid 1 1), .int a1, .int a2] (up (p_X3_save a1 a2)) := by
  refine amMet.of (own := RX3) (by decide) rfl (Nat.le_of_ble_eq_true rfl) fun X hX hPs => ?_
  change WG X encV 0 [(0, .ref (rid 1 1)), (1, .int a1), (2, .int a2)] [] (bd1 (up (p_X3_save a1 a2)) rt1)
  unfold p_X3_save
  have hM0 := amPs.m0 hPs
  refine wu_ (wg_gM ?_)
  refine wg_aload_n (pc := 0) hX dX3_save_0 0 rfl ?_
  refine wg_gK (pc := 1) hX hM0 fd_X3_119 (by decide) dX3_save_1 ?_
  refine wg_iload_n (pc := 4) hX dX3_save_4 1 rfl ?_
  refine wu_ (wg_rI (pc := 5) hX ar_91 dX3_save_5 fun v1 => ?_)
  refine wg_aload_n (pc := 6) hX dX3_save_6 0 rfl ?_
  refine wg_gK (pc := 7) hX hM0 fd_X3_38 (by decide) dX3_save_7 ?_
  refine wg_iload_n (pc := 10) hX dX3_save_10 2 rfl ?_
  refine wu_ (wg_rI (pc := 11) hX ar_64 dX3_save_11 fun v2 => ?_)
  refine wg_mmin (pc := 12) hX q2320 q1149 q165 q1150 (Nat.le_of_ble_eq_true rfl) (Nat.le_of_ble_eq_true rfl) dX3_save_12 ?_
  refine wu_ (wg_nmi hX fun v3 => ?_)
  refine wg_iconst (pc := 15) (v := 1) hX dX3_save_15 rfl ?_
  refine wg_isub (pc := 16) hX dX3_save_16 ?_
  refine wu_ (wg_nmi hX fun v4 => ?_)
  refine wg_istore_n (pc := 17) (l' := [(0, .ref (rid 1 1)), (1, .int a1), (2, .int a2), (3, .int v4)]) hX dX3_save_17 (by decide) rfl ?_
  refine wg_sub hX [0, 2, 3] rfl ?_
  refine wu_lpx (α := Int32) (γ := Int32) (pcl := 18) (pcT := 56) (lo := fun x => [(0, .ref (rid 1 1)), (2, .int a2), (3, .int x)]) (so := fun _ => []) (lT := fun x => [(0, .ref (rid 1 1)), (2, .int a2), (3, .int x)]) (sT := fun _ => []) (n := amFu) (x0 := v4) (fun K5 rec5 hrec5 hk5 x5 => ?_) (fun y6 => ?_)
  · unfold p_X3_save_L18
    refine wg_iload_n (pc := 18) hX dX3_save_18 2 rfl ?_
    refine wg_if_lt (pc := 19) (tgt := 56) hX dX3_save_19 (by decide) (fun h7 => ?_) (fun h7 => ?_)
    · refine wu_t h7 ?_
      exact wu_rt (hk5 x5)
    refine wu_f h7 ?_
    refine wg_aload_n (pc := 22) hX dX3_save_22 0 rfl ?_
    refine wg_gK (pc := 23) hX hM0 fd_X3_92 (by decide) dX3_save_23 ?_
    refine wg_bipush (pc := 26) (v := 6) hX dX3_save_26 rfl ?_
    refine wg_iload_n (pc := 28) hX dX3_save_28 1 rfl ?_
    refine wg_imul (pc := 29) hX dX3_save_29 ?_
    refine wg_iload_n (pc := 30) hX dX3_save_30 2 rfl ?_
    refine wg_iadd (pc := 31) hX dX3_save_31 ?_
    refine wu_ (wg_rZ (pc := 32) hX ar_82 dX3_save_32 fun v8 => ?_)
    refine wu_jn (α := Unit) (pcJ := 50) (lJ := fun x => [(0, .ref (rid 1 1)), (2, .int a2), (3, .int x5)]) (sJ := fun x => []) (fun k9 hk9 => ?_) (fun z9 => ?_)
    · refine wg_if_ne (pc := 33) (tgt := 50) hX dX3_save_33 (by decide) (fun h10 => ?_) (fun h10 => ?_)
      rotate_left
      · refine wu_f h10 ?_
        exact hk9 ()
      refine wu_t h10 ?_
      refine wg_aload_n (pc := 36) hX dX3_save_36 0 rfl ?_
      refine wg_gK (pc := 37) hX hM0 fd_X3_86 (by decide) dX3_save_37 ?_
      refine wg_bipush (pc := 40) (v := 6) hX dX3_save_40 rfl ?_
      refine wg_iload_n (pc := 42) hX dX3_save_42 1 rfl ?_
      refine wg_imul (pc := 43) hX dX3_save_43 ?_
      refine wg_iload_n (pc := 44) hX dX3_save_44 2 rfl ?_
      refine wg_iadd (pc := 45) hX dX3_save_45 ?_
      refine wu_ (wg_rI (pc := 46) hX ar_80 dX3_save_46 fun v11 => ?_)
      refine wg_if_ne (pc := 47) (tgt := 56) hX dX3_save_47 (by decide) (fun h12 => ?_) (fun h12 => ?_)
      · refine wu_t h12 ?_
        exact hk9 ()
      refine wu_f h12 ?_
      exact wu_rt (hk5 x5)
    refine wg_iinc (pc := 50) (v := (x5 + (-1))) (l' := [(0, .ref (rid 1 1)), (2, .int a2), (3, .int (x5 + (-1)))]) hX dX3_save_50 2 rfl rfl (by decide) rfl ?_
    refine wg_goto (pc := 53) (tgt := 18) hX dX3_save_53 (by decide) ?_
    exact hrec5 (x5 + (-1))
  refine wg_iload_n (pc := 56) hX dX3_save_56 2 rfl ?_
  refine wg_if_ge (pc := 57) (tgt := 61) hX dX3_save_57 (by decide) (fun h13 => ?_) (fun h13 => ?_)
  rotate_left
  · refine wu_f h13 ?_
    exact wu_rt (wg_vret (pc := 60) hX rfl rfl dX3_save_60)
  refine wu_t h13 ?_
  refine wg_iconst (pc := 61) (v := 2) hX dX3_save_61 rfl ?_
  refine wg_aload_n (pc := 62) hX dX3_save_62 0 rfl ?_
  refine wg_gK (pc := 63) hX hM0 fd_X3_86 (by decide) dX3_save_63 ?_
  refine wg_bipush (pc := 66) (v := 6) hX dX3_save_66 rfl ?_
  refine wg_iload_n (pc := 68) hX dX3_save_68 1 rfl ?_
  refine wg_imul (pc := 69) hX dX3_save_69 ?_
  refine wg_iload_n (pc := 70) hX dX3_save_70 2 rfl ?_
  refine wg_iadd (pc := 71) hX dX3_save_71 ?_
  refine wu_ (wg_rI (pc := 72) hX ar_80 dX3_save_72 fun v14 => ?_)
  refine wg_mmin (pc := 73) hX q2320 q1149 q165 q1150 (Nat.le_of_ble_eq_true rfl) (Nat.le_of_ble_eq_true rfl) dX3_save_73 ?_
  refine wu_ (wg_nmi hX fun v15 => ?_)
  refine wg_istore (pc := 76) (l' := [(0, .ref (rid 1 1)), (2, .int a2), (3, .int y6), (4, .int v15)]) hX dX3_save_76 (by decide) rfl ?_
  refine wg_aload_n (pc := 78) hX dX3_save_78 0 rfl ?_
  refine wg_gK (pc := 79) hX hM0 fd_X3_86 (by decide) dX3_save_79 ?_
  refine wg_bipush (pc := 82) (v := 6) hX dX3_save_82 rfl ?_
  refine wg_iload_n (pc := 84) hX dX3_save_84 1 rfl ?_
  refine wg_imul (pc := 85) hX dX3_save_85 ?_
  refine wg_iload_n (pc := 86) hX dX3_save_86 2 rfl ?_
  refine wg_iadd (pc := 87) hX dX3_save_87 ?_
  refine wu_ (wg_nmi hX fun v16 => ?_)
  refine wg_dup2 (pc := 88) hX dX3_save_88 rfl rfl ?_
  refine wu_ (wg_rI (pc := 89) hX ar_80 dX3_save_89 fun v17 => ?_)
  refine wg_iload (pc := 90) hX dX3_save_90 3 rfl ?_
  refine wg_isub (pc := 92) hX dX3_save_92 ?_
  refine wu_ (wg_wI (pc := 93) hX ar_80 dX3_save_93 ?_)
  refine wg_aload_n (pc := 94) hX dX3_save_94 0 rfl ?_
  refine wg_gK (pc := 95) hX hM0 fd_X3_56 (by decide) dX3_save_95 ?_
  refine wg_iload_n (pc := 98) hX dX3_save_98 1 rfl ?_
  refine wg_dup2 (pc := 99) hX dX3_save_99 rfl rfl ?_
  refine wu_ (wg_rI (pc := 100) hX ar_70 dX3_save_100 fun v18 => ?_)
  refine wg_iload (pc := 101) hX dX3_save_101 3 rfl ?_
  refine wg_iadd (pc := 103) hX dX3_save_103 ?_
  refine wu_ (wg_wI (pc := 104) hX ar_70 dX3_save_104 ?_)
  exact wu_rt (wg_vret (pc := 105) hX rfl rfl dX3_save_105)
theorem m_X3_hasChief (a1 : Int32) : amMet yX3_hasChief cX3_hasChief 3 (some .boolean) 1 32 encI [.ref (rid 1 1), .int a1] (up (p_X3_hasChief a1)) := by
  refine amMet.of (own := RX3) (by decide) rfl (Nat.le_of_ble_eq_true rfl) fun X hX hPs => ?_
  change WG X encI 0 [(0, .ref (rid 1 1)), (1, .int a1)] [] (bd1 (up (p_X3_hasChief a1)) rt1)
  unfold p_X3_hasChief
  have hM0 := amPs.m0 hPs
  refine wu_ (wg_gM ?_)
  refine wg_iconst (pc := 0) (v := 0) hX dX3_hasChief_0 rfl ?_
  refine wg_istore_n (pc := 1) (l' := [(0, .ref (rid 1 1)), (1, .int a1), (2, .int 0)]) hX dX3_hasChief_1 (by decide) rfl ?_
  refine wu_lp (α := Int32) (pcl := 2) (lo := fun x => [(0, .ref (rid 1 1)), (1, .int a1), (2, .int x)]) (so := fun _ => []) (fun rec1 hrec1 x1 => ?_) amFu 0
  unfold p_X3_hasChief_L2
  refine wg_iload_n (pc := 2) hX dX3_hasChief_2 2 rfl ?_
  refine wg_aload_n (pc := 3) hX dX3_hasChief_3 0 rfl ?_
  refine wu_ (wg_gI (pc := 4) hX fd_X3_366 dX3_hasChief_4 fun v2 => ?_)
  refine wg_icmp_ge (pc := 7) (tgt := 48) hX dX3_hasChief_7 (by decide) (fun h3 => ?_) (fun h3 => ?_)
  · refine wu_t h3 ?_
    refine wg_iconst (pc := 48) (v := 0) hX dX3_hasChief_48 rfl ?_
    exact wu_rt (wg_zret (pc := 49) hX rfl (by decide) rfl dX3_hasChief_49)
  refine wu_f h3 ?_
  refine wg_aload_n (pc := 10) hX dX3_hasChief_10 0 rfl ?_
  refine wg_gK (pc := 11) hX hM0 fd_X3_107 (by decide) dX3_hasChief_11 ?_
  refine wg_iload_n (pc := 14) hX dX3_hasChief_14 2 rfl ?_
  refine wu_ (wg_rI (pc := 15) hX ar_87 dX3_hasChief_15 fun v4 => ?_)
  refine wg_iconst (pc := 16) (v := 3) hX dX3_hasChief_16 rfl ?_
  refine wu_jn (α := Unit) (pcJ := 42) (lJ := fun x => [(0, .ref (rid 1 1)), (1, .int a1), (2, .int x1)]) (sJ := fun x => []) (fun k5 hk5 => ?_) (fun z5 => ?_)
  · refine wg_icmp_ne (pc := 17) (tgt := 42) hX dX3_hasChief_17 (by decide) (fun h6 => ?_) (fun h6 => ?_)
    rotate_left
    · refine wu_f h6 ?_
      exact hk5 ()
    refine wu_t h6 ?_
    refine wg_aload_n (pc := 20) hX dX3_hasChief_20 0 rfl ?_
    refine wg_gK (pc := 21) hX hM0 fd_X3_128 (by decide) dX3_hasChief_21 ?_
    refine wg_iload_n (pc := 24) hX dX3_hasChief_24 2 rfl ?_
    refine wu_ (wg_rI (pc := 25) hX ar_94 dX3_hasChief_25 fun v7 => ?_)
    refine wg_iconst (pc := 26) (v := 2) hX dX3_hasChief_26 rfl ?_
    refine wg_icmp_ne (pc := 27) (tgt := 42) hX dX3_hasChief_27 (by decide) (fun h8 => ?_) (fun h8 => ?_)
    rotate_left
    · refine wu_f h8 ?_
      exact hk5 ()
    refine wu_t h8 ?_
    refine wg_aload_n (pc := 30) hX dX3_hasChief_30 0 rfl ?_
    refine wg_gK (pc := 31) hX hM0 fd_X3_140 (by decide) dX3_hasChief_31 ?_
    refine wg_iload_n (pc := 34) hX dX3_hasChief_34 2 rfl ?_
    refine wu_ (wg_rI (pc := 35) hX ar_98 dX3_hasChief_35 fun v9 => ?_)
    refine wg_iload_n (pc := 36) hX dX3_hasChief_36 1 rfl ?_
    refine wg_icmp_ne (pc := 37) (tgt := 42) hX dX3_hasChief_37 (by decide) (fun h10 => ?_) (fun h10 => ?_)
    rotate_left
    · refine wu_f h10 ?_
      exact hk5 ()
    refine wu_t h10 ?_
    refine wg_iconst (pc := 40) (v := 1) hX dX3_hasChief_40 rfl ?_
    exact wu_rt (wg_zret (pc := 41) hX rfl (by decide) rfl dX3_hasChief_41)
  refine wg_iinc (pc := 42) (v := (x1 + 1)) (l' := [(0, .ref (rid 1 1)), (1, .int a1), (2, .int (x1 + 1))]) hX dX3_hasChief_42 2 rfl rfl (by decide) rfl ?_
  refine wg_goto (pc := 45) (tgt := 2) hX dX3_hasChief_45 (by decide) ?_
  exact hrec1 (x1 + 1)
theorem m_X3_wantedAt (a1 : Int32) (a2 : Int32) : amMet yX3_wantedAt cX3_wantedAt 3 (some .int) 1 32 encI [.ref (rid 1 1), .int a1, .int a2] (up (p_X3_wantedAt a1 a2)) := by
  refine amMet.of (own := RX3) (by decide) rfl (Nat.le_of_ble_eq_true rfl) fun X hX hPs => ?_
  change WG X encI 0 [(0, .ref (rid 1 1)), (1, .int a1), (2, .int a2)] [] (bd1 (up (p_X3_wantedAt a1 a2)) rt1)
  unfold p_X3_wantedAt
  have hM0 := amPs.m0 hPs
  refine wu_ (wg_gM ?_)
  refine wg_aload_n (pc := 0) hX dX3_wantedAt_0 0 rfl ?_
  refine wg_gK (pc := 1) hX hM0 fd_X3_68 (by decide) dX3_wantedAt_1 ?_
  refine wg_bipush (pc := 4) (v := 24) hX dX3_wantedAt_4 rfl ?_
  refine wg_iload_n (pc := 6) hX dX3_wantedAt_6 1 rfl ?_
  refine wg_imul (pc := 7) hX dX3_wantedAt_7 ?_
  refine wg_iload_n (pc := 8) hX dX3_wantedAt_8 2 rfl ?_
  refine wg_iadd (pc := 9) hX dX3_wantedAt_9 ?_
  refine wu_ (wg_rI (pc := 10) hX ar_74 dX3_wantedAt_10 fun v1 => ?_)
  refine wg_aload_n (pc := 11) hX dX3_wantedAt_11 0 rfl ?_
  refine wg_gK (pc := 12) hX hM0 fd_X3_74 (by decide) dX3_wantedAt_12 ?_
  refine wg_bipush (pc := 15) (v := 24) hX dX3_wantedAt_15 rfl ?_
  refine wg_iload_n (pc := 17) hX dX3_wantedAt_17 1 rfl ?_
  refine wg_imul (pc := 18) hX dX3_wantedAt_18 ?_
  refine wg_iload_n (pc := 19) hX dX3_wantedAt_19 2 rfl ?_
  refine wg_iadd (pc := 20) hX dX3_wantedAt_20 ?_
  refine wu_ (wg_rI (pc := 21) hX ar_76 dX3_wantedAt_21 fun v2 => ?_)
  refine wg_iconst (pc := 22) (v := 4) hX dX3_wantedAt_22 rfl ?_
  refine wg_idiv (pc := 23) hX dX3_wantedAt_23 (by decide) ?_
  refine wg_isub (pc := 24) hX dX3_wantedAt_24 ?_
  exact wu_rt (wg_iret (pc := 25) hX rfl rfl dX3_wantedAt_25)
theorem m_X3_roomFor (a1 : Int32) (a2 : Int32) : amMet yX3_roomFor cX3_roomFor 7 (some .int) 4 101 encI [.ref (rid 1 1), .int a1, .int a2] (up (p_X3_roomFor a1 a2)) := by
  refine amMet.of (own := RX3) (by decide) rfl (Nat.le_of_ble_eq_true rfl) fun X hX hPs => ?_
  change WG X encI 0 [(0, .ref (rid 1 1)), (1, .int a1), (2, .int a2)] [] (bd1 (up (p_X3_roomFor a1 a2)) rt1)
  unfold p_X3_roomFor
  have hM0 := amPs.m0 hPs
  refine wu_ (wg_gM ?_)
  refine wg_aload_n (pc := 0) hX dX3_roomFor_0 0 rfl ?_
  refine wg_iload_n (pc := 1) hX dX3_roomFor_1 1 rfl ?_
  refine wg_iload_n (pc := 2) hX dX3_roomFor_2 2 rfl ?_
  refine wu_ (wg_cVi (pc := 3) (As := [.int a1, .int a2]) (rest := []) hX (m_X3_reachOf a1 a2) (by decide) (by decide) (by decide) rc_X3 (lw_V q2473 q2475 qs105 q163 q2476) hd_X3_reachOf rfl (Nat.le_of_ble_eq_true rfl) (Nat.le_of_ble_eq_true rfl) (Nat.le_of_ble_eq_true rfl) rfl dX3_roomFor_3 fun v1 => ?_)
  refine wg_istore_n (pc := 6) (l' := [(0, .ref (rid 1 1)), (1, .int a1), (2, .int a2), (3, .int v1)]) hX dX3_roomFor_6 (by decide) rfl ?_
  refine wg_aload_n (pc := 7) hX dX3_roomFor_7 0 rfl ?_
  refine wg_iload_n (pc := 8) hX dX3_roomFor_8 2 rfl ?_
  refine wu_ (wg_cVi (pc := 9) (As := [.int a2]) (rest := []) hX (m_X3_hasChief a2) (by decide) (by decide) (by decide) rc_X3 (lw_V q2663 q2665 qs136 q163 q2666) hd_X3_hasChief rfl (Nat.le_of_ble_eq_true rfl) (Nat.le_of_ble_eq_true rfl) (Nat.le_of_ble_eq_true rfl) rfl dX3_roomFor_9 fun v2 => ?_)
  refine wg_istore (pc := 12) (l' := [(0, .ref (rid 1 1)), (1, .int a1), (2, .int a2), (3, .int v1), (4, .int v2)]) hX dX3_roomFor_12 (by decide) rfl ?_
  refine wg_iconst (pc := 14) (v := (-1)) hX dX3_roomFor_14 rfl ?_
  refine wg_istore (pc := 15) (l' := [(0, .ref (rid 1 1)), (1, .int a1), (2, .int a2), (3, .int v1), (4, .int v2), (5, .int (-1))]) hX dX3_roomFor_15 (by decide) rfl ?_
  refine wg_iconst (pc := 17) (v := 0) hX dX3_roomFor_17 rfl ?_
  refine wg_istore (pc := 18) (l' := [(0, .ref (rid 1 1)), (1, .int a1), (2, .int a2), (3, .int v1), (4, .int v2), (5, .int (-1)), (6, .int 0)]) hX dX3_roomFor_18 (by decide) rfl ?_
  refine wg_sub hX [0, 2, 3, 4, 5, 6] rfl ?_
  refine wu_lpx (α := Int32 × Int32) (γ := Int32) (pcl := 20) (pcT := 100) (lo := fun x => [(0, .ref (rid 1 1)), (2, .int a2), (3, .int v1), (4, .int v2), (5, .int x.1), (6, .int x.2)]) (so := fun _ => []) (lT := fun x => [(5, .int x)]) (sT := fun _ => []) (n := amFu) (x0 := ((-1), 0)) (fun K3 rec3 hrec3 hk3 x3 => ?_) (fun y4 => ?_)
  · unfold p_X3_roomFor_L20
    refine wg_iload (pc := 20) hX dX3_roomFor_20 5 rfl ?_
    refine wg_aload_n (pc := 22) hX dX3_roomFor_22 0 rfl ?_
    refine wg_gK (pc := 23) hX hM0 fd_X3_38 (by decide) dX3_roomFor_23 ?_
    refine wg_iload_n (pc := 26) hX dX3_roomFor_26 1 rfl ?_
    refine wu_ (wg_rI (pc := 27) hX ar_64 dX3_roomFor_27 fun v5 => ?_)
    refine wg_aload_n (pc := 28) hX dX3_roomFor_28 0 rfl ?_
    refine wg_gK (pc := 29) hX hM0 fd_X3_41 (by decide) dX3_roomFor_29 ?_
    refine wg_iload_n (pc := 32) hX dX3_roomFor_32 1 rfl ?_
    refine wu_ (wg_rI (pc := 33) hX ar_65 dX3_roomFor_33 fun v6 => ?_)
    refine wg_imul (pc := 34) hX dX3_roomFor_34 ?_
    refine wg_icmp_ge (pc := 35) (tgt := 100) hX dX3_roomFor_35 (by decide) (fun h7 => ?_) (fun h7 => ?_)
    · refine wu_t h7 ?_
      refine wg_sub hX [4] rfl ?_
      exact wu_rt (hk3 x3.1)
    refine wu_f h7 ?_
    refine wg_aload_n (pc := 38) hX dX3_roomFor_38 0 rfl ?_
    refine wg_iload_n (pc := 39) hX dX3_roomFor_39 1 rfl ?_
    refine wg_iload (pc := 40) hX dX3_roomFor_40 5 rfl ?_
    refine wu_ (wg_cVi (pc := 42) (As := [.int a2, .int x3.2]) (rest := []) hX (m_X3_floorOf a2 x3.2) (by decide) (by decide) (by decide) rc_X3 (lw_V q2392 q2394 qs97 q163 q2395) hd_X3_floorOf rfl (Nat.le_of_ble_eq_true rfl) (Nat.le_of_ble_eq_true rfl) (Nat.le_of_ble_eq_true rfl) rfl dX3_roomFor_42 fun v8 => ?_)
    refine wg_iload_n (pc := 45) hX dX3_roomFor_45 2 rfl ?_
    refine wu_jx (α := Int32) (pcJ := 94) (lJ := fun x => [(0, .ref (rid 1 1)), (2, .int a2), (3, .int v1), (4, .int v2), (5, .int x), (6, .int x3.2)]) (sJ := fun x => []) (fun K9 hk9 => ?_) (fun z9 => ?_)
    · refine wg_icmp_gt (pc := 46) (tgt := 94) hX dX3_roomFor_46 (by decide) (fun h10 => ?_) (fun h10 => ?_)
      · refine wu_t h10 ?_
        exact wu_rt (hk9 x3.1)
      refine wu_f h10 ?_
      refine wg_aload_n (pc := 49) hX dX3_roomFor_49 0 rfl ?_
      refine wg_iload_n (pc := 50) hX dX3_roomFor_50 1 rfl ?_
      refine wg_iload (pc := 51) hX dX3_roomFor_51 5 rfl ?_
      refine wu_ (wg_cVi (pc := 53) (As := [.int a2, .int x3.2]) (rest := []) hX (m_X3_burns a2 x3.2) (by decide) (by decide) (by decide) rc_X3 (lw_V q2388 q2390 qs96 q163 q2391) hd_X3_burns rfl (Nat.le_of_ble_eq_true rfl) (Nat.le_of_ble_eq_true rfl) (Nat.le_of_ble_eq_true rfl) rfl dX3_roomFor_53 fun v11 => ?_)
      refine wg_if_ne (pc := 56) (tgt := 62) hX dX3_roomFor_56 (by decide) (fun h12 => ?_) (fun h12 => ?_)
      · refine wu_t h12 ?_
        refine wg_goto (pc := 59) (tgt := 94) hX dX3_roomFor_59 (by decide) ?_
        exact wu_rt (hk9 x3.1)
      refine wu_f h12 ?_
      refine wg_iload (pc := 62) hX dX3_roomFor_62 4 rfl ?_
      refine wg_iconst (pc := 64) (v := (-1)) hX dX3_roomFor_64 rfl ?_
      refine wu_jn (α := Unit) (pcJ := 90) (lJ := fun x => [(0, .ref (rid 1 1)), (2, .int a2), (3, .int v1), (4, .int v2), (6, .int x3.2)]) (sJ := fun x => []) (fun k13 hk13 => ?_) (fun z13 => ?_)
      · refine wg_icmp_eq (pc := 65) (tgt := 90) hX dX3_roomFor_65 (by decide) (fun h14 => ?_) (fun h14 => ?_)
        · refine wu_t h14 ?_
          refine wg_sub hX [0, 1, 2, 3, 5] rfl ?_
          exact hk13 ()
        refine wu_f h14 ?_
        refine wg_iload (pc := 68) hX dX3_roomFor_68 3 rfl ?_
        refine wg_if_eq (pc := 70) (tgt := 94) hX dX3_roomFor_70 (by decide) (fun h15 => ?_) (fun h15 => ?_)
        · refine wu_t h15 ?_
          exact wu_rt (hk9 x3.1)
        refine wu_f h15 ?_
        refine wg_aload_n (pc := 73) hX dX3_roomFor_73 0 rfl ?_
        refine wg_iload_n (pc := 74) hX dX3_roomFor_74 1 rfl ?_
        refine wg_iload (pc := 75) hX dX3_roomFor_75 5 rfl ?_
        refine wu_ (wg_cVi (pc := 77) (As := [.int a2, .int x3.2]) (rest := []) hX (m_X3_wantedAt a2 x3.2) (by decide) (by decide) (by decide) rc_X3 (lw_V q2667 q2669 qs137 q163 q2670) hd_X3_wantedAt rfl (Nat.le_of_ble_eq_true rfl) (Nat.le_of_ble_eq_true rfl) (Nat.le_of_ble_eq_true rfl) rfl dX3_roomFor_77 fun v16 => ?_)
        refine wg_aload_n (pc := 80) hX dX3_roomFor_80 0 rfl ?_
        refine wg_iload_n (pc := 81) hX dX3_roomFor_81 1 rfl ?_
        refine wg_iload (pc := 82) hX dX3_roomFor_82 4 rfl ?_
        refine wu_ (wg_cVi (pc := 84) (As := [.int a2, .int x3.1]) (rest := [.int v16]) hX (m_X3_wantedAt a2 x3.1) (by decide) (by decide) (by decide) rc_X3 (lw_V q2667 q2669 qs137 q163 q2670) hd_X3_wantedAt rfl (Nat.le_of_ble_eq_true rfl) (Nat.le_of_ble_eq_true rfl) (Nat.le_of_ble_eq_true rfl) rfl dX3_roomFor_84 fun v17 => ?_)
        refine wg_icmp_le (pc := 87) (tgt := 94) hX dX3_roomFor_87 (by decide) (fun h18 => ?_) (fun h18 => ?_)
        · refine wu_t h18 ?_
          exact wu_rt (hk9 x3.1)
        refine wu_f h18 ?_
        refine wg_sub hX [0, 1, 2, 3, 5] rfl ?_
        exact hk13 ()
      refine wg_iload (pc := 90) hX dX3_roomFor_90 4 rfl ?_
      refine wg_istore (pc := 92) (l' := [(0, .ref (rid 1 1)), (2, .int a2), (3, .int v1), (4, .int v2), (5, .int x3.2), (6, .int x3.2)]) hX dX3_roomFor_92 (by decide) rfl ?_
      exact wu_rt (hk9 x3.2)
    refine wg_iinc (pc := 94) (v := (x3.2 + 1)) (l' := [(0, .ref (rid 1 1)), (2, .int a2), (3, .int v1), (4, .int v2), (5, .int z9), (6, .int (x3.2 + 1))]) hX dX3_roomFor_94 5 rfl rfl (by decide) rfl ?_
    refine wg_goto (pc := 97) (tgt := 20) hX dX3_roomFor_97 (by decide) ?_
    exact hrec3 (z9, (x3.2 + 1))
  refine wg_iload (pc := 100) hX dX3_roomFor_100 0 rfl ?_
  exact wu_rt (wg_iret (pc := 102) hX rfl rfl dX3_roomFor_102)
theorem m_X3_bears (a1 : Int32) : amMet yX3_bears cX3_bears 2 (some .int) 1 32 encI [.ref (rid 1 1), .int a1] (up (p_X3_bears a1)) := by
  refine amMet.of (own := RX3) (by decide) rfl (Nat.le_of_ble_eq_true rfl) fun X hX hPs => ?_
  change WG X encI 0 [(0, .ref (rid 1 1)), (1, .int a1)] [] (bd1 (up (p_X3_bears a1)) rt1)
  unfold p_X3_bears
  have hM0 := amPs.m0 hPs
  refine wu_ (wg_gM ?_)
  refine wg_aload_n (pc := 0) hX dX3_bears_0 0 rfl ?_
  refine wg_gK (pc := 1) hX hM0 fd_X3_41 (by decide) dX3_bears_1 ?_
  refine wg_iload_n (pc := 4) hX dX3_bears_4 1 rfl ?_
  refine wu_ (wg_rI (pc := 5) hX ar_65 dX3_bears_5 fun v1 => ?_)
  refine wg_aload_n (pc := 6) hX dX3_bears_6 0 rfl ?_
  refine wg_gK (pc := 7) hX hM0 fd_X3_35 (by decide) dX3_bears_7 ?_
  refine wg_iload_n (pc := 10) hX dX3_bears_10 1 rfl ?_
  refine wu_ (wg_rI (pc := 11) hX ar_63 dX3_bears_11 fun v2 => ?_)
  refine wu_jx (α := Int32) (pcJ := 38) (lJ := fun x => []) (sJ := fun x => [.int x, .int v1]) (fun K3 hk3 => ?_) (fun z3 => ?_)
  · refine wg_if_ne (pc := 12) (tgt := 20) hX dX3_bears_12 (by decide) (fun h4 => ?_) (fun h4 => ?_)
    · refine wu_t h4 ?_
      refine wg_bipush (pc := 15) (v := 60) hX dX3_bears_15 rfl ?_
      refine wg_goto (pc := 17) (tgt := 38) hX dX3_bears_17 (by decide) ?_
      refine wg_sub hX [] rfl ?_
      exact wu_rt (hk3 60)
    refine wu_f h4 ?_
    refine wg_aload_n (pc := 20) hX dX3_bears_20 0 rfl ?_
    refine wg_gK (pc := 21) hX hM0 fd_X3_35 (by decide) dX3_bears_21 ?_
    refine wg_iload_n (pc := 24) hX dX3_bears_24 1 rfl ?_
    refine wu_ (wg_rI (pc := 25) hX ar_63 dX3_bears_25 fun v5 => ?_)
    refine wg_iconst (pc := 26) (v := 1) hX dX3_bears_26 rfl ?_
    refine wg_icmp_ne (pc := 27) (tgt := 35) hX dX3_bears_27 (by decide) (fun h6 => ?_) (fun h6 => ?_)
    rotate_left
    · refine wu_f h6 ?_
      refine wg_sipush (pc := 35) (v := 140) hX dX3_bears_35 rfl ?_
      refine wg_sub hX [] rfl ?_
      exact wu_rt (hk3 140)
    refine wu_t h6 ?_
    refine wg_bipush (pc := 30) (v := 100) hX dX3_bears_30 rfl ?_
    refine wg_goto (pc := 32) (tgt := 38) hX dX3_bears_32 (by decide) ?_
    refine wg_sub hX [] rfl ?_
    exact wu_rt (hk3 100)
  refine wg_imul (pc := 38) hX dX3_bears_38 ?_
  exact wu_rt (wg_iret (pc := 39) hX rfl rfl dX3_bears_39)
theorem m_X3_leaves (a1 : Int32) (a2 : Int32) (a3 : Int32) : amMet yX3_leaves cX3_leaves 5 (some .boolean) 137 3299 encI [.ref (rid 1 1), .int a1, .int a2, .int a3] (up (p_X3_leaves a1 a2 a3)) := by
  refine amMet.of (own := RX3) (by decide) rfl (Nat.le_of_ble_eq_true rfl) fun X hX hPs => ?_
  change WG X encI 0 [(0, .ref (rid 1 1)), (1, .int a1), (2, .int a2), (3, .int a3)] [] (bd1 (up (p_X3_leaves a1 a2 a3)) rt1)
  unfold p_X3_leaves
  have hM0 := amPs.m0 hPs
  refine wu_ (wg_gM ?_)
  refine wg_aload_n (pc := 0) hX dX3_leaves_0 0 rfl ?_
  refine wu_ (wg_gI (pc := 1) hX fd_X3_201 dX3_leaves_1 fun v1 => ?_)
  refine wg_iconst (pc := 4) (v := (-1)) hX dX3_leaves_4 rfl ?_
  refine wg_icmp_ne (pc := 5) (tgt := 10) hX dX3_leaves_5 (by decide) (fun h2 => ?_) (fun h2 => ?_)
  · refine wu_t h2 ?_
    refine wg_iconst (pc := 8) (v := 0) hX dX3_leaves_8 rfl ?_
    exact wu_rt (wg_zret (pc := 9) hX rfl (by decide) rfl dX3_leaves_9)
  refine wu_f h2 ?_
  refine wg_aload_n (pc := 10) hX dX3_leaves_10 0 rfl ?_
  refine wg_iload_n (pc := 11) hX dX3_leaves_11 2 rfl ?_
  refine wg_iload_n (pc := 12) hX dX3_leaves_12 3 rfl ?_
  refine wu_ (wg_cVi (pc := 13) (As := [.int a2, .int a3]) (rest := []) hX (m_X3_floorOf a2 a3) (by decide) (by decide) (by decide) rc_X3 (lw_V q2392 q2394 qs97 q163 q2395) hd_X3_floorOf rfl (Nat.le_of_ble_eq_true rfl) (Nat.le_of_ble_eq_true rfl) (Nat.le_of_ble_eq_true rfl) rfl dX3_leaves_13 fun v3 => ?_)
  refine wg_istore (pc := 16) (l' := [(0, .ref (rid 1 1)), (1, .int a1), (2, .int a2), (3, .int a3), (4, .int v3)]) hX dX3_leaves_16 (by decide) rfl ?_
  refine wg_aload_n (pc := 18) hX dX3_leaves_18 0 rfl ?_
  refine wg_gK (pc := 19) hX hM0 fd_X3_192 (by decide) dX3_leaves_19 ?_
  refine wg_bipush (pc := 22) (v := 118) hX dX3_leaves_22 rfl ?_
  refine wg_iload (pc := 24) hX dX3_leaves_24 4 rfl ?_
  refine wu_ (wg_wI (pc := 26) hX ar_112 dX3_leaves_26 ?_)
  refine wg_aload_n (pc := 27) hX dX3_leaves_27 0 rfl ?_
  refine wg_gK (pc := 28) hX hM0 fd_X3_192 (by decide) dX3_leaves_28 ?_
  refine wg_bipush (pc := 31) (v := 98) hX dX3_leaves_31 rfl ?_
  refine wg_bipush (pc := 33) (v := 100) hX dX3_leaves_33 rfl ?_
  refine wg_aload_n (pc := 35) hX dX3_leaves_35 0 rfl ?_
  refine wg_iload_n (pc := 36) hX dX3_leaves_36 2 rfl ?_
  refine wg_iload (pc := 37) hX dX3_leaves_37 4 rfl ?_
  refine wu_ (wg_cVi (pc := 39) (As := [.int a2, .int v3]) (rest := [.int 100, .int 98, .ref (rid 112 1)]) hX (m_X3_loadOf a2 v3) (by decide) (by decide) (by decide) rc_X3 (lw_V q2413 q2415 qs99 q163 q2416) hd_X3_loadOf rfl (Nat.le_of_ble_eq_true rfl) (Nat.le_of_ble_eq_true rfl) (Nat.le_of_ble_eq_true rfl) rfl dX3_leaves_39 fun v4 => ?_)
  refine wg_imul (pc := 42) hX dX3_leaves_42 ?_
  refine wg_aload_n (pc := 43) hX dX3_leaves_43 0 rfl ?_
  refine wg_iload_n (pc := 44) hX dX3_leaves_44 2 rfl ?_
  refine wu_ (wg_cVi (pc := 45) (As := [.int a2]) (rest := [.int (100 * v4), .int 98, .ref (rid 112 1)]) hX (m_X3_bears a2) (by decide) (by decide) (by decide) rc_X3 (lw_V q2675 q2677 qs139 q163 q2678) hd_X3_bears rfl (Nat.le_of_ble_eq_true rfl) (Nat.le_of_ble_eq_true rfl) (Nat.le_of_ble_eq_true rfl) rfl dX3_leaves_45 fun v5 => ?_)
  refine wu_ (wg_gd fun h6 => ?_)
  refine wg_idiv (pc := 48) hX dX3_leaves_48 h6 ?_
  refine wu_ (wg_wI (pc := 49) hX ar_112 dX3_leaves_49 ?_)
  refine wg_aload_n (pc := 50) hX dX3_leaves_50 0 rfl ?_
  refine wg_gK (pc := 51) hX hM0 fd_X3_192 (by decide) dX3_leaves_51 ?_
  refine wg_bipush (pc := 54) (v := 101) hX dX3_leaves_54 rfl ?_
  refine wg_aload_n (pc := 56) hX dX3_leaves_56 0 rfl ?_
  refine wu_ (wg_gI (pc := 57) hX fd_X3_395 dX3_leaves_57 fun v7 => ?_)
  refine wg_aload_n (pc := 60) hX dX3_leaves_60 0 rfl ?_
  refine wg_gK (pc := 61) hX hM0 fd_X3_149 (by decide) dX3_leaves_61 ?_
  refine wg_iload_n (pc := 64) hX dX3_leaves_64 1 rfl ?_
  refine wu_ (wg_rI (pc := 65) hX ar_101 dX3_leaves_65 fun v8 => ?_)
  refine wg_isub (pc := 66) hX dX3_leaves_66 ?_
  refine wu_ (wg_wI (pc := 67) hX ar_112 dX3_leaves_67 ?_)
  refine wg_aload_n (pc := 68) hX dX3_leaves_68 0 rfl ?_
  refine wg_gK (pc := 69) hX hM0 fd_X3_192 (by decide) dX3_leaves_69 ?_
  refine wg_bipush (pc := 72) (v := 116) hX dX3_leaves_72 rfl ?_
  refine wg_aload_n (pc := 74) hX dX3_leaves_74 0 rfl ?_
  refine wg_gK (pc := 75) hX hM0 fd_X3_68 (by decide) dX3_leaves_75 ?_
  refine wg_bipush (pc := 78) (v := 24) hX dX3_leaves_78 rfl ?_
  refine wg_iload_n (pc := 80) hX dX3_leaves_80 2 rfl ?_
  refine wg_imul (pc := 81) hX dX3_leaves_81 ?_
  refine wg_iload_n (pc := 82) hX dX3_leaves_82 3 rfl ?_
  refine wg_iadd (pc := 83) hX dX3_leaves_83 ?_
  refine wu_ (wg_rI (pc := 84) hX ar_74 dX3_leaves_84 fun v9 => ?_)
  refine wu_ (wg_wI (pc := 85) hX ar_112 dX3_leaves_85 ?_)
  refine wg_aload_n (pc := 86) hX dX3_leaves_86 0 rfl ?_
  refine wg_gK (pc := 87) hX hM0 fd_X3_192 (by decide) dX3_leaves_87 ?_
  refine wg_bipush (pc := 90) (v := 109) hX dX3_leaves_90 rfl ?_
  refine wg_aload_n (pc := 92) hX dX3_leaves_92 0 rfl ?_
  refine wg_gK (pc := 93) hX hM0 fd_X3_116 (by decide) dX3_leaves_93 ?_
  refine wg_iload_n (pc := 96) hX dX3_leaves_96 1 rfl ?_
  refine wu_ (wg_rI (pc := 97) hX ar_90 dX3_leaves_97 fun v10 => ?_)
  refine wu_ (wg_wI (pc := 98) hX ar_112 dX3_leaves_98 ?_)
  refine wg_aload_n (pc := 99) hX dX3_leaves_99 0 rfl ?_
  refine wg_gK (pc := 100) hX hM0 fd_X3_192 (by decide) dX3_leaves_100 ?_
  refine wg_bipush (pc := 103) (v := 103) hX dX3_leaves_103 rfl ?_
  refine wg_aload_n (pc := 105) hX dX3_leaves_105 0 rfl ?_
  refine wg_iload_n (pc := 106) hX dX3_leaves_106 2 rfl ?_
  refine wu_ (wg_cVi (pc := 107) (As := [.int a2]) (rest := [.int 103, .ref (rid 112 1)]) hX (m_X3_burning a2) (by decide) (by decide) (by decide) rc_X3 (lw_V q2384 q2386 qs95 q163 q2387) hd_X3_burning rfl (Nat.le_of_ble_eq_true rfl) (Nat.le_of_ble_eq_true rfl) (Nat.le_of_ble_eq_true rfl) rfl dX3_leaves_107 fun v11 => ?_)
  refine wu_ (wg_wI (pc := 110) hX ar_112 dX3_leaves_110 ?_)
  refine wg_aload_n (pc := 111) hX dX3_leaves_111 0 rfl ?_
  refine wg_iconst (pc := 112) (v := 1) hX dX3_leaves_112 rfl ?_
  refine wg_aload_n (pc := 113) hX dX3_leaves_113 0 rfl ?_
  refine wg_gK (pc := 114) hX hM0 fd_X3_177 (by decide) dX3_leaves_114 ?_
  refine wg_iconst (pc := 117) (v := 0) hX dX3_leaves_117 rfl ?_
  refine wg_aload_n (pc := 118) hX dX3_leaves_118 0 rfl ?_
  refine wu_ (wg_gI (pc := 119) hX fd_X3_201 dX3_leaves_119 fun v12 => ?_)
  refine wu_ (wg_cVi (pc := 122) (As := [.int 1, .ref (rid 107 4), .int 0, .int v12]) (rest := []) hX (m_X3_goThrough 1 4 0 v12) (by decide) (by decide) (by decide) rc_X3 (lw_V q2500 q2502 qs108 q163 q2503) hd_X3_goThrough rfl (Nat.le_of_ble_eq_true rfl) (Nat.le_of_ble_eq_true rfl) (Nat.le_of_ble_eq_true rfl) rfl dX3_leaves_122 fun v13 => ?_)
  refine wu_ (wg_gd fun h14 => ?_)
  exact wu_rt (wg_zret (pc := 125) hX rfl h14 rfl dX3_leaves_125)
theorem m_X3_work  : amMet yX3_work cX3_work 5 none 138 3323 encV [.ref (rid 1 1)] (up (p_X3_work)) := by
  refine amMet.of (own := RX3) (by decide) rfl (Nat.le_of_ble_eq_true rfl) fun X hX hPs => ?_
  change WG X encV 0 [(0, .ref (rid 1 1))] [] (bd1 (up (p_X3_work)) rt1)
  unfold p_X3_work
  have hM0 := amPs.m0 hPs
  refine wu_ (wg_gM ?_)
  refine wg_iconst (pc := 0) (v := 0) hX dX3_work_0 rfl ?_
  refine wg_istore_n (pc := 1) (l' := [(0, .ref (rid 1 1)), (1, .int 0)]) hX dX3_work_1 (by decide) rfl ?_
  refine wu_lpx (α := Int32) (γ := Unit) (pcl := 2) (pcT := 23) (lo := fun x => [(0, .ref (rid 1 1)), (1, .int x)]) (so := fun _ => []) (lT := fun x => [(0, .ref (rid 1 1))]) (sT := fun _ => []) (n := amFu) (x0 := 0) (fun K1 rec1 hrec1 hk1 x1 => ?_) (fun y2 => ?_)
  · unfold p_X3_work_L2
    refine wg_iload_n (pc := 2) hX dX3_work_2 1 rfl ?_
    refine wg_aload_n (pc := 3) hX dX3_work_3 0 rfl ?_
    refine wu_ (wg_gI (pc := 4) hX fd_X3_386 dX3_work_4 fun v3 => ?_)
    refine wg_icmp_ge (pc := 7) (tgt := 23) hX dX3_work_7 (by decide) (fun h4 => ?_) (fun h4 => ?_)
    · refine wu_t h4 ?_
      refine wg_sub hX [0] rfl ?_
      exact wu_rt (hk1 ())
    refine wu_f h4 ?_
    refine wg_aload_n (pc := 10) hX dX3_work_10 0 rfl ?_
    refine wg_gK (pc := 11) hX hM0 fd_X3_104 (by decide) dX3_work_11 ?_
    refine wg_iload_n (pc := 14) hX dX3_work_14 1 rfl ?_
    refine wg_iconst (pc := 15) (v := 0) hX dX3_work_15 rfl ?_
    refine wu_ (wg_wI (pc := 16) hX ar_86 dX3_work_16 ?_)
    refine wg_iinc (pc := 17) (v := (x1 + 1)) (l' := [(0, .ref (rid 1 1)), (1, .int (x1 + 1))]) hX dX3_work_17 1 rfl rfl (by decide) rfl ?_
    refine wg_goto (pc := 20) (tgt := 2) hX dX3_work_20 (by decide) ?_
    exact hrec1 (x1 + 1)
  refine wg_iconst (pc := 23) (v := 0) hX dX3_work_23 rfl ?_
  refine wg_istore_n (pc := 24) (l' := [(0, .ref (rid 1 1)), (1, .int 0)]) hX dX3_work_24 (by decide) rfl ?_
  refine wu_lpx (α := Int32) (γ := Unit) (pcl := 25) (pcT := 276) (lo := fun x => [(0, .ref (rid 1 1)), (1, .int x)]) (so := fun _ => []) (lT := fun x => [(0, .ref (rid 1 1))]) (sT := fun _ => []) (n := amFu) (x0 := 0) (fun K5 rec5 hrec5 hk5 x5 => ?_) (fun y6 => ?_)
  · unfold p_X3_work_L25
    refine wg_iload_n (pc := 25) hX dX3_work_25 1 rfl ?_
    refine wg_aload_n (pc := 26) hX dX3_work_26 0 rfl ?_
    refine wu_ (wg_gI (pc := 27) hX fd_X3_366 dX3_work_27 fun v7 => ?_)
    refine wg_icmp_ge (pc := 30) (tgt := 276) hX dX3_work_30 (by decide) (fun h8 => ?_) (fun h8 => ?_)
    · refine wu_t h8 ?_
      refine wg_sub hX [0] rfl ?_
      exact wu_rt (hk5 ())
    refine wu_f h8 ?_
    refine wg_aload_n (pc := 33) hX dX3_work_33 0 rfl ?_
    refine wg_gK (pc := 34) hX hM0 fd_X3_152 (by decide) dX3_work_34 ?_
    refine wg_iload_n (pc := 37) hX dX3_work_37 1 rfl ?_
    refine wg_iconst (pc := 38) (v := 0) hX dX3_work_38 rfl ?_
    refine wu_ (wg_wI (pc := 39) hX ar_102 dX3_work_39 ?_)
    refine wg_aload_n (pc := 40) hX dX3_work_40 0 rfl ?_
    refine wg_gK (pc := 41) hX hM0 fd_X3_155 (by decide) dX3_work_41 ?_
    refine wg_iload_n (pc := 44) hX dX3_work_44 1 rfl ?_
    refine wg_iconst (pc := 45) (v := 0) hX dX3_work_45 rfl ?_
    refine wu_ (wg_wI (pc := 46) hX ar_103 dX3_work_46 ?_)
    refine wg_aload_n (pc := 47) hX dX3_work_47 0 rfl ?_
    refine wg_gK (pc := 48) hX hM0 fd_X3_143 (by decide) dX3_work_48 ?_
    refine wg_iload_n (pc := 51) hX dX3_work_51 1 rfl ?_
    refine wg_iconst (pc := 52) (v := (-1)) hX dX3_work_52 rfl ?_
    refine wu_ (wg_wI (pc := 53) hX ar_99 dX3_work_53 ?_)
    refine wg_aload_n (pc := 54) hX dX3_work_54 0 rfl ?_
    refine wg_gK (pc := 55) hX hM0 fd_X3_128 (by decide) dX3_work_55 ?_
    refine wg_iload_n (pc := 58) hX dX3_work_58 1 rfl ?_
    refine wu_ (wg_rI (pc := 59) hX ar_94 dX3_work_59 fun v9 => ?_)
    refine wg_iconst (pc := 60) (v := 2) hX dX3_work_60 rfl ?_
    refine wu_jx (α := Unit) (pcJ := 270) (lJ := fun x => [(0, .ref (rid 1 1)), (1, .int x5)]) (sJ := fun x => []) (fun K10 hk10 => ?_) (fun z10 => ?_)
    · refine wg_icmp_eq (pc := 61) (tgt := 67) hX dX3_work_61 (by decide) (fun h11 => ?_) (fun h11 => ?_)
      rotate_left
      · refine wu_f h11 ?_
        refine wg_goto (pc := 64) (tgt := 270) hX dX3_work_64 (by decide) ?_
        exact wu_rt (hk10 ())
      refine wu_t h11 ?_
      refine wg_aload_n (pc := 67) hX dX3_work_67 0 rfl ?_
      refine wg_gK (pc := 68) hX hM0 fd_X3_140 (by decide) dX3_work_68 ?_
      refine wg_iload_n (pc := 71) hX dX3_work_71 1 rfl ?_
      refine wu_ (wg_rI (pc := 72) hX ar_98 dX3_work_72 fun v12 => ?_)
      refine wg_istore_n (pc := 73) (l' := [(0, .ref (rid 1 1)), (1, .int x5), (2, .int v12)]) hX dX3_work_73 (by decide) rfl ?_
      refine wg_aload_n (pc := 74) hX dX3_work_74 0 rfl ?_
      refine wg_gK (pc := 75) hX hM0 fd_X3_107 (by decide) dX3_work_75 ?_
      refine wg_iload_n (pc := 78) hX dX3_work_78 1 rfl ?_
      refine wu_ (wg_rI (pc := 79) hX ar_87 dX3_work_79 fun v13 => ?_)
      refine wg_iconst (pc := 80) (v := 2) hX dX3_work_80 rfl ?_
      refine wu_jx (α := Unit) (pcJ := 90) (lJ := fun x => [(0, .ref (rid 1 1)), (1, .int x5), (2, .int v12)]) (sJ := fun x => []) (fun K14 hk14 => ?_) (fun z14 => ?_)
      · refine wg_icmp_ne (pc := 81) (tgt := 90) hX dX3_work_81 (by decide) (fun h15 => ?_) (fun h15 => ?_)
        rotate_left
        · refine wu_f h15 ?_
          exact wu_rt (hk14 ())
        refine wu_t h15 ?_
        refine wg_aload_n (pc := 84) hX dX3_work_84 0 rfl ?_
        refine wg_iload_n (pc := 85) hX dX3_work_85 1 rfl ?_
        refine wg_iload_n (pc := 86) hX dX3_work_86 2 rfl ?_
        refine wu_ (wg_cVv (pc := 87) (As := [.int x5, .int v12]) (rest := []) hX (m_X3_save x5 v12) (by decide) (by decide) (by decide) rc_X3 (lw_V q2655 q2657 qs134 q163 q2658) hd_X3_save rfl (Nat.le_of_ble_eq_true rfl) (Nat.le_of_ble_eq_true rfl) (Nat.le_of_ble_eq_true rfl) rfl dX3_work_87 ?_)
        exact wu_rt (hk14 ())
      refine wg_aload_n (pc := 90) hX dX3_work_90 0 rfl ?_
      refine wg_gK (pc := 91) hX hM0 fd_X3_107 (by decide) dX3_work_91 ?_
      refine wg_iload_n (pc := 94) hX dX3_work_94 1 rfl ?_
      refine wu_ (wg_rI (pc := 95) hX ar_87 dX3_work_95 fun v16 => ?_)
      refine wg_iconst (pc := 96) (v := 2) hX dX3_work_96 rfl ?_
      refine wg_icmp_ge (pc := 97) (tgt := 270) hX dX3_work_97 (by decide) (fun h17 => ?_) (fun h17 => ?_)
      · refine wu_t h17 ?_
        refine wg_sub hX [0, 1] rfl ?_
        exact wu_rt (hk10 ())
      refine wu_f h17 ?_
      refine wg_aload_n (pc := 100) hX dX3_work_100 0 rfl ?_
      refine wg_gK (pc := 101) hX hM0 fd_X3_107 (by decide) dX3_work_101 ?_
      refine wg_iload_n (pc := 104) hX dX3_work_104 1 rfl ?_
      refine wu_ (wg_rI (pc := 105) hX ar_87 dX3_work_105 fun v18 => ?_)
      refine wg_iconst (pc := 106) (v := 1) hX dX3_work_106 rfl ?_
      refine wu_jn (α := Unit) (pcJ := 133) (lJ := fun x => [(0, .ref (rid 1 1)), (1, .int x5), (2, .int v12)]) (sJ := fun x => []) (fun k19 hk19 => ?_) (fun z19 => ?_)
      · refine wg_icmp_ne (pc := 107) (tgt := 133) hX dX3_work_107 (by decide) (fun h20 => ?_) (fun h20 => ?_)
        rotate_left
        · refine wu_f h20 ?_
          exact hk19 ()
        refine wu_t h20 ?_
        refine wg_aload_n (pc := 110) hX dX3_work_110 0 rfl ?_
        refine wu_ (wg_gI (pc := 111) hX fd_X3_395 dX3_work_111 fun v21 => ?_)
        refine wg_aload_n (pc := 114) hX dX3_work_114 0 rfl ?_
        refine wg_gK (pc := 115) hX hM0 fd_X3_149 (by decide) dX3_work_115 ?_
        refine wg_iload_n (pc := 118) hX dX3_work_118 1 rfl ?_
        refine wu_ (wg_rI (pc := 119) hX ar_101 dX3_work_119 fun v22 => ?_)
        refine wg_isub (pc := 120) hX dX3_work_120 ?_
        refine wg_aload_n (pc := 121) hX dX3_work_121 0 rfl ?_
        refine wg_gK (pc := 122) hX hM0 fd_X3_125 (by decide) dX3_work_122 ?_
        refine wg_iload_n (pc := 125) hX dX3_work_125 1 rfl ?_
        refine wu_ (wg_rI (pc := 126) hX ar_93 dX3_work_126 fun v23 => ?_)
        refine wg_icmp_ge (pc := 127) (tgt := 133) hX dX3_work_127 (by decide) (fun h24 => ?_) (fun h24 => ?_)
        · refine wu_t h24 ?_
          exact hk19 ()
        refine wu_f h24 ?_
        refine wg_goto (pc := 130) (tgt := 270) hX dX3_work_130 (by decide) ?_
        refine wg_sub hX [0, 1] rfl ?_
        exact wu_rt (hk10 ())
      refine wg_aload_n (pc := 133) hX dX3_work_133 0 rfl ?_
      refine wg_iload_n (pc := 134) hX dX3_work_134 1 rfl ?_
      refine wg_iload_n (pc := 135) hX dX3_work_135 2 rfl ?_
      refine wu_ (wg_cVi (pc := 136) (As := [.int x5, .int v12]) (rest := []) hX (m_X3_roomFor x5 v12) (by decide) (by decide) (by decide) rc_X3 (lw_V q2659 q2661 qs135 q163 q2662) hd_X3_roomFor rfl (Nat.le_of_ble_eq_true rfl) (Nat.le_of_ble_eq_true rfl) (Nat.le_of_ble_eq_true rfl) rfl dX3_work_136 fun v25 => ?_)
      refine wg_istore_n (pc := 139) (l' := [(0, .ref (rid 1 1)), (1, .int x5), (2, .int v12), (3, .int v25)]) hX dX3_work_139 (by decide) rfl ?_
      refine wg_iload_n (pc := 140) hX dX3_work_140 3 rfl ?_
      refine wg_iconst (pc := 141) (v := (-1)) hX dX3_work_141 rfl ?_
      refine wg_icmp_ne (pc := 142) (tgt := 148) hX dX3_work_142 (by decide) (fun h26 => ?_) (fun h26 => ?_)
      · refine wu_t h26 ?_
        refine wg_goto (pc := 145) (tgt := 270) hX dX3_work_145 (by decide) ?_
        refine wg_sub hX [0, 1] rfl ?_
        exact wu_rt (hk10 ())
      refine wu_f h26 ?_
      refine wg_aload_n (pc := 148) hX dX3_work_148 0 rfl ?_
      refine wg_iload_n (pc := 149) hX dX3_work_149 1 rfl ?_
      refine wg_iload_n (pc := 150) hX dX3_work_150 2 rfl ?_
      refine wg_iload_n (pc := 151) hX dX3_work_151 3 rfl ?_
      refine wu_ (wg_cVi (pc := 152) (As := [.int x5, .int v12, .int v25]) (rest := []) hX (m_X3_leaves x5 v12 v25) (by decide) (by decide) (by decide) rc_X3 (lw_V q2671 q2673 qs138 q163 q2674) hd_X3_leaves rfl (Nat.le_of_ble_eq_true rfl) (Nat.le_of_ble_eq_true rfl) (Nat.le_of_ble_eq_true rfl) rfl dX3_work_152 fun v27 => ?_)
      refine wg_istore (pc := 155) (l' := [(0, .ref (rid 1 1)), (1, .int x5), (2, .int v12), (3, .int v25), (4, .int v27)]) hX dX3_work_155 (by decide) rfl ?_
      refine wg_aload_n (pc := 157) hX dX3_work_157 0 rfl ?_
      refine wg_gK (pc := 158) hX hM0 fd_X3_158 (by decide) dX3_work_158 ?_
      refine wg_iload_n (pc := 161) hX dX3_work_161 1 rfl ?_
      refine wg_bipush (pc := 162) (v := 24) hX dX3_work_162 rfl ?_
      refine wg_iload_n (pc := 164) hX dX3_work_164 2 rfl ?_
      refine wg_imul (pc := 165) hX dX3_work_165 ?_
      refine wg_iload_n (pc := 166) hX dX3_work_166 3 rfl ?_
      refine wg_iadd (pc := 167) hX dX3_work_167 ?_
      refine wu_ (wg_wI (pc := 168) hX ar_104 dX3_work_168 ?_)
      refine wg_aload_n (pc := 169) hX dX3_work_169 0 rfl ?_
      refine wg_gK (pc := 170) hX hM0 fd_X3_161 (by decide) dX3_work_170 ?_
      refine wg_iload_n (pc := 173) hX dX3_work_173 1 rfl ?_
      refine wg_aload_n (pc := 174) hX dX3_work_174 0 rfl ?_
      refine wg_gK (pc := 175) hX hM0 fd_X3_101 (by decide) dX3_work_175 ?_
      refine wg_aload_n (pc := 178) hX dX3_work_178 0 rfl ?_
      refine wg_iload_n (pc := 179) hX dX3_work_179 2 rfl ?_
      refine wu_ (wg_cVi (pc := 180) (As := [.int v12]) (rest := [.ref (rid 85 1), .int x5, .ref (rid 105 1)]) hX (m_X3_headFor v12) (by decide) (by decide) (by decide) rc_X3 (lw_V q2477 q2479 qs106 q163 q2480) hd_X3_headFor rfl (Nat.le_of_ble_eq_true rfl) (Nat.le_of_ble_eq_true rfl) (Nat.le_of_ble_eq_true rfl) rfl dX3_work_180 fun v28 => ?_)
      refine wu_ (wg_rI (pc := 183) hX ar_85 dX3_work_183 fun v29 => ?_)
      refine wu_ (wg_wI (pc := 184) hX ar_105 dX3_work_184 ?_)
      refine wg_aload_n (pc := 185) hX dX3_work_185 0 rfl ?_
      refine wg_gK (pc := 186) hX hM0 fd_X3_152 (by decide) dX3_work_186 ?_
      refine wg_iload_n (pc := 189) hX dX3_work_189 1 rfl ?_
      refine wg_iload (pc := 190) hX dX3_work_190 4 rfl ?_
      refine wu_jx (α := Int32) (pcJ := 212) (lJ := fun x => [(0, .ref (rid 1 1)), (1, .int x5), (2, .int v12), (3, .int v25), (4, .int v27)]) (sJ := fun x => [.int x, .int x5, .ref (rid 102 1)]) (fun K30 hk30 => ?_) (fun z30 => ?_)
      · refine wg_if_eq (pc := 192) (tgt := 206) hX dX3_work_192 (by decide) (fun h31 => ?_) (fun h31 => ?_)
        · refine wu_t h31 ?_
          refine wg_aload_n (pc := 206) hX dX3_work_206 0 rfl ?_
          refine wg_gK (pc := 207) hX hM0 fd_X3_122 (by decide) dX3_work_207 ?_
          refine wg_iload_n (pc := 210) hX dX3_work_210 1 rfl ?_
          refine wu_ (wg_rI (pc := 211) hX ar_92 dX3_work_211 fun v32 => ?_)
          exact wu_rt (hk30 v32)
        refine wu_f h31 ?_
        refine wg_aload_n (pc := 195) hX dX3_work_195 0 rfl ?_
        refine wg_gK (pc := 196) hX hM0 fd_X3_122 (by decide) dX3_work_196 ?_
        refine wg_iload_n (pc := 199) hX dX3_work_199 1 rfl ?_
        refine wu_ (wg_rI (pc := 200) hX ar_92 dX3_work_200 fun v33 => ?_)
        refine wg_iconst (pc := 201) (v := 2) hX dX3_work_201 rfl ?_
        refine wg_idiv (pc := 202) hX dX3_work_202 (by decide) ?_
        refine wg_goto (pc := 203) (tgt := 212) hX dX3_work_203 (by decide) ?_
        exact wu_rt (hk30 (v33 / 2))
      refine wu_ (wg_wI (pc := 212) hX ar_102 dX3_work_212 ?_)
      refine wg_iload (pc := 213) hX dX3_work_213 4 rfl ?_
      refine wu_jx (α := Unit) (pcJ := 230) (lJ := fun x => [(0, .ref (rid 1 1)), (1, .int x5)]) (sJ := fun x => []) (fun K34 hk34 => ?_) (fun z34 => ?_)
      · refine wg_if_ne (pc := 215) (tgt := 230) hX dX3_work_215 (by decide) (fun h35 => ?_) (fun h35 => ?_)
        rotate_left
        · refine wu_f h35 ?_
          refine wg_sub hX [0, 1] rfl ?_
          exact wu_rt (hk34 ())
        refine wu_t h35 ?_
        refine wg_aload_n (pc := 218) hX dX3_work_218 0 rfl ?_
        refine wg_gK (pc := 219) hX hM0 fd_X3_143 (by decide) dX3_work_219 ?_
        refine wg_iload_n (pc := 222) hX dX3_work_222 1 rfl ?_
        refine wg_aload_n (pc := 223) hX dX3_work_223 0 rfl ?_
        refine wg_iload_n (pc := 224) hX dX3_work_224 2 rfl ?_
        refine wg_iload_n (pc := 225) hX dX3_work_225 3 rfl ?_
        refine wu_ (wg_cVi (pc := 226) (As := [.int v12, .int v25]) (rest := [.int x5, .ref (rid 99 1)]) hX (m_X3_floorOf v12 v25) (by decide) (by decide) (by decide) rc_X3 (lw_V q2392 q2394 qs97 q163 q2395) hd_X3_floorOf rfl (Nat.le_of_ble_eq_true rfl) (Nat.le_of_ble_eq_true rfl) (Nat.le_of_ble_eq_true rfl) rfl dX3_work_226 fun v36 => ?_)
        refine wu_ (wg_wI (pc := 229) hX ar_99 dX3_work_229 ?_)
        refine wg_sub hX [0, 1] rfl ?_
        exact wu_rt (hk34 ())
      refine wg_aload_n (pc := 230) hX dX3_work_230 0 rfl ?_
      refine wg_gK (pc := 231) hX hM0 fd_X3_74 (by decide) dX3_work_231 ?_
      refine wg_aload_n (pc := 234) hX dX3_work_234 0 rfl ?_
      refine wg_gK (pc := 235) hX hM0 fd_X3_158 (by decide) dX3_work_235 ?_
      refine wg_iload_n (pc := 238) hX dX3_work_238 1 rfl ?_
      refine wu_ (wg_rI (pc := 239) hX ar_104 dX3_work_239 fun v37 => ?_)
      refine wg_dup2 (pc := 240) hX dX3_work_240 rfl rfl ?_
      refine wu_ (wg_rI (pc := 241) hX ar_76 dX3_work_241 fun v38 => ?_)
      refine wg_aload_n (pc := 242) hX dX3_work_242 0 rfl ?_
      refine wg_gK (pc := 243) hX hM0 fd_X3_152 (by decide) dX3_work_243 ?_
      refine wg_iload_n (pc := 246) hX dX3_work_246 1 rfl ?_
      refine wu_ (wg_rI (pc := 247) hX ar_102 dX3_work_247 fun v39 => ?_)
      refine wg_iadd (pc := 248) hX dX3_work_248 ?_
      refine wu_ (wg_wI (pc := 249) hX ar_76 dX3_work_249 ?_)
      refine wg_aload_n (pc := 250) hX dX3_work_250 0 rfl ?_
      refine wg_gK (pc := 251) hX hM0 fd_X3_104 (by decide) dX3_work_251 ?_
      refine wg_aload_n (pc := 254) hX dX3_work_254 0 rfl ?_
      refine wg_gK (pc := 255) hX hM0 fd_X3_161 (by decide) dX3_work_255 ?_
      refine wg_iload_n (pc := 258) hX dX3_work_258 1 rfl ?_
      refine wu_ (wg_rI (pc := 259) hX ar_105 dX3_work_259 fun v40 => ?_)
      refine wg_dup2 (pc := 260) hX dX3_work_260 rfl rfl ?_
      refine wu_ (wg_rI (pc := 261) hX ar_86 dX3_work_261 fun v41 => ?_)
      refine wg_aload_n (pc := 262) hX dX3_work_262 0 rfl ?_
      refine wg_gK (pc := 263) hX hM0 fd_X3_152 (by decide) dX3_work_263 ?_
      refine wg_iload_n (pc := 266) hX dX3_work_266 1 rfl ?_
      refine wu_ (wg_rI (pc := 267) hX ar_102 dX3_work_267 fun v42 => ?_)
      refine wg_iadd (pc := 268) hX dX3_work_268 ?_
      refine wu_ (wg_wI (pc := 269) hX ar_86 dX3_work_269 ?_)
      exact wu_rt (hk10 ())
    refine wg_iinc (pc := 270) (v := (x5 + 1)) (l' := [(0, .ref (rid 1 1)), (1, .int (x5 + 1))]) hX dX3_work_270 1 rfl rfl (by decide) rfl ?_
    refine wg_goto (pc := 273) (tgt := 25) hX dX3_work_273 (by decide) ?_
    exact hrec5 (x5 + 1)
  refine wg_iconst (pc := 276) (v := 0) hX dX3_work_276 rfl ?_
  refine wg_istore_n (pc := 277) (l' := [(0, .ref (rid 1 1)), (1, .int 0)]) hX dX3_work_277 (by decide) rfl ?_
  refine wu_lpx (α := Int32) (γ := Unit) (pcl := 278) (pcT := 298) (lo := fun x => [(0, .ref (rid 1 1)), (1, .int x)]) (so := fun _ => []) (lT := fun x => [(0, .ref (rid 1 1))]) (sT := fun _ => []) (n := amFu) (x0 := 0) (fun K43 rec43 hrec43 hk43 x43 => ?_) (fun y44 => ?_)
  · unfold p_X3_work_L278
    refine wg_iload_n (pc := 278) hX dX3_work_278 1 rfl ?_
    refine wg_sipush (pc := 279) (v := 288) hX dX3_work_279 rfl ?_
    refine wg_icmp_ge (pc := 282) (tgt := 298) hX dX3_work_282 (by decide) (fun h45 => ?_) (fun h45 => ?_)
    · refine wu_t h45 ?_
      refine wg_sub hX [0] rfl ?_
      exact wu_rt (hk43 ())
    refine wu_f h45 ?_
    refine wg_aload_n (pc := 285) hX dX3_work_285 0 rfl ?_
    refine wg_gK (pc := 286) hX hM0 fd_X3_74 (by decide) dX3_work_286 ?_
    refine wg_iload_n (pc := 289) hX dX3_work_289 1 rfl ?_
    refine wg_iconst (pc := 290) (v := 0) hX dX3_work_290 rfl ?_
    refine wu_ (wg_wI (pc := 291) hX ar_76 dX3_work_291 ?_)
    refine wg_iinc (pc := 292) (v := (x43 + 1)) (l' := [(0, .ref (rid 1 1)), (1, .int (x43 + 1))]) hX dX3_work_292 1 rfl rfl (by decide) rfl ?_
    refine wg_goto (pc := 295) (tgt := 278) hX dX3_work_295 (by decide) ?_
    exact hrec43 (x43 + 1)
  refine wg_iconst (pc := 298) (v := 0) hX dX3_work_298 rfl ?_
  refine wg_istore_n (pc := 299) (l' := [(0, .ref (rid 1 1)), (1, .int 0)]) hX dX3_work_299 (by decide) rfl ?_
  refine wu_lpx (α := Int32) (γ := Unit) (pcl := 300) (pcT := 423) (lo := fun x => [(0, .ref (rid 1 1)), (1, .int x)]) (so := fun _ => []) (lT := fun x => []) (sT := fun _ => []) (n := amFu) (x0 := 0) (fun K46 rec46 hrec46 hk46 x46 => ?_) (fun y47 => ?_)
  · unfold p_X3_work_L300
    refine wg_iload_n (pc := 300) hX dX3_work_300 1 rfl ?_
    refine wg_aload_n (pc := 301) hX dX3_work_301 0 rfl ?_
    refine wu_ (wg_gI (pc := 302) hX fd_X3_366 dX3_work_302 fun v48 => ?_)
    refine wg_icmp_ge (pc := 305) (tgt := 423) hX dX3_work_305 (by decide) (fun h49 => ?_) (fun h49 => ?_)
    · refine wu_t h49 ?_
      refine wg_sub hX [] rfl ?_
      exact wu_rt (hk46 ())
    refine wu_f h49 ?_
    refine wg_aload_n (pc := 308) hX dX3_work_308 0 rfl ?_
    refine wg_gK (pc := 309) hX hM0 fd_X3_152 (by decide) dX3_work_309 ?_
    refine wg_iload_n (pc := 312) hX dX3_work_312 1 rfl ?_
    refine wu_ (wg_rI (pc := 313) hX ar_102 dX3_work_313 fun v50 => ?_)
    refine wu_jx (α := Unit) (pcJ := 417) (lJ := fun x => [(0, .ref (rid 1 1)), (1, .int x46)]) (sJ := fun x => []) (fun K51 hk51 => ?_) (fun z51 => ?_)
    · refine wg_if_ne (pc := 314) (tgt := 320) hX dX3_work_314 (by decide) (fun h52 => ?_) (fun h52 => ?_)
      · refine wu_t h52 ?_
        refine wg_goto (pc := 317) (tgt := 417) hX dX3_work_317 (by decide) ?_
        exact wu_rt (hk51 ())
      refine wu_f h52 ?_
      refine wg_aload_n (pc := 320) hX dX3_work_320 0 rfl ?_
      refine wg_gK (pc := 321) hX hM0 fd_X3_104 (by decide) dX3_work_321 ?_
      refine wg_aload_n (pc := 324) hX dX3_work_324 0 rfl ?_
      refine wg_gK (pc := 325) hX hM0 fd_X3_161 (by decide) dX3_work_325 ?_
      refine wg_iload_n (pc := 328) hX dX3_work_328 1 rfl ?_
      refine wu_ (wg_rI (pc := 329) hX ar_105 dX3_work_329 fun v53 => ?_)
      refine wu_ (wg_rI (pc := 330) hX ar_86 dX3_work_330 fun v54 => ?_)
      refine wg_istore_n (pc := 331) (l' := [(0, .ref (rid 1 1)), (1, .int x46), (2, .int v54)]) hX dX3_work_331 (by decide) rfl ?_
      refine wg_aload_n (pc := 332) hX dX3_work_332 0 rfl ?_
      refine wg_gK (pc := 333) hX hM0 fd_X3_95 (by decide) dX3_work_333 ?_
      refine wg_aload_n (pc := 336) hX dX3_work_336 0 rfl ?_
      refine wg_gK (pc := 337) hX hM0 fd_X3_161 (by decide) dX3_work_337 ?_
      refine wg_iload_n (pc := 340) hX dX3_work_340 1 rfl ?_
      refine wu_ (wg_rI (pc := 341) hX ar_105 dX3_work_341 fun v55 => ?_)
      refine wu_ (wg_rI (pc := 342) hX ar_83 dX3_work_342 fun v56 => ?_)
      refine wg_istore_n (pc := 343) (l' := [(0, .ref (rid 1 1)), (1, .int x46), (2, .int v54), (3, .int v56)]) hX dX3_work_343 (by decide) rfl ?_
      refine wg_aload_n (pc := 344) hX dX3_work_344 0 rfl ?_
      refine wg_gK (pc := 345) hX hM0 fd_X3_155 (by decide) dX3_work_345 ?_
      refine wg_iload_n (pc := 348) hX dX3_work_348 1 rfl ?_
      refine wg_iload_n (pc := 349) hX dX3_work_349 2 rfl ?_
      refine wg_iload_n (pc := 350) hX dX3_work_350 3 rfl ?_
      refine wu_jx (α := Int32) (pcJ := 373) (lJ := fun x => [(0, .ref (rid 1 1)), (1, .int x46)]) (sJ := fun x => [.int x, .int x46, .ref (rid 103 1)]) (fun K57 hk57 => ?_) (fun z57 => ?_)
      · refine wg_icmp_gt (pc := 351) (tgt := 363) hX dX3_work_351 (by decide) (fun h58 => ?_) (fun h58 => ?_)
        rotate_left
        · refine wu_f h58 ?_
          refine wg_aload_n (pc := 354) hX dX3_work_354 0 rfl ?_
          refine wg_gK (pc := 355) hX hM0 fd_X3_152 (by decide) dX3_work_355 ?_
          refine wg_iload_n (pc := 358) hX dX3_work_358 1 rfl ?_
          refine wu_ (wg_rI (pc := 359) hX ar_102 dX3_work_359 fun v59 => ?_)
          refine wg_goto (pc := 360) (tgt := 373) hX dX3_work_360 (by decide) ?_
          refine wg_sub hX [0, 1] rfl ?_
          exact wu_rt (hk57 v59)
        refine wu_t h58 ?_
        refine wg_aload_n (pc := 363) hX dX3_work_363 0 rfl ?_
        refine wg_gK (pc := 364) hX hM0 fd_X3_152 (by decide) dX3_work_364 ?_
        refine wg_iload_n (pc := 367) hX dX3_work_367 1 rfl ?_
        refine wu_ (wg_rI (pc := 368) hX ar_102 dX3_work_368 fun v60 => ?_)
        refine wg_iload_n (pc := 369) hX dX3_work_369 3 rfl ?_
        refine wg_imul (pc := 370) hX dX3_work_370 ?_
        refine wg_iload_n (pc := 371) hX dX3_work_371 2 rfl ?_
        refine wu_ (wg_gd fun h61 => ?_)
        refine wg_idiv (pc := 372) hX dX3_work_372 h61 ?_
        refine wg_sub hX [0, 1] rfl ?_
        exact wu_rt (hk57 ((v60 * v56) / v54))
      refine wu_ (wg_wI (pc := 373) hX ar_103 dX3_work_373 ?_)
      refine wg_aload_n (pc := 374) hX dX3_work_374 0 rfl ?_
      refine wg_gK (pc := 375) hX hM0 fd_X3_74 (by decide) dX3_work_375 ?_
      refine wg_aload_n (pc := 378) hX dX3_work_378 0 rfl ?_
      refine wg_gK (pc := 379) hX hM0 fd_X3_158 (by decide) dX3_work_379 ?_
      refine wg_iload_n (pc := 382) hX dX3_work_382 1 rfl ?_
      refine wu_ (wg_rI (pc := 383) hX ar_104 dX3_work_383 fun v62 => ?_)
      refine wg_dup2 (pc := 384) hX dX3_work_384 rfl rfl ?_
      refine wu_ (wg_rI (pc := 385) hX ar_76 dX3_work_385 fun v63 => ?_)
      refine wg_aload_n (pc := 386) hX dX3_work_386 0 rfl ?_
      refine wg_gK (pc := 387) hX hM0 fd_X3_155 (by decide) dX3_work_387 ?_
      refine wg_iload_n (pc := 390) hX dX3_work_390 1 rfl ?_
      refine wu_ (wg_rI (pc := 391) hX ar_103 dX3_work_391 fun v64 => ?_)
      refine wg_iadd (pc := 392) hX dX3_work_392 ?_
      refine wu_ (wg_wI (pc := 393) hX ar_76 dX3_work_393 ?_)
      refine wg_aload_n (pc := 394) hX dX3_work_394 0 rfl ?_
      refine wg_gK (pc := 395) hX hM0 fd_X3_62 (by decide) dX3_work_395 ?_
      refine wg_aload_n (pc := 398) hX dX3_work_398 0 rfl ?_
      refine wg_gK (pc := 399) hX hM0 fd_X3_158 (by decide) dX3_work_399 ?_
      refine wg_iload_n (pc := 402) hX dX3_work_402 1 rfl ?_
      refine wu_ (wg_rI (pc := 403) hX ar_104 dX3_work_403 fun v65 => ?_)
      refine wg_bipush (pc := 404) (v := 24) hX dX3_work_404 rfl ?_
      refine wg_idiv (pc := 406) hX dX3_work_406 (by decide) ?_
      refine wu_ (wg_nmi hX fun v66 => ?_)
      refine wg_dup2 (pc := 407) hX dX3_work_407 rfl rfl ?_
      refine wu_ (wg_rI (pc := 408) hX ar_72 dX3_work_408 fun v67 => ?_)
      refine wg_aload_n (pc := 409) hX dX3_work_409 0 rfl ?_
      refine wg_gK (pc := 410) hX hM0 fd_X3_155 (by decide) dX3_work_410 ?_
      refine wg_iload_n (pc := 413) hX dX3_work_413 1 rfl ?_
      refine wu_ (wg_rI (pc := 414) hX ar_103 dX3_work_414 fun v68 => ?_)
      refine wg_iadd (pc := 415) hX dX3_work_415 ?_
      refine wu_ (wg_wI (pc := 416) hX ar_72 dX3_work_416 ?_)
      exact wu_rt (hk51 ())
    refine wg_iinc (pc := 417) (v := (x46 + 1)) (l' := [(0, .ref (rid 1 1)), (1, .int (x46 + 1))]) hX dX3_work_417 1 rfl rfl (by decide) rfl ?_
    refine wg_goto (pc := 420) (tgt := 300) hX dX3_work_420 (by decide) ?_
    exact hrec46 (x46 + 1)
  exact wu_rt (wg_vret (pc := 423) hX rfl rfl dX3_work_423)
theorem m_X3_beside (a1 : Int32) (a2 : Int32) : amMet yX3_beside cX3_beside 4 (some .int) 1 32 encI [.ref (rid 1 1), .int a1, .int a2] (up (p_X3_beside a1 a2)) := by
  refine amMet.of (own := RX3) (by decide) rfl (Nat.le_of_ble_eq_true rfl) fun X hX hPs => ?_
  change WG X encI 0 [(0, .ref (rid 1 1)), (1, .int a1), (2, .int a2)] [] (bd1 (up (p_X3_beside a1 a2)) rt1)
  unfold p_X3_beside
  have hM0 := amPs.m0 hPs
  refine wu_ (wg_gM ?_)
  refine wg_iload_n (pc := 0) hX dX3_beside_0 1 rfl ?_
  refine wg_iload_n (pc := 1) hX dX3_beside_1 2 rfl ?_
  refine wg_iadd (pc := 2) hX dX3_beside_2 ?_
  refine wu_ (wg_nmi hX fun v1 => ?_)
  refine wg_istore_n (pc := 3) (l' := [(0, .ref (rid 1 1)), (1, .int a1), (2, .int a2), (3, .int v1)]) hX dX3_beside_3 (by decide) rfl ?_
  refine wu_lpx (α := Int32) (γ := Int32) (pcl := 4) (pcT := 38) (lo := fun x => [(0, .ref (rid 1 1)), (1, .int a1), (2, .int a2), (3, .int x)]) (so := fun _ => []) (lT := fun x => [(0, .ref (rid 1 1)), (3, .int x)]) (sT := fun _ => []) (n := amFu) (x0 := v1) (fun K2 rec2 hrec2 hk2 x2 => ?_) (fun y3 => ?_)
  · unfold p_X3_beside_L4
    refine wg_iload_n (pc := 4) hX dX3_beside_4 3 rfl ?_
    refine wg_if_lt (pc := 5) (tgt := 38) hX dX3_beside_5 (by decide) (fun h4 => ?_) (fun h4 => ?_)
    · refine wu_t h4 ?_
      refine wg_sub hX [0, 3] rfl ?_
      exact wu_rt (hk2 x2)
    refine wu_f h4 ?_
    refine wg_iload_n (pc := 8) hX dX3_beside_8 3 rfl ?_
    refine wg_aload_n (pc := 9) hX dX3_beside_9 0 rfl ?_
    refine wu_ (wg_gI (pc := 10) hX fd_X3_331 dX3_beside_10 fun v5 => ?_)
    refine wg_icmp_ge (pc := 13) (tgt := 38) hX dX3_beside_13 (by decide) (fun h6 => ?_) (fun h6 => ?_)
    · refine wu_t h6 ?_
      refine wg_sub hX [0, 3] rfl ?_
      exact wu_rt (hk2 x2)
    refine wu_f h6 ?_
    refine wg_aload_n (pc := 16) hX dX3_beside_16 0 rfl ?_
    refine wg_gK (pc := 17) hX hM0 fd_X3_32 (by decide) dX3_beside_17 ?_
    refine wg_iload_n (pc := 20) hX dX3_beside_20 3 rfl ?_
    refine wu_ (wg_rI (pc := 21) hX ar_62 dX3_beside_21 fun v7 => ?_)
    refine wg_aload_n (pc := 22) hX dX3_beside_22 0 rfl ?_
    refine wg_gK (pc := 23) hX hM0 fd_X3_32 (by decide) dX3_beside_23 ?_
    refine wg_iload_n (pc := 26) hX dX3_beside_26 1 rfl ?_
    refine wu_ (wg_rI (pc := 27) hX ar_62 dX3_beside_27 fun v8 => ?_)
    refine wg_icmp_eq (pc := 28) (tgt := 38) hX dX3_beside_28 (by decide) (fun h9 => ?_) (fun h9 => ?_)
    · refine wu_t h9 ?_
      refine wg_sub hX [0, 3] rfl ?_
      exact wu_rt (hk2 x2)
    refine wu_f h9 ?_
    refine wg_iload_n (pc := 31) hX dX3_beside_31 3 rfl ?_
    refine wg_iload_n (pc := 32) hX dX3_beside_32 2 rfl ?_
    refine wg_iadd (pc := 33) hX dX3_beside_33 ?_
    refine wu_ (wg_nmi hX fun v10 => ?_)
    refine wg_istore_n (pc := 34) (l' := [(0, .ref (rid 1 1)), (1, .int a1), (2, .int a2), (3, .int v10)]) hX dX3_beside_34 (by decide) rfl ?_
    refine wg_goto (pc := 35) (tgt := 4) hX dX3_beside_35 (by decide) ?_
    exact hrec2 v10
  refine wg_iload_n (pc := 38) hX dX3_beside_38 1 rfl ?_
  refine wu_jn (α := Unit) (pcJ := 54) (lJ := fun x => []) (sJ := fun x => []) (fun k11 hk11 => ?_) (fun z11 => ?_)
  · refine wg_if_lt (pc := 39) (tgt := 54) hX dX3_beside_39 (by decide) (fun h12 => ?_) (fun h12 => ?_)
    · refine wu_t h12 ?_
      refine wg_sub hX [] rfl ?_
      exact hk11 ()
    refine wu_f h12 ?_
    refine wg_iload_n (pc := 42) hX dX3_beside_42 1 rfl ?_
    refine wg_aload_n (pc := 43) hX dX3_beside_43 0 rfl ?_
    refine wu_ (wg_gI (pc := 44) hX fd_X3_331 dX3_beside_44 fun v13 => ?_)
    refine wg_icmp_ge (pc := 47) (tgt := 54) hX dX3_beside_47 (by decide) (fun h14 => ?_) (fun h14 => ?_)
    · refine wu_t h14 ?_
      refine wg_sub hX [] rfl ?_
      exact hk11 ()
    refine wu_f h14 ?_
    refine wg_iload_n (pc := 50) hX dX3_beside_50 1 rfl ?_
    refine wg_goto (pc := 51) (tgt := 55) hX dX3_beside_51 (by decide) ?_
    exact wu_rt (wg_iret (pc := 55) hX rfl rfl dX3_beside_55)
  refine wg_iconst (pc := 54) (v := (-1)) hX dX3_beside_54 rfl ?_
  exact wu_rt (wg_iret (pc := 55) hX rfl rfl dX3_beside_55)
theorem m_X3_fromBeside (a1 : Int32) (a2 : Int32) (a3 : Int32) : amMet yX3_fromBeside cX3_fromBeside 6 (some .int) 3 77 encI [.ref (rid 1 1), .int a1, .int a2, .int a3] (up (p_X3_fromBeside a1 a2 a3)) := by
  refine amMet.of (own := RX3) (by decide) rfl (Nat.le_of_ble_eq_true rfl) fun X hX hPs => ?_
  change WG X encI 0 [(0, .ref (rid 1 1)), (1, .int a1), (2, .int a2), (3, .int a3)] [] (bd1 (up (p_X3_fromBeside a1 a2 a3)) rt1)
  unfold p_X3_fromBeside
  have hM0 := amPs.m0 hPs
  refine wu_ (wg_gM ?_)
  refine wg_iload_n (pc := 0) hX dX3_fromBeside_0 2 rfl ?_
  refine wg_iconst (pc := 1) (v := (-1)) hX dX3_fromBeside_1 rfl ?_
  refine wg_icmp_eq (pc := 2) (tgt := 15) hX dX3_fromBeside_2 (by decide) (fun h1 => ?_) (fun h1 => ?_)
  · refine wu_t h1 ?_
    refine wg_iconst (pc := 15) (v := 0) hX dX3_fromBeside_15 rfl ?_
    exact wu_rt (wg_iret (pc := 16) hX rfl rfl dX3_fromBeside_16)
  refine wu_f h1 ?_
  refine wg_iload_n (pc := 5) hX dX3_fromBeside_5 3 rfl ?_
  refine wg_aload_n (pc := 6) hX dX3_fromBeside_6 0 rfl ?_
  refine wg_gK (pc := 7) hX hM0 fd_X3_38 (by decide) dX3_fromBeside_7 ?_
  refine wg_iload_n (pc := 10) hX dX3_fromBeside_10 2 rfl ?_
  refine wu_ (wg_rI (pc := 11) hX ar_64 dX3_fromBeside_11 fun v2 => ?_)
  refine wg_icmp_lt (pc := 12) (tgt := 17) hX dX3_fromBeside_12 (by decide) (fun h3 => ?_) (fun h3 => ?_)
  rotate_left
  · refine wu_f h3 ?_
    refine wg_iconst (pc := 15) (v := 0) hX dX3_fromBeside_15 rfl ?_
    exact wu_rt (wg_iret (pc := 16) hX rfl rfl dX3_fromBeside_16)
  refine wu_t h3 ?_
  refine wg_iconst (pc := 17) (v := 0) hX dX3_fromBeside_17 rfl ?_
  refine wg_istore (pc := 18) (l' := [(0, .ref (rid 1 1)), (1, .int a1), (2, .int a2), (3, .int a3), (4, .int 0)]) hX dX3_fromBeside_18 (by decide) rfl ?_
  refine wg_iconst (pc := 20) (v := 0) hX dX3_fromBeside_20 rfl ?_
  refine wg_istore (pc := 21) (l' := [(0, .ref (rid 1 1)), (1, .int a1), (2, .int a2), (3, .int a3), (4, .int 0), (5, .int 0)]) hX dX3_fromBeside_21 (by decide) rfl ?_
  refine wu_lpx (α := Int32 × Int32) (γ := Int32) (pcl := 23) (pcT := 86) (lo := fun x => [(0, .ref (rid 1 1)), (1, .int a1), (2, .int a2), (3, .int a3), (4, .int x.1), (5, .int x.2)]) (so := fun _ => []) (lT := fun x => [(4, .int x)]) (sT := fun _ => []) (n := amFu) (x0 := (0, 0)) (fun K4 rec4 hrec4 hk4 x4 => ?_) (fun y5 => ?_)
  · unfold p_X3_fromBeside_L23
    refine wg_iload (pc := 23) hX dX3_fromBeside_23 5 rfl ?_
    refine wg_aload_n (pc := 25) hX dX3_fromBeside_25 0 rfl ?_
    refine wg_gK (pc := 26) hX hM0 fd_X3_41 (by decide) dX3_fromBeside_26 ?_
    refine wg_iload_n (pc := 29) hX dX3_fromBeside_29 2 rfl ?_
    refine wu_ (wg_rI (pc := 30) hX ar_65 dX3_fromBeside_30 fun v6 => ?_)
    refine wg_icmp_ge (pc := 31) (tgt := 86) hX dX3_fromBeside_31 (by decide) (fun h7 => ?_) (fun h7 => ?_)
    · refine wu_t h7 ?_
      refine wg_sub hX [4] rfl ?_
      exact wu_rt (hk4 x4.1)
    refine wu_f h7 ?_
    refine wg_iload (pc := 34) hX dX3_fromBeside_34 4 rfl ?_
    refine wg_aload_n (pc := 36) hX dX3_fromBeside_36 0 rfl ?_
    refine wg_iload_n (pc := 37) hX dX3_fromBeside_37 2 rfl ?_
    refine wg_iload_n (pc := 38) hX dX3_fromBeside_38 3 rfl ?_
    refine wg_aload_n (pc := 39) hX dX3_fromBeside_39 0 rfl ?_
    refine wg_gK (pc := 40) hX hM0 fd_X3_41 (by decide) dX3_fromBeside_40 ?_
    refine wg_iload_n (pc := 43) hX dX3_fromBeside_43 2 rfl ?_
    refine wu_ (wg_rI (pc := 44) hX ar_65 dX3_fromBeside_44 fun v8 => ?_)
    refine wg_imul (pc := 45) hX dX3_fromBeside_45 ?_
    refine wg_iload (pc := 46) hX dX3_fromBeside_46 5 rfl ?_
    refine wg_iadd (pc := 48) hX dX3_fromBeside_48 ?_
    refine wu_ (wg_cVi (pc := 49) (As := [.int a2, .int ((a3 * v8) + x4.2)]) (rest := [.int x4.1]) hX (m_X3_burns a2 ((a3 * v8) + x4.2)) (by decide) (by decide) (by decide) rc_X3 (lw_V q2388 q2390 qs96 q163 q2391) hd_X3_burns rfl (Nat.le_of_ble_eq_true rfl) (Nat.le_of_ble_eq_true rfl) (Nat.le_of_ble_eq_true rfl) rfl dX3_fromBeside_49 fun v9 => ?_)
    refine wu_jx (α := Int32) (pcJ := 77) (lJ := fun x => [(0, .ref (rid 1 1)), (1, .int a1), (2, .int a2), (3, .int a3), (5, .int x4.2)]) (sJ := fun x => [.int x, .int x4.1]) (fun K10 hk10 => ?_) (fun z10 => ?_)
    · refine wg_if_eq (pc := 52) (tgt := 76) hX dX3_fromBeside_52 (by decide) (fun h11 => ?_) (fun h11 => ?_)
      · refine wu_t h11 ?_
        refine wg_iconst (pc := 76) (v := 0) hX dX3_fromBeside_76 rfl ?_
        refine wg_sub hX [0, 1, 2, 3, 5] rfl ?_
        exact wu_rt (hk10 0)
      refine wu_f h11 ?_
      refine wg_bipush (pc := 55) (v := 24) hX dX3_fromBeside_55 rfl ?_
      refine wg_iconst (pc := 57) (v := 1) hX dX3_fromBeside_57 rfl ?_
      refine wg_aload_n (pc := 58) hX dX3_fromBeside_58 0 rfl ?_
      refine wg_gK (pc := 59) hX hM0 fd_X3_47 (by decide) dX3_fromBeside_59 ?_
      refine wg_iload_n (pc := 62) hX dX3_fromBeside_62 1 rfl ?_
      refine wu_ (wg_rI (pc := 63) hX ar_67 dX3_fromBeside_63 fun v12 => ?_)
      refine wg_iadd (pc := 64) hX dX3_fromBeside_64 ?_
      refine wg_aload_n (pc := 65) hX dX3_fromBeside_65 0 rfl ?_
      refine wg_gK (pc := 66) hX hM0 fd_X3_47 (by decide) dX3_fromBeside_66 ?_
      refine wg_iload_n (pc := 69) hX dX3_fromBeside_69 2 rfl ?_
      refine wu_ (wg_rI (pc := 70) hX ar_67 dX3_fromBeside_70 fun v13 => ?_)
      refine wg_iadd (pc := 71) hX dX3_fromBeside_71 ?_
      refine wu_ (wg_nmi hX fun v14 => ?_)
      refine wu_ (wg_gd fun h15 => ?_)
      refine wg_idiv (pc := 72) hX dX3_fromBeside_72 h15 ?_
      refine wg_goto (pc := 73) (tgt := 77) hX dX3_fromBeside_73 (by decide) ?_
      refine wg_sub hX [0, 1, 2, 3, 5] rfl ?_
      exact wu_rt (hk10 (24 / v14))
    refine wg_iadd (pc := 77) hX dX3_fromBeside_77 ?_
    refine wu_ (wg_nmi hX fun v16 => ?_)
    refine wg_istore (pc := 78) (l' := [(0, .ref (rid 1 1)), (1, .int a1), (2, .int a2), (3, .int a3), (4, .int v16), (5, .int x4.2)]) hX dX3_fromBeside_78 (by decide) rfl ?_
    refine wg_iinc (pc := 80) (v := (x4.2 + 1)) (l' := [(0, .ref (rid 1 1)), (1, .int a1), (2, .int a2), (3, .int a3), (4, .int v16), (5, .int (x4.2 + 1))]) hX dX3_fromBeside_80 5 rfl rfl (by decide) rfl ?_
    refine wg_goto (pc := 83) (tgt := 23) hX dX3_fromBeside_83 (by decide) ?_
    exact hrec4 (v16, (x4.2 + 1))
  refine wg_iload (pc := 86) hX dX3_fromBeside_86 0 rfl ?_
  exact wu_rt (wg_iret (pc := 88) hX rfl rfl dX3_fromBeside_88)
theorem m_X3_gain (a1 : Int32) (a2 : Int32) : amMet yX3_gain cX3_gain 8 (some .int) 4 102 encI [.ref (rid 1 1), .int a1, .int a2] (up (p_X3_gain a1 a2)) := by
  refine amMet.of (own := RX3) (by decide) rfl (Nat.le_of_ble_eq_true rfl) fun X hX hPs => ?_
  change WG X encI 0 [(0, .ref (rid 1 1)), (1, .int a1), (2, .int a2)] [] (bd1 (up (p_X3_gain a1 a2)) rt1)
  unfold p_X3_gain
  have hM0 := amPs.m0 hPs
  refine wu_ (wg_gM ?_)
  refine wg_aload_n (pc := 0) hX dX3_gain_0 0 rfl ?_
  refine wg_gK (pc := 1) hX hM0 fd_X3_41 (by decide) dX3_gain_1 ?_
  refine wg_iload_n (pc := 4) hX dX3_gain_4 1 rfl ?_
  refine wu_ (wg_rI (pc := 5) hX ar_65 dX3_gain_5 fun v1 => ?_)
  refine wg_istore_n (pc := 6) (l' := [(0, .ref (rid 1 1)), (1, .int a1), (2, .int a2), (3, .int v1)]) hX dX3_gain_6 (by decide) rfl ?_
  refine wg_aload_n (pc := 7) hX dX3_gain_7 0 rfl ?_
  refine wg_iload_n (pc := 8) hX dX3_gain_8 1 rfl ?_
  refine wg_iload_n (pc := 9) hX dX3_gain_9 2 rfl ?_
  refine wu_ (wg_cVi (pc := 10) (As := [.int a1, .int a2]) (rest := []) hX (m_X3_floorOf a1 a2) (by decide) (by decide) (by decide) rc_X3 (lw_V q2392 q2394 qs97 q163 q2395) hd_X3_floorOf rfl (Nat.le_of_ble_eq_true rfl) (Nat.le_of_ble_eq_true rfl) (Nat.le_of_ble_eq_true rfl) rfl dX3_gain_10 fun v2 => ?_)
  refine wg_istore (pc := 13) (l' := [(0, .ref (rid 1 1)), (1, .int a1), (2, .int a2), (3, .int v1), (4, .int v2)]) hX dX3_gain_13 (by decide) rfl ?_
  refine wg_iload_n (pc := 15) hX dX3_gain_15 2 rfl ?_
  refine wg_iload_n (pc := 16) hX dX3_gain_16 3 rfl ?_
  refine wu_ (wg_gd fun h3 => ?_)
  refine wg_irem (pc := 17) hX dX3_gain_17 h3 ?_
  refine wu_ (wg_nmi hX fun v4 => ?_)
  refine wg_istore (pc := 18) (l' := [(0, .ref (rid 1 1)), (1, .int a1), (2, .int a2), (3, .int v1), (4, .int v2), (5, .int v4)]) hX dX3_gain_18 (by decide) rfl ?_
  refine wg_aload_n (pc := 20) hX dX3_gain_20 0 rfl ?_
  refine wg_iload_n (pc := 21) hX dX3_gain_21 1 rfl ?_
  refine wg_iload_n (pc := 22) hX dX3_gain_22 2 rfl ?_
  refine wu_ (wg_cVi (pc := 23) (As := [.int a1, .int a2]) (rest := []) hX (m_X3_burns a1 a2) (by decide) (by decide) (by decide) rc_X3 (lw_V q2388 q2390 qs96 q163 q2391) hd_X3_burns rfl (Nat.le_of_ble_eq_true rfl) (Nat.le_of_ble_eq_true rfl) (Nat.le_of_ble_eq_true rfl) rfl dX3_gain_23 fun v5 => ?_)
  refine wu_jx (α := Int32) (pcJ := 36) (lJ := fun x => [(0, .ref (rid 1 1)), (1, .int a1), (2, .int a2), (3, .int v1), (4, .int v2), (5, .int v4)]) (sJ := fun x => [.int x]) (fun K6 hk6 => ?_) (fun z6 => ?_)
  · refine wg_if_eq (pc := 26) (tgt := 34) hX dX3_gain_26 (by decide) (fun h7 => ?_) (fun h7 => ?_)
    · refine wu_t h7 ?_
      refine wg_bipush (pc := 34) (v := (-10)) hX dX3_gain_34 rfl ?_
      exact wu_rt (hk6 (-10))
    refine wu_f h7 ?_
    refine wg_bipush (pc := 29) (v := 50) hX dX3_gain_29 rfl ?_
    refine wg_goto (pc := 31) (tgt := 36) hX dX3_gain_31 (by decide) ?_
    exact wu_rt (hk6 50)
  refine wg_istore (pc := 36) (l' := [(0, .ref (rid 1 1)), (1, .int a1), (2, .int a2), (3, .int v1), (4, .int v2), (5, .int v4), (6, .int z6)]) hX dX3_gain_36 (by decide) rfl ?_
  refine wg_aload_n (pc := 38) hX dX3_gain_38 0 rfl ?_
  refine wg_gK (pc := 39) hX hM0 fd_X3_65 (by decide) dX3_gain_39 ?_
  refine wg_iload_n (pc := 42) hX dX3_gain_42 1 rfl ?_
  refine wu_ (wg_rZ (pc := 43) hX ar_73 dX3_gain_43 fun v8 => ?_)
  refine wu_jx (α := Int32) (pcJ := 54) (lJ := fun x => [(0, .ref (rid 1 1)), (1, .int a1), (2, .int a2), (3, .int v1), (4, .int v2), (5, .int v4), (6, .int z6)]) (sJ := fun x => [.int x]) (fun K9 hk9 => ?_) (fun z9 => ?_)
  · refine wg_if_eq (pc := 44) (tgt := 52) hX dX3_gain_44 (by decide) (fun h10 => ?_) (fun h10 => ?_)
    · refine wu_t h10 ?_
      refine wg_bipush (pc := 52) (v := 10) hX dX3_gain_52 rfl ?_
      exact wu_rt (hk9 10)
    refine wu_f h10 ?_
    refine wg_bipush (pc := 47) (v := 30) hX dX3_gain_47 rfl ?_
    refine wg_goto (pc := 49) (tgt := 54) hX dX3_gain_49 (by decide) ?_
    exact wu_rt (hk9 30)
  refine wg_istore (pc := 54) (l' := [(0, .ref (rid 1 1)), (1, .int a1), (2, .int a2), (3, .int v1), (4, .int v2), (5, .int v4), (6, .int z6), (7, .int z9)]) hX dX3_gain_54 (by decide) rfl ?_
  refine wg_iload (pc := 56) hX dX3_gain_56 5 rfl ?_
  refine wu_jx (α := Int32) (pcJ := 79) (lJ := fun x => [(0, .ref (rid 1 1)), (1, .int a1), (2, .int a2), (3, .int v1), (4, .int v2), (5, .int v4), (6, .int x), (7, .int z9)]) (sJ := fun x => []) (fun K11 hk11 => ?_) (fun z11 => ?_)
  · refine wg_if_le (pc := 58) (tgt := 79) hX dX3_gain_58 (by decide) (fun h12 => ?_) (fun h12 => ?_)
    · refine wu_t h12 ?_
      exact wu_rt (hk11 z6)
    refine wu_f h12 ?_
    refine wg_aload_n (pc := 61) hX dX3_gain_61 0 rfl ?_
    refine wg_iload_n (pc := 62) hX dX3_gain_62 1 rfl ?_
    refine wg_iload_n (pc := 63) hX dX3_gain_63 2 rfl ?_
    refine wg_iconst (pc := 64) (v := 1) hX dX3_gain_64 rfl ?_
    refine wg_isub (pc := 65) hX dX3_gain_65 ?_
    refine wu_ (wg_cVi (pc := 66) (As := [.int a1, .int (a2 - 1)]) (rest := []) hX (m_X3_burns a1 (a2 - 1)) (by decide) (by decide) (by decide) rc_X3 (lw_V q2388 q2390 qs96 q163 q2391) hd_X3_burns rfl (Nat.le_of_ble_eq_true rfl) (Nat.le_of_ble_eq_true rfl) (Nat.le_of_ble_eq_true rfl) rfl dX3_gain_66 fun v13 => ?_)
    refine wg_if_eq (pc := 69) (tgt := 79) hX dX3_gain_69 (by decide) (fun h14 => ?_) (fun h14 => ?_)
    · refine wu_t h14 ?_
      exact wu_rt (hk11 z6)
    refine wu_f h14 ?_
    refine wg_iload (pc := 72) hX dX3_gain_72 6 rfl ?_
    refine wg_iload (pc := 74) hX dX3_gain_74 7 rfl ?_
    refine wg_iadd (pc := 76) hX dX3_gain_76 ?_
    refine wu_ (wg_nmi hX fun v15 => ?_)
    refine wg_istore (pc := 77) (l' := [(0, .ref (rid 1 1)), (1, .int a1), (2, .int a2), (3, .int v1), (4, .int v2), (5, .int v4), (6, .int v15), (7, .int z9)]) hX dX3_gain_77 (by decide) rfl ?_
    exact wu_rt (hk11 v15)
  refine wg_iload (pc := 79) hX dX3_gain_79 5 rfl ?_
  refine wg_iload_n (pc := 81) hX dX3_gain_81 3 rfl ?_
  refine wg_iconst (pc := 82) (v := 1) hX dX3_gain_82 rfl ?_
  refine wg_isub (pc := 83) hX dX3_gain_83 ?_
  refine wu_jx (α := Int32) (pcJ := 105) (lJ := fun x => [(0, .ref (rid 1 1)), (1, .int a1), (2, .int a2), (3, .int v1), (4, .int v2), (5, .int v4), (6, .int x)]) (sJ := fun x => []) (fun K16 hk16 => ?_) (fun z16 => ?_)
  · refine wg_icmp_ge (pc := 84) (tgt := 105) hX dX3_gain_84 (by decide) (fun h17 => ?_) (fun h17 => ?_)
    · refine wu_t h17 ?_
      refine wg_sub hX [0, 1, 2, 3, 4, 5, 6] rfl ?_
      exact wu_rt (hk16 z11)
    refine wu_f h17 ?_
    refine wg_aload_n (pc := 87) hX dX3_gain_87 0 rfl ?_
    refine wg_iload_n (pc := 88) hX dX3_gain_88 1 rfl ?_
    refine wg_iload_n (pc := 89) hX dX3_gain_89 2 rfl ?_
    refine wg_iconst (pc := 90) (v := 1) hX dX3_gain_90 rfl ?_
    refine wg_iadd (pc := 91) hX dX3_gain_91 ?_
    refine wu_ (wg_cVi (pc := 92) (As := [.int a1, .int (a2 + 1)]) (rest := []) hX (m_X3_burns a1 (a2 + 1)) (by decide) (by decide) (by decide) rc_X3 (lw_V q2388 q2390 qs96 q163 q2391) hd_X3_burns rfl (Nat.le_of_ble_eq_true rfl) (Nat.le_of_ble_eq_true rfl) (Nat.le_of_ble_eq_true rfl) rfl dX3_gain_92 fun v18 => ?_)
    refine wg_if_eq (pc := 95) (tgt := 105) hX dX3_gain_95 (by decide) (fun h19 => ?_) (fun h19 => ?_)
    · refine wu_t h19 ?_
      refine wg_sub hX [0, 1, 2, 3, 4, 5, 6] rfl ?_
      exact wu_rt (hk16 z11)
    refine wu_f h19 ?_
    refine wg_iload (pc := 98) hX dX3_gain_98 6 rfl ?_
    refine wg_iload (pc := 100) hX dX3_gain_100 7 rfl ?_
    refine wg_iadd (pc := 102) hX dX3_gain_102 ?_
    refine wu_ (wg_nmi hX fun v20 => ?_)
    refine wg_istore (pc := 103) (l' := [(0, .ref (rid 1 1)), (1, .int a1), (2, .int a2), (3, .int v1), (4, .int v2), (5, .int v4), (6, .int v20), (7, .int z9)]) hX dX3_gain_103 (by decide) rfl ?_
    refine wg_sub hX [0, 1, 2, 3, 4, 5, 6] rfl ?_
    exact wu_rt (hk16 v20)
  refine wg_iload (pc := 105) hX dX3_gain_105 4 rfl ?_
  refine wu_jx (α := Int32) (pcJ := 144) (lJ := fun x => [(0, .ref (rid 1 1)), (1, .int a1), (2, .int a2), (3, .int v1), (4, .int v2), (6, .int x)]) (sJ := fun x => []) (fun K21 hk21 => ?_) (fun z21 => ?_)
  · refine wg_if_le (pc := 107) (tgt := 144) hX dX3_gain_107 (by decide) (fun h22 => ?_) (fun h22 => ?_)
    · refine wu_t h22 ?_
      refine wg_sub hX [0, 1, 2, 3, 4, 6] rfl ?_
      exact wu_rt (hk21 z16)
    refine wu_f h22 ?_
    refine wg_aload_n (pc := 110) hX dX3_gain_110 0 rfl ?_
    refine wg_iload_n (pc := 111) hX dX3_gain_111 1 rfl ?_
    refine wg_iload_n (pc := 112) hX dX3_gain_112 2 rfl ?_
    refine wg_iload_n (pc := 113) hX dX3_gain_113 3 rfl ?_
    refine wg_isub (pc := 114) hX dX3_gain_114 ?_
    refine wu_ (wg_cVi (pc := 115) (As := [.int a1, .int (a2 - v1)]) (rest := []) hX (m_X3_burns a1 (a2 - v1)) (by decide) (by decide) (by decide) rc_X3 (lw_V q2388 q2390 qs96 q163 q2391) hd_X3_burns rfl (Nat.le_of_ble_eq_true rfl) (Nat.le_of_ble_eq_true rfl) (Nat.le_of_ble_eq_true rfl) rfl dX3_gain_115 fun v23 => ?_)
    refine wg_if_eq (pc := 118) (tgt := 144) hX dX3_gain_118 (by decide) (fun h24 => ?_) (fun h24 => ?_)
    · refine wu_t h24 ?_
      refine wg_sub hX [0, 1, 2, 3, 4, 6] rfl ?_
      exact wu_rt (hk21 z16)
    refine wu_f h24 ?_
    refine wg_iload (pc := 121) hX dX3_gain_121 6 rfl ?_
    refine wg_iload (pc := 123) hX dX3_gain_123 5 rfl ?_
    refine wg_aload_n (pc := 125) hX dX3_gain_125 0 rfl ?_
    refine wg_gK (pc := 126) hX hM0 fd_X3_44 (by decide) dX3_gain_126 ?_
    refine wg_iload_n (pc := 129) hX dX3_gain_129 1 rfl ?_
    refine wu_ (wg_rI (pc := 130) hX ar_66 dX3_gain_130 fun v25 => ?_)
    refine wu_jx (α := Int32) (pcJ := 141) (lJ := fun x => [(0, .ref (rid 1 1)), (1, .int a1), (2, .int a2), (3, .int v1), (4, .int v2)]) (sJ := fun x => [.int x, .int z16]) (fun K26 hk26 => ?_) (fun z26 => ?_)
    · refine wg_icmp_ne (pc := 131) (tgt := 139) hX dX3_gain_131 (by decide) (fun h27 => ?_) (fun h27 => ?_)
      rotate_left
      · refine wu_f h27 ?_
        refine wg_bipush (pc := 139) (v := 20) hX dX3_gain_139 rfl ?_
        refine wg_sub hX [0, 1, 2, 3, 4] rfl ?_
        exact wu_rt (hk26 20)
      refine wu_t h27 ?_
      refine wg_bipush (pc := 134) (v := 60) hX dX3_gain_134 rfl ?_
      refine wg_goto (pc := 136) (tgt := 141) hX dX3_gain_136 (by decide) ?_
      refine wg_sub hX [0, 1, 2, 3, 4] rfl ?_
      exact wu_rt (hk26 60)
    refine wg_iadd (pc := 141) hX dX3_gain_141 ?_
    refine wu_ (wg_nmi hX fun v28 => ?_)
    refine wg_istore (pc := 142) (l' := [(0, .ref (rid 1 1)), (1, .int a1), (2, .int a2), (3, .int v1), (4, .int v2), (6, .int v28)]) hX dX3_gain_142 (by decide) rfl ?_
    exact wu_rt (hk21 v28)
  refine wg_iload (pc := 144) hX dX3_gain_144 4 rfl ?_
  refine wg_aload_n (pc := 146) hX dX3_gain_146 0 rfl ?_
  refine wg_gK (pc := 147) hX hM0 fd_X3_38 (by decide) dX3_gain_147 ?_
  refine wg_iload_n (pc := 150) hX dX3_gain_150 1 rfl ?_
  refine wu_ (wg_rI (pc := 151) hX ar_64 dX3_gain_151 fun v29 => ?_)
  refine wg_iconst (pc := 152) (v := 1) hX dX3_gain_152 rfl ?_
  refine wg_isub (pc := 153) hX dX3_gain_153 ?_
  refine wu_jx (α := Int32) (pcJ := 171) (lJ := fun x => [(0, .ref (rid 1 1)), (1, .int a1), (2, .int a2), (4, .int v2), (6, .int x)]) (sJ := fun x => []) (fun K30 hk30 => ?_) (fun z30 => ?_)
  · refine wg_icmp_ge (pc := 154) (tgt := 171) hX dX3_gain_154 (by decide) (fun h31 => ?_) (fun h31 => ?_)
    · refine wu_t h31 ?_
      refine wg_sub hX [0, 1, 2, 4, 5] rfl ?_
      exact wu_rt (hk30 z21)
    refine wu_f h31 ?_
    refine wg_aload_n (pc := 157) hX dX3_gain_157 0 rfl ?_
    refine wg_iload_n (pc := 158) hX dX3_gain_158 1 rfl ?_
    refine wg_iload_n (pc := 159) hX dX3_gain_159 2 rfl ?_
    refine wg_iload_n (pc := 160) hX dX3_gain_160 3 rfl ?_
    refine wg_iadd (pc := 161) hX dX3_gain_161 ?_
    refine wu_ (wg_cVi (pc := 162) (As := [.int a1, .int (a2 + v1)]) (rest := []) hX (m_X3_burns a1 (a2 + v1)) (by decide) (by decide) (by decide) rc_X3 (lw_V q2388 q2390 qs96 q163 q2391) hd_X3_burns rfl (Nat.le_of_ble_eq_true rfl) (Nat.le_of_ble_eq_true rfl) (Nat.le_of_ble_eq_true rfl) rfl dX3_gain_162 fun v32 => ?_)
    refine wg_if_eq (pc := 165) (tgt := 171) hX dX3_gain_165 (by decide) (fun h33 => ?_) (fun h33 => ?_)
    · refine wu_t h33 ?_
      refine wg_sub hX [0, 1, 2, 4, 5] rfl ?_
      exact wu_rt (hk30 z21)
    refine wu_f h33 ?_
    refine wg_iinc (pc := 168) (v := (z21 + 5)) (l' := [(0, .ref (rid 1 1)), (1, .int a1), (2, .int a2), (3, .int v1), (4, .int v2), (6, .int (z21 + 5))]) hX dX3_gain_168 5 rfl rfl (by decide) rfl ?_
    refine wg_sub hX [0, 1, 2, 4, 5] rfl ?_
    exact wu_rt (hk30 (z21 + 5))
  refine wg_iload (pc := 171) hX dX3_gain_171 4 rfl ?_
  refine wg_aload_n (pc := 173) hX dX3_gain_173 0 rfl ?_
  refine wg_iload_n (pc := 174) hX dX3_gain_174 1 rfl ?_
  refine wg_aload_n (pc := 175) hX dX3_gain_175 0 rfl ?_
  refine wg_iload_n (pc := 176) hX dX3_gain_176 1 rfl ?_
  refine wg_iconst (pc := 177) (v := (-1)) hX dX3_gain_177 rfl ?_
  refine wu_ (wg_cVi (pc := 178) (As := [.int a1, .int (-1)]) (rest := [.int a1, .ref (rid 1 1), .int z30]) hX (m_X3_beside a1 (-1)) (by decide) (by decide) (by decide) rc_X3 (lw_V q2687 q2689 qs142 q163 q2690) hd_X3_beside rfl (Nat.le_of_ble_eq_true rfl) (Nat.le_of_ble_eq_true rfl) (Nat.le_of_ble_eq_true rfl) rfl dX3_gain_178 fun v34 => ?_)
  refine wg_iload (pc := 181) hX dX3_gain_181 3 rfl ?_
  refine wu_ (wg_cVi (pc := 183) (As := [.int a1, .int v34, .int v2]) (rest := [.int z30]) hX (m_X3_fromBeside a1 v34 v2) (by decide) (by decide) (by decide) rc_X3 (lw_V q2691 q2693 qs143 q163 q2694) hd_X3_fromBeside rfl (Nat.le_of_ble_eq_true rfl) (Nat.le_of_ble_eq_true rfl) (Nat.le_of_ble_eq_true rfl) rfl dX3_gain_183 fun v35 => ?_)
  refine wg_aload_n (pc := 186) hX dX3_gain_186 0 rfl ?_
  refine wg_iload_n (pc := 187) hX dX3_gain_187 1 rfl ?_
  refine wg_aload_n (pc := 188) hX dX3_gain_188 0 rfl ?_
  refine wg_iload_n (pc := 189) hX dX3_gain_189 1 rfl ?_
  refine wg_iconst (pc := 190) (v := 1) hX dX3_gain_190 rfl ?_
  refine wu_ (wg_cVi (pc := 191) (As := [.int a1, .int 1]) (rest := [.int a1, .ref (rid 1 1), .int v35, .int z30]) hX (m_X3_beside a1 1) (by decide) (by decide) (by decide) rc_X3 (lw_V q2687 q2689 qs142 q163 q2690) hd_X3_beside rfl (Nat.le_of_ble_eq_true rfl) (Nat.le_of_ble_eq_true rfl) (Nat.le_of_ble_eq_true rfl) rfl dX3_gain_191 fun v36 => ?_)
  refine wg_iload (pc := 194) hX dX3_gain_194 3 rfl ?_
  refine wu_ (wg_cVi (pc := 196) (As := [.int a1, .int v36, .int v2]) (rest := [.int v35, .int z30]) hX (m_X3_fromBeside a1 v36 v2) (by decide) (by decide) (by decide) rc_X3 (lw_V q2691 q2693 qs143 q163 q2694) hd_X3_fromBeside rfl (Nat.le_of_ble_eq_true rfl) (Nat.le_of_ble_eq_true rfl) (Nat.le_of_ble_eq_true rfl) rfl dX3_gain_196 fun v37 => ?_)
  refine wg_iadd (pc := 199) hX dX3_gain_199 ?_
  refine wg_iadd (pc := 200) hX dX3_gain_200 ?_
  refine wu_ (wg_nmi hX fun v38 => ?_)
  refine wg_istore (pc := 201) (l' := [(0, .ref (rid 1 1)), (1, .int a1), (2, .int a2), (4, .int v2), (6, .int v38)]) hX dX3_gain_201 (by decide) rfl ?_
  refine wg_iload (pc := 203) hX dX3_gain_203 4 rfl ?_
  refine wg_aload_n (pc := 205) hX dX3_gain_205 0 rfl ?_
  refine wg_gK (pc := 206) hX hM0 fd_X3_74 (by decide) dX3_gain_206 ?_
  refine wg_bipush (pc := 209) (v := 24) hX dX3_gain_209 rfl ?_
  refine wg_iload_n (pc := 211) hX dX3_gain_211 1 rfl ?_
  refine wg_imul (pc := 212) hX dX3_gain_212 ?_
  refine wg_iload_n (pc := 213) hX dX3_gain_213 2 rfl ?_
  refine wg_iadd (pc := 214) hX dX3_gain_214 ?_
  refine wu_ (wg_rI (pc := 215) hX ar_76 dX3_gain_215 fun v39 => ?_)
  refine wg_iconst (pc := 216) (v := 4) hX dX3_gain_216 rfl ?_
  refine wg_idiv (pc := 217) hX dX3_gain_217 (by decide) ?_
  refine wg_isub (pc := 218) hX dX3_gain_218 ?_
  exact wu_rt (wg_iret (pc := 219) hX rfl rfl dX3_gain_219)
theorem m_X3_falls (a1 : Int32) (a2 : Int32) (a3 : Int32) : amMet yX3_falls cX3_falls 7 none 1 64 encV [.ref (rid 1 1), .int a1, .int a2, .int a3] (up (p_X3_falls a1 a2 a3)) := by
  refine amMet.of (own := RX3) (by decide) rfl (Nat.le_of_ble_eq_true rfl) fun X hX hPs => ?_
  change WG X encV 0 [(0, .ref (rid 1 1)), (1, .int a1), (2, .int a2), (3, .int a3)] [] (bd1 (up (p_X3_falls a1 a2 a3)) rt1)
  unfold p_X3_falls
  have hM0 := amPs.m0 hPs
  refine wu_ (wg_gM ?_)
  refine wg_aload_n (pc := 0) hX dX3_falls_0 0 rfl ?_
  refine wg_gK (pc := 1) hX hM0 fd_X3_92 (by decide) dX3_falls_1 ?_
  refine wg_bipush (pc := 4) (v := 6) hX dX3_falls_4 rfl ?_
  refine wg_iload_n (pc := 6) hX dX3_falls_6 1 rfl ?_
  refine wg_imul (pc := 7) hX dX3_falls_7 ?_
  refine wg_iload_n (pc := 8) hX dX3_falls_8 2 rfl ?_
  refine wg_iadd (pc := 9) hX dX3_falls_9 ?_
  refine wg_iconst (pc := 10) (v := 1) hX dX3_falls_10 rfl ?_
  refine wu_ (wg_wZ (pc := 11) hX ar_82 (by decide) dX3_falls_11 ?_)
  refine wg_iconst (pc := 12) (v := 0) hX dX3_falls_12 rfl ?_
  refine wg_istore (pc := 13) (l' := [(0, .ref (rid 1 1)), (1, .int a1), (2, .int a2), (3, .int a3), (4, .int 0)]) hX dX3_falls_13 (by decide) rfl ?_
  refine wu_lpx (α := Int32) (γ := Unit) (pcl := 15) (pcT := 145) (lo := fun x => [(0, .ref (rid 1 1)), (1, .int a1), (2, .int a2), (3, .int a3), (4, .int x)]) (so := fun _ => []) (lT := fun x => [(0, .ref (rid 1 1)), (1, .int a1), (2, .int a2), (3, .int a3)]) (sT := fun _ => []) (n := amFu) (x0 := 0) (fun K1 rec1 hrec1 hk1 x1 => ?_) (fun y2 => ?_)
  · unfold p_X3_falls_L15
    refine wg_iload (pc := 15) hX dX3_falls_15 4 rfl ?_
    refine wg_aload_n (pc := 17) hX dX3_falls_17 0 rfl ?_
    refine wg_gK (pc := 18) hX hM0 fd_X3_41 (by decide) dX3_falls_18 ?_
    refine wg_iload_n (pc := 21) hX dX3_falls_21 1 rfl ?_
    refine wu_ (wg_rI (pc := 22) hX ar_65 dX3_falls_22 fun v3 => ?_)
    refine wg_icmp_ge (pc := 23) (tgt := 145) hX dX3_falls_23 (by decide) (fun h4 => ?_) (fun h4 => ?_)
    · refine wu_t h4 ?_
      refine wg_sub hX [0, 1, 2, 3] rfl ?_
      exact wu_rt (hk1 ())
    refine wu_f h4 ?_
    refine wg_bipush (pc := 26) (v := 24) hX dX3_falls_26 rfl ?_
    refine wg_iload_n (pc := 28) hX dX3_falls_28 1 rfl ?_
    refine wg_imul (pc := 29) hX dX3_falls_29 ?_
    refine wg_iload_n (pc := 30) hX dX3_falls_30 2 rfl ?_
    refine wg_aload_n (pc := 31) hX dX3_falls_31 0 rfl ?_
    refine wg_gK (pc := 32) hX hM0 fd_X3_41 (by decide) dX3_falls_32 ?_
    refine wg_iload_n (pc := 35) hX dX3_falls_35 1 rfl ?_
    refine wu_ (wg_rI (pc := 36) hX ar_65 dX3_falls_36 fun v5 => ?_)
    refine wg_imul (pc := 37) hX dX3_falls_37 ?_
    refine wg_iadd (pc := 38) hX dX3_falls_38 ?_
    refine wg_iload (pc := 39) hX dX3_falls_39 4 rfl ?_
    refine wg_iadd (pc := 41) hX dX3_falls_41 ?_
    refine wu_ (wg_nmi hX fun v6 => ?_)
    refine wg_istore (pc := 42) (l' := [(0, .ref (rid 1 1)), (1, .int a1), (2, .int a2), (3, .int a3), (4, .int x1), (5, .int v6)]) hX dX3_falls_42 (by decide) rfl ?_
    refine wg_iload (pc := 44) hX dX3_falls_44 5 rfl ?_
    refine wg_aload_n (pc := 46) hX dX3_falls_46 0 rfl ?_
    refine wg_gK (pc := 47) hX hM0 fd_X3_41 (by decide) dX3_falls_47 ?_
    refine wg_iload_n (pc := 50) hX dX3_falls_50 1 rfl ?_
    refine wu_ (wg_rI (pc := 51) hX ar_65 dX3_falls_51 fun v7 => ?_)
    refine wg_isub (pc := 52) hX dX3_falls_52 ?_
    refine wu_ (wg_nmi hX fun v8 => ?_)
    refine wg_istore (pc := 53) (l' := [(0, .ref (rid 1 1)), (1, .int a1), (2, .int a2), (3, .int a3), (4, .int x1), (5, .int v6), (6, .int v8)]) hX dX3_falls_53 (by decide) rfl ?_
    refine wg_aload_n (pc := 55) hX dX3_falls_55 0 rfl ?_
    refine wg_gK (pc := 56) hX hM0 fd_X3_71 (by decide) dX3_falls_56 ?_
    refine wg_iload (pc := 59) hX dX3_falls_59 6 rfl ?_
    refine wg_sipush (pc := 61) (v := 2000) hX dX3_falls_61 rfl ?_
    refine wg_aload_n (pc := 64) hX dX3_falls_64 0 rfl ?_
    refine wg_gK (pc := 65) hX hM0 fd_X3_71 (by decide) dX3_falls_65 ?_
    refine wg_iload (pc := 68) hX dX3_falls_68 6 rfl ?_
    refine wu_ (wg_rI (pc := 70) hX ar_75 dX3_falls_70 fun v9 => ?_)
    refine wg_aload_n (pc := 71) hX dX3_falls_71 0 rfl ?_
    refine wg_gK (pc := 72) hX hM0 fd_X3_71 (by decide) dX3_falls_72 ?_
    refine wg_iload (pc := 75) hX dX3_falls_75 5 rfl ?_
    refine wu_ (wg_rI (pc := 77) hX ar_75 dX3_falls_77 fun v10 => ?_)
    refine wg_iadd (pc := 78) hX dX3_falls_78 ?_
    refine wg_mmin (pc := 79) hX q2320 q1149 q165 q1150 (Nat.le_of_ble_eq_true rfl) (Nat.le_of_ble_eq_true rfl) dX3_falls_79 ?_
    refine wu_ (wg_nmi hX fun v11 => ?_)
    refine wu_ (wg_wI (pc := 82) hX ar_75 dX3_falls_82 ?_)
    refine wg_aload_n (pc := 83) hX dX3_falls_83 0 rfl ?_
    refine wg_gK (pc := 84) hX hM0 fd_X3_92 (by decide) dX3_falls_84 ?_
    refine wg_bipush (pc := 87) (v := 6) hX dX3_falls_87 rfl ?_
    refine wg_iload_n (pc := 89) hX dX3_falls_89 1 rfl ?_
    refine wg_imul (pc := 90) hX dX3_falls_90 ?_
    refine wg_iload_n (pc := 91) hX dX3_falls_91 2 rfl ?_
    refine wg_iadd (pc := 92) hX dX3_falls_92 ?_
    refine wg_iconst (pc := 93) (v := 1) hX dX3_falls_93 rfl ?_
    refine wg_isub (pc := 94) hX dX3_falls_94 ?_
    refine wu_ (wg_rZ (pc := 95) hX ar_82 dX3_falls_95 fun v12 => ?_)
    refine wu_jx (α := Unit) (pcJ := 123) (lJ := fun x => [(0, .ref (rid 1 1)), (1, .int a1), (2, .int a2), (3, .int a3), (4, .int x1), (5, .int v6)]) (sJ := fun x => []) (fun K13 hk13 => ?_) (fun z13 => ?_)
    · refine wg_if_ne (pc := 96) (tgt := 123) hX dX3_falls_96 (by decide) (fun h14 => ?_) (fun h14 => ?_)
      rotate_left
      · refine wu_f h14 ?_
        refine wg_sub hX [0, 1, 2, 3, 4, 5] rfl ?_
        exact wu_rt (hk13 ())
      refine wu_t h14 ?_
      refine wg_aload_n (pc := 99) hX dX3_falls_99 0 rfl ?_
      refine wg_gK (pc := 100) hX hM0 fd_X3_68 (by decide) dX3_falls_100 ?_
      refine wg_iload (pc := 103) hX dX3_falls_103 6 rfl ?_
      refine wg_aload_n (pc := 105) hX dX3_falls_105 0 rfl ?_
      refine wg_gK (pc := 106) hX hM0 fd_X3_68 (by decide) dX3_falls_106 ?_
      refine wg_iload (pc := 109) hX dX3_falls_109 6 rfl ?_
      refine wu_ (wg_rI (pc := 111) hX ar_74 dX3_falls_111 fun v15 => ?_)
      refine wg_aload_n (pc := 112) hX dX3_falls_112 0 rfl ?_
      refine wg_gK (pc := 113) hX hM0 fd_X3_68 (by decide) dX3_falls_113 ?_
      refine wg_iload (pc := 116) hX dX3_falls_116 5 rfl ?_
      refine wu_ (wg_rI (pc := 118) hX ar_74 dX3_falls_118 fun v16 => ?_)
      refine wg_mmax (pc := 119) hX q2404 q712 q165 q713 (Nat.le_of_ble_eq_true rfl) (Nat.le_of_ble_eq_true rfl) dX3_falls_119 ?_
      refine wu_ (wg_nmi hX fun v17 => ?_)
      refine wu_ (wg_wI (pc := 122) hX ar_74 dX3_falls_122 ?_)
      refine wg_sub hX [0, 1, 2, 3, 4, 5] rfl ?_
      exact wu_rt (hk13 ())
    refine wg_aload_n (pc := 123) hX dX3_falls_123 0 rfl ?_
    refine wg_gK (pc := 124) hX hM0 fd_X3_68 (by decide) dX3_falls_124 ?_
    refine wg_iload (pc := 127) hX dX3_falls_127 5 rfl ?_
    refine wg_iconst (pc := 129) (v := 0) hX dX3_falls_129 rfl ?_
    refine wu_ (wg_wI (pc := 130) hX ar_74 dX3_falls_130 ?_)
    refine wg_aload_n (pc := 131) hX dX3_falls_131 0 rfl ?_
    refine wg_gK (pc := 132) hX hM0 fd_X3_71 (by decide) dX3_falls_132 ?_
    refine wg_iload (pc := 135) hX dX3_falls_135 5 rfl ?_
    refine wg_iconst (pc := 137) (v := 0) hX dX3_falls_137 rfl ?_
    refine wu_ (wg_wI (pc := 138) hX ar_75 dX3_falls_138 ?_)
    refine wg_iinc (pc := 139) (v := (x1 + 1)) (l' := [(0, .ref (rid 1 1)), (1, .int a1), (2, .int a2), (3, .int a3), (4, .int (x1 + 1)), (5, .int v6)]) hX dX3_falls_139 4 rfl rfl (by decide) rfl ?_
    refine wg_goto (pc := 142) (tgt := 15) hX dX3_falls_142 (by decide) ?_
    refine wg_sub hX [0, 1, 2, 3, 4] rfl ?_
    exact hrec1 (x1 + 1)
  refine wg_iload_n (pc := 145) hX dX3_falls_145 3 rfl ?_
  refine wg_if_ne (pc := 146) (tgt := 150) hX dX3_falls_146 (by decide) (fun h18 => ?_) (fun h18 => ?_)
  · refine wu_t h18 ?_
    exact wu_rt (wg_vret (pc := 149) hX rfl rfl dX3_falls_149)
  refine wu_f h18 ?_
  refine wg_aload_n (pc := 150) hX dX3_falls_150 0 rfl ?_
  refine wg_gK (pc := 151) hX hM0 fd_X3_59 (by decide) dX3_falls_151 ?_
  refine wg_iload_n (pc := 154) hX dX3_falls_154 1 rfl ?_
  refine wg_dup2 (pc := 155) hX dX3_falls_155 rfl rfl ?_
  refine wu_ (wg_rI (pc := 156) hX ar_71 dX3_falls_156 fun v19 => ?_)
  refine wg_aload_n (pc := 157) hX dX3_falls_157 0 rfl ?_
  refine wg_gK (pc := 158) hX hM0 fd_X3_86 (by decide) dX3_falls_158 ?_
  refine wg_bipush (pc := 161) (v := 6) hX dX3_falls_161 rfl ?_
  refine wg_iload_n (pc := 163) hX dX3_falls_163 1 rfl ?_
  refine wg_imul (pc := 164) hX dX3_falls_164 ?_
  refine wg_iload_n (pc := 165) hX dX3_falls_165 2 rfl ?_
  refine wg_iadd (pc := 166) hX dX3_falls_166 ?_
  refine wu_ (wg_rI (pc := 167) hX ar_80 dX3_falls_167 fun v20 => ?_)
  refine wg_iadd (pc := 168) hX dX3_falls_168 ?_
  refine wu_ (wg_wI (pc := 169) hX ar_71 dX3_falls_169 ?_)
  refine wg_aload_n (pc := 170) hX dX3_falls_170 0 rfl ?_
  refine wg_gK (pc := 171) hX hM0 fd_X3_86 (by decide) dX3_falls_171 ?_
  refine wg_bipush (pc := 174) (v := 6) hX dX3_falls_174 rfl ?_
  refine wg_iload_n (pc := 176) hX dX3_falls_176 1 rfl ?_
  refine wg_imul (pc := 177) hX dX3_falls_177 ?_
  refine wg_iload_n (pc := 178) hX dX3_falls_178 2 rfl ?_
  refine wg_iadd (pc := 179) hX dX3_falls_179 ?_
  refine wg_iconst (pc := 180) (v := 0) hX dX3_falls_180 rfl ?_
  refine wu_ (wg_wI (pc := 181) hX ar_80 dX3_falls_181 ?_)
  refine wg_iconst (pc := 182) (v := 0) hX dX3_falls_182 rfl ?_
  refine wg_istore (pc := 183) (l' := [(0, .ref (rid 1 1)), (1, .int a1), (2, .int a2), (3, .int a3), (4, .int 0)]) hX dX3_falls_183 (by decide) rfl ?_
  refine wg_sub hX [0, 1, 2, 4] rfl ?_
  refine wu_lpx (α := Int32) (γ := Unit) (pcl := 185) (pcT := 282) (lo := fun x => [(0, .ref (rid 1 1)), (1, .int a1), (2, .int a2), (4, .int x)]) (so := fun _ => []) (lT := fun x => []) (sT := fun _ => []) (n := amFu) (x0 := 0) (fun K21 rec21 hrec21 hk21 x21 => ?_) (fun y22 => ?_)
  · unfold p_X3_falls_L185
    refine wg_iload (pc := 185) hX dX3_falls_185 3 rfl ?_
    refine wg_aload_n (pc := 187) hX dX3_falls_187 0 rfl ?_
    refine wu_ (wg_gI (pc := 188) hX fd_X3_366 dX3_falls_188 fun v23 => ?_)
    refine wg_icmp_ge (pc := 191) (tgt := 282) hX dX3_falls_191 (by decide) (fun h24 => ?_) (fun h24 => ?_)
    · refine wu_t h24 ?_
      refine wg_sub hX [] rfl ?_
      exact wu_rt (hk21 ())
    refine wu_f h24 ?_
    refine wg_aload_n (pc := 194) hX dX3_falls_194 0 rfl ?_
    refine wg_gK (pc := 195) hX hM0 fd_X3_128 (by decide) dX3_falls_195 ?_
    refine wg_iload (pc := 198) hX dX3_falls_198 3 rfl ?_
    refine wu_ (wg_rI (pc := 200) hX ar_94 dX3_falls_200 fun v25 => ?_)
    refine wg_iconst (pc := 201) (v := 2) hX dX3_falls_201 rfl ?_
    refine wu_jx (α := Unit) (pcJ := 276) (lJ := fun x => [(0, .ref (rid 1 1)), (1, .int a1), (2, .int a2), (4, .int x21)]) (sJ := fun x => []) (fun K26 hk26 => ?_) (fun z26 => ?_)
    · refine wg_icmp_ne (pc := 202) (tgt := 276) hX dX3_falls_202 (by decide) (fun h27 => ?_) (fun h27 => ?_)
      rotate_left
      · refine wu_f h27 ?_
        exact wu_rt (hk26 ())
      refine wu_t h27 ?_
      refine wg_aload_n (pc := 205) hX dX3_falls_205 0 rfl ?_
      refine wg_gK (pc := 206) hX hM0 fd_X3_140 (by decide) dX3_falls_206 ?_
      refine wg_iload (pc := 209) hX dX3_falls_209 3 rfl ?_
      refine wu_ (wg_rI (pc := 211) hX ar_98 dX3_falls_211 fun v28 => ?_)
      refine wg_iload_n (pc := 212) hX dX3_falls_212 1 rfl ?_
      refine wg_icmp_ne (pc := 213) (tgt := 276) hX dX3_falls_213 (by decide) (fun h29 => ?_) (fun h29 => ?_)
      rotate_left
      · refine wu_f h29 ?_
        exact wu_rt (hk26 ())
      refine wu_t h29 ?_
      refine wg_aload_n (pc := 216) hX dX3_falls_216 0 rfl ?_
      refine wg_gK (pc := 217) hX hM0 fd_X3_143 (by decide) dX3_falls_217 ?_
      refine wg_iload (pc := 220) hX dX3_falls_220 3 rfl ?_
      refine wu_ (wg_rI (pc := 222) hX ar_99 dX3_falls_222 fun v30 => ?_)
      refine wg_iload_n (pc := 223) hX dX3_falls_223 2 rfl ?_
      refine wg_icmp_eq (pc := 224) (tgt := 230) hX dX3_falls_224 (by decide) (fun h31 => ?_) (fun h31 => ?_)
      rotate_left
      · refine wu_f h31 ?_
        refine wg_goto (pc := 227) (tgt := 276) hX dX3_falls_227 (by decide) ?_
        exact wu_rt (hk26 ())
      refine wu_t h31 ?_
      refine wg_aload_n (pc := 230) hX dX3_falls_230 0 rfl ?_
      refine wg_gK (pc := 231) hX hM0 fd_X3_128 (by decide) dX3_falls_231 ?_
      refine wg_iload (pc := 234) hX dX3_falls_234 3 rfl ?_
      refine wg_iconst (pc := 236) (v := 4) hX dX3_falls_236 rfl ?_
      refine wu_ (wg_wI (pc := 237) hX ar_94 dX3_falls_237 ?_)
      refine wg_aload_n (pc := 238) hX dX3_falls_238 0 rfl ?_
      refine wg_gK (pc := 239) hX hM0 fd_X3_131 (by decide) dX3_falls_239 ?_
      refine wg_iload (pc := 242) hX dX3_falls_242 3 rfl ?_
      refine wg_aload_n (pc := 244) hX dX3_falls_244 0 rfl ?_
      refine wg_gK (pc := 245) hX hM0 fd_X3_110 (by decide) dX3_falls_245 ?_
      refine wg_iload (pc := 248) hX dX3_falls_248 3 rfl ?_
      refine wu_ (wg_rI (pc := 250) hX ar_88 dX3_falls_250 fun v32 => ?_)
      refine wu_ (wg_wI (pc := 251) hX ar_95 dX3_falls_251 ?_)
      refine wg_aload_n (pc := 252) hX dX3_falls_252 0 rfl ?_
      refine wg_gK (pc := 253) hX hM0 fd_X3_134 (by decide) dX3_falls_253 ?_
      refine wg_iload (pc := 256) hX dX3_falls_256 3 rfl ?_
      refine wg_iconst (pc := 258) (v := (-1)) hX dX3_falls_258 rfl ?_
      refine wu_ (wg_wI (pc := 259) hX ar_96 dX3_falls_259 ?_)
      refine wg_aload_n (pc := 260) hX dX3_falls_260 0 rfl ?_
      refine wg_gK (pc := 261) hX hM0 fd_X3_140 (by decide) dX3_falls_261 ?_
      refine wg_iload (pc := 264) hX dX3_falls_264 3 rfl ?_
      refine wg_iconst (pc := 266) (v := (-1)) hX dX3_falls_266 rfl ?_
      refine wu_ (wg_wI (pc := 267) hX ar_98 dX3_falls_267 ?_)
      refine wg_aload_n (pc := 268) hX dX3_falls_268 0 rfl ?_
      refine wg_gK (pc := 269) hX hM0 fd_X3_143 (by decide) dX3_falls_269 ?_
      refine wg_iload (pc := 272) hX dX3_falls_272 3 rfl ?_
      refine wg_iconst (pc := 274) (v := (-1)) hX dX3_falls_274 rfl ?_
      refine wu_ (wg_wI (pc := 275) hX ar_99 dX3_falls_275 ?_)
      exact wu_rt (hk26 ())
    refine wg_iinc (pc := 276) (v := (x21 + 1)) (l' := [(0, .ref (rid 1 1)), (1, .int a1), (2, .int a2), (4, .int (x21 + 1))]) hX dX3_falls_276 3 rfl rfl (by decide) rfl ?_
    refine wg_goto (pc := 279) (tgt := 185) hX dX3_falls_279 (by decide) ?_
    exact hrec21 (x21 + 1)
  exact wu_rt (wg_vret (pc := 282) hX rfl rfl dX3_falls_282)
theorem m_X3_burn (a1 : Int32) : amMet yX3_burn cX3_burn 5 none 5 129 encV [.ref (rid 1 1), .int a1] (up (p_X3_burn a1)) := by
  refine amMet.of (own := RX3) (by decide) rfl (Nat.le_of_ble_eq_true rfl) fun X hX hPs => ?_
  change WG X encV 0 [(0, .ref (rid 1 1)), (1, .int a1)] [] (bd1 (up (p_X3_burn a1)) rt1)
  unfold p_X3_burn
  have hM0 := amPs.m0 hPs
  refine wu_ (wg_gM ?_)
  refine wg_iconst (pc := 0) (v := 0) hX dX3_burn_0 rfl ?_
  refine wg_istore_n (pc := 1) (l' := [(0, .ref (rid 1 1)), (1, .int a1), (2, .int 0)]) hX dX3_burn_1 (by decide) rfl ?_
  refine wu_lpx (α := Int32) (γ := Unit) (pcl := 2) (pcT := 146) (lo := fun x => [(0, .ref (rid 1 1)), (1, .int a1), (2, .int x)]) (so := fun _ => []) (lT := fun x => [(0, .ref (rid 1 1)), (1, .int a1)]) (sT := fun _ => []) (n := amFu) (x0 := 0) (fun K1 rec1 hrec1 hk1 x1 => ?_) (fun y2 => ?_)
  · unfold p_X3_burn_L2
    refine wg_iload_n (pc := 2) hX dX3_burn_2 2 rfl ?_
    refine wg_aload_n (pc := 3) hX dX3_burn_3 0 rfl ?_
    refine wu_ (wg_gI (pc := 4) hX fd_X3_331 dX3_burn_4 fun v3 => ?_)
    refine wg_icmp_ge (pc := 7) (tgt := 146) hX dX3_burn_7 (by decide) (fun h4 => ?_) (fun h4 => ?_)
    · refine wu_t h4 ?_
      refine wg_sub hX [0, 1] rfl ?_
      exact wu_rt (hk1 ())
    refine wu_f h4 ?_
    refine wg_iconst (pc := 10) (v := 0) hX dX3_burn_10 rfl ?_
    refine wg_istore_n (pc := 11) (l' := [(0, .ref (rid 1 1)), (1, .int a1), (2, .int x1), (3, .int 0)]) hX dX3_burn_11 (by decide) rfl ?_
    refine wu_lpx (α := Int32) (γ := Unit) (pcl := 12) (pcT := 140) (lo := fun x => [(0, .ref (rid 1 1)), (1, .int a1), (2, .int x1), (3, .int x)]) (so := fun _ => []) (lT := fun x => [(0, .ref (rid 1 1)), (1, .int a1), (2, .int x1)]) (sT := fun _ => []) (n := amFu) (x0 := 0) (fun K5 rec5 hrec5 hk5 x5 => ?_) (fun y6 => ?_)
    · unfold p_X3_burn_L12
      refine wg_iload_n (pc := 12) hX dX3_burn_12 3 rfl ?_
      refine wg_aload_n (pc := 13) hX dX3_burn_13 0 rfl ?_
      refine wg_gK (pc := 14) hX hM0 fd_X3_38 (by decide) dX3_burn_14 ?_
      refine wg_iload_n (pc := 17) hX dX3_burn_17 2 rfl ?_
      refine wu_ (wg_rI (pc := 18) hX ar_64 dX3_burn_18 fun v7 => ?_)
      refine wg_aload_n (pc := 19) hX dX3_burn_19 0 rfl ?_
      refine wg_gK (pc := 20) hX hM0 fd_X3_41 (by decide) dX3_burn_20 ?_
      refine wg_iload_n (pc := 23) hX dX3_burn_23 2 rfl ?_
      refine wu_ (wg_rI (pc := 24) hX ar_65 dX3_burn_24 fun v8 => ?_)
      refine wg_imul (pc := 25) hX dX3_burn_25 ?_
      refine wg_icmp_ge (pc := 26) (tgt := 140) hX dX3_burn_26 (by decide) (fun h9 => ?_) (fun h9 => ?_)
      · refine wu_t h9 ?_
        refine wg_sub hX [0, 1, 2] rfl ?_
        exact wu_rt (hk5 ())
      refine wu_f h9 ?_
      refine wg_bipush (pc := 29) (v := 24) hX dX3_burn_29 rfl ?_
      refine wg_iload_n (pc := 31) hX dX3_burn_31 2 rfl ?_
      refine wg_imul (pc := 32) hX dX3_burn_32 ?_
      refine wg_iload_n (pc := 33) hX dX3_burn_33 3 rfl ?_
      refine wg_iadd (pc := 34) hX dX3_burn_34 ?_
      refine wu_ (wg_nmi hX fun v10 => ?_)
      refine wg_istore (pc := 35) (l' := [(0, .ref (rid 1 1)), (1, .int a1), (2, .int x1), (3, .int x5), (4, .int v10)]) hX dX3_burn_35 (by decide) rfl ?_
      refine wg_aload_n (pc := 37) hX dX3_burn_37 0 rfl ?_
      refine wg_gK (pc := 38) hX hM0 fd_X3_77 (by decide) dX3_burn_38 ?_
      refine wg_iload (pc := 41) hX dX3_burn_41 4 rfl ?_
      refine wg_aload_n (pc := 43) hX dX3_burn_43 0 rfl ?_
      refine wg_gK (pc := 44) hX hM0 fd_X3_92 (by decide) dX3_burn_44 ?_
      refine wg_bipush (pc := 47) (v := 6) hX dX3_burn_47 rfl ?_
      refine wg_iload_n (pc := 49) hX dX3_burn_49 2 rfl ?_
      refine wg_imul (pc := 50) hX dX3_burn_50 ?_
      refine wg_aload_n (pc := 51) hX dX3_burn_51 0 rfl ?_
      refine wg_iload_n (pc := 52) hX dX3_burn_52 2 rfl ?_
      refine wg_iload_n (pc := 53) hX dX3_burn_53 3 rfl ?_
      refine wu_ (wg_cVi (pc := 54) (As := [.int x1, .int x5]) (rest := [.int (6 * x1), .ref (rid 82 1), .int v10, .ref (rid 77 1)]) hX (m_X3_floorOf x1 x5) (by decide) (by decide) (by decide) rc_X3 (lw_V q2392 q2394 qs97 q163 q2395) hd_X3_floorOf rfl (Nat.le_of_ble_eq_true rfl) (Nat.le_of_ble_eq_true rfl) (Nat.le_of_ble_eq_true rfl) rfl dX3_burn_54 fun v11 => ?_)
      refine wg_iadd (pc := 57) hX dX3_burn_57 ?_
      refine wu_ (wg_rZ (pc := 58) hX ar_82 dX3_burn_58 fun v12 => ?_)
      refine wu_jx (α := Int32) (pcJ := 90) (lJ := fun x => [(0, .ref (rid 1 1)), (1, .int a1), (2, .int x1), (3, .int x5), (4, .int v10)]) (sJ := fun x => [.int x, .int v10, .ref (rid 77 1)]) (fun K13 hk13 => ?_) (fun z13 => ?_)
      · refine wg_if_eq (pc := 59) (tgt := 66) hX dX3_burn_59 (by decide) (fun h14 => ?_) (fun h14 => ?_)
        rotate_left
        · refine wu_f h14 ?_
          refine wg_iconst (pc := 62) (v := 0) hX dX3_burn_62 rfl ?_
          refine wg_goto (pc := 63) (tgt := 90) hX dX3_burn_63 (by decide) ?_
          exact wu_rt (hk13 0)
        refine wu_t h14 ?_
        refine wg_iconst (pc := 66) (v := 0) hX dX3_burn_66 rfl ?_
        refine wg_sipush (pc := 67) (v := 1000) hX dX3_burn_67 rfl ?_
        refine wg_aload_n (pc := 70) hX dX3_burn_70 0 rfl ?_
        refine wg_gK (pc := 71) hX hM0 fd_X3_68 (by decide) dX3_burn_71 ?_
        refine wg_iload (pc := 74) hX dX3_burn_74 4 rfl ?_
        refine wu_ (wg_rI (pc := 76) hX ar_74 dX3_burn_76 fun v15 => ?_)
        refine wg_aload_n (pc := 77) hX dX3_burn_77 0 rfl ?_
        refine wg_iload_n (pc := 78) hX dX3_burn_78 2 rfl ?_
        refine wg_iload_n (pc := 79) hX dX3_burn_79 3 rfl ?_
        refine wu_ (wg_cVi (pc := 80) (As := [.int x1, .int x5]) (rest := [.int v15, .int 1000, .int 0, .int v10, .ref (rid 77 1)]) hX (m_X3_gain x1 x5) (by decide) (by decide) (by decide) rc_X3 (lw_V q2683 q2685 qs141 q163 q2686) hd_X3_gain rfl (Nat.le_of_ble_eq_true rfl) (Nat.le_of_ble_eq_true rfl) (Nat.le_of_ble_eq_true rfl) rfl dX3_burn_80 fun v16 => ?_)
        refine wg_iadd (pc := 83) hX dX3_burn_83 ?_
        refine wg_mmin (pc := 84) hX q2320 q1149 q165 q1150 (Nat.le_of_ble_eq_true rfl) (Nat.le_of_ble_eq_true rfl) dX3_burn_84 ?_
        refine wu_ (wg_nmi hX fun v17 => ?_)
        refine wg_mmax (pc := 87) hX q2404 q712 q165 q713 (Nat.le_of_ble_eq_true rfl) (Nat.le_of_ble_eq_true rfl) dX3_burn_87 ?_
        refine wu_ (wg_nmi hX fun v18 => ?_)
        exact wu_rt (hk13 v18)
      refine wu_ (wg_wI (pc := 90) hX ar_77 dX3_burn_90 ?_)
      refine wg_aload_n (pc := 91) hX dX3_burn_91 0 rfl ?_
      refine wg_gK (pc := 92) hX hM0 fd_X3_80 (by decide) dX3_burn_92 ?_
      refine wg_iload (pc := 95) hX dX3_burn_95 4 rfl ?_
      refine wg_aload_n (pc := 97) hX dX3_burn_97 0 rfl ?_
      refine wg_iload_n (pc := 98) hX dX3_burn_98 2 rfl ?_
      refine wg_iload_n (pc := 99) hX dX3_burn_99 3 rfl ?_
      refine wu_ (wg_cVi (pc := 100) (As := [.int x1, .int x5]) (rest := [.int v10, .ref (rid 78 1)]) hX (m_X3_burns x1 x5) (by decide) (by decide) (by decide) rc_X3 (lw_V q2388 q2390 qs96 q163 q2391) hd_X3_burns rfl (Nat.le_of_ble_eq_true rfl) (Nat.le_of_ble_eq_true rfl) (Nat.le_of_ble_eq_true rfl) rfl dX3_burn_100 fun v19 => ?_)
      refine wu_jx (α := Int32) (pcJ := 133) (lJ := fun x => [(0, .ref (rid 1 1)), (1, .int a1), (2, .int x1), (3, .int x5)]) (sJ := fun x => [.int x, .int v10, .ref (rid 78 1)]) (fun K20 hk20 => ?_) (fun z20 => ?_)
      · refine wg_if_eq (pc := 103) (tgt := 132) hX dX3_burn_103 (by decide) (fun h21 => ?_) (fun h21 => ?_)
        · refine wu_t h21 ?_
          refine wg_iconst (pc := 132) (v := 0) hX dX3_burn_132 rfl ?_
          refine wg_sub hX [0, 1, 2, 3] rfl ?_
          exact wu_rt (hk20 0)
        refine wu_f h21 ?_
        refine wg_aload_n (pc := 106) hX dX3_burn_106 0 rfl ?_
        refine wg_gK (pc := 107) hX hM0 fd_X3_71 (by decide) dX3_burn_107 ?_
        refine wg_iload (pc := 110) hX dX3_burn_110 4 rfl ?_
        refine wu_ (wg_rI (pc := 112) hX ar_75 dX3_burn_112 fun v22 => ?_)
        refine wg_iconst (pc := 113) (v := 1) hX dX3_burn_113 rfl ?_
        refine wg_aload_n (pc := 114) hX dX3_burn_114 0 rfl ?_
        refine wg_gK (pc := 115) hX hM0 fd_X3_68 (by decide) dX3_burn_115 ?_
        refine wg_iload (pc := 118) hX dX3_burn_118 4 rfl ?_
        refine wu_ (wg_rI (pc := 120) hX ar_74 dX3_burn_120 fun v23 => ?_)
        refine wg_sipush (pc := 121) (v := 250) hX dX3_burn_121 rfl ?_
        refine wg_idiv (pc := 124) hX dX3_burn_124 (by decide) ?_
        refine wg_iadd (pc := 125) hX dX3_burn_125 ?_
        refine wg_mmin (pc := 126) hX q2320 q1149 q165 q1150 (Nat.le_of_ble_eq_true rfl) (Nat.le_of_ble_eq_true rfl) dX3_burn_126 ?_
        refine wu_ (wg_nmi hX fun v24 => ?_)
        refine wg_goto (pc := 129) (tgt := 133) hX dX3_burn_129 (by decide) ?_
        refine wg_sub hX [0, 1, 2, 3] rfl ?_
        exact wu_rt (hk20 v24)
      refine wu_ (wg_wI (pc := 133) hX ar_78 dX3_burn_133 ?_)
      refine wg_iinc (pc := 134) (v := (x5 + 1)) (l' := [(0, .ref (rid 1 1)), (1, .int a1), (2, .int x1), (3, .int (x5 + 1))]) hX dX3_burn_134 3 rfl rfl (by decide) rfl ?_
      refine wg_goto (pc := 137) (tgt := 12) hX dX3_burn_137 (by decide) ?_
      exact hrec5 (x5 + 1)
    refine wg_iinc (pc := 140) (v := (x1 + 1)) (l' := [(0, .ref (rid 1 1)), (1, .int a1), (2, .int (x1 + 1))]) hX dX3_burn_140 2 rfl rfl (by decide) rfl ?_
    refine wg_goto (pc := 143) (tgt := 2) hX dX3_burn_143 (by decide) ?_
    exact hrec1 (x1 + 1)
  refine wg_iconst (pc := 146) (v := 0) hX dX3_burn_146 rfl ?_
  refine wg_istore_n (pc := 147) (l' := [(0, .ref (rid 1 1)), (1, .int a1), (2, .int 0)]) hX dX3_burn_147 (by decide) rfl ?_
  refine wu_lpx (α := Int32) (γ := Unit) (pcl := 148) (pcT := 252) (lo := fun x => [(0, .ref (rid 1 1)), (1, .int a1), (2, .int x)]) (so := fun _ => []) (lT := fun x => [(0, .ref (rid 1 1)), (1, .int a1)]) (sT := fun _ => []) (n := amFu) (x0 := 0) (fun K25 rec25 hrec25 hk25 x25 => ?_) (fun y26 => ?_)
  · unfold p_X3_burn_L148
    refine wg_iload_n (pc := 148) hX dX3_burn_148 2 rfl ?_
    refine wg_aload_n (pc := 149) hX dX3_burn_149 0 rfl ?_
    refine wu_ (wg_gI (pc := 150) hX fd_X3_331 dX3_burn_150 fun v27 => ?_)
    refine wg_icmp_ge (pc := 153) (tgt := 252) hX dX3_burn_153 (by decide) (fun h28 => ?_) (fun h28 => ?_)
    · refine wu_t h28 ?_
      refine wg_sub hX [0, 1] rfl ?_
      exact wu_rt (hk25 ())
    refine wu_f h28 ?_
    refine wg_iconst (pc := 156) (v := 0) hX dX3_burn_156 rfl ?_
    refine wg_istore_n (pc := 157) (l' := [(0, .ref (rid 1 1)), (1, .int a1), (2, .int x25), (3, .int 0)]) hX dX3_burn_157 (by decide) rfl ?_
    refine wu_lpx (α := Int32) (γ := Unit) (pcl := 158) (pcT := 246) (lo := fun x => [(0, .ref (rid 1 1)), (1, .int a1), (2, .int x25), (3, .int x)]) (so := fun _ => []) (lT := fun x => [(0, .ref (rid 1 1)), (1, .int a1), (2, .int x25)]) (sT := fun _ => []) (n := amFu) (x0 := 0) (fun K29 rec29 hrec29 hk29 x29 => ?_) (fun y30 => ?_)
    · unfold p_X3_burn_L158
      refine wg_iload_n (pc := 158) hX dX3_burn_158 3 rfl ?_
      refine wg_aload_n (pc := 159) hX dX3_burn_159 0 rfl ?_
      refine wg_gK (pc := 160) hX hM0 fd_X3_38 (by decide) dX3_burn_160 ?_
      refine wg_iload_n (pc := 163) hX dX3_burn_163 2 rfl ?_
      refine wu_ (wg_rI (pc := 164) hX ar_64 dX3_burn_164 fun v31 => ?_)
      refine wg_aload_n (pc := 165) hX dX3_burn_165 0 rfl ?_
      refine wg_gK (pc := 166) hX hM0 fd_X3_41 (by decide) dX3_burn_166 ?_
      refine wg_iload_n (pc := 169) hX dX3_burn_169 2 rfl ?_
      refine wu_ (wg_rI (pc := 170) hX ar_65 dX3_burn_170 fun v32 => ?_)
      refine wg_imul (pc := 171) hX dX3_burn_171 ?_
      refine wg_icmp_ge (pc := 172) (tgt := 246) hX dX3_burn_172 (by decide) (fun h33 => ?_) (fun h33 => ?_)
      · refine wu_t h33 ?_
        refine wg_sub hX [0, 1, 2] rfl ?_
        exact wu_rt (hk29 ())
      refine wu_f h33 ?_
      refine wg_bipush (pc := 175) (v := 24) hX dX3_burn_175 rfl ?_
      refine wg_iload_n (pc := 177) hX dX3_burn_177 2 rfl ?_
      refine wg_imul (pc := 178) hX dX3_burn_178 ?_
      refine wg_iload_n (pc := 179) hX dX3_burn_179 3 rfl ?_
      refine wg_iadd (pc := 180) hX dX3_burn_180 ?_
      refine wu_ (wg_nmi hX fun v34 => ?_)
      refine wg_istore (pc := 181) (l' := [(0, .ref (rid 1 1)), (1, .int a1), (2, .int x25), (3, .int x29), (4, .int v34)]) hX dX3_burn_181 (by decide) rfl ?_
      refine wg_aload_n (pc := 183) hX dX3_burn_183 0 rfl ?_
      refine wg_gK (pc := 184) hX hM0 fd_X3_68 (by decide) dX3_burn_184 ?_
      refine wg_iload (pc := 187) hX dX3_burn_187 4 rfl ?_
      refine wg_aload_n (pc := 189) hX dX3_burn_189 0 rfl ?_
      refine wg_gK (pc := 190) hX hM0 fd_X3_77 (by decide) dX3_burn_190 ?_
      refine wg_iload (pc := 193) hX dX3_burn_193 4 rfl ?_
      refine wu_ (wg_rI (pc := 195) hX ar_77 dX3_burn_195 fun v35 => ?_)
      refine wu_ (wg_wI (pc := 196) hX ar_74 dX3_burn_196 ?_)
      refine wg_aload_n (pc := 197) hX dX3_burn_197 0 rfl ?_
      refine wg_gK (pc := 198) hX hM0 fd_X3_71 (by decide) dX3_burn_198 ?_
      refine wg_iload (pc := 201) hX dX3_burn_201 4 rfl ?_
      refine wg_dup2 (pc := 203) hX dX3_burn_203 rfl rfl ?_
      refine wu_ (wg_rI (pc := 204) hX ar_75 dX3_burn_204 fun v36 => ?_)
      refine wg_aload_n (pc := 205) hX dX3_burn_205 0 rfl ?_
      refine wg_gK (pc := 206) hX hM0 fd_X3_80 (by decide) dX3_burn_206 ?_
      refine wg_iload (pc := 209) hX dX3_burn_209 4 rfl ?_
      refine wu_ (wg_rI (pc := 211) hX ar_78 dX3_burn_211 fun v37 => ?_)
      refine wg_isub (pc := 212) hX dX3_burn_212 ?_
      refine wu_ (wg_wI (pc := 213) hX ar_75 dX3_burn_213 ?_)
      refine wg_aload_n (pc := 214) hX dX3_burn_214 0 rfl ?_
      refine wg_gK (pc := 215) hX hM0 fd_X3_83 (by decide) dX3_burn_215 ?_
      refine wg_bipush (pc := 218) (v := 6) hX dX3_burn_218 rfl ?_
      refine wg_iload_n (pc := 220) hX dX3_burn_220 2 rfl ?_
      refine wg_imul (pc := 221) hX dX3_burn_221 ?_
      refine wg_aload_n (pc := 222) hX dX3_burn_222 0 rfl ?_
      refine wg_iload_n (pc := 223) hX dX3_burn_223 2 rfl ?_
      refine wg_iload_n (pc := 224) hX dX3_burn_224 3 rfl ?_
      refine wu_ (wg_cVi (pc := 225) (As := [.int x25, .int x29]) (rest := [.int (6 * x25), .ref (rid 79 1)]) hX (m_X3_floorOf x25 x29) (by decide) (by decide) (by decide) rc_X3 (lw_V q2392 q2394 qs97 q163 q2395) hd_X3_floorOf rfl (Nat.le_of_ble_eq_true rfl) (Nat.le_of_ble_eq_true rfl) (Nat.le_of_ble_eq_true rfl) rfl dX3_burn_225 fun v38 => ?_)
      refine wg_iadd (pc := 228) hX dX3_burn_228 ?_
      refine wu_ (wg_nmi hX fun v39 => ?_)
      refine wg_dup2 (pc := 229) hX dX3_burn_229 rfl rfl ?_
      refine wu_ (wg_rI (pc := 230) hX ar_79 dX3_burn_230 fun v40 => ?_)
      refine wg_aload_n (pc := 231) hX dX3_burn_231 0 rfl ?_
      refine wg_gK (pc := 232) hX hM0 fd_X3_80 (by decide) dX3_burn_232 ?_
      refine wg_iload (pc := 235) hX dX3_burn_235 4 rfl ?_
      refine wu_ (wg_rI (pc := 237) hX ar_78 dX3_burn_237 fun v41 => ?_)
      refine wg_iadd (pc := 238) hX dX3_burn_238 ?_
      refine wu_ (wg_wI (pc := 239) hX ar_79 dX3_burn_239 ?_)
      refine wg_iinc (pc := 240) (v := (x29 + 1)) (l' := [(0, .ref (rid 1 1)), (1, .int a1), (2, .int x25), (3, .int (x29 + 1)), (4, .int v34)]) hX dX3_burn_240 3 rfl rfl (by decide) rfl ?_
      refine wg_goto (pc := 243) (tgt := 158) hX dX3_burn_243 (by decide) ?_
      refine wg_sub hX [0, 1, 2, 3] rfl ?_
      exact hrec29 (x29 + 1)
    refine wg_iinc (pc := 246) (v := (x25 + 1)) (l' := [(0, .ref (rid 1 1)), (1, .int a1), (2, .int (x25 + 1))]) hX dX3_burn_246 2 rfl rfl (by decide) rfl ?_
    refine wg_goto (pc := 249) (tgt := 148) hX dX3_burn_249 (by decide) ?_
    exact hrec25 (x25 + 1)
  refine wg_iconst (pc := 252) (v := 0) hX dX3_burn_252 rfl ?_
  refine wg_istore_n (pc := 253) (l' := [(0, .ref (rid 1 1)), (1, .int a1), (2, .int 0)]) hX dX3_burn_253 (by decide) rfl ?_
  refine wu_lpx (α := Int32) (γ := Unit) (pcl := 254) (pcT := 322) (lo := fun x => [(0, .ref (rid 1 1)), (1, .int a1), (2, .int x)]) (so := fun _ => []) (lT := fun x => [(0, .ref (rid 1 1)), (1, .int a1)]) (sT := fun _ => []) (n := amFu) (x0 := 0) (fun K42 rec42 hrec42 hk42 x42 => ?_) (fun y43 => ?_)
  · unfold p_X3_burn_L254
    refine wg_iload_n (pc := 254) hX dX3_burn_254 2 rfl ?_
    refine wg_aload_n (pc := 255) hX dX3_burn_255 0 rfl ?_
    refine wu_ (wg_gI (pc := 256) hX fd_X3_331 dX3_burn_256 fun v44 => ?_)
    refine wg_icmp_ge (pc := 259) (tgt := 322) hX dX3_burn_259 (by decide) (fun h45 => ?_) (fun h45 => ?_)
    · refine wu_t h45 ?_
      refine wg_sub hX [0, 1] rfl ?_
      exact wu_rt (hk42 ())
    refine wu_f h45 ?_
    refine wg_aload_n (pc := 262) hX dX3_burn_262 0 rfl ?_
    refine wg_gK (pc := 263) hX hM0 fd_X3_38 (by decide) dX3_burn_263 ?_
    refine wg_iload_n (pc := 266) hX dX3_burn_266 2 rfl ?_
    refine wu_ (wg_rI (pc := 267) hX ar_64 dX3_burn_267 fun v46 => ?_)
    refine wg_iconst (pc := 268) (v := 1) hX dX3_burn_268 rfl ?_
    refine wg_isub (pc := 269) hX dX3_burn_269 ?_
    refine wu_ (wg_nmi hX fun v47 => ?_)
    refine wg_istore_n (pc := 270) (l' := [(0, .ref (rid 1 1)), (1, .int a1), (2, .int x42), (3, .int v47)]) hX dX3_burn_270 (by decide) rfl ?_
    refine wu_lpx (α := Int32) (γ := Unit) (pcl := 271) (pcT := 316) (lo := fun x => [(0, .ref (rid 1 1)), (1, .int a1), (2, .int x42), (3, .int x)]) (so := fun _ => []) (lT := fun x => [(0, .ref (rid 1 1)), (1, .int a1), (2, .int x42)]) (sT := fun _ => []) (n := amFu) (x0 := v47) (fun K48 rec48 hrec48 hk48 x48 => ?_) (fun y49 => ?_)
    · unfold p_X3_burn_L271
      refine wg_iload_n (pc := 271) hX dX3_burn_271 3 rfl ?_
      refine wg_if_le (pc := 272) (tgt := 316) hX dX3_burn_272 (by decide) (fun h50 => ?_) (fun h50 => ?_)
      · refine wu_t h50 ?_
        refine wg_sub hX [0, 1, 2] rfl ?_
        exact wu_rt (hk48 ())
      refine wu_f h50 ?_
      refine wg_aload_n (pc := 275) hX dX3_burn_275 0 rfl ?_
      refine wg_gK (pc := 276) hX hM0 fd_X3_92 (by decide) dX3_burn_276 ?_
      refine wg_bipush (pc := 279) (v := 6) hX dX3_burn_279 rfl ?_
      refine wg_iload_n (pc := 281) hX dX3_burn_281 2 rfl ?_
      refine wg_imul (pc := 282) hX dX3_burn_282 ?_
      refine wg_iload_n (pc := 283) hX dX3_burn_283 3 rfl ?_
      refine wg_iadd (pc := 284) hX dX3_burn_284 ?_
      refine wu_ (wg_rZ (pc := 285) hX ar_82 dX3_burn_285 fun v51 => ?_)
      refine wu_jx (α := Unit) (pcJ := 310) (lJ := fun x => [(0, .ref (rid 1 1)), (1, .int a1), (2, .int x42), (3, .int x48)]) (sJ := fun x => []) (fun K52 hk52 => ?_) (fun z52 => ?_)
      · refine wg_if_ne (pc := 286) (tgt := 310) hX dX3_burn_286 (by decide) (fun h53 => ?_) (fun h53 => ?_)
        rotate_left
        · refine wu_f h53 ?_
          exact wu_rt (hk52 ())
        refine wu_t h53 ?_
        refine wg_aload_n (pc := 289) hX dX3_burn_289 0 rfl ?_
        refine wg_iload_n (pc := 290) hX dX3_burn_290 2 rfl ?_
        refine wg_iload_n (pc := 291) hX dX3_burn_291 3 rfl ?_
        refine wu_ (wg_cVi (pc := 292) (As := [.int x42, .int x48]) (rest := []) hX (m_X3_loadOf x42 x48) (by decide) (by decide) (by decide) rc_X3 (lw_V q2413 q2415 qs99 q163 q2416) hd_X3_loadOf rfl (Nat.le_of_ble_eq_true rfl) (Nat.le_of_ble_eq_true rfl) (Nat.le_of_ble_eq_true rfl) rfl dX3_burn_292 fun v54 => ?_)
        refine wg_aload_n (pc := 295) hX dX3_burn_295 0 rfl ?_
        refine wg_iload_n (pc := 296) hX dX3_burn_296 2 rfl ?_
        refine wu_ (wg_cVi (pc := 297) (As := [.int x42]) (rest := [.int v54]) hX (m_X3_bears x42) (by decide) (by decide) (by decide) rc_X3 (lw_V q2675 q2677 qs139 q163 q2678) hd_X3_bears rfl (Nat.le_of_ble_eq_true rfl) (Nat.le_of_ble_eq_true rfl) (Nat.le_of_ble_eq_true rfl) rfl dX3_burn_297 fun v55 => ?_)
        refine wg_icmp_lt (pc := 300) (tgt := 310) hX dX3_burn_300 (by decide) (fun h56 => ?_) (fun h56 => ?_)
        · refine wu_t h56 ?_
          exact wu_rt (hk52 ())
        refine wu_f h56 ?_
        refine wg_aload_n (pc := 303) hX dX3_burn_303 0 rfl ?_
        refine wg_iload_n (pc := 304) hX dX3_burn_304 2 rfl ?_
        refine wg_iload_n (pc := 305) hX dX3_burn_305 3 rfl ?_
        refine wg_iload_n (pc := 306) hX dX3_burn_306 1 rfl ?_
        refine wu_ (wg_cVv (pc := 307) (As := [.int x42, .int x48, .int a1]) (rest := []) hX (m_X3_falls x42 x48 a1) (by decide) (by decide) (by decide) rc_X3 (lw_V q2695 q2697 qs144 q163 q2698) hd_X3_falls rfl (Nat.le_of_ble_eq_true rfl) (Nat.le_of_ble_eq_true rfl) (Nat.le_of_ble_eq_true rfl) rfl dX3_burn_307 ?_)
        exact wu_rt (hk52 ())
      refine wg_iinc (pc := 310) (v := (x48 + (-1))) (l' := [(0, .ref (rid 1 1)), (1, .int a1), (2, .int x42), (3, .int (x48 + (-1)))]) hX dX3_burn_310 3 rfl rfl (by decide) rfl ?_
      refine wg_goto (pc := 313) (tgt := 271) hX dX3_burn_313 (by decide) ?_
      exact hrec48 (x48 + (-1))
    refine wg_iinc (pc := 316) (v := (x42 + 1)) (l' := [(0, .ref (rid 1 1)), (1, .int a1), (2, .int (x42 + 1))]) hX dX3_burn_316 2 rfl rfl (by decide) rfl ?_
    refine wg_goto (pc := 319) (tgt := 254) hX dX3_burn_319 (by decide) ?_
    exact hrec42 (x42 + 1)
  refine wg_iconst (pc := 322) (v := 0) hX dX3_burn_322 rfl ?_
  refine wg_istore_n (pc := 323) (l' := [(0, .ref (rid 1 1)), (1, .int a1), (2, .int 0)]) hX dX3_burn_323 (by decide) rfl ?_
  refine wu_lpx (α := Int32) (γ := Unit) (pcl := 324) (pcT := 440) (lo := fun x => [(0, .ref (rid 1 1)), (1, .int a1), (2, .int x)]) (so := fun _ => []) (lT := fun x => []) (sT := fun _ => []) (n := amFu) (x0 := 0) (fun K57 rec57 hrec57 hk57 x57 => ?_) (fun y58 => ?_)
  · unfold p_X3_burn_L324
    refine wg_iload_n (pc := 324) hX dX3_burn_324 2 rfl ?_
    refine wg_aload_n (pc := 325) hX dX3_burn_325 0 rfl ?_
    refine wu_ (wg_gI (pc := 326) hX fd_X3_331 dX3_burn_326 fun v59 => ?_)
    refine wg_icmp_ge (pc := 329) (tgt := 440) hX dX3_burn_329 (by decide) (fun h60 => ?_) (fun h60 => ?_)
    · refine wu_t h60 ?_
      refine wg_sub hX [] rfl ?_
      exact wu_rt (hk57 ())
    refine wu_f h60 ?_
    refine wg_iload_n (pc := 332) hX dX3_burn_332 1 rfl ?_
    refine wg_if_eq (pc := 333) (tgt := 440) hX dX3_burn_333 (by decide) (fun h61 => ?_) (fun h61 => ?_)
    · refine wu_t h61 ?_
      refine wg_sub hX [] rfl ?_
      exact wu_rt (hk57 ())
    refine wu_f h61 ?_
    refine wg_iconst (pc := 336) (v := 0) hX dX3_burn_336 rfl ?_
    refine wg_istore_n (pc := 337) (l' := [(0, .ref (rid 1 1)), (1, .int a1), (2, .int x57), (3, .int 0)]) hX dX3_burn_337 (by decide) rfl ?_
    refine wu_lpx (α := Int32) (γ := Unit) (pcl := 338) (pcT := 434) (lo := fun x => [(0, .ref (rid 1 1)), (1, .int a1), (2, .int x57), (3, .int x)]) (so := fun _ => []) (lT := fun x => [(0, .ref (rid 1 1)), (1, .int a1), (2, .int x57)]) (sT := fun _ => []) (n := amFu) (x0 := 0) (fun K62 rec62 hrec62 hk62 x62 => ?_) (fun y63 => ?_)
    · unfold p_X3_burn_L338
      refine wg_iload_n (pc := 338) hX dX3_burn_338 3 rfl ?_
      refine wg_aload_n (pc := 339) hX dX3_burn_339 0 rfl ?_
      refine wg_gK (pc := 340) hX hM0 fd_X3_38 (by decide) dX3_burn_340 ?_
      refine wg_iload_n (pc := 343) hX dX3_burn_343 2 rfl ?_
      refine wu_ (wg_rI (pc := 344) hX ar_64 dX3_burn_344 fun v64 => ?_)
      refine wg_aload_n (pc := 345) hX dX3_burn_345 0 rfl ?_
      refine wg_gK (pc := 346) hX hM0 fd_X3_41 (by decide) dX3_burn_346 ?_
      refine wg_iload_n (pc := 349) hX dX3_burn_349 2 rfl ?_
      refine wu_ (wg_rI (pc := 350) hX ar_65 dX3_burn_350 fun v65 => ?_)
      refine wg_imul (pc := 351) hX dX3_burn_351 ?_
      refine wg_icmp_ge (pc := 352) (tgt := 434) hX dX3_burn_352 (by decide) (fun h66 => ?_) (fun h66 => ?_)
      · refine wu_t h66 ?_
        refine wg_sub hX [0, 1, 2] rfl ?_
        exact wu_rt (hk62 ())
      refine wu_f h66 ?_
      refine wg_bipush (pc := 355) (v := 6) hX dX3_burn_355 rfl ?_
      refine wg_iload_n (pc := 357) hX dX3_burn_357 2 rfl ?_
      refine wg_imul (pc := 358) hX dX3_burn_358 ?_
      refine wg_aload_n (pc := 359) hX dX3_burn_359 0 rfl ?_
      refine wg_iload_n (pc := 360) hX dX3_burn_360 2 rfl ?_
      refine wg_iload_n (pc := 361) hX dX3_burn_361 3 rfl ?_
      refine wu_ (wg_cVi (pc := 362) (As := [.int x57, .int x62]) (rest := [.int (6 * x57)]) hX (m_X3_floorOf x57 x62) (by decide) (by decide) (by decide) rc_X3 (lw_V q2392 q2394 qs97 q163 q2395) hd_X3_floorOf rfl (Nat.le_of_ble_eq_true rfl) (Nat.le_of_ble_eq_true rfl) (Nat.le_of_ble_eq_true rfl) rfl dX3_burn_362 fun v67 => ?_)
      refine wg_iadd (pc := 365) hX dX3_burn_365 ?_
      refine wu_ (wg_nmi hX fun v68 => ?_)
      refine wg_istore (pc := 366) (l' := [(0, .ref (rid 1 1)), (1, .int a1), (2, .int x57), (3, .int x62), (4, .int v68)]) hX dX3_burn_366 (by decide) rfl ?_
      refine wg_aload_n (pc := 368) hX dX3_burn_368 0 rfl ?_
      refine wg_iload_n (pc := 369) hX dX3_burn_369 2 rfl ?_
      refine wg_iload_n (pc := 370) hX dX3_burn_370 3 rfl ?_
      refine wu_ (wg_cVi (pc := 371) (As := [.int x57, .int x62]) (rest := []) hX (m_X3_burns x57 x62) (by decide) (by decide) (by decide) rc_X3 (lw_V q2388 q2390 qs96 q163 q2391) hd_X3_burns rfl (Nat.le_of_ble_eq_true rfl) (Nat.le_of_ble_eq_true rfl) (Nat.le_of_ble_eq_true rfl) rfl dX3_burn_371 fun v69 => ?_)
      refine wu_jx (α := Unit) (pcJ := 428) (lJ := fun x => [(0, .ref (rid 1 1)), (1, .int a1), (2, .int x57), (3, .int x62)]) (sJ := fun x => []) (fun K70 hk70 => ?_) (fun z70 => ?_)
      · refine wg_if_eq (pc := 374) (tgt := 428) hX dX3_burn_374 (by decide) (fun h71 => ?_) (fun h71 => ?_)
        · refine wu_t h71 ?_
          refine wg_sub hX [0, 1, 2, 3] rfl ?_
          exact wu_rt (hk70 ())
        refine wu_f h71 ?_
        refine wg_aload_n (pc := 377) hX dX3_burn_377 0 rfl ?_
        refine wg_gK (pc := 378) hX hM0 fd_X3_68 (by decide) dX3_burn_378 ?_
        refine wg_bipush (pc := 381) (v := 24) hX dX3_burn_381 rfl ?_
        refine wg_iload_n (pc := 383) hX dX3_burn_383 2 rfl ?_
        refine wg_imul (pc := 384) hX dX3_burn_384 ?_
        refine wg_iload_n (pc := 385) hX dX3_burn_385 3 rfl ?_
        refine wg_iadd (pc := 386) hX dX3_burn_386 ?_
        refine wu_ (wg_rI (pc := 387) hX ar_74 dX3_burn_387 fun v72 => ?_)
        refine wg_sipush (pc := 388) (v := 600) hX dX3_burn_388 rfl ?_
        refine wg_icmp_lt (pc := 391) (tgt := 428) hX dX3_burn_391 (by decide) (fun h73 => ?_) (fun h73 => ?_)
        · refine wu_t h73 ?_
          refine wg_sub hX [0, 1, 2, 3] rfl ?_
          exact wu_rt (hk70 ())
        refine wu_f h73 ?_
        refine wg_aload_n (pc := 394) hX dX3_burn_394 0 rfl ?_
        refine wg_gK (pc := 395) hX hM0 fd_X3_86 (by decide) dX3_burn_395 ?_
        refine wg_iload (pc := 398) hX dX3_burn_398 4 rfl ?_
        refine wu_ (wg_rI (pc := 400) hX ar_80 dX3_burn_400 fun v74 => ?_)
        refine wg_if_ne (pc := 401) (tgt := 407) hX dX3_burn_401 (by decide) (fun h75 => ?_) (fun h75 => ?_)
        · refine wu_t h75 ?_
          refine wg_goto (pc := 404) (tgt := 428) hX dX3_burn_404 (by decide) ?_
          refine wg_sub hX [0, 1, 2, 3] rfl ?_
          exact wu_rt (hk70 ())
        refine wu_f h75 ?_
        refine wg_aload_n (pc := 407) hX dX3_burn_407 0 rfl ?_
        refine wg_gK (pc := 408) hX hM0 fd_X3_86 (by decide) dX3_burn_408 ?_
        refine wg_iload (pc := 411) hX dX3_burn_411 4 rfl ?_
        refine wg_dup2 (pc := 413) hX dX3_burn_413 rfl rfl ?_
        refine wu_ (wg_rI (pc := 414) hX ar_80 dX3_burn_414 fun v76 => ?_)
        refine wg_iconst (pc := 415) (v := 1) hX dX3_burn_415 rfl ?_
        refine wg_isub (pc := 416) hX dX3_burn_416 ?_
        refine wu_ (wg_wI (pc := 417) hX ar_80 dX3_burn_417 ?_)
        refine wg_aload_n (pc := 418) hX dX3_burn_418 0 rfl ?_
        refine wg_gK (pc := 419) hX hM0 fd_X3_59 (by decide) dX3_burn_419 ?_
        refine wg_iload_n (pc := 422) hX dX3_burn_422 2 rfl ?_
        refine wg_dup2 (pc := 423) hX dX3_burn_423 rfl rfl ?_
        refine wu_ (wg_rI (pc := 424) hX ar_71 dX3_burn_424 fun v77 => ?_)
        refine wg_iconst (pc := 425) (v := 1) hX dX3_burn_425 rfl ?_
        refine wg_iadd (pc := 426) hX dX3_burn_426 ?_
        refine wu_ (wg_wI (pc := 427) hX ar_71 dX3_burn_427 ?_)
        refine wg_sub hX [0, 1, 2, 3] rfl ?_
        exact wu_rt (hk70 ())
      refine wg_iinc (pc := 428) (v := (x62 + 1)) (l' := [(0, .ref (rid 1 1)), (1, .int a1), (2, .int x57), (3, .int (x62 + 1))]) hX dX3_burn_428 3 rfl rfl (by decide) rfl ?_
      refine wg_goto (pc := 431) (tgt := 338) hX dX3_burn_431 (by decide) ?_
      exact hrec62 (x62 + 1)
    refine wg_iinc (pc := 434) (v := (x57 + 1)) (l' := [(0, .ref (rid 1 1)), (1, .int a1), (2, .int (x57 + 1))]) hX dX3_burn_434 2 rfl rfl (by decide) rfl ?_
    refine wg_goto (pc := 437) (tgt := 324) hX dX3_burn_437 (by decide) ?_
    exact hrec57 (x57 + 1)
  exact wu_rt (wg_vret (pc := 440) hX rfl rfl dX3_burn_440)
