/-! the walks (printed by gen/build.py) -/
theorem m_X1_note (a1 : Int32) (a2 : Int32) (a3 : Int32) : amMet yX1_note cX1_note 4 (some .boolean) 1 32 encI [.ref (rid 0 1), .int a1, .int a2, .int a3] (up (p_X1_note a1 a2 a3)) := by
  refine amMet.of (own := RX1) (by decide) rfl (Nat.le_of_ble_eq_true rfl) fun X hX hPs => ?_
  change WG X encI 0 [(0, .ref (rid 0 1)), (1, .int a1), (2, .int a2), (3, .int a3)] [] (bd1 (up (p_X1_note a1 a2 a3)) rt1)
  unfold p_X1_note
  have hM0 := amPs.m0 hPs
  refine wu_ (wg_gM ?_)
  refine wg_aload_n (pc := 0) hX dX1_note_0 0 rfl ?_
  refine wu_ (wg_gI (pc := 1) hX fd_X1_755 dX1_note_1 fun v1 => ?_)
  refine wg_bipush (pc := 4) (v := 100) hX dX1_note_4 rfl ?_
  refine wg_icmp_ne (pc := 6) (tgt := 11) hX dX1_note_6 (by decide) (fun h2 => ?_) (fun h2 => ?_)
  · refine wu_t h2 ?_
    refine wg_iconst (pc := 9) (v := 0) hX dX1_note_9 rfl ?_
    exact wu_rt (wg_zret (pc := 10) hX rfl (by decide) rfl dX1_note_10)
  refine wu_f h2 ?_
  refine wg_aload_n (pc := 11) hX dX1_note_11 0 rfl ?_
  refine wg_gK (pc := 12) hX hM0 fd_X1_93 (by decide) dX1_note_12 ?_
  refine wg_aload_n (pc := 15) hX dX1_note_15 0 rfl ?_
  refine wu_ (wg_gI (pc := 16) hX fd_X1_755 dX1_note_16 fun v3 => ?_)
  refine wg_iload_n (pc := 19) hX dX1_note_19 1 rfl ?_
  refine wu_ (wg_wI (pc := 20) hX ar_38 dX1_note_20 ?_)
  refine wg_aload_n (pc := 21) hX dX1_note_21 0 rfl ?_
  refine wg_gK (pc := 22) hX hM0 fd_X1_96 (by decide) dX1_note_22 ?_
  refine wg_aload_n (pc := 25) hX dX1_note_25 0 rfl ?_
  refine wu_ (wg_gI (pc := 26) hX fd_X1_755 dX1_note_26 fun v4 => ?_)
  refine wg_iload_n (pc := 29) hX dX1_note_29 2 rfl ?_
  refine wu_ (wg_wI (pc := 30) hX ar_39 dX1_note_30 ?_)
  refine wg_aload_n (pc := 31) hX dX1_note_31 0 rfl ?_
  refine wg_gK (pc := 32) hX hM0 fd_X1_99 (by decide) dX1_note_32 ?_
  refine wg_aload_n (pc := 35) hX dX1_note_35 0 rfl ?_
  refine wu_ (wg_gI (pc := 36) hX fd_X1_755 dX1_note_36 fun v5 => ?_)
  refine wg_iload_n (pc := 39) hX dX1_note_39 3 rfl ?_
  refine wu_ (wg_wI (pc := 40) hX ar_40 dX1_note_40 ?_)
  refine wg_aload_n (pc := 41) hX dX1_note_41 0 rfl ?_
  refine wg_gK (pc := 42) hX hM0 fd_X1_102 (by decide) dX1_note_42 ?_
  refine wg_aload_n (pc := 45) hX dX1_note_45 0 rfl ?_
  refine wu_ (wg_gI (pc := 46) hX fd_X1_755 dX1_note_46 fun v6 => ?_)
  refine wg_aload_n (pc := 49) hX dX1_note_49 0 rfl ?_
  refine wu_ (wg_gI (pc := 50) hX fd_X1_415 dX1_note_50 fun v7 => ?_)
  refine wu_ (wg_wI (pc := 53) hX ar_41 dX1_note_53 ?_)
  refine wg_aload_n (pc := 54) hX dX1_note_54 0 rfl ?_
  refine wg_dup (pc := 55) hX dX1_note_55 rfl ?_
  refine wu_ (wg_gI (pc := 56) hX fd_X1_755 dX1_note_56 fun v8 => ?_)
  refine wg_iconst (pc := 59) (v := 1) hX dX1_note_59 rfl ?_
  refine wg_iadd (pc := 60) hX dX1_note_60 ?_
  refine wu_ (wg_pI (pc := 61) hX fp_X1_755 (fun h => by cases h) dX1_note_61 ?_)
  refine wg_iconst (pc := 64) (v := 1) hX dX1_note_64 rfl ?_
  exact wu_rt (wg_zret (pc := 65) hX rfl (by decide) rfl dX1_note_65)
theorem m_X1_change_2 (a1 : Int32) (a2 : Int32) (a3 : Int32) : amMet yX1_change_2 cX1_change_2 4 (some .boolean) 3 75 encI [.ref (rid 0 1), .int a1, .int a2, .int a3] (up (p_X1_change_2 a1 a2 a3)) := by
  refine amMet.of (own := RX1) (by decide) rfl (Nat.le_of_ble_eq_true rfl) fun X hX hPs => ?_
  change WG X encI 0 [(0, .ref (rid 0 1)), (1, .int a1), (2, .int a2), (3, .int a3)] [] (bd1 (up (p_X1_change_2 a1 a2 a3)) rt1)
  unfold p_X1_change_2
  refine wg_aload_n (pc := 0) hX dX1_change_2_0 0 rfl ?_
  refine wg_iload_n (pc := 1) hX dX1_change_2_1 1 rfl ?_
  refine wu_ (wg_cVi (pc := 2) (As := [.int a1]) (rest := []) hX (m_X1_isHouse a1) (by decide) (by decide) (by decide) rc_X1 (lw_V q657 q659 qs6 q159 q660) hd_X1_isHouse rfl (Nat.le_of_ble_eq_true rfl) (Nat.le_of_ble_eq_true rfl) (Nat.le_of_ble_eq_true rfl) rfl dX1_change_2_2 fun v1 => ?_)
  refine wu_jn (α := Unit) (pcJ := 44) (lJ := fun x => []) (sJ := fun x => []) (fun k2 hk2 => ?_) (fun z2 => ?_)
  · refine wg_if_eq (pc := 5) (tgt := 44) hX dX1_change_2_5 (by decide) (fun h3 => ?_) (fun h3 => ?_)
    · refine wu_t h3 ?_
      refine wg_sub hX [] rfl ?_
      exact hk2 ()
    refine wu_f h3 ?_
    refine wg_iload_n (pc := 8) hX dX1_change_2_8 2 rfl ?_
    refine wg_iconst (pc := 9) (v := 0) hX dX1_change_2_9 rfl ?_
    refine wg_bipush (pc := 10) (v := 9) hX dX1_change_2_10 rfl ?_
    refine wu_ (wg_cSi (pc := 12) (As := [.int a2, .int 0, .int 9]) (rest := []) hX (m_X1_in a2 0 9) (lw_S q471 q472 q159 q473) hd_X1_in rfl (Nat.le_of_ble_eq_true rfl) (Nat.le_of_ble_eq_true rfl) (Nat.le_of_ble_eq_true rfl) rfl dX1_change_2_12 fun v4 => ?_)
    refine wg_if_eq (pc := 15) (tgt := 44) hX dX1_change_2_15 (by decide) (fun h5 => ?_) (fun h5 => ?_)
    · refine wu_t h5 ?_
      refine wg_sub hX [] rfl ?_
      exact hk2 ()
    refine wu_f h5 ?_
    refine wg_iload_n (pc := 18) hX dX1_change_2_18 3 rfl ?_
    refine wg_iconst (pc := 19) (v := 0) hX dX1_change_2_19 rfl ?_
    refine wg_aload_n (pc := 20) hX dX1_change_2_20 0 rfl ?_
    refine wu_ (wg_gI (pc := 21) hX fd_X1_415 dX1_change_2_21 fun v6 => ?_)
    refine wu_ (wg_cSi (pc := 24) (As := [.int a3, .int 0, .int v6]) (rest := []) hX (m_X1_in a3 0 v6) (lw_S q471 q472 q159 q473) hd_X1_in rfl (Nat.le_of_ble_eq_true rfl) (Nat.le_of_ble_eq_true rfl) (Nat.le_of_ble_eq_true rfl) rfl dX1_change_2_24 fun v7 => ?_)
    refine wg_if_eq (pc := 27) (tgt := 44) hX dX1_change_2_27 (by decide) (fun h8 => ?_) (fun h8 => ?_)
    · refine wu_t h8 ?_
      refine wg_sub hX [] rfl ?_
      exact hk2 ()
    refine wu_f h8 ?_
    refine wg_aload_n (pc := 30) hX dX1_change_2_30 0 rfl ?_
    refine wg_iload_n (pc := 31) hX dX1_change_2_31 1 rfl ?_
    refine wg_iload_n (pc := 32) hX dX1_change_2_32 2 rfl ?_
    refine wg_iload_n (pc := 33) hX dX1_change_2_33 3 rfl ?_
    refine wu_ (wg_cVi (pc := 34) (As := [.int a1, .int a2, .int a3]) (rest := []) hX (m_X1_note a1 a2 a3) (by decide) (by decide) (by decide) rc_X1 (lw_V q1622 q1624 qs70 q159 q1625) hd_X1_note rfl (Nat.le_of_ble_eq_true rfl) (Nat.le_of_ble_eq_true rfl) (Nat.le_of_ble_eq_true rfl) rfl dX1_change_2_34 fun v9 => ?_)
    refine wg_if_eq (pc := 37) (tgt := 44) hX dX1_change_2_37 (by decide) (fun h10 => ?_) (fun h10 => ?_)
    · refine wu_t h10 ?_
      refine wg_sub hX [] rfl ?_
      exact hk2 ()
    refine wu_f h10 ?_
    refine wg_iconst (pc := 40) (v := 1) hX dX1_change_2_40 rfl ?_
    refine wg_goto (pc := 41) (tgt := 45) hX dX1_change_2_41 (by decide) ?_
    exact wu_rt (wg_zret (pc := 45) hX rfl (by decide) rfl dX1_change_2_45)
  refine wg_iconst (pc := 44) (v := 0) hX dX1_change_2_44 rfl ?_
  exact wu_rt (wg_zret (pc := 45) hX rfl (by decide) rfl dX1_change_2_45)
theorem m_X1_look_2 (a1 : Int32) : amMet yX1_look_2 cX1_look_2 2 (some .boolean) 3 75 encI [.ref (rid 0 1), .int a1] (up (p_X1_look_2 a1)) := by
  refine amMet.of (own := RX1) (by decide) rfl (Nat.le_of_ble_eq_true rfl) fun X hX hPs => ?_
  change WG X encI 0 [(0, .ref (rid 0 1)), (1, .int a1)] [] (bd1 (up (p_X1_look_2 a1)) rt1)
  unfold p_X1_look_2
  refine wg_aload_n (pc := 0) hX dX1_look_2_0 0 rfl ?_
  refine wg_iload_n (pc := 1) hX dX1_look_2_1 1 rfl ?_
  refine wu_ (wg_cVi (pc := 2) (As := [.int a1]) (rest := []) hX (m_X1_isHouse a1) (by decide) (by decide) (by decide) rc_X1 (lw_V q657 q659 qs6 q159 q660) hd_X1_isHouse rfl (Nat.le_of_ble_eq_true rfl) (Nat.le_of_ble_eq_true rfl) (Nat.le_of_ble_eq_true rfl) rfl dX1_look_2_2 fun v1 => ?_)
  refine wu_jn (α := Unit) (pcJ := 25) (lJ := fun x => []) (sJ := fun x => []) (fun k2 hk2 => ?_) (fun z2 => ?_)
  · refine wg_if_eq (pc := 5) (tgt := 25) hX dX1_look_2_5 (by decide) (fun h3 => ?_) (fun h3 => ?_)
    · refine wu_t h3 ?_
      refine wg_sub hX [] rfl ?_
      exact hk2 ()
    refine wu_f h3 ?_
    refine wg_aload_n (pc := 8) hX dX1_look_2_8 0 rfl ?_
    refine wg_iload_n (pc := 9) hX dX1_look_2_9 1 rfl ?_
    refine wg_iconst (pc := 10) (v := (-1)) hX dX1_look_2_10 rfl ?_
    refine wg_aload_n (pc := 11) hX dX1_look_2_11 0 rfl ?_
    refine wu_ (wg_gI (pc := 12) hX fd_X1_415 dX1_look_2_12 fun v4 => ?_)
    refine wu_ (wg_cVi (pc := 15) (As := [.int a1, .int (-1), .int v4]) (rest := []) hX (m_X1_note a1 (-1) v4) (by decide) (by decide) (by decide) rc_X1 (lw_V q1622 q1624 qs70 q159 q1625) hd_X1_note rfl (Nat.le_of_ble_eq_true rfl) (Nat.le_of_ble_eq_true rfl) (Nat.le_of_ble_eq_true rfl) rfl dX1_look_2_15 fun v5 => ?_)
    refine wg_if_eq (pc := 18) (tgt := 25) hX dX1_look_2_18 (by decide) (fun h6 => ?_) (fun h6 => ?_)
    · refine wu_t h6 ?_
      refine wg_sub hX [] rfl ?_
      exact hk2 ()
    refine wu_f h6 ?_
    refine wg_iconst (pc := 21) (v := 1) hX dX1_look_2_21 rfl ?_
    refine wg_goto (pc := 22) (tgt := 26) hX dX1_look_2_22 (by decide) ?_
    exact wu_rt (wg_zret (pc := 26) hX rfl (by decide) rfl dX1_look_2_26)
  refine wg_iconst (pc := 25) (v := 0) hX dX1_look_2_25 rfl ?_
  exact wu_rt (wg_zret (pc := 26) hX rfl (by decide) rfl dX1_look_2_26)
theorem m_X1_usedAt (a1 : Int32) (a2 : Int32) : amMet yX1_usedAt cX1_usedAt 5 (some .int) 1 32 encI [.ref (rid 0 1), .int a1, .int a2] (up (p_X1_usedAt a1 a2)) := by
  refine amMet.of (own := RX1) (by decide) rfl (Nat.le_of_ble_eq_true rfl) fun X hX hPs => ?_
  change WG X encI 0 [(0, .ref (rid 0 1)), (1, .int a1), (2, .int a2)] [] (bd1 (up (p_X1_usedAt a1 a2)) rt1)
  unfold p_X1_usedAt
  have hM0 := amPs.m0 hPs
  refine wu_ (wg_gM ?_)
  refine wg_iconst (pc := 0) (v := (-1)) hX dX1_usedAt_0 rfl ?_
  refine wg_istore_n (pc := 1) (l' := [(0, .ref (rid 0 1)), (1, .int a1), (2, .int a2), (3, .int (-1))]) hX dX1_usedAt_1 (by decide) rfl ?_
  refine wg_iconst (pc := 2) (v := 0) hX dX1_usedAt_2 rfl ?_
  refine wg_istore (pc := 3) (l' := [(0, .ref (rid 0 1)), (1, .int a1), (2, .int a2), (3, .int (-1)), (4, .int 0)]) hX dX1_usedAt_3 (by decide) rfl ?_
  refine wu_lpx (α := Int32 × Int32) (γ := Int32) (pcl := 5) (pcT := 91) (lo := fun x => [(0, .ref (rid 0 1)), (1, .int a1), (2, .int a2), (3, .int x.1), (4, .int x.2)]) (so := fun _ => []) (lT := fun x => [(0, .ref (rid 0 1)), (1, .int a1), (3, .int x)]) (sT := fun _ => []) (n := amFu) (x0 := ((-1), 0)) (fun K1 rec1 hrec1 hk1 x1 => ?_) (fun y2 => ?_)
  · unfold p_X1_usedAt_L5
    refine wg_iload (pc := 5) hX dX1_usedAt_5 4 rfl ?_
    refine wg_aload_n (pc := 7) hX dX1_usedAt_7 0 rfl ?_
    refine wu_ (wg_gI (pc := 8) hX fd_X1_755 dX1_usedAt_8 fun v3 => ?_)
    refine wg_icmp_ge (pc := 11) (tgt := 91) hX dX1_usedAt_11 (by decide) (fun h4 => ?_) (fun h4 => ?_)
    · refine wu_t h4 ?_
      refine wg_sub hX [0, 1, 3] rfl ?_
      exact wu_rt (hk1 x1.1)
    refine wu_f h4 ?_
    refine wg_aload_n (pc := 14) hX dX1_usedAt_14 0 rfl ?_
    refine wg_gK (pc := 15) hX hM0 fd_X1_93 (by decide) dX1_usedAt_15 ?_
    refine wg_iload (pc := 18) hX dX1_usedAt_18 4 rfl ?_
    refine wu_ (wg_rI (pc := 20) hX ar_38 dX1_usedAt_20 fun v5 => ?_)
    refine wg_iload_n (pc := 21) hX dX1_usedAt_21 1 rfl ?_
    refine wu_jx (α := Int32) (pcJ := 85) (lJ := fun x => [(0, .ref (rid 0 1)), (1, .int a1), (2, .int a2), (3, .int x), (4, .int x1.2)]) (sJ := fun x => []) (fun K6 hk6 => ?_) (fun z6 => ?_)
    · refine wg_icmp_ne (pc := 22) (tgt := 85) hX dX1_usedAt_22 (by decide) (fun h7 => ?_) (fun h7 => ?_)
      rotate_left
      · refine wu_f h7 ?_
        exact wu_rt (hk6 x1.1)
      refine wu_t h7 ?_
      refine wg_aload_n (pc := 25) hX dX1_usedAt_25 0 rfl ?_
      refine wg_gK (pc := 26) hX hM0 fd_X1_96 (by decide) dX1_usedAt_26 ?_
      refine wg_iload (pc := 29) hX dX1_usedAt_29 4 rfl ?_
      refine wu_ (wg_rI (pc := 31) hX ar_39 dX1_usedAt_31 fun v8 => ?_)
      refine wg_iconst (pc := 32) (v := (-1)) hX dX1_usedAt_32 rfl ?_
      refine wg_icmp_eq (pc := 33) (tgt := 85) hX dX1_usedAt_33 (by decide) (fun h9 => ?_) (fun h9 => ?_)
      · refine wu_t h9 ?_
        exact wu_rt (hk6 x1.1)
      refine wu_f h9 ?_
      refine wg_aload_n (pc := 36) hX dX1_usedAt_36 0 rfl ?_
      refine wg_gK (pc := 37) hX hM0 fd_X1_102 (by decide) dX1_usedAt_37 ?_
      refine wg_iload (pc := 40) hX dX1_usedAt_40 4 rfl ?_
      refine wu_ (wg_rI (pc := 42) hX ar_41 dX1_usedAt_42 fun v10 => ?_)
      refine wg_iload_n (pc := 43) hX dX1_usedAt_43 2 rfl ?_
      refine wg_icmp_gt (pc := 44) (tgt := 85) hX dX1_usedAt_44 (by decide) (fun h11 => ?_) (fun h11 => ?_)
      · refine wu_t h11 ?_
        exact wu_rt (hk6 x1.1)
      refine wu_f h11 ?_
      refine wg_aload_n (pc := 47) hX dX1_usedAt_47 0 rfl ?_
      refine wg_gK (pc := 48) hX hM0 fd_X1_99 (by decide) dX1_usedAt_48 ?_
      refine wg_iload (pc := 51) hX dX1_usedAt_51 4 rfl ?_
      refine wu_ (wg_rI (pc := 53) hX ar_40 dX1_usedAt_53 fun v12 => ?_)
      refine wg_iload_n (pc := 54) hX dX1_usedAt_54 2 rfl ?_
      refine wg_icmp_le (pc := 55) (tgt := 61) hX dX1_usedAt_55 (by decide) (fun h13 => ?_) (fun h13 => ?_)
      rotate_left
      · refine wu_f h13 ?_
        refine wg_goto (pc := 58) (tgt := 85) hX dX1_usedAt_58 (by decide) ?_
        exact wu_rt (hk6 x1.1)
      refine wu_t h13 ?_
      refine wg_iload_n (pc := 61) hX dX1_usedAt_61 3 rfl ?_
      refine wg_iconst (pc := 62) (v := (-1)) hX dX1_usedAt_62 rfl ?_
      refine wu_jn (α := Unit) (pcJ := 82) (lJ := fun x => [(0, .ref (rid 0 1)), (1, .int a1), (2, .int a2), (4, .int x1.2)]) (sJ := fun x => []) (fun k14 hk14 => ?_) (fun z14 => ?_)
      · refine wg_icmp_eq (pc := 63) (tgt := 82) hX dX1_usedAt_63 (by decide) (fun h15 => ?_) (fun h15 => ?_)
        · refine wu_t h15 ?_
          refine wg_sub hX [0, 1, 2, 4] rfl ?_
          exact hk14 ()
        refine wu_f h15 ?_
        refine wg_aload_n (pc := 66) hX dX1_usedAt_66 0 rfl ?_
        refine wg_gK (pc := 67) hX hM0 fd_X1_99 (by decide) dX1_usedAt_67 ?_
        refine wg_iload (pc := 70) hX dX1_usedAt_70 4 rfl ?_
        refine wu_ (wg_rI (pc := 72) hX ar_40 dX1_usedAt_72 fun v16 => ?_)
        refine wg_aload_n (pc := 73) hX dX1_usedAt_73 0 rfl ?_
        refine wg_gK (pc := 74) hX hM0 fd_X1_99 (by decide) dX1_usedAt_74 ?_
        refine wg_iload_n (pc := 77) hX dX1_usedAt_77 3 rfl ?_
        refine wu_ (wg_rI (pc := 78) hX ar_40 dX1_usedAt_78 fun v17 => ?_)
        refine wg_icmp_lt (pc := 79) (tgt := 85) hX dX1_usedAt_79 (by decide) (fun h18 => ?_) (fun h18 => ?_)
        · refine wu_t h18 ?_
          exact wu_rt (hk6 x1.1)
        refine wu_f h18 ?_
        refine wg_sub hX [0, 1, 2, 4] rfl ?_
        exact hk14 ()
      refine wg_iload (pc := 82) hX dX1_usedAt_82 3 rfl ?_
      refine wg_istore_n (pc := 84) (l' := [(0, .ref (rid 0 1)), (1, .int a1), (2, .int a2), (3, .int x1.2), (4, .int x1.2)]) hX dX1_usedAt_84 (by decide) rfl ?_
      exact wu_rt (hk6 x1.2)
    refine wg_iinc (pc := 85) (v := (x1.2 + 1)) (l' := [(0, .ref (rid 0 1)), (1, .int a1), (2, .int a2), (3, .int z6), (4, .int (x1.2 + 1))]) hX dX1_usedAt_85 4 rfl rfl (by decide) rfl ?_
    refine wg_goto (pc := 88) (tgt := 5) hX dX1_usedAt_88 (by decide) ?_
    exact hrec1 (z6, (x1.2 + 1))
  refine wg_iload_n (pc := 91) hX dX1_usedAt_91 2 rfl ?_
  refine wg_iconst (pc := 92) (v := (-1)) hX dX1_usedAt_92 rfl ?_
  refine wg_icmp_ne (pc := 93) (tgt := 108) hX dX1_usedAt_93 (by decide) (fun h19 => ?_) (fun h19 => ?_)
  rotate_left
  · refine wu_f h19 ?_
    refine wg_aload_n (pc := 108) hX dX1_usedAt_108 0 rfl ?_
    refine wg_gK (pc := 109) hX hM0 fd_X1_96 (by decide) dX1_usedAt_109 ?_
    refine wg_iload_n (pc := 112) hX dX1_usedAt_112 2 rfl ?_
    refine wu_ (wg_rI (pc := 113) hX ar_39 dX1_usedAt_113 fun v20 => ?_)
    exact wu_rt (wg_iret (pc := 114) hX rfl rfl dX1_usedAt_114)
  refine wu_t h19 ?_
  refine wg_aload_n (pc := 96) hX dX1_usedAt_96 0 rfl ?_
  refine wg_gK (pc := 97) hX hM0 fd_X1_30 (by decide) dX1_usedAt_97 ?_
  refine wg_iload_n (pc := 100) hX dX1_usedAt_100 1 rfl ?_
  refine wu_ (wg_rR (pc := 101) hX ar_24 (by decide) dX1_usedAt_101 fun r21 => ?_)
  refine wu_ (wg_gI (pc := 102) hX fd_X1_228 dX1_usedAt_102 fun v22 => ?_)
  refine wg_goto (pc := 105) (tgt := 114) hX dX1_usedAt_105 (by decide) ?_
  exact wu_rt (wg_iret (pc := 114) hX rfl rfl dX1_usedAt_114)
theorem m_X1_used (a1 : Int32) (a2 : Int32) : amMet yX1_used cX1_used 3 (some .int) 4 97 encI [.ref (rid 0 1), .int a1, .int a2] (up (p_X1_used a1 a2)) := by
  refine amMet.of (own := RX1) (by decide) rfl (Nat.le_of_ble_eq_true rfl) fun X hX hPs => ?_
  change WG X encI 0 [(0, .ref (rid 0 1)), (1, .int a1), (2, .int a2)] [] (bd1 (up (p_X1_used a1 a2)) rt1)
  unfold p_X1_used
  refine wg_aload_n (pc := 0) hX dX1_used_0 0 rfl ?_
  refine wg_iload_n (pc := 1) hX dX1_used_1 1 rfl ?_
  refine wg_iload_n (pc := 2) hX dX1_used_2 2 rfl ?_
  refine wu_ (wg_cVi (pc := 3) (As := [.int a1, .int a2]) (rest := []) hX (m_X1_isAsked a1 a2) (by decide) (by decide) (by decide) rc_X1 (lw_V q1610 q1612 qs68 q159 q1613) hd_X1_isAsked rfl (Nat.le_of_ble_eq_true rfl) (Nat.le_of_ble_eq_true rfl) (Nat.le_of_ble_eq_true rfl) rfl dX1_used_3 fun v1 => ?_)
  refine wg_if_eq (pc := 6) (tgt := 18) hX dX1_used_6 (by decide) (fun h2 => ?_) (fun h2 => ?_)
  · refine wu_t h2 ?_
    refine wg_iconst (pc := 18) (v := (-1)) hX dX1_used_18 rfl ?_
    exact wu_rt (wg_iret (pc := 19) hX rfl rfl dX1_used_19)
  refine wu_f h2 ?_
  refine wg_aload_n (pc := 9) hX dX1_used_9 0 rfl ?_
  refine wg_iload_n (pc := 10) hX dX1_used_10 1 rfl ?_
  refine wg_iload_n (pc := 11) hX dX1_used_11 2 rfl ?_
  refine wu_ (wg_cVi (pc := 12) (As := [.int a1, .int a2]) (rest := []) hX (m_X1_usedAt a1 a2) (by decide) (by decide) (by decide) rc_X1 (lw_V q1634 q1636 qs71 q159 q1637) hd_X1_usedAt rfl (Nat.le_of_ble_eq_true rfl) (Nat.le_of_ble_eq_true rfl) (Nat.le_of_ble_eq_true rfl) rfl dX1_used_12 fun v3 => ?_)
  refine wg_goto (pc := 15) (tgt := 19) hX dX1_used_15 (by decide) ?_
  exact wu_rt (wg_iret (pc := 19) hX rfl rfl dX1_used_19)
theorem m_X1_besides (a1 : Int32) : amMet yX1_besides cX1_besides 2 (some .int) 2 55 encI [.ref (rid 0 1), .int a1] (up (p_X1_besides a1)) := by
  refine amMet.of (own := RX1) (by decide) rfl (Nat.le_of_ble_eq_true rfl) fun X hX hPs => ?_
  change WG X encI 0 [(0, .ref (rid 0 1)), (1, .int a1)] [] (bd1 (up (p_X1_besides a1)) rt1)
  unfold p_X1_besides
  refine wg_aload_n (pc := 0) hX dX1_besides_0 0 rfl ?_
  refine wg_iload_n (pc := 1) hX dX1_besides_1 1 rfl ?_
  refine wg_iconst (pc := 2) (v := (-1)) hX dX1_besides_2 rfl ?_
  refine wu_ (wg_cVr (pc := 3) (As := [.int a1, .int (-1)]) (rest := []) hX (m_X1_beside a1 (-1)) (by decide) (by decide) (by decide) rc_X1 (lw_V q1556 q1558 qs61 q159 q1559) hd_X1_beside rfl (Nat.le_of_ble_eq_true rfl) (Nat.le_of_ble_eq_true rfl) (Nat.le_of_ble_eq_true rfl) rfl dX1_besides_3 fun r1 => ?_)
  refine wu_jx (α := Int32) (pcJ := 14) (lJ := fun x => [(0, .ref (rid 0 1)), (1, .int a1)]) (sJ := fun x => [.int x]) (fun K2 hk2 => ?_) (fun z2 => ?_)
  · refine wg_ifnonnull (pc := 6) (tgt := 13) hX (by decide) dX1_besides_6 (by decide) (fun h3 => ?_) (fun h3 => ?_)
    rotate_left
    · refine wu_f h3 ?_
      refine wg_iconst (pc := 13) (v := 1) hX dX1_besides_13 rfl ?_
      exact wu_rt (hk2 1)
    refine wu_t h3 ?_
    refine wg_iconst (pc := 9) (v := 0) hX dX1_besides_9 rfl ?_
    refine wg_goto (pc := 10) (tgt := 14) hX dX1_besides_10 (by decide) ?_
    exact wu_rt (hk2 0)
  refine wg_aload_n (pc := 14) hX dX1_besides_14 0 rfl ?_
  refine wg_iload_n (pc := 15) hX dX1_besides_15 1 rfl ?_
  refine wg_iconst (pc := 16) (v := 1) hX dX1_besides_16 rfl ?_
  refine wu_ (wg_cVr (pc := 17) (As := [.int a1, .int 1]) (rest := [.int z2]) hX (m_X1_beside a1 1) (by decide) (by decide) (by decide) rc_X1 (lw_V q1556 q1558 qs61 q159 q1559) hd_X1_beside rfl (Nat.le_of_ble_eq_true rfl) (Nat.le_of_ble_eq_true rfl) (Nat.le_of_ble_eq_true rfl) rfl dX1_besides_17 fun r4 => ?_)
  refine wu_jx (α := Int32) (pcJ := 28) (lJ := fun x => []) (sJ := fun x => [.int x, .int z2]) (fun K5 hk5 => ?_) (fun z5 => ?_)
  · refine wg_ifnonnull (pc := 20) (tgt := 27) hX (by decide) dX1_besides_20 (by decide) (fun h6 => ?_) (fun h6 => ?_)
    rotate_left
    · refine wu_f h6 ?_
      refine wg_iconst (pc := 27) (v := 1) hX dX1_besides_27 rfl ?_
      refine wg_sub hX [] rfl ?_
      exact wu_rt (hk5 1)
    refine wu_t h6 ?_
    refine wg_iconst (pc := 23) (v := 0) hX dX1_besides_23 rfl ?_
    refine wg_goto (pc := 24) (tgt := 28) hX dX1_besides_24 (by decide) ?_
    refine wg_sub hX [] rfl ?_
    exact wu_rt (hk5 0)
  refine wg_iadd (pc := 28) hX dX1_besides_28 ?_
  exact wu_rt (wg_iret (pc := 29) hX rfl rfl dX1_besides_29)
theorem m_X1_unlooked (a1 : Int32) (a2 : Int32) : amMet yX1_unlooked cX1_unlooked 5 (some .int) 1 32 encI [.ref (rid 0 1), .int a1, .int a2] (up (p_X1_unlooked a1 a2)) := by
  refine amMet.of (own := RX1) (by decide) rfl (Nat.le_of_ble_eq_true rfl) fun X hX hPs => ?_
  change WG X encI 0 [(0, .ref (rid 0 1)), (1, .int a1), (2, .int a2)] [] (bd1 (up (p_X1_unlooked a1 a2)) rt1)
  unfold p_X1_unlooked
  have hM0 := amPs.m0 hPs
  refine wu_ (wg_gM ?_)
  refine wg_iconst (pc := 0) (v := (-1)) hX dX1_unlooked_0 rfl ?_
  refine wg_istore_n (pc := 1) (l' := [(0, .ref (rid 0 1)), (1, .int a1), (2, .int a2), (3, .int (-1))]) hX dX1_unlooked_1 (by decide) rfl ?_
  refine wg_iconst (pc := 2) (v := 0) hX dX1_unlooked_2 rfl ?_
  refine wg_istore (pc := 3) (l' := [(0, .ref (rid 0 1)), (1, .int a1), (2, .int a2), (3, .int (-1)), (4, .int 0)]) hX dX1_unlooked_3 (by decide) rfl ?_
  refine wu_lpx (α := Int32 × Int32) (γ := Int32) (pcl := 5) (pcT := 61) (lo := fun x => [(0, .ref (rid 0 1)), (1, .int a1), (2, .int a2), (3, .int x.1), (4, .int x.2)]) (so := fun _ => []) (lT := fun x => [(2, .int a2), (3, .int x)]) (sT := fun _ => []) (n := amFu) (x0 := ((-1), 0)) (fun K1 rec1 hrec1 hk1 x1 => ?_) (fun y2 => ?_)
  · unfold p_X1_unlooked_L5
    refine wg_iload (pc := 5) hX dX1_unlooked_5 4 rfl ?_
    refine wg_aload_n (pc := 7) hX dX1_unlooked_7 0 rfl ?_
    refine wu_ (wg_gI (pc := 8) hX fd_X1_755 dX1_unlooked_8 fun v3 => ?_)
    refine wg_icmp_ge (pc := 11) (tgt := 61) hX dX1_unlooked_11 (by decide) (fun h4 => ?_) (fun h4 => ?_)
    · refine wu_t h4 ?_
      refine wg_sub hX [2, 3] rfl ?_
      exact wu_rt (hk1 x1.1)
    refine wu_f h4 ?_
    refine wg_aload_n (pc := 14) hX dX1_unlooked_14 0 rfl ?_
    refine wg_gK (pc := 15) hX hM0 fd_X1_93 (by decide) dX1_unlooked_15 ?_
    refine wg_iload (pc := 18) hX dX1_unlooked_18 4 rfl ?_
    refine wu_ (wg_rI (pc := 20) hX ar_38 dX1_unlooked_20 fun v5 => ?_)
    refine wg_iload_n (pc := 21) hX dX1_unlooked_21 1 rfl ?_
    refine wu_jx (α := Int32) (pcJ := 55) (lJ := fun x => [(0, .ref (rid 0 1)), (1, .int a1), (2, .int a2), (3, .int x), (4, .int x1.2)]) (sJ := fun x => []) (fun K6 hk6 => ?_) (fun z6 => ?_)
    · refine wg_icmp_ne (pc := 22) (tgt := 55) hX dX1_unlooked_22 (by decide) (fun h7 => ?_) (fun h7 => ?_)
      rotate_left
      · refine wu_f h7 ?_
        exact wu_rt (hk6 x1.1)
      refine wu_t h7 ?_
      refine wg_aload_n (pc := 25) hX dX1_unlooked_25 0 rfl ?_
      refine wg_gK (pc := 26) hX hM0 fd_X1_96 (by decide) dX1_unlooked_26 ?_
      refine wg_iload (pc := 29) hX dX1_unlooked_29 4 rfl ?_
      refine wu_ (wg_rI (pc := 31) hX ar_39 dX1_unlooked_31 fun v8 => ?_)
      refine wg_iconst (pc := 32) (v := (-1)) hX dX1_unlooked_32 rfl ?_
      refine wg_icmp_ne (pc := 33) (tgt := 55) hX dX1_unlooked_33 (by decide) (fun h9 => ?_) (fun h9 => ?_)
      rotate_left
      · refine wu_f h9 ?_
        exact wu_rt (hk6 x1.1)
      refine wu_t h9 ?_
      refine wg_aload_n (pc := 36) hX dX1_unlooked_36 0 rfl ?_
      refine wg_gK (pc := 37) hX hM0 fd_X1_102 (by decide) dX1_unlooked_37 ?_
      refine wg_iload (pc := 40) hX dX1_unlooked_40 4 rfl ?_
      refine wu_ (wg_rI (pc := 42) hX ar_41 dX1_unlooked_42 fun v10 => ?_)
      refine wg_iload_n (pc := 43) hX dX1_unlooked_43 2 rfl ?_
      refine wg_icmp_gt (pc := 44) (tgt := 55) hX dX1_unlooked_44 (by decide) (fun h11 => ?_) (fun h11 => ?_)
      · refine wu_t h11 ?_
        exact wu_rt (hk6 x1.1)
      refine wu_f h11 ?_
      refine wg_aload_n (pc := 47) hX dX1_unlooked_47 0 rfl ?_
      refine wg_gK (pc := 48) hX hM0 fd_X1_102 (by decide) dX1_unlooked_48 ?_
      refine wg_iload (pc := 51) hX dX1_unlooked_51 4 rfl ?_
      refine wu_ (wg_rI (pc := 53) hX ar_41 dX1_unlooked_53 fun v12 => ?_)
      refine wg_istore_n (pc := 54) (l' := [(0, .ref (rid 0 1)), (1, .int a1), (2, .int a2), (3, .int v12), (4, .int x1.2)]) hX dX1_unlooked_54 (by decide) rfl ?_
      exact wu_rt (hk6 v12)
    refine wg_iinc (pc := 55) (v := (x1.2 + 1)) (l' := [(0, .ref (rid 0 1)), (1, .int a1), (2, .int a2), (3, .int z6), (4, .int (x1.2 + 1))]) hX dX1_unlooked_55 4 rfl rfl (by decide) rfl ?_
    refine wg_goto (pc := 58) (tgt := 5) hX dX1_unlooked_58 (by decide) ?_
    exact hrec1 (z6, (x1.2 + 1))
  refine wg_iload_n (pc := 61) hX dX1_unlooked_61 1 rfl ?_
  refine wg_iconst (pc := 62) (v := (-1)) hX dX1_unlooked_62 rfl ?_
  refine wg_icmp_ne (pc := 63) (tgt := 72) hX dX1_unlooked_63 (by decide) (fun h13 => ?_) (fun h13 => ?_)
  · refine wu_t h13 ?_
    refine wg_sipush (pc := 66) (v := 999) hX dX1_unlooked_66 rfl ?_
    refine wg_goto (pc := 69) (tgt := 79) hX dX1_unlooked_69 (by decide) ?_
    exact wu_rt (wg_iret (pc := 79) hX rfl rfl dX1_unlooked_79)
  refine wu_f h13 ?_
  refine wg_iload_n (pc := 72) hX dX1_unlooked_72 0 rfl ?_
  refine wg_iload_n (pc := 73) hX dX1_unlooked_73 1 rfl ?_
  refine wg_isub (pc := 74) hX dX1_unlooked_74 ?_
  refine wg_sipush (pc := 75) (v := 1440) hX dX1_unlooked_75 rfl ?_
  refine wg_idiv (pc := 78) hX dX1_unlooked_78 (by decide) ?_
  exact wu_rt (wg_iret (pc := 79) hX rfl rfl dX1_unlooked_79)
theorem m_X1_regard (a1 : Int32) (a2 : Int32) : amMet yX1_regard cX1_regard 6 none 3 76 encV [.ref (rid 0 1), .int a1, .int a2] (up (p_X1_regard a1 a2)) := by
  refine amMet.of (own := RX1) (by decide) rfl (Nat.le_of_ble_eq_true rfl) fun X hX hPs => ?_
  change WG X encV 0 [(0, .ref (rid 0 1)), (1, .int a1), (2, .int a2)] [] (bd1 (up (p_X1_regard a1 a2)) rt1)
  unfold p_X1_regard
  have hM0 := amPs.m0 hPs
  refine wu_ (wg_gM ?_)
  refine wg_aload_n (pc := 0) hX dX1_regard_0 0 rfl ?_
  refine wg_gK (pc := 1) hX hM0 fd_X1_30 (by decide) dX1_regard_1 ?_
  refine wg_iload_n (pc := 4) hX dX1_regard_4 1 rfl ?_
  refine wu_ (wg_rR (pc := 5) hX ar_24 (by decide) dX1_regard_5 fun r1 => ?_)
  refine wg_astore_n (pc := 6) (l' := [(0, .ref (rid 0 1)), (1, .int a1), (2, .int a2), (3, .ref (rid 3 r1))]) hX dX1_regard_6 (by decide) rfl ?_
  refine wg_iconst (pc := 7) (v := 0) hX dX1_regard_7 rfl ?_
  refine wg_istore (pc := 8) (l' := [(0, .ref (rid 0 1)), (1, .int a1), (2, .int a2), (3, .ref (rid 3 r1)), (4, .int 0)]) hX dX1_regard_8 (by decide) rfl ?_
  refine wg_iconst (pc := 10) (v := 0) hX dX1_regard_10 rfl ?_
  refine wg_istore (pc := 11) (l' := [(0, .ref (rid 0 1)), (1, .int a1), (2, .int a2), (3, .ref (rid 3 r1)), (4, .int 0), (5, .int 0)]) hX dX1_regard_11 (by decide) rfl ?_
  refine wu_lpx (α := Int32 × Int32) (γ := Int32) (pcl := 13) (pcT := 42) (lo := fun x => [(0, .ref (rid 0 1)), (1, .int a1), (2, .int a2), (3, .ref (rid 3 r1)), (4, .int x.1), (5, .int x.2)]) (so := fun _ => []) (lT := fun x => [(0, .ref (rid 0 1)), (1, .int a1), (2, .int a2), (3, .ref (rid 3 r1)), (4, .int x)]) (sT := fun _ => []) (n := amFu) (x0 := (0, 0)) (fun K2 rec2 hrec2 hk2 x2 => ?_) (fun y3 => ?_)
  · unfold p_X1_regard_L13
    refine wg_iload (pc := 13) hX dX1_regard_13 5 rfl ?_
    refine wg_aload_n (pc := 15) hX dX1_regard_15 3 rfl ?_
    refine wu_ (wg_gI (pc := 16) hX fd_X1_209 dX1_regard_16 fun v4 => ?_)
    refine wg_icmp_ge (pc := 19) (tgt := 42) hX dX1_regard_19 (by decide) (fun h5 => ?_) (fun h5 => ?_)
    · refine wu_t h5 ?_
      refine wg_sub hX [0, 1, 2, 3, 4] rfl ?_
      exact wu_rt (hk2 x2.1)
    refine wu_f h5 ?_
    refine wg_iload (pc := 22) hX dX1_regard_22 4 rfl ?_
    refine wg_aload_n (pc := 24) hX dX1_regard_24 3 rfl ?_
    refine wu_ (wg_gC (pc := 25) (v := r1) hX fd_X1_251 (by decide) rfl dX1_regard_25 ?_)
    refine wg_iload (pc := 28) hX dX1_regard_28 5 rfl ?_
    refine wu_ (wg_rI (pc := 30) hX ar_144 dX1_regard_30 fun v6 => ?_)
    refine wg_mmax (pc := 31) hX q711 q712 q165 q713 (Nat.le_of_ble_eq_true rfl) (Nat.le_of_ble_eq_true rfl) dX1_regard_31 ?_
    refine wu_ (wg_nmi hX fun v7 => ?_)
    refine wg_istore (pc := 34) (l' := [(0, .ref (rid 0 1)), (1, .int a1), (2, .int a2), (3, .ref (rid 3 r1)), (4, .int v7), (5, .int x2.2)]) hX dX1_regard_34 (by decide) rfl ?_
    refine wg_iinc (pc := 36) (v := (x2.2 + 1)) (l' := [(0, .ref (rid 0 1)), (1, .int a1), (2, .int a2), (3, .ref (rid 3 r1)), (4, .int v7), (5, .int (x2.2 + 1))]) hX dX1_regard_36 5 rfl rfl (by decide) rfl ?_
    refine wg_goto (pc := 39) (tgt := 13) hX dX1_regard_39 (by decide) ?_
    exact hrec2 (v7, (x2.2 + 1))
  refine wg_aload_n (pc := 42) hX dX1_regard_42 0 rfl ?_
  refine wg_gK (pc := 43) hX hM0 fd_X1_52 (by decide) dX1_regard_43 ?_
  refine wg_bipush (pc := 46) (v := 115) hX dX1_regard_46 rfl ?_
  refine wg_aload_n (pc := 48) hX dX1_regard_48 3 rfl ?_
  refine wu_ (wg_gI (pc := 49) hX fd_X1_209 dX1_regard_49 fun v8 => ?_)
  refine wu_ (wg_wI (pc := 52) hX ar_29 dX1_regard_52 ?_)
  refine wg_aload_n (pc := 53) hX dX1_regard_53 0 rfl ?_
  refine wg_gK (pc := 54) hX hM0 fd_X1_52 (by decide) dX1_regard_54 ?_
  refine wg_bipush (pc := 57) (v := 114) hX dX1_regard_57 rfl ?_
  refine wg_aload_n (pc := 59) hX dX1_regard_59 3 rfl ?_
  refine wu_ (wg_gI (pc := 60) hX fd_X1_245 dX1_regard_60 fun v9 => ?_)
  refine wu_ (wg_wI (pc := 63) hX ar_29 dX1_regard_63 ?_)
  refine wg_aload_n (pc := 64) hX dX1_regard_64 0 rfl ?_
  refine wg_gK (pc := 65) hX hM0 fd_X1_52 (by decide) dX1_regard_65 ?_
  refine wg_bipush (pc := 68) (v := 117) hX dX1_regard_68 rfl ?_
  refine wg_aload_n (pc := 70) hX dX1_regard_70 0 rfl ?_
  refine wg_iload_n (pc := 71) hX dX1_regard_71 1 rfl ?_
  refine wg_iload_n (pc := 72) hX dX1_regard_72 2 rfl ?_
  refine wu_ (wg_cVi (pc := 73) (As := [.int a1, .int a2]) (rest := [.int 117, .ref (rid 29 1)]) hX (m_X1_usedAt a1 a2) (by decide) (by decide) (by decide) rc_X1 (lw_V q1634 q1636 qs71 q159 q1637) hd_X1_usedAt rfl (Nat.le_of_ble_eq_true rfl) (Nat.le_of_ble_eq_true rfl) (Nat.le_of_ble_eq_true rfl) rfl dX1_regard_73 fun v10 => ?_)
  refine wu_ (wg_wI (pc := 76) hX ar_29 dX1_regard_76 ?_)
  refine wg_aload_n (pc := 77) hX dX1_regard_77 0 rfl ?_
  refine wg_gK (pc := 78) hX hM0 fd_X1_52 (by decide) dX1_regard_78 ?_
  refine wg_bipush (pc := 81) (v := 107) hX dX1_regard_81 rfl ?_
  refine wg_aload_n (pc := 83) hX dX1_regard_83 3 rfl ?_
  refine wu_ (wg_gI (pc := 84) hX fd_X1_764 dX1_regard_84 fun v11 => ?_)
  refine wu_ (wg_wI (pc := 87) hX ar_29 dX1_regard_87 ?_)
  refine wg_aload_n (pc := 88) hX dX1_regard_88 0 rfl ?_
  refine wg_gK (pc := 89) hX hM0 fd_X1_52 (by decide) dX1_regard_89 ?_
  refine wg_bipush (pc := 92) (v := 103) hX dX1_regard_92 rfl ?_
  refine wg_iload (pc := 94) hX dX1_regard_94 4 rfl ?_
  refine wu_ (wg_wI (pc := 96) hX ar_29 dX1_regard_96 ?_)
  refine wg_aload_n (pc := 97) hX dX1_regard_97 0 rfl ?_
  refine wg_gK (pc := 98) hX hM0 fd_X1_52 (by decide) dX1_regard_98 ?_
  refine wg_bipush (pc := 101) (v := 120) hX dX1_regard_101 rfl ?_
  refine wg_aload_n (pc := 103) hX dX1_regard_103 3 rfl ?_
  refine wu_ (wg_gI (pc := 104) hX fd_X1_325 dX1_regard_104 fun v12 => ?_)
  refine wg_iconst (pc := 107) (v := (-1)) hX dX1_regard_107 rfl ?_
  refine wu_jx (α := Int32) (pcJ := 116) (lJ := fun x => [(0, .ref (rid 0 1)), (1, .int a1), (2, .int a2), (3, .ref (rid 3 r1))]) (sJ := fun x => [.int x, .int 120, .ref (rid 29 1)]) (fun K13 hk13 => ?_) (fun z13 => ?_)
  · refine wg_icmp_ne (pc := 108) (tgt := 115) hX dX1_regard_108 (by decide) (fun h14 => ?_) (fun h14 => ?_)
    rotate_left
    · refine wu_f h14 ?_
      refine wg_iconst (pc := 115) (v := 1) hX dX1_regard_115 rfl ?_
      refine wg_sub hX [0, 1, 2, 3] rfl ?_
      exact wu_rt (hk13 1)
    refine wu_t h14 ?_
    refine wg_iconst (pc := 111) (v := 0) hX dX1_regard_111 rfl ?_
    refine wg_goto (pc := 112) (tgt := 116) hX dX1_regard_112 (by decide) ?_
    refine wg_sub hX [0, 1, 2, 3] rfl ?_
    exact wu_rt (hk13 0)
  refine wu_ (wg_wI (pc := 116) hX ar_29 dX1_regard_116 ?_)
  refine wg_aload_n (pc := 117) hX dX1_regard_117 0 rfl ?_
  refine wg_gK (pc := 118) hX hM0 fd_X1_52 (by decide) dX1_regard_118 ?_
  refine wg_bipush (pc := 121) (v := 119) hX dX1_regard_121 rfl ?_
  refine wg_aload_n (pc := 123) hX dX1_regard_123 3 rfl ?_
  refine wu_ (wg_gI (pc := 124) hX fd_X1_218 dX1_regard_124 fun v15 => ?_)
  refine wu_ (wg_wI (pc := 127) hX ar_29 dX1_regard_127 ?_)
  refine wg_aload_n (pc := 128) hX dX1_regard_128 0 rfl ?_
  refine wg_gK (pc := 129) hX hM0 fd_X1_52 (by decide) dX1_regard_129 ?_
  refine wg_bipush (pc := 132) (v := 121) hX dX1_regard_132 rfl ?_
  refine wg_aload_n (pc := 134) hX dX1_regard_134 3 rfl ?_
  refine wu_ (wg_gI (pc := 135) hX fd_X1_221 dX1_regard_135 fun v16 => ?_)
  refine wu_ (wg_wI (pc := 138) hX ar_29 dX1_regard_138 ?_)
  refine wg_aload_n (pc := 139) hX dX1_regard_139 0 rfl ?_
  refine wg_gK (pc := 140) hX hM0 fd_X1_52 (by decide) dX1_regard_140 ?_
  refine wg_bipush (pc := 143) (v := 100) hX dX1_regard_143 rfl ?_
  refine wg_aload_n (pc := 145) hX dX1_regard_145 3 rfl ?_
  refine wu_ (wg_gI (pc := 146) hX fd_X1_215 dX1_regard_146 fun v17 => ?_)
  refine wu_jx (α := Int32) (pcJ := 157) (lJ := fun x => [(0, .ref (rid 0 1)), (1, .int a1), (2, .int a2)]) (sJ := fun x => [.int x, .int 100, .ref (rid 29 1)]) (fun K18 hk18 => ?_) (fun z18 => ?_)
  · refine wg_if_eq (pc := 149) (tgt := 156) hX dX1_regard_149 (by decide) (fun h19 => ?_) (fun h19 => ?_)
    · refine wu_t h19 ?_
      refine wg_iconst (pc := 156) (v := 0) hX dX1_regard_156 rfl ?_
      refine wg_sub hX [0, 1, 2] rfl ?_
      exact wu_rt (hk18 0)
    refine wu_f h19 ?_
    refine wg_iconst (pc := 152) (v := 1) hX dX1_regard_152 rfl ?_
    refine wg_goto (pc := 153) (tgt := 157) hX dX1_regard_153 (by decide) ?_
    refine wg_sub hX [0, 1, 2] rfl ?_
    exact wu_rt (hk18 1)
  refine wu_ (wg_wI (pc := 157) hX ar_29 dX1_regard_157 ?_)
  refine wg_aload_n (pc := 158) hX dX1_regard_158 0 rfl ?_
  refine wg_gK (pc := 159) hX hM0 fd_X1_52 (by decide) dX1_regard_159 ?_
  refine wg_bipush (pc := 162) (v := 110) hX dX1_regard_162 rfl ?_
  refine wg_aload_n (pc := 164) hX dX1_regard_164 0 rfl ?_
  refine wg_iload_n (pc := 165) hX dX1_regard_165 1 rfl ?_
  refine wu_ (wg_cVi (pc := 166) (As := [.int a1]) (rest := [.int 110, .ref (rid 29 1)]) hX (m_X1_besides a1) (by decide) (by decide) (by decide) rc_X1 (lw_V q1650 q1652 qs74 q159 q1653) hd_X1_besides rfl (Nat.le_of_ble_eq_true rfl) (Nat.le_of_ble_eq_true rfl) (Nat.le_of_ble_eq_true rfl) rfl dX1_regard_166 fun v20 => ?_)
  refine wu_ (wg_wI (pc := 169) hX ar_29 dX1_regard_169 ?_)
  refine wg_aload_n (pc := 170) hX dX1_regard_170 0 rfl ?_
  refine wg_gK (pc := 171) hX hM0 fd_X1_52 (by decide) dX1_regard_171 ?_
  refine wg_bipush (pc := 174) (v := 108) hX dX1_regard_174 rfl ?_
  refine wg_aload_n (pc := 176) hX dX1_regard_176 0 rfl ?_
  refine wg_iload_n (pc := 177) hX dX1_regard_177 1 rfl ?_
  refine wg_iload_n (pc := 178) hX dX1_regard_178 2 rfl ?_
  refine wu_ (wg_cVi (pc := 179) (As := [.int a1, .int a2]) (rest := [.int 108, .ref (rid 29 1)]) hX (m_X1_unlooked a1 a2) (by decide) (by decide) (by decide) rc_X1 (lw_V q1654 q1656 qs75 q159 q1657) hd_X1_unlooked rfl (Nat.le_of_ble_eq_true rfl) (Nat.le_of_ble_eq_true rfl) (Nat.le_of_ble_eq_true rfl) rfl dX1_regard_179 fun v21 => ?_)
  refine wu_ (wg_wI (pc := 182) hX ar_29 dX1_regard_182 ?_)
  exact wu_rt (wg_vret (pc := 183) hX rfl rfl dX1_regard_183)
theorem m_X1_failsBy (a1 : Int32) (a2 : Int32) (a3 : Int32) : amMet yX1_failsBy cX1_failsBy 7 (some .int) 517 12423 encI [.ref (rid 0 1), .int a1, .int a2, .int a3] (up (p_X1_failsBy a1 a2 a3)) := by
  refine amMet.of (own := RX1) (by decide) rfl (Nat.le_of_ble_eq_true rfl) fun X hX hPs => ?_
  change WG X encI 0 [(0, .ref (rid 0 1)), (1, .int a1), (2, .int a2), (3, .int a3)] [] (bd1 (up (p_X1_failsBy a1 a2 a3)) rt1)
  unfold p_X1_failsBy
  have hM0 := amPs.m0 hPs
  refine wu_ (wg_gM ?_)
  refine wg_aload_n (pc := 0) hX dX1_failsBy_0 0 rfl ?_
  refine wg_aload_n (pc := 1) hX dX1_failsBy_1 0 rfl ?_
  refine wg_gK (pc := 2) hX hM0 fd_X1_30 (by decide) dX1_failsBy_2 ?_
  refine wg_iload_n (pc := 5) hX dX1_failsBy_5 1 rfl ?_
  refine wu_ (wg_rR (pc := 6) hX ar_24 (by decide) dX1_failsBy_6 fun r1 => ?_)
  refine wg_iload_n (pc := 7) hX dX1_failsBy_7 2 rfl ?_
  refine wu_ (wg_cVi (pc := 8) (As := [.ref (rid 3 r1), .int a2]) (rest := []) hX (m_X1_forceOf r1 a2) (by decide) (by decide) (by decide) rc_X1 (lw_V q1614 q1616 qs69 q159 q1617) hd_X1_forceOf rfl (Nat.le_of_ble_eq_true rfl) (Nat.le_of_ble_eq_true rfl) (Nat.le_of_ble_eq_true rfl) rfl dX1_failsBy_8 fun v2 => ?_)
  refine wg_istore (pc := 11) (l' := [(0, .ref (rid 0 1)), (1, .int a1), (2, .int a2), (3, .int a3), (4, .int v2)]) hX dX1_failsBy_11 (by decide) rfl ?_
  refine wg_iload (pc := 13) hX dX1_failsBy_13 4 rfl ?_
  refine wg_iconst (pc := 15) (v := (-1)) hX dX1_failsBy_15 rfl ?_
  refine wg_icmp_ne (pc := 16) (tgt := 21) hX dX1_failsBy_16 (by decide) (fun h3 => ?_) (fun h3 => ?_)
  · refine wu_t h3 ?_
    refine wg_iconst (pc := 19) (v := 0) hX dX1_failsBy_19 rfl ?_
    exact wu_rt (wg_iret (pc := 20) hX rfl rfl dX1_failsBy_20)
  refine wu_f h3 ?_
  refine wg_aload_n (pc := 21) hX dX1_failsBy_21 0 rfl ?_
  refine wg_iload_n (pc := 22) hX dX1_failsBy_22 1 rfl ?_
  refine wg_iload_n (pc := 23) hX dX1_failsBy_23 2 rfl ?_
  refine wu_ (wg_cVv (pc := 24) (As := [.int a1, .int a2]) (rest := []) hX (m_X1_regard a1 a2) (by decide) (by decide) (by decide) rc_X1 (lw_V q1646 q1648 qs73 q159 q1649) hd_X1_regard rfl (Nat.le_of_ble_eq_true rfl) (Nat.le_of_ble_eq_true rfl) (Nat.le_of_ble_eq_true rfl) rfl dX1_failsBy_24 ?_)
  refine wg_iconst (pc := 27) (v := 0) hX dX1_failsBy_27 rfl ?_
  refine wg_istore (pc := 28) (l' := [(0, .ref (rid 0 1)), (1, .int a1), (2, .int a2), (3, .int a3), (4, .int v2), (5, .int 0)]) hX dX1_failsBy_28 (by decide) rfl ?_
  refine wg_aload_n (pc := 30) hX dX1_failsBy_30 0 rfl ?_
  refine wg_gK (pc := 31) hX hM0 fd_X1_84 (by decide) dX1_failsBy_31 ?_
  refine wg_iload (pc := 34) hX dX1_failsBy_34 4 rfl ?_
  refine wu_ (wg_rR (pc := 36) hX ar_35 (by decide) dX1_failsBy_36 fun r4 => ?_)
  refine wg_astore (pc := 37) (l' := [(0, .ref (rid 0 1)), (1, .int a1), (2, .int a2), (3, .int a3), (4, .int v2), (5, .int 0), (6, .ref (rid 8 r4))]) hX dX1_failsBy_37 (by decide) rfl ?_
  refine wg_sub hX [0, 3, 5, 6] rfl ?_
  refine wu_lpx (α := Int32 × Nat) (γ := Int32) (pcl := 39) (pcT := 90) (lo := fun x => [(0, .ref (rid 0 1)), (3, .int a3), (5, .int x.1), (6, .ref (rid 8 x.2))]) (so := fun _ => []) (lT := fun x => [(5, .int x)]) (sT := fun _ => []) (n := amFu) (x0 := (0, r4)) (fun K5 rec5 hrec5 hk5 x5 => ?_) (fun y6 => ?_)
  · unfold p_X1_failsBy_L39
    refine wg_aload (pc := 39) hX dX1_failsBy_39 3 rfl ?_
    refine wg_ifnull (pc := 41) (tgt := 90) hX (by decide) dX1_failsBy_41 (by decide) (fun h7 => ?_) (fun h7 => ?_)
    · refine wu_t h7 ?_
      refine wg_sub hX [2] rfl ?_
      exact wu_rt (hk5 x5.1)
    refine wu_f h7 ?_
    refine wg_aload (pc := 44) hX dX1_failsBy_44 3 rfl ?_
    refine wu_ (wg_gR (pc := 46) hX fd_X1_621 dX1_failsBy_46 fun r8 => ?_)
    refine wg_aload_n (pc := 49) hX dX1_failsBy_49 0 rfl ?_
    refine wg_gK (pc := 50) hX hM0 fd_X1_52 (by decide) dX1_failsBy_50 ?_
    refine wu_ (wg_vciu (pc := 53) (x := ⟨"CityBrigade$Test", "holds", "([I)Z"⟩) (n := 1) (f := fun c => if c = 15 then p_X20_holds r8 else if c = 16 then p_X15_holds 256 r8 else if c = 17 then p_X21_holds 256 r8 else fl0) (As := [.ref (rid 29 1)]) (rest := []) hX (by decide) (by decide) (fun c hc => by
          rcases am_mem3 hc with rfl | rfl | rfl
          · exact Or.inr ⟨RX20, TX20, 3, yX20_holds, cX20_holds, 4, (some .boolean), _, _, rfl, ⟨"CityBrigade$Test", lw_U q1363 q1365 q1396 q1370 q189 q1371, by decide +kernel, Or.inr q1364⟩, m_X20_holds r8, (Nat.le_of_ble_eq_true rfl), (Nat.le_of_ble_eq_true rfl)⟩
          · exact Or.inr ⟨RX15, TX15, 1, yX15_holds, cX15_holds, 2, (some .boolean), _, _, rfl, ⟨"CityBrigade$Test", lw_U q1363 q1365 q1397 q1393 q184 q1394, by decide +kernel, Or.inr q1364⟩, m_X15_holds r8, (Nat.le_of_ble_eq_true rfl), (Nat.le_of_ble_eq_true rfl)⟩
          · exact Or.inr ⟨RX21, TX21, 3, yX21_holds, cX21_holds, 2, (some .boolean), _, _, rfl, ⟨"CityBrigade$Test", lw_U q1363 q1365 q1366 q1367 q190 q1368, by decide +kernel, Or.inr q1364⟩, m_X21_holds r8, (Nat.le_of_ble_eq_true rfl), (Nat.le_of_ble_eq_true rfl)⟩) rfl (Nat.le_of_ble_eq_true rfl) rfl dX1_failsBy_53 fun v10 => ?_)
    refine wu_jx (α := Int32) (pcJ := 80) (lJ := fun x => [(0, .ref (rid 0 1)), (3, .int a3), (5, .int x), (6, .ref (rid 8 x5.2))]) (sJ := fun x => []) (fun K11 hk11 => ?_) (fun z11 => ?_)
    · refine wg_if_ne (pc := 56) (tgt := 62) hX dX1_failsBy_56 (by decide) (fun h12 => ?_) (fun h12 => ?_)
      · refine wu_t h12 ?_
        refine wg_goto (pc := 59) (tgt := 80) hX dX1_failsBy_59 (by decide) ?_
        exact wu_rt (hk11 x5.1)
      refine wu_f h12 ?_
      refine wg_iload (pc := 62) hX dX1_failsBy_62 2 rfl ?_
      refine wg_iload_n (pc := 64) hX dX1_failsBy_64 1 rfl ?_
      refine wu_jx (α := Unit) (pcJ := 77) (lJ := fun x => [(0, .ref (rid 0 1)), (3, .int a3), (5, .int x5.1), (6, .ref (rid 8 x5.2))]) (sJ := fun x => []) (fun K13 hk13 => ?_) (fun z13 => ?_)
      · refine wg_icmp_ne (pc := 65) (tgt := 77) hX dX1_failsBy_65 (by decide) (fun h14 => ?_) (fun h14 => ?_)
        rotate_left
        · refine wu_f h14 ?_
          exact wu_rt (hk13 ())
        refine wu_t h14 ?_
        refine wg_aload_n (pc := 68) hX dX1_failsBy_68 0 rfl ?_
        refine wg_aload (pc := 69) hX dX1_failsBy_69 3 rfl ?_
        refine wu_ (wg_gI (pc := 71) hX fd_X1_552 dX1_failsBy_71 fun v15 => ?_)
        refine wu_ (wg_pI (pc := 74) hX fp_X1_774 (fun h => by cases h) dX1_failsBy_74 ?_)
        exact wu_rt (hk13 ())
      refine wg_iinc (pc := 77) (v := (x5.1 + 1)) (l' := [(0, .ref (rid 0 1)), (3, .int a3), (5, .int (x5.1 + 1)), (6, .ref (rid 8 x5.2))]) hX dX1_failsBy_77 2 rfl rfl (by decide) rfl ?_
      exact wu_rt (hk11 (x5.1 + 1))
    refine wg_aload (pc := 80) hX dX1_failsBy_80 3 rfl ?_
    refine wu_ (wg_gR (pc := 82) hX fd_X1_569 dX1_failsBy_82 fun r16 => ?_)
    refine wg_astore (pc := 85) (l' := [(0, .ref (rid 0 1)), (3, .int a3), (5, .int z11), (6, .ref (rid 8 r16))]) hX dX1_failsBy_85 (by decide) rfl ?_
    refine wg_goto (pc := 87) (tgt := 39) hX dX1_failsBy_87 (by decide) ?_
    exact hrec5 (z11, r16)
  refine wg_iload (pc := 90) hX dX1_failsBy_90 0 rfl ?_
  exact wu_rt (wg_iret (pc := 92) hX rfl rfl dX1_failsBy_92)
theorem m_X1_fails (a1 : Int32) (a2 : Int32) : amMet yX1_fails cX1_fails 3 (some .int) 518 12449 encI [.ref (rid 0 1), .int a1, .int a2] (up (p_X1_fails a1 a2)) := by
  refine amMet.of (own := RX1) (by decide) rfl (Nat.le_of_ble_eq_true rfl) fun X hX hPs => ?_
  change WG X encI 0 [(0, .ref (rid 0 1)), (1, .int a1), (2, .int a2)] [] (bd1 (up (p_X1_fails a1 a2)) rt1)
  unfold p_X1_fails
  refine wg_aload_n (pc := 0) hX dX1_fails_0 0 rfl ?_
  refine wg_iload_n (pc := 1) hX dX1_fails_1 1 rfl ?_
  refine wg_iload_n (pc := 2) hX dX1_fails_2 2 rfl ?_
  refine wu_ (wg_cVi (pc := 3) (As := [.int a1, .int a2]) (rest := []) hX (m_X1_isAsked a1 a2) (by decide) (by decide) (by decide) rc_X1 (lw_V q1610 q1612 qs68 q159 q1613) hd_X1_isAsked rfl (Nat.le_of_ble_eq_true rfl) (Nat.le_of_ble_eq_true rfl) (Nat.le_of_ble_eq_true rfl) rfl dX1_fails_3 fun v1 => ?_)
  refine wg_if_eq (pc := 6) (tgt := 19) hX dX1_fails_6 (by decide) (fun h2 => ?_) (fun h2 => ?_)
  · refine wu_t h2 ?_
    refine wg_iconst (pc := 19) (v := (-1)) hX dX1_fails_19 rfl ?_
    exact wu_rt (wg_iret (pc := 20) hX rfl rfl dX1_fails_20)
  refine wu_f h2 ?_
  refine wg_aload_n (pc := 9) hX dX1_fails_9 0 rfl ?_
  refine wg_iload_n (pc := 10) hX dX1_fails_10 1 rfl ?_
  refine wg_iload_n (pc := 11) hX dX1_fails_11 2 rfl ?_
  refine wg_iconst (pc := 12) (v := (-1)) hX dX1_fails_12 rfl ?_
  refine wu_ (wg_cVi (pc := 13) (As := [.int a1, .int a2, .int (-1)]) (rest := []) hX (m_X1_failsBy a1 a2 (-1)) (by decide) (by decide) (by decide) rc_X1 (lw_V q1642 q1644 qs72 q159 q1645) hd_X1_failsBy rfl (Nat.le_of_ble_eq_true rfl) (Nat.le_of_ble_eq_true rfl) (Nat.le_of_ble_eq_true rfl) rfl dX1_fails_13 fun v3 => ?_)
  refine wg_goto (pc := 16) (tgt := 20) hX dX1_fails_16 (by decide) ?_
  exact wu_rt (wg_iret (pc := 20) hX rfl rfl dX1_fails_20)
theorem m_X1_code (a1 : Int32) (a2 : Int32) (a3 : Int32) : amMet yX1_code cX1_code 4 (some .int) 518 12449 encI [.ref (rid 0 1), .int a1, .int a2, .int a3] (up (p_X1_code a1 a2 a3)) := by
  refine amMet.of (own := RX1) (by decide) rfl (Nat.le_of_ble_eq_true rfl) fun X hX hPs => ?_
  change WG X encI 0 [(0, .ref (rid 0 1)), (1, .int a1), (2, .int a2), (3, .int a3)] [] (bd1 (up (p_X1_code a1 a2 a3)) rt1)
  unfold p_X1_code
  refine wg_aload_n (pc := 0) hX dX1_code_0 0 rfl ?_
  refine wg_iload_n (pc := 1) hX dX1_code_1 1 rfl ?_
  refine wg_iload_n (pc := 2) hX dX1_code_2 2 rfl ?_
  refine wu_ (wg_cVi (pc := 3) (As := [.int a1, .int a2]) (rest := []) hX (m_X1_isAsked a1 a2) (by decide) (by decide) (by decide) rc_X1 (lw_V q1610 q1612 qs68 q159 q1613) hd_X1_isAsked rfl (Nat.le_of_ble_eq_true rfl) (Nat.le_of_ble_eq_true rfl) (Nat.le_of_ble_eq_true rfl) rfl dX1_code_3 fun v1 => ?_)
  refine wu_jn (α := Unit) (pcJ := 31) (lJ := fun x => []) (sJ := fun x => []) (fun k2 hk2 => ?_) (fun z2 => ?_)
  · refine wg_if_eq (pc := 6) (tgt := 31) hX dX1_code_6 (by decide) (fun h3 => ?_) (fun h3 => ?_)
    · refine wu_t h3 ?_
      refine wg_sub hX [] rfl ?_
      exact hk2 ()
    refine wu_f h3 ?_
    refine wg_iload_n (pc := 9) hX dX1_code_9 3 rfl ?_
    refine wg_if_lt (pc := 10) (tgt := 31) hX dX1_code_10 (by decide) (fun h4 => ?_) (fun h4 => ?_)
    · refine wu_t h4 ?_
      refine wg_sub hX [] rfl ?_
      exact hk2 ()
    refine wu_f h4 ?_
    refine wg_iload_n (pc := 13) hX dX1_code_13 3 rfl ?_
    refine wg_aload_n (pc := 14) hX dX1_code_14 0 rfl ?_
    refine wg_iload_n (pc := 15) hX dX1_code_15 1 rfl ?_
    refine wg_iload_n (pc := 16) hX dX1_code_16 2 rfl ?_
    refine wg_iload_n (pc := 17) hX dX1_code_17 3 rfl ?_
    refine wu_ (wg_cVi (pc := 18) (As := [.int a1, .int a2, .int a3]) (rest := [.int a3]) hX (m_X1_failsBy a1 a2 a3) (by decide) (by decide) (by decide) rc_X1 (lw_V q1642 q1644 qs72 q159 q1645) hd_X1_failsBy rfl (Nat.le_of_ble_eq_true rfl) (Nat.le_of_ble_eq_true rfl) (Nat.le_of_ble_eq_true rfl) rfl dX1_code_18 fun v5 => ?_)
    refine wg_icmp_ge (pc := 21) (tgt := 31) hX dX1_code_21 (by decide) (fun h6 => ?_) (fun h6 => ?_)
    · refine wu_t h6 ?_
      refine wg_sub hX [] rfl ?_
      exact hk2 ()
    refine wu_f h6 ?_
    refine wg_aload_n (pc := 24) hX dX1_code_24 0 rfl ?_
    refine wu_ (wg_gI (pc := 25) hX fd_X1_774 dX1_code_25 fun v7 => ?_)
    refine wg_goto (pc := 28) (tgt := 32) hX dX1_code_28 (by decide) ?_
    exact wu_rt (wg_iret (pc := 32) hX rfl rfl dX1_code_32)
  refine wg_iconst (pc := 31) (v := (-1)) hX dX1_code_31 rfl ?_
  exact wu_rt (wg_iret (pc := 32) hX rfl rfl dX1_code_32)
theorem m_X1_failing  : amMet yX1_failing cX1_failing 3 (some .int) 518 12449 encI [.ref (rid 0 1)] (up (p_X1_failing)) := by
  refine amMet.of (own := RX1) (by decide) rfl (Nat.le_of_ble_eq_true rfl) fun X hX hPs => ?_
  change WG X encI 0 [(0, .ref (rid 0 1))] [] (bd1 (up (p_X1_failing)) rt1)
  unfold p_X1_failing
  refine wg_iconst (pc := 0) (v := 0) hX dX1_failing_0 rfl ?_
  refine wg_istore_n (pc := 1) (l' := [(0, .ref (rid 0 1)), (1, .int 0)]) hX dX1_failing_1 (by decide) rfl ?_
  refine wg_iconst (pc := 2) (v := 0) hX dX1_failing_2 rfl ?_
  refine wg_istore_n (pc := 3) (l' := [(0, .ref (rid 0 1)), (1, .int 0), (2, .int 0)]) hX dX1_failing_3 (by decide) rfl ?_
  refine wu_lpx (α := Int32 × Int32) (γ := Int32) (pcl := 4) (pcT := 37) (lo := fun x => [(0, .ref (rid 0 1)), (1, .int x.1), (2, .int x.2)]) (so := fun _ => []) (lT := fun x => [(1, .int x)]) (sT := fun _ => []) (n := amFu) (x0 := (0, 0)) (fun K1 rec1 hrec1 hk1 x1 => ?_) (fun y2 => ?_)
  · unfold p_X1_failing_L4
    refine wg_iload_n (pc := 4) hX dX1_failing_4 2 rfl ?_
    refine wg_aload_n (pc := 5) hX dX1_failing_5 0 rfl ?_
    refine wu_ (wg_gI (pc := 6) hX fd_X1_199 dX1_failing_6 fun v3 => ?_)
    refine wg_icmp_ge (pc := 9) (tgt := 37) hX dX1_failing_9 (by decide) (fun h4 => ?_) (fun h4 => ?_)
    · refine wu_t h4 ?_
      refine wg_sub hX [1] rfl ?_
      exact wu_rt (hk1 x1.1)
    refine wu_f h4 ?_
    refine wg_aload_n (pc := 12) hX dX1_failing_12 0 rfl ?_
    refine wg_iload_n (pc := 13) hX dX1_failing_13 2 rfl ?_
    refine wg_aload_n (pc := 14) hX dX1_failing_14 0 rfl ?_
    refine wu_ (wg_gI (pc := 15) hX fd_X1_415 dX1_failing_15 fun v5 => ?_)
    refine wg_iconst (pc := 18) (v := (-1)) hX dX1_failing_18 rfl ?_
    refine wu_ (wg_cVi (pc := 19) (As := [.int x1.2, .int v5, .int (-1)]) (rest := []) hX (m_X1_failsBy x1.2 v5 (-1)) (by decide) (by decide) (by decide) rc_X1 (lw_V q1642 q1644 qs72 q159 q1645) hd_X1_failsBy rfl (Nat.le_of_ble_eq_true rfl) (Nat.le_of_ble_eq_true rfl) (Nat.le_of_ble_eq_true rfl) rfl dX1_failing_19 fun v6 => ?_)
    refine wu_jx (α := Int32) (pcJ := 31) (lJ := fun x => [(0, .ref (rid 0 1)), (1, .int x), (2, .int x1.2)]) (sJ := fun x => []) (fun K7 hk7 => ?_) (fun z7 => ?_)
    · refine wg_if_le (pc := 22) (tgt := 31) hX dX1_failing_22 (by decide) (fun h8 => ?_) (fun h8 => ?_)
      · refine wu_t h8 ?_
        exact wu_rt (hk7 x1.1)
      refine wu_f h8 ?_
      refine wg_iload_n (pc := 25) hX dX1_failing_25 1 rfl ?_
      refine wg_iconst (pc := 26) (v := 1) hX dX1_failing_26 rfl ?_
      refine wg_iload_n (pc := 27) hX dX1_failing_27 2 rfl ?_
      refine wg_ishl (pc := 28) hX dX1_failing_28 ?_
      refine wg_ior (pc := 29) hX dX1_failing_29 ?_
      refine wu_ (wg_nmi hX fun v9 => ?_)
      refine wg_istore_n (pc := 30) (l' := [(0, .ref (rid 0 1)), (1, .int v9), (2, .int x1.2)]) hX dX1_failing_30 (by decide) rfl ?_
      exact wu_rt (hk7 v9)
    refine wg_iinc (pc := 31) (v := (x1.2 + 1)) (l' := [(0, .ref (rid 0 1)), (1, .int z7), (2, .int (x1.2 + 1))]) hX dX1_failing_31 2 rfl rfl (by decide) rfl ?_
    refine wg_goto (pc := 34) (tgt := 4) hX dX1_failing_34 (by decide) ?_
    exact hrec1 (z7, (x1.2 + 1))
  refine wg_iload_n (pc := 37) hX dX1_failing_37 0 rfl ?_
  exact wu_rt (wg_iret (pc := 38) hX rfl rfl dX1_failing_38)
theorem m_X1_plot (a1 : Int32) : amMet yX1_plot cX1_plot 4 none 518 12449 encV [.ref (rid 0 1), .int a1] (up (p_X1_plot a1)) := by
  refine amMet.of (own := RX1) (by decide) rfl (Nat.le_of_ble_eq_true rfl) fun X hX hPs => ?_
  change WG X encV 0 [(0, .ref (rid 0 1)), (1, .int a1)] [] (bd1 (up (p_X1_plot a1)) rt1)
  unfold p_X1_plot
  have hM0 := amPs.m0 hPs
  refine wu_ (wg_gM ?_)
  refine wg_aload_n (pc := 0) hX dX1_plot_0 0 rfl ?_
  refine wg_iload_n (pc := 1) hX dX1_plot_1 1 rfl ?_
  refine wu_ (wg_cVv (pc := 2) (As := [.int a1]) (rest := []) hX (m_X1_stroll a1) (by decide) (by decide) (by decide) rc_X1 (lw_V q541 q543 qs5 q159 q544) hd_X1_stroll rfl (Nat.le_of_ble_eq_true rfl) (Nat.le_of_ble_eq_true rfl) (Nat.le_of_ble_eq_true rfl) rfl dX1_plot_2 ?_)
  refine wg_aload_n (pc := 5) hX dX1_plot_5 0 rfl ?_
  refine wg_iconst (pc := 6) (v := 0) hX dX1_plot_6 rfl ?_
  refine wu_ (wg_pI (pc := 7) hX fp_X1_781 (fun h => by cases h) dX1_plot_7 ?_)
  refine wg_iconst (pc := 10) (v := 0) hX dX1_plot_10 rfl ?_
  refine wg_istore_n (pc := 11) (l' := [(0, .ref (rid 0 1)), (1, .int a1), (2, .int 0)]) hX dX1_plot_11 (by decide) rfl ?_
  refine wu_lpx (α := Int32) (γ := Unit) (pcl := 12) (pcT := 71) (lo := fun x => [(0, .ref (rid 0 1)), (1, .int a1), (2, .int x)]) (so := fun _ => []) (lT := fun x => [(0, .ref (rid 0 1)), (1, .int a1)]) (sT := fun _ => []) (n := amFu) (x0 := 0) (fun K1 rec1 hrec1 hk1 x1 => ?_) (fun y2 => ?_)
  · unfold p_X1_plot_L12
    refine wg_iload_n (pc := 12) hX dX1_plot_12 2 rfl ?_
    refine wg_aload_n (pc := 13) hX dX1_plot_13 0 rfl ?_
    refine wu_ (wg_gI (pc := 14) hX fd_X1_199 dX1_plot_14 fun v3 => ?_)
    refine wg_icmp_ge (pc := 17) (tgt := 71) hX dX1_plot_17 (by decide) (fun h4 => ?_) (fun h4 => ?_)
    · refine wu_t h4 ?_
      refine wg_sub hX [0, 1] rfl ?_
      exact wu_rt (hk1 ())
    refine wu_f h4 ?_
    refine wg_aload_n (pc := 20) hX dX1_plot_20 0 rfl ?_
    refine wu_ (wg_gI (pc := 21) hX fd_X1_781 dX1_plot_21 fun v5 => ?_)
    refine wg_bipush (pc := 24) (v := 8) hX dX1_plot_24 rfl ?_
    refine wg_icmp_ge (pc := 26) (tgt := 71) hX dX1_plot_26 (by decide) (fun h6 => ?_) (fun h6 => ?_)
    · refine wu_t h6 ?_
      refine wg_sub hX [0, 1] rfl ?_
      exact wu_rt (hk1 ())
    refine wu_f h6 ?_
    refine wg_aload_n (pc := 29) hX dX1_plot_29 0 rfl ?_
    refine wg_gK (pc := 30) hX hM0 fd_X1_24 (by decide) dX1_plot_30 ?_
    refine wg_aload_n (pc := 33) hX dX1_plot_33 0 rfl ?_
    refine wg_gK (pc := 34) hX hM0 fd_X1_30 (by decide) dX1_plot_34 ?_
    refine wg_iload_n (pc := 37) hX dX1_plot_37 2 rfl ?_
    refine wu_ (wg_rR (pc := 38) hX ar_24 (by decide) dX1_plot_38 fun r7 => ?_)
    refine wu_ (wg_gI (pc := 39) hX fd_X1_308 dX1_plot_39 fun v8 => ?_)
    refine wu_ (wg_rI (pc := 42) hX ar_23 dX1_plot_42 fun v9 => ?_)
    refine wg_ldc (pc := 43) hX dX1_plot_43 q545 ?_
    refine wu_jx (α := Unit) (pcJ := 65) (lJ := fun x => [(0, .ref (rid 0 1)), (1, .int a1), (2, .int x1)]) (sJ := fun x => []) (fun K10 hk10 => ?_) (fun z10 => ?_)
    · refine wg_icmp_ge (pc := 45) (tgt := 65) hX dX1_plot_45 (by decide) (fun h11 => ?_) (fun h11 => ?_)
      · refine wu_t h11 ?_
        exact wu_rt (hk10 ())
      refine wu_f h11 ?_
      refine wg_aload_n (pc := 48) hX dX1_plot_48 0 rfl ?_
      refine wg_gK (pc := 49) hX hM0 fd_X1_105 (by decide) dX1_plot_49 ?_
      refine wg_aload_n (pc := 52) hX dX1_plot_52 0 rfl ?_
      refine wg_dup (pc := 53) hX dX1_plot_53 rfl ?_
      refine wu_ (wg_gI (pc := 54) hX fd_X1_781 dX1_plot_54 fun v12 => ?_)
      refine wg_dup_x1 (pc := 57) hX dX1_plot_57 rfl rfl ?_
      refine wg_iconst (pc := 58) (v := 1) hX dX1_plot_58 rfl ?_
      refine wg_iadd (pc := 59) hX dX1_plot_59 ?_
      refine wu_ (wg_pI (pc := 60) hX fp_X1_781 (fun h => by cases h) dX1_plot_60 ?_)
      refine wg_iload_n (pc := 63) hX dX1_plot_63 2 rfl ?_
      refine wu_ (wg_wI (pc := 64) hX ar_42 dX1_plot_64 ?_)
      exact wu_rt (hk10 ())
    refine wg_iinc (pc := 65) (v := (x1 + 1)) (l' := [(0, .ref (rid 0 1)), (1, .int a1), (2, .int (x1 + 1))]) hX dX1_plot_65 2 rfl rfl (by decide) rfl ?_
    refine wg_goto (pc := 68) (tgt := 12) hX dX1_plot_68 (by decide) ?_
    exact hrec1 (x1 + 1)
  refine wg_iconst (pc := 71) (v := 0) hX dX1_plot_71 rfl ?_
  refine wg_istore_n (pc := 72) (l' := [(0, .ref (rid 0 1)), (1, .int a1), (2, .int 0)]) hX dX1_plot_72 (by decide) rfl ?_
  refine wu_lpx (α := Int32) (γ := Unit) (pcl := 73) (pcT := 172) (lo := fun x => [(0, .ref (rid 0 1)), (1, .int a1), (2, .int x)]) (so := fun _ => []) (lT := fun x => [(0, .ref (rid 0 1))]) (sT := fun _ => []) (n := amFu) (x0 := 0) (fun K13 rec13 hrec13 hk13 x13 => ?_) (fun y14 => ?_)
  · unfold p_X1_plot_L73
    refine wg_iload_n (pc := 73) hX dX1_plot_73 2 rfl ?_
    refine wg_aload_n (pc := 74) hX dX1_plot_74 0 rfl ?_
    refine wu_ (wg_gI (pc := 75) hX fd_X1_781 dX1_plot_75 fun v15 => ?_)
    refine wg_icmp_gt (pc := 78) (tgt := 172) hX dX1_plot_78 (by decide) (fun h16 => ?_) (fun h16 => ?_)
    · refine wu_t h16 ?_
      refine wg_sub hX [0] rfl ?_
      exact wu_rt (hk13 ())
    refine wu_f h16 ?_
    refine wg_aload_n (pc := 81) hX dX1_plot_81 0 rfl ?_
    refine wg_iload_n (pc := 82) hX dX1_plot_82 2 rfl ?_
    refine wg_aload_n (pc := 83) hX dX1_plot_83 0 rfl ?_
    refine wu_ (wg_gI (pc := 84) hX fd_X1_781 dX1_plot_84 fun v17 => ?_)
    refine wu_jx (α := Int32) (pcJ := 108) (lJ := fun x => [(0, .ref (rid 0 1)), (1, .int a1), (2, .int x13)]) (sJ := fun x => [.int x, .ref (rid 0 1)]) (fun K18 hk18 => ?_) (fun z18 => ?_)
    · refine wg_icmp_ne (pc := 87) (tgt := 94) hX dX1_plot_87 (by decide) (fun h19 => ?_) (fun h19 => ?_)
      · refine wu_t h19 ?_
        refine wg_iload_n (pc := 90) hX dX1_plot_90 1 rfl ?_
        refine wg_goto (pc := 91) (tgt := 108) hX dX1_plot_91 (by decide) ?_
        exact wu_rt (hk18 a1)
      refine wu_f h19 ?_
      refine wg_aload_n (pc := 94) hX dX1_plot_94 0 rfl ?_
      refine wg_gK (pc := 95) hX hM0 fd_X1_30 (by decide) dX1_plot_95 ?_
      refine wg_aload_n (pc := 98) hX dX1_plot_98 0 rfl ?_
      refine wg_gK (pc := 99) hX hM0 fd_X1_105 (by decide) dX1_plot_99 ?_
      refine wg_iload_n (pc := 102) hX dX1_plot_102 2 rfl ?_
      refine wu_ (wg_rI (pc := 103) hX ar_42 dX1_plot_103 fun v20 => ?_)
      refine wu_ (wg_rR (pc := 104) hX ar_24 (by decide) dX1_plot_104 fun r21 => ?_)
      refine wu_ (wg_gI (pc := 105) hX fd_X1_308 dX1_plot_105 fun v22 => ?_)
      exact wu_rt (hk18 v22)
    refine wu_ (wg_cVv (pc := 108) (As := [.int z18]) (rest := []) hX (m_X1_stroll z18) (by decide) (by decide) (by decide) rc_X1 (lw_V q541 q543 qs5 q159 q544) hd_X1_stroll rfl (Nat.le_of_ble_eq_true rfl) (Nat.le_of_ble_eq_true rfl) (Nat.le_of_ble_eq_true rfl) rfl dX1_plot_108 ?_)
    refine wg_iconst (pc := 111) (v := 0) hX dX1_plot_111 rfl ?_
    refine wg_istore_n (pc := 112) (l' := [(0, .ref (rid 0 1)), (1, .int a1), (2, .int x13), (3, .int 0)]) hX dX1_plot_112 (by decide) rfl ?_
    refine wu_lpx (α := Int32) (γ := Unit) (pcl := 113) (pcT := 166) (lo := fun x => [(0, .ref (rid 0 1)), (1, .int a1), (2, .int x13), (3, .int x)]) (so := fun _ => []) (lT := fun x => [(0, .ref (rid 0 1)), (1, .int a1), (2, .int x13)]) (sT := fun _ => []) (n := amFu) (x0 := 0) (fun K23 rec23 hrec23 hk23 x23 => ?_) (fun y24 => ?_)
    · unfold p_X1_plot_L113
      refine wg_iload_n (pc := 113) hX dX1_plot_113 3 rfl ?_
      refine wg_aload_n (pc := 114) hX dX1_plot_114 0 rfl ?_
      refine wu_ (wg_gI (pc := 115) hX fd_X1_781 dX1_plot_115 fun v25 => ?_)
      refine wg_icmp_gt (pc := 118) (tgt := 166) hX dX1_plot_118 (by decide) (fun h26 => ?_) (fun h26 => ?_)
      · refine wu_t h26 ?_
        refine wg_sub hX [0, 1, 2] rfl ?_
        exact wu_rt (hk23 ())
      refine wu_f h26 ?_
      refine wg_aload_n (pc := 121) hX dX1_plot_121 0 rfl ?_
      refine wg_gK (pc := 122) hX hM0 fd_X1_119 (by decide) dX1_plot_122 ?_
      refine wg_iload_n (pc := 125) hX dX1_plot_125 2 rfl ?_
      refine wu_ (wg_rG (pc := 126) hX ar_47 (by decide) dX1_plot_126 fun r27 hnr27 => ?_)
      refine wg_iload_n (pc := 127) hX dX1_plot_127 3 rfl ?_
      refine wg_aload_n (pc := 128) hX dX1_plot_128 0 rfl ?_
      refine wg_gK (pc := 129) hX hM0 fd_X1_24 (by decide) dX1_plot_129 ?_
      refine wg_iload_n (pc := 132) hX dX1_plot_132 3 rfl ?_
      refine wg_aload_n (pc := 133) hX dX1_plot_133 0 rfl ?_
      refine wu_ (wg_gI (pc := 134) hX fd_X1_781 dX1_plot_134 fun v28 => ?_)
      refine wu_jx (α := Int32) (pcJ := 158) (lJ := fun x => [(0, .ref (rid 0 1)), (1, .int a1), (2, .int x13), (3, .int x23)]) (sJ := fun x => [.int x, .ref (rid 23 1), .int x23, .ref (rid 46 r27)]) (fun K29 hk29 => ?_) (fun z29 => ?_)
      · refine wg_icmp_ne (pc := 137) (tgt := 144) hX dX1_plot_137 (by decide) (fun h30 => ?_) (fun h30 => ?_)
        · refine wu_t h30 ?_
          refine wg_iload_n (pc := 140) hX dX1_plot_140 1 rfl ?_
          refine wg_goto (pc := 141) (tgt := 158) hX dX1_plot_141 (by decide) ?_
          exact wu_rt (hk29 a1)
        refine wu_f h30 ?_
        refine wg_aload_n (pc := 144) hX dX1_plot_144 0 rfl ?_
        refine wg_gK (pc := 145) hX hM0 fd_X1_30 (by decide) dX1_plot_145 ?_
        refine wg_aload_n (pc := 148) hX dX1_plot_148 0 rfl ?_
        refine wg_gK (pc := 149) hX hM0 fd_X1_105 (by decide) dX1_plot_149 ?_
        refine wg_iload_n (pc := 152) hX dX1_plot_152 3 rfl ?_
        refine wu_ (wg_rI (pc := 153) hX ar_42 dX1_plot_153 fun v31 => ?_)
        refine wu_ (wg_rR (pc := 154) hX ar_24 (by decide) dX1_plot_154 fun r32 => ?_)
        refine wu_ (wg_gI (pc := 155) hX fd_X1_308 dX1_plot_155 fun v33 => ?_)
        exact wu_rt (hk29 v33)
      refine wu_ (wg_rI (pc := 158) hX ar_23 dX1_plot_158 fun v34 => ?_)
      refine wu_ (wg_wI (pc := 159) hX ar_46 dX1_plot_159 ?_)
      refine wg_iinc (pc := 160) (v := (x23 + 1)) (l' := [(0, .ref (rid 0 1)), (1, .int a1), (2, .int x13), (3, .int (x23 + 1))]) hX dX1_plot_160 3 rfl rfl (by decide) rfl ?_
      refine wg_goto (pc := 163) (tgt := 113) hX dX1_plot_163 (by decide) ?_
      exact hrec23 (x23 + 1)
    refine wg_iinc (pc := 166) (v := (x13 + 1)) (l' := [(0, .ref (rid 0 1)), (1, .int a1), (2, .int (x13 + 1))]) hX dX1_plot_166 2 rfl rfl (by decide) rfl ?_
    refine wg_goto (pc := 169) (tgt := 73) hX dX1_plot_169 (by decide) ?_
    exact hrec13 (x13 + 1)
  refine wg_iconst (pc := 172) (v := 0) hX dX1_plot_172 rfl ?_
  refine wg_istore_n (pc := 173) (l' := [(0, .ref (rid 0 1)), (2, .int 0)]) hX dX1_plot_173 (by decide) rfl ?_
  refine wu_lpx (α := Int32) (γ := Unit) (pcl := 174) (pcT := 232) (lo := fun x => [(0, .ref (rid 0 1)), (2, .int x)]) (so := fun _ => []) (lT := fun x => []) (sT := fun _ => []) (n := amFu) (x0 := 0) (fun K35 rec35 hrec35 hk35 x35 => ?_) (fun y36 => ?_)
  · unfold p_X1_plot_L174
    refine wg_iload_n (pc := 174) hX dX1_plot_174 1 rfl ?_
    refine wg_aload_n (pc := 175) hX dX1_plot_175 0 rfl ?_
    refine wu_ (wg_gI (pc := 176) hX fd_X1_781 dX1_plot_176 fun v37 => ?_)
    refine wg_icmp_ge (pc := 179) (tgt := 232) hX dX1_plot_179 (by decide) (fun h38 => ?_) (fun h38 => ?_)
    · refine wu_t h38 ?_
      refine wg_sub hX [] rfl ?_
      exact wu_rt (hk35 ())
    refine wu_f h38 ?_
    refine wg_aload_n (pc := 182) hX dX1_plot_182 0 rfl ?_
    refine wg_gK (pc := 183) hX hM0 fd_X1_108 (by decide) dX1_plot_183 ?_
    refine wg_iload_n (pc := 186) hX dX1_plot_186 1 rfl ?_
    refine wg_bipush (pc := 187) (v := 10) hX dX1_plot_187 rfl ?_
    refine wg_aload_n (pc := 189) hX dX1_plot_189 0 rfl ?_
    refine wg_aload_n (pc := 190) hX dX1_plot_190 0 rfl ?_
    refine wg_gK (pc := 191) hX hM0 fd_X1_105 (by decide) dX1_plot_191 ?_
    refine wg_iload_n (pc := 194) hX dX1_plot_194 1 rfl ?_
    refine wu_ (wg_rI (pc := 195) hX ar_42 dX1_plot_195 fun v39 => ?_)
    refine wg_aload_n (pc := 196) hX dX1_plot_196 0 rfl ?_
    refine wu_ (wg_gI (pc := 197) hX fd_X1_415 dX1_plot_197 fun v40 => ?_)
    refine wg_iconst (pc := 200) (v := (-1)) hX dX1_plot_200 rfl ?_
    refine wu_ (wg_cVi (pc := 201) (As := [.int v39, .int v40, .int (-1)]) (rest := [.int 10, .int x35, .ref (rid 43 1)]) hX (m_X1_failsBy v39 v40 (-1)) (by decide) (by decide) (by decide) rc_X1 (lw_V q1642 q1644 qs72 q159 q1645) hd_X1_failsBy rfl (Nat.le_of_ble_eq_true rfl) (Nat.le_of_ble_eq_true rfl) (Nat.le_of_ble_eq_true rfl) rfl dX1_plot_201 fun v41 => ?_)
    refine wg_imul (pc := 204) hX dX1_plot_204 ?_
    refine wg_bipush (pc := 205) (v := 30) hX dX1_plot_205 rfl ?_
    refine wg_aload_n (pc := 207) hX dX1_plot_207 0 rfl ?_
    refine wg_aload_n (pc := 208) hX dX1_plot_208 0 rfl ?_
    refine wg_gK (pc := 209) hX hM0 fd_X1_105 (by decide) dX1_plot_209 ?_
    refine wg_iload_n (pc := 212) hX dX1_plot_212 1 rfl ?_
    refine wu_ (wg_rI (pc := 213) hX ar_42 dX1_plot_213 fun v42 => ?_)
    refine wg_aload_n (pc := 214) hX dX1_plot_214 0 rfl ?_
    refine wu_ (wg_gI (pc := 215) hX fd_X1_415 dX1_plot_215 fun v43 => ?_)
    refine wu_ (wg_cVi (pc := 218) (As := [.int v42, .int v43]) (rest := [.int 30, .int (10 * v41), .int x35, .ref (rid 43 1)]) hX (m_X1_unlooked v42 v43) (by decide) (by decide) (by decide) rc_X1 (lw_V q1654 q1656 qs75 q159 q1657) hd_X1_unlooked rfl (Nat.le_of_ble_eq_true rfl) (Nat.le_of_ble_eq_true rfl) (Nat.le_of_ble_eq_true rfl) rfl dX1_plot_218 fun v44 => ?_)
    refine wg_mmin (pc := 221) hX q1314 q1149 q165 q1150 (Nat.le_of_ble_eq_true rfl) (Nat.le_of_ble_eq_true rfl) dX1_plot_221 ?_
    refine wu_ (wg_nmi hX fun v45 => ?_)
    refine wg_iadd (pc := 224) hX dX1_plot_224 ?_
    refine wu_ (wg_wI (pc := 225) hX ar_43 dX1_plot_225 ?_)
    refine wg_iinc (pc := 226) (v := (x35 + 1)) (l' := [(0, .ref (rid 0 1)), (2, .int (x35 + 1))]) hX dX1_plot_226 1 rfl rfl (by decide) rfl ?_
    refine wg_goto (pc := 229) (tgt := 174) hX dX1_plot_229 (by decide) ?_
    exact hrec35 (x35 + 1)
  exact wu_rt (wg_vret (pc := 232) hX rfl rfl dX1_plot_232)
theorem w_X1_go (d : Nat) (s_X1_go : Int32 → Int32 → Int32 → Int32 → Int32 → am0 Unit) (hm_X1_go : ∀ (a1 : Int32) (a2 : Int32) (a3 : Int32) (a4 : Int32) (a5 : Int32), amMet yX1_go cX1_go 9 none (1 + d) (64 + d * 28) encV [.ref (rid 0 1), .int a1, .int a2, .int a3, .int a4, .int a5] (up (s_X1_go a1 a2 a3 a4 a5))) (a1 : Int32) (a2 : Int32) (a3 : Int32) (a4 : Int32) (a5 : Int32) : amMet yX1_go cX1_go 9 none (1 + (d + 1)) (64 + (d + 1) * 28) encV [.ref (rid 0 1), .int a1, .int a2, .int a3, .int a4, .int a5] (up (b_X1_go s_X1_go a1 a2 a3 a4 a5)) := by
  refine amMet.of (own := RX1) (by decide) rfl (Nat.le_of_ble_eq_true rfl) fun X hX hPs => ?_
  change WG X encV 0 [(0, .ref (rid 0 1)), (1, .int a1), (2, .int a2), (3, .int a3), (4, .int a4), (5, .int a5)] [] (bd1 (up (b_X1_go s_X1_go a1 a2 a3 a4 a5)) rt1)
  unfold b_X1_go
  have hM0 := amPs.m0 hPs
  refine wu_ (wg_gM ?_)
  refine wg_iload_n (pc := 0) hX dX1_go_0 3 rfl ?_
  refine wg_aload_n (pc := 1) hX dX1_go_1 0 rfl ?_
  refine wg_gK (pc := 2) hX hM0 fd_X1_119 (by decide) dX1_go_2 ?_
  refine wg_iload_n (pc := 5) hX dX1_go_5 1 rfl ?_
  refine wu_ (wg_rG (pc := 6) hX ar_47 (by decide) dX1_go_6 fun r1 hnr1 => ?_)
  refine wg_aload_n (pc := 7) hX dX1_go_7 0 rfl ?_
  refine wu_ (wg_gI (pc := 8) hX fd_X1_781 dX1_go_8 fun v2 => ?_)
  refine wu_ (wg_rI (pc := 11) hX ar_46 dX1_go_11 fun v3 => ?_)
  refine wg_iadd (pc := 12) hX dX1_go_12 ?_
  refine wu_ (wg_nmi hX fun v4 => ?_)
  refine wg_istore (pc := 13) (l' := [(0, .ref (rid 0 1)), (1, .int a1), (2, .int a2), (3, .int a3), (4, .int a4), (5, .int a5), (6, .int v4)]) hX dX1_go_13 (by decide) rfl ?_
  refine wg_iload (pc := 15) hX dX1_go_15 6 rfl ?_
  refine wg_iload (pc := 17) hX dX1_go_17 5 rfl ?_
  refine wu_jx (α := Unit) (pcJ := 86) (lJ := fun x => [(0, .ref (rid 0 1)), (1, .int a1), (2, .int a2), (3, .int a3), (4, .int a4), (5, .int a5)]) (sJ := fun x => []) (fun K5 hk5 => ?_) (fun z5 => ?_)
  · refine wg_icmp_gt (pc := 19) (tgt := 86) hX dX1_go_19 (by decide) (fun h6 => ?_) (fun h6 => ?_)
    · refine wu_t h6 ?_
      refine wg_sub hX [0, 1, 2, 3, 4, 5] rfl ?_
      exact wu_rt (hk5 ())
    refine wu_f h6 ?_
    refine wg_iload (pc := 22) hX dX1_go_22 4 rfl ?_
    refine wg_aload_n (pc := 24) hX dX1_go_24 0 rfl ?_
    refine wu_ (wg_gI (pc := 25) hX fd_X1_784 dX1_go_25 fun v7 => ?_)
    refine wu_jn (α := Unit) (pcJ := 49) (lJ := fun x => [(0, .ref (rid 0 1)), (1, .int a1), (2, .int a2), (3, .int a3), (4, .int a4), (5, .int a5), (6, .int v4)]) (sJ := fun x => []) (fun k8 hk8 => ?_) (fun z8 => ?_)
    · refine wg_icmp_gt (pc := 28) (tgt := 49) hX dX1_go_28 (by decide) (fun h9 => ?_) (fun h9 => ?_)
      · refine wu_t h9 ?_
        exact hk8 ()
      refine wu_f h9 ?_
      refine wg_iload (pc := 31) hX dX1_go_31 4 rfl ?_
      refine wg_aload_n (pc := 33) hX dX1_go_33 0 rfl ?_
      refine wu_ (wg_gI (pc := 34) hX fd_X1_784 dX1_go_34 fun v10 => ?_)
      refine wg_icmp_ne (pc := 37) (tgt := 86) hX dX1_go_37 (by decide) (fun h11 => ?_) (fun h11 => ?_)
      rotate_left
      · refine wu_f h11 ?_
        refine wg_sub hX [0, 1, 2, 3, 4, 5] rfl ?_
        exact wu_rt (hk5 ())
      refine wu_t h11 ?_
      refine wg_iload (pc := 40) hX dX1_go_40 6 rfl ?_
      refine wg_aload_n (pc := 42) hX dX1_go_42 0 rfl ?_
      refine wu_ (wg_gI (pc := 43) hX fd_X1_787 dX1_go_43 fun v12 => ?_)
      refine wg_icmp_ge (pc := 46) (tgt := 86) hX dX1_go_46 (by decide) (fun h13 => ?_) (fun h13 => ?_)
      · refine wu_t h13 ?_
        refine wg_sub hX [0, 1, 2, 3, 4, 5] rfl ?_
        exact wu_rt (hk5 ())
      refine wu_f h13 ?_
      exact hk8 ()
    refine wg_aload_n (pc := 49) hX dX1_go_49 0 rfl ?_
    refine wg_iload (pc := 50) hX dX1_go_50 4 rfl ?_
    refine wu_ (wg_pI (pc := 52) hX fp_X1_784 (fun h => by cases h) dX1_go_52 ?_)
    refine wg_aload_n (pc := 55) hX dX1_go_55 0 rfl ?_
    refine wg_iload (pc := 56) hX dX1_go_56 6 rfl ?_
    refine wu_ (wg_pI (pc := 58) hX fp_X1_787 (fun h => by cases h) dX1_go_58 ?_)
    refine wg_aload_n (pc := 61) hX dX1_go_61 0 rfl ?_
    refine wg_aload_n (pc := 62) hX dX1_go_62 0 rfl ?_
    refine wu_ (wg_gI (pc := 63) hX fd_X1_790 dX1_go_63 fun v14 => ?_)
    refine wu_ (wg_pI (pc := 66) hX fp_X1_793 (fun h => by cases h) dX1_go_66 ?_)
    refine wg_aload_n (pc := 69) hX dX1_go_69 0 rfl ?_
    refine wg_gK (pc := 70) hX hM0 fd_X1_111 (by decide) dX1_go_70 ?_
    refine wg_iconst (pc := 73) (v := 0) hX dX1_go_73 rfl ?_
    refine wg_aload_n (pc := 74) hX dX1_go_74 0 rfl ?_
    refine wg_gK (pc := 75) hX hM0 fd_X1_114 (by decide) dX1_go_75 ?_
    refine wg_iconst (pc := 78) (v := 0) hX dX1_go_78 rfl ?_
    refine wg_aload_n (pc := 79) hX dX1_go_79 0 rfl ?_
    refine wu_ (wg_gI (pc := 80) hX fd_X1_790 dX1_go_80 fun v15 => ?_)
    refine wu_ (wg_cpI (pc := 83) hX ar_44 ar_45 rfl okI_ok q1682 q1684 q1683 q192 (by omega) (Nat.le_trans (Nat.le_of_ble_eq_true rfl : _ ≤ 60) (by omega)) dX1_go_83 ?_)
    refine wg_sub hX [0, 1, 2, 3, 4, 5] rfl ?_
    exact wu_rt (hk5 ())
  refine wg_iconst (pc := 86) (v := 0) hX dX1_go_86 rfl ?_
  refine wg_istore (pc := 87) (l' := [(0, .ref (rid 0 1)), (1, .int a1), (2, .int a2), (3, .int a3), (4, .int a4), (5, .int a5), (7, .int 0)]) hX dX1_go_87 (by decide) rfl ?_
  refine wu_lpx (α := Int32) (γ := Unit) (pcl := 89) (pcT := 197) (lo := fun x => [(0, .ref (rid 0 1)), (1, .int a1), (2, .int a2), (3, .int a3), (4, .int a4), (5, .int a5), (7, .int x)]) (so := fun _ => []) (lT := fun x => []) (sT := fun _ => []) (n := amFu) (x0 := 0) (fun K16 rec16 hrec16 hk16 x16 => ?_) (fun y17 => ?_)
  · unfold p_X1_go_L89
    refine wg_iload (pc := 89) hX dX1_go_89 6 rfl ?_
    refine wg_aload_n (pc := 91) hX dX1_go_91 0 rfl ?_
    refine wu_ (wg_gI (pc := 92) hX fd_X1_781 dX1_go_92 fun v18 => ?_)
    refine wg_icmp_ge (pc := 95) (tgt := 197) hX dX1_go_95 (by decide) (fun h19 => ?_) (fun h19 => ?_)
    · refine wu_t h19 ?_
      refine wg_sub hX [] rfl ?_
      exact wu_rt (hk16 ())
    refine wu_f h19 ?_
    refine wg_iload_n (pc := 98) hX dX1_go_98 3 rfl ?_
    refine wg_aload_n (pc := 99) hX dX1_go_99 0 rfl ?_
    refine wg_gK (pc := 100) hX hM0 fd_X1_119 (by decide) dX1_go_100 ?_
    refine wg_iload_n (pc := 103) hX dX1_go_103 1 rfl ?_
    refine wu_ (wg_rG (pc := 104) hX ar_47 (by decide) dX1_go_104 fun r20 hnr20 => ?_)
    refine wg_iload (pc := 105) hX dX1_go_105 6 rfl ?_
    refine wu_ (wg_rI (pc := 107) hX ar_46 dX1_go_107 fun v21 => ?_)
    refine wg_iadd (pc := 108) hX dX1_go_108 ?_
    refine wg_bipush (pc := 109) (v := 10) hX dX1_go_109 rfl ?_
    refine wg_iadd (pc := 111) hX dX1_go_111 ?_
    refine wu_ (wg_nmi hX fun v22 => ?_)
    refine wg_istore (pc := 112) (l' := [(0, .ref (rid 0 1)), (1, .int a1), (2, .int a2), (3, .int a3), (4, .int a4), (5, .int a5), (7, .int x16), (8, .int v22)]) hX dX1_go_112 (by decide) rfl ?_
    refine wg_iload_n (pc := 114) hX dX1_go_114 2 rfl ?_
    refine wg_iload (pc := 115) hX dX1_go_115 6 rfl ?_
    refine wg_ishr (pc := 117) hX dX1_go_117 ?_
    refine wg_iconst (pc := 118) (v := 1) hX dX1_go_118 rfl ?_
    refine wg_iand (pc := 119) hX dX1_go_119 ?_
    refine wg_iconst (pc := 120) (v := 1) hX dX1_go_120 rfl ?_
    refine wu_jx (α := Unit) (pcJ := 191) (lJ := fun x => [(0, .ref (rid 0 1)), (1, .int a1), (2, .int a2), (3, .int a3), (4, .int a4), (5, .int a5), (7, .int x16)]) (sJ := fun x => []) (fun K23 hk23 => ?_) (fun z23 => ?_)
    · refine wg_icmp_eq (pc := 121) (tgt := 191) hX dX1_go_121 (by decide) (fun h24 => ?_) (fun h24 => ?_)
      · refine wu_t h24 ?_
        refine wg_sub hX [0, 1, 2, 3, 4, 5, 6] rfl ?_
        exact wu_rt (hk23 ())
      refine wu_f h24 ?_
      refine wg_iload (pc := 124) hX dX1_go_124 7 rfl ?_
      refine wg_iload (pc := 126) hX dX1_go_126 5 rfl ?_
      refine wg_icmp_le (pc := 128) (tgt := 134) hX dX1_go_128 (by decide) (fun h25 => ?_) (fun h25 => ?_)
      rotate_left
      · refine wu_f h25 ?_
        refine wg_goto (pc := 131) (tgt := 191) hX dX1_go_131 (by decide) ?_
        refine wg_sub hX [0, 1, 2, 3, 4, 5, 6] rfl ?_
        exact wu_rt (hk23 ())
      refine wu_t h25 ?_
      refine wg_aload_n (pc := 134) hX dX1_go_134 0 rfl ?_
      refine wg_gK (pc := 135) hX hM0 fd_X1_111 (by decide) dX1_go_135 ?_
      refine wg_aload_n (pc := 138) hX dX1_go_138 0 rfl ?_
      refine wu_ (wg_gI (pc := 139) hX fd_X1_790 dX1_go_139 fun v26 => ?_)
      refine wg_iload (pc := 142) hX dX1_go_142 6 rfl ?_
      refine wu_ (wg_wI (pc := 144) hX ar_44 dX1_go_144 ?_)
      refine wg_aload_n (pc := 145) hX dX1_go_145 0 rfl ?_
      refine wg_dup (pc := 146) hX dX1_go_146 rfl ?_
      refine wu_ (wg_gI (pc := 147) hX fd_X1_790 dX1_go_147 fun v27 => ?_)
      refine wg_iconst (pc := 150) (v := 1) hX dX1_go_150 rfl ?_
      refine wg_iadd (pc := 151) hX dX1_go_151 ?_
      refine wu_ (wg_pI (pc := 152) hX fp_X1_790 (fun h => by cases h) dX1_go_152 ?_)
      refine wg_aload_n (pc := 155) hX dX1_go_155 0 rfl ?_
      refine wg_iload (pc := 156) hX dX1_go_156 6 rfl ?_
      refine wg_iload_n (pc := 158) hX dX1_go_158 2 rfl ?_
      refine wg_iconst (pc := 159) (v := 1) hX dX1_go_159 rfl ?_
      refine wg_iload (pc := 160) hX dX1_go_160 6 rfl ?_
      refine wg_ishl (pc := 162) hX dX1_go_162 ?_
      refine wg_ior (pc := 163) hX dX1_go_163 ?_
      refine wg_iload (pc := 164) hX dX1_go_164 7 rfl ?_
      refine wg_iload (pc := 166) hX dX1_go_166 4 rfl ?_
      refine wg_aload_n (pc := 168) hX dX1_go_168 0 rfl ?_
      refine wg_gK (pc := 169) hX hM0 fd_X1_108 (by decide) dX1_go_169 ?_
      refine wg_iload (pc := 172) hX dX1_go_172 6 rfl ?_
      refine wu_ (wg_rI (pc := 174) hX ar_43 dX1_go_174 fun v28 => ?_)
      refine wg_iadd (pc := 175) hX dX1_go_175 ?_
      refine wg_iload (pc := 176) hX dX1_go_176 5 rfl ?_
      refine wu_ (wg_cVv (pc := 178) (As := [.int x16, .int (a2 ||| ((1 : Int32) <<< (x16 &&& 31))), .int v22, .int (a4 + v28), .int a5]) (rest := []) hX (hm_X1_go x16 (a2 ||| ((1 : Int32) <<< (x16 &&& 31))) v22 (a4 + v28) a5) (by decide) (by decide) (by decide) rc_X1 (lw_V q1678 q1680 qs78 q159 q1681) hd_X1_go rfl (by omega) (by omega) (Nat.le_of_ble_eq_true rfl) rfl dX1_go_178 ?_)
      refine wg_aload_n (pc := 181) hX dX1_go_181 0 rfl ?_
      refine wg_dup (pc := 182) hX dX1_go_182 rfl ?_
      refine wu_ (wg_gI (pc := 183) hX fd_X1_790 dX1_go_183 fun v29 => ?_)
      refine wg_iconst (pc := 186) (v := 1) hX dX1_go_186 rfl ?_
      refine wg_isub (pc := 187) hX dX1_go_187 ?_
      refine wu_ (wg_pI (pc := 188) hX fp_X1_790 (fun h => by cases h) dX1_go_188 ?_)
      refine wg_sub hX [0, 1, 2, 3, 4, 5, 6] rfl ?_
      exact wu_rt (hk23 ())
    refine wg_iinc (pc := 191) (v := (x16 + 1)) (l' := [(0, .ref (rid 0 1)), (1, .int a1), (2, .int a2), (3, .int a3), (4, .int a4), (5, .int a5), (7, .int (x16 + 1))]) hX dX1_go_191 6 rfl rfl (by decide) rfl ?_
    refine wg_goto (pc := 194) (tgt := 89) hX dX1_go_194 (by decide) ?_
    exact hrec16 (x16 + 1)
  exact wu_rt (wg_vret (pc := 197) hX rfl rfl dX1_go_197)
theorem gm_X1_go : ∀ d : Nat, (∀ (a1 : Int32) (a2 : Int32) (a3 : Int32) (a4 : Int32) (a5 : Int32), amMet yX1_go cX1_go 9 none (1 + d) (64 + d * 28) encV [.ref (rid 0 1), .int a1, .int a2, .int a3, .int a4, .int a5] (up ((p_X1_go d) a1 a2 a3 a4 a5)))
  | 0 => fun _ _ _ _ _ => amMet.none (fun _ _ => rfl)
  | d + 1 => by
    have h0 := gm_X1_go d
    exact w_X1_go d (p_X1_go d) h0
theorem m_X1_go (a1 : Int32) (a2 : Int32) (a3 : Int32) (a4 : Int32) (a5 : Int32) : amMet yX1_go cX1_go 9 none 17 512 encV [.ref (rid 0 1), .int a1, .int a2, .int a3, .int a4, .int a5] (up (p_X1_go 16 a1 a2 a3 a4 a5)) := (gm_X1_go 16) a1 a2 a3 a4 a5
theorem m_X1_findRound (a1 : Int32) (a2 : Int32) : amMet yX1_findRound cX1_findRound 3 (some .boolean) 519 12472 encI [.ref (rid 0 1), .int a1, .int a2] (up (p_X1_findRound a1 a2)) := by
  refine amMet.of (own := RX1) (by decide) rfl (Nat.le_of_ble_eq_true rfl) fun X hX hPs => ?_
  change WG X encI 0 [(0, .ref (rid 0 1)), (1, .int a1), (2, .int a2)] [] (bd1 (up (p_X1_findRound a1 a2)) rt1)
  unfold p_X1_findRound
  refine wg_iload_n (pc := 0) hX dX1_findRound_0 1 rfl ?_
  refine wu_ (wg_cSi (pc := 1) (As := [.int a1]) (rest := []) hX (m_X1_isCorner a1) (lw_S q468 q469 q159 q470) hd_X1_isCorner rfl (Nat.le_of_ble_eq_true rfl) (Nat.le_of_ble_eq_true rfl) (Nat.le_of_ble_eq_true rfl) rfl dX1_findRound_1 fun v1 => ?_)
  refine wg_if_eq (pc := 4) (tgt := 18) hX dX1_findRound_4 (by decide) (fun h2 => ?_) (fun h2 => ?_)
  · refine wu_t h2 ?_
    refine wg_iconst (pc := 18) (v := 0) hX dX1_findRound_18 rfl ?_
    exact wu_rt (wg_zret (pc := 19) hX rfl (by decide) rfl dX1_findRound_19)
  refine wu_f h2 ?_
  refine wg_iload_n (pc := 7) hX dX1_findRound_7 2 rfl ?_
  refine wg_iconst (pc := 8) (v := 0) hX dX1_findRound_8 rfl ?_
  refine wg_sipush (pc := 9) (v := 500) hX dX1_findRound_9 rfl ?_
  refine wu_ (wg_cSi (pc := 12) (As := [.int a2, .int 0, .int 500]) (rest := []) hX (m_X1_in a2 0 500) (lw_S q471 q472 q159 q473) hd_X1_in rfl (Nat.le_of_ble_eq_true rfl) (Nat.le_of_ble_eq_true rfl) (Nat.le_of_ble_eq_true rfl) rfl dX1_findRound_12 fun v3 => ?_)
  refine wg_if_ne (pc := 15) (tgt := 20) hX dX1_findRound_15 (by decide) (fun h4 => ?_) (fun h4 => ?_)
  · refine wu_t h4 ?_
    refine wg_iconst (pc := 18) (v := 0) hX dX1_findRound_18 rfl ?_
    exact wu_rt (wg_zret (pc := 19) hX rfl (by decide) rfl dX1_findRound_19)
  refine wu_f h4 ?_
  refine wg_aload_n (pc := 20) hX dX1_findRound_20 0 rfl ?_
  refine wg_iload_n (pc := 21) hX dX1_findRound_21 1 rfl ?_
  refine wu_ (wg_cVv (pc := 22) (As := [.int a1]) (rest := []) hX (m_X1_plot a1) (by decide) (by decide) (by decide) rc_X1 (lw_V q1674 q1676 qs77 q159 q1677) hd_X1_plot rfl (Nat.le_of_ble_eq_true rfl) (Nat.le_of_ble_eq_true rfl) (Nat.le_of_ble_eq_true rfl) rfl dX1_findRound_22 ?_)
  refine wg_aload_n (pc := 25) hX dX1_findRound_25 0 rfl ?_
  refine wg_iconst (pc := 26) (v := 0) hX dX1_findRound_26 rfl ?_
  refine wu_ (wg_pI (pc := 27) hX fp_X1_790 (fun h => by cases h) dX1_findRound_27 ?_)
  refine wg_aload_n (pc := 30) hX dX1_findRound_30 0 rfl ?_
  refine wg_iconst (pc := 31) (v := 0) hX dX1_findRound_31 rfl ?_
  refine wu_ (wg_pI (pc := 32) hX fp_X1_793 (fun h => by cases h) dX1_findRound_32 ?_)
  refine wg_aload_n (pc := 35) hX dX1_findRound_35 0 rfl ?_
  refine wg_iconst (pc := 36) (v := 0) hX dX1_findRound_36 rfl ?_
  refine wu_ (wg_pI (pc := 37) hX fp_X1_784 (fun h => by cases h) dX1_findRound_37 ?_)
  refine wg_aload_n (pc := 40) hX dX1_findRound_40 0 rfl ?_
  refine wg_iconst (pc := 41) (v := 0) hX dX1_findRound_41 rfl ?_
  refine wu_ (wg_pI (pc := 42) hX fp_X1_787 (fun h => by cases h) dX1_findRound_42 ?_)
  refine wg_aload_n (pc := 45) hX dX1_findRound_45 0 rfl ?_
  refine wg_aload_n (pc := 46) hX dX1_findRound_46 0 rfl ?_
  refine wu_ (wg_gI (pc := 47) hX fd_X1_781 dX1_findRound_47 fun v5 => ?_)
  refine wg_iconst (pc := 50) (v := 0) hX dX1_findRound_50 rfl ?_
  refine wg_iconst (pc := 51) (v := 0) hX dX1_findRound_51 rfl ?_
  refine wg_iconst (pc := 52) (v := 0) hX dX1_findRound_52 rfl ?_
  refine wg_iload_n (pc := 53) hX dX1_findRound_53 2 rfl ?_
  refine wu_ (wg_cVv (pc := 54) (As := [.int v5, .int 0, .int 0, .int 0, .int a2]) (rest := []) hX (m_X1_go v5 0 0 0 a2) (by decide) (by decide) (by decide) rc_X1 (lw_V q1678 q1680 qs78 q159 q1681) hd_X1_go rfl (Nat.le_of_ble_eq_true rfl) (Nat.le_of_ble_eq_true rfl) (Nat.le_of_ble_eq_true rfl) rfl dX1_findRound_54 ?_)
  refine wg_iconst (pc := 57) (v := 1) hX dX1_findRound_57 rfl ?_
  exact wu_rt (wg_zret (pc := 58) hX rfl (by decide) rfl dX1_findRound_58)
theorem m_X1_round (a1 : Int32) (a2 : Int32) (a3 : Int32) : amMet yX1_round cX1_round 4 (some .int) 520 12494 encI [.ref (rid 0 1), .int a1, .int a2, .int a3] (up (p_X1_round a1 a2 a3)) := by
  refine amMet.of (own := RX1) (by decide) rfl (Nat.le_of_ble_eq_true rfl) fun X hX hPs => ?_
  change WG X encI 0 [(0, .ref (rid 0 1)), (1, .int a1), (2, .int a2), (3, .int a3)] [] (bd1 (up (p_X1_round a1 a2 a3)) rt1)
  unfold p_X1_round
  refine wg_iload_n (pc := 0) hX dX1_round_0 3 rfl ?_
  refine wg_iconst (pc := 1) (v := 0) hX dX1_round_1 rfl ?_
  refine wg_iconst (pc := 2) (v := 2) hX dX1_round_2 rfl ?_
  refine wu_ (wg_cSi (pc := 3) (As := [.int a3, .int 0, .int 2]) (rest := []) hX (m_X1_in a3 0 2) (lw_S q471 q472 q159 q473) hd_X1_in rfl (Nat.le_of_ble_eq_true rfl) (Nat.le_of_ble_eq_true rfl) (Nat.le_of_ble_eq_true rfl) rfl dX1_round_3 fun v1 => ?_)
  refine wg_if_eq (pc := 6) (tgt := 18) hX dX1_round_6 (by decide) (fun h2 => ?_) (fun h2 => ?_)
  · refine wu_t h2 ?_
    refine wg_iconst (pc := 18) (v := (-1)) hX dX1_round_18 rfl ?_
    exact wu_rt (wg_iret (pc := 19) hX rfl rfl dX1_round_19)
  refine wu_f h2 ?_
  refine wg_aload_n (pc := 9) hX dX1_round_9 0 rfl ?_
  refine wg_iload_n (pc := 10) hX dX1_round_10 1 rfl ?_
  refine wg_iload_n (pc := 11) hX dX1_round_11 2 rfl ?_
  refine wu_ (wg_cVi (pc := 12) (As := [.int a1, .int a2]) (rest := []) hX (m_X1_findRound a1 a2) (by decide) (by decide) (by decide) rc_X1 (lw_V q1670 q1672 qs76 q159 q1673) hd_X1_findRound rfl (Nat.le_of_ble_eq_true rfl) (Nat.le_of_ble_eq_true rfl) (Nat.le_of_ble_eq_true rfl) rfl dX1_round_12 fun v3 => ?_)
  refine wg_if_ne (pc := 15) (tgt := 20) hX dX1_round_15 (by decide) (fun h4 => ?_) (fun h4 => ?_)
  · refine wu_t h4 ?_
    refine wg_iconst (pc := 18) (v := (-1)) hX dX1_round_18 rfl ?_
    exact wu_rt (wg_iret (pc := 19) hX rfl rfl dX1_round_19)
  refine wu_f h4 ?_
  refine wg_iload_n (pc := 20) hX dX1_round_20 3 rfl ?_
  refine wg_if_ne (pc := 21) (tgt := 31) hX dX1_round_21 (by decide) (fun h5 => ?_) (fun h5 => ?_)
  · refine wu_t h5 ?_
    refine wg_aload_n (pc := 24) hX dX1_round_24 0 rfl ?_
    refine wu_ (wg_gI (pc := 25) hX fd_X1_784 dX1_round_25 fun v6 => ?_)
    refine wg_goto (pc := 28) (tgt := 47) hX dX1_round_28 (by decide) ?_
    exact wu_rt (wg_iret (pc := 47) hX rfl rfl dX1_round_47)
  refine wu_f h5 ?_
  refine wg_iload_n (pc := 31) hX dX1_round_31 3 rfl ?_
  refine wg_iconst (pc := 32) (v := 1) hX dX1_round_32 rfl ?_
  refine wg_icmp_ne (pc := 33) (tgt := 43) hX dX1_round_33 (by decide) (fun h7 => ?_) (fun h7 => ?_)
  rotate_left
  · refine wu_f h7 ?_
    refine wg_aload_n (pc := 43) hX dX1_round_43 0 rfl ?_
    refine wu_ (wg_gI (pc := 44) hX fd_X1_793 dX1_round_44 fun v8 => ?_)
    exact wu_rt (wg_iret (pc := 47) hX rfl rfl dX1_round_47)
  refine wu_t h7 ?_
  refine wg_aload_n (pc := 36) hX dX1_round_36 0 rfl ?_
  refine wu_ (wg_gI (pc := 37) hX fd_X1_787 dX1_round_37 fun v9 => ?_)
  refine wg_goto (pc := 40) (tgt := 47) hX dX1_round_40 (by decide) ?_
  exact wu_rt (wg_iret (pc := 47) hX rfl rfl dX1_round_47)
theorem m_X1_rounded (a1 : Int32) (a2 : Int32) (a3 : Int32) : amMet yX1_rounded cX1_rounded 4 (some .int) 520 12494 encI [.ref (rid 0 1), .int a1, .int a2, .int a3] (up (p_X1_rounded a1 a2 a3)) := by
  refine amMet.of (own := RX1) (by decide) rfl (Nat.le_of_ble_eq_true rfl) fun X hX hPs => ?_
  change WG X encI 0 [(0, .ref (rid 0 1)), (1, .int a1), (2, .int a2), (3, .int a3)] [] (bd1 (up (p_X1_rounded a1 a2 a3)) rt1)
  unfold p_X1_rounded
  have hM0 := amPs.m0 hPs
  refine wu_ (wg_gM ?_)
  refine wg_aload_n (pc := 0) hX dX1_rounded_0 0 rfl ?_
  refine wg_iload_n (pc := 1) hX dX1_rounded_1 1 rfl ?_
  refine wg_iload_n (pc := 2) hX dX1_rounded_2 2 rfl ?_
  refine wu_ (wg_cVi (pc := 3) (As := [.int a1, .int a2]) (rest := []) hX (m_X1_findRound a1 a2) (by decide) (by decide) (by decide) rc_X1 (lw_V q1670 q1672 qs76 q159 q1673) hd_X1_findRound rfl (Nat.le_of_ble_eq_true rfl) (Nat.le_of_ble_eq_true rfl) (Nat.le_of_ble_eq_true rfl) rfl dX1_rounded_3 fun v1 => ?_)
  refine wu_jn (α := Unit) (pcJ := 37) (lJ := fun x => []) (sJ := fun x => []) (fun k2 hk2 => ?_) (fun z2 => ?_)
  · refine wg_if_eq (pc := 6) (tgt := 37) hX dX1_rounded_6 (by decide) (fun h3 => ?_) (fun h3 => ?_)
    · refine wu_t h3 ?_
      refine wg_sub hX [] rfl ?_
      exact hk2 ()
    refine wu_f h3 ?_
    refine wg_iload_n (pc := 9) hX dX1_rounded_9 3 rfl ?_
    refine wg_iconst (pc := 10) (v := 0) hX dX1_rounded_10 rfl ?_
    refine wg_aload_n (pc := 11) hX dX1_rounded_11 0 rfl ?_
    refine wu_ (wg_gI (pc := 12) hX fd_X1_793 dX1_rounded_12 fun v4 => ?_)
    refine wg_iconst (pc := 15) (v := 1) hX dX1_rounded_15 rfl ?_
    refine wg_isub (pc := 16) hX dX1_rounded_16 ?_
    refine wu_ (wg_cSi (pc := 17) (As := [.int a3, .int 0, .int (v4 - 1)]) (rest := []) hX (m_X1_in a3 0 (v4 - 1)) (lw_S q471 q472 q159 q473) hd_X1_in rfl (Nat.le_of_ble_eq_true rfl) (Nat.le_of_ble_eq_true rfl) (Nat.le_of_ble_eq_true rfl) rfl dX1_rounded_17 fun v5 => ?_)
    refine wg_if_eq (pc := 20) (tgt := 37) hX dX1_rounded_20 (by decide) (fun h6 => ?_) (fun h6 => ?_)
    · refine wu_t h6 ?_
      refine wg_sub hX [] rfl ?_
      exact hk2 ()
    refine wu_f h6 ?_
    refine wg_aload_n (pc := 23) hX dX1_rounded_23 0 rfl ?_
    refine wg_gK (pc := 24) hX hM0 fd_X1_105 (by decide) dX1_rounded_24 ?_
    refine wg_aload_n (pc := 27) hX dX1_rounded_27 0 rfl ?_
    refine wg_gK (pc := 28) hX hM0 fd_X1_114 (by decide) dX1_rounded_28 ?_
    refine wg_iload_n (pc := 31) hX dX1_rounded_31 3 rfl ?_
    refine wu_ (wg_rI (pc := 32) hX ar_45 dX1_rounded_32 fun v7 => ?_)
    refine wu_ (wg_rI (pc := 33) hX ar_42 dX1_rounded_33 fun v8 => ?_)
    refine wg_goto (pc := 34) (tgt := 38) hX dX1_rounded_34 (by decide) ?_
    exact wu_rt (wg_iret (pc := 38) hX rfl rfl dX1_rounded_38)
  refine wg_iconst (pc := 37) (v := (-1)) hX dX1_rounded_37 rfl ?_
  exact wu_rt (wg_iret (pc := 38) hX rfl rfl dX1_rounded_38)
theorem m_X1_survey  : amMet yX1_survey cX1_survey 2 none 2 64 encV [.ref (rid 0 1)] (up (p_X1_survey)) := by
  refine amMet.of (own := RX1) (by decide) rfl (Nat.le_of_ble_eq_true rfl) fun X hX hPs => ?_
  change WG X encV 0 [(0, .ref (rid 0 1))] [] (bd1 (up (p_X1_survey)) rt1)
  unfold p_X1_survey
  have hM0 := amPs.m0 hPs
  refine wu_ (wg_gM ?_)
  refine wg_iconst (pc := 0) (v := 0) hX dX1_survey_0 rfl ?_
  refine wg_istore_n (pc := 1) (l' := [(0, .ref (rid 0 1)), (1, .int 0)]) hX dX1_survey_1 (by decide) rfl ?_
  refine wu_lpx (α := Int32) (γ := Unit) (pcl := 2) (pcT := 43) (lo := fun x => [(0, .ref (rid 0 1)), (1, .int x)]) (so := fun _ => []) (lT := fun x => [(0, .ref (rid 0 1))]) (sT := fun _ => []) (n := amFu) (x0 := 0) (fun K1 rec1 hrec1 hk1 x1 => ?_) (fun y2 => ?_)
  · unfold p_X1_survey_L2
    refine wg_iload_n (pc := 2) hX dX1_survey_2 1 rfl ?_
    refine wg_bipush (pc := 3) (v := 20) hX dX1_survey_3 rfl ?_
    refine wg_icmp_ge (pc := 5) (tgt := 43) hX dX1_survey_5 (by decide) (fun h3 => ?_) (fun h3 => ?_)
    · refine wu_t h3 ?_
      refine wg_sub hX [0] rfl ?_
      exact wu_rt (hk1 ())
    refine wu_f h3 ?_
    refine wg_aload_n (pc := 8) hX dX1_survey_8 0 rfl ?_
    refine wg_iload_n (pc := 9) hX dX1_survey_9 1 rfl ?_
    refine wu_ (wg_cVv (pc := 10) (As := [.int x1]) (rest := []) hX (m_X1_stroll x1) (by decide) (by decide) (by decide) rc_X1 (lw_V q541 q543 qs5 q159 q544) hd_X1_stroll rfl (Nat.le_of_ble_eq_true rfl) (Nat.le_of_ble_eq_true rfl) (Nat.le_of_ble_eq_true rfl) rfl dX1_survey_10 ?_)
    refine wg_aload_n (pc := 13) hX dX1_survey_13 0 rfl ?_
    refine wg_gK (pc := 14) hX hM0 fd_X1_24 (by decide) dX1_survey_14 ?_
    refine wg_iconst (pc := 17) (v := 0) hX dX1_survey_17 rfl ?_
    refine wg_aload_n (pc := 18) hX dX1_survey_18 0 rfl ?_
    refine wg_gK (pc := 19) hX hM0 fd_X1_122 (by decide) dX1_survey_19 ?_
    refine wg_iload_n (pc := 22) hX dX1_survey_22 1 rfl ?_
    refine wu_ (wg_rG (pc := 23) hX ar_49 (by decide) dX1_survey_23 fun r4 hnr4 => ?_)
    refine wg_iconst (pc := 24) (v := 0) hX dX1_survey_24 rfl ?_
    refine wg_bipush (pc := 25) (v := 20) hX dX1_survey_25 rfl ?_
    refine wu_ (wg_cpI (pc := 27) hX ar_23 ar_48 rfl okI_ok q1682 q1684 q1683 q192 (Nat.le_of_ble_eq_true rfl) (Nat.le_of_ble_eq_true rfl) dX1_survey_27 ?_)
    refine wg_aload_n (pc := 30) hX dX1_survey_30 0 rfl ?_
    refine wg_gK (pc := 31) hX hM0 fd_X1_125 (by decide) dX1_survey_31 ?_
    refine wg_iload_n (pc := 34) hX dX1_survey_34 1 rfl ?_
    refine wg_iconst (pc := 35) (v := 0) hX dX1_survey_35 rfl ?_
    refine wu_ (wg_wI (pc := 36) hX ar_50 dX1_survey_36 ?_)
    refine wg_iinc (pc := 37) (v := (x1 + 1)) (l' := [(0, .ref (rid 0 1)), (1, .int (x1 + 1))]) hX dX1_survey_37 1 rfl rfl (by decide) rfl ?_
    refine wg_goto (pc := 40) (tgt := 2) hX dX1_survey_40 (by decide) ?_
    exact hrec1 (x1 + 1)
  refine wg_iconst (pc := 43) (v := 0) hX dX1_survey_43 rfl ?_
  refine wg_istore_n (pc := 44) (l' := [(0, .ref (rid 0 1)), (1, .int 0)]) hX dX1_survey_44 (by decide) rfl ?_
  refine wu_lpx (α := Int32) (γ := Unit) (pcl := 45) (pcT := 77) (lo := fun x => [(0, .ref (rid 0 1)), (1, .int x)]) (so := fun _ => []) (lT := fun x => []) (sT := fun _ => []) (n := amFu) (x0 := 0) (fun K5 rec5 hrec5 hk5 x5 => ?_) (fun y6 => ?_)
  · unfold p_X1_survey_L45
    refine wg_iload_n (pc := 45) hX dX1_survey_45 1 rfl ?_
    refine wg_aload_n (pc := 46) hX dX1_survey_46 0 rfl ?_
    refine wu_ (wg_gI (pc := 47) hX fd_X1_587 dX1_survey_47 fun v7 => ?_)
    refine wg_icmp_ge (pc := 50) (tgt := 77) hX dX1_survey_50 (by decide) (fun h8 => ?_) (fun h8 => ?_)
    · refine wu_t h8 ?_
      refine wg_sub hX [] rfl ?_
      exact wu_rt (hk5 ())
    refine wu_f h8 ?_
    refine wg_aload_n (pc := 53) hX dX1_survey_53 0 rfl ?_
    refine wg_gK (pc := 54) hX hM0 fd_X1_125 (by decide) dX1_survey_54 ?_
    refine wg_aload_n (pc := 57) hX dX1_survey_57 0 rfl ?_
    refine wg_gK (pc := 58) hX hM0 fd_X1_74 (by decide) dX1_survey_58 ?_
    refine wg_iload_n (pc := 61) hX dX1_survey_61 1 rfl ?_
    refine wu_ (wg_rR (pc := 62) hX ar_32 (by decide) dX1_survey_62 fun r9 => ?_)
    refine wu_ (wg_gI (pc := 63) hX fd_X1_590 dX1_survey_63 fun v10 => ?_)
    refine wg_dup2 (pc := 66) hX dX1_survey_66 rfl rfl ?_
    refine wu_ (wg_rI (pc := 67) hX ar_50 dX1_survey_67 fun v11 => ?_)
    refine wg_iconst (pc := 68) (v := 1) hX dX1_survey_68 rfl ?_
    refine wg_iadd (pc := 69) hX dX1_survey_69 ?_
    refine wu_ (wg_wI (pc := 70) hX ar_50 dX1_survey_70 ?_)
    refine wg_iinc (pc := 71) (v := (x5 + 1)) (l' := [(0, .ref (rid 0 1)), (1, .int (x5 + 1))]) hX dX1_survey_71 1 rfl rfl (by decide) rfl ?_
    refine wg_goto (pc := 74) (tgt := 45) hX dX1_survey_74 (by decide) ?_
    exact hrec5 (x5 + 1)
  exact wu_rt (wg_vret (pc := 77) hX rfl rfl dX1_survey_77)
theorem m_X1_points (a1 : Int32) (a2 : Int32) (a3 : Int32) : amMet yX1_points cX1_points 6 (some .int) 1 32 encI [.ref (rid 0 1), .int a1, .int a2, .int a3] (up (p_X1_points a1 a2 a3)) := by
  refine amMet.of (own := RX1) (by decide) rfl (Nat.le_of_ble_eq_true rfl) fun X hX hPs => ?_
  change WG X encI 0 [(0, .ref (rid 0 1)), (1, .int a1), (2, .int a2), (3, .int a3)] [] (bd1 (up (p_X1_points a1 a2 a3)) rt1)
  unfold p_X1_points
  have hM0 := amPs.m0 hPs
  refine wu_ (wg_gM ?_)
  refine wg_iconst (pc := 0) (v := 0) hX dX1_points_0 rfl ?_
  refine wg_istore (pc := 1) (l' := [(0, .ref (rid 0 1)), (1, .int a1), (2, .int a2), (3, .int a3), (4, .int 0)]) hX dX1_points_1 (by decide) rfl ?_
  refine wg_iconst (pc := 3) (v := 0) hX dX1_points_3 rfl ?_
  refine wg_istore (pc := 4) (l' := [(0, .ref (rid 0 1)), (1, .int a1), (2, .int a2), (3, .int a3), (4, .int 0), (5, .int 0)]) hX dX1_points_4 (by decide) rfl ?_
  refine wu_lpx (α := Int32 × Int32) (γ := Int32) (pcl := 6) (pcT := 45) (lo := fun x => [(0, .ref (rid 0 1)), (1, .int a1), (2, .int a2), (3, .int a3), (4, .int x.1), (5, .int x.2)]) (so := fun _ => []) (lT := fun x => [(4, .int x)]) (sT := fun _ => []) (n := amFu) (x0 := (0, 0)) (fun K1 rec1 hrec1 hk1 x1 => ?_) (fun y2 => ?_)
  · unfold p_X1_points_L6
    refine wg_iload (pc := 6) hX dX1_points_6 5 rfl ?_
    refine wg_bipush (pc := 8) (v := 20) hX dX1_points_8 rfl ?_
    refine wg_icmp_ge (pc := 10) (tgt := 45) hX dX1_points_10 (by decide) (fun h3 => ?_) (fun h3 => ?_)
    · refine wu_t h3 ?_
      refine wg_sub hX [4] rfl ?_
      exact wu_rt (hk1 x1.1)
    refine wu_f h3 ?_
    refine wg_iload_n (pc := 13) hX dX1_points_13 2 rfl ?_
    refine wg_iload (pc := 14) hX dX1_points_14 5 rfl ?_
    refine wg_ishr (pc := 16) hX dX1_points_16 ?_
    refine wg_iconst (pc := 17) (v := 1) hX dX1_points_17 rfl ?_
    refine wg_iand (pc := 18) hX dX1_points_18 ?_
    refine wg_iconst (pc := 19) (v := 1) hX dX1_points_19 rfl ?_
    refine wu_jx (α := Int32) (pcJ := 39) (lJ := fun x => [(0, .ref (rid 0 1)), (1, .int a1), (2, .int a2), (3, .int a3), (4, .int x), (5, .int x1.2)]) (sJ := fun x => []) (fun K4 hk4 => ?_) (fun z4 => ?_)
    · refine wg_icmp_ne (pc := 20) (tgt := 39) hX dX1_points_20 (by decide) (fun h5 => ?_) (fun h5 => ?_)
      rotate_left
      · refine wu_f h5 ?_
        exact wu_rt (hk4 x1.1)
      refine wu_t h5 ?_
      refine wg_aload_n (pc := 23) hX dX1_points_23 0 rfl ?_
      refine wg_gK (pc := 24) hX hM0 fd_X1_122 (by decide) dX1_points_24 ?_
      refine wg_iload (pc := 27) hX dX1_points_27 5 rfl ?_
      refine wu_ (wg_rG (pc := 29) hX ar_49 (by decide) dX1_points_29 fun r6 hnr6 => ?_)
      refine wg_iload_n (pc := 30) hX dX1_points_30 1 rfl ?_
      refine wu_ (wg_rI (pc := 31) hX ar_48 dX1_points_31 fun v7 => ?_)
      refine wg_iload_n (pc := 32) hX dX1_points_32 3 rfl ?_
      refine wg_icmp_gt (pc := 33) (tgt := 39) hX dX1_points_33 (by decide) (fun h8 => ?_) (fun h8 => ?_)
      · refine wu_t h8 ?_
        exact wu_rt (hk4 x1.1)
      refine wu_f h8 ?_
      refine wg_iinc (pc := 36) (v := (x1.1 + 1)) (l' := [(0, .ref (rid 0 1)), (1, .int a1), (2, .int a2), (3, .int a3), (4, .int (x1.1 + 1)), (5, .int x1.2)]) hX dX1_points_36 4 rfl rfl (by decide) rfl ?_
      exact wu_rt (hk4 (x1.1 + 1))
    refine wg_iinc (pc := 39) (v := (x1.2 + 1)) (l' := [(0, .ref (rid 0 1)), (1, .int a1), (2, .int a2), (3, .int a3), (4, .int z4), (5, .int (x1.2 + 1))]) hX dX1_points_39 5 rfl rfl (by decide) rfl ?_
    refine wg_goto (pc := 42) (tgt := 6) hX dX1_points_42 (by decide) ?_
    exact hrec1 (z4, (x1.2 + 1))
  refine wg_iload (pc := 45) hX dX1_points_45 0 rfl ?_
  refine wg_if_ne (pc := 47) (tgt := 54) hX dX1_points_47 (by decide) (fun h9 => ?_) (fun h9 => ?_)
  · refine wu_t h9 ?_
    refine wg_iconst (pc := 50) (v := 0) hX dX1_points_50 rfl ?_
    refine wg_goto (pc := 51) (tgt := 65) hX dX1_points_51 (by decide) ?_
    exact wu_rt (wg_iret (pc := 65) hX rfl rfl dX1_points_65)
  refine wu_f h9 ?_
  refine wg_iload (pc := 54) hX dX1_points_54 0 rfl ?_
  refine wg_iconst (pc := 56) (v := 1) hX dX1_points_56 rfl ?_
  refine wg_icmp_ne (pc := 57) (tgt := 64) hX dX1_points_57 (by decide) (fun h10 => ?_) (fun h10 => ?_)
  rotate_left
  · refine wu_f h10 ?_
    refine wg_iconst (pc := 64) (v := 3) hX dX1_points_64 rfl ?_
    exact wu_rt (wg_iret (pc := 65) hX rfl rfl dX1_points_65)
  refine wu_t h10 ?_
  refine wg_iconst (pc := 60) (v := 2) hX dX1_points_60 rfl ?_
  refine wg_goto (pc := 61) (tgt := 65) hX dX1_points_61 (by decide) ?_
  exact wu_rt (wg_iret (pc := 65) hX rfl rfl dX1_points_65)
theorem w_X1_pick (d : Nat) (s_X1_pick : Int32 → Int32 → Int32 → Int32 → Int32 → am0 Unit) (hm_X1_pick : ∀ (a1 : Int32) (a2 : Int32) (a3 : Int32) (a4 : Int32) (a5 : Int32), amMet yX1_pick cX1_pick 8 none (2 + d) (64 + d * 27) encV [.ref (rid 0 1), .int a1, .int a2, .int a3, .int a4, .int a5] (up (s_X1_pick a1 a2 a3 a4 a5))) (a1 : Int32) (a2 : Int32) (a3 : Int32) (a4 : Int32) (a5 : Int32) : amMet yX1_pick cX1_pick 8 none (2 + (d + 1)) (64 + (d + 1) * 27) encV [.ref (rid 0 1), .int a1, .int a2, .int a3, .int a4, .int a5] (up (b_X1_pick s_X1_pick a1 a2 a3 a4 a5)) := by
  refine amMet.of (own := RX1) (by decide) rfl (Nat.le_of_ble_eq_true rfl) fun X hX hPs => ?_
  change WG X encV 0 [(0, .ref (rid 0 1)), (1, .int a1), (2, .int a2), (3, .int a3), (4, .int a4), (5, .int a5)] [] (bd1 (up (b_X1_pick s_X1_pick a1 a2 a3 a4 a5)) rt1)
  unfold b_X1_pick
  have hM0 := amPs.m0 hPs
  refine wu_ (wg_gM ?_)
  refine wg_iload_n (pc := 0) hX dX1_pick_0 2 rfl ?_
  refine wg_iload_n (pc := 1) hX dX1_pick_1 1 rfl ?_
  refine wg_icmp_ne (pc := 2) (tgt := 88) hX dX1_pick_2 (by decide) (fun h1 => ?_) (fun h1 => ?_)
  rotate_left
  · refine wu_f h1 ?_
    refine wg_iload_n (pc := 88) hX dX1_pick_88 3 rfl ?_
    refine wg_istore (pc := 89) (l' := [(0, .ref (rid 0 1)), (1, .int a1), (2, .int a2), (3, .int a3), (4, .int a4), (5, .int a5), (6, .int a3)]) hX dX1_pick_89 (by decide) rfl ?_
    refine wg_sub hX [0, 1, 2, 4, 5, 6] rfl ?_
    refine wu_lpx (α := Int32) (γ := Unit) (pcl := 91) (pcT := 133) (lo := fun x => [(0, .ref (rid 0 1)), (1, .int a1), (2, .int a2), (4, .int a4), (5, .int a5), (6, .int x)]) (so := fun _ => []) (lT := fun x => []) (sT := fun _ => []) (n := amFu) (x0 := a3) (fun K2 rec2 hrec2 hk2 x2 => ?_) (fun y3 => ?_)
    · unfold p_X1_pick_L91
      refine wg_iload (pc := 91) hX dX1_pick_91 5 rfl ?_
      refine wg_bipush (pc := 93) (v := 20) hX dX1_pick_93 rfl ?_
      refine wg_icmp_ge (pc := 95) (tgt := 133) hX dX1_pick_95 (by decide) (fun h4 => ?_) (fun h4 => ?_)
      · refine wu_t h4 ?_
        refine wg_sub hX [] rfl ?_
        exact wu_rt (hk2 ())
      refine wu_f h4 ?_
      refine wg_aload_n (pc := 98) hX dX1_pick_98 0 rfl ?_
      refine wg_gK (pc := 99) hX hM0 fd_X1_128 (by decide) dX1_pick_99 ?_
      refine wg_iload_n (pc := 102) hX dX1_pick_102 2 rfl ?_
      refine wg_iload (pc := 103) hX dX1_pick_103 5 rfl ?_
      refine wu_ (wg_wI (pc := 105) hX ar_51 dX1_pick_105 ?_)
      refine wg_aload_n (pc := 106) hX dX1_pick_106 0 rfl ?_
      refine wg_iload_n (pc := 107) hX dX1_pick_107 1 rfl ?_
      refine wg_iload_n (pc := 108) hX dX1_pick_108 2 rfl ?_
      refine wg_iconst (pc := 109) (v := 1) hX dX1_pick_109 rfl ?_
      refine wg_iadd (pc := 110) hX dX1_pick_110 ?_
      refine wg_iload (pc := 111) hX dX1_pick_111 5 rfl ?_
      refine wg_iconst (pc := 113) (v := 1) hX dX1_pick_113 rfl ?_
      refine wg_iadd (pc := 114) hX dX1_pick_114 ?_
      refine wg_iload (pc := 115) hX dX1_pick_115 3 rfl ?_
      refine wg_iconst (pc := 117) (v := 1) hX dX1_pick_117 rfl ?_
      refine wg_iload (pc := 118) hX dX1_pick_118 5 rfl ?_
      refine wg_ishl (pc := 120) hX dX1_pick_120 ?_
      refine wg_ior (pc := 121) hX dX1_pick_121 ?_
      refine wg_iload (pc := 122) hX dX1_pick_122 4 rfl ?_
      refine wu_ (wg_cVv (pc := 124) (As := [.int a1, .int (a2 + 1), .int (x2 + 1), .int (a4 ||| ((1 : Int32) <<< (x2 &&& 31))), .int a5]) (rest := []) hX (hm_X1_pick a1 (a2 + 1) (x2 + 1) (a4 ||| ((1 : Int32) <<< (x2 &&& 31))) a5) (by decide) (by decide) (by decide) rc_X1 (lw_V q1701 q1703 qs81 q159 q1704) hd_X1_pick rfl (by omega) (by omega) (Nat.le_of_ble_eq_true rfl) rfl dX1_pick_124 ?_)
      refine wg_iinc (pc := 127) (v := (x2 + 1)) (l' := [(0, .ref (rid 0 1)), (1, .int a1), (2, .int a2), (4, .int a4), (5, .int a5), (6, .int (x2 + 1))]) hX dX1_pick_127 5 rfl rfl (by decide) rfl ?_
      refine wg_goto (pc := 130) (tgt := 91) hX dX1_pick_130 (by decide) ?_
      exact hrec2 (x2 + 1)
    exact wu_rt (wg_vret (pc := 133) hX rfl rfl dX1_pick_133)
  refine wu_t h1 ?_
  refine wg_iconst (pc := 5) (v := 0) hX dX1_pick_5 rfl ?_
  refine wg_istore (pc := 6) (l' := [(0, .ref (rid 0 1)), (1, .int a1), (2, .int a2), (3, .int a3), (4, .int a4), (5, .int a5), (6, .int 0)]) hX dX1_pick_6 (by decide) rfl ?_
  refine wg_iconst (pc := 8) (v := 0) hX dX1_pick_8 rfl ?_
  refine wg_istore (pc := 9) (l' := [(0, .ref (rid 0 1)), (1, .int a1), (2, .int a2), (3, .int a3), (4, .int a4), (5, .int a5), (6, .int 0), (7, .int 0)]) hX dX1_pick_9 (by decide) rfl ?_
  refine wg_sub hX [0, 1, 4, 5, 6, 7] rfl ?_
  refine wu_lpx (α := Int32 × Int32) (γ := Int32) (pcl := 11) (pcT := 57) (lo := fun x => [(0, .ref (rid 0 1)), (1, .int a1), (4, .int a4), (5, .int a5), (6, .int x.1), (7, .int x.2)]) (so := fun _ => []) (lT := fun x => [(0, .ref (rid 0 1)), (1, .int a1), (6, .int x)]) (sT := fun _ => []) (n := amFu) (x0 := (0, 0)) (fun K5 rec5 hrec5 hk5 x5 => ?_) (fun y6 => ?_)
  · unfold p_X1_pick_L11
    refine wg_iload (pc := 11) hX dX1_pick_11 5 rfl ?_
    refine wg_bipush (pc := 13) (v := 20) hX dX1_pick_13 rfl ?_
    refine wg_icmp_ge (pc := 15) (tgt := 57) hX dX1_pick_15 (by decide) (fun h7 => ?_) (fun h7 => ?_)
    · refine wu_t h7 ?_
      refine wg_sub hX [0, 1, 4] rfl ?_
      exact wu_rt (hk5 x5.1)
    refine wu_f h7 ?_
    refine wg_aload_n (pc := 18) hX dX1_pick_18 0 rfl ?_
    refine wg_gK (pc := 19) hX hM0 fd_X1_125 (by decide) dX1_pick_19 ?_
    refine wg_iload (pc := 22) hX dX1_pick_22 5 rfl ?_
    refine wu_ (wg_rI (pc := 24) hX ar_50 dX1_pick_24 fun v8 => ?_)
    refine wu_jx (α := Int32) (pcJ := 51) (lJ := fun x => [(0, .ref (rid 0 1)), (1, .int a1), (4, .int a4), (5, .int a5), (6, .int x), (7, .int x5.2)]) (sJ := fun x => []) (fun K9 hk9 => ?_) (fun z9 => ?_)
    · refine wg_if_le (pc := 25) (tgt := 51) hX dX1_pick_25 (by decide) (fun h10 => ?_) (fun h10 => ?_)
      · refine wu_t h10 ?_
        exact wu_rt (hk9 x5.1)
      refine wu_f h10 ?_
      refine wg_iload (pc := 28) hX dX1_pick_28 4 rfl ?_
      refine wg_aload_n (pc := 30) hX dX1_pick_30 0 rfl ?_
      refine wg_gK (pc := 31) hX hM0 fd_X1_125 (by decide) dX1_pick_31 ?_
      refine wg_iload (pc := 34) hX dX1_pick_34 5 rfl ?_
      refine wu_ (wg_rI (pc := 36) hX ar_50 dX1_pick_36 fun v11 => ?_)
      refine wg_aload_n (pc := 37) hX dX1_pick_37 0 rfl ?_
      refine wg_iload (pc := 38) hX dX1_pick_38 5 rfl ?_
      refine wg_iload (pc := 40) hX dX1_pick_40 2 rfl ?_
      refine wg_iload (pc := 42) hX dX1_pick_42 3 rfl ?_
      refine wu_ (wg_cVi (pc := 44) (As := [.int x5.2, .int a4, .int a5]) (rest := [.int v11, .int x5.1]) hX (m_X1_points x5.2 a4 a5) (by decide) (by decide) (by decide) rc_X1 (lw_V q1705 q1707 qs82 q159 q1708) hd_X1_points rfl (by omega) (by omega) (Nat.le_of_ble_eq_true rfl) rfl dX1_pick_44 fun v12 => ?_)
      refine wg_imul (pc := 47) hX dX1_pick_47 ?_
      refine wg_iadd (pc := 48) hX dX1_pick_48 ?_
      refine wu_ (wg_nmi hX fun v13 => ?_)
      refine wg_istore (pc := 49) (l' := [(0, .ref (rid 0 1)), (1, .int a1), (4, .int a4), (5, .int a5), (6, .int v13), (7, .int x5.2)]) hX dX1_pick_49 (by decide) rfl ?_
      exact wu_rt (hk9 v13)
    refine wg_iinc (pc := 51) (v := (x5.2 + 1)) (l' := [(0, .ref (rid 0 1)), (1, .int a1), (4, .int a4), (5, .int a5), (6, .int z9), (7, .int (x5.2 + 1))]) hX dX1_pick_51 5 rfl rfl (by decide) rfl ?_
    refine wg_goto (pc := 54) (tgt := 11) hX dX1_pick_54 (by decide) ?_
    exact hrec5 (z9, (x5.2 + 1))
  refine wg_iload (pc := 57) hX dX1_pick_57 2 rfl ?_
  refine wg_aload_n (pc := 59) hX dX1_pick_59 0 rfl ?_
  refine wu_ (wg_gI (pc := 60) hX fd_X1_814 dX1_pick_60 fun v14 => ?_)
  refine wg_icmp_gt (pc := 63) (tgt := 67) hX dX1_pick_63 (by decide) (fun h15 => ?_) (fun h15 => ?_)
  rotate_left
  · refine wu_f h15 ?_
    exact wu_rt (wg_vret (pc := 66) hX rfl rfl dX1_pick_66)
  refine wu_t h15 ?_
  refine wg_aload_n (pc := 67) hX dX1_pick_67 0 rfl ?_
  refine wg_iload (pc := 68) hX dX1_pick_68 2 rfl ?_
  refine wu_ (wg_pI (pc := 70) hX fp_X1_814 (fun h => by cases h) dX1_pick_70 ?_)
  refine wg_aload_n (pc := 73) hX dX1_pick_73 0 rfl ?_
  refine wg_gK (pc := 74) hX hM0 fd_X1_128 (by decide) dX1_pick_74 ?_
  refine wg_iconst (pc := 77) (v := 0) hX dX1_pick_77 rfl ?_
  refine wg_aload_n (pc := 78) hX dX1_pick_78 0 rfl ?_
  refine wg_gK (pc := 79) hX hM0 fd_X1_131 (by decide) dX1_pick_79 ?_
  refine wg_iconst (pc := 82) (v := 0) hX dX1_pick_82 rfl ?_
  refine wg_iload_n (pc := 83) hX dX1_pick_83 1 rfl ?_
  refine wu_ (wg_cpI (pc := 84) hX ar_51 ar_52 rfl okI_ok q1682 q1684 q1683 q192 (by omega) (Nat.le_trans (Nat.le_of_ble_eq_true rfl : _ ≤ 60) (by omega)) dX1_pick_84 ?_)
  exact wu_rt (wg_vret (pc := 87) hX rfl rfl dX1_pick_87)
theorem gm_X1_pick : ∀ d : Nat, (∀ (a1 : Int32) (a2 : Int32) (a3 : Int32) (a4 : Int32) (a5 : Int32), amMet yX1_pick cX1_pick 8 none (2 + d) (64 + d * 27) encV [.ref (rid 0 1), .int a1, .int a2, .int a3, .int a4, .int a5] (up ((p_X1_pick d) a1 a2 a3 a4 a5)))
  | 0 => fun _ _ _ _ _ => amMet.none (fun _ _ => rfl)
  | d + 1 => by
    have h0 := gm_X1_pick d
    exact w_X1_pick d (p_X1_pick d) h0
theorem m_X1_pick (a1 : Int32) (a2 : Int32) (a3 : Int32) (a4 : Int32) (a5 : Int32) : amMet yX1_pick cX1_pick 8 none 18 496 encV [.ref (rid 0 1), .int a1, .int a2, .int a3, .int a4, .int a5] (up (p_X1_pick 16 a1 a2 a3 a4 a5)) := (gm_X1_pick 16) a1 a2 a3 a4 a5
theorem m_X1_findPlan (a1 : Int32) (a2 : Int32) : amMet yX1_findPlan cX1_findPlan 3 (some .boolean) 19 523 encI [.ref (rid 0 1), .int a1, .int a2] (up (p_X1_findPlan a1 a2)) := by
  refine amMet.of (own := RX1) (by decide) rfl (Nat.le_of_ble_eq_true rfl) fun X hX hPs => ?_
  change WG X encI 0 [(0, .ref (rid 0 1)), (1, .int a1), (2, .int a2)] [] (bd1 (up (p_X1_findPlan a1 a2)) rt1)
  unfold p_X1_findPlan
  refine wg_iload_n (pc := 0) hX dX1_findPlan_0 1 rfl ?_
  refine wg_iconst (pc := 1) (v := 1) hX dX1_findPlan_1 rfl ?_
  refine wg_iconst (pc := 2) (v := 4) hX dX1_findPlan_2 rfl ?_
  refine wu_ (wg_cSi (pc := 3) (As := [.int a1, .int 1, .int 4]) (rest := []) hX (m_X1_in a1 1 4) (lw_S q471 q472 q159 q473) hd_X1_in rfl (Nat.le_of_ble_eq_true rfl) (Nat.le_of_ble_eq_true rfl) (Nat.le_of_ble_eq_true rfl) rfl dX1_findPlan_3 fun v1 => ?_)
  refine wg_if_eq (pc := 6) (tgt := 19) hX dX1_findPlan_6 (by decide) (fun h2 => ?_) (fun h2 => ?_)
  · refine wu_t h2 ?_
    refine wg_iconst (pc := 19) (v := 0) hX dX1_findPlan_19 rfl ?_
    exact wu_rt (wg_zret (pc := 20) hX rfl (by decide) rfl dX1_findPlan_20)
  refine wu_f h2 ?_
  refine wg_iload_n (pc := 9) hX dX1_findPlan_9 2 rfl ?_
  refine wg_iconst (pc := 10) (v := 1) hX dX1_findPlan_10 rfl ?_
  refine wg_bipush (pc := 11) (v := 100) hX dX1_findPlan_11 rfl ?_
  refine wu_ (wg_cSi (pc := 13) (As := [.int a2, .int 1, .int 100]) (rest := []) hX (m_X1_in a2 1 100) (lw_S q471 q472 q159 q473) hd_X1_in rfl (Nat.le_of_ble_eq_true rfl) (Nat.le_of_ble_eq_true rfl) (Nat.le_of_ble_eq_true rfl) rfl dX1_findPlan_13 fun v3 => ?_)
  refine wg_if_ne (pc := 16) (tgt := 21) hX dX1_findPlan_16 (by decide) (fun h4 => ?_) (fun h4 => ?_)
  · refine wu_t h4 ?_
    refine wg_iconst (pc := 19) (v := 0) hX dX1_findPlan_19 rfl ?_
    exact wu_rt (wg_zret (pc := 20) hX rfl (by decide) rfl dX1_findPlan_20)
  refine wu_f h4 ?_
  refine wg_aload_n (pc := 21) hX dX1_findPlan_21 0 rfl ?_
  refine wu_ (wg_cVv (pc := 22) (As := []) (rest := []) hX (m_X1_survey) (by decide) (by decide) (by decide) rc_X1 (lw_V q1697 q1699 qs80 q159 q1700) hd_X1_survey rfl (Nat.le_of_ble_eq_true rfl) (Nat.le_of_ble_eq_true rfl) (Nat.le_of_ble_eq_true rfl) rfl dX1_findPlan_22 ?_)
  refine wg_aload_n (pc := 25) hX dX1_findPlan_25 0 rfl ?_
  refine wg_iconst (pc := 26) (v := (-1)) hX dX1_findPlan_26 rfl ?_
  refine wu_ (wg_pI (pc := 27) hX fp_X1_814 (fun h => by cases h) dX1_findPlan_27 ?_)
  refine wg_aload_n (pc := 30) hX dX1_findPlan_30 0 rfl ?_
  refine wg_iload_n (pc := 31) hX dX1_findPlan_31 1 rfl ?_
  refine wg_iconst (pc := 32) (v := 0) hX dX1_findPlan_32 rfl ?_
  refine wg_iconst (pc := 33) (v := 0) hX dX1_findPlan_33 rfl ?_
  refine wg_iconst (pc := 34) (v := 0) hX dX1_findPlan_34 rfl ?_
  refine wg_iload_n (pc := 35) hX dX1_findPlan_35 2 rfl ?_
  refine wu_ (wg_cVv (pc := 36) (As := [.int a1, .int 0, .int 0, .int 0, .int a2]) (rest := []) hX (m_X1_pick a1 0 0 0 a2) (by decide) (by decide) (by decide) rc_X1 (lw_V q1701 q1703 qs81 q159 q1704) hd_X1_pick rfl (Nat.le_of_ble_eq_true rfl) (Nat.le_of_ble_eq_true rfl) (Nat.le_of_ble_eq_true rfl) rfl dX1_findPlan_36 ?_)
  refine wg_iconst (pc := 39) (v := 1) hX dX1_findPlan_39 rfl ?_
  exact wu_rt (wg_zret (pc := 40) hX rfl (by decide) rfl dX1_findPlan_40)
theorem m_X1_plan (a1 : Int32) (a2 : Int32) : amMet yX1_plan cX1_plan 3 (some .int) 20 545 encI [.ref (rid 0 1), .int a1, .int a2] (up (p_X1_plan a1 a2)) := by
  refine amMet.of (own := RX1) (by decide) rfl (Nat.le_of_ble_eq_true rfl) fun X hX hPs => ?_
  change WG X encI 0 [(0, .ref (rid 0 1)), (1, .int a1), (2, .int a2)] [] (bd1 (up (p_X1_plan a1 a2)) rt1)
  unfold p_X1_plan
  refine wg_aload_n (pc := 0) hX dX1_plan_0 0 rfl ?_
  refine wg_iload_n (pc := 1) hX dX1_plan_1 1 rfl ?_
  refine wg_iload_n (pc := 2) hX dX1_plan_2 2 rfl ?_
  refine wu_ (wg_cVi (pc := 3) (As := [.int a1, .int a2]) (rest := []) hX (m_X1_findPlan a1 a2) (by decide) (by decide) (by decide) rc_X1 (lw_V q1693 q1695 qs79 q159 q1696) hd_X1_findPlan rfl (Nat.le_of_ble_eq_true rfl) (Nat.le_of_ble_eq_true rfl) (Nat.le_of_ble_eq_true rfl) rfl dX1_plan_3 fun v1 => ?_)
  refine wg_if_eq (pc := 6) (tgt := 16) hX dX1_plan_6 (by decide) (fun h2 => ?_) (fun h2 => ?_)
  · refine wu_t h2 ?_
    refine wg_iconst (pc := 16) (v := (-1)) hX dX1_plan_16 rfl ?_
    exact wu_rt (wg_iret (pc := 17) hX rfl rfl dX1_plan_17)
  refine wu_f h2 ?_
  refine wg_aload_n (pc := 9) hX dX1_plan_9 0 rfl ?_
  refine wu_ (wg_gI (pc := 10) hX fd_X1_814 dX1_plan_10 fun v3 => ?_)
  refine wg_goto (pc := 13) (tgt := 17) hX dX1_plan_13 (by decide) ?_
  exact wu_rt (wg_iret (pc := 17) hX rfl rfl dX1_plan_17)
theorem m_X1_planned (a1 : Int32) (a2 : Int32) (a3 : Int32) : amMet yX1_planned cX1_planned 4 (some .int) 20 545 encI [.ref (rid 0 1), .int a1, .int a2, .int a3] (up (p_X1_planned a1 a2 a3)) := by
  refine amMet.of (own := RX1) (by decide) rfl (Nat.le_of_ble_eq_true rfl) fun X hX hPs => ?_
  change WG X encI 0 [(0, .ref (rid 0 1)), (1, .int a1), (2, .int a2), (3, .int a3)] [] (bd1 (up (p_X1_planned a1 a2 a3)) rt1)
  unfold p_X1_planned
  have hM0 := amPs.m0 hPs
  refine wu_ (wg_gM ?_)
  refine wg_aload_n (pc := 0) hX dX1_planned_0 0 rfl ?_
  refine wg_iload_n (pc := 1) hX dX1_planned_1 1 rfl ?_
  refine wg_iload_n (pc := 2) hX dX1_planned_2 2 rfl ?_
  refine wu_ (wg_cVi (pc := 3) (As := [.int a1, .int a2]) (rest := []) hX (m_X1_findPlan a1 a2) (by decide) (by decide) (by decide) rc_X1 (lw_V q1693 q1695 qs79 q159 q1696) hd_X1_findPlan rfl (Nat.le_of_ble_eq_true rfl) (Nat.le_of_ble_eq_true rfl) (Nat.le_of_ble_eq_true rfl) rfl dX1_planned_3 fun v1 => ?_)
  refine wu_jn (α := Unit) (pcJ := 29) (lJ := fun x => []) (sJ := fun x => []) (fun k2 hk2 => ?_) (fun z2 => ?_)
  · refine wg_if_eq (pc := 6) (tgt := 29) hX dX1_planned_6 (by decide) (fun h3 => ?_) (fun h3 => ?_)
    · refine wu_t h3 ?_
      refine wg_sub hX [] rfl ?_
      exact hk2 ()
    refine wu_f h3 ?_
    refine wg_iload_n (pc := 9) hX dX1_planned_9 3 rfl ?_
    refine wg_iconst (pc := 10) (v := 0) hX dX1_planned_10 rfl ?_
    refine wg_iload_n (pc := 11) hX dX1_planned_11 1 rfl ?_
    refine wg_iconst (pc := 12) (v := 1) hX dX1_planned_12 rfl ?_
    refine wg_isub (pc := 13) hX dX1_planned_13 ?_
    refine wu_ (wg_cSi (pc := 14) (As := [.int a3, .int 0, .int (a1 - 1)]) (rest := []) hX (m_X1_in a3 0 (a1 - 1)) (lw_S q471 q472 q159 q473) hd_X1_in rfl (Nat.le_of_ble_eq_true rfl) (Nat.le_of_ble_eq_true rfl) (Nat.le_of_ble_eq_true rfl) rfl dX1_planned_14 fun v4 => ?_)
    refine wg_if_eq (pc := 17) (tgt := 29) hX dX1_planned_17 (by decide) (fun h5 => ?_) (fun h5 => ?_)
    · refine wu_t h5 ?_
      refine wg_sub hX [] rfl ?_
      exact hk2 ()
    refine wu_f h5 ?_
    refine wg_aload_n (pc := 20) hX dX1_planned_20 0 rfl ?_
    refine wg_gK (pc := 21) hX hM0 fd_X1_131 (by decide) dX1_planned_21 ?_
    refine wg_iload_n (pc := 24) hX dX1_planned_24 3 rfl ?_
    refine wu_ (wg_rI (pc := 25) hX ar_52 dX1_planned_25 fun v6 => ?_)
    refine wg_goto (pc := 26) (tgt := 30) hX dX1_planned_26 (by decide) ?_
    exact wu_rt (wg_iret (pc := 30) hX rfl rfl dX1_planned_30)
  refine wg_iconst (pc := 29) (v := (-1)) hX dX1_planned_29 rfl ?_
  exact wu_rt (wg_iret (pc := 30) hX rfl rfl dX1_planned_30)
theorem m_X23_init (r0 : Nat) : amMet yX23_init cX23_init 1 none 1 32 encV [.ref (rid 11 r0)] (up (p_X23_init r0)) := by
  refine amMet.ofI (own := RX23) (by decide) rfl (Nat.le_of_ble_eq_true rfl) rfl fun X hX hN => ?_
  change WG X encV 0 [(0, .ref (rid 11 r0))] [] (bd1 (up (p_X23_init r0)) rt1)
  unfold p_X23_init
  refine wg_aload_n (pc := 0) hX dX23_init_0 0 rfl ?_
  refine wu_ (wg_gd fun h1 => ?_)
  refine wg_objI (pc := 1) hX h1 q1725 q207 q208 (Nat.le_of_ble_eq_true rfl) (Nat.le_of_ble_eq_true rfl) dX23_init_1 ?_
  exact wu_rt (wg_vret (pc := 4) hX rfl rfl dX23_init_4)
theorem m_X24_init (r0 : Nat) : amMet yX24_init cX24_init 1 none 2 52 encV [.ref (rid 11 r0)] (p_X24_init r0) := by
  refine amMet.ofI (own := RX24) (by decide) rfl (Nat.le_of_ble_eq_true rfl) rfl fun X hX hN => ?_
  change WG X encV 0 [(0, .ref (rid 11 r0))] [] (bd1 (p_X24_init r0) rt1)
  unfold p_X24_init
  refine wg_aload_n (pc := 0) hX dX24_init_0 0 rfl ?_
  refine wv_ (wg_gd fun h1 => ?_)
  refine wv_ (wg_cINv (pc := 1) (As := []) (rest := []) hX (m_X23_init r0) h1 rfl q1722 q1723 q193 q1724 hd_X23_init rfl (Nat.le_of_ble_eq_true rfl) (Nat.le_of_ble_eq_true rfl) (Nat.le_of_ble_eq_true rfl) rfl dX24_init_1 ?_)
  refine wg_aload_n (pc := 4) hX dX24_init_4 0 rfl ?_
  refine wg_bipush (pc := 5) (v := 20) hX dX24_init_5 rfl ?_
  refine wv_ (wg_nwA (pc := 7) (atype := .byte) hX (by decide) (by decide) (by decide) rfl (fun _ _ h => h) aq_byte (by decide) (fun _ => Nat.le_of_ble_eq_true rfl) (by decide) dX24_init_7 fun r2 => ?_)
  refine wv_ (wg_pRs (pc := 9) hX fp_X24_9 (fun _ => hN) (by decide) (by first | exact Or.inl ⟨_, rfl⟩ | exact Or.inr ⟨_, rfl⟩) dX24_init_9 ?_)
  exact wv_rt (wg_vret (pc := 12) hX rfl rfl dX24_init_12)
theorem m_X25_init (r0 : Nat) : amMet yX25_init cX25_init 1 none 2 52 encV [.ref (rid 11 r0)] (p_X25_init r0) := by
  refine amMet.ofI (own := RX25) (by decide) rfl (Nat.le_of_ble_eq_true rfl) rfl fun X hX hN => ?_
  change WG X encV 0 [(0, .ref (rid 11 r0))] [] (bd1 (p_X25_init r0) rt1)
  unfold p_X25_init
  refine wg_aload_n (pc := 0) hX dX25_init_0 0 rfl ?_
  refine wv_ (wg_gd fun h1 => ?_)
  refine wv_ (wg_cINv (pc := 1) (As := []) (rest := []) hX (m_X23_init r0) h1 rfl q1735 q1723 q193 q1724 hd_X23_init rfl (Nat.le_of_ble_eq_true rfl) (Nat.le_of_ble_eq_true rfl) (Nat.le_of_ble_eq_true rfl) rfl dX25_init_1 ?_)
  refine wg_aload_n (pc := 4) hX dX25_init_4 0 rfl ?_
  refine wg_bipush (pc := 5) (v := 20) hX dX25_init_5 rfl ?_
  refine wv_ (wg_nwA (pc := 7) (atype := .short) hX (by decide) (by decide) (by decide) rfl (fun _ _ h => h) aq_short (by decide) (fun _ => Nat.le_of_ble_eq_true rfl) (by decide) dX25_init_7 fun r2 => ?_)
  refine wv_ (wg_pRs (pc := 9) hX fp_X25_9 (fun _ => hN) (by decide) (by first | exact Or.inl ⟨_, rfl⟩ | exact Or.inr ⟨_, rfl⟩) dX25_init_9 ?_)
  exact wv_rt (wg_vret (pc := 12) hX rfl rfl dX25_init_12)
theorem m_X26_init (r0 : Nat) : amMet yX26_init cX26_init 1 none 2 52 encV [.ref (rid 11 r0)] (p_X26_init r0) := by
  refine amMet.ofI (own := RX26) (by decide) rfl (Nat.le_of_ble_eq_true rfl) rfl fun X hX hN => ?_
  change WG X encV 0 [(0, .ref (rid 11 r0))] [] (bd1 (p_X26_init r0) rt1)
  unfold p_X26_init
  refine wg_aload_n (pc := 0) hX dX26_init_0 0 rfl ?_
  refine wv_ (wg_gd fun h1 => ?_)
  refine wv_ (wg_cINv (pc := 1) (As := []) (rest := []) hX (m_X23_init r0) h1 rfl q1746 q1723 q193 q1724 hd_X23_init rfl (Nat.le_of_ble_eq_true rfl) (Nat.le_of_ble_eq_true rfl) (Nat.le_of_ble_eq_true rfl) rfl dX26_init_1 ?_)
  refine wg_aload_n (pc := 4) hX dX26_init_4 0 rfl ?_
  refine wg_bipush (pc := 5) (v := 20) hX dX26_init_5 rfl ?_
  refine wv_ (wg_nwA (pc := 7) (atype := .int) hX (by decide) (by decide) (by decide) rfl (fun _ _ h => h) aq_int (by decide) (fun _ => Nat.le_of_ble_eq_true rfl) (by decide) dX26_init_7 fun r2 => ?_)
  refine wv_ (wg_pRs (pc := 9) hX fp_X26_9 (fun _ => hN) (by decide) (by first | exact Or.inl ⟨_, rfl⟩ | exact Or.inr ⟨_, rfl⟩) dX26_init_9 ?_)
  exact wv_rt (wg_vret (pc := 12) hX rfl rfl dX26_init_12)
theorem m_X27_init (r0 : Nat) : amMet yX27_init cX27_init 1 none 2 52 encV [.ref (rid 11 r0)] (p_X27_init r0) := by
  refine amMet.ofI (own := RX27) (by decide) rfl (Nat.le_of_ble_eq_true rfl) rfl fun X hX hN => ?_
  change WG X encV 0 [(0, .ref (rid 11 r0))] [] (bd1 (p_X27_init r0) rt1)
  unfold p_X27_init
  refine wg_aload_n (pc := 0) hX dX27_init_0 0 rfl ?_
  refine wv_ (wg_gd fun h1 => ?_)
  refine wv_ (wg_cINv (pc := 1) (As := []) (rest := []) hX (m_X23_init r0) h1 rfl q1756 q1723 q193 q1724 hd_X23_init rfl (Nat.le_of_ble_eq_true rfl) (Nat.le_of_ble_eq_true rfl) (Nat.le_of_ble_eq_true rfl) rfl dX27_init_1 ?_)
  refine wg_aload_n (pc := 4) hX dX27_init_4 0 rfl ?_
  refine wg_bipush (pc := 5) (v := 20) hX dX27_init_5 rfl ?_
  refine wv_ (wg_nwF (pc := 7) (atype := .float) hX (by decide) (by decide) (by decide) rfl (fun _ _ h => h) aq_float (by decide) (fun _ => Nat.le_of_ble_eq_true rfl) (by decide) dX27_init_7 fun r2 => ?_)
  refine wv_ (wg_pRs (pc := 9) hX fp_X27_9 (fun _ => hN) (by decide) (by first | exact Or.inl ⟨_, rfl⟩ | exact Or.inr ⟨_, rfl⟩) dX27_init_9 ?_)
  exact wv_rt (wg_vret (pc := 12) hX rfl rfl dX27_init_12)
theorem m_X1_row (a1 : Int32) : amMet yX1_row cX1_row 2 (some .int) 3 72 encI [.ref (rid 0 1), .int a1] (p_X1_row a1) := by
  refine amMet.of (own := RX1) (by decide) rfl (Nat.le_of_ble_eq_true rfl) fun X hX hPs => ?_
  change WG X encI 0 [(0, .ref (rid 0 1)), (1, .int a1)] [] (bd1 (p_X1_row a1) rt1)
  unfold p_X1_row
  have hM0 := amPs.m1 hPs
  refine wv_ (wg_gM ?_)
  refine wg_iload_n (pc := 0) hX dX1_row_0 1 rfl ?_
  refine wg_iconst (pc := 1) (v := 0) hX dX1_row_1 rfl ?_
  refine wg_iconst (pc := 2) (v := 3) hX dX1_row_2 rfl ?_
  refine wv_ (wg_cSi (pc := 3) (As := [.int a1, .int 0, .int 3]) (rest := []) hX (m_X1_in a1 0 3) (lw_S q471 q472 q159 q473) hd_X1_in rfl (Nat.le_of_ble_eq_true rfl) (Nat.le_of_ble_eq_true rfl) (Nat.le_of_ble_eq_true rfl) rfl dX1_row_3 fun v1 => ?_)
  refine wg_if_eq (pc := 6) (tgt := 18) hX dX1_row_6 (by decide) (fun h2 => ?_) (fun h2 => ?_)
  · refine wv_t h2 ?_
    refine wg_iconst (pc := 18) (v := (-1)) hX dX1_row_18 rfl ?_
    exact wv_rt (wg_iret (pc := 19) hX rfl rfl dX1_row_19)
  refine wv_f h2 ?_
  refine wg_aload_n (pc := 9) hX dX1_row_9 0 rfl ?_
  refine wv_ (wg_gI (pc := 10) hX fd_X1_826 dX1_row_10 fun v3 => ?_)
  refine wg_bipush (pc := 13) (v := 6) hX dX1_row_13 rfl ?_
  refine wg_icmp_ne (pc := 15) (tgt := 20) hX dX1_row_15 (by decide) (fun h4 => ?_) (fun h4 => ?_)
  · refine wv_t h4 ?_
    refine wg_iconst (pc := 18) (v := (-1)) hX dX1_row_18 rfl ?_
    exact wv_rt (wg_iret (pc := 19) hX rfl rfl dX1_row_19)
  refine wv_f h4 ?_
  refine wg_aload_n (pc := 20) hX dX1_row_20 0 rfl ?_
  refine wg_gK (pc := 21) hX hM0 fd_X1_136 (by decide) dX1_row_21 ?_
  refine wg_aload_n (pc := 24) hX dX1_row_24 0 rfl ?_
  refine wv_ (wg_gI (pc := 25) hX fd_X1_826 dX1_row_25 fun v5 => ?_)
  refine wg_iload_n (pc := 28) hX dX1_row_28 1 rfl ?_
  refine wv_jx (α := Nat) (pcJ := 79) (lJ := fun x => [(0, .ref (rid 0 1)), (1, .int a1)]) (sJ := fun x => [.ref (rid 11 x), .int v5, .ref (rid 53 1)]) (fun K6 hk6 => ?_) (fun z6 => ?_)
  · refine wg_if_ne (pc := 29) (tgt := 42) hX dX1_row_29 (by decide) (fun h7 => ?_) (fun h7 => ?_)
    · refine wv_t h7 ?_
      refine wv_ (wg_nw (pc := 32) hX nw_X1_829 dX1_row_32 fun r8 => ?_)
      refine wg_dup (pc := 35) hX dX1_row_35 rfl ?_
      refine wv_ (wg_gd fun h9 => ?_)
      refine wv_ (wg_cINv (pc := 36) (As := []) (rest := [.ref (rid 11 r8), .int v5, .ref (rid 53 1)]) hX (m_X24_init r8) h9 rfl q1719 q1720 q194 q1721 hd_X24_init rfl (Nat.le_of_ble_eq_true rfl) (Nat.le_of_ble_eq_true rfl) (Nat.le_of_ble_eq_true rfl) rfl dX1_row_36 ?_)
      refine wg_goto (pc := 39) (tgt := 79) hX dX1_row_39 (by decide) ?_
      exact wv_rt (hk6 r8)
    refine wv_f h7 ?_
    refine wg_iload_n (pc := 42) hX dX1_row_42 1 rfl ?_
    refine wg_iconst (pc := 43) (v := 1) hX dX1_row_43 rfl ?_
    refine wg_icmp_ne (pc := 44) (tgt := 57) hX dX1_row_44 (by decide) (fun h10 => ?_) (fun h10 => ?_)
    · refine wv_t h10 ?_
      refine wv_ (wg_nw (pc := 47) hX nw_X1_832 dX1_row_47 fun r11 => ?_)
      refine wg_dup (pc := 50) hX dX1_row_50 rfl ?_
      refine wv_ (wg_gd fun h12 => ?_)
      refine wv_ (wg_cINv (pc := 51) (As := []) (rest := [.ref (rid 11 r11), .int v5, .ref (rid 53 1)]) hX (m_X25_init r11) h12 rfl q1732 q1733 q195 q1734 hd_X25_init rfl (Nat.le_of_ble_eq_true rfl) (Nat.le_of_ble_eq_true rfl) (Nat.le_of_ble_eq_true rfl) rfl dX1_row_51 ?_)
      refine wg_goto (pc := 54) (tgt := 79) hX dX1_row_54 (by decide) ?_
      exact wv_rt (hk6 r11)
    refine wv_f h10 ?_
    refine wg_iload_n (pc := 57) hX dX1_row_57 1 rfl ?_
    refine wg_iconst (pc := 58) (v := 2) hX dX1_row_58 rfl ?_
    refine wg_icmp_ne (pc := 59) (tgt := 72) hX dX1_row_59 (by decide) (fun h13 => ?_) (fun h13 => ?_)
    rotate_left
    · refine wv_f h13 ?_
      refine wv_ (wg_nw (pc := 72) hX nw_X1_838 dX1_row_72 fun r14 => ?_)
      refine wg_dup (pc := 75) hX dX1_row_75 rfl ?_
      refine wv_ (wg_gd fun h15 => ?_)
      refine wv_ (wg_cINv (pc := 76) (As := []) (rest := [.ref (rid 11 r14), .int v5, .ref (rid 53 1)]) hX (m_X27_init r14) h15 rfl q1753 q1754 q197 q1755 hd_X27_init rfl (Nat.le_of_ble_eq_true rfl) (Nat.le_of_ble_eq_true rfl) (Nat.le_of_ble_eq_true rfl) rfl dX1_row_76 ?_)
      exact wv_rt (hk6 r14)
    refine wv_t h13 ?_
    refine wv_ (wg_nw (pc := 62) hX nw_X1_835 dX1_row_62 fun r16 => ?_)
    refine wg_dup (pc := 65) hX dX1_row_65 rfl ?_
    refine wv_ (wg_gd fun h17 => ?_)
    refine wv_ (wg_cINv (pc := 66) (As := []) (rest := [.ref (rid 11 r16), .int v5, .ref (rid 53 1)]) hX (m_X26_init r16) h17 rfl q1743 q1744 q196 q1745 hd_X26_init rfl (Nat.le_of_ble_eq_true rfl) (Nat.le_of_ble_eq_true rfl) (Nat.le_of_ble_eq_true rfl) rfl dX1_row_66 ?_)
    refine wg_goto (pc := 69) (tgt := 79) hX dX1_row_69 (by decide) ?_
    exact wv_rt (hk6 r16)
  refine wv_ (wg_wR (pc := 79) hX ar_53 el_53 dX1_row_79 ?_)
  refine wg_aload_n (pc := 80) hX dX1_row_80 0 rfl ?_
  refine wg_gK (pc := 81) hX hM0 fd_X1_140 (by decide) dX1_row_81 ?_
  refine wg_aload_n (pc := 84) hX dX1_row_84 0 rfl ?_
  refine wv_ (wg_gI (pc := 85) hX fd_X1_826 dX1_row_85 fun v18 => ?_)
  refine wg_iload_n (pc := 88) hX dX1_row_88 1 rfl ?_
  refine wv_ (wg_wI (pc := 89) hX ar_54 dX1_row_89 ?_)
  refine wg_aload_n (pc := 90) hX dX1_row_90 0 rfl ?_
  refine wg_dup (pc := 91) hX dX1_row_91 rfl ?_
  refine wv_ (wg_gI (pc := 92) hX fd_X1_826 dX1_row_92 fun v19 => ?_)
  refine wg_iconst (pc := 95) (v := 1) hX dX1_row_95 rfl ?_
  refine wg_iadd (pc := 96) hX dX1_row_96 ?_
  refine wv_ (wg_pI (pc := 97) hX fp_X1_826 (fun h => by cases h) dX1_row_97 ?_)
  refine wg_aload_n (pc := 100) hX dX1_row_100 0 rfl ?_
  refine wv_ (wg_gI (pc := 101) hX fd_X1_826 dX1_row_101 fun v20 => ?_)
  refine wg_iconst (pc := 104) (v := 1) hX dX1_row_104 rfl ?_
  refine wg_isub (pc := 105) hX dX1_row_105 ?_
  exact wv_rt (wg_iret (pc := 106) hX rfl rfl dX1_row_106)
theorem m_X1_isRow (a1 : Int32) : amMet yX1_isRow cX1_isRow 2 (some .boolean) 2 54 encI [.ref (rid 0 1), .int a1] (up (p_X1_isRow a1)) := by
  refine amMet.of (own := RX1) (by decide) rfl (Nat.le_of_ble_eq_true rfl) fun X hX hPs => ?_
  change WG X encI 0 [(0, .ref (rid 0 1)), (1, .int a1)] [] (bd1 (up (p_X1_isRow a1)) rt1)
  unfold p_X1_isRow
  refine wg_iload_n (pc := 0) hX dX1_isRow_0 1 rfl ?_
  refine wg_iconst (pc := 1) (v := 0) hX dX1_isRow_1 rfl ?_
  refine wg_aload_n (pc := 2) hX dX1_isRow_2 0 rfl ?_
  refine wu_ (wg_gI (pc := 3) hX fd_X1_826 dX1_isRow_3 fun v1 => ?_)
  refine wg_iconst (pc := 6) (v := 1) hX dX1_isRow_6 rfl ?_
  refine wg_isub (pc := 7) hX dX1_isRow_7 ?_
  refine wu_ (wg_cSi (pc := 8) (As := [.int a1, .int 0, .int (v1 - 1)]) (rest := []) hX (m_X1_in a1 0 (v1 - 1)) (lw_S q471 q472 q159 q473) hd_X1_in rfl (Nat.le_of_ble_eq_true rfl) (Nat.le_of_ble_eq_true rfl) (Nat.le_of_ble_eq_true rfl) rfl dX1_isRow_8 fun v2 => ?_)
  refine wu_ (wg_gd fun h3 => ?_)
  exact wu_rt (wg_zret (pc := 11) hX rfl h3 rfl dX1_isRow_11)
theorem m_X24_put (r0 : Nat) (a1 : Int32) (a2 : Int32) : amMet yX24_put cX24_put 3 none 1 32 encV [.ref (rid 11 r0), .int a1, .int a2] (up (p_X24_put r0 a1 a2)) := by
  refine amMet.of (own := RX24) (by decide) rfl (Nat.le_of_ble_eq_true rfl) fun X hX hPs => ?_
  change WG X encV 0 [(0, .ref (rid 11 r0)), (1, .int a1), (2, .int a2)] [] (bd1 (up (p_X24_put r0 a1 a2)) rt1)
  unfold p_X24_put
  refine wg_aload_n (pc := 0) hX dX24_put_0 0 rfl ?_
  refine wu_ (wg_gRs (pc := 1) hX fd_X24_9 dX24_put_1 fun r1 => ?_)
  refine wg_iload_n (pc := 4) hX dX24_put_4 1 rfl ?_
  refine wg_iload_n (pc := 5) hX dX24_put_5 2 rfl ?_
  refine wg_i2b (pc := 6) hX dX24_put_6 ?_
  refine wu_ (wg_wB (pc := 7) hX ar_153 dX24_put_7 ?_)
  exact wu_rt (wg_vret (pc := 8) hX rfl rfl dX24_put_8)
theorem m_X25_put (r0 : Nat) (a1 : Int32) (a2 : Int32) : amMet yX25_put cX25_put 3 none 1 32 encV [.ref (rid 11 r0), .int a1, .int a2] (up (p_X25_put r0 a1 a2)) := by
  refine amMet.of (own := RX25) (by decide) rfl (Nat.le_of_ble_eq_true rfl) fun X hX hPs => ?_
  change WG X encV 0 [(0, .ref (rid 11 r0)), (1, .int a1), (2, .int a2)] [] (bd1 (up (p_X25_put r0 a1 a2)) rt1)
  unfold p_X25_put
  refine wg_aload_n (pc := 0) hX dX25_put_0 0 rfl ?_
  refine wu_ (wg_gRs (pc := 1) hX fd_X25_9 dX25_put_1 fun r1 => ?_)
  refine wg_iload_n (pc := 4) hX dX25_put_4 1 rfl ?_
  refine wg_iload_n (pc := 5) hX dX25_put_5 2 rfl ?_
  refine wg_i2s (pc := 6) hX dX25_put_6 ?_
  refine wu_ (wg_wS (pc := 7) hX ar_154 dX25_put_7 ?_)
  exact wu_rt (wg_vret (pc := 8) hX rfl rfl dX25_put_8)
theorem m_X26_put (r0 : Nat) (a1 : Int32) (a2 : Int32) : amMet yX26_put cX26_put 3 none 1 32 encV [.ref (rid 11 r0), .int a1, .int a2] (up (p_X26_put r0 a1 a2)) := by
  refine amMet.of (own := RX26) (by decide) rfl (Nat.le_of_ble_eq_true rfl) fun X hX hPs => ?_
  change WG X encV 0 [(0, .ref (rid 11 r0)), (1, .int a1), (2, .int a2)] [] (bd1 (up (p_X26_put r0 a1 a2)) rt1)
  unfold p_X26_put
  refine wg_aload_n (pc := 0) hX dX26_put_0 0 rfl ?_
  refine wu_ (wg_gRs (pc := 1) hX fd_X26_9 dX26_put_1 fun r1 => ?_)
  refine wg_iload_n (pc := 4) hX dX26_put_4 1 rfl ?_
  refine wg_iload_n (pc := 5) hX dX26_put_5 2 rfl ?_
  refine wu_ (wg_wI (pc := 6) hX ar_155 dX26_put_6 ?_)
  exact wu_rt (wg_vret (pc := 7) hX rfl rfl dX26_put_7)
theorem m_X27_put (r0 : Nat) (a1 : Int32) (a2 : Int32) : amMet yX27_put cX27_put 3 none 1 32 encV [.ref (rid 11 r0), .int a1, .int a2] (up (p_X27_put r0 a1 a2)) := by
  refine amMet.of (own := RX27) (by decide) rfl (Nat.le_of_ble_eq_true rfl) fun X hX hPs => ?_
  change WG X encV 0 [(0, .ref (rid 11 r0)), (1, .int a1), (2, .int a2)] [] (bd1 (up (p_X27_put r0 a1 a2)) rt1)
  unfold p_X27_put
  refine wg_aload_n (pc := 0) hX dX27_put_0 0 rfl ?_
  refine wu_ (wg_gRs (pc := 1) hX fd_X27_9 dX27_put_1 fun r1 => ?_)
  refine wg_iload_n (pc := 4) hX dX27_put_4 1 rfl ?_
  refine wg_iload_n (pc := 5) hX dX27_put_5 2 rfl ?_
  refine wg_ldc (pc := 6) hX dX27_put_6 q1781 ?_
  refine wu_jx (α := UInt32) (pcJ := 21) (lJ := fun x => []) (sJ := fun x => [.float x, .int a1, .ref (rid 156 r1)]) (fun K2 hk2 => ?_) (fun z2 => ?_)
  · refine wg_icmp_ne (pc := 8) (tgt := 16) hX dX27_put_8 (by decide) (fun h3 => ?_) (fun h3 => ?_)
    · refine wu_t h3 ?_
      refine wg_ldcf (pc := 11) hX dX27_put_11 q1782 ?_
      refine wg_goto (pc := 13) (tgt := 21) hX dX27_put_13 (by decide) ?_
      refine wg_sub hX [] rfl ?_
      exact wu_rt (hk2 2143289344)
    refine wu_f h3 ?_
    refine wg_iload_n (pc := 16) hX dX27_put_16 2 rfl ?_
    refine wg_i2f (pc := 17) hX dX27_put_17 ?_
    refine wg_ldcf (pc := 18) hX dX27_put_18 q1783 ?_
    refine wu_ (wg_gd fun h4 => ?_)
    refine wg_fdiv (pc := 20) hX dX27_put_20 h4 ?_
    refine wg_sub hX [] rfl ?_
    exact wu_rt (hk2 (FP.fdiv (FP.i2f a2) 1090519040))
  refine wu_ (wg_wF (pc := 21) hX ar_156 dX27_put_21 ?_)
  exact wu_rt (wg_vret (pc := 22) hX rfl rfl dX27_put_22)
theorem m_X1_put (a1 : Int32) (a2 : Int32) (a3 : Int32) : amMet yX1_put cX1_put 4 (some .boolean) 3 75 encI [.ref (rid 0 1), .int a1, .int a2, .int a3] (up (p_X1_put a1 a2 a3)) := by
  refine amMet.of (own := RX1) (by decide) rfl (Nat.le_of_ble_eq_true rfl) fun X hX hPs => ?_
  change WG X encI 0 [(0, .ref (rid 0 1)), (1, .int a1), (2, .int a2), (3, .int a3)] [] (bd1 (up (p_X1_put a1 a2 a3)) rt1)
  unfold p_X1_put
  have hM0 := amPs.m0 hPs
  refine wu_ (wg_gM ?_)
  refine wg_aload_n (pc := 0) hX dX1_put_0 0 rfl ?_
  refine wg_iload_n (pc := 1) hX dX1_put_1 1 rfl ?_
  refine wu_ (wg_cVi (pc := 2) (As := [.int a1]) (rest := []) hX (m_X1_isRow a1) (by decide) (by decide) (by decide) rc_X1 (lw_V q1766 q1768 qs83 q159 q1769) hd_X1_isRow rfl (Nat.le_of_ble_eq_true rfl) (Nat.le_of_ble_eq_true rfl) (Nat.le_of_ble_eq_true rfl) rfl dX1_put_2 fun v1 => ?_)
  refine wg_if_eq (pc := 5) (tgt := 37) hX dX1_put_5 (by decide) (fun h2 => ?_) (fun h2 => ?_)
  · refine wu_t h2 ?_
    refine wg_iconst (pc := 37) (v := 0) hX dX1_put_37 rfl ?_
    exact wu_rt (wg_zret (pc := 38) hX rfl (by decide) rfl dX1_put_38)
  refine wu_f h2 ?_
  refine wg_aload_n (pc := 8) hX dX1_put_8 0 rfl ?_
  refine wg_gK (pc := 9) hX hM0 fd_X1_136 (by decide) dX1_put_9 ?_
  refine wg_iload_n (pc := 12) hX dX1_put_12 1 rfl ?_
  refine wu_ (wg_rR (pc := 13) hX ar_53 (by decide) dX1_put_13 fun r3 => ?_)
  refine wg_ifnull (pc := 14) (tgt := 37) hX (by decide) dX1_put_14 (by decide) (fun h4 => ?_) (fun h4 => ?_)
  · refine wu_t h4 ?_
    refine wg_iconst (pc := 37) (v := 0) hX dX1_put_37 rfl ?_
    exact wu_rt (wg_zret (pc := 38) hX rfl (by decide) rfl dX1_put_38)
  refine wu_f h4 ?_
  refine wg_iload_n (pc := 17) hX dX1_put_17 2 rfl ?_
  refine wu_ (wg_cSi (pc := 18) (As := [.int a2]) (rest := []) hX (m_X1_isCorner a2) (lw_S q468 q469 q159 q470) hd_X1_isCorner rfl (Nat.le_of_ble_eq_true rfl) (Nat.le_of_ble_eq_true rfl) (Nat.le_of_ble_eq_true rfl) rfl dX1_put_18 fun v5 => ?_)
  refine wg_if_eq (pc := 21) (tgt := 37) hX dX1_put_21 (by decide) (fun h6 => ?_) (fun h6 => ?_)
  · refine wu_t h6 ?_
    refine wg_iconst (pc := 37) (v := 0) hX dX1_put_37 rfl ?_
    exact wu_rt (wg_zret (pc := 38) hX rfl (by decide) rfl dX1_put_38)
  refine wu_f h6 ?_
  refine wg_iload_n (pc := 24) hX dX1_put_24 3 rfl ?_
  refine wg_ldcw (pc := 25) hX dX1_put_25 q1770 ?_
  refine wg_ldcw (pc := 28) hX dX1_put_28 q1771 ?_
  refine wu_ (wg_cSi (pc := 31) (As := [.int a3, .int (-1000000), .int 1000000]) (rest := []) hX (m_X1_in a3 (-1000000) 1000000) (lw_S q471 q472 q159 q473) hd_X1_in rfl (Nat.le_of_ble_eq_true rfl) (Nat.le_of_ble_eq_true rfl) (Nat.le_of_ble_eq_true rfl) rfl dX1_put_31 fun v7 => ?_)
  refine wg_if_ne (pc := 34) (tgt := 39) hX dX1_put_34 (by decide) (fun h8 => ?_) (fun h8 => ?_)
  · refine wu_t h8 ?_
    refine wg_iconst (pc := 37) (v := 0) hX dX1_put_37 rfl ?_
    exact wu_rt (wg_zret (pc := 38) hX rfl (by decide) rfl dX1_put_38)
  refine wu_f h8 ?_
  refine wg_aload_n (pc := 39) hX dX1_put_39 0 rfl ?_
  refine wg_gK (pc := 40) hX hM0 fd_X1_136 (by decide) dX1_put_40 ?_
  refine wg_iload_n (pc := 43) hX dX1_put_43 1 rfl ?_
  refine wu_ (wg_rR (pc := 44) hX ar_53 (by decide) dX1_put_44 fun r9 => ?_)
  refine wg_iload_n (pc := 45) hX dX1_put_45 2 rfl ?_
  refine wg_iload_n (pc := 46) hX dX1_put_46 3 rfl ?_
  refine wu_ (wg_vcvu (pc := 47) (x := ⟨"CityBrigade$Row", "put", "(II)V"⟩) (n := 2) (f := fun c => if c = 18 then p_X24_put r9 a2 a3 else if c = 19 then p_X25_put r9 a2 a3 else if c = 20 then p_X26_put r9 a2 a3 else if c = 21 then p_X27_put r9 a2 a3 else fl0) (As := [.int a2, .int a3]) (rest := []) hX (by decide) (by decide) (fun c hc => by
        rcases am_mem4 hc with rfl | rfl | rfl | rfl
        · exact Or.inr ⟨RX24, TX24, 1, yX24_put, cX24_put, 3, none, _, _, rfl, ⟨"CityBrigade$Row", lw_U q1772 q1774 q1775 q1776 q194 q1777, by decide +kernel, Or.inr q1773⟩, m_X24_put r9 a2 a3, (Nat.le_of_ble_eq_true rfl), (Nat.le_of_ble_eq_true rfl)⟩
        · exact Or.inr ⟨RX25, TX25, 1, yX25_put, cX25_put, 3, none, _, _, rfl, ⟨"CityBrigade$Row", lw_U q1772 q1774 q1787 q1788 q195 q1789, by decide +kernel, Or.inr q1773⟩, m_X25_put r9 a2 a3, (Nat.le_of_ble_eq_true rfl), (Nat.le_of_ble_eq_true rfl)⟩
        · exact Or.inr ⟨RX26, TX26, 1, yX26_put, cX26_put, 3, none, _, _, rfl, ⟨"CityBrigade$Row", lw_U q1772 q1774 q1784 q1785 q196 q1786, by decide +kernel, Or.inr q1773⟩, m_X26_put r9 a2 a3, (Nat.le_of_ble_eq_true rfl), (Nat.le_of_ble_eq_true rfl)⟩
        · exact Or.inr ⟨RX27, TX27, 1, yX27_put, cX27_put, 3, none, _, _, rfl, ⟨"CityBrigade$Row", lw_U q1772 q1774 q1778 q1779 q197 q1780, by decide +kernel, Or.inr q1773⟩, m_X27_put r9 a2 a3, (Nat.le_of_ble_eq_true rfl), (Nat.le_of_ble_eq_true rfl)⟩) rfl (Nat.le_of_ble_eq_true rfl) rfl dX1_put_47 ?_)
  refine wg_iconst (pc := 50) (v := 1) hX dX1_put_50 rfl ?_
  exact wu_rt (wg_zret (pc := 51) hX rfl (by decide) rfl dX1_put_51)
theorem m_X1_lose (a1 : Int32) : amMet yX1_lose cX1_lose 2 (some .boolean) 3 75 encI [.ref (rid 0 1), .int a1] (up (p_X1_lose a1)) := by
  refine amMet.of (own := RX1) (by decide) rfl (Nat.le_of_ble_eq_true rfl) fun X hX hPs => ?_
  change WG X encI 0 [(0, .ref (rid 0 1)), (1, .int a1)] [] (bd1 (up (p_X1_lose a1)) rt1)
  unfold p_X1_lose
  have hM0 := amPs.m0 hPs
  refine wu_ (wg_gM ?_)
  refine wg_aload_n (pc := 0) hX dX1_lose_0 0 rfl ?_
  refine wg_iload_n (pc := 1) hX dX1_lose_1 1 rfl ?_
  refine wu_ (wg_cVi (pc := 2) (As := [.int a1]) (rest := []) hX (m_X1_isRow a1) (by decide) (by decide) (by decide) rc_X1 (lw_V q1766 q1768 qs83 q159 q1769) hd_X1_isRow rfl (Nat.le_of_ble_eq_true rfl) (Nat.le_of_ble_eq_true rfl) (Nat.le_of_ble_eq_true rfl) rfl dX1_lose_2 fun v1 => ?_)
  refine wg_if_eq (pc := 5) (tgt := 17) hX dX1_lose_5 (by decide) (fun h2 => ?_) (fun h2 => ?_)
  · refine wu_t h2 ?_
    refine wg_iconst (pc := 17) (v := 0) hX dX1_lose_17 rfl ?_
    exact wu_rt (wg_zret (pc := 18) hX rfl (by decide) rfl dX1_lose_18)
  refine wu_f h2 ?_
  refine wg_aload_n (pc := 8) hX dX1_lose_8 0 rfl ?_
  refine wg_gK (pc := 9) hX hM0 fd_X1_136 (by decide) dX1_lose_9 ?_
  refine wg_iload_n (pc := 12) hX dX1_lose_12 1 rfl ?_
  refine wu_ (wg_rR (pc := 13) hX ar_53 (by decide) dX1_lose_13 fun r3 => ?_)
  refine wg_ifnonnull (pc := 14) (tgt := 19) hX (by decide) dX1_lose_14 (by decide) (fun h4 => ?_) (fun h4 => ?_)
  · refine wu_t h4 ?_
    refine wg_iconst (pc := 17) (v := 0) hX dX1_lose_17 rfl ?_
    exact wu_rt (wg_zret (pc := 18) hX rfl (by decide) rfl dX1_lose_18)
  refine wu_f h4 ?_
  refine wg_aload_n (pc := 19) hX dX1_lose_19 0 rfl ?_
  refine wg_gK (pc := 20) hX hM0 fd_X1_136 (by decide) dX1_lose_20 ?_
  refine wg_iload_n (pc := 23) hX dX1_lose_23 1 rfl ?_
  refine wg_null (pc := 24) (q := 11) hX (by decide) dX1_lose_24 ?_
  refine wu_ (wg_wR (pc := 25) hX ar_53 el_53 dX1_lose_25 ?_)
  refine wg_iconst (pc := 26) (v := 1) hX dX1_lose_26 rfl ?_
  exact wu_rt (wg_zret (pc := 27) hX rfl (by decide) rfl dX1_lose_27)
theorem m_X26_copy (r0 : Nat) (a1 : Int32) (a2 : Nat) (a3 : Int32) (a4 : Int32) : amMet yX26_copy cX26_copy 5 none 1 64 encV [.ref (rid 11 r0), .int a1, .ref (rid 11 a2), .int a3, .int a4] (up (p_X26_copy r0 a1 a2 a3 a4)) := by
  refine amMet.of (own := RX26) (by decide) rfl (Nat.le_of_ble_eq_true rfl) fun X hX hPs => ?_
  change WG X encV 0 [(0, .ref (rid 11 r0)), (1, .int a1), (2, .ref (rid 11 a2)), (3, .int a3), (4, .int a4)] [] (bd1 (up (p_X26_copy r0 a1 a2 a3 a4)) rt1)
  unfold p_X26_copy
  refine wg_aload_n (pc := 0) hX dX26_copy_0 0 rfl ?_
  refine wu_ (wg_gRs (pc := 1) hX fd_X26_9 dX26_copy_1 fun r1 => ?_)
  refine wg_iload_n (pc := 4) hX dX26_copy_4 1 rfl ?_
  refine wg_aload_n (pc := 5) hX dX26_copy_5 2 rfl ?_
  refine wu_ (wg_ck (pc := 6) hX ck_X26 q1848 dX26_copy_6 ?_)
  refine wu_ (wg_gRs (pc := 9) hX fd_X26_9 dX26_copy_9 fun r2 => ?_)
  refine wg_iload_n (pc := 12) hX dX26_copy_12 3 rfl ?_
  refine wg_iload (pc := 13) hX dX26_copy_13 4 rfl ?_
  refine wu_ (wg_cpI (pc := 15) hX ar_155 ar_155 rfl okI_ok q1849 q1684 q1683 q192 (Nat.le_of_ble_eq_true rfl) (Nat.le_of_ble_eq_true rfl) dX26_copy_15 ?_)
  exact wu_rt (wg_vret (pc := 18) hX rfl rfl dX26_copy_18)
theorem m_X1_isJudged (a1 : Int32) (a2 : Int32) (a3 : Int32) : amMet yX1_isJudged cX1_isJudged 4 (some .boolean) 3 75 encI [.ref (rid 0 1), .int a1, .int a2, .int a3] (up (p_X1_isJudged a1 a2 a3)) := by
  refine amMet.of (own := RX1) (by decide) rfl (Nat.le_of_ble_eq_true rfl) fun X hX hPs => ?_
  change WG X encI 0 [(0, .ref (rid 0 1)), (1, .int a1), (2, .int a2), (3, .int a3)] [] (bd1 (up (p_X1_isJudged a1 a2 a3)) rt1)
  unfold p_X1_isJudged
  have hM0 := amPs.m0 hPs
  refine wu_ (wg_gM ?_)
  refine wg_aload_n (pc := 0) hX dX1_isJudged_0 0 rfl ?_
  refine wg_iload_n (pc := 1) hX dX1_isJudged_1 1 rfl ?_
  refine wu_ (wg_cVi (pc := 2) (As := [.int a1]) (rest := []) hX (m_X1_isRow a1) (by decide) (by decide) (by decide) rc_X1 (lw_V q1766 q1768 qs83 q159 q1769) hd_X1_isRow rfl (Nat.le_of_ble_eq_true rfl) (Nat.le_of_ble_eq_true rfl) (Nat.le_of_ble_eq_true rfl) rfl dX1_isJudged_2 fun v1 => ?_)
  refine wu_jn (α := Unit) (pcJ := 42) (lJ := fun x => []) (sJ := fun x => []) (fun k2 hk2 => ?_) (fun z2 => ?_)
  · refine wg_if_eq (pc := 5) (tgt := 42) hX dX1_isJudged_5 (by decide) (fun h3 => ?_) (fun h3 => ?_)
    · refine wu_t h3 ?_
      refine wg_sub hX [] rfl ?_
      exact hk2 ()
    refine wu_f h3 ?_
    refine wg_aload_n (pc := 8) hX dX1_isJudged_8 0 rfl ?_
    refine wg_gK (pc := 9) hX hM0 fd_X1_136 (by decide) dX1_isJudged_9 ?_
    refine wg_iload_n (pc := 12) hX dX1_isJudged_12 1 rfl ?_
    refine wu_ (wg_rR (pc := 13) hX ar_53 (by decide) dX1_isJudged_13 fun r4 => ?_)
    refine wg_ifnull (pc := 14) (tgt := 42) hX (by decide) dX1_isJudged_14 (by decide) (fun h5 => ?_) (fun h5 => ?_)
    · refine wu_t h5 ?_
      refine wg_sub hX [] rfl ?_
      exact hk2 ()
    refine wu_f h5 ?_
    refine wg_iload_n (pc := 17) hX dX1_isJudged_17 2 rfl ?_
    refine wg_iconst (pc := 18) (v := 0) hX dX1_isJudged_18 rfl ?_
    refine wg_ldcw (pc := 19) hX dX1_isJudged_19 q1863 ?_
    refine wu_ (wg_cSi (pc := 22) (As := [.int a2, .int 0, .int 1048575]) (rest := []) hX (m_X1_in a2 0 1048575) (lw_S q471 q472 q159 q473) hd_X1_in rfl (Nat.le_of_ble_eq_true rfl) (Nat.le_of_ble_eq_true rfl) (Nat.le_of_ble_eq_true rfl) rfl dX1_isJudged_22 fun v6 => ?_)
    refine wg_if_eq (pc := 25) (tgt := 42) hX dX1_isJudged_25 (by decide) (fun h7 => ?_) (fun h7 => ?_)
    · refine wu_t h7 ?_
      refine wg_sub hX [] rfl ?_
      exact hk2 ()
    refine wu_f h7 ?_
    refine wg_iload_n (pc := 28) hX dX1_isJudged_28 3 rfl ?_
    refine wg_iconst (pc := 29) (v := 0) hX dX1_isJudged_29 rfl ?_
    refine wg_bipush (pc := 30) (v := 100) hX dX1_isJudged_30 rfl ?_
    refine wu_ (wg_cSi (pc := 32) (As := [.int a3, .int 0, .int 100]) (rest := []) hX (m_X1_in a3 0 100) (lw_S q471 q472 q159 q473) hd_X1_in rfl (Nat.le_of_ble_eq_true rfl) (Nat.le_of_ble_eq_true rfl) (Nat.le_of_ble_eq_true rfl) rfl dX1_isJudged_32 fun v8 => ?_)
    refine wg_if_eq (pc := 35) (tgt := 42) hX dX1_isJudged_35 (by decide) (fun h9 => ?_) (fun h9 => ?_)
    · refine wu_t h9 ?_
      refine wg_sub hX [] rfl ?_
      exact hk2 ()
    refine wu_f h9 ?_
    refine wg_iconst (pc := 38) (v := 1) hX dX1_isJudged_38 rfl ?_
    refine wg_goto (pc := 39) (tgt := 43) hX dX1_isJudged_39 (by decide) ?_
    exact wu_rt (wg_zret (pc := 43) hX rfl (by decide) rfl dX1_isJudged_43)
  refine wg_iconst (pc := 42) (v := 0) hX dX1_isJudged_42 rfl ?_
  exact wu_rt (wg_zret (pc := 43) hX rfl (by decide) rfl dX1_isJudged_43)
theorem m_X24_value (r0 : Nat) (a1 : Int32) : amMet yX24_value cX24_value 2 (some .double) 1 32 encD [.ref (rid 11 r0), .int a1] (up (p_X24_value r0 a1)) := by
  refine amMet.of (own := RX24) (by decide) rfl (Nat.le_of_ble_eq_true rfl) fun X hX hPs => ?_
  change WG X encD 0 [(0, .ref (rid 11 r0)), (1, .int a1)] [] (bd1 (up (p_X24_value r0 a1)) rt1)
  unfold p_X24_value
  refine wg_aload_n (pc := 0) hX dX24_value_0 0 rfl ?_
  refine wu_ (wg_gRs (pc := 1) hX fd_X24_9 dX24_value_1 fun r1 => ?_)
  refine wg_iload_n (pc := 4) hX dX24_value_4 1 rfl ?_
  refine wu_ (wg_rB (pc := 5) hX ar_153 dX24_value_5 fun v2 => ?_)
  refine wg_i2d (pc := 6) hX dX24_value_6 ?_
  exact wu_rt (wg_dret (pc := 7) hX rfl rfl dX24_value_7)
theorem m_X25_value (r0 : Nat) (a1 : Int32) : amMet yX25_value cX25_value 2 (some .double) 1 32 encD [.ref (rid 11 r0), .int a1] (up (p_X25_value r0 a1)) := by
  refine amMet.of (own := RX25) (by decide) rfl (Nat.le_of_ble_eq_true rfl) fun X hX hPs => ?_
  change WG X encD 0 [(0, .ref (rid 11 r0)), (1, .int a1)] [] (bd1 (up (p_X25_value r0 a1)) rt1)
  unfold p_X25_value
  refine wg_aload_n (pc := 0) hX dX25_value_0 0 rfl ?_
  refine wu_ (wg_gRs (pc := 1) hX fd_X25_9 dX25_value_1 fun r1 => ?_)
  refine wg_iload_n (pc := 4) hX dX25_value_4 1 rfl ?_
  refine wu_ (wg_rS (pc := 5) hX ar_154 dX25_value_5 fun v2 => ?_)
  refine wg_i2d (pc := 6) hX dX25_value_6 ?_
  exact wu_rt (wg_dret (pc := 7) hX rfl rfl dX25_value_7)
theorem m_X26_value (r0 : Nat) (a1 : Int32) : amMet yX26_value cX26_value 2 (some .double) 1 32 encD [.ref (rid 11 r0), .int a1] (up (p_X26_value r0 a1)) := by
  refine amMet.of (own := RX26) (by decide) rfl (Nat.le_of_ble_eq_true rfl) fun X hX hPs => ?_
  change WG X encD 0 [(0, .ref (rid 11 r0)), (1, .int a1)] [] (bd1 (up (p_X26_value r0 a1)) rt1)
  unfold p_X26_value
  refine wg_aload_n (pc := 0) hX dX26_value_0 0 rfl ?_
  refine wu_ (wg_gRs (pc := 1) hX fd_X26_9 dX26_value_1 fun r1 => ?_)
  refine wg_iload_n (pc := 4) hX dX26_value_4 1 rfl ?_
  refine wu_ (wg_rI (pc := 5) hX ar_155 dX26_value_5 fun v2 => ?_)
  refine wg_i2d (pc := 6) hX dX26_value_6 ?_
  exact wu_rt (wg_dret (pc := 7) hX rfl rfl dX26_value_7)
theorem m_X27_value (r0 : Nat) (a1 : Int32) : amMet yX27_value cX27_value 2 (some .double) 1 32 encD [.ref (rid 11 r0), .int a1] (up (p_X27_value r0 a1)) := by
  refine amMet.of (own := RX27) (by decide) rfl (Nat.le_of_ble_eq_true rfl) fun X hX hPs => ?_
  change WG X encD 0 [(0, .ref (rid 11 r0)), (1, .int a1)] [] (bd1 (up (p_X27_value r0 a1)) rt1)
  unfold p_X27_value
  refine wg_aload_n (pc := 0) hX dX27_value_0 0 rfl ?_
  refine wu_ (wg_gRs (pc := 1) hX fd_X27_9 dX27_value_1 fun r1 => ?_)
  refine wg_iload_n (pc := 4) hX dX27_value_4 1 rfl ?_
  refine wu_ (wg_rF (pc := 5) hX ar_156 dX27_value_5 fun v2 => ?_)
  refine wg_aload_n (pc := 6) hX dX27_value_6 0 rfl ?_
  refine wu_ (wg_gRs (pc := 7) hX fd_X27_9 dX27_value_7 fun r3 => ?_)
  refine wg_iload_n (pc := 10) hX dX27_value_10 1 rfl ?_
  refine wu_ (wg_rF (pc := 11) hX ar_156 dX27_value_11 fun v4 => ?_)
  refine wg_fcmp (pc := 12) hX dX27_value_12 ?_
  refine wg_if_eq (pc := 13) (tgt := 22) hX dX27_value_13 (by decide) (fun h5 => ?_) (fun h5 => ?_)
  rotate_left
  · refine wu_f h5 ?_
    refine wg_ldc2d (pc := 16) hX dX27_value_16 q1878 ?_
    refine wg_goto (pc := 19) (tgt := 29) hX dX27_value_19 (by decide) ?_
    exact wu_rt (wg_dret (pc := 29) hX rfl rfl dX27_value_29)
  refine wu_t h5 ?_
  refine wg_aload_n (pc := 22) hX dX27_value_22 0 rfl ?_
  refine wu_ (wg_gRs (pc := 23) hX fd_X27_9 dX27_value_23 fun r6 => ?_)
  refine wg_iload_n (pc := 26) hX dX27_value_26 1 rfl ?_
  refine wu_ (wg_rF (pc := 27) hX ar_156 dX27_value_27 fun v7 => ?_)
  refine wu_ (wg_gd fun h8 => ?_)
  refine wg_f2d (pc := 28) hX dX27_value_28 h8 ?_
  exact wu_rt (wg_dret (pc := 29) hX rfl rfl dX27_value_29)
theorem m_X1_judged (a1 : Nat) (a2 : Int32) (a3 : Int32) : amMet yX1_judged cX1_judged 9 (some .double) 2 57 encD [.ref (rid 0 1), .ref (rid 11 a1), .int a2, .int a3] (up (p_X1_judged a1 a2 a3)) := by
  refine amMet.of (own := RX1) (by decide) rfl (Nat.le_of_ble_eq_true rfl) fun X hX hPs => ?_
  change WG X encD 0 [(0, .ref (rid 0 1)), (1, .ref (rid 11 a1)), (2, .int a2), (3, .int a3)] [] (bd1 (up (p_X1_judged a1 a2 a3)) rt1)
  unfold p_X1_judged
  refine wg_dconst0 (pc := 0) hX dX1_judged_0 ?_
  refine wg_dstore (pc := 1) (l' := [(0, .ref (rid 0 1)), (1, .ref (rid 11 a1)), (2, .int a2), (3, .int a3), (4, .double FP.dconst0)]) hX dX1_judged_1 (by decide) rfl ?_
  refine wg_iconst (pc := 3) (v := 0) hX dX1_judged_3 rfl ?_
  refine wg_istore (pc := 4) (l' := [(0, .ref (rid 0 1)), (1, .ref (rid 11 a1)), (2, .int a2), (3, .int a3), (4, .double FP.dconst0), (6, .int 0)]) hX dX1_judged_4 (by decide) rfl ?_
  refine wu_lpx (α := UInt64 × Int32) (γ := UInt64) (pcl := 6) (pcT := 57) (lo := fun x => [(0, .ref (rid 0 1)), (1, .ref (rid 11 a1)), (2, .int a2), (3, .int a3), (4, .double x.1), (6, .int x.2)]) (so := fun _ => []) (lT := fun x => [(4, .double x)]) (sT := fun _ => []) (n := amFu) (x0 := (FP.dconst0, 0)) (fun K1 rec1 hrec1 hk1 x1 => ?_) (fun y2 => ?_)
  · unfold p_X1_judged_L6
    refine wg_iload (pc := 6) hX dX1_judged_6 5 rfl ?_
    refine wg_bipush (pc := 8) (v := 20) hX dX1_judged_8 rfl ?_
    refine wg_icmp_ge (pc := 10) (tgt := 57) hX dX1_judged_10 (by decide) (fun h3 => ?_) (fun h3 => ?_)
    · refine wu_t h3 ?_
      refine wg_sub hX [4] rfl ?_
      exact wu_rt (hk1 x1.1)
    refine wu_f h3 ?_
    refine wg_aload_n (pc := 13) hX dX1_judged_13 1 rfl ?_
    refine wg_iload (pc := 14) hX dX1_judged_14 5 rfl ?_
    refine wu_ (wg_vcdu (pc := 16) (x := ⟨"CityBrigade$Row", "value", "(I)D"⟩) (n := 1) (f := fun c => if c = 18 then p_X24_value a1 x1.2 else if c = 19 then p_X25_value a1 x1.2 else if c = 20 then p_X26_value a1 x1.2 else if c = 21 then p_X27_value a1 x1.2 else fl0) (As := [.int x1.2]) (rest := []) hX (by decide) (by decide) (fun c hc => by
          rcases am_mem4 hc with rfl | rfl | rfl | rfl
          · exact Or.inr ⟨RX24, TX24, 1, yX24_value, cX24_value, 2, (some .double), _, _, rfl, ⟨"CityBrigade$Row", lw_U q1869 q1871 q1872 q1873 q194 q1874, by decide +kernel, Or.inr q1870⟩, m_X24_value a1 x1.2, (Nat.le_of_ble_eq_true rfl), (Nat.le_of_ble_eq_true rfl)⟩
          · exact Or.inr ⟨RX25, TX25, 1, yX25_value, cX25_value, 2, (some .double), _, _, rfl, ⟨"CityBrigade$Row", lw_U q1869 q1871 q1882 q1883 q195 q1884, by decide +kernel, Or.inr q1870⟩, m_X25_value a1 x1.2, (Nat.le_of_ble_eq_true rfl), (Nat.le_of_ble_eq_true rfl)⟩
          · exact Or.inr ⟨RX26, TX26, 1, yX26_value, cX26_value, 2, (some .double), _, _, rfl, ⟨"CityBrigade$Row", lw_U q1869 q1871 q1879 q1880 q196 q1881, by decide +kernel, Or.inr q1870⟩, m_X26_value a1 x1.2, (Nat.le_of_ble_eq_true rfl), (Nat.le_of_ble_eq_true rfl)⟩
          · exact Or.inr ⟨RX27, TX27, 1, yX27_value, cX27_value, 2, (some .double), _, _, rfl, ⟨"CityBrigade$Row", lw_U q1869 q1871 q1875 q1876 q197 q1877, by decide +kernel, Or.inr q1870⟩, m_X27_value a1 x1.2, (Nat.le_of_ble_eq_true rfl), (Nat.le_of_ble_eq_true rfl)⟩) rfl (Nat.le_of_ble_eq_true rfl) rfl dX1_judged_16 fun v5 => ?_)
    refine wg_dstore (pc := 19) (l' := [(0, .ref (rid 0 1)), (1, .ref (rid 11 a1)), (2, .int a2), (3, .int a3), (4, .double x1.1), (6, .int x1.2), (7, .double v5)]) hX dX1_judged_19 (by decide) rfl ?_
    refine wg_dload (pc := 21) hX dX1_judged_21 6 rfl ?_
    refine wg_dload (pc := 23) hX dX1_judged_23 6 rfl ?_
    refine wg_dcmp (pc := 25) hX dX1_judged_25 ?_
    refine wu_jx (α := UInt64) (pcJ := 34) (lJ := fun x => [(0, .ref (rid 0 1)), (1, .ref (rid 11 a1)), (2, .int a2), (3, .int a3), (4, .double x1.1), (6, .int x1.2), (7, .double x)]) (sJ := fun x => []) (fun K6 hk6 => ?_) (fun z6 => ?_)
    · refine wg_if_eq (pc := 26) (tgt := 34) hX dX1_judged_26 (by decide) (fun h7 => ?_) (fun h7 => ?_)
      · refine wu_t h7 ?_
        exact wu_rt (hk6 v5)
      refine wu_f h7 ?_
      refine wg_ldc2d (pc := 29) hX dX1_judged_29 q1885 ?_
      refine wg_dstore (pc := 32) (l' := [(0, .ref (rid 0 1)), (1, .ref (rid 11 a1)), (2, .int a2), (3, .int a3), (4, .double x1.1), (6, .int x1.2), (7, .double 4652007308841189376)]) hX dX1_judged_32 (by decide) rfl ?_
      exact wu_rt (hk6 4652007308841189376)
    refine wg_dload (pc := 34) hX dX1_judged_34 4 rfl ?_
    refine wg_dload (pc := 36) hX dX1_judged_36 6 rfl ?_
    refine wg_aload_n (pc := 38) hX dX1_judged_38 0 rfl ?_
    refine wg_iload (pc := 39) hX dX1_judged_39 5 rfl ?_
    refine wg_iload_n (pc := 41) hX dX1_judged_41 2 rfl ?_
    refine wg_iload_n (pc := 42) hX dX1_judged_42 3 rfl ?_
    refine wu_ (wg_cVi (pc := 43) (As := [.int x1.2, .int a2, .int a3]) (rest := [.double z6, .double x1.1]) hX (m_X1_points x1.2 a2 a3) (by decide) (by decide) (by decide) rc_X1 (lw_V q1705 q1707 qs82 q159 q1708) hd_X1_points rfl (Nat.le_of_ble_eq_true rfl) (Nat.le_of_ble_eq_true rfl) (Nat.le_of_ble_eq_true rfl) rfl dX1_judged_43 fun v8 => ?_)
    refine wg_i2d (pc := 46) hX dX1_judged_46 ?_
    refine wu_ (wg_gd fun h9 => ?_)
    refine wg_dmul (pc := 47) hX dX1_judged_47 h9 ?_
    refine wu_ (wg_gd fun h10 => ?_)
    refine wg_dadd (pc := 48) hX dX1_judged_48 h10 ?_
    refine wu_ (wg_nmd hX fun v11 => ?_)
    refine wg_dstore (pc := 49) (l' := [(0, .ref (rid 0 1)), (1, .ref (rid 11 a1)), (2, .int a2), (3, .int a3), (4, .double v11), (6, .int x1.2), (7, .double z6)]) hX dX1_judged_49 (by decide) rfl ?_
    refine wg_iinc (pc := 51) (v := (x1.2 + 1)) (l' := [(0, .ref (rid 0 1)), (1, .ref (rid 11 a1)), (2, .int a2), (3, .int a3), (4, .double v11), (6, .int (x1.2 + 1)), (7, .double z6)]) hX dX1_judged_51 5 rfl rfl (by decide) rfl ?_
    refine wg_goto (pc := 54) (tgt := 6) hX dX1_judged_54 (by decide) ?_
    refine wg_sub hX [0, 1, 2, 3, 4, 5] rfl ?_
    exact hrec1 (v11, (x1.2 + 1))
  refine wg_dload (pc := 57) hX dX1_judged_57 0 rfl ?_
  exact wu_rt (wg_dret (pc := 59) hX rfl rfl dX1_judged_59)
theorem m_X1_judge (a1 : Int32) (a2 : Int32) (a3 : Int32) : amMet yX1_judge cX1_judge 4 (some .double) 4 98 encD [.ref (rid 0 1), .int a1, .int a2, .int a3] (up (p_X1_judge a1 a2 a3)) := by
  refine amMet.of (own := RX1) (by decide) rfl (Nat.le_of_ble_eq_true rfl) fun X hX hPs => ?_
  change WG X encD 0 [(0, .ref (rid 0 1)), (1, .int a1), (2, .int a2), (3, .int a3)] [] (bd1 (up (p_X1_judge a1 a2 a3)) rt1)
  unfold p_X1_judge
  have hM0 := amPs.m0 hPs
  refine wu_ (wg_gM ?_)
  refine wg_aload_n (pc := 0) hX dX1_judge_0 0 rfl ?_
  refine wg_iload_n (pc := 1) hX dX1_judge_1 1 rfl ?_
  refine wg_iload_n (pc := 2) hX dX1_judge_2 2 rfl ?_
  refine wg_iload_n (pc := 3) hX dX1_judge_3 3 rfl ?_
  refine wu_ (wg_cVi (pc := 4) (As := [.int a1, .int a2, .int a3]) (rest := []) hX (m_X1_isJudged a1 a2 a3) (by decide) (by decide) (by decide) rc_X1 (lw_V q1859 q1861 qs84 q159 q1862) hd_X1_isJudged rfl (Nat.le_of_ble_eq_true rfl) (Nat.le_of_ble_eq_true rfl) (Nat.le_of_ble_eq_true rfl) rfl dX1_judge_4 fun v1 => ?_)
  refine wg_if_ne (pc := 7) (tgt := 14) hX dX1_judge_7 (by decide) (fun h2 => ?_) (fun h2 => ?_)
  · refine wu_t h2 ?_
    refine wg_ldc2d (pc := 10) hX dX1_judge_10 q1864 ?_
    exact wu_rt (wg_dret (pc := 13) hX rfl rfl dX1_judge_13)
  refine wu_f h2 ?_
  refine wg_aload_n (pc := 14) hX dX1_judge_14 0 rfl ?_
  refine wu_ (wg_cVv (pc := 15) (As := []) (rest := []) hX (m_X1_survey) (by decide) (by decide) (by decide) rc_X1 (lw_V q1697 q1699 qs80 q159 q1700) hd_X1_survey rfl (Nat.le_of_ble_eq_true rfl) (Nat.le_of_ble_eq_true rfl) (Nat.le_of_ble_eq_true rfl) rfl dX1_judge_15 ?_)
  refine wg_aload_n (pc := 18) hX dX1_judge_18 0 rfl ?_
  refine wg_aload_n (pc := 19) hX dX1_judge_19 0 rfl ?_
  refine wg_gK (pc := 20) hX hM0 fd_X1_136 (by decide) dX1_judge_20 ?_
  refine wg_iload_n (pc := 23) hX dX1_judge_23 1 rfl ?_
  refine wu_ (wg_rR (pc := 24) hX ar_53 (by decide) dX1_judge_24 fun r3 => ?_)
  refine wg_iload_n (pc := 25) hX dX1_judge_25 2 rfl ?_
  refine wg_iload_n (pc := 26) hX dX1_judge_26 3 rfl ?_
  refine wu_ (wg_cVd (pc := 27) (As := [.ref (rid 11 r3), .int a2, .int a3]) (rest := []) hX (m_X1_judged r3 a2 a3) (by decide) (by decide) (by decide) rc_X1 (lw_V q1865 q1867 qs85 q159 q1868) hd_X1_judged rfl (Nat.le_of_ble_eq_true rfl) (Nat.le_of_ble_eq_true rfl) (Nat.le_of_ble_eq_true rfl) rfl dX1_judge_27 fun v4 => ?_)
  exact wu_rt (wg_dret (pc := 30) hX rfl rfl dX1_judge_30)
theorem m_X1_loss (a1 : Int32) (a2 : Int32) (a3 : Int32) (a4 : Int32) : amMet yX1_loss cX1_loss 5 (some .double) 4 98 encD [.ref (rid 0 1), .int a1, .int a2, .int a3, .int a4] (up (p_X1_loss a1 a2 a3 a4)) := by
  refine amMet.of (own := RX1) (by decide) rfl (Nat.le_of_ble_eq_true rfl) fun X hX hPs => ?_
  change WG X encD 0 [(0, .ref (rid 0 1)), (1, .int a1), (2, .int a2), (3, .int a3), (4, .int a4)] [] (bd1 (up (p_X1_loss a1 a2 a3 a4)) rt1)
  unfold p_X1_loss
  have hM0 := amPs.m0 hPs
  refine wu_ (wg_gM ?_)
  refine wg_aload_n (pc := 0) hX dX1_loss_0 0 rfl ?_
  refine wg_iload_n (pc := 1) hX dX1_loss_1 1 rfl ?_
  refine wg_iload_n (pc := 2) hX dX1_loss_2 2 rfl ?_
  refine wg_iload_n (pc := 3) hX dX1_loss_3 3 rfl ?_
  refine wu_ (wg_cVi (pc := 4) (As := [.int a1, .int a2, .int a3]) (rest := []) hX (m_X1_isJudged a1 a2 a3) (by decide) (by decide) (by decide) rc_X1 (lw_V q1859 q1861 qs84 q159 q1862) hd_X1_isJudged rfl (Nat.le_of_ble_eq_true rfl) (Nat.le_of_ble_eq_true rfl) (Nat.le_of_ble_eq_true rfl) rfl dX1_loss_4 fun v1 => ?_)
  refine wu_jn (α := Unit) (pcJ := 27) (lJ := fun x => []) (sJ := fun x => []) (fun k2 hk2 => ?_) (fun z2 => ?_)
  · refine wg_if_eq (pc := 7) (tgt := 27) hX dX1_loss_7 (by decide) (fun h3 => ?_) (fun h3 => ?_)
    · refine wu_t h3 ?_
      refine wg_sub hX [] rfl ?_
      exact hk2 ()
    refine wu_f h3 ?_
    refine wg_iload (pc := 10) hX dX1_loss_10 4 rfl ?_
    refine wu_ (wg_cSi (pc := 12) (As := [.int a4]) (rest := []) hX (m_X1_isCorner a4) (lw_S q468 q469 q159 q470) hd_X1_isCorner rfl (Nat.le_of_ble_eq_true rfl) (Nat.le_of_ble_eq_true rfl) (Nat.le_of_ble_eq_true rfl) rfl dX1_loss_12 fun v4 => ?_)
    refine wg_if_eq (pc := 15) (tgt := 27) hX dX1_loss_15 (by decide) (fun h5 => ?_) (fun h5 => ?_)
    · refine wu_t h5 ?_
      refine wg_sub hX [] rfl ?_
      exact hk2 ()
    refine wu_f h5 ?_
    refine wg_iload_n (pc := 18) hX dX1_loss_18 2 rfl ?_
    refine wg_iload (pc := 19) hX dX1_loss_19 4 rfl ?_
    refine wg_ishr (pc := 21) hX dX1_loss_21 ?_
    refine wg_iconst (pc := 22) (v := 1) hX dX1_loss_22 rfl ?_
    refine wg_iand (pc := 23) hX dX1_loss_23 ?_
    refine wg_if_ne (pc := 24) (tgt := 31) hX dX1_loss_24 (by decide) (fun h6 => ?_) (fun h6 => ?_)
    · refine wu_t h6 ?_
      refine wg_sub hX [] rfl ?_
      exact hk2 ()
    refine wu_f h6 ?_
    refine wg_aload_n (pc := 31) hX dX1_loss_31 0 rfl ?_
    refine wu_ (wg_cVv (pc := 32) (As := []) (rest := []) hX (m_X1_survey) (by decide) (by decide) (by decide) rc_X1 (lw_V q1697 q1699 qs80 q159 q1700) hd_X1_survey rfl (Nat.le_of_ble_eq_true rfl) (Nat.le_of_ble_eq_true rfl) (Nat.le_of_ble_eq_true rfl) rfl dX1_loss_32 ?_)
    refine wg_aload_n (pc := 35) hX dX1_loss_35 0 rfl ?_
    refine wg_aload_n (pc := 36) hX dX1_loss_36 0 rfl ?_
    refine wg_gK (pc := 37) hX hM0 fd_X1_136 (by decide) dX1_loss_37 ?_
    refine wg_iload_n (pc := 40) hX dX1_loss_40 1 rfl ?_
    refine wu_ (wg_rR (pc := 41) hX ar_53 (by decide) dX1_loss_41 fun r7 => ?_)
    refine wg_iload_n (pc := 42) hX dX1_loss_42 2 rfl ?_
    refine wg_iload_n (pc := 43) hX dX1_loss_43 3 rfl ?_
    refine wu_ (wg_cVd (pc := 44) (As := [.ref (rid 11 r7), .int a2, .int a3]) (rest := []) hX (m_X1_judged r7 a2 a3) (by decide) (by decide) (by decide) rc_X1 (lw_V q1865 q1867 qs85 q159 q1868) hd_X1_judged rfl (Nat.le_of_ble_eq_true rfl) (Nat.le_of_ble_eq_true rfl) (Nat.le_of_ble_eq_true rfl) rfl dX1_loss_44 fun v8 => ?_)
    refine wg_aload_n (pc := 47) hX dX1_loss_47 0 rfl ?_
    refine wg_aload_n (pc := 48) hX dX1_loss_48 0 rfl ?_
    refine wg_gK (pc := 49) hX hM0 fd_X1_136 (by decide) dX1_loss_49 ?_
    refine wg_iload_n (pc := 52) hX dX1_loss_52 1 rfl ?_
    refine wu_ (wg_rR (pc := 53) hX ar_53 (by decide) dX1_loss_53 fun r9 => ?_)
    refine wg_iload_n (pc := 54) hX dX1_loss_54 2 rfl ?_
    refine wg_iconst (pc := 55) (v := 1) hX dX1_loss_55 rfl ?_
    refine wg_iload (pc := 56) hX dX1_loss_56 4 rfl ?_
    refine wg_ishl (pc := 58) hX dX1_loss_58 ?_
    refine wg_iconst (pc := 59) (v := (-1)) hX dX1_loss_59 rfl ?_
    refine wg_ixor (pc := 60) hX dX1_loss_60 ?_
    refine wg_iand (pc := 61) hX dX1_loss_61 ?_
    refine wg_iload_n (pc := 62) hX dX1_loss_62 3 rfl ?_
    refine wu_ (wg_cVd (pc := 63) (As := [.ref (rid 11 r9), .int (a2 &&& (((1 : Int32) <<< (a4 &&& 31)) ^^^ (-1))), .int a3]) (rest := [.double v8]) hX (m_X1_judged r9 (a2 &&& (((1 : Int32) <<< (a4 &&& 31)) ^^^ (-1))) a3) (by decide) (by decide) (by decide) rc_X1 (lw_V q1865 q1867 qs85 q159 q1868) hd_X1_judged rfl (Nat.le_of_ble_eq_true rfl) (Nat.le_of_ble_eq_true rfl) (Nat.le_of_ble_eq_true rfl) rfl dX1_loss_63 fun v10 => ?_)
    refine wu_ (wg_gd fun h11 => ?_)
    refine wg_dsub (pc := 66) hX dX1_loss_66 h11 ?_
    exact wu_rt (wg_dret (pc := 67) hX rfl rfl dX1_loss_67)
  refine wg_ldc2d (pc := 27) hX dX1_loss_27 q1864 ?_
  exact wu_rt (wg_dret (pc := 30) hX rfl rfl dX1_loss_30)
theorem m_X6_take (r0 : Nat) (a1 : Nat) : amMet yX6_take cX6_take 2 none 1 64 encV [.ref (rid 4 r0), .ref (rid 4 a1)] (up (p_X6_take r0 a1)) := by
  refine amMet.of (own := RX6) (by decide) rfl (Nat.le_of_ble_eq_true rfl) fun X hX hPs => ?_
  change WG X encV 0 [(0, .ref (rid 4 r0)), (1, .ref (rid 4 a1))] [] (bd1 (up (p_X6_take r0 a1)) rt1)
  unfold p_X6_take
  refine wg_aload_n (pc := 0) hX dX6_take_0 1 rfl ?_
  refine wu_ (wg_gC (pc := 1) (v := a1) hX fd_X6_9 (by decide) rfl dX6_take_1 ?_)
  refine wg_iconst (pc := 4) (v := 0) hX dX6_take_4 rfl ?_
  refine wg_aload_n (pc := 5) hX dX6_take_5 0 rfl ?_
  refine wu_ (wg_gC (pc := 6) (v := r0) hX fd_X6_9 (by decide) rfl dX6_take_6 ?_)
  refine wg_iconst (pc := 9) (v := 0) hX dX6_take_9 rfl ?_
  refine wg_bipush (pc := 10) (v := 24) hX dX6_take_10 rfl ?_
  refine wu_ (wg_cpI (pc := 12) hX ar_145 ar_145 rfl okI_ok q1898 q1684 q1683 q192 (Nat.le_of_ble_eq_true rfl) (Nat.le_of_ble_eq_true rfl) dX6_take_12 ?_)
  refine wg_aload_n (pc := 15) hX dX6_take_15 1 rfl ?_
  refine wu_ (wg_gC (pc := 16) (v := a1) hX fd_X6_15 (by decide) rfl dX6_take_16 ?_)
  refine wg_iconst (pc := 19) (v := 0) hX dX6_take_19 rfl ?_
  refine wg_aload_n (pc := 20) hX dX6_take_20 0 rfl ?_
  refine wu_ (wg_gC (pc := 21) (v := r0) hX fd_X6_15 (by decide) rfl dX6_take_21 ?_)
  refine wg_iconst (pc := 24) (v := 0) hX dX6_take_24 rfl ?_
  refine wg_bipush (pc := 25) (v := 24) hX dX6_take_25 rfl ?_
  refine wu_ (wg_cpI (pc := 27) hX ar_146 ar_146 rfl okI_ok q1898 q1684 q1683 q192 (Nat.le_of_ble_eq_true rfl) (Nat.le_of_ble_eq_true rfl) dX6_take_27 ?_)
  refine wg_aload_n (pc := 30) hX dX6_take_30 1 rfl ?_
  refine wu_ (wg_gC (pc := 31) (v := a1) hX fd_X6_21 (by decide) rfl dX6_take_31 ?_)
  refine wg_iconst (pc := 34) (v := 0) hX dX6_take_34 rfl ?_
  refine wg_aload_n (pc := 35) hX dX6_take_35 0 rfl ?_
  refine wu_ (wg_gC (pc := 36) (v := r0) hX fd_X6_21 (by decide) rfl dX6_take_36 ?_)
  refine wg_iconst (pc := 39) (v := 0) hX dX6_take_39 rfl ?_
  refine wg_bipush (pc := 40) (v := 6) hX dX6_take_40 rfl ?_
  refine wu_ (wg_cpI (pc := 42) hX ar_148 ar_148 rfl okI_ok q1898 q1684 q1683 q192 (Nat.le_of_ble_eq_true rfl) (Nat.le_of_ble_eq_true rfl) dX6_take_42 ?_)
  refine wg_aload_n (pc := 45) hX dX6_take_45 1 rfl ?_
  refine wu_ (wg_gC (pc := 46) (v := a1) hX fd_X6_24 (by decide) rfl dX6_take_46 ?_)
  refine wg_iconst (pc := 49) (v := 0) hX dX6_take_49 rfl ?_
  refine wg_aload_n (pc := 50) hX dX6_take_50 0 rfl ?_
  refine wu_ (wg_gC (pc := 51) (v := r0) hX fd_X6_24 (by decide) rfl dX6_take_51 ?_)
  refine wg_iconst (pc := 54) (v := 0) hX dX6_take_54 rfl ?_
  refine wg_bipush (pc := 55) (v := 6) hX dX6_take_55 rfl ?_
  refine wu_ (wg_cpI (pc := 57) hX ar_149 ar_149 rfl okZ_ok q1898 q1684 q1683 q192 (Nat.le_of_ble_eq_true rfl) (Nat.le_of_ble_eq_true rfl) dX6_take_57 ?_)
  exact wu_rt (wg_vret (pc := 60) hX rfl rfl dX6_take_60)
theorem m_X1_what (a1 : Int32) (a2 : Int32) (a3 : Int32) (a4 : Int32) : amMet yX1_what cX1_what 8 (some .int) 5 136 encI [.ref (rid 0 1), .int a1, .int a2, .int a3, .int a4] (up (p_X1_what a1 a2 a3 a4)) := by
  refine amMet.of (own := RX1) (by decide) rfl (Nat.le_of_ble_eq_true rfl) fun X hX hPs => ?_
  change WG X encI 0 [(0, .ref (rid 0 1)), (1, .int a1), (2, .int a2), (3, .int a3), (4, .int a4)] [] (bd1 (up (p_X1_what a1 a2 a3 a4)) rt1)
  unfold p_X1_what
  have hM0 := amPs.m0 hPs
  refine wu_ (wg_gM ?_)
  refine wg_aload_n (pc := 0) hX dX1_what_0 0 rfl ?_
  refine wg_iload_n (pc := 1) hX dX1_what_1 1 rfl ?_
  refine wg_iload_n (pc := 2) hX dX1_what_2 2 rfl ?_
  refine wu_ (wg_cVi (pc := 3) (As := [.int a1, .int a2]) (rest := []) hX (m_X1_isRoom a1 a2) (by decide) (by decide) (by decide) rc_X1 (lw_V q705 q707 qs11 q159 q708) hd_X1_isRoom rfl (Nat.le_of_ble_eq_true rfl) (Nat.le_of_ble_eq_true rfl) (Nat.le_of_ble_eq_true rfl) rfl dX1_what_3 fun v1 => ?_)
  refine wg_if_eq (pc := 6) (tgt := 32) hX dX1_what_6 (by decide) (fun h2 => ?_) (fun h2 => ?_)
  · refine wu_t h2 ?_
    refine wg_iconst (pc := 32) (v := (-1)) hX dX1_what_32 rfl ?_
    exact wu_rt (wg_iret (pc := 33) hX rfl rfl dX1_what_33)
  refine wu_f h2 ?_
  refine wg_iload_n (pc := 9) hX dX1_what_9 3 rfl ?_
  refine wg_iconst (pc := 10) (v := 0) hX dX1_what_10 rfl ?_
  refine wg_sipush (pc := 11) (v := 500) hX dX1_what_11 rfl ?_
  refine wu_ (wg_cSi (pc := 14) (As := [.int a3, .int 0, .int 500]) (rest := []) hX (m_X1_in a3 0 500) (lw_S q471 q472 q159 q473) hd_X1_in rfl (Nat.le_of_ble_eq_true rfl) (Nat.le_of_ble_eq_true rfl) (Nat.le_of_ble_eq_true rfl) rfl dX1_what_14 fun v3 => ?_)
  refine wg_if_eq (pc := 17) (tgt := 32) hX dX1_what_17 (by decide) (fun h4 => ?_) (fun h4 => ?_)
  · refine wu_t h4 ?_
    refine wg_iconst (pc := 32) (v := (-1)) hX dX1_what_32 rfl ?_
    exact wu_rt (wg_iret (pc := 33) hX rfl rfl dX1_what_33)
  refine wu_f h4 ?_
  refine wg_iload (pc := 20) hX dX1_what_20 4 rfl ?_
  refine wg_iconst (pc := 22) (v := 1) hX dX1_what_22 rfl ?_
  refine wg_sipush (pc := 23) (v := 200) hX dX1_what_23 rfl ?_
  refine wu_ (wg_cSi (pc := 26) (As := [.int a4, .int 1, .int 200]) (rest := []) hX (m_X1_in a4 1 200) (lw_S q471 q472 q159 q473) hd_X1_in rfl (Nat.le_of_ble_eq_true rfl) (Nat.le_of_ble_eq_true rfl) (Nat.le_of_ble_eq_true rfl) rfl dX1_what_26 fun v5 => ?_)
  refine wg_if_ne (pc := 29) (tgt := 34) hX dX1_what_29 (by decide) (fun h6 => ?_) (fun h6 => ?_)
  · refine wu_t h6 ?_
    refine wg_iconst (pc := 32) (v := (-1)) hX dX1_what_32 rfl ?_
    exact wu_rt (wg_iret (pc := 33) hX rfl rfl dX1_what_33)
  refine wu_f h6 ?_
  refine wg_iconst (pc := 34) (v := 0) hX dX1_what_34 rfl ?_
  refine wg_istore (pc := 35) (l' := [(0, .ref (rid 0 1)), (1, .int a1), (2, .int a2), (3, .int a3), (4, .int a4), (5, .int 0)]) hX dX1_what_35 (by decide) rfl ?_
  refine wu_lpx (α := Int32) (γ := Unit) (pcl := 37) (pcT := 108) (lo := fun x => [(0, .ref (rid 0 1)), (1, .int a1), (2, .int a2), (3, .int a3), (4, .int a4), (5, .int x)]) (so := fun _ => []) (lT := fun x => [(0, .ref (rid 0 1)), (1, .int a1), (2, .int a2), (3, .int a3), (4, .int a4)]) (sT := fun _ => []) (n := amFu) (x0 := 0) (fun K7 rec7 hrec7 hk7 x7 => ?_) (fun y8 => ?_)
  · unfold p_X1_what_L37
    refine wg_iload (pc := 37) hX dX1_what_37 5 rfl ?_
    refine wg_aload_n (pc := 39) hX dX1_what_39 0 rfl ?_
    refine wu_ (wg_gI (pc := 40) hX fd_X1_199 dX1_what_40 fun v9 => ?_)
    refine wg_icmp_ge (pc := 43) (tgt := 108) hX dX1_what_43 (by decide) (fun h10 => ?_) (fun h10 => ?_)
    · refine wu_t h10 ?_
      refine wg_sub hX [0, 1, 2, 3, 4] rfl ?_
      exact wu_rt (hk7 ())
    refine wu_f h10 ?_
    refine wg_aload_n (pc := 46) hX dX1_what_46 0 rfl ?_
    refine wg_gK (pc := 47) hX hM0 fd_X1_30 (by decide) dX1_what_47 ?_
    refine wg_iload (pc := 50) hX dX1_what_50 5 rfl ?_
    refine wu_ (wg_rR (pc := 52) hX ar_24 (by decide) dX1_what_52 fun r11 => ?_)
    refine wu_ (wg_gC (pc := 53) (v := (2 * r11)) hX fd_X1_315 (by decide) rfl dX1_what_53 ?_)
    refine wg_aload_n (pc := 56) hX dX1_what_56 0 rfl ?_
    refine wg_gK (pc := 57) hX hM0 fd_X1_30 (by decide) dX1_what_57 ?_
    refine wg_iload (pc := 60) hX dX1_what_60 5 rfl ?_
    refine wu_ (wg_rR (pc := 62) hX ar_24 (by decide) dX1_what_62 fun r12 => ?_)
    refine wu_ (wg_gC (pc := 63) (v := (2 * r12 - 1)) hX fd_X1_235 (by decide) rfl dX1_what_63 ?_)
    refine wu_ (wg_gd fun h13 => ?_)
    refine wu_ (wg_cVv (pc := 66) (As := [.ref (rid 4 (2 * r12 - 1))]) (rest := []) hX (m_X6_take (2 * r11) (2 * r12 - 1)) (by decide) (by decide) h13 rc_X6 (lw_V q1894 q1895 q1896 q168 q1897) hd_X6_take rfl (Nat.le_of_ble_eq_true rfl) (Nat.le_of_ble_eq_true rfl) (Nat.le_of_ble_eq_true rfl) rfl dX1_what_66 ?_)
    refine wg_iconst (pc := 69) (v := 0) hX dX1_what_69 rfl ?_
    refine wg_istore (pc := 70) (l' := [(0, .ref (rid 0 1)), (1, .int a1), (2, .int a2), (3, .int a3), (4, .int a4), (5, .int x7), (6, .int 0)]) hX dX1_what_70 (by decide) rfl ?_
    refine wu_lpx (α := Int32) (γ := Unit) (pcl := 72) (pcT := 102) (lo := fun x => [(0, .ref (rid 0 1)), (1, .int a1), (2, .int a2), (3, .int a3), (4, .int a4), (5, .int x7), (6, .int x)]) (so := fun _ => []) (lT := fun x => [(0, .ref (rid 0 1)), (1, .int a1), (2, .int a2), (3, .int a3), (4, .int a4), (5, .int x7)]) (sT := fun _ => []) (n := amFu) (x0 := 0) (fun K14 rec14 hrec14 hk14 x14 => ?_) (fun y15 => ?_)
    · unfold p_X1_what_L72
      refine wg_iload (pc := 72) hX dX1_what_72 6 rfl ?_
      refine wg_bipush (pc := 74) (v := 24) hX dX1_what_74 rfl ?_
      refine wg_icmp_ge (pc := 76) (tgt := 102) hX dX1_what_76 (by decide) (fun h16 => ?_) (fun h16 => ?_)
      · refine wu_t h16 ?_
        refine wg_sub hX [0, 1, 2, 3, 4, 5] rfl ?_
        exact wu_rt (hk14 ())
      refine wu_f h16 ?_
      refine wg_aload_n (pc := 79) hX dX1_what_79 0 rfl ?_
      refine wg_gK (pc := 80) hX hM0 fd_X1_30 (by decide) dX1_what_80 ?_
      refine wg_iload (pc := 83) hX dX1_what_83 5 rfl ?_
      refine wu_ (wg_rR (pc := 85) hX ar_24 (by decide) dX1_what_85 fun r17 => ?_)
      refine wu_ (wg_gC (pc := 86) (v := (2 * r17)) hX fd_X1_315 (by decide) rfl dX1_what_86 ?_)
      refine wu_ (wg_gC (pc := 89) (v := (2 * r17)) hX fd_X1_332 (by decide) rfl dX1_what_89 ?_)
      refine wg_iload (pc := 92) hX dX1_what_92 6 rfl ?_
      refine wg_iconst (pc := 94) (v := 0) hX dX1_what_94 rfl ?_
      refine wu_ (wg_wI (pc := 95) hX ar_147 dX1_what_95 ?_)
      refine wg_iinc (pc := 96) (v := (x14 + 1)) (l' := [(0, .ref (rid 0 1)), (1, .int a1), (2, .int a2), (3, .int a3), (4, .int a4), (5, .int x7), (6, .int (x14 + 1))]) hX dX1_what_96 6 rfl rfl (by decide) rfl ?_
      refine wg_goto (pc := 99) (tgt := 72) hX dX1_what_99 (by decide) ?_
      exact hrec14 (x14 + 1)
    refine wg_iinc (pc := 102) (v := (x7 + 1)) (l' := [(0, .ref (rid 0 1)), (1, .int a1), (2, .int a2), (3, .int a3), (4, .int a4), (5, .int (x7 + 1))]) hX dX1_what_102 5 rfl rfl (by decide) rfl ?_
    refine wg_goto (pc := 105) (tgt := 37) hX dX1_what_105 (by decide) ?_
    exact hrec7 (x7 + 1)
  refine wg_aload_n (pc := 108) hX dX1_what_108 0 rfl ?_
  refine wg_gK (pc := 109) hX hM0 fd_X1_30 (by decide) dX1_what_109 ?_
  refine wg_iload_n (pc := 112) hX dX1_what_112 1 rfl ?_
  refine wu_ (wg_rR (pc := 113) hX ar_24 (by decide) dX1_what_113 fun r18 => ?_)
  refine wg_astore (pc := 114) (l' := [(0, .ref (rid 0 1)), (1, .int a1), (2, .int a2), (3, .int a3), (4, .int a4), (5, .ref (rid 3 r18))]) hX dX1_what_114 (by decide) rfl ?_
  refine wg_aload_n (pc := 116) hX dX1_what_116 0 rfl ?_
  refine wg_aload (pc := 117) hX dX1_what_117 5 rfl ?_
  refine wg_aload (pc := 119) hX dX1_what_119 5 rfl ?_
  refine wu_ (wg_gC (pc := 121) (v := (2 * r18)) hX fd_X1_315 (by decide) rfl dX1_what_121 ?_)
  refine wu_ (wg_cVi (pc := 124) (As := [.ref (rid 3 r18), .ref (rid 4 (2 * r18))]) (rest := []) hX (m_X1_burntOf r18 (2 * r18)) (by decide) (by decide) (by decide) rc_X1 (lw_V q731 q733 qs12 q159 q734) hd_X1_burntOf rfl (Nat.le_of_ble_eq_true rfl) (Nat.le_of_ble_eq_true rfl) (Nat.le_of_ble_eq_true rfl) rfl dX1_what_124 fun v19 => ?_)
  refine wg_istore (pc := 127) (l' := [(0, .ref (rid 0 1)), (1, .int a1), (2, .int a2), (3, .int a3), (4, .int a4), (5, .ref (rid 3 r18)), (6, .int v19)]) hX dX1_what_127 (by decide) rfl ?_
  refine wg_iconst (pc := 129) (v := 0) hX dX1_what_129 rfl ?_
  refine wg_istore (pc := 130) (l' := [(0, .ref (rid 0 1)), (1, .int a1), (2, .int a2), (3, .int a3), (4, .int a4), (5, .ref (rid 3 r18)), (6, .int v19), (7, .int 0)]) hX dX1_what_130 (by decide) rfl ?_
  refine wg_sub hX [0, 2, 3, 4, 5, 6, 7] rfl ?_
  refine wu_lpx (α := Int32) (γ := Unit) (pcl := 132) (pcT := 161) (lo := fun x => [(0, .ref (rid 0 1)), (2, .int a2), (3, .int a3), (4, .int a4), (5, .ref (rid 3 r18)), (6, .int v19), (7, .int x)]) (so := fun _ => []) (lT := fun x => [(0, .ref (rid 0 1)), (5, .ref (rid 3 r18)), (6, .int v19)]) (sT := fun _ => []) (n := amFu) (x0 := 0) (fun K20 rec20 hrec20 hk20 x20 => ?_) (fun y21 => ?_)
  · unfold p_X1_what_L132
    refine wg_iload (pc := 132) hX dX1_what_132 6 rfl ?_
    refine wg_iload (pc := 134) hX dX1_what_134 3 rfl ?_
    refine wg_icmp_ge (pc := 136) (tgt := 161) hX dX1_what_136 (by decide) (fun h22 => ?_) (fun h22 => ?_)
    · refine wu_t h22 ?_
      refine wg_sub hX [0, 4, 5] rfl ?_
      exact wu_rt (hk20 ())
    refine wu_f h22 ?_
    refine wg_aload (pc := 139) hX dX1_what_139 4 rfl ?_
    refine wu_ (wg_gC (pc := 141) (v := (2 * r18)) hX fd_X1_315 (by decide) rfl dX1_what_141 ?_)
    refine wu_ (wg_gC (pc := 144) (v := (2 * r18)) hX fd_X1_332 (by decide) rfl dX1_what_144 ?_)
    refine wg_iload_n (pc := 147) hX dX1_what_147 1 rfl ?_
    refine wg_iload_n (pc := 148) hX dX1_what_148 2 rfl ?_
    refine wu_ (wg_wI (pc := 149) hX ar_147 dX1_what_149 ?_)
    refine wg_aload_n (pc := 150) hX dX1_what_150 0 rfl ?_
    refine wg_iconst (pc := 151) (v := 1) hX dX1_what_151 rfl ?_
    refine wu_ (wg_cVv (pc := 152) (As := [.int 1]) (rest := []) hX (m_X1_change 1) (by decide) (by decide) (by decide) rc_X1 (lw_V q1544 q1546 qs58 q159 q1547) hd_X1_change rfl (Nat.le_of_ble_eq_true rfl) (Nat.le_of_ble_eq_true rfl) (Nat.le_of_ble_eq_true rfl) rfl dX1_what_152 ?_)
    refine wg_iinc (pc := 155) (v := (x20 + 1)) (l' := [(0, .ref (rid 0 1)), (2, .int a2), (3, .int a3), (4, .int a4), (5, .ref (rid 3 r18)), (6, .int v19), (7, .int (x20 + 1))]) hX dX1_what_155 6 rfl rfl (by decide) rfl ?_
    refine wg_goto (pc := 158) (tgt := 132) hX dX1_what_158 (by decide) ?_
    exact hrec20 (x20 + 1)
  refine wg_aload_n (pc := 161) hX dX1_what_161 0 rfl ?_
  refine wg_aload (pc := 162) hX dX1_what_162 1 rfl ?_
  refine wg_aload (pc := 164) hX dX1_what_164 1 rfl ?_
  refine wu_ (wg_gC (pc := 166) (v := (2 * r18)) hX fd_X1_315 (by decide) rfl dX1_what_166 ?_)
  refine wu_ (wg_cVi (pc := 169) (As := [.ref (rid 3 r18), .ref (rid 4 (2 * r18))]) (rest := []) hX (m_X1_burntOf r18 (2 * r18)) (by decide) (by decide) (by decide) rc_X1 (lw_V q731 q733 qs12 q159 q734) hd_X1_burntOf rfl (Nat.le_of_ble_eq_true rfl) (Nat.le_of_ble_eq_true rfl) (Nat.le_of_ble_eq_true rfl) rfl dX1_what_169 fun v23 => ?_)
  refine wg_iload (pc := 172) hX dX1_what_172 2 rfl ?_
  refine wg_isub (pc := 174) hX dX1_what_174 ?_
  exact wu_rt (wg_iret (pc := 175) hX rfl rfl dX1_what_175)
theorem m_X1_count (a1 : Int32) : amMet yX1_count cX1_count 9 (some .int) 1 32 encI [.ref (rid 0 1), .int a1] (up (p_X1_count a1)) := by
  refine amMet.of (own := RX1) (by decide) rfl (Nat.le_of_ble_eq_true rfl) fun X hX hPs => ?_
  change WG X encI 0 [(0, .ref (rid 0 1)), (1, .int a1)] [] (bd1 (up (p_X1_count a1)) rt1)
  unfold p_X1_count
  have hM0 := amPs.m0 hPs
  refine wu_ (wg_gM ?_)
  refine wg_iconst (pc := 0) (v := 0) hX dX1_count_0 rfl ?_
  refine wg_istore_n (pc := 1) (l' := [(0, .ref (rid 0 1)), (1, .int a1), (2, .int 0)]) hX dX1_count_1 (by decide) rfl ?_
  refine wg_iconst (pc := 2) (v := 0) hX dX1_count_2 rfl ?_
  refine wg_istore_n (pc := 3) (l' := [(0, .ref (rid 0 1)), (1, .int a1), (2, .int 0), (3, .int 0)]) hX dX1_count_3 (by decide) rfl ?_
  refine wg_iconst (pc := 4) (v := 0) hX dX1_count_4 rfl ?_
  refine wg_istore (pc := 5) (l' := [(0, .ref (rid 0 1)), (1, .int a1), (2, .int 0), (3, .int 0), (4, .int 0)]) hX dX1_count_5 (by decide) rfl ?_
  refine wg_iconst (pc := 7) (v := 0) hX dX1_count_7 rfl ?_
  refine wg_istore (pc := 8) (l' := [(0, .ref (rid 0 1)), (1, .int a1), (2, .int 0), (3, .int 0), (4, .int 0), (5, .int 0)]) hX dX1_count_8 (by decide) rfl ?_
  refine wg_iconst (pc := 10) (v := 0) hX dX1_count_10 rfl ?_
  refine wg_istore (pc := 11) (l' := [(0, .ref (rid 0 1)), (1, .int a1), (2, .int 0), (3, .int 0), (4, .int 0), (5, .int 0), (6, .int 0)]) hX dX1_count_11 (by decide) rfl ?_
  refine wg_iconst (pc := 13) (v := 0) hX dX1_count_13 rfl ?_
  refine wg_istore (pc := 14) (l' := [(0, .ref (rid 0 1)), (1, .int a1), (2, .int 0), (3, .int 0), (4, .int 0), (5, .int 0), (6, .int 0), (7, .int 0)]) hX dX1_count_14 (by decide) rfl ?_
  refine wg_iconst (pc := 16) (v := 0) hX dX1_count_16 rfl ?_
  refine wg_istore (pc := 17) (l' := [(0, .ref (rid 0 1)), (1, .int a1), (2, .int 0), (3, .int 0), (4, .int 0), (5, .int 0), (6, .int 0), (7, .int 0), (8, .int 0)]) hX dX1_count_17 (by decide) rfl ?_
  refine wu_lpx (α := Int32 × Int32 × Int32 × Int32) (γ := Int32 × Int32 × Int32) (pcl := 19) (pcT := 92) (lo := fun x => [(0, .ref (rid 0 1)), (1, .int a1), (2, .int x.1), (3, .int x.2.1), (4, .int x.2.2.1), (5, .int 0), (6, .int 0), (7, .int 0), (8, .int x.2.2.2)]) (so := fun _ => []) (lT := fun x => [(0, .ref (rid 0 1)), (1, .int a1), (2, .int x.1), (3, .int x.2.1), (4, .int x.2.2), (5, .int 0), (6, .int 0), (7, .int 0)]) (sT := fun _ => []) (n := amFu) (x0 := (0, 0, 0, 0)) (fun K1 rec1 hrec1 hk1 x1 => ?_) (fun y2 => ?_)
  · unfold p_X1_count_L19
    refine wg_iload (pc := 19) hX dX1_count_19 8 rfl ?_
    refine wg_aload_n (pc := 21) hX dX1_count_21 0 rfl ?_
    refine wu_ (wg_gI (pc := 22) hX fd_X1_587 dX1_count_22 fun v3 => ?_)
    refine wg_icmp_ge (pc := 25) (tgt := 92) hX dX1_count_25 (by decide) (fun h4 => ?_) (fun h4 => ?_)
    · refine wu_t h4 ?_
      refine wg_sub hX [0, 1, 2, 3, 4, 5, 6, 7] rfl ?_
      exact wu_rt (hk1 (x1.1, x1.2.1, x1.2.2.1))
    refine wu_f h4 ?_
    refine wg_iload_n (pc := 28) hX dX1_count_28 2 rfl ?_
    refine wg_aload_n (pc := 29) hX dX1_count_29 0 rfl ?_
    refine wg_gK (pc := 30) hX hM0 fd_X1_74 (by decide) dX1_count_30 ?_
    refine wg_iload (pc := 33) hX dX1_count_33 8 rfl ?_
    refine wu_ (wg_rR (pc := 35) hX ar_32 (by decide) dX1_count_35 fun r5 => ?_)
    refine wu_ (wg_gI (pc := 36) hX fd_X1_591 dX1_count_36 fun v6 => ?_)
    refine wu_jx (α := Int32) (pcJ := 47) (lJ := fun x => [(0, .ref (rid 0 1)), (1, .int a1), (3, .int x1.2.1), (4, .int x1.2.2.1), (5, .int 0), (6, .int 0), (7, .int 0), (8, .int x1.2.2.2)]) (sJ := fun x => [.int x, .int x1.1]) (fun K7 hk7 => ?_) (fun z7 => ?_)
    · refine wg_if_ne (pc := 39) (tgt := 46) hX dX1_count_39 (by decide) (fun h8 => ?_) (fun h8 => ?_)
      rotate_left
      · refine wu_f h8 ?_
        refine wg_iconst (pc := 46) (v := 0) hX dX1_count_46 rfl ?_
        refine wg_sub hX [0, 1, 3, 4, 5, 6, 7, 8] rfl ?_
        exact wu_rt (hk7 0)
      refine wu_t h8 ?_
      refine wg_iconst (pc := 42) (v := 1) hX dX1_count_42 rfl ?_
      refine wg_goto (pc := 43) (tgt := 47) hX dX1_count_43 (by decide) ?_
      refine wg_sub hX [0, 1, 3, 4, 5, 6, 7, 8] rfl ?_
      exact wu_rt (hk7 1)
    refine wg_iadd (pc := 47) hX dX1_count_47 ?_
    refine wu_ (wg_nmi hX fun v9 => ?_)
    refine wg_istore_n (pc := 48) (l' := [(0, .ref (rid 0 1)), (1, .int a1), (2, .int v9), (3, .int x1.2.1), (4, .int x1.2.2.1), (5, .int 0), (6, .int 0), (7, .int 0), (8, .int x1.2.2.2)]) hX dX1_count_48 (by decide) rfl ?_
    refine wg_iload_n (pc := 49) hX dX1_count_49 3 rfl ?_
    refine wg_aload_n (pc := 50) hX dX1_count_50 0 rfl ?_
    refine wg_gK (pc := 51) hX hM0 fd_X1_74 (by decide) dX1_count_51 ?_
    refine wg_iload (pc := 54) hX dX1_count_54 8 rfl ?_
    refine wu_ (wg_rR (pc := 56) hX ar_32 (by decide) dX1_count_56 fun r10 => ?_)
    refine wu_ (wg_gI (pc := 57) hX fd_X1_591 dX1_count_57 fun v11 => ?_)
    refine wg_iconst (pc := 60) (v := 2) hX dX1_count_60 rfl ?_
    refine wu_jx (α := Int32) (pcJ := 69) (lJ := fun x => [(0, .ref (rid 0 1)), (1, .int a1), (2, .int v9), (4, .int x1.2.2.1), (5, .int 0), (6, .int 0), (7, .int 0), (8, .int x1.2.2.2)]) (sJ := fun x => [.int x, .int x1.2.1]) (fun K12 hk12 => ?_) (fun z12 => ?_)
    · refine wg_icmp_ne (pc := 61) (tgt := 68) hX dX1_count_61 (by decide) (fun h13 => ?_) (fun h13 => ?_)
      rotate_left
      · refine wu_f h13 ?_
        refine wg_iconst (pc := 68) (v := 0) hX dX1_count_68 rfl ?_
        refine wg_sub hX [0, 1, 2, 4, 5, 6, 7, 8] rfl ?_
        exact wu_rt (hk12 0)
      refine wu_t h13 ?_
      refine wg_iconst (pc := 64) (v := 1) hX dX1_count_64 rfl ?_
      refine wg_goto (pc := 65) (tgt := 69) hX dX1_count_65 (by decide) ?_
      refine wg_sub hX [0, 1, 2, 4, 5, 6, 7, 8] rfl ?_
      exact wu_rt (hk12 1)
    refine wg_iadd (pc := 69) hX dX1_count_69 ?_
    refine wu_ (wg_nmi hX fun v14 => ?_)
    refine wg_istore_n (pc := 70) (l' := [(0, .ref (rid 0 1)), (1, .int a1), (2, .int v9), (3, .int v14), (4, .int x1.2.2.1), (5, .int 0), (6, .int 0), (7, .int 0), (8, .int x1.2.2.2)]) hX dX1_count_70 (by decide) rfl ?_
    refine wg_iload (pc := 71) hX dX1_count_71 4 rfl ?_
    refine wg_aload_n (pc := 73) hX dX1_count_73 0 rfl ?_
    refine wg_gK (pc := 74) hX hM0 fd_X1_74 (by decide) dX1_count_74 ?_
    refine wg_iload (pc := 77) hX dX1_count_77 8 rfl ?_
    refine wu_ (wg_rR (pc := 79) hX ar_32 (by decide) dX1_count_79 fun r15 => ?_)
    refine wu_ (wg_gI (pc := 80) hX fd_X1_643 dX1_count_80 fun v16 => ?_)
    refine wg_iadd (pc := 83) hX dX1_count_83 ?_
    refine wu_ (wg_nmi hX fun v17 => ?_)
    refine wg_istore (pc := 84) (l' := [(0, .ref (rid 0 1)), (1, .int a1), (2, .int v9), (3, .int v14), (4, .int v17), (5, .int 0), (6, .int 0), (7, .int 0), (8, .int x1.2.2.2)]) hX dX1_count_84 (by decide) rfl ?_
    refine wg_iinc (pc := 86) (v := (x1.2.2.2 + 1)) (l' := [(0, .ref (rid 0 1)), (1, .int a1), (2, .int v9), (3, .int v14), (4, .int v17), (5, .int 0), (6, .int 0), (7, .int 0), (8, .int (x1.2.2.2 + 1))]) hX dX1_count_86 8 rfl rfl (by decide) rfl ?_
    refine wg_goto (pc := 89) (tgt := 19) hX dX1_count_89 (by decide) ?_
    exact hrec1 (v9, v14, v17, (x1.2.2.2 + 1))
  refine wg_iconst (pc := 92) (v := 0) hX dX1_count_92 rfl ?_
  refine wg_istore (pc := 93) (l' := [(0, .ref (rid 0 1)), (1, .int a1), (2, .int y2.1), (3, .int y2.2.1), (4, .int y2.2.2), (5, .int 0), (6, .int 0), (7, .int 0), (8, .int 0)]) hX dX1_count_93 (by decide) rfl ?_
  refine wu_lpx (α := Int32 × Int32 × Int32) (γ := Int32 × Int32) (pcl := 95) (pcT := 140) (lo := fun x => [(0, .ref (rid 0 1)), (1, .int a1), (2, .int y2.1), (3, .int y2.2.1), (4, .int y2.2.2), (5, .int x.1), (6, .int x.2.1), (7, .int 0), (8, .int x.2.2)]) (so := fun _ => []) (lT := fun x => [(0, .ref (rid 0 1)), (1, .int a1), (2, .int y2.1), (3, .int y2.2.1), (4, .int y2.2.2), (5, .int x.1), (6, .int x.2), (7, .int 0)]) (sT := fun _ => []) (n := amFu) (x0 := (0, 0, 0)) (fun K18 rec18 hrec18 hk18 x18 => ?_) (fun y19 => ?_)
  · unfold p_X1_count_L95
    refine wg_iload (pc := 95) hX dX1_count_95 8 rfl ?_
    refine wg_aload_n (pc := 97) hX dX1_count_97 0 rfl ?_
    refine wu_ (wg_gI (pc := 98) hX fd_X1_199 dX1_count_98 fun v20 => ?_)
    refine wg_icmp_ge (pc := 101) (tgt := 140) hX dX1_count_101 (by decide) (fun h21 => ?_) (fun h21 => ?_)
    · refine wu_t h21 ?_
      refine wg_sub hX [0, 1, 2, 3, 4, 5, 6, 7] rfl ?_
      exact wu_rt (hk18 (x18.1, x18.2.1))
    refine wu_f h21 ?_
    refine wg_iload (pc := 104) hX dX1_count_104 5 rfl ?_
    refine wg_aload_n (pc := 106) hX dX1_count_106 0 rfl ?_
    refine wg_gK (pc := 107) hX hM0 fd_X1_30 (by decide) dX1_count_107 ?_
    refine wg_iload (pc := 110) hX dX1_count_110 8 rfl ?_
    refine wu_ (wg_rR (pc := 112) hX ar_24 (by decide) dX1_count_112 fun r22 => ?_)
    refine wu_ (wg_gI (pc := 113) hX fd_X1_292 dX1_count_113 fun v23 => ?_)
    refine wg_iadd (pc := 116) hX dX1_count_116 ?_
    refine wu_ (wg_nmi hX fun v24 => ?_)
    refine wg_istore (pc := 117) (l' := [(0, .ref (rid 0 1)), (1, .int a1), (2, .int y2.1), (3, .int y2.2.1), (4, .int y2.2.2), (5, .int v24), (6, .int x18.2.1), (7, .int 0), (8, .int x18.2.2)]) hX dX1_count_117 (by decide) rfl ?_
    refine wg_iload (pc := 119) hX dX1_count_119 6 rfl ?_
    refine wg_aload_n (pc := 121) hX dX1_count_121 0 rfl ?_
    refine wg_gK (pc := 122) hX hM0 fd_X1_30 (by decide) dX1_count_122 ?_
    refine wg_iload (pc := 125) hX dX1_count_125 8 rfl ?_
    refine wu_ (wg_rR (pc := 127) hX ar_24 (by decide) dX1_count_127 fun r25 => ?_)
    refine wu_ (wg_gI (pc := 128) hX fd_X1_295 dX1_count_128 fun v26 => ?_)
    refine wg_iadd (pc := 131) hX dX1_count_131 ?_
    refine wu_ (wg_nmi hX fun v27 => ?_)
    refine wg_istore (pc := 132) (l' := [(0, .ref (rid 0 1)), (1, .int a1), (2, .int y2.1), (3, .int y2.2.1), (4, .int y2.2.2), (5, .int v24), (6, .int v27), (7, .int 0), (8, .int x18.2.2)]) hX dX1_count_132 (by decide) rfl ?_
    refine wg_iinc (pc := 134) (v := (x18.2.2 + 1)) (l' := [(0, .ref (rid 0 1)), (1, .int a1), (2, .int y2.1), (3, .int y2.2.1), (4, .int y2.2.2), (5, .int v24), (6, .int v27), (7, .int 0), (8, .int (x18.2.2 + 1))]) hX dX1_count_134 8 rfl rfl (by decide) rfl ?_
    refine wg_goto (pc := 137) (tgt := 95) hX dX1_count_137 (by decide) ?_
    exact hrec18 (v24, v27, (x18.2.2 + 1))
  refine wg_iconst (pc := 140) (v := 0) hX dX1_count_140 rfl ?_
  refine wg_istore (pc := 141) (l' := [(0, .ref (rid 0 1)), (1, .int a1), (2, .int y2.1), (3, .int y2.2.1), (4, .int y2.2.2), (5, .int y19.1), (6, .int y19.2), (7, .int 0), (8, .int 0)]) hX dX1_count_141 (by decide) rfl ?_
  refine wu_lpx (α := Int32 × Int32) (γ := Int32) (pcl := 143) (pcT := 182) (lo := fun x => [(0, .ref (rid 0 1)), (1, .int a1), (2, .int y2.1), (3, .int y2.2.1), (4, .int y2.2.2), (5, .int y19.1), (6, .int y19.2), (7, .int x.1), (8, .int x.2)]) (so := fun _ => []) (lT := fun x => [(0, .ref (rid 0 1)), (1, .int a1), (2, .int y2.1), (3, .int y2.2.1), (4, .int y2.2.2), (5, .int y19.1), (6, .int y19.2), (7, .int x)]) (sT := fun _ => []) (n := amFu) (x0 := (0, 0)) (fun K28 rec28 hrec28 hk28 x28 => ?_) (fun y29 => ?_)
  · unfold p_X1_count_L143
    refine wg_iload (pc := 143) hX dX1_count_143 8 rfl ?_
    refine wg_aload_n (pc := 145) hX dX1_count_145 0 rfl ?_
    refine wu_ (wg_gI (pc := 146) hX fd_X1_365 dX1_count_146 fun v30 => ?_)
    refine wg_icmp_ge (pc := 149) (tgt := 182) hX dX1_count_149 (by decide) (fun h31 => ?_) (fun h31 => ?_)
    · refine wu_t h31 ?_
      refine wg_sub hX [0, 1, 2, 3, 4, 5, 6, 7] rfl ?_
      exact wu_rt (hk28 x28.1)
    refine wu_f h31 ?_
    refine wg_iload (pc := 152) hX dX1_count_152 7 rfl ?_
    refine wg_aload_n (pc := 154) hX dX1_count_154 0 rfl ?_
    refine wg_gK (pc := 155) hX hM0 fd_X1_48 (by decide) dX1_count_155 ?_
    refine wg_iload (pc := 158) hX dX1_count_158 8 rfl ?_
    refine wu_ (wg_rR (pc := 160) hX ar_28 (by decide) dX1_count_160 fun r32 => ?_)
    refine wu_ (wg_gI (pc := 161) hX fd_X1_389 dX1_count_161 fun v33 => ?_)
    refine wg_iconst (pc := 164) (v := 4) hX dX1_count_164 rfl ?_
    refine wu_jx (α := Int32) (pcJ := 173) (lJ := fun x => [(0, .ref (rid 0 1)), (1, .int a1), (2, .int y2.1), (3, .int y2.2.1), (4, .int y2.2.2), (5, .int y19.1), (6, .int y19.2), (8, .int x28.2)]) (sJ := fun x => [.int x, .int x28.1]) (fun K34 hk34 => ?_) (fun z34 => ?_)
    · refine wg_icmp_ne (pc := 165) (tgt := 172) hX dX1_count_165 (by decide) (fun h35 => ?_) (fun h35 => ?_)
      rotate_left
      · refine wu_f h35 ?_
        refine wg_iconst (pc := 172) (v := 0) hX dX1_count_172 rfl ?_
        refine wg_sub hX [0, 1, 2, 3, 4, 5, 6, 8] rfl ?_
        exact wu_rt (hk34 0)
      refine wu_t h35 ?_
      refine wg_iconst (pc := 168) (v := 1) hX dX1_count_168 rfl ?_
      refine wg_goto (pc := 169) (tgt := 173) hX dX1_count_169 (by decide) ?_
      refine wg_sub hX [0, 1, 2, 3, 4, 5, 6, 8] rfl ?_
      exact wu_rt (hk34 1)
    refine wg_iadd (pc := 173) hX dX1_count_173 ?_
    refine wu_ (wg_nmi hX fun v36 => ?_)
    refine wg_istore (pc := 174) (l' := [(0, .ref (rid 0 1)), (1, .int a1), (2, .int y2.1), (3, .int y2.2.1), (4, .int y2.2.2), (5, .int y19.1), (6, .int y19.2), (7, .int v36), (8, .int x28.2)]) hX dX1_count_174 (by decide) rfl ?_
    refine wg_iinc (pc := 176) (v := (x28.2 + 1)) (l' := [(0, .ref (rid 0 1)), (1, .int a1), (2, .int y2.1), (3, .int y2.2.1), (4, .int y2.2.2), (5, .int y19.1), (6, .int y19.2), (7, .int v36), (8, .int (x28.2 + 1))]) hX dX1_count_176 8 rfl rfl (by decide) rfl ?_
    refine wg_goto (pc := 179) (tgt := 143) hX dX1_count_179 (by decide) ?_
    exact hrec28 (v36, (x28.2 + 1))
  refine wg_iload_n (pc := 182) hX dX1_count_182 1 rfl ?_
  by_cases h37 : a1 = 0
  · refine wu_t h37 ?_
    refine wg_tableIn (pc := 183) hX dX1_count_183 (by rw [h37]; decide) (by rw [h37]; decide) (by rw [h37]; rfl) (by decide : ((183 : Nat) : Int) + 81 = ((264 : Nat) : Int)) ?_
    refine wg_aload_n (pc := 264) hX dX1_count_264 0 rfl ?_
    refine wu_ (wg_gI (pc := 265) hX fd_X1_415 dX1_count_265 fun v38 => ?_)
    exact wu_rt (wg_iret (pc := 268) hX rfl rfl dX1_count_268)
  refine wu_f h37 ?_
  by_cases h39 : a1 = 1
  · refine wu_t h39 ?_
    refine wg_tableIn (pc := 183) hX dX1_count_183 (by rw [h39]; decide) (by rw [h39]; decide) (by rw [h39]; rfl) (by decide : ((183 : Nat) : Int) + 86 = ((269 : Nat) : Int)) ?_
    refine wg_aload_n (pc := 269) hX dX1_count_269 0 rfl ?_
    refine wu_ (wg_gI (pc := 270) hX fd_X1_147 dX1_count_270 fun v40 => ?_)
    exact wu_rt (wg_iret (pc := 273) hX rfl rfl dX1_count_273)
  refine wu_f h39 ?_
  by_cases h41 : a1 = 2
  · refine wu_t h41 ?_
    refine wg_tableIn (pc := 183) hX dX1_count_183 (by rw [h41]; decide) (by rw [h41]; decide) (by rw [h41]; rfl) (by decide : ((183 : Nat) : Int) + 91 = ((274 : Nat) : Int)) ?_
    refine wg_aload_n (pc := 274) hX dX1_count_274 0 rfl ?_
    refine wu_ (wg_gI (pc := 275) hX fd_X1_199 dX1_count_275 fun v42 => ?_)
    exact wu_rt (wg_iret (pc := 278) hX rfl rfl dX1_count_278)
  refine wu_f h41 ?_
  by_cases h43 : a1 = 3
  · refine wu_t h43 ?_
    refine wg_tableIn (pc := 183) hX dX1_count_183 (by rw [h43]; decide) (by rw [h43]; decide) (by rw [h43]; rfl) (by decide : ((183 : Nat) : Int) + 96 = ((279 : Nat) : Int)) ?_
    refine wg_aload_n (pc := 279) hX dX1_count_279 0 rfl ?_
    refine wu_ (wg_gI (pc := 280) hX fd_X1_365 dX1_count_280 fun v44 => ?_)
    exact wu_rt (wg_iret (pc := 283) hX rfl rfl dX1_count_283)
  refine wu_f h43 ?_
  by_cases h45 : a1 = 4
  · refine wu_t h45 ?_
    refine wg_tableIn (pc := 183) hX dX1_count_183 (by rw [h45]; decide) (by rw [h45]; decide) (by rw [h45]; rfl) (by decide : ((183 : Nat) : Int) + 101 = ((284 : Nat) : Int)) ?_
    refine wg_aload_n (pc := 284) hX dX1_count_284 0 rfl ?_
    refine wu_ (wg_gI (pc := 285) hX fd_X1_587 dX1_count_285 fun v46 => ?_)
    exact wu_rt (wg_iret (pc := 288) hX rfl rfl dX1_count_288)
  refine wu_f h45 ?_
  by_cases h47 : a1 = 5
  · refine wu_t h47 ?_
    refine wg_tableIn (pc := 183) hX dX1_count_183 (by rw [h47]; decide) (by rw [h47]; decide) (by rw [h47]; rfl) (by decide : ((183 : Nat) : Int) + 106 = ((289 : Nat) : Int)) ?_
    refine wg_iload_n (pc := 289) hX dX1_count_289 2 rfl ?_
    exact wu_rt (wg_iret (pc := 290) hX rfl rfl dX1_count_290)
  refine wu_f h47 ?_
  by_cases h48 : a1 = 6
  · refine wu_t h48 ?_
    refine wg_tableIn (pc := 183) hX dX1_count_183 (by rw [h48]; decide) (by rw [h48]; decide) (by rw [h48]; rfl) (by decide : ((183 : Nat) : Int) + 108 = ((291 : Nat) : Int)) ?_
    refine wg_iload_n (pc := 291) hX dX1_count_291 3 rfl ?_
    exact wu_rt (wg_iret (pc := 292) hX rfl rfl dX1_count_292)
  refine wu_f h48 ?_
  by_cases h49 : a1 = 7
  · refine wu_t h49 ?_
    refine wg_tableIn (pc := 183) hX dX1_count_183 (by rw [h49]; decide) (by rw [h49]; decide) (by rw [h49]; rfl) (by decide : ((183 : Nat) : Int) + 110 = ((293 : Nat) : Int)) ?_
    refine wg_iload (pc := 293) hX dX1_count_293 4 rfl ?_
    exact wu_rt (wg_iret (pc := 295) hX rfl rfl dX1_count_295)
  refine wu_f h49 ?_
  by_cases h50 : a1 = 8
  · refine wu_t h50 ?_
    refine wg_tableIn (pc := 183) hX dX1_count_183 (by rw [h50]; decide) (by rw [h50]; decide) (by rw [h50]; rfl) (by decide : ((183 : Nat) : Int) + 113 = ((296 : Nat) : Int)) ?_
    refine wg_iload (pc := 296) hX dX1_count_296 5 rfl ?_
    exact wu_rt (wg_iret (pc := 298) hX rfl rfl dX1_count_298)
  refine wu_f h50 ?_
  by_cases h51 : a1 = 9
  · refine wu_t h51 ?_
    refine wg_tableIn (pc := 183) hX dX1_count_183 (by rw [h51]; decide) (by rw [h51]; decide) (by rw [h51]; rfl) (by decide : ((183 : Nat) : Int) + 116 = ((299 : Nat) : Int)) ?_
    refine wg_iload (pc := 299) hX dX1_count_299 6 rfl ?_
    exact wu_rt (wg_iret (pc := 301) hX rfl rfl dX1_count_301)
  refine wu_f h51 ?_
  by_cases h52 : a1 = 10
  · refine wu_t h52 ?_
    refine wg_tableIn (pc := 183) hX dX1_count_183 (by rw [h52]; decide) (by rw [h52]; decide) (by rw [h52]; rfl) (by decide : ((183 : Nat) : Int) + 119 = ((302 : Nat) : Int)) ?_
    refine wg_iload (pc := 302) hX dX1_count_302 7 rfl ?_
    exact wu_rt (wg_iret (pc := 304) hX rfl rfl dX1_count_304)
  refine wu_f h52 ?_
  by_cases h53 : a1 = 11
  · refine wu_t h53 ?_
    refine wg_tableIn (pc := 183) hX dX1_count_183 (by rw [h53]; decide) (by rw [h53]; decide) (by rw [h53]; rfl) (by decide : ((183 : Nat) : Int) + 122 = ((305 : Nat) : Int)) ?_
    refine wg_aload_n (pc := 305) hX dX1_count_305 0 rfl ?_
    refine wu_ (wg_gI (pc := 306) hX fd_X1_746 dX1_count_306 fun v54 => ?_)
    exact wu_rt (wg_iret (pc := 309) hX rfl rfl dX1_count_309)
  refine wu_f h53 ?_
  by_cases h55 : a1 = 12
  · refine wu_t h55 ?_
    refine wg_tableIn (pc := 183) hX dX1_count_183 (by rw [h55]; decide) (by rw [h55]; decide) (by rw [h55]; rfl) (by decide : ((183 : Nat) : Int) + 127 = ((310 : Nat) : Int)) ?_
    refine wg_aload_n (pc := 310) hX dX1_count_310 0 rfl ?_
    refine wu_ (wg_gI (pc := 311) hX fd_X1_580 dX1_count_311 fun v56 => ?_)
    exact wu_rt (wg_iret (pc := 314) hX rfl rfl dX1_count_314)
  refine wu_f h55 ?_
  by_cases h57 : a1 = 13
  · refine wu_t h57 ?_
    refine wg_tableIn (pc := 183) hX dX1_count_183 (by rw [h57]; decide) (by rw [h57]; decide) (by rw [h57]; rfl) (by decide : ((183 : Nat) : Int) + 132 = ((315 : Nat) : Int)) ?_
    refine wg_aload_n (pc := 315) hX dX1_count_315 0 rfl ?_
    refine wu_ (wg_gI (pc := 316) hX fd_X1_458 dX1_count_316 fun v58 => ?_)
    exact wu_rt (wg_iret (pc := 319) hX rfl rfl dX1_count_319)
  refine wu_f h57 ?_
  by_cases h59 : a1 = 14
  · refine wu_t h59 ?_
    refine wg_tableIn (pc := 183) hX dX1_count_183 (by rw [h59]; decide) (by rw [h59]; decide) (by rw [h59]; rfl) (by decide : ((183 : Nat) : Int) + 137 = ((320 : Nat) : Int)) ?_
    refine wg_aload_n (pc := 320) hX dX1_count_320 0 rfl ?_
    refine wu_ (wg_gI (pc := 321) hX fd_X1_356 dX1_count_321 fun v60 => ?_)
    exact wu_rt (wg_iret (pc := 324) hX rfl rfl dX1_count_324)
  refine wu_f h59 ?_
  by_cases h61 : a1 = 15
  · refine wu_t h61 ?_
    refine wg_tableIn (pc := 183) hX dX1_count_183 (by rw [h61]; decide) (by rw [h61]; decide) (by rw [h61]; rfl) (by decide : ((183 : Nat) : Int) + 142 = ((325 : Nat) : Int)) ?_
    refine wg_aload_n (pc := 325) hX dX1_count_325 0 rfl ?_
    refine wu_ (wg_gI (pc := 326) hX fd_X1_359 dX1_count_326 fun v62 => ?_)
    exact wu_rt (wg_iret (pc := 329) hX rfl rfl dX1_count_329)
  refine wu_f h61 ?_
  by_cases h63 : a1 = 16
  · refine wu_t h63 ?_
    refine wg_tableIn (pc := 183) hX dX1_count_183 (by rw [h63]; decide) (by rw [h63]; decide) (by rw [h63]; rfl) (by decide : ((183 : Nat) : Int) + 147 = ((330 : Nat) : Int)) ?_
    refine wg_aload_n (pc := 330) hX dX1_count_330 0 rfl ?_
    refine wu_ (wg_gI (pc := 331) hX fd_X1_826 dX1_count_331 fun v64 => ?_)
    exact wu_rt (wg_iret (pc := 334) hX rfl rfl dX1_count_334)
  refine wu_f h63 ?_
  refine wg_tableOut (pc := 183) hX dX1_count_183 (am_out17 h37 h39 h41 h43 h45 h47 h48 h49 h50 h51 h52 h53 h55 h57 h59 h61 h63) (by decide : ((183 : Nat) : Int) + 152 = ((335 : Nat) : Int)) ?_
  refine wg_iconst (pc := 335) (v := (-1)) hX dX1_count_335 rfl ?_
  exact wu_rt (wg_iret (pc := 336) hX rfl rfl dX1_count_336)
