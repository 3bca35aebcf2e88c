/-! the walks (printed by gen/build.py) -/
theorem m_X3_rests (a1 : Int32) (a2 : Int32) : amMet yX3_rests cX3_rests 3 none 1 32 encV [.ref (rid 1 1), .int a1, .int a2] (up (p_X3_rests a1 a2)) := by
  refine amMet.of (own := RX3) (by decide) rfl (Nat.le_of_ble_eq_true rfl) fun X hX hPs => ?_
  change WG X encV 0 [(0, .ref (rid 1 1)), (1, .int a1), (2, .int a2)] [] (bd1 (up (p_X3_rests a1 a2)) rt1)
  unfold p_X3_rests
  have hM0 := amPs.m0 hPs
  refine wu_ (wg_gM ?_)
  refine wg_aload_n (pc := 0) hX dX3_rests_0 0 rfl ?_
  refine wg_gK (pc := 1) hX hM0 fd_X3_128 (by decide) dX3_rests_1 ?_
  refine wg_iload_n (pc := 4) hX dX3_rests_4 1 rfl ?_
  refine wg_iconst (pc := 5) (v := 0) hX dX3_rests_5 rfl ?_
  refine wu_ (wg_wI (pc := 6) hX ar_94 dX3_rests_6 ?_)
  refine wg_aload_n (pc := 7) hX dX3_rests_7 0 rfl ?_
  refine wg_gK (pc := 8) hX hM0 fd_X3_131 (by decide) dX3_rests_8 ?_
  refine wg_iload_n (pc := 11) hX dX3_rests_11 1 rfl ?_
  refine wg_iload_n (pc := 12) hX dX3_rests_12 2 rfl ?_
  refine wu_ (wg_wI (pc := 13) hX ar_95 dX3_rests_13 ?_)
  refine wg_aload_n (pc := 14) hX dX3_rests_14 0 rfl ?_
  refine wg_gK (pc := 15) hX hM0 fd_X3_134 (by decide) dX3_rests_15 ?_
  refine wg_iload_n (pc := 18) hX dX3_rests_18 1 rfl ?_
  refine wg_iconst (pc := 19) (v := (-1)) hX dX3_rests_19 rfl ?_
  refine wu_ (wg_wI (pc := 20) hX ar_96 dX3_rests_20 ?_)
  refine wg_aload_n (pc := 21) hX dX3_rests_21 0 rfl ?_
  refine wg_gK (pc := 22) hX hM0 fd_X3_140 (by decide) dX3_rests_22 ?_
  refine wg_iload_n (pc := 25) hX dX3_rests_25 1 rfl ?_
  refine wg_iconst (pc := 26) (v := (-1)) hX dX3_rests_26 rfl ?_
  refine wu_ (wg_wI (pc := 27) hX ar_98 dX3_rests_27 ?_)
  refine wg_aload_n (pc := 28) hX dX3_rests_28 0 rfl ?_
  refine wg_gK (pc := 29) hX hM0 fd_X3_143 (by decide) dX3_rests_29 ?_
  refine wg_iload_n (pc := 32) hX dX3_rests_32 1 rfl ?_
  refine wg_iconst (pc := 33) (v := (-1)) hX dX3_rests_33 rfl ?_
  refine wu_ (wg_wI (pc := 34) hX ar_99 dX3_rests_34 ?_)
  exact wu_rt (wg_vret (pc := 35) hX rfl rfl dX3_rests_35)
theorem m_X3_heal (a1 : Int32) : amMet yX3_heal cX3_heal 2 (some .boolean) 2 54 encI [.ref (rid 1 1), .int a1] (up (p_X3_heal a1)) := by
  refine amMet.of (own := RX3) (by decide) rfl (Nat.le_of_ble_eq_true rfl) fun X hX hPs => ?_
  change WG X encI 0 [(0, .ref (rid 1 1)), (1, .int a1)] [] (bd1 (up (p_X3_heal a1)) rt1)
  unfold p_X3_heal
  have hM0 := amPs.m0 hPs
  refine wu_ (wg_gM ?_)
  refine wg_aload_n (pc := 0) hX dX3_heal_0 0 rfl ?_
  refine wg_iconst (pc := 1) (v := 0) hX dX3_heal_1 rfl ?_
  refine wu_ (wg_pI (pc := 2) hX fp_X3_297 (fun h => by cases h) dX3_heal_2 ?_)
  refine wg_aload_n (pc := 5) hX dX3_heal_5 0 rfl ?_
  refine wg_iload_n (pc := 6) hX dX3_heal_6 1 rfl ?_
  refine wu_ (wg_cVi (pc := 7) (As := [.int a1]) (rest := []) hX (m_X3_isCrew a1) (by decide) (by decide) (by decide) rc_X3 (lw_V q2441 q2443 qs101 q163 q2444) hd_X3_isCrew rfl (Nat.le_of_ble_eq_true rfl) (Nat.le_of_ble_eq_true rfl) (Nat.le_of_ble_eq_true rfl) rfl dX3_heal_7 fun v1 => ?_)
  refine wg_if_eq (pc := 10) (tgt := 23) hX dX3_heal_10 (by decide) (fun h2 => ?_) (fun h2 => ?_)
  · refine wu_t h2 ?_
    refine wg_iconst (pc := 23) (v := 0) hX dX3_heal_23 rfl ?_
    exact wu_rt (wg_zret (pc := 24) hX rfl (by decide) rfl dX3_heal_24)
  refine wu_f h2 ?_
  refine wg_aload_n (pc := 13) hX dX3_heal_13 0 rfl ?_
  refine wg_gK (pc := 14) hX hM0 fd_X3_128 (by decide) dX3_heal_14 ?_
  refine wg_iload_n (pc := 17) hX dX3_heal_17 1 rfl ?_
  refine wu_ (wg_rI (pc := 18) hX ar_94 dX3_heal_18 fun v3 => ?_)
  refine wg_iconst (pc := 19) (v := 4) hX dX3_heal_19 rfl ?_
  refine wg_icmp_eq (pc := 20) (tgt := 25) hX dX3_heal_20 (by decide) (fun h4 => ?_) (fun h4 => ?_)
  rotate_left
  · refine wu_f h4 ?_
    refine wg_iconst (pc := 23) (v := 0) hX dX3_heal_23 rfl ?_
    exact wu_rt (wg_zret (pc := 24) hX rfl (by decide) rfl dX3_heal_24)
  refine wu_t h4 ?_
  refine wg_aload_n (pc := 25) hX dX3_heal_25 0 rfl ?_
  refine wg_iload_n (pc := 26) hX dX3_heal_26 1 rfl ?_
  refine wg_aload_n (pc := 27) hX dX3_heal_27 0 rfl ?_
  refine wg_gK (pc := 28) hX hM0 fd_X3_110 (by decide) dX3_heal_28 ?_
  refine wg_iload_n (pc := 31) hX dX3_heal_31 1 rfl ?_
  refine wu_ (wg_rI (pc := 32) hX ar_88 dX3_heal_32 fun v5 => ?_)
  refine wu_ (wg_cVv (pc := 33) (As := [.int a1, .int v5]) (rest := []) hX (m_X3_rests a1 v5) (by decide) (by decide) (by decide) rc_X3 (lw_V q2449 q2451 qs102 q163 q2452) hd_X3_rests rfl (Nat.le_of_ble_eq_true rfl) (Nat.le_of_ble_eq_true rfl) (Nat.le_of_ble_eq_true rfl) rfl dX3_heal_33 ?_)
  refine wg_iconst (pc := 36) (v := 1) hX dX3_heal_36 rfl ?_
  exact wu_rt (wg_zret (pc := 37) hX rfl (by decide) rfl dX3_heal_37)
theorem m_X3_slowOf (a1 : Int32) : amMet yX3_slowOf cX3_slowOf 2 (some .int) 1 32 encI [.ref (rid 1 1), .int a1] (up (p_X3_slowOf a1)) := by
  refine amMet.of (own := RX3) (by decide) rfl (Nat.le_of_ble_eq_true rfl) fun X hX hPs => ?_
  change WG X encI 0 [(0, .ref (rid 1 1)), (1, .int a1)] [] (bd1 (up (p_X3_slowOf a1)) rt1)
  unfold p_X3_slowOf
  have hM0 := amPs.m0 hPs
  refine wu_ (wg_gM ?_)
  refine wg_aload_n (pc := 0) hX dX3_slowOf_0 0 rfl ?_
  refine wg_gK (pc := 1) hX hM0 fd_X3_113 (by decide) dX3_slowOf_1 ?_
  refine wg_iload_n (pc := 4) hX dX3_slowOf_4 1 rfl ?_
  refine wu_ (wg_rI (pc := 5) hX ar_89 dX3_slowOf_5 fun v1 => ?_)
  refine wg_aload_n (pc := 6) hX dX3_slowOf_6 0 rfl ?_
  refine wg_gK (pc := 7) hX hM0 fd_X3_164 (by decide) dX3_slowOf_7 ?_
  refine wg_iload_n (pc := 10) hX dX3_slowOf_10 1 rfl ?_
  refine wu_ (wg_rZ (pc := 11) hX ar_106 dX3_slowOf_11 fun v2 => ?_)
  refine wu_jx (α := Int32) (pcJ := 27) (lJ := fun x => []) (sJ := fun x => [.int x, .int v1]) (fun K3 hk3 => ?_) (fun z3 => ?_)
  · refine wg_if_eq (pc := 12) (tgt := 26) hX dX3_slowOf_12 (by decide) (fun h4 => ?_) (fun h4 => ?_)
    · refine wu_t h4 ?_
      refine wg_iconst (pc := 26) (v := 0) hX dX3_slowOf_26 rfl ?_
      refine wg_sub hX [] rfl ?_
      exact wu_rt (hk3 0)
    refine wu_f h4 ?_
    refine wg_aload_n (pc := 15) hX dX3_slowOf_15 0 rfl ?_
    refine wg_gK (pc := 16) hX hM0 fd_X3_146 (by decide) dX3_slowOf_16 ?_
    refine wg_iload_n (pc := 19) hX dX3_slowOf_19 1 rfl ?_
    refine wu_ (wg_rI (pc := 20) hX ar_100 dX3_slowOf_20 fun v5 => ?_)
    refine wg_iconst (pc := 21) (v := 3) hX dX3_slowOf_21 rfl ?_
    refine wg_idiv (pc := 22) hX dX3_slowOf_22 (by decide) ?_
    refine wg_goto (pc := 23) (tgt := 27) hX dX3_slowOf_23 (by decide) ?_
    refine wg_sub hX [] rfl ?_
    exact wu_rt (hk3 (v5 / 3))
  refine wg_iadd (pc := 27) hX dX3_slowOf_27 ?_
  exact wu_rt (wg_iret (pc := 28) hX rfl rfl dX3_slowOf_28)
theorem m_X3_turns (a1 : Int32) (a2 : Int32) : amMet yX3_turns cX3_turns 4 none 3 82 encV [.ref (rid 1 1), .int a1, .int a2] (up (p_X3_turns a1 a2)) := by
  refine amMet.of (own := RX3) (by decide) rfl (Nat.le_of_ble_eq_true rfl) fun X hX hPs => ?_
  change WG X encV 0 [(0, .ref (rid 1 1)), (1, .int a1), (2, .int a2)] [] (bd1 (up (p_X3_turns a1 a2)) rt1)
  unfold p_X3_turns
  have hM0 := amPs.m0 hPs
  refine wu_ (wg_gM ?_)
  refine wg_aload_n (pc := 0) hX dX3_turns_0 0 rfl ?_
  refine wg_iload_n (pc := 1) hX dX3_turns_1 2 rfl ?_
  refine wg_aload_n (pc := 2) hX dX3_turns_2 0 rfl ?_
  refine wg_gK (pc := 3) hX hM0 fd_X3_110 (by decide) dX3_turns_3 ?_
  refine wg_iload_n (pc := 6) hX dX3_turns_6 1 rfl ?_
  refine wu_ (wg_rI (pc := 7) hX ar_88 dX3_turns_7 fun v1 => ?_)
  refine wg_aload_n (pc := 8) hX dX3_turns_8 0 rfl ?_
  refine wu_ (wg_gI (pc := 9) hX fd_X3_395 dX3_turns_9 fun v2 => ?_)
  refine wg_aload_n (pc := 12) hX dX3_turns_12 0 rfl ?_
  refine wg_iload_n (pc := 13) hX dX3_turns_13 1 rfl ?_
  refine wu_ (wg_cVi (pc := 14) (As := [.int a1]) (rest := [.int v2, .int v1, .int a2, .ref (rid 1 1)]) hX (m_X3_slowOf a1) (by decide) (by decide) (by decide) rc_X3 (lw_V q2461 q2463 qs104 q163 q2464) hd_X3_slowOf rfl (Nat.le_of_ble_eq_true rfl) (Nat.le_of_ble_eq_true rfl) (Nat.le_of_ble_eq_true rfl) rfl dX3_turns_14 fun v3 => ?_)
  refine wu_ (wg_cVi (pc := 17) (As := [.int a2, .int v1, .int v2, .int v3]) (rest := []) hX (m_X3_comeBy a2 v1 v2 v3) (by decide) (by decide) (by decide) rc_X3 (lw_V q2337 q2339 qs88 q163 q2340) hd_X3_comeBy rfl (Nat.le_of_ble_eq_true rfl) (Nat.le_of_ble_eq_true rfl) (Nat.le_of_ble_eq_true rfl) rfl dX3_turns_17 fun v4 => ?_)
  refine wg_istore_n (pc := 20) (l' := [(0, .ref (rid 1 1)), (1, .int a1), (2, .int a2), (3, .int v4)]) hX dX3_turns_20 (by decide) rfl ?_
  refine wg_aload_n (pc := 21) hX dX3_turns_21 0 rfl ?_
  refine wg_iload_n (pc := 22) hX dX3_turns_22 1 rfl ?_
  refine wg_aload_n (pc := 23) hX dX3_turns_23 0 rfl ?_
  refine wg_gK (pc := 24) hX hM0 fd_X3_110 (by decide) dX3_turns_24 ?_
  refine wg_iload_n (pc := 27) hX dX3_turns_27 1 rfl ?_
  refine wu_ (wg_rI (pc := 28) hX ar_88 dX3_turns_28 fun v5 => ?_)
  refine wu_ (wg_cVv (pc := 29) (As := [.int a1, .int v5]) (rest := []) hX (m_X3_rests a1 v5) (by decide) (by decide) (by decide) rc_X3 (lw_V q2449 q2451 qs102 q163 q2452) hd_X3_rests rfl (Nat.le_of_ble_eq_true rfl) (Nat.le_of_ble_eq_true rfl) (Nat.le_of_ble_eq_true rfl) rfl dX3_turns_29 ?_)
  refine wg_iload_n (pc := 32) hX dX3_turns_32 3 rfl ?_
  refine wg_iconst (pc := 33) (v := (-1)) hX dX3_turns_33 rfl ?_
  refine wg_icmp_eq (pc := 34) (tgt := 45) hX dX3_turns_34 (by decide) (fun h6 => ?_) (fun h6 => ?_)
  · refine wu_t h6 ?_
    exact wu_rt (wg_vret (pc := 45) hX rfl rfl dX3_turns_45)
  refine wu_f h6 ?_
  refine wg_iload_n (pc := 37) hX dX3_turns_37 3 rfl ?_
  refine wg_aload_n (pc := 38) hX dX3_turns_38 0 rfl ?_
  refine wu_ (wg_gI (pc := 39) hX fd_X3_395 dX3_turns_39 fun v7 => ?_)
  refine wg_icmp_ne (pc := 42) (tgt := 46) hX dX3_turns_42 (by decide) (fun h8 => ?_) (fun h8 => ?_)
  · refine wu_t h8 ?_
    exact wu_rt (wg_vret (pc := 45) hX rfl rfl dX3_turns_45)
  refine wu_f h8 ?_
  refine wg_aload_n (pc := 46) hX dX3_turns_46 0 rfl ?_
  refine wg_gK (pc := 47) hX hM0 fd_X3_128 (by decide) dX3_turns_47 ?_
  refine wg_iload_n (pc := 50) hX dX3_turns_50 1 rfl ?_
  refine wg_iconst (pc := 51) (v := 3) hX dX3_turns_51 rfl ?_
  refine wu_ (wg_wI (pc := 52) hX ar_94 dX3_turns_52 ?_)
  refine wg_aload_n (pc := 53) hX dX3_turns_53 0 rfl ?_
  refine wg_gK (pc := 54) hX hM0 fd_X3_134 (by decide) dX3_turns_54 ?_
  refine wg_iload_n (pc := 57) hX dX3_turns_57 1 rfl ?_
  refine wg_iload_n (pc := 58) hX dX3_turns_58 3 rfl ?_
  refine wu_ (wg_wI (pc := 59) hX ar_96 dX3_turns_59 ?_)
  exact wu_rt (wg_vret (pc := 60) hX rfl rfl dX3_turns_60)
theorem m_X3_recall (a1 : Int32) : amMet yX3_recall cX3_recall 2 (some .boolean) 4 105 encI [.ref (rid 1 1), .int a1] (up (p_X3_recall a1)) := by
  refine amMet.of (own := RX3) (by decide) rfl (Nat.le_of_ble_eq_true rfl) fun X hX hPs => ?_
  change WG X encI 0 [(0, .ref (rid 1 1)), (1, .int a1)] [] (bd1 (up (p_X3_recall a1)) rt1)
  unfold p_X3_recall
  have hM0 := amPs.m0 hPs
  refine wu_ (wg_gM ?_)
  refine wg_aload_n (pc := 0) hX dX3_recall_0 0 rfl ?_
  refine wg_iconst (pc := 1) (v := 0) hX dX3_recall_1 rfl ?_
  refine wu_ (wg_pI (pc := 2) hX fp_X3_297 (fun h => by cases h) dX3_recall_2 ?_)
  refine wg_aload_n (pc := 5) hX dX3_recall_5 0 rfl ?_
  refine wg_iload_n (pc := 6) hX dX3_recall_6 1 rfl ?_
  refine wu_ (wg_cVi (pc := 7) (As := [.int a1]) (rest := []) hX (m_X3_isCrew a1) (by decide) (by decide) (by decide) rc_X3 (lw_V q2441 q2443 qs101 q163 q2444) hd_X3_isCrew rfl (Nat.le_of_ble_eq_true rfl) (Nat.le_of_ble_eq_true rfl) (Nat.le_of_ble_eq_true rfl) rfl dX3_recall_7 fun v1 => ?_)
  refine wg_if_eq (pc := 10) (tgt := 37) hX dX3_recall_10 (by decide) (fun h2 => ?_) (fun h2 => ?_)
  · refine wu_t h2 ?_
    refine wg_iconst (pc := 37) (v := 0) hX dX3_recall_37 rfl ?_
    exact wu_rt (wg_zret (pc := 38) hX rfl (by decide) rfl dX3_recall_38)
  refine wu_f h2 ?_
  refine wg_aload_n (pc := 13) hX dX3_recall_13 0 rfl ?_
  refine wg_gK (pc := 14) hX hM0 fd_X3_128 (by decide) dX3_recall_14 ?_
  refine wg_iload_n (pc := 17) hX dX3_recall_17 1 rfl ?_
  refine wu_ (wg_rI (pc := 18) hX ar_94 dX3_recall_18 fun v3 => ?_)
  refine wg_if_ne (pc := 19) (tgt := 37) hX dX3_recall_19 (by decide) (fun h4 => ?_) (fun h4 => ?_)
  rotate_left
  · refine wu_f h4 ?_
    refine wg_iconst (pc := 37) (v := 0) hX dX3_recall_37 rfl ?_
    exact wu_rt (wg_zret (pc := 38) hX rfl (by decide) rfl dX3_recall_38)
  refine wu_t h4 ?_
  refine wg_aload_n (pc := 22) hX dX3_recall_22 0 rfl ?_
  refine wg_gK (pc := 23) hX hM0 fd_X3_131 (by decide) dX3_recall_23 ?_
  refine wg_iload_n (pc := 26) hX dX3_recall_26 1 rfl ?_
  refine wu_ (wg_rI (pc := 27) hX ar_95 dX3_recall_27 fun v5 => ?_)
  refine wg_aload_n (pc := 28) hX dX3_recall_28 0 rfl ?_
  refine wg_gK (pc := 29) hX hM0 fd_X3_110 (by decide) dX3_recall_29 ?_
  refine wg_iload_n (pc := 32) hX dX3_recall_32 1 rfl ?_
  refine wu_ (wg_rI (pc := 33) hX ar_88 dX3_recall_33 fun v6 => ?_)
  refine wg_icmp_ne (pc := 34) (tgt := 39) hX dX3_recall_34 (by decide) (fun h7 => ?_) (fun h7 => ?_)
  · refine wu_t h7 ?_
    refine wg_iconst (pc := 37) (v := 0) hX dX3_recall_37 rfl ?_
    exact wu_rt (wg_zret (pc := 38) hX rfl (by decide) rfl dX3_recall_38)
  refine wu_f h7 ?_
  refine wg_aload_n (pc := 39) hX dX3_recall_39 0 rfl ?_
  refine wg_iload_n (pc := 40) hX dX3_recall_40 1 rfl ?_
  refine wg_aload_n (pc := 41) hX dX3_recall_41 0 rfl ?_
  refine wg_gK (pc := 42) hX hM0 fd_X3_131 (by decide) dX3_recall_42 ?_
  refine wg_iload_n (pc := 45) hX dX3_recall_45 1 rfl ?_
  refine wu_ (wg_rI (pc := 46) hX ar_95 dX3_recall_46 fun v8 => ?_)
  refine wu_ (wg_cVv (pc := 47) (As := [.int a1, .int v8]) (rest := []) hX (m_X3_turns a1 v8) (by decide) (by decide) (by decide) rc_X3 (lw_V q2457 q2459 qs103 q163 q2460) hd_X3_turns rfl (Nat.le_of_ble_eq_true rfl) (Nat.le_of_ble_eq_true rfl) (Nat.le_of_ble_eq_true rfl) rfl dX3_recall_47 ?_)
  refine wg_iconst (pc := 50) (v := 1) hX dX3_recall_50 rfl ?_
  exact wu_rt (wg_zret (pc := 51) hX rfl (by decide) rfl dX3_recall_51)
theorem m_X3_about (a1 : Int32) (a2 : Int32) : amMet yX3_about cX3_about 3 (some .int) 2 54 encI [.ref (rid 1 1), .int a1, .int a2] (up (p_X3_about a1 a2)) := by
  refine amMet.of (own := RX3) (by decide) rfl (Nat.le_of_ble_eq_true rfl) fun X hX hPs => ?_
  change WG X encI 0 [(0, .ref (rid 1 1)), (1, .int a1), (2, .int a2)] [] (bd1 (up (p_X3_about a1 a2)) rt1)
  unfold p_X3_about
  have hM0 := amPs.m0 hPs
  refine wu_ (wg_gM ?_)
  refine wg_aload_n (pc := 0) hX dX3_about_0 0 rfl ?_
  refine wg_aload_n (pc := 1) hX dX3_about_1 0 rfl ?_
  refine wg_iload_n (pc := 2) hX dX3_about_2 1 rfl ?_
  refine wu_ (wg_cVi (pc := 3) (As := [.int a1]) (rest := [.ref (rid 1 1)]) hX (m_X3_isCrew a1) (by decide) (by decide) (by decide) rc_X3 (lw_V q2441 q2443 qs101 q163 q2444) hd_X3_isCrew rfl (Nat.le_of_ble_eq_true rfl) (Nat.le_of_ble_eq_true rfl) (Nat.le_of_ble_eq_true rfl) rfl dX3_about_3 fun v1 => ?_)
  refine wu_jx (α := Int32) (pcJ := 24) (lJ := fun x => [(0, .ref (rid 1 1)), (1, .int a1), (2, .int a2)]) (sJ := fun x => [.int x, .ref (rid 1 1)]) (fun K2 hk2 => ?_) (fun z2 => ?_)
  · refine wu_jn (α := Unit) (pcJ := 23) (lJ := fun x => [(0, .ref (rid 1 1)), (1, .int a1), (2, .int a2)]) (sJ := fun x => [.ref (rid 1 1)]) (fun k3 hk3 => ?_) (fun z3 => ?_)
    · refine wg_if_eq (pc := 6) (tgt := 23) hX dX3_about_6 (by decide) (fun h4 => ?_) (fun h4 => ?_)
      · refine wu_t h4 ?_
        exact hk3 ()
      refine wu_f h4 ?_
      refine wg_iload_n (pc := 9) hX dX3_about_9 2 rfl ?_
      refine wg_iconst (pc := 10) (v := 0) hX dX3_about_10 rfl ?_
      refine wg_bipush (pc := 11) (v := 8) hX dX3_about_11 rfl ?_
      refine wu_ (wg_cSi (pc := 13) (As := [.int a2, .int 0, .int 8]) (rest := [.ref (rid 1 1)]) hX (m_X3_isIn a2 0 8) (lw_S q2317 q2318 q163 q2319) hd_X3_isIn rfl (Nat.le_of_ble_eq_true rfl) (Nat.le_of_ble_eq_true rfl) (Nat.le_of_ble_eq_true rfl) rfl dX3_about_13 fun v5 => ?_)
      refine wg_if_eq (pc := 16) (tgt := 23) hX dX3_about_16 (by decide) (fun h6 => ?_) (fun h6 => ?_)
      · refine wu_t h6 ?_
        exact hk3 ()
      refine wu_f h6 ?_
      refine wg_iconst (pc := 19) (v := 0) hX dX3_about_19 rfl ?_
      refine wg_goto (pc := 20) (tgt := 24) hX dX3_about_20 (by decide) ?_
      exact wu_rt (hk2 0)
    refine wg_iconst (pc := 23) (v := 1) hX dX3_about_23 rfl ?_
    exact wu_rt (hk2 1)
  refine wu_ (wg_pI (pc := 24) hX fp_X3_297 (fun h => by cases h) dX3_about_24 ?_)
  refine wg_aload_n (pc := 27) hX dX3_about_27 0 rfl ?_
  refine wu_ (wg_gI (pc := 28) hX fd_X3_297 dX3_about_28 fun v7 => ?_)
  refine wg_if_le (pc := 31) (tgt := 36) hX dX3_about_31 (by decide) (fun h8 => ?_) (fun h8 => ?_)
  rotate_left
  · refine wu_f h8 ?_
    refine wg_iconst (pc := 34) (v := 0) hX dX3_about_34 rfl ?_
    exact wu_rt (wg_iret (pc := 35) hX rfl rfl dX3_about_35)
  refine wu_t h8 ?_
  refine wg_iload_n (pc := 36) hX dX3_about_36 2 rfl ?_
  by_cases h9 : a2 = 0
  · refine wu_t h9 ?_
    refine wg_tableIn (pc := 37) hX dX3_about_37 (by rw [h9]; decide) (by rw [h9]; decide) (by rw [h9]; rfl) (by decide : ((37 : Nat) : Int) + 47 = ((84 : Nat) : Int)) ?_
    refine wg_aload_n (pc := 84) hX dX3_about_84 0 rfl ?_
    refine wg_gK (pc := 85) hX hM0 fd_X3_128 (by decide) dX3_about_85 ?_
    refine wg_iload_n (pc := 88) hX dX3_about_88 1 rfl ?_
    refine wu_ (wg_rI (pc := 89) hX ar_94 dX3_about_89 fun v10 => ?_)
    exact wu_rt (wg_iret (pc := 90) hX rfl rfl dX3_about_90)
  refine wu_f h9 ?_
  by_cases h11 : a2 = 1
  · refine wu_t h11 ?_
    refine wg_tableIn (pc := 37) hX dX3_about_37 (by rw [h11]; decide) (by rw [h11]; decide) (by rw [h11]; rfl) (by decide : ((37 : Nat) : Int) + 54 = ((91 : Nat) : Int)) ?_
    refine wg_aload_n (pc := 91) hX dX3_about_91 0 rfl ?_
    refine wg_gK (pc := 92) hX hM0 fd_X3_131 (by decide) dX3_about_92 ?_
    refine wg_iload_n (pc := 95) hX dX3_about_95 1 rfl ?_
    refine wu_ (wg_rI (pc := 96) hX ar_95 dX3_about_96 fun v12 => ?_)
    exact wu_rt (wg_iret (pc := 97) hX rfl rfl dX3_about_97)
  refine wu_f h11 ?_
  by_cases h13 : a2 = 2
  · refine wu_t h13 ?_
    refine wg_tableIn (pc := 37) hX dX3_about_37 (by rw [h13]; decide) (by rw [h13]; decide) (by rw [h13]; rfl) (by decide : ((37 : Nat) : Int) + 61 = ((98 : Nat) : Int)) ?_
    refine wg_aload_n (pc := 98) hX dX3_about_98 0 rfl ?_
    refine wg_gK (pc := 99) hX hM0 fd_X3_134 (by decide) dX3_about_99 ?_
    refine wg_iload_n (pc := 102) hX dX3_about_102 1 rfl ?_
    refine wu_ (wg_rI (pc := 103) hX ar_96 dX3_about_103 fun v14 => ?_)
    exact wu_rt (wg_iret (pc := 104) hX rfl rfl dX3_about_104)
  refine wu_f h13 ?_
  by_cases h15 : a2 = 3
  · refine wu_t h15 ?_
    refine wg_tableIn (pc := 37) hX dX3_about_37 (by rw [h15]; decide) (by rw [h15]; decide) (by rw [h15]; rfl) (by decide : ((37 : Nat) : Int) + 68 = ((105 : Nat) : Int)) ?_
    refine wg_aload_n (pc := 105) hX dX3_about_105 0 rfl ?_
    refine wg_gK (pc := 106) hX hM0 fd_X3_137 (by decide) dX3_about_106 ?_
    refine wg_iload_n (pc := 109) hX dX3_about_109 1 rfl ?_
    refine wu_ (wg_rI (pc := 110) hX ar_97 dX3_about_110 fun v16 => ?_)
    exact wu_rt (wg_iret (pc := 111) hX rfl rfl dX3_about_111)
  refine wu_f h15 ?_
  by_cases h17 : a2 = 4
  · refine wu_t h17 ?_
    refine wg_tableIn (pc := 37) hX dX3_about_37 (by rw [h17]; decide) (by rw [h17]; decide) (by rw [h17]; rfl) (by decide : ((37 : Nat) : Int) + 75 = ((112 : Nat) : Int)) ?_
    refine wg_aload_n (pc := 112) hX dX3_about_112 0 rfl ?_
    refine wg_gK (pc := 113) hX hM0 fd_X3_140 (by decide) dX3_about_113 ?_
    refine wg_iload_n (pc := 116) hX dX3_about_116 1 rfl ?_
    refine wu_ (wg_rI (pc := 117) hX ar_98 dX3_about_117 fun v18 => ?_)
    exact wu_rt (wg_iret (pc := 118) hX rfl rfl dX3_about_118)
  refine wu_f h17 ?_
  by_cases h19 : a2 = 5
  · refine wu_t h19 ?_
    refine wg_tableIn (pc := 37) hX dX3_about_37 (by rw [h19]; decide) (by rw [h19]; decide) (by rw [h19]; rfl) (by decide : ((37 : Nat) : Int) + 82 = ((119 : Nat) : Int)) ?_
    refine wg_aload_n (pc := 119) hX dX3_about_119 0 rfl ?_
    refine wg_gK (pc := 120) hX hM0 fd_X3_143 (by decide) dX3_about_120 ?_
    refine wg_iload_n (pc := 123) hX dX3_about_123 1 rfl ?_
    refine wu_ (wg_rI (pc := 124) hX ar_99 dX3_about_124 fun v20 => ?_)
    exact wu_rt (wg_iret (pc := 125) hX rfl rfl dX3_about_125)
  refine wu_f h19 ?_
  by_cases h21 : a2 = 6
  · refine wu_t h21 ?_
    refine wg_tableIn (pc := 37) hX dX3_about_37 (by rw [h21]; decide) (by rw [h21]; decide) (by rw [h21]; rfl) (by decide : ((37 : Nat) : Int) + 89 = ((126 : Nat) : Int)) ?_
    refine wg_aload_n (pc := 126) hX dX3_about_126 0 rfl ?_
    refine wg_gK (pc := 127) hX hM0 fd_X3_146 (by decide) dX3_about_127 ?_
    refine wg_iload_n (pc := 130) hX dX3_about_130 1 rfl ?_
    refine wu_ (wg_rI (pc := 131) hX ar_100 dX3_about_131 fun v22 => ?_)
    exact wu_rt (wg_iret (pc := 132) hX rfl rfl dX3_about_132)
  refine wu_f h21 ?_
  by_cases h23 : a2 = 7
  · refine wu_t h23 ?_
    refine wg_tableIn (pc := 37) hX dX3_about_37 (by rw [h23]; decide) (by rw [h23]; decide) (by rw [h23]; rfl) (by decide : ((37 : Nat) : Int) + 96 = ((133 : Nat) : Int)) ?_
    refine wg_aload_n (pc := 133) hX dX3_about_133 0 rfl ?_
    refine wg_iload_n (pc := 134) hX dX3_about_134 1 rfl ?_
    refine wu_ (wg_cVi (pc := 135) (As := [.int a1]) (rest := []) hX (m_X3_slowOf a1) (by decide) (by decide) (by decide) rc_X3 (lw_V q2461 q2463 qs104 q163 q2464) hd_X3_slowOf rfl (Nat.le_of_ble_eq_true rfl) (Nat.le_of_ble_eq_true rfl) (Nat.le_of_ble_eq_true rfl) rfl dX3_about_135 fun v24 => ?_)
    exact wu_rt (wg_iret (pc := 138) hX rfl rfl dX3_about_138)
  refine wu_f h23 ?_
  refine wg_tableOut (pc := 37) hX dX3_about_37 (am_out8 h9 h11 h13 h15 h17 h19 h21 h23) (by decide : ((37 : Nat) : Int) + 102 = ((139 : Nat) : Int)) ?_
  refine wg_aload_n (pc := 139) hX dX3_about_139 0 rfl ?_
  refine wg_gK (pc := 140) hX hM0 fd_X3_155 (by decide) dX3_about_140 ?_
  refine wg_iload_n (pc := 143) hX dX3_about_143 1 rfl ?_
  refine wu_ (wg_rI (pc := 144) hX ar_103 dX3_about_144 fun v25 => ?_)
  exact wu_rt (wg_iret (pc := 145) hX rfl rfl dX3_about_145)
theorem m_X3_headFor (a1 : Int32) : amMet yX3_headFor cX3_headFor 4 (some .int) 2 54 encI [.ref (rid 1 1), .int a1] (up (p_X3_headFor a1)) := by
  refine amMet.of (own := RX3) (by decide) rfl (Nat.le_of_ble_eq_true rfl) fun X hX hPs => ?_
  change WG X encI 0 [(0, .ref (rid 1 1)), (1, .int a1)] [] (bd1 (up (p_X3_headFor a1)) rt1)
  unfold p_X3_headFor
  have hM0 := amPs.m0 hPs
  refine wu_ (wg_gM ?_)
  refine wg_iconst (pc := 0) (v := (-1)) hX dX3_headFor_0 rfl ?_
  refine wg_istore_n (pc := 1) (l' := [(0, .ref (rid 1 1)), (1, .int a1), (2, .int (-1))]) hX dX3_headFor_1 (by decide) rfl ?_
  refine wg_iconst (pc := 2) (v := 0) hX dX3_headFor_2 rfl ?_
  refine wg_istore_n (pc := 3) (l' := [(0, .ref (rid 1 1)), (1, .int a1), (2, .int (-1)), (3, .int 0)]) hX dX3_headFor_3 (by decide) rfl ?_
  refine wu_lpx (α := Int32 × Int32) (γ := Int32) (pcl := 4) (pcT := 66) (lo := fun x => [(0, .ref (rid 1 1)), (1, .int a1), (2, .int x.1), (3, .int x.2)]) (so := fun _ => []) (lT := fun x => [(2, .int x)]) (sT := fun _ => []) (n := amFu) (x0 := ((-1), 0)) (fun K1 rec1 hrec1 hk1 x1 => ?_) (fun y2 => ?_)
  · unfold p_X3_headFor_L4
    refine wg_iload_n (pc := 4) hX dX3_headFor_4 3 rfl ?_
    refine wg_aload_n (pc := 5) hX dX3_headFor_5 0 rfl ?_
    refine wu_ (wg_gI (pc := 6) hX fd_X3_389 dX3_headFor_6 fun v3 => ?_)
    refine wg_icmp_ge (pc := 9) (tgt := 66) hX dX3_headFor_9 (by decide) (fun h4 => ?_) (fun h4 => ?_)
    · refine wu_t h4 ?_
      refine wg_sub hX [2] rfl ?_
      exact wu_rt (hk1 x1.1)
    refine wu_f h4 ?_
    refine wg_aload_n (pc := 12) hX dX3_headFor_12 0 rfl ?_
    refine wg_aload_n (pc := 13) hX dX3_headFor_13 0 rfl ?_
    refine wg_gK (pc := 14) hX hM0 fd_X3_98 (by decide) dX3_headFor_14 ?_
    refine wg_iload_n (pc := 17) hX dX3_headFor_17 3 rfl ?_
    refine wu_ (wg_rI (pc := 18) hX ar_84 dX3_headFor_18 fun v5 => ?_)
    refine wg_aload_n (pc := 19) hX dX3_headFor_19 0 rfl ?_
    refine wg_gK (pc := 20) hX hM0 fd_X3_32 (by decide) dX3_headFor_20 ?_
    refine wg_iload_n (pc := 23) hX dX3_headFor_23 1 rfl ?_
    refine wu_ (wg_rI (pc := 24) hX ar_62 dX3_headFor_24 fun v6 => ?_)
    refine wu_ (wg_cVi (pc := 25) (As := [.int v5, .int v6]) (rest := []) hX (m_X3_walkOf v5 v6) (by decide) (by decide) (by decide) rc_X3 (lw_V q2348 q2350 qs89 q163 q2351) hd_X3_walkOf rfl (Nat.le_of_ble_eq_true rfl) (Nat.le_of_ble_eq_true rfl) (Nat.le_of_ble_eq_true rfl) rfl dX3_headFor_25 fun v7 => ?_)
    refine wg_iload_n (pc := 28) hX dX3_headFor_28 2 rfl ?_
    refine wg_iconst (pc := 29) (v := (-1)) hX dX3_headFor_29 rfl ?_
    refine wu_jx (α := Int32) (pcJ := 55) (lJ := fun x => [(0, .ref (rid 1 1)), (1, .int a1), (2, .int x1.1), (3, .int x1.2)]) (sJ := fun x => [.int x, .int v7]) (fun K8 hk8 => ?_) (fun z8 => ?_)
    · refine wg_icmp_ne (pc := 30) (tgt := 39) hX dX3_headFor_30 (by decide) (fun h9 => ?_) (fun h9 => ?_)
      · refine wu_t h9 ?_
        refine wg_ldcw (pc := 33) hX dX3_headFor_33 q1940 ?_
        refine wg_goto (pc := 36) (tgt := 55) hX dX3_headFor_36 (by decide) ?_
        exact wu_rt (hk8 1000000)
      refine wu_f h9 ?_
      refine wg_aload_n (pc := 39) hX dX3_headFor_39 0 rfl ?_
      refine wg_aload_n (pc := 40) hX dX3_headFor_40 0 rfl ?_
      refine wg_gK (pc := 41) hX hM0 fd_X3_98 (by decide) dX3_headFor_41 ?_
      refine wg_iload_n (pc := 44) hX dX3_headFor_44 2 rfl ?_
      refine wu_ (wg_rI (pc := 45) hX ar_84 dX3_headFor_45 fun v10 => ?_)
      refine wg_aload_n (pc := 46) hX dX3_headFor_46 0 rfl ?_
      refine wg_gK (pc := 47) hX hM0 fd_X3_32 (by decide) dX3_headFor_47 ?_
      refine wg_iload_n (pc := 50) hX dX3_headFor_50 1 rfl ?_
      refine wu_ (wg_rI (pc := 51) hX ar_62 dX3_headFor_51 fun v11 => ?_)
      refine wu_ (wg_cVi (pc := 52) (As := [.int v10, .int v11]) (rest := [.int v7]) hX (m_X3_walkOf v10 v11) (by decide) (by decide) (by decide) rc_X3 (lw_V q2348 q2350 qs89 q163 q2351) hd_X3_walkOf rfl (Nat.le_of_ble_eq_true rfl) (Nat.le_of_ble_eq_true rfl) (Nat.le_of_ble_eq_true rfl) rfl dX3_headFor_52 fun v12 => ?_)
      exact wu_rt (hk8 v12)
    refine wu_jx (α := Int32) (pcJ := 60) (lJ := fun x => [(0, .ref (rid 1 1)), (1, .int a1), (2, .int x), (3, .int x1.2)]) (sJ := fun x => []) (fun K13 hk13 => ?_) (fun z13 => ?_)
    · refine wg_icmp_ge (pc := 55) (tgt := 60) hX dX3_headFor_55 (by decide) (fun h14 => ?_) (fun h14 => ?_)
      · refine wu_t h14 ?_
        exact wu_rt (hk13 x1.1)
      refine wu_f h14 ?_
      refine wg_iload_n (pc := 58) hX dX3_headFor_58 3 rfl ?_
      refine wg_istore_n (pc := 59) (l' := [(0, .ref (rid 1 1)), (1, .int a1), (2, .int x1.2), (3, .int x1.2)]) hX dX3_headFor_59 (by decide) rfl ?_
      exact wu_rt (hk13 x1.2)
    refine wg_iinc (pc := 60) (v := (x1.2 + 1)) (l' := [(0, .ref (rid 1 1)), (1, .int a1), (2, .int z13), (3, .int (x1.2 + 1))]) hX dX3_headFor_60 3 rfl rfl (by decide) rfl ?_
    refine wg_goto (pc := 63) (tgt := 4) hX dX3_headFor_63 (by decide) ?_
    exact hrec1 (z13, (x1.2 + 1))
  refine wg_iload_n (pc := 66) hX dX3_headFor_66 0 rfl ?_
  exact wu_rt (wg_iret (pc := 67) hX rfl rfl dX3_headFor_67)
theorem m_X3_reachOf (a1 : Int32) (a2 : Int32) : amMet yX3_reachOf cX3_reachOf 5 (some .int) 3 77 encI [.ref (rid 1 1), .int a1, .int a2] (up (p_X3_reachOf a1 a2)) := by
  refine amMet.of (own := RX3) (by decide) rfl (Nat.le_of_ble_eq_true rfl) fun X hX hPs => ?_
  change WG X encI 0 [(0, .ref (rid 1 1)), (1, .int a1), (2, .int a2)] [] (bd1 (up (p_X3_reachOf a1 a2)) rt1)
  unfold p_X3_reachOf
  have hM0 := amPs.m0 hPs
  refine wu_ (wg_gM ?_)
  refine wg_aload_n (pc := 0) hX dX3_reachOf_0 0 rfl ?_
  refine wg_iload_n (pc := 1) hX dX3_reachOf_1 2 rfl ?_
  refine wu_ (wg_cVi (pc := 2) (As := [.int a2]) (rest := []) hX (m_X3_headFor a2) (by decide) (by decide) (by decide) rc_X3 (lw_V q2477 q2479 qs106 q163 q2480) hd_X3_headFor rfl (Nat.le_of_ble_eq_true rfl) (Nat.le_of_ble_eq_true rfl) (Nat.le_of_ble_eq_true rfl) rfl dX3_reachOf_2 fun v1 => ?_)
  refine wg_istore_n (pc := 5) (l' := [(0, .ref (rid 1 1)), (1, .int a1), (2, .int a2), (3, .int v1)]) hX dX3_reachOf_5 (by decide) rfl ?_
  refine wg_aload_n (pc := 6) hX dX3_reachOf_6 0 rfl ?_
  refine wg_gK (pc := 7) hX hM0 fd_X3_107 (by decide) dX3_reachOf_7 ?_
  refine wg_iload_n (pc := 10) hX dX3_reachOf_10 1 rfl ?_
  refine wu_ (wg_rI (pc := 11) hX ar_87 dX3_reachOf_11 fun v2 => ?_)
  refine wg_iconst (pc := 12) (v := 2) hX dX3_reachOf_12 rfl ?_
  refine wg_icmp_ge (pc := 13) (tgt := 21) hX dX3_reachOf_13 (by decide) (fun h3 => ?_) (fun h3 => ?_)
  · refine wu_t h3 ?_
    refine wg_iconst (pc := 21) (v := (-1)) hX dX3_reachOf_21 rfl ?_
    exact wu_rt (wg_iret (pc := 22) hX rfl rfl dX3_reachOf_22)
  refine wu_f h3 ?_
  refine wg_iload_n (pc := 16) hX dX3_reachOf_16 3 rfl ?_
  refine wg_iconst (pc := 17) (v := (-1)) hX dX3_reachOf_17 rfl ?_
  refine wg_icmp_ne (pc := 18) (tgt := 23) hX dX3_reachOf_18 (by decide) (fun h4 => ?_) (fun h4 => ?_)
  · refine wu_t h4 ?_
    refine wg_iconst (pc := 21) (v := (-1)) hX dX3_reachOf_21 rfl ?_
    exact wu_rt (wg_iret (pc := 22) hX rfl rfl dX3_reachOf_22)
  refine wu_f h4 ?_
  refine wg_aload_n (pc := 23) hX dX3_reachOf_23 0 rfl ?_
  refine wg_gK (pc := 24) hX hM0 fd_X3_38 (by decide) dX3_reachOf_24 ?_
  refine wg_iload_n (pc := 27) hX dX3_reachOf_27 2 rfl ?_
  refine wu_ (wg_rI (pc := 28) hX ar_64 dX3_reachOf_28 fun v5 => ?_)
  refine wg_iconst (pc := 29) (v := 1) hX dX3_reachOf_29 rfl ?_
  refine wg_isub (pc := 30) hX dX3_reachOf_30 ?_
  refine wu_ (wg_nmi hX fun v6 => ?_)
  refine wg_istore (pc := 31) (l' := [(0, .ref (rid 1 1)), (1, .int a1), (2, .int a2), (3, .int v1), (4, .int v6)]) hX dX3_reachOf_31 (by decide) rfl ?_
  refine wu_lpx (α := Int32) (γ := Int32) (pcl := 33) (pcT := 80) (lo := fun x => [(0, .ref (rid 1 1)), (1, .int a1), (2, .int a2), (3, .int v1), (4, .int x)]) (so := fun _ => []) (lT := fun x => [(4, .int x)]) (sT := fun _ => []) (n := amFu) (x0 := v6) (fun K7 rec7 hrec7 hk7 x7 => ?_) (fun y8 => ?_)
  · unfold p_X3_reachOf_L33
    refine wg_iload (pc := 33) hX dX3_reachOf_33 4 rfl ?_
    refine wg_if_lt (pc := 35) (tgt := 80) hX dX3_reachOf_35 (by decide) (fun h9 => ?_) (fun h9 => ?_)
    · refine wu_t h9 ?_
      refine wg_sub hX [4] rfl ?_
      exact wu_rt (hk7 x7)
    refine wu_f h9 ?_
    refine wg_bipush (pc := 38) (v := 100) hX dX3_reachOf_38 rfl ?_
    refine wg_aload_n (pc := 40) hX dX3_reachOf_40 0 rfl ?_
    refine wg_aload_n (pc := 41) hX dX3_reachOf_41 0 rfl ?_
    refine wg_gK (pc := 42) hX hM0 fd_X3_98 (by decide) dX3_reachOf_42 ?_
    refine wg_iload_n (pc := 45) hX dX3_reachOf_45 3 rfl ?_
    refine wu_ (wg_rI (pc := 46) hX ar_84 dX3_reachOf_46 fun v10 => ?_)
    refine wg_aload_n (pc := 47) hX dX3_reachOf_47 0 rfl ?_
    refine wg_gK (pc := 48) hX hM0 fd_X3_32 (by decide) dX3_reachOf_48 ?_
    refine wg_iload_n (pc := 51) hX dX3_reachOf_51 2 rfl ?_
    refine wu_ (wg_rI (pc := 52) hX ar_62 dX3_reachOf_52 fun v11 => ?_)
    refine wu_ (wg_cVi (pc := 53) (As := [.int v10, .int v11]) (rest := [.int 100]) hX (m_X3_walkOf v10 v11) (by decide) (by decide) (by decide) rc_X3 (lw_V q2348 q2350 qs89 q163 q2351) hd_X3_walkOf rfl (Nat.le_of_ble_eq_true rfl) (Nat.le_of_ble_eq_true rfl) (Nat.le_of_ble_eq_true rfl) rfl dX3_reachOf_53 fun v12 => ?_)
    refine wg_imul (pc := 56) hX dX3_reachOf_56 ?_
    refine wg_bipush (pc := 57) (v := 20) hX dX3_reachOf_57 rfl ?_
    refine wg_iload (pc := 59) hX dX3_reachOf_59 4 rfl ?_
    refine wg_iconst (pc := 61) (v := 1) hX dX3_reachOf_61 rfl ?_
    refine wg_iadd (pc := 62) hX dX3_reachOf_62 ?_
    refine wg_imul (pc := 63) hX dX3_reachOf_63 ?_
    refine wg_iadd (pc := 64) hX dX3_reachOf_64 ?_
    refine wg_aload_n (pc := 65) hX dX3_reachOf_65 0 rfl ?_
    refine wg_gK (pc := 66) hX hM0 fd_X3_119 (by decide) dX3_reachOf_66 ?_
    refine wg_iload_n (pc := 69) hX dX3_reachOf_69 1 rfl ?_
    refine wu_ (wg_rI (pc := 70) hX ar_91 dX3_reachOf_70 fun v13 => ?_)
    refine wg_icmp_le (pc := 71) (tgt := 80) hX dX3_reachOf_71 (by decide) (fun h14 => ?_) (fun h14 => ?_)
    · refine wu_t h14 ?_
      refine wg_sub hX [4] rfl ?_
      exact wu_rt (hk7 x7)
    refine wu_f h14 ?_
    refine wg_iinc (pc := 74) (v := (x7 + (-1))) (l' := [(0, .ref (rid 1 1)), (1, .int a1), (2, .int a2), (3, .int v1), (4, .int (x7 + (-1)))]) hX dX3_reachOf_74 4 rfl rfl (by decide) rfl ?_
    refine wg_goto (pc := 77) (tgt := 33) hX dX3_reachOf_77 (by decide) ?_
    exact hrec7 (x7 + (-1))
  refine wg_iload (pc := 80) hX dX3_reachOf_80 0 rfl ?_
  exact wu_rt (wg_iret (pc := 82) hX rfl rfl dX3_reachOf_82)
theorem m_X3_reach (a1 : Int32) (a2 : Int32) : amMet yX3_reach cX3_reach 3 (some .int) 4 101 encI [.ref (rid 1 1), .int a1, .int a2] (up (p_X3_reach a1 a2)) := by
  refine amMet.of (own := RX3) (by decide) rfl (Nat.le_of_ble_eq_true rfl) fun X hX hPs => ?_
  change WG X encI 0 [(0, .ref (rid 1 1)), (1, .int a1), (2, .int a2)] [] (bd1 (up (p_X3_reach a1 a2)) rt1)
  unfold p_X3_reach
  refine wg_aload_n (pc := 0) hX dX3_reach_0 0 rfl ?_
  refine wg_iconst (pc := 1) (v := 0) hX dX3_reach_1 rfl ?_
  refine wu_ (wg_pI (pc := 2) hX fp_X3_297 (fun h => by cases h) dX3_reach_2 ?_)
  refine wg_aload_n (pc := 5) hX dX3_reach_5 0 rfl ?_
  refine wg_iload_n (pc := 6) hX dX3_reach_6 1 rfl ?_
  refine wu_ (wg_cVi (pc := 7) (As := [.int a1]) (rest := []) hX (m_X3_isCrew a1) (by decide) (by decide) (by decide) rc_X3 (lw_V q2441 q2443 qs101 q163 q2444) hd_X3_isCrew rfl (Nat.le_of_ble_eq_true rfl) (Nat.le_of_ble_eq_true rfl) (Nat.le_of_ble_eq_true rfl) rfl dX3_reach_7 fun v1 => ?_)
  refine wu_jn (α := Unit) (pcJ := 30) (lJ := fun x => []) (sJ := fun x => []) (fun k2 hk2 => ?_) (fun z2 => ?_)
  · refine wg_if_eq (pc := 10) (tgt := 30) hX dX3_reach_10 (by decide) (fun h3 => ?_) (fun h3 => ?_)
    · refine wu_t h3 ?_
      refine wg_sub hX [] rfl ?_
      exact hk2 ()
    refine wu_f h3 ?_
    refine wg_aload_n (pc := 13) hX dX3_reach_13 0 rfl ?_
    refine wg_iload_n (pc := 14) hX dX3_reach_14 2 rfl ?_
    refine wu_ (wg_cVi (pc := 15) (As := [.int a2]) (rest := []) hX (m_X3_isHouse a2) (by decide) (by decide) (by decide) rc_X3 (lw_V q2360 q2362 qs90 q163 q2363) hd_X3_isHouse rfl (Nat.le_of_ble_eq_true rfl) (Nat.le_of_ble_eq_true rfl) (Nat.le_of_ble_eq_true rfl) rfl dX3_reach_15 fun v4 => ?_)
    refine wg_if_eq (pc := 18) (tgt := 30) hX dX3_reach_18 (by decide) (fun h5 => ?_) (fun h5 => ?_)
    · refine wu_t h5 ?_
      refine wg_sub hX [] rfl ?_
      exact hk2 ()
    refine wu_f h5 ?_
    refine wg_aload_n (pc := 21) hX dX3_reach_21 0 rfl ?_
    refine wg_iload_n (pc := 22) hX dX3_reach_22 1 rfl ?_
    refine wg_iload_n (pc := 23) hX dX3_reach_23 2 rfl ?_
    refine wu_ (wg_cVi (pc := 24) (As := [.int a1, .int a2]) (rest := []) hX (m_X3_reachOf a1 a2) (by decide) (by decide) (by decide) rc_X3 (lw_V q2473 q2475 qs105 q163 q2476) hd_X3_reachOf rfl (Nat.le_of_ble_eq_true rfl) (Nat.le_of_ble_eq_true rfl) (Nat.le_of_ble_eq_true rfl) rfl dX3_reach_24 fun v6 => ?_)
    refine wg_goto (pc := 27) (tgt := 31) hX dX3_reach_27 (by decide) ?_
    exact wu_rt (wg_iret (pc := 31) hX rfl rfl dX3_reach_31)
  refine wg_iconst (pc := 30) (v := (-1)) hX dX3_reach_30 rfl ?_
  exact wu_rt (wg_iret (pc := 31) hX rfl rfl dX3_reach_31)
theorem m_X3_bytesIn (a1 : Int32) : amMet yX3_bytesIn cX3_bytesIn 3 (some .int) 1 32 encI [.int a1] (up (p_X3_bytesIn a1)) := by
  refine amMet.of (own := RX3) (by decide) rfl (Nat.le_of_ble_eq_true rfl) fun X hX hPs => ?_
  change WG X encI 0 [(0, .int a1)] [] (bd1 (up (p_X3_bytesIn a1)) rt1)
  unfold p_X3_bytesIn
  refine wg_iconst (pc := 0) (v := 0) hX dX3_bytesIn_0 rfl ?_
  refine wg_istore_n (pc := 1) (l' := [(0, .int a1), (1, .int 0)]) hX dX3_bytesIn_1 (by decide) rfl ?_
  refine wg_bipush (pc := 2) (v := 24) hX dX3_bytesIn_2 rfl ?_
  refine wg_istore_n (pc := 4) (l' := [(0, .int a1), (1, .int 0), (2, .int 24)]) hX dX3_bytesIn_4 (by decide) rfl ?_
  refine wu_lpx (α := Int32 × Int32) (γ := Int32) (pcl := 5) (pcT := 33) (lo := fun x => [(0, .int a1), (1, .int x.1), (2, .int x.2)]) (so := fun _ => []) (lT := fun x => [(1, .int x)]) (sT := fun _ => []) (n := amFu) (x0 := (0, 24)) (fun K1 rec1 hrec1 hk1 x1 => ?_) (fun y2 => ?_)
  · unfold p_X3_bytesIn_L5
    refine wg_iload_n (pc := 5) hX dX3_bytesIn_5 2 rfl ?_
    refine wg_if_lt (pc := 6) (tgt := 33) hX dX3_bytesIn_6 (by decide) (fun h3 => ?_) (fun h3 => ?_)
    · refine wu_t h3 ?_
      refine wg_sub hX [1] rfl ?_
      exact wu_rt (hk1 x1.1)
    refine wu_f h3 ?_
    refine wg_iload_n (pc := 9) hX dX3_bytesIn_9 1 rfl ?_
    refine wg_iload_n (pc := 10) hX dX3_bytesIn_10 0 rfl ?_
    refine wg_iload_n (pc := 11) hX dX3_bytesIn_11 2 rfl ?_
    refine wg_ishr (pc := 12) hX dX3_bytesIn_12 ?_
    refine wg_sipush (pc := 13) (v := 255) hX dX3_bytesIn_13 rfl ?_
    refine wg_iand (pc := 16) hX dX3_bytesIn_16 ?_
    refine wu_jx (α := Int32) (pcJ := 25) (lJ := fun x => [(0, .int a1), (2, .int x1.2)]) (sJ := fun x => [.int x, .int x1.1]) (fun K4 hk4 => ?_) (fun z4 => ?_)
    · refine wg_if_eq (pc := 17) (tgt := 24) hX dX3_bytesIn_17 (by decide) (fun h5 => ?_) (fun h5 => ?_)
      · refine wu_t h5 ?_
        refine wg_iconst (pc := 24) (v := 0) hX dX3_bytesIn_24 rfl ?_
        refine wg_sub hX [0, 2] rfl ?_
        exact wu_rt (hk4 0)
      refine wu_f h5 ?_
      refine wg_iconst (pc := 20) (v := 1) hX dX3_bytesIn_20 rfl ?_
      refine wg_goto (pc := 21) (tgt := 25) hX dX3_bytesIn_21 (by decide) ?_
      refine wg_sub hX [0, 2] rfl ?_
      exact wu_rt (hk4 1)
    refine wg_iadd (pc := 25) hX dX3_bytesIn_25 ?_
    refine wu_ (wg_nmi hX fun v6 => ?_)
    refine wg_istore_n (pc := 26) (l' := [(0, .int a1), (1, .int v6), (2, .int x1.2)]) hX dX3_bytesIn_26 (by decide) rfl ?_
    refine wg_iinc (pc := 27) (v := (x1.2 + (-8))) (l' := [(0, .int a1), (1, .int v6), (2, .int (x1.2 + (-8)))]) hX dX3_bytesIn_27 2 rfl rfl (by decide) rfl ?_
    refine wg_goto (pc := 30) (tgt := 5) hX dX3_bytesIn_30 (by decide) ?_
    exact hrec1 (v6, (x1.2 + (-8)))
  refine wg_iload_n (pc := 33) hX dX3_bytesIn_33 0 rfl ?_
  exact wu_rt (wg_iret (pc := 34) hX rfl rfl dX3_bytesIn_34)
theorem m_X3_put4 (a1 : Int32) : amMet yX3_put4 cX3_put4 3 none 1 32 encV [.ref (rid 1 1), .int a1] (up (p_X3_put4 a1)) := by
  refine amMet.of (own := RX3) (by decide) rfl (Nat.le_of_ble_eq_true rfl) fun X hX hPs => ?_
  change WG X encV 0 [(0, .ref (rid 1 1)), (1, .int a1)] [] (bd1 (up (p_X3_put4 a1)) rt1)
  unfold p_X3_put4
  have hM0 := amPs.m0 hPs
  refine wu_ (wg_gM ?_)
  refine wg_bipush (pc := 0) (v := 24) hX dX3_put4_0 rfl ?_
  refine wg_istore_n (pc := 2) (l' := [(0, .ref (rid 1 1)), (1, .int a1), (2, .int 24)]) hX dX3_put4_2 (by decide) rfl ?_
  refine wu_lpx (α := Int32) (γ := Unit) (pcl := 3) (pcT := 49) (lo := fun x => [(0, .ref (rid 1 1)), (1, .int a1), (2, .int x)]) (so := fun _ => []) (lT := fun x => []) (sT := fun _ => []) (n := amFu) (x0 := 24) (fun K1 rec1 hrec1 hk1 x1 => ?_) (fun y2 => ?_)
  · unfold p_X3_put4_L3
    refine wg_iload_n (pc := 3) hX dX3_put4_3 2 rfl ?_
    refine wg_if_lt (pc := 4) (tgt := 49) hX dX3_put4_4 (by decide) (fun h3 => ?_) (fun h3 => ?_)
    · refine wu_t h3 ?_
      refine wg_sub hX [] rfl ?_
      exact wu_rt (hk1 ())
    refine wu_f h3 ?_
    refine wg_iload_n (pc := 7) hX dX3_put4_7 1 rfl ?_
    refine wg_iload_n (pc := 8) hX dX3_put4_8 2 rfl ?_
    refine wg_ishr (pc := 9) hX dX3_put4_9 ?_
    refine wg_sipush (pc := 10) (v := 255) hX dX3_put4_10 rfl ?_
    refine wg_iand (pc := 13) hX dX3_put4_13 ?_
    refine wu_jx (α := Unit) (pcJ := 43) (lJ := fun x => [(0, .ref (rid 1 1)), (1, .int a1), (2, .int x1)]) (sJ := fun x => []) (fun K4 hk4 => ?_) (fun z4 => ?_)
    · refine wg_if_ne (pc := 14) (tgt := 20) hX dX3_put4_14 (by decide) (fun h5 => ?_) (fun h5 => ?_)
      · refine wu_t h5 ?_
        refine wg_goto (pc := 17) (tgt := 43) hX dX3_put4_17 (by decide) ?_
        exact wu_rt (hk4 ())
      refine wu_f h5 ?_
      refine wg_aload_n (pc := 20) hX dX3_put4_20 0 rfl ?_
      refine wg_gK (pc := 21) hX hM0 fd_X3_167 (by decide) dX3_put4_21 ?_
      refine wg_aload_n (pc := 24) hX dX3_put4_24 0 rfl ?_
      refine wu_ (wg_gI (pc := 25) hX fd_X3_414 dX3_put4_25 fun v6 => ?_)
      refine wg_iload_n (pc := 28) hX dX3_put4_28 1 rfl ?_
      refine wg_iload_n (pc := 29) hX dX3_put4_29 2 rfl ?_
      refine wg_ishr (pc := 30) hX dX3_put4_30 ?_
      refine wg_i2b (pc := 31) hX dX3_put4_31 ?_
      refine wu_ (wg_wB (pc := 32) hX ar_107 dX3_put4_32 ?_)
      refine wg_aload_n (pc := 33) hX dX3_put4_33 0 rfl ?_
      refine wg_dup (pc := 34) hX dX3_put4_34 rfl ?_
      refine wu_ (wg_gI (pc := 35) hX fd_X3_414 dX3_put4_35 fun v7 => ?_)
      refine wg_iconst (pc := 38) (v := 1) hX dX3_put4_38 rfl ?_
      refine wg_iadd (pc := 39) hX dX3_put4_39 ?_
      refine wu_ (wg_pI (pc := 40) hX fp_X3_414 (fun h => by cases h) dX3_put4_40 ?_)
      exact wu_rt (hk4 ())
    refine wg_iinc (pc := 43) (v := (x1 + (-8))) (l' := [(0, .ref (rid 1 1)), (1, .int a1), (2, .int (x1 + (-8)))]) hX dX3_put4_43 2 rfl rfl (by decide) rfl ?_
    refine wg_goto (pc := 46) (tgt := 3) hX dX3_put4_46 (by decide) ?_
    exact hrec1 (x1 + (-8))
  exact wu_rt (wg_vret (pc := 49) hX rfl rfl dX3_put4_49)
theorem m_X3_feed (a1 : Int32) (a2 : Int32) (a3 : Int32) (a4 : Int32) (a5 : Int32) : amMet yX3_feed cX3_feed 6 (some .int) 2 54 encI [.ref (rid 1 1), .int a1, .int a2, .int a3, .int a4, .int a5] (up (p_X3_feed a1 a2 a3 a4 a5)) := by
  refine amMet.of (own := RX3) (by decide) rfl (Nat.le_of_ble_eq_true rfl) fun X hX hPs => ?_
  change WG X encI 0 [(0, .ref (rid 1 1)), (1, .int a1), (2, .int a2), (3, .int a3), (4, .int a4), (5, .int a5)] [] (bd1 (up (p_X3_feed a1 a2 a3 a4 a5)) rt1)
  unfold p_X3_feed
  refine wg_aload_n (pc := 0) hX dX3_feed_0 0 rfl ?_
  refine wg_iconst (pc := 1) (v := 0) hX dX3_feed_1 rfl ?_
  refine wu_ (wg_pI (pc := 2) hX fp_X3_297 (fun h => by cases h) dX3_feed_2 ?_)
  refine wg_aload_n (pc := 5) hX dX3_feed_5 0 rfl ?_
  refine wu_ (wg_gI (pc := 6) hX fd_X3_414 dX3_feed_6 fun v1 => ?_)
  refine wg_iload_n (pc := 9) hX dX3_feed_9 1 rfl ?_
  refine wu_ (wg_cSi (pc := 10) (As := [.int a1]) (rest := [.int v1]) hX (m_X3_bytesIn a1) (lw_S q2485 q2486 q163 q2487) hd_X3_bytesIn rfl (Nat.le_of_ble_eq_true rfl) (Nat.le_of_ble_eq_true rfl) (Nat.le_of_ble_eq_true rfl) rfl dX3_feed_10 fun v2 => ?_)
  refine wg_iadd (pc := 13) hX dX3_feed_13 ?_
  refine wg_iload_n (pc := 14) hX dX3_feed_14 2 rfl ?_
  refine wu_ (wg_cSi (pc := 15) (As := [.int a2]) (rest := [.int (v1 + v2)]) hX (m_X3_bytesIn a2) (lw_S q2485 q2486 q163 q2487) hd_X3_bytesIn rfl (Nat.le_of_ble_eq_true rfl) (Nat.le_of_ble_eq_true rfl) (Nat.le_of_ble_eq_true rfl) rfl dX3_feed_15 fun v3 => ?_)
  refine wg_iadd (pc := 18) hX dX3_feed_18 ?_
  refine wg_iload_n (pc := 19) hX dX3_feed_19 3 rfl ?_
  refine wu_ (wg_cSi (pc := 20) (As := [.int a3]) (rest := [.int ((v1 + v2) + v3)]) hX (m_X3_bytesIn a3) (lw_S q2485 q2486 q163 q2487) hd_X3_bytesIn rfl (Nat.le_of_ble_eq_true rfl) (Nat.le_of_ble_eq_true rfl) (Nat.le_of_ble_eq_true rfl) rfl dX3_feed_20 fun v4 => ?_)
  refine wg_iadd (pc := 23) hX dX3_feed_23 ?_
  refine wg_iload (pc := 24) hX dX3_feed_24 4 rfl ?_
  refine wu_ (wg_cSi (pc := 26) (As := [.int a4]) (rest := [.int (((v1 + v2) + v3) + v4)]) hX (m_X3_bytesIn a4) (lw_S q2485 q2486 q163 q2487) hd_X3_bytesIn rfl (Nat.le_of_ble_eq_true rfl) (Nat.le_of_ble_eq_true rfl) (Nat.le_of_ble_eq_true rfl) rfl dX3_feed_26 fun v5 => ?_)
  refine wg_iadd (pc := 29) hX dX3_feed_29 ?_
  refine wg_iload (pc := 30) hX dX3_feed_30 5 rfl ?_
  refine wu_ (wg_cSi (pc := 32) (As := [.int a5]) (rest := [.int ((((v1 + v2) + v3) + v4) + v5)]) hX (m_X3_bytesIn a5) (lw_S q2485 q2486 q163 q2487) hd_X3_bytesIn rfl (Nat.le_of_ble_eq_true rfl) (Nat.le_of_ble_eq_true rfl) (Nat.le_of_ble_eq_true rfl) rfl dX3_feed_32 fun v6 => ?_)
  refine wg_iadd (pc := 35) hX dX3_feed_35 ?_
  refine wg_sipush (pc := 36) (v := 200) hX dX3_feed_36 rfl ?_
  refine wg_icmp_le (pc := 39) (tgt := 44) hX dX3_feed_39 (by decide) (fun h7 => ?_) (fun h7 => ?_)
  rotate_left
  · refine wu_f h7 ?_
    refine wg_iconst (pc := 42) (v := (-1)) hX dX3_feed_42 rfl ?_
    exact wu_rt (wg_iret (pc := 43) hX rfl rfl dX3_feed_43)
  refine wu_t h7 ?_
  refine wg_aload_n (pc := 44) hX dX3_feed_44 0 rfl ?_
  refine wg_iload_n (pc := 45) hX dX3_feed_45 1 rfl ?_
  refine wu_ (wg_cVv (pc := 46) (As := [.int a1]) (rest := []) hX (m_X3_put4 a1) (by decide) (by decide) (by decide) rc_X3 (lw_V q2488 q2490 qs107 q163 q2491) hd_X3_put4 rfl (Nat.le_of_ble_eq_true rfl) (Nat.le_of_ble_eq_true rfl) (Nat.le_of_ble_eq_true rfl) rfl dX3_feed_46 ?_)
  refine wg_aload_n (pc := 49) hX dX3_feed_49 0 rfl ?_
  refine wg_iload_n (pc := 50) hX dX3_feed_50 2 rfl ?_
  refine wu_ (wg_cVv (pc := 51) (As := [.int a2]) (rest := []) hX (m_X3_put4 a2) (by decide) (by decide) (by decide) rc_X3 (lw_V q2488 q2490 qs107 q163 q2491) hd_X3_put4 rfl (Nat.le_of_ble_eq_true rfl) (Nat.le_of_ble_eq_true rfl) (Nat.le_of_ble_eq_true rfl) rfl dX3_feed_51 ?_)
  refine wg_aload_n (pc := 54) hX dX3_feed_54 0 rfl ?_
  refine wg_iload_n (pc := 55) hX dX3_feed_55 3 rfl ?_
  refine wu_ (wg_cVv (pc := 56) (As := [.int a3]) (rest := []) hX (m_X3_put4 a3) (by decide) (by decide) (by decide) rc_X3 (lw_V q2488 q2490 qs107 q163 q2491) hd_X3_put4 rfl (Nat.le_of_ble_eq_true rfl) (Nat.le_of_ble_eq_true rfl) (Nat.le_of_ble_eq_true rfl) rfl dX3_feed_56 ?_)
  refine wg_aload_n (pc := 59) hX dX3_feed_59 0 rfl ?_
  refine wg_iload (pc := 60) hX dX3_feed_60 4 rfl ?_
  refine wu_ (wg_cVv (pc := 62) (As := [.int a4]) (rest := []) hX (m_X3_put4 a4) (by decide) (by decide) (by decide) rc_X3 (lw_V q2488 q2490 qs107 q163 q2491) hd_X3_put4 rfl (Nat.le_of_ble_eq_true rfl) (Nat.le_of_ble_eq_true rfl) (Nat.le_of_ble_eq_true rfl) rfl dX3_feed_62 ?_)
  refine wg_aload_n (pc := 65) hX dX3_feed_65 0 rfl ?_
  refine wg_iload (pc := 66) hX dX3_feed_66 5 rfl ?_
  refine wu_ (wg_cVv (pc := 68) (As := [.int a5]) (rest := []) hX (m_X3_put4 a5) (by decide) (by decide) (by decide) rc_X3 (lw_V q2488 q2490 qs107 q163 q2491) hd_X3_put4 rfl (Nat.le_of_ble_eq_true rfl) (Nat.le_of_ble_eq_true rfl) (Nat.le_of_ble_eq_true rfl) rfl dX3_feed_68 ?_)
  refine wg_aload_n (pc := 71) hX dX3_feed_71 0 rfl ?_
  refine wu_ (wg_gI (pc := 72) hX fd_X3_414 dX3_feed_72 fun v8 => ?_)
  exact wu_rt (wg_iret (pc := 75) hX rfl rfl dX3_feed_75)
theorem m_X3_end (a1 : Int32) : amMet yX3_end cX3_end 2 (some .boolean) 1 32 encI [.ref (rid 1 1), .int a1] (up (p_X3_end a1)) := by
  refine amMet.of (own := RX3) (by decide) rfl (Nat.le_of_ble_eq_true rfl) fun X hX hPs => ?_
  change WG X encI 0 [(0, .ref (rid 1 1)), (1, .int a1)] [] (bd1 (up (p_X3_end a1)) rt1)
  unfold p_X3_end
  refine wg_aload_n (pc := 0) hX dX3_end_0 0 rfl ?_
  refine wg_iconst (pc := 1) (v := 0) hX dX3_end_1 rfl ?_
  refine wu_ (wg_pI (pc := 2) hX fp_X3_297 (fun h => by cases h) dX3_end_2 ?_)
  refine wg_iload_n (pc := 5) hX dX3_end_5 1 rfl ?_
  refine wg_if_lt (pc := 6) (tgt := 17) hX dX3_end_6 (by decide) (fun h1 => ?_) (fun h1 => ?_)
  · refine wu_t h1 ?_
    refine wg_iconst (pc := 17) (v := 0) hX dX3_end_17 rfl ?_
    exact wu_rt (wg_zret (pc := 18) hX rfl (by decide) rfl dX3_end_18)
  refine wu_f h1 ?_
  refine wg_iload_n (pc := 9) hX dX3_end_9 1 rfl ?_
  refine wg_aload_n (pc := 10) hX dX3_end_10 0 rfl ?_
  refine wu_ (wg_gI (pc := 11) hX fd_X3_414 dX3_end_11 fun v2 => ?_)
  refine wg_icmp_le (pc := 14) (tgt := 19) hX dX3_end_14 (by decide) (fun h3 => ?_) (fun h3 => ?_)
  rotate_left
  · refine wu_f h3 ?_
    refine wg_iconst (pc := 17) (v := 0) hX dX3_end_17 rfl ?_
    exact wu_rt (wg_zret (pc := 18) hX rfl (by decide) rfl dX3_end_18)
  refine wu_t h3 ?_
  refine wg_aload_n (pc := 19) hX dX3_end_19 0 rfl ?_
  refine wg_iload_n (pc := 20) hX dX3_end_20 1 rfl ?_
  refine wu_ (wg_pI (pc := 21) hX fp_X3_414 (fun h => by cases h) dX3_end_21 ?_)
  refine wg_iconst (pc := 24) (v := 1) hX dX3_end_24 rfl ?_
  exact wu_rt (wg_zret (pc := 25) hX rfl (by decide) rfl dX3_end_25)
theorem m_X3_look  : amMet yX3_look cX3_look 1 (some .int) 1 32 encI [.ref (rid 1 1)] (up (p_X3_look)) := by
  refine amMet.of (own := RX3) (by decide) rfl (Nat.le_of_ble_eq_true rfl) fun X hX hPs => ?_
  change WG X encI 0 [(0, .ref (rid 1 1))] [] (bd1 (up (p_X3_look)) rt1)
  unfold p_X3_look
  refine wu_lpx (α := Unit) (γ := Unit) (pcl := 0) (pcT := 43) (lo := fun x => [(0, .ref (rid 1 1))]) (so := fun _ => []) (lT := fun x => [(0, .ref (rid 1 1))]) (sT := fun _ => []) (n := amFu) (x0 := ()) (fun K1 rec1 hrec1 hk1 x1 => ?_) (fun y2 => ?_)
  · unfold p_X3_look_L0
    refine wg_aload_n (pc := 0) hX dX3_look_0 0 rfl ?_
    refine wu_ (wg_gI (pc := 1) hX fd_X3_423 dX3_look_1 fun v3 => ?_)
    refine wg_aload_n (pc := 4) hX dX3_look_4 0 rfl ?_
    refine wu_ (wg_gI (pc := 5) hX fd_X3_426 dX3_look_5 fun v4 => ?_)
    refine wg_icmp_ge (pc := 8) (tgt := 43) hX dX3_look_8 (by decide) (fun h5 => ?_) (fun h5 => ?_)
    · refine wu_t h5 ?_
      exact wu_rt (hk1 ())
    refine wu_f h5 ?_
    refine wg_aload_n (pc := 11) hX dX3_look_11 0 rfl ?_
    refine wu_ (wg_gR (pc := 12) hX fd_X3_205 dX3_look_12 fun r6 => ?_)
    refine wg_aload_n (pc := 15) hX dX3_look_15 0 rfl ?_
    refine wu_ (wg_gI (pc := 16) hX fd_X3_429 dX3_look_16 fun v7 => ?_)
    refine wg_aload_n (pc := 19) hX dX3_look_19 0 rfl ?_
    refine wu_ (wg_gI (pc := 20) hX fd_X3_423 dX3_look_20 fun v8 => ?_)
    refine wg_iadd (pc := 23) hX dX3_look_23 ?_
    refine wu_ (wg_rB (pc := 24) hX ar_107 dX3_look_24 fun v9 => ?_)
    refine wg_bipush (pc := 25) (v := 32) hX dX3_look_25 rfl ?_
    refine wg_icmp_ne (pc := 27) (tgt := 43) hX dX3_look_27 (by decide) (fun h10 => ?_) (fun h10 => ?_)
    rotate_left
    · refine wu_f h10 ?_
      exact wu_rt (hk1 ())
    refine wu_t h10 ?_
    refine wg_aload_n (pc := 30) hX dX3_look_30 0 rfl ?_
    refine wg_dup (pc := 31) hX dX3_look_31 rfl ?_
    refine wu_ (wg_gI (pc := 32) hX fd_X3_423 dX3_look_32 fun v11 => ?_)
    refine wg_iconst (pc := 35) (v := 1) hX dX3_look_35 rfl ?_
    refine wg_iadd (pc := 36) hX dX3_look_36 ?_
    refine wu_ (wg_pI (pc := 37) hX fp_X3_423 (fun h => by cases h) dX3_look_37 ?_)
    refine wg_goto (pc := 40) (tgt := 0) hX dX3_look_40 (by decide) ?_
    exact hrec1 ()
  refine wg_aload_n (pc := 43) hX dX3_look_43 0 rfl ?_
  refine wu_ (wg_gI (pc := 44) hX fd_X3_423 dX3_look_44 fun v12 => ?_)
  refine wg_aload_n (pc := 47) hX dX3_look_47 0 rfl ?_
  refine wu_ (wg_gI (pc := 48) hX fd_X3_426 dX3_look_48 fun v13 => ?_)
  refine wg_icmp_ge (pc := 51) (tgt := 75) hX dX3_look_51 (by decide) (fun h14 => ?_) (fun h14 => ?_)
  · refine wu_t h14 ?_
    refine wg_iconst (pc := 75) (v := (-1)) hX dX3_look_75 rfl ?_
    exact wu_rt (wg_iret (pc := 76) hX rfl rfl dX3_look_76)
  refine wu_f h14 ?_
  refine wg_aload_n (pc := 54) hX dX3_look_54 0 rfl ?_
  refine wu_ (wg_gR (pc := 55) hX fd_X3_205 dX3_look_55 fun r15 => ?_)
  refine wg_aload_n (pc := 58) hX dX3_look_58 0 rfl ?_
  refine wu_ (wg_gI (pc := 59) hX fd_X3_429 dX3_look_59 fun v16 => ?_)
  refine wg_aload_n (pc := 62) hX dX3_look_62 0 rfl ?_
  refine wu_ (wg_gI (pc := 63) hX fd_X3_423 dX3_look_63 fun v17 => ?_)
  refine wg_iadd (pc := 66) hX dX3_look_66 ?_
  refine wu_ (wg_rB (pc := 67) hX ar_107 dX3_look_67 fun v18 => ?_)
  refine wg_sipush (pc := 68) (v := 255) hX dX3_look_68 rfl ?_
  refine wg_iand (pc := 71) hX dX3_look_71 ?_
  refine wg_goto (pc := 72) (tgt := 76) hX dX3_look_72 (by decide) ?_
  exact wu_rt (wg_iret (pc := 76) hX rfl rfl dX3_look_76)
theorem m_X3_stop  : amMet yX3_stop cX3_stop 1 (some .boolean) 1 32 encI [.ref (rid 1 1)] (up (p_X3_stop)) := by
  refine amMet.of (own := RX3) (by decide) rfl (Nat.le_of_ble_eq_true rfl) fun X hX hPs => ?_
  change WG X encI 0 [(0, .ref (rid 1 1))] [] (bd1 (up (p_X3_stop)) rt1)
  unfold p_X3_stop
  refine wg_aload_n (pc := 0) hX dX3_stop_0 0 rfl ?_
  refine wu_ (wg_gI (pc := 1) hX fd_X3_432 dX3_stop_1 fun v1 => ?_)
  refine wg_iconst (pc := 4) (v := (-1)) hX dX3_stop_4 rfl ?_
  refine wg_icmp_ne (pc := 5) (tgt := 16) hX dX3_stop_5 (by decide) (fun h2 => ?_) (fun h2 => ?_)
  rotate_left
  · refine wu_f h2 ?_
    refine wg_iconst (pc := 16) (v := 0) hX dX3_stop_16 rfl ?_
    exact wu_rt (wg_zret (pc := 17) hX rfl (by decide) rfl dX3_stop_17)
  refine wu_t h2 ?_
  refine wg_aload_n (pc := 8) hX dX3_stop_8 0 rfl ?_
  refine wg_aload_n (pc := 9) hX dX3_stop_9 0 rfl ?_
  refine wu_ (wg_gI (pc := 10) hX fd_X3_423 dX3_stop_10 fun v3 => ?_)
  refine wu_ (wg_pI (pc := 13) hX fp_X3_432 (fun h => by cases h) dX3_stop_13 ?_)
  refine wg_iconst (pc := 16) (v := 0) hX dX3_stop_16 rfl ?_
  exact wu_rt (wg_zret (pc := 17) hX rfl (by decide) rfl dX3_stop_17)
theorem m_X3_goesIn  : amMet yX3_goesIn cX3_goesIn 1 (some .boolean) 2 52 encI [.ref (rid 1 1)] (up (p_X3_goesIn)) := by
  refine amMet.of (own := RX3) (by decide) rfl (Nat.le_of_ble_eq_true rfl) fun X hX hPs => ?_
  change WG X encI 0 [(0, .ref (rid 1 1))] [] (bd1 (up (p_X3_goesIn)) rt1)
  unfold p_X3_goesIn
  refine wg_aload_n (pc := 0) hX dX3_goesIn_0 0 rfl ?_
  refine wu_ (wg_gI (pc := 1) hX fd_X3_435 dX3_goesIn_1 fun v1 => ?_)
  refine wg_bipush (pc := 4) (v := 8) hX dX3_goesIn_4 rfl ?_
  refine wg_icmp_ne (pc := 6) (tgt := 14) hX dX3_goesIn_6 (by decide) (fun h2 => ?_) (fun h2 => ?_)
  · refine wu_t h2 ?_
    refine wg_aload_n (pc := 9) hX dX3_goesIn_9 0 rfl ?_
    refine wu_ (wg_cVi (pc := 10) (As := []) (rest := []) hX (m_X3_stop) (by decide) (by decide) (by decide) rc_X3 (lw_V q2527 q2529 qs114 q163 q2530) hd_X3_stop rfl (Nat.le_of_ble_eq_true rfl) (Nat.le_of_ble_eq_true rfl) (Nat.le_of_ble_eq_true rfl) rfl dX3_goesIn_10 fun v3 => ?_)
    refine wu_ (wg_gd fun h4 => ?_)
    exact wu_rt (wg_zret (pc := 13) hX rfl h4 rfl dX3_goesIn_13)
  refine wu_f h2 ?_
  refine wg_aload_n (pc := 14) hX dX3_goesIn_14 0 rfl ?_
  refine wg_dup (pc := 15) hX dX3_goesIn_15 rfl ?_
  refine wu_ (wg_gI (pc := 16) hX fd_X3_435 dX3_goesIn_16 fun v5 => ?_)
  refine wg_iconst (pc := 19) (v := 1) hX dX3_goesIn_19 rfl ?_
  refine wg_iadd (pc := 20) hX dX3_goesIn_20 ?_
  refine wu_ (wg_pI (pc := 21) hX fp_X3_435 (fun h => by cases h) dX3_goesIn_21 ?_)
  refine wg_aload_n (pc := 24) hX dX3_goesIn_24 0 rfl ?_
  refine wg_dup (pc := 25) hX dX3_goesIn_25 rfl ?_
  refine wu_ (wg_gI (pc := 26) hX fd_X3_423 dX3_goesIn_26 fun v6 => ?_)
  refine wg_iconst (pc := 29) (v := 1) hX dX3_goesIn_29 rfl ?_
  refine wg_iadd (pc := 30) hX dX3_goesIn_30 ?_
  refine wu_ (wg_pI (pc := 31) hX fp_X3_423 (fun h => by cases h) dX3_goesIn_31 ?_)
  refine wg_iconst (pc := 34) (v := 1) hX dX3_goesIn_34 rfl ?_
  exact wu_rt (wg_zret (pc := 35) hX rfl (by decide) rfl dX3_goesIn_35)
theorem m_X3_takes (a1 : Int32) : amMet yX3_takes cX3_takes 2 (some .boolean) 2 52 encI [.ref (rid 1 1), .int a1] (up (p_X3_takes a1)) := by
  refine amMet.of (own := RX3) (by decide) rfl (Nat.le_of_ble_eq_true rfl) fun X hX hPs => ?_
  change WG X encI 0 [(0, .ref (rid 1 1)), (1, .int a1)] [] (bd1 (up (p_X3_takes a1)) rt1)
  unfold p_X3_takes
  refine wg_aload_n (pc := 0) hX dX3_takes_0 0 rfl ?_
  refine wu_ (wg_gI (pc := 1) hX fd_X3_432 dX3_takes_1 fun v1 => ?_)
  refine wg_iconst (pc := 4) (v := (-1)) hX dX3_takes_4 rfl ?_
  refine wu_jn (α := Unit) (pcJ := 16) (lJ := fun x => [(0, .ref (rid 1 1))]) (sJ := fun x => []) (fun k2 hk2 => ?_) (fun z2 => ?_)
  · refine wg_icmp_ne (pc := 5) (tgt := 16) hX dX3_takes_5 (by decide) (fun h3 => ?_) (fun h3 => ?_)
    rotate_left
    · refine wu_f h3 ?_
      refine wg_sub hX [0] rfl ?_
      exact hk2 ()
    refine wu_t h3 ?_
    refine wg_aload_n (pc := 8) hX dX3_takes_8 0 rfl ?_
    refine wu_ (wg_cVi (pc := 9) (As := []) (rest := []) hX (m_X3_look) (by decide) (by decide) (by decide) rc_X3 (lw_V q2519 q2521 qs112 q163 q2522) hd_X3_look rfl (Nat.le_of_ble_eq_true rfl) (Nat.le_of_ble_eq_true rfl) (Nat.le_of_ble_eq_true rfl) rfl dX3_takes_9 fun v4 => ?_)
    refine wg_iload_n (pc := 12) hX dX3_takes_12 1 rfl ?_
    refine wg_icmp_eq (pc := 13) (tgt := 21) hX dX3_takes_13 (by decide) (fun h5 => ?_) (fun h5 => ?_)
    rotate_left
    · refine wu_f h5 ?_
      refine wg_sub hX [0] rfl ?_
      exact hk2 ()
    refine wu_t h5 ?_
    refine wg_aload_n (pc := 21) hX dX3_takes_21 0 rfl ?_
    refine wg_dup (pc := 22) hX dX3_takes_22 rfl ?_
    refine wu_ (wg_gI (pc := 23) hX fd_X3_423 dX3_takes_23 fun v6 => ?_)
    refine wg_iconst (pc := 26) (v := 1) hX dX3_takes_26 rfl ?_
    refine wg_iadd (pc := 27) hX dX3_takes_27 ?_
    refine wu_ (wg_pI (pc := 28) hX fp_X3_423 (fun h => by cases h) dX3_takes_28 ?_)
    refine wg_iconst (pc := 31) (v := 1) hX dX3_takes_31 rfl ?_
    exact wu_rt (wg_zret (pc := 32) hX rfl (by decide) rfl dX3_takes_32)
  refine wg_aload_n (pc := 16) hX dX3_takes_16 0 rfl ?_
  refine wu_ (wg_cVi (pc := 17) (As := []) (rest := []) hX (m_X3_stop) (by decide) (by decide) (by decide) rc_X3 (lw_V q2527 q2529 qs114 q163 q2530) hd_X3_stop rfl (Nat.le_of_ble_eq_true rfl) (Nat.le_of_ble_eq_true rfl) (Nat.le_of_ble_eq_true rfl) rfl dX3_takes_17 fun v7 => ?_)
  refine wu_ (wg_gd fun h8 => ?_)
  exact wu_rt (wg_zret (pc := 20) hX rfl h8 rfl dX3_takes_20)
theorem m_X3_isDigit  : amMet yX3_isDigit cX3_isDigit 1 (some .boolean) 1 32 encI [.ref (rid 1 1)] (up (p_X3_isDigit)) := by
  refine amMet.of (own := RX3) (by decide) rfl (Nat.le_of_ble_eq_true rfl) fun X hX hPs => ?_
  change WG X encI 0 [(0, .ref (rid 1 1))] [] (bd1 (up (p_X3_isDigit)) rt1)
  unfold p_X3_isDigit
  refine wg_aload_n (pc := 0) hX dX3_isDigit_0 0 rfl ?_
  refine wu_ (wg_gI (pc := 1) hX fd_X3_423 dX3_isDigit_1 fun v1 => ?_)
  refine wg_aload_n (pc := 4) hX dX3_isDigit_4 0 rfl ?_
  refine wu_ (wg_gI (pc := 5) hX fd_X3_426 dX3_isDigit_5 fun v2 => ?_)
  refine wu_jn (α := Unit) (pcJ := 53) (lJ := fun x => []) (sJ := fun x => []) (fun k3 hk3 => ?_) (fun z3 => ?_)
  · refine wg_icmp_ge (pc := 8) (tgt := 53) hX dX3_isDigit_8 (by decide) (fun h4 => ?_) (fun h4 => ?_)
    · refine wu_t h4 ?_
      refine wg_sub hX [] rfl ?_
      exact hk3 ()
    refine wu_f h4 ?_
    refine wg_aload_n (pc := 11) hX dX3_isDigit_11 0 rfl ?_
    refine wu_ (wg_gR (pc := 12) hX fd_X3_205 dX3_isDigit_12 fun r5 => ?_)
    refine wg_aload_n (pc := 15) hX dX3_isDigit_15 0 rfl ?_
    refine wu_ (wg_gI (pc := 16) hX fd_X3_429 dX3_isDigit_16 fun v6 => ?_)
    refine wg_aload_n (pc := 19) hX dX3_isDigit_19 0 rfl ?_
    refine wu_ (wg_gI (pc := 20) hX fd_X3_423 dX3_isDigit_20 fun v7 => ?_)
    refine wg_iadd (pc := 23) hX dX3_isDigit_23 ?_
    refine wu_ (wg_rB (pc := 24) hX ar_107 dX3_isDigit_24 fun v8 => ?_)
    refine wg_bipush (pc := 25) (v := 48) hX dX3_isDigit_25 rfl ?_
    refine wg_icmp_lt (pc := 27) (tgt := 53) hX dX3_isDigit_27 (by decide) (fun h9 => ?_) (fun h9 => ?_)
    · refine wu_t h9 ?_
      refine wg_sub hX [] rfl ?_
      exact hk3 ()
    refine wu_f h9 ?_
    refine wg_aload_n (pc := 30) hX dX3_isDigit_30 0 rfl ?_
    refine wu_ (wg_gR (pc := 31) hX fd_X3_205 dX3_isDigit_31 fun r10 => ?_)
    refine wg_aload_n (pc := 34) hX dX3_isDigit_34 0 rfl ?_
    refine wu_ (wg_gI (pc := 35) hX fd_X3_429 dX3_isDigit_35 fun v11 => ?_)
    refine wg_aload_n (pc := 38) hX dX3_isDigit_38 0 rfl ?_
    refine wu_ (wg_gI (pc := 39) hX fd_X3_423 dX3_isDigit_39 fun v12 => ?_)
    refine wg_iadd (pc := 42) hX dX3_isDigit_42 ?_
    refine wu_ (wg_rB (pc := 43) hX ar_107 dX3_isDigit_43 fun v13 => ?_)
    refine wg_bipush (pc := 44) (v := 57) hX dX3_isDigit_44 rfl ?_
    refine wg_icmp_gt (pc := 46) (tgt := 53) hX dX3_isDigit_46 (by decide) (fun h14 => ?_) (fun h14 => ?_)
    · refine wu_t h14 ?_
      refine wg_sub hX [] rfl ?_
      exact hk3 ()
    refine wu_f h14 ?_
    refine wg_iconst (pc := 49) (v := 1) hX dX3_isDigit_49 rfl ?_
    refine wg_goto (pc := 50) (tgt := 54) hX dX3_isDigit_50 (by decide) ?_
    exact wu_rt (wg_zret (pc := 54) hX rfl (by decide) rfl dX3_isDigit_54)
  refine wg_iconst (pc := 53) (v := 0) hX dX3_isDigit_53 rfl ?_
  exact wu_rt (wg_zret (pc := 54) hX rfl (by decide) rfl dX3_isDigit_54)
theorem m_X3_number (a1 : Int32) : amMet yX3_number cX3_number 5 (some .int) 2 52 encI [.ref (rid 1 1), .int a1] (up (p_X3_number a1)) := by
  refine amMet.of (own := RX3) (by decide) rfl (Nat.le_of_ble_eq_true rfl) fun X hX hPs => ?_
  change WG X encI 0 [(0, .ref (rid 1 1)), (1, .int a1)] [] (bd1 (up (p_X3_number a1)) rt1)
  unfold p_X3_number
  refine wg_aload_n (pc := 0) hX dX3_number_0 0 rfl ?_
  refine wu_ (wg_cVi (pc := 1) (As := []) (rest := []) hX (m_X3_look) (by decide) (by decide) (by decide) rc_X3 (lw_V q2519 q2521 qs112 q163 q2522) hd_X3_look rfl (Nat.le_of_ble_eq_true rfl) (Nat.le_of_ble_eq_true rfl) (Nat.le_of_ble_eq_true rfl) rfl dX3_number_1 fun v1 => ?_)
  refine wg_istore_n (pc := 4) (l' := [(0, .ref (rid 1 1)), (1, .int a1), (2, .int v1)]) hX dX3_number_4 (by decide) rfl ?_
  refine wg_iconst (pc := 5) (v := 0) hX dX3_number_5 rfl ?_
  refine wg_istore_n (pc := 6) (l' := [(0, .ref (rid 1 1)), (1, .int a1), (2, .int v1), (3, .int 0)]) hX dX3_number_6 (by decide) rfl ?_
  refine wg_aload_n (pc := 7) hX dX3_number_7 0 rfl ?_
  refine wu_ (wg_cVi (pc := 8) (As := []) (rest := []) hX (m_X3_isDigit) (by decide) (by decide) (by decide) rc_X3 (lw_V q2552 q2554 qs120 q163 q2555) hd_X3_isDigit rfl (Nat.le_of_ble_eq_true rfl) (Nat.le_of_ble_eq_true rfl) (Nat.le_of_ble_eq_true rfl) rfl dX3_number_8 fun v2 => ?_)
  refine wu_jx (α := Unit) (pcJ := 19) (lJ := fun x => [(0, .ref (rid 1 1)), (1, .int a1), (3, .int 0)]) (sJ := fun x => []) (fun K3 hk3 => ?_) (fun z3 => ?_)
  · refine wg_if_ne (pc := 11) (tgt := 19) hX dX3_number_11 (by decide) (fun h4 => ?_) (fun h4 => ?_)
    rotate_left
    · refine wu_f h4 ?_
      refine wg_sub hX [0, 1, 3] rfl ?_
      exact wu_rt (hk3 ())
    refine wu_t h4 ?_
    refine wg_aload_n (pc := 14) hX dX3_number_14 0 rfl ?_
    refine wu_ (wg_cVi (pc := 15) (As := []) (rest := []) hX (m_X3_stop) (by decide) (by decide) (by decide) rc_X3 (lw_V q2527 q2529 qs114 q163 q2530) hd_X3_stop rfl (Nat.le_of_ble_eq_true rfl) (Nat.le_of_ble_eq_true rfl) (Nat.le_of_ble_eq_true rfl) rfl dX3_number_15 fun v5 => ?_)
    refine wg_pop (pc := 18) hX dX3_number_18 rfl ?_
    refine wg_sub hX [0, 1, 3] rfl ?_
    exact wu_rt (hk3 ())
  refine wg_iconst (pc := 19) (v := 0) hX dX3_number_19 rfl ?_
  refine wg_istore (pc := 20) (l' := [(0, .ref (rid 1 1)), (1, .int a1), (3, .int 0), (4, .int 0)]) hX dX3_number_20 (by decide) rfl ?_
  refine wu_lp (α := Int32 × Int32) (pcl := 22) (lo := fun x => [(0, .ref (rid 1 1)), (1, .int a1), (3, .int x.1), (4, .int x.2)]) (so := fun _ => []) (fun rec6 hrec6 x6 => ?_) amFu (0, 0)
  unfold p_X3_number_L22
  refine wg_aload_n (pc := 22) hX dX3_number_22 0 rfl ?_
  refine wu_ (wg_cVi (pc := 23) (As := []) (rest := []) hX (m_X3_isDigit) (by decide) (by decide) (by decide) rc_X3 (lw_V q2552 q2554 qs120 q163 q2555) hd_X3_isDigit rfl (Nat.le_of_ble_eq_true rfl) (Nat.le_of_ble_eq_true rfl) (Nat.le_of_ble_eq_true rfl) rfl dX3_number_23 fun v7 => ?_)
  refine wg_if_eq (pc := 26) (tgt := 89) hX dX3_number_26 (by decide) (fun h8 => ?_) (fun h8 => ?_)
  · refine wu_t h8 ?_
    refine wg_iload_n (pc := 89) hX dX3_number_89 2 rfl ?_
    exact wu_rt (wg_iret (pc := 90) hX rfl rfl dX3_number_90)
  refine wu_f h8 ?_
  refine wg_aload_n (pc := 29) hX dX3_number_29 0 rfl ?_
  refine wu_ (wg_gI (pc := 30) hX fd_X3_432 dX3_number_30 fun v9 => ?_)
  refine wg_iconst (pc := 33) (v := (-1)) hX dX3_number_33 rfl ?_
  refine wg_icmp_ne (pc := 34) (tgt := 89) hX dX3_number_34 (by decide) (fun h10 => ?_) (fun h10 => ?_)
  rotate_left
  · refine wu_f h10 ?_
    refine wg_iload_n (pc := 89) hX dX3_number_89 2 rfl ?_
    exact wu_rt (wg_iret (pc := 90) hX rfl rfl dX3_number_90)
  refine wu_t h10 ?_
  refine wg_iload (pc := 37) hX dX3_number_37 3 rfl ?_
  refine wg_iload_n (pc := 39) hX dX3_number_39 1 rfl ?_
  refine wg_icmp_ne (pc := 40) (tgt := 50) hX dX3_number_40 (by decide) (fun h11 => ?_) (fun h11 => ?_)
  · refine wu_t h11 ?_
    refine wg_aload_n (pc := 43) hX dX3_number_43 0 rfl ?_
    refine wu_ (wg_cVi (pc := 44) (As := []) (rest := []) hX (m_X3_stop) (by decide) (by decide) (by decide) rc_X3 (lw_V q2527 q2529 qs114 q163 q2530) hd_X3_stop rfl (Nat.le_of_ble_eq_true rfl) (Nat.le_of_ble_eq_true rfl) (Nat.le_of_ble_eq_true rfl) rfl dX3_number_44 fun v12 => ?_)
    refine wg_pop (pc := 47) hX dX3_number_47 rfl ?_
    refine wg_iconst (pc := 48) (v := 0) hX dX3_number_48 rfl ?_
    exact wu_rt (wg_iret (pc := 49) hX rfl rfl dX3_number_49)
  refine wu_f h11 ?_
  refine wg_bipush (pc := 50) (v := 10) hX dX3_number_50 rfl ?_
  refine wg_iload_n (pc := 52) hX dX3_number_52 2 rfl ?_
  refine wg_imul (pc := 53) hX dX3_number_53 ?_
  refine wg_aload_n (pc := 54) hX dX3_number_54 0 rfl ?_
  refine wu_ (wg_gR (pc := 55) hX fd_X3_205 dX3_number_55 fun r13 => ?_)
  refine wg_aload_n (pc := 58) hX dX3_number_58 0 rfl ?_
  refine wu_ (wg_gI (pc := 59) hX fd_X3_429 dX3_number_59 fun v14 => ?_)
  refine wg_aload_n (pc := 62) hX dX3_number_62 0 rfl ?_
  refine wu_ (wg_gI (pc := 63) hX fd_X3_423 dX3_number_63 fun v15 => ?_)
  refine wg_iadd (pc := 66) hX dX3_number_66 ?_
  refine wu_ (wg_rB (pc := 67) hX ar_107 dX3_number_67 fun v16 => ?_)
  refine wg_iadd (pc := 68) hX dX3_number_68 ?_
  refine wg_bipush (pc := 69) (v := 48) hX dX3_number_69 rfl ?_
  refine wg_isub (pc := 71) hX dX3_number_71 ?_
  refine wu_ (wg_nmi hX fun v17 => ?_)
  refine wg_istore_n (pc := 72) (l' := [(0, .ref (rid 1 1)), (1, .int a1), (3, .int v17), (4, .int x6.2)]) hX dX3_number_72 (by decide) rfl ?_
  refine wg_aload_n (pc := 73) hX dX3_number_73 0 rfl ?_
  refine wg_dup (pc := 74) hX dX3_number_74 rfl ?_
  refine wu_ (wg_gI (pc := 75) hX fd_X3_423 dX3_number_75 fun v18 => ?_)
  refine wg_iconst (pc := 78) (v := 1) hX dX3_number_78 rfl ?_
  refine wg_iadd (pc := 79) hX dX3_number_79 ?_
  refine wu_ (wg_pI (pc := 80) hX fp_X3_423 (fun h => by cases h) dX3_number_80 ?_)
  refine wg_iinc (pc := 83) (v := (x6.2 + 1)) (l' := [(0, .ref (rid 1 1)), (1, .int a1), (3, .int v17), (4, .int (x6.2 + 1))]) hX dX3_number_83 3 rfl rfl (by decide) rfl ?_
  refine wg_goto (pc := 86) (tgt := 22) hX dX3_number_86 (by decide) ?_
  exact hrec6 (v17, (x6.2 + 1))
theorem m_X3_bound (a1 : Int64) : amMet yX3_bound cX3_bound 2 (some .int) 1 64 encI [.long a1] (up (p_X3_bound a1)) := by
  refine amMet.of (own := RX3) (by decide) rfl (Nat.le_of_ble_eq_true rfl) fun X hX hPs => ?_
  change WG X encI 0 [(0, .long a1)] [] (bd1 (up (p_X3_bound a1)) rt1)
  unfold p_X3_bound
  refine wg_ldc2 (pc := 0) hX dX3_bound_0 q2559 ?_
  refine wg_ldc2 (pc := 3) hX dX3_bound_3 q2560 ?_
  refine wg_lload_n (pc := 6) hX dX3_bound_6 0 rfl ?_
  refine wg_mminl (pc := 7) hX q2561 q1388 q165 q1389 (Nat.le_of_ble_eq_true rfl) (Nat.le_of_ble_eq_true rfl) dX3_bound_7 ?_
  refine wu_ (wg_nml hX fun v1 => ?_)
  refine wg_mmaxl (pc := 10) hX q2562 q1391 q165 q1392 (Nat.le_of_ble_eq_true rfl) (Nat.le_of_ble_eq_true rfl) dX3_bound_10 ?_
  refine wu_ (wg_nml hX fun v2 => ?_)
  refine wg_l2i (pc := 13) hX dX3_bound_13 ?_
  exact wu_rt (wg_iret (pc := 14) hX rfl rfl dX3_bound_14)
theorem w_X3_atom (d : Nat) (s_X3_atom : am0 Int32) (s_X3_sums : am0 Int32) (s_X3_term : am0 Int32) (hm_X3_atom : amMet yX3_atom cX3_atom 3 (some .int) (5 + d) (130 + d * 24) encI [.ref (rid 1 1)] (up (s_X3_atom))) (hm_X3_sums : amMet yX3_sums cX3_sums 5 (some .int) (5 + d) (130 + d * 24) encI [.ref (rid 1 1)] (up (s_X3_sums))) (hm_X3_term : amMet yX3_term cX3_term 4 (some .int) (5 + d) (130 + d * 24) encI [.ref (rid 1 1)] (up (s_X3_term)))  : amMet yX3_atom cX3_atom 3 (some .int) (5 + (d + 1)) (130 + (d + 1) * 24) encI [.ref (rid 1 1)] (up (b_X3_atom s_X3_atom s_X3_sums s_X3_term)) := by
  refine amMet.of (own := RX3) (by decide) rfl (Nat.le_of_ble_eq_true rfl) fun X hX hPs => ?_
  change WG X encI 0 [(0, .ref (rid 1 1))] [] (bd1 (up (b_X3_atom s_X3_atom s_X3_sums s_X3_term)) rt1)
  unfold b_X3_atom
  have hM0 := amPs.m0 hPs
  refine wu_ (wg_gM ?_)
  refine wg_aload_n (pc := 0) hX dX3_atom_0 0 rfl ?_
  refine wu_ (wg_cVi (pc := 1) (As := []) (rest := []) hX (m_X3_look) (by decide) (by decide) (by decide) rc_X3 (lw_V q2519 q2521 qs112 q163 q2522) hd_X3_look rfl (by omega) (by omega) (Nat.le_of_ble_eq_true rfl) rfl dX3_atom_1 fun v1 => ?_)
  refine wg_istore_n (pc := 4) (l' := [(0, .ref (rid 1 1)), (1, .int v1)]) hX dX3_atom_4 (by decide) rfl ?_
  refine wg_iload_n (pc := 5) hX dX3_atom_5 1 rfl ?_
  refine wg_iconst (pc := 6) (v := (-1)) hX dX3_atom_6 rfl ?_
  refine wu_jn (α := Unit) (pcJ := 38) (lJ := fun x => [(0, .ref (rid 1 1)), (1, .int v1)]) (sJ := fun x => []) (fun k2 hk2 => ?_) (fun z2 => ?_)
  · refine wg_icmp_eq (pc := 7) (tgt := 38) hX dX3_atom_7 (by decide) (fun h3 => ?_) (fun h3 => ?_)
    · refine wu_t h3 ?_
      exact hk2 ()
    refine wu_f h3 ?_
    refine wg_aload_n (pc := 10) hX dX3_atom_10 0 rfl ?_
    refine wu_ (wg_gR (pc := 11) hX fd_X3_210 dX3_atom_11 fun r4 => ?_)
    refine wg_iload_n (pc := 14) hX dX3_atom_14 1 rfl ?_
    refine wu_ (wg_gd fun h5 => ?_)
    refine wu_ (wg_cVsi (pc := 15) (As := [.int v1]) (rest := []) hX (m_J6_indexOf r4 v1) h5 rfl (lw_V q2547 q1120 q1121 q178 q1122) hd_J6_indexOf rfl (by omega) (by omega) (Nat.le_of_ble_eq_true rfl) rfl dX3_atom_15 fun v6 => ?_)
    refine wg_if_lt (pc := 18) (tgt := 38) hX dX3_atom_18 (by decide) (fun h7 => ?_) (fun h7 => ?_)
    · refine wu_t h7 ?_
      exact hk2 ()
    refine wu_f h7 ?_
    refine wg_aload_n (pc := 21) hX dX3_atom_21 0 rfl ?_
    refine wg_dup (pc := 22) hX dX3_atom_22 rfl ?_
    refine wu_ (wg_gI (pc := 23) hX fd_X3_423 dX3_atom_23 fun v8 => ?_)
    refine wg_iconst (pc := 26) (v := 1) hX dX3_atom_26 rfl ?_
    refine wg_iadd (pc := 27) hX dX3_atom_27 ?_
    refine wu_ (wg_pI (pc := 28) hX fp_X3_423 (fun h => by cases h) dX3_atom_28 ?_)
    refine wg_aload_n (pc := 31) hX dX3_atom_31 0 rfl ?_
    refine wg_gK (pc := 32) hX hM0 fd_X3_192 (by decide) dX3_atom_32 ?_
    refine wg_iload_n (pc := 35) hX dX3_atom_35 1 rfl ?_
    refine wu_ (wg_rI (pc := 36) hX ar_112 dX3_atom_36 fun v9 => ?_)
    exact wu_rt (wg_iret (pc := 37) hX rfl rfl dX3_atom_37)
  refine wg_iload_n (pc := 38) hX dX3_atom_38 1 rfl ?_
  refine wg_bipush (pc := 39) (v := 91) hX dX3_atom_39 rfl ?_
  refine wg_icmp_eq (pc := 41) (tgt := 50) hX dX3_atom_41 (by decide) (fun h10 => ?_) (fun h10 => ?_)
  rotate_left
  · refine wu_f h10 ?_
    refine wg_aload_n (pc := 44) hX dX3_atom_44 0 rfl ?_
    refine wg_iconst (pc := 45) (v := 4) hX dX3_atom_45 rfl ?_
    refine wu_ (wg_cVi (pc := 46) (As := [.int 4]) (rest := []) hX (m_X3_number 4) (by decide) (by decide) (by decide) rc_X3 (lw_V q2548 q2550 qs119 q163 q2551) hd_X3_number rfl (by omega) (by omega) (Nat.le_of_ble_eq_true rfl) rfl dX3_atom_46 fun v11 => ?_)
    exact wu_rt (wg_iret (pc := 49) hX rfl rfl dX3_atom_49)
  refine wu_t h10 ?_
  refine wg_aload_n (pc := 50) hX dX3_atom_50 0 rfl ?_
  refine wu_ (wg_cVi (pc := 51) (As := []) (rest := []) hX (m_X3_goesIn) (by decide) (by decide) (by decide) rc_X3 (lw_V q2523 q2525 qs113 q163 q2526) hd_X3_goesIn rfl (by omega) (by omega) (Nat.le_of_ble_eq_true rfl) rfl dX3_atom_51 fun v12 => ?_)
  refine wg_if_ne (pc := 54) (tgt := 59) hX dX3_atom_54 (by decide) (fun h13 => ?_) (fun h13 => ?_)
  · refine wu_t h13 ?_
    refine wg_iconst (pc := 57) (v := 0) hX dX3_atom_57 rfl ?_
    exact wu_rt (wg_iret (pc := 58) hX rfl rfl dX3_atom_58)
  refine wu_f h13 ?_
  refine wg_aload_n (pc := 59) hX dX3_atom_59 0 rfl ?_
  refine wu_ (wg_cVi (pc := 60) (As := []) (rest := []) hX (hm_X3_sums) (by decide) (by decide) (by decide) rc_X3 (lw_V q2535 q2537 qs116 q163 q2538) hd_X3_sums rfl (by omega) (by omega) (Nat.le_of_ble_eq_true rfl) rfl dX3_atom_60 fun v14 => ?_)
  refine wg_istore_n (pc := 63) (l' := [(0, .ref (rid 1 1)), (1, .int v1), (2, .int v14)]) hX dX3_atom_63 (by decide) rfl ?_
  refine wg_aload_n (pc := 64) hX dX3_atom_64 0 rfl ?_
  refine wg_bipush (pc := 65) (v := 93) hX dX3_atom_65 rfl ?_
  refine wu_ (wg_cVi (pc := 67) (As := [.int 93]) (rest := []) hX (m_X3_takes 93) (by decide) (by decide) (by decide) rc_X3 (lw_V q2531 q2533 qs115 q163 q2534) hd_X3_takes rfl (by omega) (by omega) (Nat.le_of_ble_eq_true rfl) rfl dX3_atom_67 fun v15 => ?_)
  refine wg_if_ne (pc := 70) (tgt := 75) hX dX3_atom_70 (by decide) (fun h16 => ?_) (fun h16 => ?_)
  · refine wu_t h16 ?_
    refine wg_iconst (pc := 73) (v := 0) hX dX3_atom_73 rfl ?_
    exact wu_rt (wg_iret (pc := 74) hX rfl rfl dX3_atom_74)
  refine wu_f h16 ?_
  refine wg_aload_n (pc := 75) hX dX3_atom_75 0 rfl ?_
  refine wg_dup (pc := 76) hX dX3_atom_76 rfl ?_
  refine wu_ (wg_gI (pc := 77) hX fd_X3_435 dX3_atom_77 fun v17 => ?_)
  refine wg_iconst (pc := 80) (v := 1) hX dX3_atom_80 rfl ?_
  refine wg_isub (pc := 81) hX dX3_atom_81 ?_
  refine wu_ (wg_pI (pc := 82) hX fp_X3_435 (fun h => by cases h) dX3_atom_82 ?_)
  refine wg_iload_n (pc := 85) hX dX3_atom_85 2 rfl ?_
  exact wu_rt (wg_iret (pc := 86) hX rfl rfl dX3_atom_86)
theorem w_X3_sums (d : Nat) (s_X3_atom : am0 Int32) (s_X3_sums : am0 Int32) (s_X3_term : am0 Int32) (hm_X3_atom : amMet yX3_atom cX3_atom 3 (some .int) (5 + d) (130 + d * 24) encI [.ref (rid 1 1)] (up (s_X3_atom))) (hm_X3_sums : amMet yX3_sums cX3_sums 5 (some .int) (5 + d) (130 + d * 24) encI [.ref (rid 1 1)] (up (s_X3_sums))) (hm_X3_term : amMet yX3_term cX3_term 4 (some .int) (5 + d) (130 + d * 24) encI [.ref (rid 1 1)] (up (s_X3_term)))  : amMet yX3_sums cX3_sums 5 (some .int) (5 + (d + 1)) (130 + (d + 1) * 24) encI [.ref (rid 1 1)] (up (b_X3_sums s_X3_atom s_X3_sums s_X3_term)) := by
  refine amMet.of (own := RX3) (by decide) rfl (Nat.le_of_ble_eq_true rfl) fun X hX hPs => ?_
  change WG X encI 0 [(0, .ref (rid 1 1))] [] (bd1 (up (b_X3_sums s_X3_atom s_X3_sums s_X3_term)) rt1)
  unfold b_X3_sums
  refine wg_aload_n (pc := 0) hX dX3_sums_0 0 rfl ?_
  refine wu_ (wg_cVi (pc := 1) (As := []) (rest := []) hX (hm_X3_term) (by decide) (by decide) (by decide) rc_X3 (lw_V q2539 q2541 qs117 q163 q2542) hd_X3_term rfl (by omega) (by omega) (Nat.le_of_ble_eq_true rfl) rfl dX3_sums_1 fun v1 => ?_)
  refine wg_istore_n (pc := 4) (l' := [(0, .ref (rid 1 1)), (1, .int v1)]) hX dX3_sums_4 (by decide) rfl ?_
  refine wu_lpx (α := Int32) (γ := Int32) (pcl := 5) (pcT := 84) (lo := fun x => [(0, .ref (rid 1 1)), (1, .int x)]) (so := fun _ => []) (lT := fun x => [(1, .int x)]) (sT := fun _ => []) (n := amFu) (x0 := v1) (fun K2 rec2 hrec2 hk2 x2 => ?_) (fun y3 => ?_)
  · unfold p_X3_sums_L5
    refine wg_aload_n (pc := 5) hX dX3_sums_5 0 rfl ?_
    refine wu_ (wg_gI (pc := 6) hX fd_X3_432 dX3_sums_6 fun v4 => ?_)
    refine wg_iconst (pc := 9) (v := (-1)) hX dX3_sums_9 rfl ?_
    refine wg_icmp_ne (pc := 10) (tgt := 84) hX dX3_sums_10 (by decide) (fun h5 => ?_) (fun h5 => ?_)
    rotate_left
    · refine wu_f h5 ?_
      refine wg_sub hX [1] rfl ?_
      exact wu_rt (hk2 x2)
    refine wu_t h5 ?_
    refine wg_aload_n (pc := 13) hX dX3_sums_13 0 rfl ?_
    refine wu_ (wg_cVi (pc := 14) (As := []) (rest := []) hX (m_X3_look) (by decide) (by decide) (by decide) rc_X3 (lw_V q2519 q2521 qs112 q163 q2522) hd_X3_look rfl (by omega) (by omega) (Nat.le_of_ble_eq_true rfl) rfl dX3_sums_14 fun v6 => ?_)
    refine wg_bipush (pc := 17) (v := 43) hX dX3_sums_17 rfl ?_
    refine wu_jn (α := Unit) (pcJ := 31) (lJ := fun x => [(0, .ref (rid 1 1)), (1, .int x2)]) (sJ := fun x => []) (fun k7 hk7 => ?_) (fun z7 => ?_)
    · refine wg_icmp_eq (pc := 19) (tgt := 31) hX dX3_sums_19 (by decide) (fun h8 => ?_) (fun h8 => ?_)
      · refine wu_t h8 ?_
        exact hk7 ()
      refine wu_f h8 ?_
      refine wg_aload_n (pc := 22) hX dX3_sums_22 0 rfl ?_
      refine wu_ (wg_cVi (pc := 23) (As := []) (rest := []) hX (m_X3_look) (by decide) (by decide) (by decide) rc_X3 (lw_V q2519 q2521 qs112 q163 q2522) hd_X3_look rfl (by omega) (by omega) (Nat.le_of_ble_eq_true rfl) rfl dX3_sums_23 fun v9 => ?_)
      refine wg_bipush (pc := 26) (v := 45) hX dX3_sums_26 rfl ?_
      refine wg_icmp_ne (pc := 28) (tgt := 84) hX dX3_sums_28 (by decide) (fun h10 => ?_) (fun h10 => ?_)
      · refine wu_t h10 ?_
        exact hk7 ()
      refine wu_f h10 ?_
      refine wg_sub hX [1] rfl ?_
      exact wu_rt (hk2 x2)
    refine wg_aload_n (pc := 31) hX dX3_sums_31 0 rfl ?_
    refine wu_ (wg_cVi (pc := 32) (As := []) (rest := []) hX (m_X3_look) (by decide) (by decide) (by decide) rc_X3 (lw_V q2519 q2521 qs112 q163 q2522) hd_X3_look rfl (by omega) (by omega) (Nat.le_of_ble_eq_true rfl) rfl dX3_sums_32 fun v11 => ?_)
    refine wg_bipush (pc := 35) (v := 43) hX dX3_sums_35 rfl ?_
    refine wu_jx (α := Int32) (pcJ := 45) (lJ := fun x => [(0, .ref (rid 1 1)), (1, .int x2)]) (sJ := fun x => [.int x]) (fun K12 hk12 => ?_) (fun z12 => ?_)
    · refine wg_icmp_ne (pc := 37) (tgt := 44) hX dX3_sums_37 (by decide) (fun h13 => ?_) (fun h13 => ?_)
      rotate_left
      · refine wu_f h13 ?_
        refine wg_iconst (pc := 44) (v := 0) hX dX3_sums_44 rfl ?_
        exact wu_rt (hk12 0)
      refine wu_t h13 ?_
      refine wg_iconst (pc := 40) (v := 1) hX dX3_sums_40 rfl ?_
      refine wg_goto (pc := 41) (tgt := 45) hX dX3_sums_41 (by decide) ?_
      exact wu_rt (hk12 1)
    refine wg_istore_n (pc := 45) (l' := [(0, .ref (rid 1 1)), (1, .int x2), (2, .int z12)]) hX dX3_sums_45 (by decide) rfl ?_
    refine wg_aload_n (pc := 46) hX dX3_sums_46 0 rfl ?_
    refine wg_dup (pc := 47) hX dX3_sums_47 rfl ?_
    refine wu_ (wg_gI (pc := 48) hX fd_X3_423 dX3_sums_48 fun v14 => ?_)
    refine wg_iconst (pc := 51) (v := 1) hX dX3_sums_51 rfl ?_
    refine wg_iadd (pc := 52) hX dX3_sums_52 ?_
    refine wu_ (wg_pI (pc := 53) hX fp_X3_423 (fun h => by cases h) dX3_sums_53 ?_)
    refine wg_aload_n (pc := 56) hX dX3_sums_56 0 rfl ?_
    refine wu_ (wg_cVi (pc := 57) (As := []) (rest := []) hX (hm_X3_term) (by decide) (by decide) (by decide) rc_X3 (lw_V q2539 q2541 qs117 q163 q2542) hd_X3_term rfl (by omega) (by omega) (Nat.le_of_ble_eq_true rfl) rfl dX3_sums_57 fun v15 => ?_)
    refine wg_i2l (pc := 60) hX dX3_sums_60 ?_
    refine wg_lstore_n (pc := 61) (l' := [(0, .ref (rid 1 1)), (1, .int x2), (2, .int z12), (3, .long v15.toInt64)]) hX dX3_sums_61 (by decide) rfl ?_
    refine wg_iload_n (pc := 62) hX dX3_sums_62 2 rfl ?_
    refine wu_jx (α := Int64) (pcJ := 77) (lJ := fun x => [(0, .ref (rid 1 1))]) (sJ := fun x => [.long x]) (fun K16 hk16 => ?_) (fun z16 => ?_)
    · refine wg_if_eq (pc := 63) (tgt := 73) hX dX3_sums_63 (by decide) (fun h17 => ?_) (fun h17 => ?_)
      · refine wu_t h17 ?_
        refine wg_iload_n (pc := 73) hX dX3_sums_73 1 rfl ?_
        refine wg_i2l (pc := 74) hX dX3_sums_74 ?_
        refine wg_lload_n (pc := 75) hX dX3_sums_75 3 rfl ?_
        refine wg_lsub (pc := 76) hX dX3_sums_76 ?_
        refine wg_sub hX [0] rfl ?_
        exact wu_rt (hk16 (x2.toInt64 - v15.toInt64))
      refine wu_f h17 ?_
      refine wg_iload_n (pc := 66) hX dX3_sums_66 1 rfl ?_
      refine wg_i2l (pc := 67) hX dX3_sums_67 ?_
      refine wg_lload_n (pc := 68) hX dX3_sums_68 3 rfl ?_
      refine wg_ladd (pc := 69) hX dX3_sums_69 ?_
      refine wg_goto (pc := 70) (tgt := 77) hX dX3_sums_70 (by decide) ?_
      refine wg_sub hX [0] rfl ?_
      exact wu_rt (hk16 (x2.toInt64 + v15.toInt64))
    refine wu_ (wg_cSi (pc := 77) (As := [.long z16]) (rest := []) hX (m_X3_bound z16) (lw_S q2556 q2557 q163 q2558) hd_X3_bound rfl (by omega) (by omega) (Nat.le_of_ble_eq_true rfl) rfl dX3_sums_77 fun v18 => ?_)
    refine wg_istore_n (pc := 80) (l' := [(0, .ref (rid 1 1)), (1, .int v18)]) hX dX3_sums_80 (by decide) rfl ?_
    refine wg_goto (pc := 81) (tgt := 5) hX dX3_sums_81 (by decide) ?_
    exact hrec2 v18
  refine wg_iload_n (pc := 84) hX dX3_sums_84 0 rfl ?_
  exact wu_rt (wg_iret (pc := 85) hX rfl rfl dX3_sums_85)
theorem w_X3_term (d : Nat) (s_X3_atom : am0 Int32) (s_X3_sums : am0 Int32) (s_X3_term : am0 Int32) (hm_X3_atom : amMet yX3_atom cX3_atom 3 (some .int) (5 + d) (130 + d * 24) encI [.ref (rid 1 1)] (up (s_X3_atom))) (hm_X3_sums : amMet yX3_sums cX3_sums 5 (some .int) (5 + d) (130 + d * 24) encI [.ref (rid 1 1)] (up (s_X3_sums))) (hm_X3_term : amMet yX3_term cX3_term 4 (some .int) (5 + d) (130 + d * 24) encI [.ref (rid 1 1)] (up (s_X3_term)))  : amMet yX3_term cX3_term 4 (some .int) (5 + (d + 1)) (130 + (d + 1) * 24) encI [.ref (rid 1 1)] (up (b_X3_term s_X3_atom s_X3_sums s_X3_term)) := by
  refine amMet.of (own := RX3) (by decide) rfl (Nat.le_of_ble_eq_true rfl) fun X hX hPs => ?_
  change WG X encI 0 [(0, .ref (rid 1 1))] [] (bd1 (up (b_X3_term s_X3_atom s_X3_sums s_X3_term)) rt1)
  unfold b_X3_term
  refine wg_aload_n (pc := 0) hX dX3_term_0 0 rfl ?_
  refine wu_ (wg_cVi (pc := 1) (As := []) (rest := []) hX (hm_X3_atom) (by decide) (by decide) (by decide) rc_X3 (lw_V q2543 q2545 qs118 q163 q2546) hd_X3_atom rfl (by omega) (by omega) (Nat.le_of_ble_eq_true rfl) rfl dX3_term_1 fun v1 => ?_)
  refine wg_istore_n (pc := 4) (l' := [(0, .ref (rid 1 1)), (1, .int v1)]) hX dX3_term_4 (by decide) rfl ?_
  refine wu_lpx (α := Int32) (γ := Int32) (pcl := 5) (pcT := 49) (lo := fun x => [(0, .ref (rid 1 1)), (1, .int x)]) (so := fun _ => []) (lT := fun x => [(1, .int x)]) (sT := fun _ => []) (n := amFu) (x0 := v1) (fun K2 rec2 hrec2 hk2 x2 => ?_) (fun y3 => ?_)
  · unfold p_X3_term_L5
    refine wg_aload_n (pc := 5) hX dX3_term_5 0 rfl ?_
    refine wu_ (wg_gI (pc := 6) hX fd_X3_432 dX3_term_6 fun v4 => ?_)
    refine wg_iconst (pc := 9) (v := (-1)) hX dX3_term_9 rfl ?_
    refine wg_icmp_ne (pc := 10) (tgt := 49) hX dX3_term_10 (by decide) (fun h5 => ?_) (fun h5 => ?_)
    rotate_left
    · refine wu_f h5 ?_
      refine wg_sub hX [1] rfl ?_
      exact wu_rt (hk2 x2)
    refine wu_t h5 ?_
    refine wg_aload_n (pc := 13) hX dX3_term_13 0 rfl ?_
    refine wu_ (wg_cVi (pc := 14) (As := []) (rest := []) hX (m_X3_look) (by decide) (by decide) (by decide) rc_X3 (lw_V q2519 q2521 qs112 q163 q2522) hd_X3_look rfl (by omega) (by omega) (Nat.le_of_ble_eq_true rfl) rfl dX3_term_14 fun v6 => ?_)
    refine wg_bipush (pc := 17) (v := 42) hX dX3_term_17 rfl ?_
    refine wg_icmp_ne (pc := 19) (tgt := 49) hX dX3_term_19 (by decide) (fun h7 => ?_) (fun h7 => ?_)
    rotate_left
    · refine wu_f h7 ?_
      refine wg_sub hX [1] rfl ?_
      exact wu_rt (hk2 x2)
    refine wu_t h7 ?_
    refine wg_aload_n (pc := 22) hX dX3_term_22 0 rfl ?_
    refine wg_dup (pc := 23) hX dX3_term_23 rfl ?_
    refine wu_ (wg_gI (pc := 24) hX fd_X3_423 dX3_term_24 fun v8 => ?_)
    refine wg_iconst (pc := 27) (v := 1) hX dX3_term_27 rfl ?_
    refine wg_iadd (pc := 28) hX dX3_term_28 ?_
    refine wu_ (wg_pI (pc := 29) hX fp_X3_423 (fun h => by cases h) dX3_term_29 ?_)
    refine wg_aload_n (pc := 32) hX dX3_term_32 0 rfl ?_
    refine wu_ (wg_cVi (pc := 33) (As := []) (rest := []) hX (hm_X3_atom) (by decide) (by decide) (by decide) rc_X3 (lw_V q2543 q2545 qs118 q163 q2546) hd_X3_atom rfl (by omega) (by omega) (Nat.le_of_ble_eq_true rfl) rfl dX3_term_33 fun v9 => ?_)
    refine wg_i2l (pc := 36) hX dX3_term_36 ?_
    refine wg_lstore_n (pc := 37) (l' := [(0, .ref (rid 1 1)), (1, .int x2), (2, .long v9.toInt64)]) hX dX3_term_37 (by decide) rfl ?_
    refine wg_iload_n (pc := 38) hX dX3_term_38 1 rfl ?_
    refine wg_i2l (pc := 39) hX dX3_term_39 ?_
    refine wg_lload_n (pc := 40) hX dX3_term_40 2 rfl ?_
    refine wg_lmul (pc := 41) hX dX3_term_41 ?_
    refine wu_ (wg_cSi (pc := 42) (As := [.long (x2.toInt64 * v9.toInt64)]) (rest := []) hX (m_X3_bound (x2.toInt64 * v9.toInt64)) (lw_S q2556 q2557 q163 q2558) hd_X3_bound rfl (by omega) (by omega) (Nat.le_of_ble_eq_true rfl) rfl dX3_term_42 fun v10 => ?_)
    refine wg_istore_n (pc := 45) (l' := [(0, .ref (rid 1 1)), (1, .int v10), (2, .long v9.toInt64)]) hX dX3_term_45 (by decide) rfl ?_
    refine wg_goto (pc := 46) (tgt := 5) hX dX3_term_46 (by decide) ?_
    refine wg_sub hX [0, 1] rfl ?_
    exact hrec2 v10
  refine wg_iload_n (pc := 49) hX dX3_term_49 0 rfl ?_
  exact wu_rt (wg_iret (pc := 50) hX rfl rfl dX3_term_50)
theorem gm_X3_atom : ∀ d : Nat, (amMet yX3_atom cX3_atom 3 (some .int) (5 + d) (130 + d * 24) encI [.ref (rid 1 1)] (up ((p_X3_atom d)))) ∧ (amMet yX3_sums cX3_sums 5 (some .int) (5 + d) (130 + d * 24) encI [.ref (rid 1 1)] (up ((p_X3_sums d)))) ∧ (amMet yX3_term cX3_term 4 (some .int) (5 + d) (130 + d * 24) encI [.ref (rid 1 1)] (up ((p_X3_term d))))
  | 0 => ⟨amMet.none (fun _ _ => rfl), amMet.none (fun _ _ => rfl), amMet.none (fun _ _ => rfl)⟩
  | d + 1 => by
    obtain ⟨h0, h1, h2⟩ := gm_X3_atom d
    exact ⟨w_X3_atom d (p_X3_atom d) (p_X3_sums d) (p_X3_term d) h0 h1 h2, w_X3_sums d (p_X3_atom d) (p_X3_sums d) (p_X3_term d) h0 h1 h2, w_X3_term d (p_X3_atom d) (p_X3_sums d) (p_X3_term d) h0 h1 h2⟩
theorem m_X3_atom  : amMet yX3_atom cX3_atom 3 (some .int) 69 1666 encI [.ref (rid 1 1)] (up (p_X3_atom 64)) := (gm_X3_atom 64).1 
theorem m_X3_sums  : amMet yX3_sums cX3_sums 5 (some .int) 69 1666 encI [.ref (rid 1 1)] (up (p_X3_sums 64)) := (gm_X3_atom 64).2.1 
theorem m_X3_term  : amMet yX3_term cX3_term 4 (some .int) 69 1666 encI [.ref (rid 1 1)] (up (p_X3_term 64)) := (gm_X3_atom 64).2.2 
theorem w_X3_condition (d : Nat) (s_X3_condition : am0 Int32) (s_X3_part : am0 Int32) (s_X3_unit : am0 Int32) (hm_X3_condition : amMet yX3_condition cX3_condition 3 (some .boolean) (70 + d) (1690 + d * 24) encI [.ref (rid 1 1)] (up (s_X3_condition))) (hm_X3_part : amMet yX3_part cX3_part 3 (some .boolean) (70 + d) (1690 + d * 24) encI [.ref (rid 1 1)] (up (s_X3_part))) (hm_X3_unit : amMet yX3_unit cX3_unit 5 (some .boolean) (70 + d) (1690 + d * 24) encI [.ref (rid 1 1)] (up (s_X3_unit)))  : amMet yX3_condition cX3_condition 3 (some .boolean) (70 + (d + 1)) (1690 + (d + 1) * 24) encI [.ref (rid 1 1)] (up (b_X3_condition s_X3_condition s_X3_part s_X3_unit)) := by
  refine amMet.of (own := RX3) (by decide) rfl (Nat.le_of_ble_eq_true rfl) fun X hX hPs => ?_
  change WG X encI 0 [(0, .ref (rid 1 1))] [] (bd1 (up (b_X3_condition s_X3_condition s_X3_part s_X3_unit)) rt1)
  unfold b_X3_condition
  refine wg_aload_n (pc := 0) hX dX3_condition_0 0 rfl ?_
  refine wu_ (wg_cVi (pc := 1) (As := []) (rest := []) hX (hm_X3_part) (by decide) (by decide) (by decide) rc_X3 (lw_V q2511 q2513 qs110 q163 q2514) hd_X3_part rfl (by omega) (by omega) (Nat.le_of_ble_eq_true rfl) rfl dX3_condition_1 fun v1 => ?_)
  refine wg_istore_n (pc := 4) (l' := [(0, .ref (rid 1 1)), (1, .int v1)]) hX dX3_condition_4 (by decide) rfl ?_
  refine wu_lpx (α := Int32) (γ := Int32) (pcl := 5) (pcT := 54) (lo := fun x => [(0, .ref (rid 1 1)), (1, .int x)]) (so := fun _ => []) (lT := fun x => [(1, .int x)]) (sT := fun _ => []) (n := amFu) (x0 := v1) (fun K2 rec2 hrec2 hk2 x2 => ?_) (fun y3 => ?_)
  · unfold p_X3_condition_L5
    refine wg_aload_n (pc := 5) hX dX3_condition_5 0 rfl ?_
    refine wu_ (wg_gI (pc := 6) hX fd_X3_432 dX3_condition_6 fun v4 => ?_)
    refine wg_iconst (pc := 9) (v := (-1)) hX dX3_condition_9 rfl ?_
    refine wg_icmp_ne (pc := 10) (tgt := 54) hX dX3_condition_10 (by decide) (fun h5 => ?_) (fun h5 => ?_)
    rotate_left
    · refine wu_f h5 ?_
      refine wg_sub hX [1] rfl ?_
      exact wu_rt (hk2 x2)
    refine wu_t h5 ?_
    refine wg_aload_n (pc := 13) hX dX3_condition_13 0 rfl ?_
    refine wu_ (wg_cVi (pc := 14) (As := []) (rest := []) hX (m_X3_look) (by decide) (by decide) (by decide) rc_X3 (lw_V q2519 q2521 qs112 q163 q2522) hd_X3_look rfl (by omega) (by omega) (Nat.le_of_ble_eq_true rfl) rfl dX3_condition_14 fun v6 => ?_)
    refine wg_bipush (pc := 17) (v := 124) hX dX3_condition_17 rfl ?_
    refine wg_icmp_ne (pc := 19) (tgt := 54) hX dX3_condition_19 (by decide) (fun h7 => ?_) (fun h7 => ?_)
    rotate_left
    · refine wu_f h7 ?_
      refine wg_sub hX [1] rfl ?_
      exact wu_rt (hk2 x2)
    refine wu_t h7 ?_
    refine wg_aload_n (pc := 22) hX dX3_condition_22 0 rfl ?_
    refine wg_dup (pc := 23) hX dX3_condition_23 rfl ?_
    refine wu_ (wg_gI (pc := 24) hX fd_X3_423 dX3_condition_24 fun v8 => ?_)
    refine wg_iconst (pc := 27) (v := 1) hX dX3_condition_27 rfl ?_
    refine wg_iadd (pc := 28) hX dX3_condition_28 ?_
    refine wu_ (wg_pI (pc := 29) hX fp_X3_423 (fun h => by cases h) dX3_condition_29 ?_)
    refine wg_aload_n (pc := 32) hX dX3_condition_32 0 rfl ?_
    refine wu_ (wg_cVi (pc := 33) (As := []) (rest := []) hX (hm_X3_part) (by decide) (by decide) (by decide) rc_X3 (lw_V q2511 q2513 qs110 q163 q2514) hd_X3_part rfl (by omega) (by omega) (Nat.le_of_ble_eq_true rfl) rfl dX3_condition_33 fun v9 => ?_)
    refine wg_istore_n (pc := 36) (l' := [(0, .ref (rid 1 1)), (1, .int x2), (2, .int v9)]) hX dX3_condition_36 (by decide) rfl ?_
    refine wg_iload_n (pc := 37) hX dX3_condition_37 1 rfl ?_
    refine wu_jx (α := Int32) (pcJ := 50) (lJ := fun x => [(0, .ref (rid 1 1))]) (sJ := fun x => [.int x]) (fun K10 hk10 => ?_) (fun z10 => ?_)
    · refine wu_jn (α := Unit) (pcJ := 45) (lJ := fun x => [(0, .ref (rid 1 1))]) (sJ := fun x => []) (fun k11 hk11 => ?_) (fun z11 => ?_)
      · refine wg_if_ne (pc := 38) (tgt := 45) hX dX3_condition_38 (by decide) (fun h12 => ?_) (fun h12 => ?_)
        rotate_left
        · refine wu_f h12 ?_
          refine wg_sub hX [0] rfl ?_
          exact hk11 ()
        refine wu_t h12 ?_
        refine wg_iload_n (pc := 41) hX dX3_condition_41 2 rfl ?_
        refine wg_if_eq (pc := 42) (tgt := 49) hX dX3_condition_42 (by decide) (fun h13 => ?_) (fun h13 => ?_)
        rotate_left
        · refine wu_f h13 ?_
          refine wg_sub hX [0] rfl ?_
          exact hk11 ()
        refine wu_t h13 ?_
        refine wg_iconst (pc := 49) (v := 0) hX dX3_condition_49 rfl ?_
        refine wg_sub hX [0] rfl ?_
        exact wu_rt (hk10 0)
      refine wg_iconst (pc := 45) (v := 1) hX dX3_condition_45 rfl ?_
      refine wg_goto (pc := 46) (tgt := 50) hX dX3_condition_46 (by decide) ?_
      exact wu_rt (hk10 1)
    refine wg_istore_n (pc := 50) (l' := [(0, .ref (rid 1 1)), (1, .int z10)]) hX dX3_condition_50 (by decide) rfl ?_
    refine wg_goto (pc := 51) (tgt := 5) hX dX3_condition_51 (by decide) ?_
    exact hrec2 z10
  refine wg_iload_n (pc := 54) hX dX3_condition_54 0 rfl ?_
  refine wu_ (wg_gd fun h14 => ?_)
  exact wu_rt (wg_zret (pc := 55) hX rfl h14 rfl dX3_condition_55)
theorem w_X3_part (d : Nat) (s_X3_condition : am0 Int32) (s_X3_part : am0 Int32) (s_X3_unit : am0 Int32) (hm_X3_condition : amMet yX3_condition cX3_condition 3 (some .boolean) (70 + d) (1690 + d * 24) encI [.ref (rid 1 1)] (up (s_X3_condition))) (hm_X3_part : amMet yX3_part cX3_part 3 (some .boolean) (70 + d) (1690 + d * 24) encI [.ref (rid 1 1)] (up (s_X3_part))) (hm_X3_unit : amMet yX3_unit cX3_unit 5 (some .boolean) (70 + d) (1690 + d * 24) encI [.ref (rid 1 1)] (up (s_X3_unit)))  : amMet yX3_part cX3_part 3 (some .boolean) (70 + (d + 1)) (1690 + (d + 1) * 24) encI [.ref (rid 1 1)] (up (b_X3_part s_X3_condition s_X3_part s_X3_unit)) := by
  refine amMet.of (own := RX3) (by decide) rfl (Nat.le_of_ble_eq_true rfl) fun X hX hPs => ?_
  change WG X encI 0 [(0, .ref (rid 1 1))] [] (bd1 (up (b_X3_part s_X3_condition s_X3_part s_X3_unit)) rt1)
  unfold b_X3_part
  refine wg_aload_n (pc := 0) hX dX3_part_0 0 rfl ?_
  refine wu_ (wg_cVi (pc := 1) (As := []) (rest := []) hX (hm_X3_unit) (by decide) (by decide) (by decide) rc_X3 (lw_V q2515 q2517 qs111 q163 q2518) hd_X3_unit rfl (by omega) (by omega) (Nat.le_of_ble_eq_true rfl) rfl dX3_part_1 fun v1 => ?_)
  refine wg_istore_n (pc := 4) (l' := [(0, .ref (rid 1 1)), (1, .int v1)]) hX dX3_part_4 (by decide) rfl ?_
  refine wu_lpx (α := Int32) (γ := Int32) (pcl := 5) (pcT := 54) (lo := fun x => [(0, .ref (rid 1 1)), (1, .int x)]) (so := fun _ => []) (lT := fun x => [(1, .int x)]) (sT := fun _ => []) (n := amFu) (x0 := v1) (fun K2 rec2 hrec2 hk2 x2 => ?_) (fun y3 => ?_)
  · unfold p_X3_part_L5
    refine wg_aload_n (pc := 5) hX dX3_part_5 0 rfl ?_
    refine wu_ (wg_gI (pc := 6) hX fd_X3_432 dX3_part_6 fun v4 => ?_)
    refine wg_iconst (pc := 9) (v := (-1)) hX dX3_part_9 rfl ?_
    refine wg_icmp_ne (pc := 10) (tgt := 54) hX dX3_part_10 (by decide) (fun h5 => ?_) (fun h5 => ?_)
    rotate_left
    · refine wu_f h5 ?_
      refine wg_sub hX [1] rfl ?_
      exact wu_rt (hk2 x2)
    refine wu_t h5 ?_
    refine wg_aload_n (pc := 13) hX dX3_part_13 0 rfl ?_
    refine wu_ (wg_cVi (pc := 14) (As := []) (rest := []) hX (m_X3_look) (by decide) (by decide) (by decide) rc_X3 (lw_V q2519 q2521 qs112 q163 q2522) hd_X3_look rfl (by omega) (by omega) (Nat.le_of_ble_eq_true rfl) rfl dX3_part_14 fun v6 => ?_)
    refine wg_bipush (pc := 17) (v := 38) hX dX3_part_17 rfl ?_
    refine wg_icmp_ne (pc := 19) (tgt := 54) hX dX3_part_19 (by decide) (fun h7 => ?_) (fun h7 => ?_)
    rotate_left
    · refine wu_f h7 ?_
      refine wg_sub hX [1] rfl ?_
      exact wu_rt (hk2 x2)
    refine wu_t h7 ?_
    refine wg_aload_n (pc := 22) hX dX3_part_22 0 rfl ?_
    refine wg_dup (pc := 23) hX dX3_part_23 rfl ?_
    refine wu_ (wg_gI (pc := 24) hX fd_X3_423 dX3_part_24 fun v8 => ?_)
    refine wg_iconst (pc := 27) (v := 1) hX dX3_part_27 rfl ?_
    refine wg_iadd (pc := 28) hX dX3_part_28 ?_
    refine wu_ (wg_pI (pc := 29) hX fp_X3_423 (fun h => by cases h) dX3_part_29 ?_)
    refine wg_aload_n (pc := 32) hX dX3_part_32 0 rfl ?_
    refine wu_ (wg_cVi (pc := 33) (As := []) (rest := []) hX (hm_X3_unit) (by decide) (by decide) (by decide) rc_X3 (lw_V q2515 q2517 qs111 q163 q2518) hd_X3_unit rfl (by omega) (by omega) (Nat.le_of_ble_eq_true rfl) rfl dX3_part_33 fun v9 => ?_)
    refine wg_istore_n (pc := 36) (l' := [(0, .ref (rid 1 1)), (1, .int x2), (2, .int v9)]) hX dX3_part_36 (by decide) rfl ?_
    refine wg_iload_n (pc := 37) hX dX3_part_37 1 rfl ?_
    refine wu_jx (α := Int32) (pcJ := 50) (lJ := fun x => [(0, .ref (rid 1 1))]) (sJ := fun x => [.int x]) (fun K10 hk10 => ?_) (fun z10 => ?_)
    · refine wu_jn (α := Unit) (pcJ := 49) (lJ := fun x => [(0, .ref (rid 1 1))]) (sJ := fun x => []) (fun k11 hk11 => ?_) (fun z11 => ?_)
      · refine wg_if_eq (pc := 38) (tgt := 49) hX dX3_part_38 (by decide) (fun h12 => ?_) (fun h12 => ?_)
        · refine wu_t h12 ?_
          refine wg_sub hX [0] rfl ?_
          exact hk11 ()
        refine wu_f h12 ?_
        refine wg_iload_n (pc := 41) hX dX3_part_41 2 rfl ?_
        refine wg_if_eq (pc := 42) (tgt := 49) hX dX3_part_42 (by decide) (fun h13 => ?_) (fun h13 => ?_)
        · refine wu_t h13 ?_
          refine wg_sub hX [0] rfl ?_
          exact hk11 ()
        refine wu_f h13 ?_
        refine wg_iconst (pc := 45) (v := 1) hX dX3_part_45 rfl ?_
        refine wg_goto (pc := 46) (tgt := 50) hX dX3_part_46 (by decide) ?_
        refine wg_sub hX [0] rfl ?_
        exact wu_rt (hk10 1)
      refine wg_iconst (pc := 49) (v := 0) hX dX3_part_49 rfl ?_
      exact wu_rt (hk10 0)
    refine wg_istore_n (pc := 50) (l' := [(0, .ref (rid 1 1)), (1, .int z10)]) hX dX3_part_50 (by decide) rfl ?_
    refine wg_goto (pc := 51) (tgt := 5) hX dX3_part_51 (by decide) ?_
    exact hrec2 z10
  refine wg_iload_n (pc := 54) hX dX3_part_54 0 rfl ?_
  refine wu_ (wg_gd fun h14 => ?_)
  exact wu_rt (wg_zret (pc := 55) hX rfl h14 rfl dX3_part_55)
theorem w_X3_unit (d : Nat) (s_X3_condition : am0 Int32) (s_X3_part : am0 Int32) (s_X3_unit : am0 Int32) (hm_X3_condition : amMet yX3_condition cX3_condition 3 (some .boolean) (70 + d) (1690 + d * 24) encI [.ref (rid 1 1)] (up (s_X3_condition))) (hm_X3_part : amMet yX3_part cX3_part 3 (some .boolean) (70 + d) (1690 + d * 24) encI [.ref (rid 1 1)] (up (s_X3_part))) (hm_X3_unit : amMet yX3_unit cX3_unit 5 (some .boolean) (70 + d) (1690 + d * 24) encI [.ref (rid 1 1)] (up (s_X3_unit)))  : amMet yX3_unit cX3_unit 5 (some .boolean) (70 + (d + 1)) (1690 + (d + 1) * 24) encI [.ref (rid 1 1)] (up (b_X3_unit s_X3_condition s_X3_part s_X3_unit)) := by
  refine amMet.of (own := RX3) (by decide) rfl (Nat.le_of_ble_eq_true rfl) fun X hX hPs => ?_
  change WG X encI 0 [(0, .ref (rid 1 1))] [] (bd1 (up (b_X3_unit s_X3_condition s_X3_part s_X3_unit)) rt1)
  unfold b_X3_unit
  refine wg_aload_n (pc := 0) hX dX3_unit_0 0 rfl ?_
  refine wu_ (wg_cVi (pc := 1) (As := []) (rest := []) hX (m_X3_look) (by decide) (by decide) (by decide) rc_X3 (lw_V q2519 q2521 qs112 q163 q2522) hd_X3_look rfl (by omega) (by omega) (Nat.le_of_ble_eq_true rfl) rfl dX3_unit_1 fun v1 => ?_)
  refine wg_istore_n (pc := 4) (l' := [(0, .ref (rid 1 1)), (1, .int v1)]) hX dX3_unit_4 (by decide) rfl ?_
  refine wg_iload_n (pc := 5) hX dX3_unit_5 1 rfl ?_
  refine wg_bipush (pc := 6) (v := 33) hX dX3_unit_6 rfl ?_
  refine wg_icmp_ne (pc := 8) (tgt := 45) hX dX3_unit_8 (by decide) (fun h2 => ?_) (fun h2 => ?_)
  · refine wu_t h2 ?_
    refine wg_aload_n (pc := 11) hX dX3_unit_11 0 rfl ?_
    refine wu_ (wg_cVi (pc := 12) (As := []) (rest := []) hX (m_X3_goesIn) (by decide) (by decide) (by decide) rc_X3 (lw_V q2523 q2525 qs113 q163 q2526) hd_X3_goesIn rfl (by omega) (by omega) (Nat.le_of_ble_eq_true rfl) rfl dX3_unit_12 fun v3 => ?_)
    refine wg_if_ne (pc := 15) (tgt := 20) hX dX3_unit_15 (by decide) (fun h4 => ?_) (fun h4 => ?_)
    · refine wu_t h4 ?_
      refine wg_iconst (pc := 18) (v := 0) hX dX3_unit_18 rfl ?_
      exact wu_rt (wg_zret (pc := 19) hX rfl (by decide) rfl dX3_unit_19)
    refine wu_f h4 ?_
    refine wg_aload_n (pc := 20) hX dX3_unit_20 0 rfl ?_
    refine wu_ (wg_cVi (pc := 21) (As := []) (rest := []) hX (hm_X3_unit) (by decide) (by decide) (by decide) rc_X3 (lw_V q2515 q2517 qs111 q163 q2518) hd_X3_unit rfl (by omega) (by omega) (Nat.le_of_ble_eq_true rfl) rfl dX3_unit_21 fun v5 => ?_)
    refine wg_istore_n (pc := 24) (l' := [(0, .ref (rid 1 1)), (1, .int v1), (2, .int v5)]) hX dX3_unit_24 (by decide) rfl ?_
    refine wg_aload_n (pc := 25) hX dX3_unit_25 0 rfl ?_
    refine wg_dup (pc := 26) hX dX3_unit_26 rfl ?_
    refine wu_ (wg_gI (pc := 27) hX fd_X3_435 dX3_unit_27 fun v6 => ?_)
    refine wg_iconst (pc := 30) (v := 1) hX dX3_unit_30 rfl ?_
    refine wg_isub (pc := 31) hX dX3_unit_31 ?_
    refine wu_ (wg_pI (pc := 32) hX fp_X3_435 (fun h => by cases h) dX3_unit_32 ?_)
    refine wg_iload_n (pc := 35) hX dX3_unit_35 2 rfl ?_
    refine wg_if_ne (pc := 36) (tgt := 43) hX dX3_unit_36 (by decide) (fun h7 => ?_) (fun h7 => ?_)
    rotate_left
    · refine wu_f h7 ?_
      refine wg_iconst (pc := 43) (v := 0) hX dX3_unit_43 rfl ?_
      exact wu_rt (wg_zret (pc := 44) hX rfl (by decide) rfl dX3_unit_44)
    refine wu_t h7 ?_
    refine wg_iconst (pc := 39) (v := 1) hX dX3_unit_39 rfl ?_
    refine wg_goto (pc := 40) (tgt := 44) hX dX3_unit_40 (by decide) ?_
    exact wu_rt (wg_zret (pc := 44) hX rfl (by decide) rfl dX3_unit_44)
  refine wu_f h2 ?_
  refine wg_iload_n (pc := 45) hX dX3_unit_45 1 rfl ?_
  refine wg_bipush (pc := 46) (v := 40) hX dX3_unit_46 rfl ?_
  refine wg_icmp_ne (pc := 48) (tgt := 88) hX dX3_unit_48 (by decide) (fun h8 => ?_) (fun h8 => ?_)
  · refine wu_t h8 ?_
    refine wg_aload_n (pc := 51) hX dX3_unit_51 0 rfl ?_
    refine wu_ (wg_cVi (pc := 52) (As := []) (rest := []) hX (m_X3_goesIn) (by decide) (by decide) (by decide) rc_X3 (lw_V q2523 q2525 qs113 q163 q2526) hd_X3_goesIn rfl (by omega) (by omega) (Nat.le_of_ble_eq_true rfl) rfl dX3_unit_52 fun v9 => ?_)
    refine wg_if_ne (pc := 55) (tgt := 60) hX dX3_unit_55 (by decide) (fun h10 => ?_) (fun h10 => ?_)
    · refine wu_t h10 ?_
      refine wg_iconst (pc := 58) (v := 0) hX dX3_unit_58 rfl ?_
      exact wu_rt (wg_zret (pc := 59) hX rfl (by decide) rfl dX3_unit_59)
    refine wu_f h10 ?_
    refine wg_aload_n (pc := 60) hX dX3_unit_60 0 rfl ?_
    refine wu_ (wg_cVi (pc := 61) (As := []) (rest := []) hX (hm_X3_condition) (by decide) (by decide) (by decide) rc_X3 (lw_V q2507 q2509 qs109 q163 q2510) hd_X3_condition rfl (by omega) (by omega) (Nat.le_of_ble_eq_true rfl) rfl dX3_unit_61 fun v11 => ?_)
    refine wg_istore_n (pc := 64) (l' := [(0, .ref (rid 1 1)), (1, .int v1), (2, .int v11)]) hX dX3_unit_64 (by decide) rfl ?_
    refine wg_aload_n (pc := 65) hX dX3_unit_65 0 rfl ?_
    refine wg_bipush (pc := 66) (v := 41) hX dX3_unit_66 rfl ?_
    refine wu_ (wg_cVi (pc := 68) (As := [.int 41]) (rest := []) hX (m_X3_takes 41) (by decide) (by decide) (by decide) rc_X3 (lw_V q2531 q2533 qs115 q163 q2534) hd_X3_takes rfl (by omega) (by omega) (Nat.le_of_ble_eq_true rfl) rfl dX3_unit_68 fun v12 => ?_)
    refine wg_if_ne (pc := 71) (tgt := 76) hX dX3_unit_71 (by decide) (fun h13 => ?_) (fun h13 => ?_)
    · refine wu_t h13 ?_
      refine wg_iconst (pc := 74) (v := 0) hX dX3_unit_74 rfl ?_
      exact wu_rt (wg_zret (pc := 75) hX rfl (by decide) rfl dX3_unit_75)
    refine wu_f h13 ?_
    refine wg_aload_n (pc := 76) hX dX3_unit_76 0 rfl ?_
    refine wg_dup (pc := 77) hX dX3_unit_77 rfl ?_
    refine wu_ (wg_gI (pc := 78) hX fd_X3_435 dX3_unit_78 fun v14 => ?_)
    refine wg_iconst (pc := 81) (v := 1) hX dX3_unit_81 rfl ?_
    refine wg_isub (pc := 82) hX dX3_unit_82 ?_
    refine wu_ (wg_pI (pc := 83) hX fp_X3_435 (fun h => by cases h) dX3_unit_83 ?_)
    refine wg_iload_n (pc := 86) hX dX3_unit_86 2 rfl ?_
    refine wu_ (wg_gd fun h15 => ?_)
    exact wu_rt (wg_zret (pc := 87) hX rfl h15 rfl dX3_unit_87)
  refine wu_f h8 ?_
  refine wg_aload_n (pc := 88) hX dX3_unit_88 0 rfl ?_
  refine wu_ (wg_cVi (pc := 89) (As := []) (rest := []) hX (m_X3_sums) (by decide) (by decide) (by decide) rc_X3 (lw_V q2535 q2537 qs116 q163 q2538) hd_X3_sums rfl (by omega) (by omega) (Nat.le_of_ble_eq_true rfl) rfl dX3_unit_89 fun v16 => ?_)
  refine wg_istore_n (pc := 92) (l' := [(0, .ref (rid 1 1)), (1, .int v1), (2, .int v16)]) hX dX3_unit_92 (by decide) rfl ?_
  refine wg_aload_n (pc := 93) hX dX3_unit_93 0 rfl ?_
  refine wu_ (wg_gI (pc := 94) hX fd_X3_432 dX3_unit_94 fun v17 => ?_)
  refine wg_iconst (pc := 97) (v := (-1)) hX dX3_unit_97 rfl ?_
  refine wg_icmp_eq (pc := 98) (tgt := 103) hX dX3_unit_98 (by decide) (fun h18 => ?_) (fun h18 => ?_)
  rotate_left
  · refine wu_f h18 ?_
    refine wg_iconst (pc := 101) (v := 0) hX dX3_unit_101 rfl ?_
    exact wu_rt (wg_zret (pc := 102) hX rfl (by decide) rfl dX3_unit_102)
  refine wu_t h18 ?_
  refine wg_aload_n (pc := 103) hX dX3_unit_103 0 rfl ?_
  refine wu_ (wg_cVi (pc := 104) (As := []) (rest := []) hX (m_X3_look) (by decide) (by decide) (by decide) rc_X3 (lw_V q2519 q2521 qs112 q163 q2522) hd_X3_look rfl (by omega) (by omega) (Nat.le_of_ble_eq_true rfl) rfl dX3_unit_104 fun v19 => ?_)
  refine wg_istore_n (pc := 107) (l' := [(0, .ref (rid 1 1)), (1, .int v1), (2, .int v16), (3, .int v19)]) hX dX3_unit_107 (by decide) rfl ?_
  refine wg_iload_n (pc := 108) hX dX3_unit_108 3 rfl ?_
  refine wg_bipush (pc := 109) (v := 61) hX dX3_unit_109 rfl ?_
  refine wu_jn (α := Unit) (pcJ := 131) (lJ := fun x => [(0, .ref (rid 1 1)), (2, .int v16), (3, .int v19)]) (sJ := fun x => []) (fun k20 hk20 => ?_) (fun z20 => ?_)
  · refine wg_icmp_eq (pc := 111) (tgt := 131) hX dX3_unit_111 (by decide) (fun h21 => ?_) (fun h21 => ?_)
    · refine wu_t h21 ?_
      refine wg_sub hX [0, 2, 3] rfl ?_
      exact hk20 ()
    refine wu_f h21 ?_
    refine wg_iload_n (pc := 114) hX dX3_unit_114 3 rfl ?_
    refine wg_bipush (pc := 115) (v := 60) hX dX3_unit_115 rfl ?_
    refine wg_icmp_eq (pc := 117) (tgt := 131) hX dX3_unit_117 (by decide) (fun h22 => ?_) (fun h22 => ?_)
    · refine wu_t h22 ?_
      refine wg_sub hX [0, 2, 3] rfl ?_
      exact hk20 ()
    refine wu_f h22 ?_
    refine wg_iload_n (pc := 120) hX dX3_unit_120 3 rfl ?_
    refine wg_bipush (pc := 121) (v := 62) hX dX3_unit_121 rfl ?_
    refine wg_icmp_eq (pc := 123) (tgt := 131) hX dX3_unit_123 (by decide) (fun h23 => ?_) (fun h23 => ?_)
    · refine wu_t h23 ?_
      refine wg_sub hX [0, 2, 3] rfl ?_
      exact hk20 ()
    refine wu_f h23 ?_
    refine wg_aload_n (pc := 126) hX dX3_unit_126 0 rfl ?_
    refine wu_ (wg_cVi (pc := 127) (As := []) (rest := []) hX (m_X3_stop) (by decide) (by decide) (by decide) rc_X3 (lw_V q2527 q2529 qs114 q163 q2530) hd_X3_stop rfl (by omega) (by omega) (Nat.le_of_ble_eq_true rfl) rfl dX3_unit_127 fun v24 => ?_)
    refine wu_ (wg_gd fun h25 => ?_)
    exact wu_rt (wg_zret (pc := 130) hX rfl h25 rfl dX3_unit_130)
  refine wg_aload_n (pc := 131) hX dX3_unit_131 0 rfl ?_
  refine wg_dup (pc := 132) hX dX3_unit_132 rfl ?_
  refine wu_ (wg_gI (pc := 133) hX fd_X3_423 dX3_unit_133 fun v26 => ?_)
  refine wg_iconst (pc := 136) (v := 1) hX dX3_unit_136 rfl ?_
  refine wg_iadd (pc := 137) hX dX3_unit_137 ?_
  refine wu_ (wg_pI (pc := 138) hX fp_X3_423 (fun h => by cases h) dX3_unit_138 ?_)
  refine wg_aload_n (pc := 141) hX dX3_unit_141 0 rfl ?_
  refine wu_ (wg_cVi (pc := 142) (As := []) (rest := []) hX (m_X3_sums) (by decide) (by decide) (by decide) rc_X3 (lw_V q2535 q2537 qs116 q163 q2538) hd_X3_sums rfl (by omega) (by omega) (Nat.le_of_ble_eq_true rfl) rfl dX3_unit_142 fun v27 => ?_)
  refine wg_istore (pc := 145) (l' := [(0, .ref (rid 1 1)), (2, .int v16), (3, .int v19), (4, .int v27)]) hX dX3_unit_145 (by decide) rfl ?_
  refine wg_iload_n (pc := 147) hX dX3_unit_147 2 rfl ?_
  refine wg_bipush (pc := 148) (v := 61) hX dX3_unit_148 rfl ?_
  refine wg_icmp_ne (pc := 150) (tgt := 167) hX dX3_unit_150 (by decide) (fun h28 => ?_) (fun h28 => ?_)
  · refine wu_t h28 ?_
    refine wg_iload_n (pc := 153) hX dX3_unit_153 1 rfl ?_
    refine wg_iload (pc := 154) hX dX3_unit_154 3 rfl ?_
    refine wg_icmp_ne (pc := 156) (tgt := 163) hX dX3_unit_156 (by decide) (fun h29 => ?_) (fun h29 => ?_)
    · refine wu_t h29 ?_
      refine wg_iconst (pc := 159) (v := 1) hX dX3_unit_159 rfl ?_
      refine wg_goto (pc := 160) (tgt := 198) hX dX3_unit_160 (by decide) ?_
      exact wu_rt (wg_zret (pc := 198) hX rfl (by decide) rfl dX3_unit_198)
    refine wu_f h29 ?_
    refine wg_iconst (pc := 163) (v := 0) hX dX3_unit_163 rfl ?_
    refine wg_goto (pc := 164) (tgt := 198) hX dX3_unit_164 (by decide) ?_
    exact wu_rt (wg_zret (pc := 198) hX rfl (by decide) rfl dX3_unit_198)
  refine wu_f h28 ?_
  refine wg_iload_n (pc := 167) hX dX3_unit_167 2 rfl ?_
  refine wg_bipush (pc := 168) (v := 60) hX dX3_unit_168 rfl ?_
  refine wg_icmp_ne (pc := 170) (tgt := 187) hX dX3_unit_170 (by decide) (fun h30 => ?_) (fun h30 => ?_)
  rotate_left
  · refine wu_f h30 ?_
    refine wg_iload_n (pc := 187) hX dX3_unit_187 1 rfl ?_
    refine wg_iload (pc := 188) hX dX3_unit_188 3 rfl ?_
    refine wg_icmp_le (pc := 190) (tgt := 197) hX dX3_unit_190 (by decide) (fun h31 => ?_) (fun h31 => ?_)
    · refine wu_t h31 ?_
      refine wg_iconst (pc := 197) (v := 0) hX dX3_unit_197 rfl ?_
      exact wu_rt (wg_zret (pc := 198) hX rfl (by decide) rfl dX3_unit_198)
    refine wu_f h31 ?_
    refine wg_iconst (pc := 193) (v := 1) hX dX3_unit_193 rfl ?_
    refine wg_goto (pc := 194) (tgt := 198) hX dX3_unit_194 (by decide) ?_
    exact wu_rt (wg_zret (pc := 198) hX rfl (by decide) rfl dX3_unit_198)
  refine wu_t h30 ?_
  refine wg_iload_n (pc := 173) hX dX3_unit_173 1 rfl ?_
  refine wg_iload (pc := 174) hX dX3_unit_174 3 rfl ?_
  refine wg_icmp_ge (pc := 176) (tgt := 183) hX dX3_unit_176 (by decide) (fun h32 => ?_) (fun h32 => ?_)
  · refine wu_t h32 ?_
    refine wg_iconst (pc := 183) (v := 0) hX dX3_unit_183 rfl ?_
    refine wg_goto (pc := 184) (tgt := 198) hX dX3_unit_184 (by decide) ?_
    exact wu_rt (wg_zret (pc := 198) hX rfl (by decide) rfl dX3_unit_198)
  refine wu_f h32 ?_
  refine wg_iconst (pc := 179) (v := 1) hX dX3_unit_179 rfl ?_
  refine wg_goto (pc := 180) (tgt := 198) hX dX3_unit_180 (by decide) ?_
  exact wu_rt (wg_zret (pc := 198) hX rfl (by decide) rfl dX3_unit_198)
theorem gm_X3_condition : ∀ d : Nat, (amMet yX3_condition cX3_condition 3 (some .boolean) (70 + d) (1690 + d * 24) encI [.ref (rid 1 1)] (up ((p_X3_condition d)))) ∧ (amMet yX3_part cX3_part 3 (some .boolean) (70 + d) (1690 + d * 24) encI [.ref (rid 1 1)] (up ((p_X3_part d)))) ∧ (amMet yX3_unit cX3_unit 5 (some .boolean) (70 + d) (1690 + d * 24) encI [.ref (rid 1 1)] (up ((p_X3_unit d))))
  | 0 => ⟨amMet.none (fun _ _ => rfl), amMet.none (fun _ _ => rfl), amMet.none (fun _ _ => rfl)⟩
  | d + 1 => by
    obtain ⟨h0, h1, h2⟩ := gm_X3_condition d
    exact ⟨w_X3_condition d (p_X3_condition d) (p_X3_part d) (p_X3_unit d) h0 h1 h2, w_X3_part d (p_X3_condition d) (p_X3_part d) (p_X3_unit d) h0 h1 h2, w_X3_unit d (p_X3_condition d) (p_X3_part d) (p_X3_unit d) h0 h1 h2⟩
theorem m_X3_condition  : amMet yX3_condition cX3_condition 3 (some .boolean) 134 3226 encI [.ref (rid 1 1)] (up (p_X3_condition 64)) := (gm_X3_condition 64).1 
theorem m_X3_part  : amMet yX3_part cX3_part 3 (some .boolean) 134 3226 encI [.ref (rid 1 1)] (up (p_X3_part 64)) := (gm_X3_condition 64).2.1 
theorem m_X3_unit  : amMet yX3_unit cX3_unit 5 (some .boolean) 134 3226 encI [.ref (rid 1 1)] (up (p_X3_unit 64)) := (gm_X3_condition 64).2.2 
theorem m_X3_actionOf (a1 : Int32) : amMet yX3_actionOf cX3_actionOf 1 (some .int) 1 32 encI [.int a1] (up (p_X3_actionOf a1)) := by
  refine amMet.of (own := RX3) (by decide) rfl (Nat.le_of_ble_eq_true rfl) fun X hX hPs => ?_
  change WG X encI 0 [(0, .int a1)] [] (bd1 (up (p_X3_actionOf a1)) rt1)
  unfold p_X3_actionOf
  refine wg_iload_n (pc := 0) hX dX3_actionOf_0 0 rfl ?_
  refine wg_bipush (pc := 1) (v := 112) hX dX3_actionOf_1 rfl ?_
  refine wg_icmp_ne (pc := 3) (tgt := 10) hX dX3_actionOf_3 (by decide) (fun h1 => ?_) (fun h1 => ?_)
  · refine wu_t h1 ?_
    refine wg_iconst (pc := 6) (v := 0) hX dX3_actionOf_6 rfl ?_
    refine wg_goto (pc := 7) (tgt := 51) hX dX3_actionOf_7 (by decide) ?_
    exact wu_rt (wg_iret (pc := 51) hX rfl rfl dX3_actionOf_51)
  refine wu_f h1 ?_
  refine wg_iload_n (pc := 10) hX dX3_actionOf_10 0 rfl ?_
  refine wg_bipush (pc := 11) (v := 115) hX dX3_actionOf_11 rfl ?_
  refine wg_icmp_ne (pc := 13) (tgt := 20) hX dX3_actionOf_13 (by decide) (fun h2 => ?_) (fun h2 => ?_)
  · refine wu_t h2 ?_
    refine wg_iconst (pc := 16) (v := 1) hX dX3_actionOf_16 rfl ?_
    refine wg_goto (pc := 17) (tgt := 51) hX dX3_actionOf_17 (by decide) ?_
    exact wu_rt (wg_iret (pc := 51) hX rfl rfl dX3_actionOf_51)
  refine wu_f h2 ?_
  refine wg_iload_n (pc := 20) hX dX3_actionOf_20 0 rfl ?_
  refine wg_bipush (pc := 21) (v := 108) hX dX3_actionOf_21 rfl ?_
  refine wg_icmp_ne (pc := 23) (tgt := 30) hX dX3_actionOf_23 (by decide) (fun h3 => ?_) (fun h3 => ?_)
  · refine wu_t h3 ?_
    refine wg_iconst (pc := 26) (v := 2) hX dX3_actionOf_26 rfl ?_
    refine wg_goto (pc := 27) (tgt := 51) hX dX3_actionOf_27 (by decide) ?_
    exact wu_rt (wg_iret (pc := 51) hX rfl rfl dX3_actionOf_51)
  refine wu_f h3 ?_
  refine wg_iload_n (pc := 30) hX dX3_actionOf_30 0 rfl ?_
  refine wg_bipush (pc := 31) (v := 99) hX dX3_actionOf_31 rfl ?_
  refine wg_icmp_ne (pc := 33) (tgt := 40) hX dX3_actionOf_33 (by decide) (fun h4 => ?_) (fun h4 => ?_)
  · refine wu_t h4 ?_
    refine wg_iconst (pc := 36) (v := 3) hX dX3_actionOf_36 rfl ?_
    refine wg_goto (pc := 37) (tgt := 51) hX dX3_actionOf_37 (by decide) ?_
    exact wu_rt (wg_iret (pc := 51) hX rfl rfl dX3_actionOf_51)
  refine wu_f h4 ?_
  refine wg_iload_n (pc := 40) hX dX3_actionOf_40 0 rfl ?_
  refine wg_bipush (pc := 41) (v := 109) hX dX3_actionOf_41 rfl ?_
  refine wg_icmp_ne (pc := 43) (tgt := 50) hX dX3_actionOf_43 (by decide) (fun h5 => ?_) (fun h5 => ?_)
  rotate_left
  · refine wu_f h5 ?_
    refine wg_iconst (pc := 50) (v := (-1)) hX dX3_actionOf_50 rfl ?_
    exact wu_rt (wg_iret (pc := 51) hX rfl rfl dX3_actionOf_51)
  refine wu_t h5 ?_
  refine wg_iconst (pc := 46) (v := 4) hX dX3_actionOf_46 rfl ?_
  refine wg_goto (pc := 47) (tgt := 51) hX dX3_actionOf_47 (by decide) ?_
  exact wu_rt (wg_iret (pc := 51) hX rfl rfl dX3_actionOf_51)
theorem m_X3_clause (a1 : Int32) (a2 : Int32) : amMet yX3_clause cX3_clause 6 none 135 3248 encV [.ref (rid 1 1), .int a1, .int a2] (up (p_X3_clause a1 a2)) := by
  refine amMet.of (own := RX3) (by decide) rfl (Nat.le_of_ble_eq_true rfl) fun X hX hPs => ?_
  change WG X encV 0 [(0, .ref (rid 1 1)), (1, .int a1), (2, .int a2)] [] (bd1 (up (p_X3_clause a1 a2)) rt1)
  unfold p_X3_clause
  have hM0 := amPs.m0 hPs
  refine wu_ (wg_gM ?_)
  refine wg_aload_n (pc := 0) hX dX3_clause_0 0 rfl ?_
  refine wu_ (wg_cVi (pc := 1) (As := []) (rest := []) hX (m_X3_condition) (by decide) (by decide) (by decide) rc_X3 (lw_V q2507 q2509 qs109 q163 q2510) hd_X3_condition rfl (Nat.le_of_ble_eq_true rfl) (Nat.le_of_ble_eq_true rfl) (Nat.le_of_ble_eq_true rfl) rfl dX3_clause_1 fun v1 => ?_)
  refine wg_istore_n (pc := 4) (l' := [(0, .ref (rid 1 1)), (1, .int a1), (2, .int a2), (3, .int v1)]) hX dX3_clause_4 (by decide) rfl ?_
  refine wg_aload_n (pc := 5) hX dX3_clause_5 0 rfl ?_
  refine wg_bipush (pc := 6) (v := 63) hX dX3_clause_6 rfl ?_
  refine wu_ (wg_cVi (pc := 8) (As := [.int 63]) (rest := []) hX (m_X3_takes 63) (by decide) (by decide) (by decide) rc_X3 (lw_V q2531 q2533 qs115 q163 q2534) hd_X3_takes rfl (Nat.le_of_ble_eq_true rfl) (Nat.le_of_ble_eq_true rfl) (Nat.le_of_ble_eq_true rfl) rfl dX3_clause_8 fun v2 => ?_)
  refine wg_if_ne (pc := 11) (tgt := 15) hX dX3_clause_11 (by decide) (fun h3 => ?_) (fun h3 => ?_)
  · refine wu_t h3 ?_
    exact wu_rt (wg_vret (pc := 14) hX rfl rfl dX3_clause_14)
  refine wu_f h3 ?_
  refine wg_iload_n (pc := 15) hX dX3_clause_15 3 rfl ?_
  refine wu_jx (α := Unit) (pcJ := 37) (lJ := fun x => [(0, .ref (rid 1 1)), (1, .int a1), (3, .int v1)]) (sJ := fun x => []) (fun K4 hk4 => ?_) (fun z4 => ?_)
  · refine wg_if_eq (pc := 16) (tgt := 37) hX dX3_clause_16 (by decide) (fun h5 => ?_) (fun h5 => ?_)
    · refine wu_t h5 ?_
      refine wg_sub hX [0, 1, 3] rfl ?_
      exact wu_rt (hk4 ())
    refine wu_f h5 ?_
    refine wg_iload_n (pc := 19) hX dX3_clause_19 2 rfl ?_
    refine wg_bipush (pc := 20) (v := 30) hX dX3_clause_20 rfl ?_
    refine wg_icmp_ge (pc := 22) (tgt := 37) hX dX3_clause_22 (by decide) (fun h6 => ?_) (fun h6 => ?_)
    · refine wu_t h6 ?_
      refine wg_sub hX [0, 1, 3] rfl ?_
      exact wu_rt (hk4 ())
    refine wu_f h6 ?_
    refine wg_aload_n (pc := 25) hX dX3_clause_25 0 rfl ?_
    refine wg_dup (pc := 26) hX dX3_clause_26 rfl ?_
    refine wu_ (wg_gI (pc := 27) hX fd_X3_494 dX3_clause_27 fun v7 => ?_)
    refine wg_iconst (pc := 30) (v := 1) hX dX3_clause_30 rfl ?_
    refine wg_iload_n (pc := 31) hX dX3_clause_31 2 rfl ?_
    refine wg_ishl (pc := 32) hX dX3_clause_32 ?_
    refine wg_ior (pc := 33) hX dX3_clause_33 ?_
    refine wu_ (wg_pI (pc := 34) hX fp_X3_494 (fun h => by cases h) dX3_clause_34 ?_)
    refine wg_sub hX [0, 1, 3] rfl ?_
    exact wu_rt (hk4 ())
  refine wg_iload_n (pc := 37) hX dX3_clause_37 1 rfl ?_
  refine wg_if_eq (pc := 38) (tgt := 83) hX dX3_clause_38 (by decide) (fun h8 => ?_) (fun h8 => ?_)
  rotate_left
  · refine wu_f h8 ?_
    refine wg_aload_n (pc := 41) hX dX3_clause_41 0 rfl ?_
    refine wg_iconst (pc := 42) (v := 3) hX dX3_clause_42 rfl ?_
    refine wu_ (wg_cVi (pc := 43) (As := [.int 3]) (rest := []) hX (m_X3_number 3) (by decide) (by decide) (by decide) rc_X3 (lw_V q2548 q2550 qs119 q163 q2551) hd_X3_number rfl (Nat.le_of_ble_eq_true rfl) (Nat.le_of_ble_eq_true rfl) (Nat.le_of_ble_eq_true rfl) rfl dX3_clause_43 fun v9 => ?_)
    refine wg_istore (pc := 46) (l' := [(0, .ref (rid 1 1)), (1, .int a1), (3, .int v1), (4, .int v9)]) hX dX3_clause_46 (by decide) rfl ?_
    refine wg_aload_n (pc := 48) hX dX3_clause_48 0 rfl ?_
    refine wu_ (wg_gI (pc := 49) hX fd_X3_432 dX3_clause_49 fun v10 => ?_)
    refine wg_iconst (pc := 52) (v := (-1)) hX dX3_clause_52 rfl ?_
    refine wg_icmp_ne (pc := 53) (tgt := 60) hX dX3_clause_53 (by decide) (fun h11 => ?_) (fun h11 => ?_)
    rotate_left
    · refine wu_f h11 ?_
      exact wu_rt (wg_vret (pc := 60) hX rfl rfl dX3_clause_60)
    refine wu_t h11 ?_
    refine wg_iload_n (pc := 56) hX dX3_clause_56 2 rfl ?_
    refine wg_if_ne (pc := 57) (tgt := 61) hX dX3_clause_57 (by decide) (fun h12 => ?_) (fun h12 => ?_)
    · refine wu_t h12 ?_
      exact wu_rt (wg_vret (pc := 60) hX rfl rfl dX3_clause_60)
    refine wu_f h12 ?_
    refine wg_aload_n (pc := 61) hX dX3_clause_61 0 rfl ?_
    refine wg_gK (pc := 62) hX hM0 fd_X3_198 (by decide) dX3_clause_62 ?_
    refine wg_aload_n (pc := 65) hX dX3_clause_65 0 rfl ?_
    refine wu_ (wg_gI (pc := 66) hX fd_X3_497 dX3_clause_66 fun v13 => ?_)
    refine wg_iload (pc := 69) hX dX3_clause_69 3 rfl ?_
    refine wu_ (wg_wI (pc := 71) hX ar_114 dX3_clause_71 ?_)
    refine wg_aload_n (pc := 72) hX dX3_clause_72 0 rfl ?_
    refine wg_dup (pc := 73) hX dX3_clause_73 rfl ?_
    refine wu_ (wg_gI (pc := 74) hX fd_X3_497 dX3_clause_74 fun v14 => ?_)
    refine wg_iconst (pc := 77) (v := 1) hX dX3_clause_77 rfl ?_
    refine wg_iadd (pc := 78) hX dX3_clause_78 ?_
    refine wu_ (wg_pI (pc := 79) hX fp_X3_497 (fun h => by cases h) dX3_clause_79 ?_)
    exact wu_rt (wg_vret (pc := 82) hX rfl rfl dX3_clause_82)
  refine wu_t h8 ?_
  refine wg_aload_n (pc := 83) hX dX3_clause_83 0 rfl ?_
  refine wu_ (wg_cVi (pc := 84) (As := []) (rest := []) hX (m_X3_look) (by decide) (by decide) (by decide) rc_X3 (lw_V q2519 q2521 qs112 q163 q2522) hd_X3_look rfl (Nat.le_of_ble_eq_true rfl) (Nat.le_of_ble_eq_true rfl) (Nat.le_of_ble_eq_true rfl) rfl dX3_clause_84 fun v15 => ?_)
  refine wu_ (wg_cSi (pc := 87) (As := [.int v15]) (rest := []) hX (m_X3_actionOf v15) (lw_S q2567 q2568 q163 q2569) hd_X3_actionOf rfl (Nat.le_of_ble_eq_true rfl) (Nat.le_of_ble_eq_true rfl) (Nat.le_of_ble_eq_true rfl) rfl dX3_clause_87 fun v16 => ?_)
  refine wg_istore (pc := 90) (l' := [(0, .ref (rid 1 1)), (1, .int a1), (3, .int v1), (4, .int v16)]) hX dX3_clause_90 (by decide) rfl ?_
  refine wg_iload (pc := 92) hX dX3_clause_92 3 rfl ?_
  refine wg_iconst (pc := 94) (v := (-1)) hX dX3_clause_94 rfl ?_
  refine wu_jx (α := Unit) (pcJ := 103) (lJ := fun x => [(0, .ref (rid 1 1)), (3, .int v1), (4, .int v16)]) (sJ := fun x => []) (fun K17 hk17 => ?_) (fun z17 => ?_)
  · refine wg_icmp_ne (pc := 95) (tgt := 103) hX dX3_clause_95 (by decide) (fun h18 => ?_) (fun h18 => ?_)
    rotate_left
    · refine wu_f h18 ?_
      refine wg_sub hX [0, 2, 3] rfl ?_
      exact wu_rt (hk17 ())
    refine wu_t h18 ?_
    refine wg_aload_n (pc := 98) hX dX3_clause_98 0 rfl ?_
    refine wu_ (wg_cVi (pc := 99) (As := []) (rest := []) hX (m_X3_stop) (by decide) (by decide) (by decide) rc_X3 (lw_V q2527 q2529 qs114 q163 q2530) hd_X3_stop rfl (Nat.le_of_ble_eq_true rfl) (Nat.le_of_ble_eq_true rfl) (Nat.le_of_ble_eq_true rfl) rfl dX3_clause_99 fun v19 => ?_)
    refine wg_pop (pc := 102) hX dX3_clause_102 rfl ?_
    refine wg_sub hX [0, 2, 3] rfl ?_
    exact wu_rt (hk17 ())
  refine wu_lp (α := Int32) (pcl := 103) (lo := fun x => [(0, .ref (rid 1 1)), (3, .int v1), (4, .int x)]) (so := fun _ => []) (fun rec20 hrec20 x20 => ?_) amFu v16
  unfold p_X3_clause_L103
  refine wg_aload_n (pc := 103) hX dX3_clause_103 0 rfl ?_
  refine wu_ (wg_gI (pc := 104) hX fd_X3_432 dX3_clause_104 fun v21 => ?_)
  refine wg_iconst (pc := 107) (v := (-1)) hX dX3_clause_107 rfl ?_
  refine wg_icmp_ne (pc := 108) (tgt := 197) hX dX3_clause_108 (by decide) (fun h22 => ?_) (fun h22 => ?_)
  rotate_left
  · refine wu_f h22 ?_
    exact wu_rt (wg_vret (pc := 197) hX rfl rfl dX3_clause_197)
  refine wu_t h22 ?_
  refine wg_iload (pc := 111) hX dX3_clause_111 2 rfl ?_
  refine wg_iconst (pc := 113) (v := (-1)) hX dX3_clause_113 rfl ?_
  refine wg_icmp_eq (pc := 114) (tgt := 197) hX dX3_clause_114 (by decide) (fun h23 => ?_) (fun h23 => ?_)
  · refine wu_t h23 ?_
    exact wu_rt (wg_vret (pc := 197) hX rfl rfl dX3_clause_197)
  refine wu_f h23 ?_
  refine wg_aload_n (pc := 117) hX dX3_clause_117 0 rfl ?_
  refine wg_dup (pc := 118) hX dX3_clause_118 rfl ?_
  refine wu_ (wg_gI (pc := 119) hX fd_X3_423 dX3_clause_119 fun v24 => ?_)
  refine wg_iconst (pc := 122) (v := 1) hX dX3_clause_122 rfl ?_
  refine wg_iadd (pc := 123) hX dX3_clause_123 ?_
  refine wu_ (wg_pI (pc := 124) hX fp_X3_423 (fun h => by cases h) dX3_clause_124 ?_)
  refine wg_aload_n (pc := 127) hX dX3_clause_127 0 rfl ?_
  refine wu_ (wg_cVi (pc := 128) (As := []) (rest := []) hX (m_X3_look) (by decide) (by decide) (by decide) rc_X3 (lw_V q2519 q2521 qs112 q163 q2522) hd_X3_look rfl (Nat.le_of_ble_eq_true rfl) (Nat.le_of_ble_eq_true rfl) (Nat.le_of_ble_eq_true rfl) rfl dX3_clause_128 fun v25 => ?_)
  refine wg_istore (pc := 131) (l' := [(0, .ref (rid 1 1)), (3, .int v1), (4, .int x20), (5, .int v25)]) hX dX3_clause_131 (by decide) rfl ?_
  refine wg_aload_n (pc := 133) hX dX3_clause_133 0 rfl ?_
  refine wu_ (wg_cVi (pc := 134) (As := []) (rest := []) hX (m_X3_isDigit) (by decide) (by decide) (by decide) rc_X3 (lw_V q2552 q2554 qs120 q163 q2555) hd_X3_isDigit rfl (Nat.le_of_ble_eq_true rfl) (Nat.le_of_ble_eq_true rfl) (Nat.le_of_ble_eq_true rfl) rfl dX3_clause_134 fun v26 => ?_)
  refine wg_if_ne (pc := 137) (tgt := 146) hX dX3_clause_137 (by decide) (fun h27 => ?_) (fun h27 => ?_)
  · refine wu_t h27 ?_
    refine wg_aload_n (pc := 140) hX dX3_clause_140 0 rfl ?_
    refine wu_ (wg_cVi (pc := 141) (As := []) (rest := []) hX (m_X3_stop) (by decide) (by decide) (by decide) rc_X3 (lw_V q2527 q2529 qs114 q163 q2530) hd_X3_stop rfl (Nat.le_of_ble_eq_true rfl) (Nat.le_of_ble_eq_true rfl) (Nat.le_of_ble_eq_true rfl) rfl dX3_clause_141 fun v28 => ?_)
    refine wg_pop (pc := 144) hX dX3_clause_144 rfl ?_
    exact wu_rt (wg_vret (pc := 145) hX rfl rfl dX3_clause_145)
  refine wu_f h27 ?_
  refine wg_aload_n (pc := 146) hX dX3_clause_146 0 rfl ?_
  refine wg_dup (pc := 147) hX dX3_clause_147 rfl ?_
  refine wu_ (wg_gI (pc := 148) hX fd_X3_423 dX3_clause_148 fun v29 => ?_)
  refine wg_iconst (pc := 151) (v := 1) hX dX3_clause_151 rfl ?_
  refine wg_iadd (pc := 152) hX dX3_clause_152 ?_
  refine wu_ (wg_pI (pc := 153) hX fp_X3_423 (fun h => by cases h) dX3_clause_153 ?_)
  refine wg_iload_n (pc := 156) hX dX3_clause_156 1 rfl ?_
  refine wu_jx (α := Unit) (pcJ := 185) (lJ := fun x => [(0, .ref (rid 1 1)), (3, .int v1)]) (sJ := fun x => []) (fun K30 hk30 => ?_) (fun z30 => ?_)
  · refine wg_if_eq (pc := 157) (tgt := 185) hX dX3_clause_157 (by decide) (fun h31 => ?_) (fun h31 => ?_)
    · refine wu_t h31 ?_
      refine wg_sub hX [0, 1] rfl ?_
      exact wu_rt (hk30 ())
    refine wu_f h31 ?_
    refine wg_aload_n (pc := 160) hX dX3_clause_160 0 rfl ?_
    refine wg_gK (pc := 161) hX hM0 fd_X3_195 (by decide) dX3_clause_161 ?_
    refine wg_iload (pc := 164) hX dX3_clause_164 2 rfl ?_
    refine wg_bipush (pc := 166) (v := 9) hX dX3_clause_166 rfl ?_
    refine wg_aload_n (pc := 168) hX dX3_clause_168 0 rfl ?_
    refine wg_gK (pc := 169) hX hM0 fd_X3_195 (by decide) dX3_clause_169 ?_
    refine wg_iload (pc := 172) hX dX3_clause_172 2 rfl ?_
    refine wu_ (wg_rI (pc := 174) hX ar_113 dX3_clause_174 fun v32 => ?_)
    refine wg_iload (pc := 175) hX dX3_clause_175 3 rfl ?_
    refine wg_iadd (pc := 177) hX dX3_clause_177 ?_
    refine wg_bipush (pc := 178) (v := 48) hX dX3_clause_178 rfl ?_
    refine wg_isub (pc := 180) hX dX3_clause_180 ?_
    refine wg_mmin (pc := 181) hX q2320 q1149 q165 q1150 (Nat.le_of_ble_eq_true rfl) (Nat.le_of_ble_eq_true rfl) dX3_clause_181 ?_
    refine wu_ (wg_nmi hX fun v33 => ?_)
    refine wu_ (wg_wI (pc := 184) hX ar_113 dX3_clause_184 ?_)
    refine wg_sub hX [0, 1] rfl ?_
    exact wu_rt (hk30 ())
  refine wg_aload_n (pc := 185) hX dX3_clause_185 0 rfl ?_
  refine wu_ (wg_cVi (pc := 186) (As := []) (rest := []) hX (m_X3_look) (by decide) (by decide) (by decide) rc_X3 (lw_V q2519 q2521 qs112 q163 q2522) hd_X3_look rfl (Nat.le_of_ble_eq_true rfl) (Nat.le_of_ble_eq_true rfl) (Nat.le_of_ble_eq_true rfl) rfl dX3_clause_186 fun v34 => ?_)
  refine wu_ (wg_cSi (pc := 189) (As := [.int v34]) (rest := []) hX (m_X3_actionOf v34) (lw_S q2567 q2568 q163 q2569) hd_X3_actionOf rfl (Nat.le_of_ble_eq_true rfl) (Nat.le_of_ble_eq_true rfl) (Nat.le_of_ble_eq_true rfl) rfl dX3_clause_189 fun v35 => ?_)
  refine wg_istore (pc := 192) (l' := [(0, .ref (rid 1 1)), (3, .int v1), (4, .int v35)]) hX dX3_clause_192 (by decide) rfl ?_
  refine wg_goto (pc := 194) (tgt := 103) hX dX3_clause_194 (by decide) ?_
  exact hrec20 v35
theorem m_X3_goThrough (a1 : Int32) (a2 : Nat) (a3 : Int32) (a4 : Int32) : amMet yX3_goThrough cX3_goThrough 7 (some .boolean) 136 3273 encI [.ref (rid 1 1), .int a1, .ref (rid 107 a2), .int a3, .int a4] (up (p_X3_goThrough a1 a2 a3 a4)) := by
  refine amMet.of (own := RX3) (by decide) rfl (Nat.le_of_ble_eq_true rfl) fun X hX hPs => ?_
  change WG X encI 0 [(0, .ref (rid 1 1)), (1, .int a1), (2, .ref (rid 107 a2)), (3, .int a3), (4, .int a4)] [] (bd1 (up (p_X3_goThrough a1 a2 a3 a4)) rt1)
  unfold p_X3_goThrough
  have hM0 := amPs.m0 hPs
  refine wu_ (wg_gM ?_)
  refine wg_aload_n (pc := 0) hX dX3_goThrough_0 0 rfl ?_
  refine wg_aload_n (pc := 1) hX dX3_goThrough_1 2 rfl ?_
  refine wu_ (wg_pR (pc := 2) hX fp_X3_205 (fun h => by cases h) (by decide) (by first | exact Or.inl ⟨_, rfl⟩ | exact Or.inr ⟨_, rfl⟩) dX3_goThrough_2 ?_)
  refine wg_aload_n (pc := 5) hX dX3_goThrough_5 0 rfl ?_
  refine wg_iload_n (pc := 6) hX dX3_goThrough_6 3 rfl ?_
  refine wu_ (wg_pI (pc := 7) hX fp_X3_429 (fun h => by cases h) dX3_goThrough_7 ?_)
  refine wg_aload_n (pc := 10) hX dX3_goThrough_10 0 rfl ?_
  refine wg_iload (pc := 11) hX dX3_goThrough_11 4 rfl ?_
  refine wu_ (wg_pI (pc := 13) hX fp_X3_426 (fun h => by cases h) dX3_goThrough_13 ?_)
  refine wg_aload_n (pc := 16) hX dX3_goThrough_16 0 rfl ?_
  refine wg_iconst (pc := 17) (v := 0) hX dX3_goThrough_17 rfl ?_
  refine wu_ (wg_pI (pc := 18) hX fp_X3_423 (fun h => by cases h) dX3_goThrough_18 ?_)
  refine wg_aload_n (pc := 21) hX dX3_goThrough_21 0 rfl ?_
  refine wg_iconst (pc := 22) (v := (-1)) hX dX3_goThrough_22 rfl ?_
  refine wu_ (wg_pI (pc := 23) hX fp_X3_432 (fun h => by cases h) dX3_goThrough_23 ?_)
  refine wg_aload_n (pc := 26) hX dX3_goThrough_26 0 rfl ?_
  refine wg_iconst (pc := 27) (v := 0) hX dX3_goThrough_27 rfl ?_
  refine wu_ (wg_pI (pc := 28) hX fp_X3_435 (fun h => by cases h) dX3_goThrough_28 ?_)
  refine wg_aload_n (pc := 31) hX dX3_goThrough_31 0 rfl ?_
  refine wg_iconst (pc := 32) (v := 0) hX dX3_goThrough_32 rfl ?_
  refine wu_ (wg_pI (pc := 33) hX fp_X3_497 (fun h => by cases h) dX3_goThrough_33 ?_)
  refine wg_aload_n (pc := 36) hX dX3_goThrough_36 0 rfl ?_
  refine wg_iconst (pc := 37) (v := 0) hX dX3_goThrough_37 rfl ?_
  refine wu_ (wg_pI (pc := 38) hX fp_X3_494 (fun h => by cases h) dX3_goThrough_38 ?_)
  refine wg_iconst (pc := 41) (v := 0) hX dX3_goThrough_41 rfl ?_
  refine wg_istore (pc := 42) (l' := [(0, .ref (rid 1 1)), (1, .int a1), (2, .ref (rid 107 a2)), (3, .int a3), (4, .int a4), (5, .int 0)]) hX dX3_goThrough_42 (by decide) rfl ?_
  refine wg_sub hX [0, 1, 5] rfl ?_
  refine wu_lpx (α := Int32) (γ := Unit) (pcl := 44) (pcT := 64) (lo := fun x => [(0, .ref (rid 1 1)), (1, .int a1), (5, .int x)]) (so := fun _ => []) (lT := fun x => [(0, .ref (rid 1 1)), (1, .int a1)]) (sT := fun _ => []) (n := amFu) (x0 := 0) (fun K1 rec1 hrec1 hk1 x1 => ?_) (fun y2 => ?_)
  · unfold p_X3_goThrough_L44
    refine wg_iload (pc := 44) hX dX3_goThrough_44 2 rfl ?_
    refine wg_iconst (pc := 46) (v := 5) hX dX3_goThrough_46 rfl ?_
    refine wg_icmp_ge (pc := 47) (tgt := 64) hX dX3_goThrough_47 (by decide) (fun h3 => ?_) (fun h3 => ?_)
    · refine wu_t h3 ?_
      refine wg_sub hX [0, 1] rfl ?_
      exact wu_rt (hk1 ())
    refine wu_f h3 ?_
    refine wg_aload_n (pc := 50) hX dX3_goThrough_50 0 rfl ?_
    refine wg_gK (pc := 51) hX hM0 fd_X3_195 (by decide) dX3_goThrough_51 ?_
    refine wg_iload (pc := 54) hX dX3_goThrough_54 2 rfl ?_
    refine wg_iconst (pc := 56) (v := 0) hX dX3_goThrough_56 rfl ?_
    refine wu_ (wg_wI (pc := 57) hX ar_113 dX3_goThrough_57 ?_)
    refine wg_iinc (pc := 58) (v := (x1 + 1)) (l' := [(0, .ref (rid 1 1)), (1, .int a1), (5, .int (x1 + 1))]) hX dX3_goThrough_58 2 rfl rfl (by decide) rfl ?_
    refine wg_goto (pc := 61) (tgt := 44) hX dX3_goThrough_61 (by decide) ?_
    exact hrec1 (x1 + 1)
  refine wg_aload_n (pc := 64) hX dX3_goThrough_64 0 rfl ?_
  refine wg_iload_n (pc := 65) hX dX3_goThrough_65 1 rfl ?_
  refine wu_jx (α := Nat) (pcJ := 89) (lJ := fun x => [(0, .ref (rid 1 1)), (1, .int a1)]) (sJ := fun x => [.ref (rid 250 x), .ref (rid 1 1)]) (fun K4 hk4 => ?_) (fun z4 => ?_)
  · refine wg_if_ne (pc := 66) (tgt := 75) hX dX3_goThrough_66 (by decide) (fun h5 => ?_) (fun h5 => ?_)
    · refine wu_t h5 ?_
      refine wg_ldSw (pc := 69) (i := 0) (tx := "whfkapslco") hX (by decide) dX3_goThrough_69 ?_
      refine wg_goto (pc := 72) (tgt := 89) hX dX3_goThrough_72 (by decide) ?_
      exact wu_rt (hk4 1)
    refine wu_f h5 ?_
    refine wg_iload_n (pc := 75) hX dX3_goThrough_75 1 rfl ?_
    refine wg_iconst (pc := 76) (v := 1) hX dX3_goThrough_76 rfl ?_
    refine wg_icmp_ne (pc := 77) (tgt := 86) hX dX3_goThrough_77 (by decide) (fun h6 => ?_) (fun h6 => ?_)
    rotate_left
    · refine wu_f h6 ?_
      refine wg_ldSw (pc := 86) (i := 2) (tx := "srukgxwydnl") hX (by decide) dX3_goThrough_86 ?_
      exact wu_rt (hk4 3)
    refine wu_t h6 ?_
    refine wg_ldSw (pc := 80) (i := 1) (tx := "vbetmg") hX (by decide) dX3_goThrough_80 ?_
    refine wg_goto (pc := 83) (tgt := 89) hX dX3_goThrough_83 (by decide) ?_
    exact wu_rt (hk4 2)
  refine wu_ (wg_pR (pc := 89) hX fp_X3_210 (fun h => by cases h) (by decide) (by first | exact Or.inl ⟨_, rfl⟩ | exact Or.inr ⟨_, rfl⟩) dX3_goThrough_89 ?_)
  refine wg_iload_n (pc := 92) hX dX3_goThrough_92 1 rfl ?_
  refine wg_iconst (pc := 93) (v := 1) hX dX3_goThrough_93 rfl ?_
  refine wg_icmp_ne (pc := 94) (tgt := 127) hX dX3_goThrough_94 (by decide) (fun h7 => ?_) (fun h7 => ?_)
  · refine wu_t h7 ?_
    refine wg_aload_n (pc := 97) hX dX3_goThrough_97 0 rfl ?_
    refine wu_ (wg_cVi (pc := 98) (As := []) (rest := []) hX (m_X3_condition) (by decide) (by decide) (by decide) rc_X3 (lw_V q2507 q2509 qs109 q163 q2510) hd_X3_condition rfl (Nat.le_of_ble_eq_true rfl) (Nat.le_of_ble_eq_true rfl) (Nat.le_of_ble_eq_true rfl) rfl dX3_goThrough_98 fun v8 => ?_)
    refine wg_istore (pc := 101) (l' := [(0, .ref (rid 1 1)), (1, .int a1), (5, .int v8)]) hX dX3_goThrough_101 (by decide) rfl ?_
    refine wg_aload_n (pc := 103) hX dX3_goThrough_103 0 rfl ?_
    refine wu_ (wg_gI (pc := 104) hX fd_X3_432 dX3_goThrough_104 fun v9 => ?_)
    refine wg_iconst (pc := 107) (v := (-1)) hX dX3_goThrough_107 rfl ?_
    refine wg_icmp_ne (pc := 108) (tgt := 124) hX dX3_goThrough_108 (by decide) (fun h10 => ?_) (fun h10 => ?_)
    rotate_left
    · refine wu_f h10 ?_
      refine wg_iload (pc := 124) hX dX3_goThrough_124 2 rfl ?_
      refine wu_ (wg_gd fun h11 => ?_)
      exact wu_rt (wg_zret (pc := 126) hX rfl h11 rfl dX3_goThrough_126)
    refine wu_t h10 ?_
    refine wg_aload_n (pc := 111) hX dX3_goThrough_111 0 rfl ?_
    refine wu_ (wg_cVi (pc := 112) (As := []) (rest := []) hX (m_X3_look) (by decide) (by decide) (by decide) rc_X3 (lw_V q2519 q2521 qs112 q163 q2522) hd_X3_look rfl (Nat.le_of_ble_eq_true rfl) (Nat.le_of_ble_eq_true rfl) (Nat.le_of_ble_eq_true rfl) rfl dX3_goThrough_112 fun v12 => ?_)
    refine wg_iconst (pc := 115) (v := (-1)) hX dX3_goThrough_115 rfl ?_
    refine wg_icmp_eq (pc := 116) (tgt := 124) hX dX3_goThrough_116 (by decide) (fun h13 => ?_) (fun h13 => ?_)
    · refine wu_t h13 ?_
      refine wg_iload (pc := 124) hX dX3_goThrough_124 2 rfl ?_
      refine wu_ (wg_gd fun h14 => ?_)
      exact wu_rt (wg_zret (pc := 126) hX rfl h14 rfl dX3_goThrough_126)
    refine wu_f h13 ?_
    refine wg_aload_n (pc := 119) hX dX3_goThrough_119 0 rfl ?_
    refine wu_ (wg_cVi (pc := 120) (As := []) (rest := []) hX (m_X3_stop) (by decide) (by decide) (by decide) rc_X3 (lw_V q2527 q2529 qs114 q163 q2530) hd_X3_stop rfl (Nat.le_of_ble_eq_true rfl) (Nat.le_of_ble_eq_true rfl) (Nat.le_of_ble_eq_true rfl) rfl dX3_goThrough_120 fun v15 => ?_)
    refine wg_pop (pc := 123) hX dX3_goThrough_123 rfl ?_
    refine wg_iload (pc := 124) hX dX3_goThrough_124 2 rfl ?_
    refine wu_ (wg_gd fun h16 => ?_)
    exact wu_rt (wg_zret (pc := 126) hX rfl h16 rfl dX3_goThrough_126)
  refine wu_f h7 ?_
  refine wg_iconst (pc := 127) (v := 0) hX dX3_goThrough_127 rfl ?_
  refine wg_istore (pc := 128) (l' := [(0, .ref (rid 1 1)), (1, .int a1), (5, .int 0)]) hX dX3_goThrough_128 (by decide) rfl ?_
  refine wg_iconst (pc := 130) (v := 1) hX dX3_goThrough_130 rfl ?_
  refine wg_istore (pc := 131) (l' := [(0, .ref (rid 1 1)), (1, .int a1), (5, .int 0), (6, .int 1)]) hX dX3_goThrough_131 (by decide) rfl ?_
  refine wu_lpx (α := Int32 × Int32) (γ := Unit) (pcl := 133) (pcT := 199) (lo := fun x => [(0, .ref (rid 1 1)), (1, .int a1), (5, .int x.1), (6, .int x.2)]) (so := fun _ => []) (lT := fun x => [(0, .ref (rid 1 1))]) (sT := fun _ => []) (n := amFu) (x0 := (0, 1)) (fun K17 rec17 hrec17 hk17 x17 => ?_) (fun y18 => ?_)
  · unfold p_X3_goThrough_L133
    refine wg_iload (pc := 133) hX dX3_goThrough_133 3 rfl ?_
    refine wg_if_eq (pc := 135) (tgt := 199) hX dX3_goThrough_135 (by decide) (fun h19 => ?_) (fun h19 => ?_)
    · refine wu_t h19 ?_
      refine wg_sub hX [0] rfl ?_
      exact wu_rt (hk17 ())
    refine wu_f h19 ?_
    refine wg_aload_n (pc := 138) hX dX3_goThrough_138 0 rfl ?_
    refine wg_iload_n (pc := 139) hX dX3_goThrough_139 1 rfl ?_
    refine wg_iconst (pc := 140) (v := 2) hX dX3_goThrough_140 rfl ?_
    refine wu_jx (α := Int32) (pcJ := 149) (lJ := fun x => [(0, .ref (rid 1 1)), (1, .int a1), (5, .int x17.1)]) (sJ := fun x => [.int x, .ref (rid 1 1)]) (fun K20 hk20 => ?_) (fun z20 => ?_)
    · refine wg_icmp_ne (pc := 141) (tgt := 148) hX dX3_goThrough_141 (by decide) (fun h21 => ?_) (fun h21 => ?_)
      rotate_left
      · refine wu_f h21 ?_
        refine wg_iconst (pc := 148) (v := 0) hX dX3_goThrough_148 rfl ?_
        refine wg_sub hX [0, 1, 2] rfl ?_
        exact wu_rt (hk20 0)
      refine wu_t h21 ?_
      refine wg_iconst (pc := 144) (v := 1) hX dX3_goThrough_144 rfl ?_
      refine wg_goto (pc := 145) (tgt := 149) hX dX3_goThrough_145 (by decide) ?_
      refine wg_sub hX [0, 1, 2] rfl ?_
      exact wu_rt (hk20 1)
    refine wg_iload (pc := 149) hX dX3_goThrough_149 2 rfl ?_
    refine wu_ (wg_cVv (pc := 151) (As := [.int z20, .int x17.1]) (rest := []) hX (m_X3_clause z20 x17.1) (by decide) (by decide) (by decide) rc_X3 (lw_V q2563 q2565 qs121 q163 q2566) hd_X3_clause rfl (Nat.le_of_ble_eq_true rfl) (Nat.le_of_ble_eq_true rfl) (Nat.le_of_ble_eq_true rfl) rfl dX3_goThrough_151 ?_)
    refine wg_iinc (pc := 154) (v := (x17.1 + 1)) (l' := [(0, .ref (rid 1 1)), (1, .int a1), (5, .int (x17.1 + 1))]) hX dX3_goThrough_154 2 rfl rfl (by decide) rfl ?_
    refine wg_aload_n (pc := 157) hX dX3_goThrough_157 0 rfl ?_
    refine wu_ (wg_gI (pc := 158) hX fd_X3_432 dX3_goThrough_158 fun v22 => ?_)
    refine wg_iconst (pc := 161) (v := (-1)) hX dX3_goThrough_161 rfl ?_
    refine wu_jx (α := Int32) (pcJ := 179) (lJ := fun x => [(0, .ref (rid 1 1)), (1, .int a1), (5, .int (x17.1 + 1))]) (sJ := fun x => [.int x]) (fun K23 hk23 => ?_) (fun z23 => ?_)
    · refine wu_jn (α := Unit) (pcJ := 178) (lJ := fun x => [(0, .ref (rid 1 1)), (1, .int a1), (5, .int (x17.1 + 1))]) (sJ := fun x => []) (fun k24 hk24 => ?_) (fun z24 => ?_)
      · refine wg_icmp_ne (pc := 162) (tgt := 178) hX dX3_goThrough_162 (by decide) (fun h25 => ?_) (fun h25 => ?_)
        rotate_left
        · refine wu_f h25 ?_
          exact hk24 ()
        refine wu_t h25 ?_
        refine wg_aload_n (pc := 165) hX dX3_goThrough_165 0 rfl ?_
        refine wu_ (wg_cVi (pc := 166) (As := []) (rest := []) hX (m_X3_look) (by decide) (by decide) (by decide) rc_X3 (lw_V q2519 q2521 qs112 q163 q2522) hd_X3_look rfl (Nat.le_of_ble_eq_true rfl) (Nat.le_of_ble_eq_true rfl) (Nat.le_of_ble_eq_true rfl) rfl dX3_goThrough_166 fun v26 => ?_)
        refine wg_bipush (pc := 169) (v := 59) hX dX3_goThrough_169 rfl ?_
        refine wg_icmp_ne (pc := 171) (tgt := 178) hX dX3_goThrough_171 (by decide) (fun h27 => ?_) (fun h27 => ?_)
        rotate_left
        · refine wu_f h27 ?_
          exact hk24 ()
        refine wu_t h27 ?_
        refine wg_iconst (pc := 174) (v := 1) hX dX3_goThrough_174 rfl ?_
        refine wg_goto (pc := 175) (tgt := 179) hX dX3_goThrough_175 (by decide) ?_
        exact wu_rt (hk23 1)
      refine wg_iconst (pc := 178) (v := 0) hX dX3_goThrough_178 rfl ?_
      exact wu_rt (hk23 0)
    refine wg_istore (pc := 179) (l' := [(0, .ref (rid 1 1)), (1, .int a1), (5, .int (x17.1 + 1)), (6, .int z23)]) hX dX3_goThrough_179 (by decide) rfl ?_
    refine wg_iload (pc := 181) hX dX3_goThrough_181 3 rfl ?_
    refine wg_if_eq (pc := 183) (tgt := 133) hX dX3_goThrough_183 (by decide) (fun h28 => ?_) (fun h28 => ?_)
    · refine wu_t h28 ?_
      exact hrec17 ((x17.1 + 1), z23)
    refine wu_f h28 ?_
    refine wg_aload_n (pc := 186) hX dX3_goThrough_186 0 rfl ?_
    refine wg_dup (pc := 187) hX dX3_goThrough_187 rfl ?_
    refine wu_ (wg_gI (pc := 188) hX fd_X3_423 dX3_goThrough_188 fun v29 => ?_)
    refine wg_iconst (pc := 191) (v := 1) hX dX3_goThrough_191 rfl ?_
    refine wg_iadd (pc := 192) hX dX3_goThrough_192 ?_
    refine wu_ (wg_pI (pc := 193) hX fp_X3_423 (fun h => by cases h) dX3_goThrough_193 ?_)
    refine wg_goto (pc := 196) (tgt := 133) hX dX3_goThrough_196 (by decide) ?_
    exact hrec17 ((x17.1 + 1), z23)
  refine wg_aload_n (pc := 199) hX dX3_goThrough_199 0 rfl ?_
  refine wu_ (wg_gI (pc := 200) hX fd_X3_432 dX3_goThrough_200 fun v30 => ?_)
  refine wg_iconst (pc := 203) (v := (-1)) hX dX3_goThrough_203 rfl ?_
  refine wu_jx (α := Unit) (pcJ := 220) (lJ := fun x => [(0, .ref (rid 1 1))]) (sJ := fun x => []) (fun K31 hk31 => ?_) (fun z31 => ?_)
  · refine wg_icmp_ne (pc := 204) (tgt := 220) hX dX3_goThrough_204 (by decide) (fun h32 => ?_) (fun h32 => ?_)
    rotate_left
    · refine wu_f h32 ?_
      exact wu_rt (hk31 ())
    refine wu_t h32 ?_
    refine wg_aload_n (pc := 207) hX dX3_goThrough_207 0 rfl ?_
    refine wu_ (wg_cVi (pc := 208) (As := []) (rest := []) hX (m_X3_look) (by decide) (by decide) (by decide) rc_X3 (lw_V q2519 q2521 qs112 q163 q2522) hd_X3_look rfl (Nat.le_of_ble_eq_true rfl) (Nat.le_of_ble_eq_true rfl) (Nat.le_of_ble_eq_true rfl) rfl dX3_goThrough_208 fun v33 => ?_)
    refine wg_iconst (pc := 211) (v := (-1)) hX dX3_goThrough_211 rfl ?_
    refine wg_icmp_eq (pc := 212) (tgt := 220) hX dX3_goThrough_212 (by decide) (fun h34 => ?_) (fun h34 => ?_)
    · refine wu_t h34 ?_
      exact wu_rt (hk31 ())
    refine wu_f h34 ?_
    refine wg_aload_n (pc := 215) hX dX3_goThrough_215 0 rfl ?_
    refine wu_ (wg_cVi (pc := 216) (As := []) (rest := []) hX (m_X3_stop) (by decide) (by decide) (by decide) rc_X3 (lw_V q2527 q2529 qs114 q163 q2530) hd_X3_stop rfl (Nat.le_of_ble_eq_true rfl) (Nat.le_of_ble_eq_true rfl) (Nat.le_of_ble_eq_true rfl) rfl dX3_goThrough_216 fun v35 => ?_)
    refine wg_pop (pc := 219) hX dX3_goThrough_219 rfl ?_
    exact wu_rt (hk31 ())
  refine wg_aload_n (pc := 220) hX dX3_goThrough_220 0 rfl ?_
  refine wu_ (wg_gI (pc := 221) hX fd_X3_432 dX3_goThrough_221 fun v36 => ?_)
  refine wg_iconst (pc := 224) (v := (-1)) hX dX3_goThrough_224 rfl ?_
  refine wg_icmp_ne (pc := 225) (tgt := 232) hX dX3_goThrough_225 (by decide) (fun h37 => ?_) (fun h37 => ?_)
  rotate_left
  · refine wu_f h37 ?_
    refine wg_iconst (pc := 232) (v := 0) hX dX3_goThrough_232 rfl ?_
    exact wu_rt (wg_zret (pc := 233) hX rfl (by decide) rfl dX3_goThrough_233)
  refine wu_t h37 ?_
  refine wg_iconst (pc := 228) (v := 1) hX dX3_goThrough_228 rfl ?_
  refine wg_goto (pc := 229) (tgt := 233) hX dX3_goThrough_229 (by decide) ?_
  exact wu_rt (wg_zret (pc := 233) hX rfl (by decide) rfl dX3_goThrough_233)
theorem m_X3_fault (a1 : Int32) : amMet yX3_fault cX3_fault 3 (some .int) 137 3299 encI [.ref (rid 1 1), .int a1] (up (p_X3_fault a1)) := by
  refine amMet.of (own := RX3) (by decide) rfl (Nat.le_of_ble_eq_true rfl) fun X hX hPs => ?_
  change WG X encI 0 [(0, .ref (rid 1 1)), (1, .int a1)] [] (bd1 (up (p_X3_fault a1)) rt1)
  unfold p_X3_fault
  have hM0 := amPs.m0 hPs
  refine wu_ (wg_gM ?_)
  refine wg_aload_n (pc := 0) hX dX3_fault_0 0 rfl ?_
  refine wg_iconst (pc := 1) (v := 0) hX dX3_fault_1 rfl ?_
  refine wu_ (wg_pI (pc := 2) hX fp_X3_297 (fun h => by cases h) dX3_fault_2 ?_)
  refine wg_iload_n (pc := 5) hX dX3_fault_5 1 rfl ?_
  refine wg_iconst (pc := 6) (v := 0) hX dX3_fault_6 rfl ?_
  refine wg_iconst (pc := 7) (v := 2) hX dX3_fault_7 rfl ?_
  refine wu_ (wg_cSi (pc := 8) (As := [.int a1, .int 0, .int 2]) (rest := []) hX (m_X3_isIn a1 0 2) (lw_S q2317 q2318 q163 q2319) hd_X3_isIn rfl (Nat.le_of_ble_eq_true rfl) (Nat.le_of_ble_eq_true rfl) (Nat.le_of_ble_eq_true rfl) rfl dX3_fault_8 fun v1 => ?_)
  refine wg_if_ne (pc := 11) (tgt := 17) hX dX3_fault_11 (by decide) (fun h2 => ?_) (fun h2 => ?_)
  · refine wu_t h2 ?_
    refine wg_bipush (pc := 14) (v := (-2)) hX dX3_fault_14 rfl ?_
    exact wu_rt (wg_iret (pc := 16) hX rfl rfl dX3_fault_16)
  refine wu_f h2 ?_
  refine wg_aload_n (pc := 17) hX dX3_fault_17 0 rfl ?_
  refine wg_iload_n (pc := 18) hX dX3_fault_18 1 rfl ?_
  refine wg_aload_n (pc := 19) hX dX3_fault_19 0 rfl ?_
  refine wg_gK (pc := 20) hX hM0 fd_X3_167 (by decide) dX3_fault_20 ?_
  refine wg_iconst (pc := 23) (v := 0) hX dX3_fault_23 rfl ?_
  refine wg_aload_n (pc := 24) hX dX3_fault_24 0 rfl ?_
  refine wu_ (wg_gI (pc := 25) hX fd_X3_414 dX3_fault_25 fun v3 => ?_)
  refine wu_ (wg_cVi (pc := 28) (As := [.int a1, .ref (rid 107 1), .int 0, .int v3]) (rest := []) hX (m_X3_goThrough a1 1 0 v3) (by decide) (by decide) (by decide) rc_X3 (lw_V q2500 q2502 qs108 q163 q2503) hd_X3_goThrough rfl (Nat.le_of_ble_eq_true rfl) (Nat.le_of_ble_eq_true rfl) (Nat.le_of_ble_eq_true rfl) rfl dX3_fault_28 fun v4 => ?_)
  refine wg_istore_n (pc := 31) (l' := [(0, .ref (rid 1 1)), (1, .int a1), (2, .int v4)]) hX dX3_fault_31 (by decide) rfl ?_
  refine wg_aload_n (pc := 32) hX dX3_fault_32 0 rfl ?_
  refine wu_ (wg_gI (pc := 33) hX fd_X3_432 dX3_fault_33 fun v5 => ?_)
  exact wu_rt (wg_iret (pc := 36) hX rfl rfl dX3_fault_36)
theorem m_X3_orders  : amMet yX3_orders cX3_orders 2 (some .int) 138 3321 encI [.ref (rid 1 1)] (up (p_X3_orders)) := by
  refine amMet.of (own := RX3) (by decide) rfl (Nat.le_of_ble_eq_true rfl) fun X hX hPs => ?_
  change WG X encI 0 [(0, .ref (rid 1 1))] [] (bd1 (up (p_X3_orders)) rt1)
  unfold p_X3_orders
  have hM0 := amPs.m0 hPs
  refine wu_ (wg_gM ?_)
  refine wg_aload_n (pc := 0) hX dX3_orders_0 0 rfl ?_
  refine wg_iconst (pc := 1) (v := 0) hX dX3_orders_1 rfl ?_
  refine wu_ (wg_cVi (pc := 2) (As := [.int 0]) (rest := []) hX (m_X3_fault 0) (by decide) (by decide) (by decide) rc_X3 (lw_V q2574 q2497 q2498 q163 q2499) hd_X3_fault rfl (Nat.le_of_ble_eq_true rfl) (Nat.le_of_ble_eq_true rfl) (Nat.le_of_ble_eq_true rfl) rfl dX3_orders_2 fun v1 => ?_)
  refine wg_iconst (pc := 5) (v := (-1)) hX dX3_orders_5 rfl ?_
  refine wg_icmp_ne (pc := 6) (tgt := 18) hX dX3_orders_6 (by decide) (fun h2 => ?_) (fun h2 => ?_)
  rotate_left
  · refine wu_f h2 ?_
    refine wg_iconst (pc := 18) (v := (-1)) hX dX3_orders_18 rfl ?_
    exact wu_rt (wg_iret (pc := 19) hX rfl rfl dX3_orders_19)
  refine wu_t h2 ?_
  refine wg_aload_n (pc := 9) hX dX3_orders_9 0 rfl ?_
  refine wu_ (wg_gI (pc := 10) hX fd_X3_519 dX3_orders_10 fun v3 => ?_)
  refine wg_bipush (pc := 13) (v := 20) hX dX3_orders_13 rfl ?_
  refine wg_icmp_ne (pc := 15) (tgt := 20) hX dX3_orders_15 (by decide) (fun h4 => ?_) (fun h4 => ?_)
  · refine wu_t h4 ?_
    refine wg_iconst (pc := 18) (v := (-1)) hX dX3_orders_18 rfl ?_
    exact wu_rt (wg_iret (pc := 19) hX rfl rfl dX3_orders_19)
  refine wu_f h4 ?_
  refine wg_iconst (pc := 20) (v := 0) hX dX3_orders_20 rfl ?_
  refine wg_istore_n (pc := 21) (l' := [(0, .ref (rid 1 1)), (1, .int 0)]) hX dX3_orders_21 (by decide) rfl ?_
  refine wu_lpx (α := Int32) (γ := Unit) (pcl := 22) (pcT := 57) (lo := fun x => [(0, .ref (rid 1 1)), (1, .int x)]) (so := fun _ => []) (lT := fun x => [(0, .ref (rid 1 1))]) (sT := fun _ => []) (n := amFu) (x0 := 0) (fun K5 rec5 hrec5 hk5 x5 => ?_) (fun y6 => ?_)
  · unfold p_X3_orders_L22
    refine wg_iload_n (pc := 22) hX dX3_orders_22 1 rfl ?_
    refine wg_aload_n (pc := 23) hX dX3_orders_23 0 rfl ?_
    refine wu_ (wg_gI (pc := 24) hX fd_X3_414 dX3_orders_24 fun v7 => ?_)
    refine wg_icmp_ge (pc := 27) (tgt := 57) hX dX3_orders_27 (by decide) (fun h8 => ?_) (fun h8 => ?_)
    · refine wu_t h8 ?_
      refine wg_sub hX [0] rfl ?_
      exact wu_rt (hk5 ())
    refine wu_f h8 ?_
    refine wg_aload_n (pc := 30) hX dX3_orders_30 0 rfl ?_
    refine wg_gK (pc := 31) hX hM0 fd_X3_171 (by decide) dX3_orders_31 ?_
    refine wg_sipush (pc := 34) (v := 200) hX dX3_orders_34 rfl ?_
    refine wg_aload_n (pc := 37) hX dX3_orders_37 0 rfl ?_
    refine wu_ (wg_gI (pc := 38) hX fd_X3_519 dX3_orders_38 fun v9 => ?_)
    refine wg_imul (pc := 41) hX dX3_orders_41 ?_
    refine wg_iload_n (pc := 42) hX dX3_orders_42 1 rfl ?_
    refine wg_iadd (pc := 43) hX dX3_orders_43 ?_
    refine wg_aload_n (pc := 44) hX dX3_orders_44 0 rfl ?_
    refine wg_gK (pc := 45) hX hM0 fd_X3_167 (by decide) dX3_orders_45 ?_
    refine wg_iload_n (pc := 48) hX dX3_orders_48 1 rfl ?_
    refine wu_ (wg_rB (pc := 49) hX ar_107 dX3_orders_49 fun v10 => ?_)
    refine wu_ (wg_wB (pc := 50) hX ar_107 dX3_orders_50 ?_)
    refine wg_iinc (pc := 51) (v := (x5 + 1)) (l' := [(0, .ref (rid 1 1)), (1, .int (x5 + 1))]) hX dX3_orders_51 1 rfl rfl (by decide) rfl ?_
    refine wg_goto (pc := 54) (tgt := 22) hX dX3_orders_54 (by decide) ?_
    exact hrec5 (x5 + 1)
  refine wg_aload_n (pc := 57) hX dX3_orders_57 0 rfl ?_
  refine wg_gK (pc := 58) hX hM0 fd_X3_180 (by decide) dX3_orders_58 ?_
  refine wg_aload_n (pc := 61) hX dX3_orders_61 0 rfl ?_
  refine wu_ (wg_gI (pc := 62) hX fd_X3_519 dX3_orders_62 fun v11 => ?_)
  refine wg_aload_n (pc := 65) hX dX3_orders_65 0 rfl ?_
  refine wu_ (wg_gI (pc := 66) hX fd_X3_414 dX3_orders_66 fun v12 => ?_)
  refine wu_ (wg_wI (pc := 69) hX ar_108 dX3_orders_69 ?_)
  refine wg_aload_n (pc := 70) hX dX3_orders_70 0 rfl ?_
  refine wg_dup (pc := 71) hX dX3_orders_71 rfl ?_
  refine wu_ (wg_gI (pc := 72) hX fd_X3_519 dX3_orders_72 fun v13 => ?_)
  refine wg_iconst (pc := 75) (v := 1) hX dX3_orders_75 rfl ?_
  refine wg_iadd (pc := 76) hX dX3_orders_76 ?_
  refine wu_ (wg_pI (pc := 77) hX fp_X3_519 (fun h => by cases h) dX3_orders_77 ?_)
  refine wg_aload_n (pc := 80) hX dX3_orders_80 0 rfl ?_
  refine wg_iconst (pc := 81) (v := 0) hX dX3_orders_81 rfl ?_
  refine wu_ (wg_pI (pc := 82) hX fp_X3_414 (fun h => by cases h) dX3_orders_82 ?_)
  refine wg_aload_n (pc := 85) hX dX3_orders_85 0 rfl ?_
  refine wu_ (wg_gI (pc := 86) hX fd_X3_519 dX3_orders_86 fun v14 => ?_)
  refine wg_iconst (pc := 89) (v := 1) hX dX3_orders_89 rfl ?_
  refine wg_isub (pc := 90) hX dX3_orders_90 ?_
  exact wu_rt (wg_iret (pc := 91) hX rfl rfl dX3_orders_91)
theorem m_X3_leaving  : amMet yX3_leaving cX3_leaving 2 (some .boolean) 138 3321 encI [.ref (rid 1 1)] (up (p_X3_leaving)) := by
  refine amMet.of (own := RX3) (by decide) rfl (Nat.le_of_ble_eq_true rfl) fun X hX hPs => ?_
  change WG X encI 0 [(0, .ref (rid 1 1))] [] (bd1 (up (p_X3_leaving)) rt1)
  unfold p_X3_leaving
  have hM0 := amPs.m0 hPs
  refine wu_ (wg_gM ?_)
  refine wg_aload_n (pc := 0) hX dX3_leaving_0 0 rfl ?_
  refine wg_iconst (pc := 1) (v := 1) hX dX3_leaving_1 rfl ?_
  refine wu_ (wg_cVi (pc := 2) (As := [.int 1]) (rest := []) hX (m_X3_fault 1) (by decide) (by decide) (by decide) rc_X3 (lw_V q2574 q2497 q2498 q163 q2499) hd_X3_fault rfl (Nat.le_of_ble_eq_true rfl) (Nat.le_of_ble_eq_true rfl) (Nat.le_of_ble_eq_true rfl) rfl dX3_leaving_2 fun v1 => ?_)
  refine wg_iconst (pc := 5) (v := (-1)) hX dX3_leaving_5 rfl ?_
  refine wg_icmp_eq (pc := 6) (tgt := 11) hX dX3_leaving_6 (by decide) (fun h2 => ?_) (fun h2 => ?_)
  rotate_left
  · refine wu_f h2 ?_
    refine wg_iconst (pc := 9) (v := 0) hX dX3_leaving_9 rfl ?_
    exact wu_rt (wg_zret (pc := 10) hX rfl (by decide) rfl dX3_leaving_10)
  refine wu_t h2 ?_
  refine wg_iconst (pc := 11) (v := 0) hX dX3_leaving_11 rfl ?_
  refine wg_istore_n (pc := 12) (l' := [(0, .ref (rid 1 1)), (1, .int 0)]) hX dX3_leaving_12 (by decide) rfl ?_
  refine wu_lpx (α := Int32) (γ := Unit) (pcl := 13) (pcT := 39) (lo := fun x => [(0, .ref (rid 1 1)), (1, .int x)]) (so := fun _ => []) (lT := fun x => [(0, .ref (rid 1 1))]) (sT := fun _ => []) (n := amFu) (x0 := 0) (fun K3 rec3 hrec3 hk3 x3 => ?_) (fun y4 => ?_)
  · unfold p_X3_leaving_L13
    refine wg_iload_n (pc := 13) hX dX3_leaving_13 1 rfl ?_
    refine wg_aload_n (pc := 14) hX dX3_leaving_14 0 rfl ?_
    refine wu_ (wg_gI (pc := 15) hX fd_X3_414 dX3_leaving_15 fun v5 => ?_)
    refine wg_icmp_ge (pc := 18) (tgt := 39) hX dX3_leaving_18 (by decide) (fun h6 => ?_) (fun h6 => ?_)
    · refine wu_t h6 ?_
      refine wg_sub hX [0] rfl ?_
      exact wu_rt (hk3 ())
    refine wu_f h6 ?_
    refine wg_aload_n (pc := 21) hX dX3_leaving_21 0 rfl ?_
    refine wg_gK (pc := 22) hX hM0 fd_X3_177 (by decide) dX3_leaving_22 ?_
    refine wg_iload_n (pc := 25) hX dX3_leaving_25 1 rfl ?_
    refine wg_aload_n (pc := 26) hX dX3_leaving_26 0 rfl ?_
    refine wg_gK (pc := 27) hX hM0 fd_X3_167 (by decide) dX3_leaving_27 ?_
    refine wg_iload_n (pc := 30) hX dX3_leaving_30 1 rfl ?_
    refine wu_ (wg_rB (pc := 31) hX ar_107 dX3_leaving_31 fun v7 => ?_)
    refine wu_ (wg_wB (pc := 32) hX ar_107 dX3_leaving_32 ?_)
    refine wg_iinc (pc := 33) (v := (x3 + 1)) (l' := [(0, .ref (rid 1 1)), (1, .int (x3 + 1))]) hX dX3_leaving_33 1 rfl rfl (by decide) rfl ?_
    refine wg_goto (pc := 36) (tgt := 13) hX dX3_leaving_36 (by decide) ?_
    exact hrec3 (x3 + 1)
  refine wg_aload_n (pc := 39) hX dX3_leaving_39 0 rfl ?_
  refine wg_aload_n (pc := 40) hX dX3_leaving_40 0 rfl ?_
  refine wu_ (wg_gI (pc := 41) hX fd_X3_414 dX3_leaving_41 fun v8 => ?_)
  refine wu_ (wg_pI (pc := 44) hX fp_X3_201 (fun h => by cases h) dX3_leaving_44 ?_)
  refine wg_aload_n (pc := 47) hX dX3_leaving_47 0 rfl ?_
  refine wg_iconst (pc := 48) (v := 0) hX dX3_leaving_48 rfl ?_
  refine wu_ (wg_pI (pc := 49) hX fp_X3_414 (fun h => by cases h) dX3_leaving_49 ?_)
  refine wg_iconst (pc := 52) (v := 1) hX dX3_leaving_52 rfl ?_
  exact wu_rt (wg_zret (pc := 53) hX rfl (by decide) rfl dX3_leaving_53)
theorem m_X3_act (a1 : Int32) : amMet yX3_act cX3_act 3 (some .int) 138 3321 encI [.ref (rid 1 1), .int a1] (up (p_X3_act a1)) := by
  refine amMet.of (own := RX3) (by decide) rfl (Nat.le_of_ble_eq_true rfl) fun X hX hPs => ?_
  change WG X encI 0 [(0, .ref (rid 1 1)), (1, .int a1)] [] (bd1 (up (p_X3_act a1)) rt1)
  unfold p_X3_act
  have hM0 := amPs.m0 hPs
  refine wu_ (wg_gM ?_)
  refine wg_aload_n (pc := 0) hX dX3_act_0 0 rfl ?_
  refine wg_iconst (pc := 1) (v := 2) hX dX3_act_1 rfl ?_
  refine wu_ (wg_cVi (pc := 2) (As := [.int 2]) (rest := []) hX (m_X3_fault 2) (by decide) (by decide) (by decide) rc_X3 (lw_V q2574 q2497 q2498 q163 q2499) hd_X3_fault rfl (Nat.le_of_ble_eq_true rfl) (Nat.le_of_ble_eq_true rfl) (Nat.le_of_ble_eq_true rfl) rfl dX3_act_2 fun v1 => ?_)
  refine wg_iconst (pc := 5) (v := (-1)) hX dX3_act_5 rfl ?_
  refine wg_icmp_ne (pc := 6) (tgt := 29) hX dX3_act_6 (by decide) (fun h2 => ?_) (fun h2 => ?_)
  rotate_left
  · refine wu_f h2 ?_
    refine wg_iconst (pc := 29) (v := (-1)) hX dX3_act_29 rfl ?_
    exact wu_rt (wg_iret (pc := 30) hX rfl rfl dX3_act_30)
  refine wu_t h2 ?_
  refine wg_aload_n (pc := 9) hX dX3_act_9 0 rfl ?_
  refine wu_ (wg_gI (pc := 10) hX fd_X3_522 dX3_act_10 fun v3 => ?_)
  refine wg_bipush (pc := 13) (v := 12) hX dX3_act_13 rfl ?_
  refine wg_icmp_eq (pc := 15) (tgt := 29) hX dX3_act_15 (by decide) (fun h4 => ?_) (fun h4 => ?_)
  · refine wu_t h4 ?_
    refine wg_iconst (pc := 29) (v := (-1)) hX dX3_act_29 rfl ?_
    exact wu_rt (wg_iret (pc := 30) hX rfl rfl dX3_act_30)
  refine wu_f h4 ?_
  refine wg_iload_n (pc := 18) hX dX3_act_18 1 rfl ?_
  refine wg_iconst (pc := 19) (v := 1) hX dX3_act_19 rfl ?_
  refine wg_sipush (pc := 20) (v := 200) hX dX3_act_20 rfl ?_
  refine wu_ (wg_cSi (pc := 23) (As := [.int a1, .int 1, .int 200]) (rest := []) hX (m_X3_isIn a1 1 200) (lw_S q2317 q2318 q163 q2319) hd_X3_isIn rfl (Nat.le_of_ble_eq_true rfl) (Nat.le_of_ble_eq_true rfl) (Nat.le_of_ble_eq_true rfl) rfl dX3_act_23 fun v5 => ?_)
  refine wg_if_ne (pc := 26) (tgt := 31) hX dX3_act_26 (by decide) (fun h6 => ?_) (fun h6 => ?_)
  · refine wu_t h6 ?_
    refine wg_iconst (pc := 29) (v := (-1)) hX dX3_act_29 rfl ?_
    exact wu_rt (wg_iret (pc := 30) hX rfl rfl dX3_act_30)
  refine wu_f h6 ?_
  refine wg_iconst (pc := 31) (v := 0) hX dX3_act_31 rfl ?_
  refine wg_istore_n (pc := 32) (l' := [(0, .ref (rid 1 1)), (1, .int a1), (2, .int 0)]) hX dX3_act_32 (by decide) rfl ?_
  refine wu_lpx (α := Int32) (γ := Unit) (pcl := 33) (pcT := 68) (lo := fun x => [(0, .ref (rid 1 1)), (1, .int a1), (2, .int x)]) (so := fun _ => []) (lT := fun x => [(0, .ref (rid 1 1)), (1, .int a1)]) (sT := fun _ => []) (n := amFu) (x0 := 0) (fun K7 rec7 hrec7 hk7 x7 => ?_) (fun y8 => ?_)
  · unfold p_X3_act_L33
    refine wg_iload_n (pc := 33) hX dX3_act_33 2 rfl ?_
    refine wg_aload_n (pc := 34) hX dX3_act_34 0 rfl ?_
    refine wu_ (wg_gI (pc := 35) hX fd_X3_414 dX3_act_35 fun v9 => ?_)
    refine wg_icmp_ge (pc := 38) (tgt := 68) hX dX3_act_38 (by decide) (fun h10 => ?_) (fun h10 => ?_)
    · refine wu_t h10 ?_
      refine wg_sub hX [0, 1] rfl ?_
      exact wu_rt (hk7 ())
    refine wu_f h10 ?_
    refine wg_aload_n (pc := 41) hX dX3_act_41 0 rfl ?_
    refine wg_gK (pc := 42) hX hM0 fd_X3_174 (by decide) dX3_act_42 ?_
    refine wg_sipush (pc := 45) (v := 200) hX dX3_act_45 rfl ?_
    refine wg_aload_n (pc := 48) hX dX3_act_48 0 rfl ?_
    refine wu_ (wg_gI (pc := 49) hX fd_X3_522 dX3_act_49 fun v11 => ?_)
    refine wg_imul (pc := 52) hX dX3_act_52 ?_
    refine wg_iload_n (pc := 53) hX dX3_act_53 2 rfl ?_
    refine wg_iadd (pc := 54) hX dX3_act_54 ?_
    refine wg_aload_n (pc := 55) hX dX3_act_55 0 rfl ?_
    refine wg_gK (pc := 56) hX hM0 fd_X3_167 (by decide) dX3_act_56 ?_
    refine wg_iload_n (pc := 59) hX dX3_act_59 2 rfl ?_
    refine wu_ (wg_rB (pc := 60) hX ar_107 dX3_act_60 fun v12 => ?_)
    refine wu_ (wg_wB (pc := 61) hX ar_107 dX3_act_61 ?_)
    refine wg_iinc (pc := 62) (v := (x7 + 1)) (l' := [(0, .ref (rid 1 1)), (1, .int a1), (2, .int (x7 + 1))]) hX dX3_act_62 2 rfl rfl (by decide) rfl ?_
    refine wg_goto (pc := 65) (tgt := 33) hX dX3_act_65 (by decide) ?_
    exact hrec7 (x7 + 1)
  refine wg_aload_n (pc := 68) hX dX3_act_68 0 rfl ?_
  refine wg_gK (pc := 69) hX hM0 fd_X3_183 (by decide) dX3_act_69 ?_
  refine wg_aload_n (pc := 72) hX dX3_act_72 0 rfl ?_
  refine wu_ (wg_gI (pc := 73) hX fd_X3_522 dX3_act_73 fun v13 => ?_)
  refine wg_aload_n (pc := 76) hX dX3_act_76 0 rfl ?_
  refine wu_ (wg_gI (pc := 77) hX fd_X3_414 dX3_act_77 fun v14 => ?_)
  refine wu_ (wg_wI (pc := 80) hX ar_109 dX3_act_80 ?_)
  refine wg_aload_n (pc := 81) hX dX3_act_81 0 rfl ?_
  refine wg_gK (pc := 82) hX hM0 fd_X3_186 (by decide) dX3_act_82 ?_
  refine wg_aload_n (pc := 85) hX dX3_act_85 0 rfl ?_
  refine wu_ (wg_gI (pc := 86) hX fd_X3_522 dX3_act_86 fun v15 => ?_)
  refine wg_iload_n (pc := 89) hX dX3_act_89 1 rfl ?_
  refine wu_ (wg_wI (pc := 90) hX ar_110 dX3_act_90 ?_)
  refine wg_aload_n (pc := 91) hX dX3_act_91 0 rfl ?_
  refine wg_gK (pc := 92) hX hM0 fd_X3_189 (by decide) dX3_act_92 ?_
  refine wg_aload_n (pc := 95) hX dX3_act_95 0 rfl ?_
  refine wu_ (wg_gI (pc := 96) hX fd_X3_522 dX3_act_96 fun v16 => ?_)
  refine wg_aload_n (pc := 99) hX dX3_act_99 0 rfl ?_
  refine wu_ (wg_gI (pc := 100) hX fd_X3_395 dX3_act_100 fun v17 => ?_)
  refine wu_ (wg_wI (pc := 103) hX ar_111 dX3_act_103 ?_)
  refine wg_aload_n (pc := 104) hX dX3_act_104 0 rfl ?_
  refine wg_dup (pc := 105) hX dX3_act_105 rfl ?_
  refine wu_ (wg_gI (pc := 106) hX fd_X3_522 dX3_act_106 fun v18 => ?_)
  refine wg_iconst (pc := 109) (v := 1) hX dX3_act_109 rfl ?_
  refine wg_iadd (pc := 110) hX dX3_act_110 ?_
  refine wu_ (wg_pI (pc := 111) hX fp_X3_522 (fun h => by cases h) dX3_act_111 ?_)
  refine wg_aload_n (pc := 114) hX dX3_act_114 0 rfl ?_
  refine wg_iconst (pc := 115) (v := 0) hX dX3_act_115 rfl ?_
  refine wu_ (wg_pI (pc := 116) hX fp_X3_414 (fun h => by cases h) dX3_act_116 ?_)
  refine wg_aload_n (pc := 119) hX dX3_act_119 0 rfl ?_
  refine wu_ (wg_gI (pc := 120) hX fd_X3_522 dX3_act_120 fun v19 => ?_)
  refine wg_iconst (pc := 123) (v := 1) hX dX3_act_123 rfl ?_
  refine wg_isub (pc := 124) hX dX3_act_124 ?_
  exact wu_rt (wg_iret (pc := 125) hX rfl rfl dX3_act_125)
theorem m_X3_falseOf (a1 : Int32) (a2 : Int32) : amMet yX3_falseOf cX3_falseOf 6 (some .int) 2 52 encI [.ref (rid 1 1), .int a1, .int a2] (up (p_X3_falseOf a1 a2)) := by
  refine amMet.of (own := RX3) (by decide) rfl (Nat.le_of_ble_eq_true rfl) fun X hX hPs => ?_
  change WG X encI 0 [(0, .ref (rid 1 1)), (1, .int a1), (2, .int a2)] [] (bd1 (up (p_X3_falseOf a1 a2)) rt1)
  unfold p_X3_falseOf
  have hM0 := amPs.m0 hPs
  refine wu_ (wg_gM ?_)
  refine wg_iconst (pc := 0) (v := 0) hX dX3_falseOf_0 rfl ?_
  refine wg_istore_n (pc := 1) (l' := [(0, .ref (rid 1 1)), (1, .int a1), (2, .int a2), (3, .int 0)]) hX dX3_falseOf_1 (by decide) rfl ?_
  refine wg_iconst (pc := 2) (v := 0) hX dX3_falseOf_2 rfl ?_
  refine wg_istore (pc := 3) (l' := [(0, .ref (rid 1 1)), (1, .int a1), (2, .int a2), (3, .int 0), (4, .int 0)]) hX dX3_falseOf_3 (by decide) rfl ?_
  refine wg_iconst (pc := 5) (v := 0) hX dX3_falseOf_5 rfl ?_
  refine wg_istore (pc := 6) (l' := [(0, .ref (rid 1 1)), (1, .int a1), (2, .int a2), (3, .int 0), (4, .int 0), (5, .int 0)]) hX dX3_falseOf_6 (by decide) rfl ?_
  refine wu_lpx (α := Int32 × Int32 × Int32) (γ := Int32 × Int32) (pcl := 8) (pcT := 85) (lo := fun x => [(0, .ref (rid 1 1)), (1, .int a1), (2, .int a2), (3, .int x.1), (4, .int x.2.1), (5, .int x.2.2)]) (so := fun _ => []) (lT := fun x => [(3, .int x.1), (4, .int x.2)]) (sT := fun _ => []) (n := amFu) (x0 := (0, 0, 0)) (fun K1 rec1 hrec1 hk1 x1 => ?_) (fun y2 => ?_)
  · unfold p_X3_falseOf_L8
    refine wg_iload (pc := 8) hX dX3_falseOf_8 5 rfl ?_
    refine wg_aload_n (pc := 10) hX dX3_falseOf_10 0 rfl ?_
    refine wu_ (wg_gI (pc := 11) hX fd_X3_525 dX3_falseOf_11 fun v3 => ?_)
    refine wg_icmp_ge (pc := 14) (tgt := 85) hX dX3_falseOf_14 (by decide) (fun h4 => ?_) (fun h4 => ?_)
    · refine wu_t h4 ?_
      refine wg_sub hX [3, 4] rfl ?_
      exact wu_rt (hk1 (x1.1, x1.2.1))
    refine wu_f h4 ?_
    refine wg_aload_n (pc := 17) hX dX3_falseOf_17 0 rfl ?_
    refine wg_gK (pc := 18) hX hM0 fd_X3_214 (by decide) dX3_falseOf_18 ?_
    refine wg_iload (pc := 21) hX dX3_falseOf_21 5 rfl ?_
    refine wu_ (wg_rI (pc := 23) hX ar_115 dX3_falseOf_23 fun v5 => ?_)
    refine wg_iload_n (pc := 24) hX dX3_falseOf_24 1 rfl ?_
    refine wu_jx (α := Int32 × Int32) (pcJ := 79) (lJ := fun x => [(0, .ref (rid 1 1)), (1, .int a1), (2, .int a2), (3, .int x.1), (4, .int x.2), (5, .int x1.2.2)]) (sJ := fun x => []) (fun K6 hk6 => ?_) (fun z6 => ?_)
    · refine wg_icmp_ne (pc := 25) (tgt := 79) hX dX3_falseOf_25 (by decide) (fun h7 => ?_) (fun h7 => ?_)
      rotate_left
      · refine wu_f h7 ?_
        exact wu_rt (hk6 (x1.1, x1.2.1))
      refine wu_t h7 ?_
      refine wg_aload_n (pc := 28) hX dX3_falseOf_28 0 rfl ?_
      refine wg_gK (pc := 29) hX hM0 fd_X3_220 (by decide) dX3_falseOf_29 ?_
      refine wg_iload (pc := 32) hX dX3_falseOf_32 5 rfl ?_
      refine wu_ (wg_rI (pc := 34) hX ar_117 dX3_falseOf_34 fun v8 => ?_)
      refine wg_if_eq (pc := 35) (tgt := 79) hX dX3_falseOf_35 (by decide) (fun h9 => ?_) (fun h9 => ?_)
      · refine wu_t h9 ?_
        exact wu_rt (hk6 (x1.1, x1.2.1))
      refine wu_f h9 ?_
      refine wg_aload_n (pc := 38) hX dX3_falseOf_38 0 rfl ?_
      refine wg_gK (pc := 39) hX hM0 fd_X3_223 (by decide) dX3_falseOf_39 ?_
      refine wg_iload (pc := 42) hX dX3_falseOf_42 5 rfl ?_
      refine wu_ (wg_rI (pc := 44) hX ar_118 dX3_falseOf_44 fun v10 => ?_)
      refine wu_ (wg_cSi (pc := 45) (As := [.int v10]) (rest := []) hX (m_X3_partOf v10) (lw_S q2341 q2342 q163 q2343) hd_X3_partOf rfl (Nat.le_of_ble_eq_true rfl) (Nat.le_of_ble_eq_true rfl) (Nat.le_of_ble_eq_true rfl) rfl dX3_falseOf_45 fun v11 => ?_)
      refine wg_iload_n (pc := 48) hX dX3_falseOf_48 2 rfl ?_
      refine wg_icmp_eq (pc := 49) (tgt := 55) hX dX3_falseOf_49 (by decide) (fun h12 => ?_) (fun h12 => ?_)
      rotate_left
      · refine wu_f h12 ?_
        refine wg_goto (pc := 52) (tgt := 79) hX dX3_falseOf_52 (by decide) ?_
        exact wu_rt (hk6 (x1.1, x1.2.1))
      refine wu_t h12 ?_
      refine wg_iinc (pc := 55) (v := (x1.1 + 1)) (l' := [(0, .ref (rid 1 1)), (1, .int a1), (2, .int a2), (3, .int (x1.1 + 1)), (4, .int x1.2.1), (5, .int x1.2.2)]) hX dX3_falseOf_55 3 rfl rfl (by decide) rfl ?_
      refine wg_iload (pc := 58) hX dX3_falseOf_58 4 rfl ?_
      refine wg_aload_n (pc := 60) hX dX3_falseOf_60 0 rfl ?_
      refine wg_gK (pc := 61) hX hM0 fd_X3_220 (by decide) dX3_falseOf_61 ?_
      refine wg_iload (pc := 64) hX dX3_falseOf_64 5 rfl ?_
      refine wu_ (wg_rI (pc := 66) hX ar_117 dX3_falseOf_66 fun v13 => ?_)
      refine wg_iconst (pc := 67) (v := 2) hX dX3_falseOf_67 rfl ?_
      refine wu_jx (α := Int32) (pcJ := 76) (lJ := fun x => [(0, .ref (rid 1 1)), (1, .int a1), (2, .int a2), (3, .int (x1.1 + 1)), (5, .int x1.2.2)]) (sJ := fun x => [.int x, .int x1.2.1]) (fun K14 hk14 => ?_) (fun z14 => ?_)
      · refine wg_icmp_ne (pc := 68) (tgt := 75) hX dX3_falseOf_68 (by decide) (fun h15 => ?_) (fun h15 => ?_)
        rotate_left
        · refine wu_f h15 ?_
          refine wg_iconst (pc := 75) (v := 0) hX dX3_falseOf_75 rfl ?_
          refine wg_sub hX [0, 1, 2, 3, 5] rfl ?_
          exact wu_rt (hk14 0)
        refine wu_t h15 ?_
        refine wg_iconst (pc := 71) (v := 1) hX dX3_falseOf_71 rfl ?_
        refine wg_goto (pc := 72) (tgt := 76) hX dX3_falseOf_72 (by decide) ?_
        refine wg_sub hX [0, 1, 2, 3, 5] rfl ?_
        exact wu_rt (hk14 1)
      refine wg_iadd (pc := 76) hX dX3_falseOf_76 ?_
      refine wu_ (wg_nmi hX fun v16 => ?_)
      refine wg_istore (pc := 77) (l' := [(0, .ref (rid 1 1)), (1, .int a1), (2, .int a2), (3, .int (x1.1 + 1)), (4, .int v16), (5, .int x1.2.2)]) hX dX3_falseOf_77 (by decide) rfl ?_
      exact wu_rt (hk6 ((x1.1 + 1), v16))
    refine wg_iinc (pc := 79) (v := (x1.2.2 + 1)) (l' := [(0, .ref (rid 1 1)), (1, .int a1), (2, .int a2), (3, .int z6.1), (4, .int z6.2), (5, .int (x1.2.2 + 1))]) hX dX3_falseOf_79 5 rfl rfl (by decide) rfl ?_
    refine wg_goto (pc := 82) (tgt := 8) hX dX3_falseOf_82 (by decide) ?_
    exact hrec1 (z6.1, z6.2, (x1.2.2 + 1))
  refine wg_iload_n (pc := 85) hX dX3_falseOf_85 0 rfl ?_
  refine wg_if_ne (pc := 86) (tgt := 93) hX dX3_falseOf_86 (by decide) (fun h17 => ?_) (fun h17 => ?_)
  · refine wu_t h17 ?_
    refine wg_iconst (pc := 89) (v := 0) hX dX3_falseOf_89 rfl ?_
    refine wg_goto (pc := 90) (tgt := 100) hX dX3_falseOf_90 (by decide) ?_
    exact wu_rt (wg_iret (pc := 100) hX rfl rfl dX3_falseOf_100)
  refine wu_f h17 ?_
  refine wg_bipush (pc := 93) (v := 100) hX dX3_falseOf_93 rfl ?_
  refine wg_iload (pc := 95) hX dX3_falseOf_95 1 rfl ?_
  refine wg_imul (pc := 97) hX dX3_falseOf_97 ?_
  refine wg_iload_n (pc := 98) hX dX3_falseOf_98 0 rfl ?_
  refine wu_ (wg_gd fun h18 => ?_)
  refine wg_idiv (pc := 99) hX dX3_falseOf_99 h18 ?_
  exact wu_rt (wg_iret (pc := 100) hX rfl rfl dX3_falseOf_100)
theorem m_X3_falses (a1 : Int32) (a2 : Int32) : amMet yX3_falses cX3_falses 3 (some .int) 3 77 encI [.ref (rid 1 1), .int a1, .int a2] (up (p_X3_falses a1 a2)) := by
  refine amMet.of (own := RX3) (by decide) rfl (Nat.le_of_ble_eq_true rfl) fun X hX hPs => ?_
  change WG X encI 0 [(0, .ref (rid 1 1)), (1, .int a1), (2, .int a2)] [] (bd1 (up (p_X3_falses a1 a2)) rt1)
  unfold p_X3_falses
  refine wg_aload_n (pc := 0) hX dX3_falses_0 0 rfl ?_
  refine wg_iconst (pc := 1) (v := 0) hX dX3_falses_1 rfl ?_
  refine wu_ (wg_pI (pc := 2) hX fp_X3_297 (fun h => by cases h) dX3_falses_2 ?_)
  refine wg_iload_n (pc := 5) hX dX3_falses_5 1 rfl ?_
  refine wu_ (wg_cSi (pc := 6) (As := [.int a1]) (rest := []) hX (m_X3_isCorner a1) (lw_S q2314 q2315 q163 q2316) hd_X3_isCorner rfl (Nat.le_of_ble_eq_true rfl) (Nat.le_of_ble_eq_true rfl) (Nat.le_of_ble_eq_true rfl) rfl dX3_falses_6 fun v1 => ?_)
  refine wu_jn (α := Unit) (pcJ := 30) (lJ := fun x => []) (sJ := fun x => []) (fun k2 hk2 => ?_) (fun z2 => ?_)
  · refine wg_if_eq (pc := 9) (tgt := 30) hX dX3_falses_9 (by decide) (fun h3 => ?_) (fun h3 => ?_)
    · refine wu_t h3 ?_
      refine wg_sub hX [] rfl ?_
      exact hk2 ()
    refine wu_f h3 ?_
    refine wg_iload_n (pc := 12) hX dX3_falses_12 2 rfl ?_
    refine wg_iconst (pc := 13) (v := 0) hX dX3_falses_13 rfl ?_
    refine wg_iconst (pc := 14) (v := 3) hX dX3_falses_14 rfl ?_
    refine wu_ (wg_cSi (pc := 15) (As := [.int a2, .int 0, .int 3]) (rest := []) hX (m_X3_isIn a2 0 3) (lw_S q2317 q2318 q163 q2319) hd_X3_isIn rfl (Nat.le_of_ble_eq_true rfl) (Nat.le_of_ble_eq_true rfl) (Nat.le_of_ble_eq_true rfl) rfl dX3_falses_15 fun v4 => ?_)
    refine wg_if_eq (pc := 18) (tgt := 30) hX dX3_falses_18 (by decide) (fun h5 => ?_) (fun h5 => ?_)
    · refine wu_t h5 ?_
      refine wg_sub hX [] rfl ?_
      exact hk2 ()
    refine wu_f h5 ?_
    refine wg_aload_n (pc := 21) hX dX3_falses_21 0 rfl ?_
    refine wg_iload_n (pc := 22) hX dX3_falses_22 1 rfl ?_
    refine wg_iload_n (pc := 23) hX dX3_falses_23 2 rfl ?_
    refine wu_ (wg_cVi (pc := 24) (As := [.int a1, .int a2]) (rest := []) hX (m_X3_falseOf a1 a2) (by decide) (by decide) (by decide) rc_X3 (lw_V q2587 q2589 qs122 q163 q2590) hd_X3_falseOf rfl (Nat.le_of_ble_eq_true rfl) (Nat.le_of_ble_eq_true rfl) (Nat.le_of_ble_eq_true rfl) rfl dX3_falses_24 fun v6 => ?_)
    refine wg_goto (pc := 27) (tgt := 31) hX dX3_falses_27 (by decide) ?_
    exact wu_rt (wg_iret (pc := 31) hX rfl rfl dX3_falses_31)
  refine wg_iconst (pc := 30) (v := (-1)) hX dX3_falses_30 rfl ?_
  exact wu_rt (wg_iret (pc := 31) hX rfl rfl dX3_falses_31)
theorem m_X3_readyOf (a1 : Int32) : amMet yX3_readyOf cX3_readyOf 4 (some .int) 1 32 encI [.ref (rid 1 1), .int a1] (up (p_X3_readyOf a1)) := by
  refine amMet.of (own := RX3) (by decide) rfl (Nat.le_of_ble_eq_true rfl) fun X hX hPs => ?_
  change WG X encI 0 [(0, .ref (rid 1 1)), (1, .int a1)] [] (bd1 (up (p_X3_readyOf a1)) rt1)
  unfold p_X3_readyOf
  have hM0 := amPs.m0 hPs
  refine wu_ (wg_gM ?_)
  refine wg_iconst (pc := 0) (v := 0) hX dX3_readyOf_0 rfl ?_
  refine wg_istore_n (pc := 1) (l' := [(0, .ref (rid 1 1)), (1, .int a1), (2, .int 0)]) hX dX3_readyOf_1 (by decide) rfl ?_
  refine wg_iconst (pc := 2) (v := 0) hX dX3_readyOf_2 rfl ?_
  refine wg_istore_n (pc := 3) (l' := [(0, .ref (rid 1 1)), (1, .int a1), (2, .int 0), (3, .int 0)]) hX dX3_readyOf_3 (by decide) rfl ?_
  refine wu_lpx (α := Int32 × Int32) (γ := Int32) (pcl := 4) (pcT := 45) (lo := fun x => [(0, .ref (rid 1 1)), (1, .int a1), (2, .int x.1), (3, .int x.2)]) (so := fun _ => []) (lT := fun x => [(2, .int x)]) (sT := fun _ => []) (n := amFu) (x0 := (0, 0)) (fun K1 rec1 hrec1 hk1 x1 => ?_) (fun y2 => ?_)
  · unfold p_X3_readyOf_L4
    refine wg_iload_n (pc := 4) hX dX3_readyOf_4 3 rfl ?_
    refine wg_aload_n (pc := 5) hX dX3_readyOf_5 0 rfl ?_
    refine wu_ (wg_gI (pc := 6) hX fd_X3_366 dX3_readyOf_6 fun v3 => ?_)
    refine wg_icmp_ge (pc := 9) (tgt := 45) hX dX3_readyOf_9 (by decide) (fun h4 => ?_) (fun h4 => ?_)
    · refine wu_t h4 ?_
      refine wg_sub hX [2] rfl ?_
      exact wu_rt (hk1 x1.1)
    refine wu_f h4 ?_
    refine wg_iload_n (pc := 12) hX dX3_readyOf_12 2 rfl ?_
    refine wg_aload_n (pc := 13) hX dX3_readyOf_13 0 rfl ?_
    refine wg_gK (pc := 14) hX hM0 fd_X3_107 (by decide) dX3_readyOf_14 ?_
    refine wg_iload_n (pc := 17) hX dX3_readyOf_17 3 rfl ?_
    refine wu_ (wg_rI (pc := 18) hX ar_87 dX3_readyOf_18 fun v5 => ?_)
    refine wg_iload_n (pc := 19) hX dX3_readyOf_19 1 rfl ?_
    refine wu_jx (α := Int32) (pcJ := 37) (lJ := fun x => [(0, .ref (rid 1 1)), (1, .int a1), (3, .int x1.2)]) (sJ := fun x => [.int x, .int x1.1]) (fun K6 hk6 => ?_) (fun z6 => ?_)
    · refine wu_jn (α := Unit) (pcJ := 36) (lJ := fun x => [(0, .ref (rid 1 1)), (1, .int a1), (3, .int x1.2)]) (sJ := fun x => [.int x1.1]) (fun k7 hk7 => ?_) (fun z7 => ?_)
      · refine wg_icmp_ne (pc := 20) (tgt := 36) hX dX3_readyOf_20 (by decide) (fun h8 => ?_) (fun h8 => ?_)
        rotate_left
        · refine wu_f h8 ?_
          refine wg_sub hX [0, 1, 3] rfl ?_
          exact hk7 ()
        refine wu_t h8 ?_
        refine wg_aload_n (pc := 23) hX dX3_readyOf_23 0 rfl ?_
        refine wg_gK (pc := 24) hX hM0 fd_X3_128 (by decide) dX3_readyOf_24 ?_
        refine wg_iload_n (pc := 27) hX dX3_readyOf_27 3 rfl ?_
        refine wu_ (wg_rI (pc := 28) hX ar_94 dX3_readyOf_28 fun v9 => ?_)
        refine wg_if_ne (pc := 29) (tgt := 36) hX dX3_readyOf_29 (by decide) (fun h10 => ?_) (fun h10 => ?_)
        rotate_left
        · refine wu_f h10 ?_
          refine wg_sub hX [0, 1, 3] rfl ?_
          exact hk7 ()
        refine wu_t h10 ?_
        refine wg_iconst (pc := 32) (v := 1) hX dX3_readyOf_32 rfl ?_
        refine wg_goto (pc := 33) (tgt := 37) hX dX3_readyOf_33 (by decide) ?_
        refine wg_sub hX [0, 1, 3] rfl ?_
        exact wu_rt (hk6 1)
      refine wg_iconst (pc := 36) (v := 0) hX dX3_readyOf_36 rfl ?_
      exact wu_rt (hk6 0)
    refine wg_iadd (pc := 37) hX dX3_readyOf_37 ?_
    refine wu_ (wg_nmi hX fun v11 => ?_)
    refine wg_istore_n (pc := 38) (l' := [(0, .ref (rid 1 1)), (1, .int a1), (2, .int v11), (3, .int x1.2)]) hX dX3_readyOf_38 (by decide) rfl ?_
    refine wg_iinc (pc := 39) (v := (x1.2 + 1)) (l' := [(0, .ref (rid 1 1)), (1, .int a1), (2, .int v11), (3, .int (x1.2 + 1))]) hX dX3_readyOf_39 3 rfl rfl (by decide) rfl ?_
    refine wg_goto (pc := 42) (tgt := 4) hX dX3_readyOf_42 (by decide) ?_
    exact hrec1 (v11, (x1.2 + 1))
  refine wg_iload_n (pc := 45) hX dX3_readyOf_45 0 rfl ?_
  exact wu_rt (wg_iret (pc := 46) hX rfl rfl dX3_readyOf_46)
theorem m_X3_askFor (a1 : Int32) (a2 : Int32) : amMet yX3_askFor cX3_askFor 7 none 137 3299 encV [.ref (rid 1 1), .int a1, .int a2] (up (p_X3_askFor a1 a2)) := by
  refine amMet.of (own := RX3) (by decide) rfl (Nat.le_of_ble_eq_true rfl) fun X hX hPs => ?_
  change WG X encV 0 [(0, .ref (rid 1 1)), (1, .int a1), (2, .int a2)] [] (bd1 (up (p_X3_askFor a1 a2)) rt1)
  unfold p_X3_askFor
  have hM0 := amPs.m0 hPs
  refine wu_ (wg_gM ?_)
  refine wg_iconst (pc := 0) (v := 0) hX dX3_askFor_0 rfl ?_
  refine wg_istore_n (pc := 1) (l' := [(0, .ref (rid 1 1)), (1, .int a1), (2, .int a2), (3, .int 0)]) hX dX3_askFor_1 (by decide) rfl ?_
  refine wg_iconst (pc := 2) (v := 0) hX dX3_askFor_2 rfl ?_
  refine wg_istore (pc := 3) (l' := [(0, .ref (rid 1 1)), (1, .int a1), (2, .int a2), (3, .int 0), (4, .int 0)]) hX dX3_askFor_3 (by decide) rfl ?_
  refine wg_iconst (pc := 5) (v := 0) hX dX3_askFor_5 rfl ?_
  refine wg_istore (pc := 6) (l' := [(0, .ref (rid 1 1)), (1, .int a1), (2, .int a2), (3, .int 0), (4, .int 0), (5, .int 0)]) hX dX3_askFor_6 (by decide) rfl ?_
  refine wg_iconst (pc := 8) (v := 0) hX dX3_askFor_8 rfl ?_
  refine wg_istore (pc := 9) (l' := [(0, .ref (rid 1 1)), (1, .int a1), (2, .int a2), (3, .int 0), (4, .int 0), (5, .int 0), (6, .int 0)]) hX dX3_askFor_9 (by decide) rfl ?_
  refine wu_lpx (α := Int32 × Int32 × Int32) (γ := Int32 × Int32) (pcl := 11) (pcT := 55) (lo := fun x => [(0, .ref (rid 1 1)), (1, .int a1), (2, .int a2), (3, .int x.1), (4, .int x.2.1), (5, .int 0), (6, .int x.2.2)]) (so := fun _ => []) (lT := fun x => [(0, .ref (rid 1 1)), (1, .int a1), (2, .int a2), (3, .int x.1), (4, .int x.2), (5, .int 0)]) (sT := fun _ => []) (n := amFu) (x0 := (0, 0, 0)) (fun K1 rec1 hrec1 hk1 x1 => ?_) (fun y2 => ?_)
  · unfold p_X3_askFor_L11
    refine wg_iload (pc := 11) hX dX3_askFor_11 6 rfl ?_
    refine wg_aload_n (pc := 13) hX dX3_askFor_13 0 rfl ?_
    refine wu_ (wg_gI (pc := 14) hX fd_X3_331 dX3_askFor_14 fun v3 => ?_)
    refine wg_icmp_ge (pc := 17) (tgt := 55) hX dX3_askFor_17 (by decide) (fun h4 => ?_) (fun h4 => ?_)
    · refine wu_t h4 ?_
      refine wg_sub hX [0, 1, 2, 3, 4, 5] rfl ?_
      exact wu_rt (hk1 (x1.1, x1.2.1))
    refine wu_f h4 ?_
    refine wg_aload_n (pc := 20) hX dX3_askFor_20 0 rfl ?_
    refine wg_gK (pc := 21) hX hM0 fd_X3_32 (by decide) dX3_askFor_21 ?_
    refine wg_iload (pc := 24) hX dX3_askFor_24 6 rfl ?_
    refine wu_ (wg_rI (pc := 26) hX ar_62 dX3_askFor_26 fun v5 => ?_)
    refine wg_iload_n (pc := 27) hX dX3_askFor_27 1 rfl ?_
    refine wu_jx (α := Int32 × Int32) (pcJ := 49) (lJ := fun x => [(0, .ref (rid 1 1)), (1, .int a1), (2, .int a2), (3, .int x.1), (4, .int x.2), (5, .int 0), (6, .int x1.2.2)]) (sJ := fun x => []) (fun K6 hk6 => ?_) (fun z6 => ?_)
    · refine wg_icmp_eq (pc := 28) (tgt := 34) hX dX3_askFor_28 (by decide) (fun h7 => ?_) (fun h7 => ?_)
      rotate_left
      · refine wu_f h7 ?_
        refine wg_goto (pc := 31) (tgt := 49) hX dX3_askFor_31 (by decide) ?_
        exact wu_rt (hk6 (x1.1, x1.2.1))
      refine wu_t h7 ?_
      refine wg_iload_n (pc := 34) hX dX3_askFor_34 3 rfl ?_
      refine wg_aload_n (pc := 35) hX dX3_askFor_35 0 rfl ?_
      refine wg_gK (pc := 36) hX hM0 fd_X3_38 (by decide) dX3_askFor_36 ?_
      refine wg_iload (pc := 39) hX dX3_askFor_39 6 rfl ?_
      refine wu_ (wg_rI (pc := 41) hX ar_64 dX3_askFor_41 fun v8 => ?_)
      refine wg_mmax (pc := 42) hX q2404 q712 q165 q713 (Nat.le_of_ble_eq_true rfl) (Nat.le_of_ble_eq_true rfl) dX3_askFor_42 ?_
      refine wu_ (wg_nmi hX fun v9 => ?_)
      refine wg_istore_n (pc := 45) (l' := [(0, .ref (rid 1 1)), (1, .int a1), (2, .int a2), (3, .int v9), (4, .int x1.2.1), (5, .int 0), (6, .int x1.2.2)]) hX dX3_askFor_45 (by decide) rfl ?_
      refine wg_iinc (pc := 46) (v := (x1.2.1 + 1)) (l' := [(0, .ref (rid 1 1)), (1, .int a1), (2, .int a2), (3, .int v9), (4, .int (x1.2.1 + 1)), (5, .int 0), (6, .int x1.2.2)]) hX dX3_askFor_46 4 rfl rfl (by decide) rfl ?_
      exact wu_rt (hk6 (v9, (x1.2.1 + 1)))
    refine wg_iinc (pc := 49) (v := (x1.2.2 + 1)) (l' := [(0, .ref (rid 1 1)), (1, .int a1), (2, .int a2), (3, .int z6.1), (4, .int z6.2), (5, .int 0), (6, .int (x1.2.2 + 1))]) hX dX3_askFor_49 6 rfl rfl (by decide) rfl ?_
    refine wg_goto (pc := 52) (tgt := 11) hX dX3_askFor_52 (by decide) ?_
    exact hrec1 (z6.1, z6.2, (x1.2.2 + 1))
  refine wg_iconst (pc := 55) (v := 0) hX dX3_askFor_55 rfl ?_
  refine wg_istore (pc := 56) (l' := [(0, .ref (rid 1 1)), (1, .int a1), (2, .int a2), (3, .int y2.1), (4, .int y2.2), (5, .int 0), (6, .int 0)]) hX dX3_askFor_56 (by decide) rfl ?_
  refine wu_lpx (α := Int32 × Int32) (γ := Int32) (pcl := 58) (pcT := 104) (lo := fun x => [(0, .ref (rid 1 1)), (1, .int a1), (2, .int a2), (3, .int y2.1), (4, .int y2.2), (5, .int x.1), (6, .int x.2)]) (so := fun _ => []) (lT := fun x => [(0, .ref (rid 1 1)), (1, .int a1), (2, .int a2), (3, .int y2.1), (4, .int y2.2), (5, .int x)]) (sT := fun _ => []) (n := amFu) (x0 := (0, 0)) (fun K10 rec10 hrec10 hk10 x10 => ?_) (fun y11 => ?_)
  · unfold p_X3_askFor_L58
    refine wg_iload (pc := 58) hX dX3_askFor_58 6 rfl ?_
    refine wg_aload_n (pc := 60) hX dX3_askFor_60 0 rfl ?_
    refine wu_ (wg_gI (pc := 61) hX fd_X3_525 dX3_askFor_61 fun v12 => ?_)
    refine wg_icmp_ge (pc := 64) (tgt := 104) hX dX3_askFor_64 (by decide) (fun h13 => ?_) (fun h13 => ?_)
    · refine wu_t h13 ?_
      refine wg_sub hX [0, 1, 2, 3, 4, 5] rfl ?_
      exact wu_rt (hk10 x10.1)
    refine wu_f h13 ?_
    refine wg_iload (pc := 67) hX dX3_askFor_67 5 rfl ?_
    refine wg_aload_n (pc := 69) hX dX3_askFor_69 0 rfl ?_
    refine wg_gK (pc := 70) hX hM0 fd_X3_220 (by decide) dX3_askFor_70 ?_
    refine wg_iload (pc := 73) hX dX3_askFor_73 6 rfl ?_
    refine wu_ (wg_rI (pc := 75) hX ar_117 dX3_askFor_75 fun v14 => ?_)
    refine wu_jx (α := Int32) (pcJ := 95) (lJ := fun x => [(0, .ref (rid 1 1)), (1, .int a1), (2, .int a2), (3, .int y2.1), (4, .int y2.2), (6, .int x10.2)]) (sJ := fun x => [.int x, .int x10.1]) (fun K15 hk15 => ?_) (fun z15 => ?_)
    · refine wu_jn (α := Unit) (pcJ := 94) (lJ := fun x => [(0, .ref (rid 1 1)), (1, .int a1), (2, .int a2), (3, .int y2.1), (4, .int y2.2), (6, .int x10.2)]) (sJ := fun x => [.int x10.1]) (fun k16 hk16 => ?_) (fun z16 => ?_)
      · refine wg_if_ne (pc := 76) (tgt := 94) hX dX3_askFor_76 (by decide) (fun h17 => ?_) (fun h17 => ?_)
        rotate_left
        · refine wu_f h17 ?_
          refine wg_sub hX [0, 1, 2, 3, 4, 6] rfl ?_
          exact hk16 ()
        refine wu_t h17 ?_
        refine wg_aload_n (pc := 79) hX dX3_askFor_79 0 rfl ?_
        refine wg_gK (pc := 80) hX hM0 fd_X3_214 (by decide) dX3_askFor_80 ?_
        refine wg_iload (pc := 83) hX dX3_askFor_83 6 rfl ?_
        refine wu_ (wg_rI (pc := 85) hX ar_115 dX3_askFor_85 fun v18 => ?_)
        refine wg_iload_n (pc := 86) hX dX3_askFor_86 1 rfl ?_
        refine wg_icmp_eq (pc := 87) (tgt := 94) hX dX3_askFor_87 (by decide) (fun h19 => ?_) (fun h19 => ?_)
        · refine wu_t h19 ?_
          refine wg_sub hX [0, 1, 2, 3, 4, 6] rfl ?_
          exact hk16 ()
        refine wu_f h19 ?_
        refine wg_iconst (pc := 90) (v := 1) hX dX3_askFor_90 rfl ?_
        refine wg_goto (pc := 91) (tgt := 95) hX dX3_askFor_91 (by decide) ?_
        refine wg_sub hX [0, 1, 2, 3, 4, 6] rfl ?_
        exact wu_rt (hk15 1)
      refine wg_iconst (pc := 94) (v := 0) hX dX3_askFor_94 rfl ?_
      exact wu_rt (hk15 0)
    refine wg_iadd (pc := 95) hX dX3_askFor_95 ?_
    refine wu_ (wg_nmi hX fun v20 => ?_)
    refine wg_istore (pc := 96) (l' := [(0, .ref (rid 1 1)), (1, .int a1), (2, .int a2), (3, .int y2.1), (4, .int y2.2), (5, .int v20), (6, .int x10.2)]) hX dX3_askFor_96 (by decide) rfl ?_
    refine wg_iinc (pc := 98) (v := (x10.2 + 1)) (l' := [(0, .ref (rid 1 1)), (1, .int a1), (2, .int a2), (3, .int y2.1), (4, .int y2.2), (5, .int v20), (6, .int (x10.2 + 1))]) hX dX3_askFor_98 6 rfl rfl (by decide) rfl ?_
    refine wg_goto (pc := 101) (tgt := 58) hX dX3_askFor_101 (by decide) ?_
    exact hrec10 (v20, (x10.2 + 1))
  refine wg_aload_n (pc := 104) hX dX3_askFor_104 0 rfl ?_
  refine wg_gK (pc := 105) hX hM0 fd_X3_192 (by decide) dX3_askFor_105 ?_
  refine wg_bipush (pc := 108) (v := 119) hX dX3_askFor_108 rfl ?_
  refine wg_iload_n (pc := 110) hX dX3_askFor_110 2 rfl ?_
  refine wu_ (wg_wI (pc := 111) hX ar_112 dX3_askFor_111 ?_)
  refine wg_aload_n (pc := 112) hX dX3_askFor_112 0 rfl ?_
  refine wg_gK (pc := 113) hX hM0 fd_X3_192 (by decide) dX3_askFor_113 ?_
  refine wg_bipush (pc := 116) (v := 104) hX dX3_askFor_116 rfl ?_
  refine wg_aload_n (pc := 118) hX dX3_askFor_118 0 rfl ?_
  refine wu_ (wg_gI (pc := 119) hX fd_X3_395 dX3_askFor_119 fun v21 => ?_)
  refine wg_bipush (pc := 122) (v := 60) hX dX3_askFor_122 rfl ?_
  refine wg_idiv (pc := 124) hX dX3_askFor_124 (by decide) ?_
  refine wg_bipush (pc := 125) (v := 24) hX dX3_askFor_125 rfl ?_
  refine wg_irem (pc := 127) hX dX3_askFor_127 (by decide) ?_
  refine wu_ (wg_wI (pc := 128) hX ar_112 dX3_askFor_128 ?_)
  refine wg_aload_n (pc := 129) hX dX3_askFor_129 0 rfl ?_
  refine wg_gK (pc := 130) hX hM0 fd_X3_192 (by decide) dX3_askFor_130 ?_
  refine wg_bipush (pc := 133) (v := 102) hX dX3_askFor_133 rfl ?_
  refine wg_iload_n (pc := 135) hX dX3_askFor_135 3 rfl ?_
  refine wu_ (wg_wI (pc := 136) hX ar_112 dX3_askFor_136 ?_)
  refine wg_aload_n (pc := 137) hX dX3_askFor_137 0 rfl ?_
  refine wg_gK (pc := 138) hX hM0 fd_X3_192 (by decide) dX3_askFor_138 ?_
  refine wg_bipush (pc := 141) (v := 107) hX dX3_askFor_141 rfl ?_
  refine wg_iload (pc := 143) hX dX3_askFor_143 4 rfl ?_
  refine wu_ (wg_wI (pc := 145) hX ar_112 dX3_askFor_145 ?_)
  refine wg_aload_n (pc := 146) hX dX3_askFor_146 0 rfl ?_
  refine wg_gK (pc := 147) hX hM0 fd_X3_192 (by decide) dX3_askFor_147 ?_
  refine wg_bipush (pc := 150) (v := 97) hX dX3_askFor_150 rfl ?_
  refine wg_aload_n (pc := 152) hX dX3_askFor_152 0 rfl ?_
  refine wg_iload_n (pc := 153) hX dX3_askFor_153 1 rfl ?_
  refine wg_aload_n (pc := 154) hX dX3_askFor_154 0 rfl ?_
  refine wu_ (wg_gI (pc := 155) hX fd_X3_395 dX3_askFor_155 fun v22 => ?_)
  refine wu_ (wg_cSi (pc := 158) (As := [.int v22]) (rest := [.int a1, .ref (rid 1 1), .int 97, .ref (rid 112 1)]) hX (m_X3_partOf v22) (lw_S q2341 q2342 q163 q2343) hd_X3_partOf rfl (Nat.le_of_ble_eq_true rfl) (Nat.le_of_ble_eq_true rfl) (Nat.le_of_ble_eq_true rfl) rfl dX3_askFor_158 fun v23 => ?_)
  refine wu_ (wg_cVi (pc := 161) (As := [.int a1, .int v23]) (rest := [.int 97, .ref (rid 112 1)]) hX (m_X3_falseOf a1 v23) (by decide) (by decide) (by decide) rc_X3 (lw_V q2587 q2589 qs122 q163 q2590) hd_X3_falseOf rfl (Nat.le_of_ble_eq_true rfl) (Nat.le_of_ble_eq_true rfl) (Nat.le_of_ble_eq_true rfl) rfl dX3_askFor_161 fun v24 => ?_)
  refine wu_ (wg_wI (pc := 164) hX ar_112 dX3_askFor_164 ?_)
  refine wg_aload_n (pc := 165) hX dX3_askFor_165 0 rfl ?_
  refine wg_gK (pc := 166) hX hM0 fd_X3_192 (by decide) dX3_askFor_166 ?_
  refine wg_bipush (pc := 169) (v := 112) hX dX3_askFor_169 rfl ?_
  refine wg_aload_n (pc := 171) hX dX3_askFor_171 0 rfl ?_
  refine wg_iconst (pc := 172) (v := 0) hX dX3_askFor_172 rfl ?_
  refine wu_ (wg_cVi (pc := 173) (As := [.int 0]) (rest := [.int 112, .ref (rid 112 1)]) hX (m_X3_readyOf 0) (by decide) (by decide) (by decide) rc_X3 (lw_V q2599 q2601 qs124 q163 q2602) hd_X3_readyOf rfl (Nat.le_of_ble_eq_true rfl) (Nat.le_of_ble_eq_true rfl) (Nat.le_of_ble_eq_true rfl) rfl dX3_askFor_173 fun v25 => ?_)
  refine wu_ (wg_wI (pc := 176) hX ar_112 dX3_askFor_176 ?_)
  refine wg_aload_n (pc := 177) hX dX3_askFor_177 0 rfl ?_
  refine wg_gK (pc := 178) hX hM0 fd_X3_192 (by decide) dX3_askFor_178 ?_
  refine wg_bipush (pc := 181) (v := 115) hX dX3_askFor_181 rfl ?_
  refine wg_aload_n (pc := 183) hX dX3_askFor_183 0 rfl ?_
  refine wg_iconst (pc := 184) (v := 1) hX dX3_askFor_184 rfl ?_
  refine wu_ (wg_cVi (pc := 185) (As := [.int 1]) (rest := [.int 115, .ref (rid 112 1)]) hX (m_X3_readyOf 1) (by decide) (by decide) (by decide) rc_X3 (lw_V q2599 q2601 qs124 q163 q2602) hd_X3_readyOf rfl (Nat.le_of_ble_eq_true rfl) (Nat.le_of_ble_eq_true rfl) (Nat.le_of_ble_eq_true rfl) rfl dX3_askFor_185 fun v26 => ?_)
  refine wu_ (wg_wI (pc := 188) hX ar_112 dX3_askFor_188 ?_)
  refine wg_aload_n (pc := 189) hX dX3_askFor_189 0 rfl ?_
  refine wg_gK (pc := 190) hX hM0 fd_X3_192 (by decide) dX3_askFor_190 ?_
  refine wg_bipush (pc := 193) (v := 108) hX dX3_askFor_193 rfl ?_
  refine wg_aload_n (pc := 195) hX dX3_askFor_195 0 rfl ?_
  refine wg_iconst (pc := 196) (v := 2) hX dX3_askFor_196 rfl ?_
  refine wu_ (wg_cVi (pc := 197) (As := [.int 2]) (rest := [.int 108, .ref (rid 112 1)]) hX (m_X3_readyOf 2) (by decide) (by decide) (by decide) rc_X3 (lw_V q2599 q2601 qs124 q163 q2602) hd_X3_readyOf rfl (Nat.le_of_ble_eq_true rfl) (Nat.le_of_ble_eq_true rfl) (Nat.le_of_ble_eq_true rfl) rfl dX3_askFor_197 fun v27 => ?_)
  refine wu_ (wg_wI (pc := 200) hX ar_112 dX3_askFor_200 ?_)
  refine wg_aload_n (pc := 201) hX dX3_askFor_201 0 rfl ?_
  refine wg_gK (pc := 202) hX hM0 fd_X3_192 (by decide) dX3_askFor_202 ?_
  refine wg_bipush (pc := 205) (v := 99) hX dX3_askFor_205 rfl ?_
  refine wg_aload_n (pc := 207) hX dX3_askFor_207 0 rfl ?_
  refine wg_iconst (pc := 208) (v := 3) hX dX3_askFor_208 rfl ?_
  refine wu_ (wg_cVi (pc := 209) (As := [.int 3]) (rest := [.int 99, .ref (rid 112 1)]) hX (m_X3_readyOf 3) (by decide) (by decide) (by decide) rc_X3 (lw_V q2599 q2601 qs124 q163 q2602) hd_X3_readyOf rfl (Nat.le_of_ble_eq_true rfl) (Nat.le_of_ble_eq_true rfl) (Nat.le_of_ble_eq_true rfl) rfl dX3_askFor_209 fun v28 => ?_)
  refine wu_ (wg_wI (pc := 212) hX ar_112 dX3_askFor_212 ?_)
  refine wg_aload_n (pc := 213) hX dX3_askFor_213 0 rfl ?_
  refine wg_gK (pc := 214) hX hM0 fd_X3_192 (by decide) dX3_askFor_214 ?_
  refine wg_bipush (pc := 217) (v := 111) hX dX3_askFor_217 rfl ?_
  refine wg_iload (pc := 219) hX dX3_askFor_219 5 rfl ?_
  refine wu_ (wg_wI (pc := 221) hX ar_112 dX3_askFor_221 ?_)
  refine wg_aload_n (pc := 222) hX dX3_askFor_222 0 rfl ?_
  refine wu_ (wg_gI (pc := 223) hX fd_X3_519 dX3_askFor_223 fun v29 => ?_)
  refine wg_if_le (pc := 226) (tgt := 262) hX dX3_askFor_226 (by decide) (fun h30 => ?_) (fun h30 => ?_)
  · refine wu_t h30 ?_
    refine wg_aload_n (pc := 262) hX dX3_askFor_262 0 rfl ?_
    refine wg_iconst (pc := 263) (v := 0) hX dX3_askFor_263 rfl ?_
    refine wu_ (wg_pI (pc := 264) hX fp_X3_494 (fun h => by cases h) dX3_askFor_264 ?_)
    refine wg_iconst (pc := 267) (v := 0) hX dX3_askFor_267 rfl ?_
    refine wg_istore (pc := 268) (l' := [(0, .ref (rid 1 1)), (1, .int a1), (2, .int a2), (3, .int y2.1), (4, .int y2.2), (5, .int y11), (6, .int 0)]) hX dX3_askFor_268 (by decide) rfl ?_
    refine wg_sub hX [0, 6] rfl ?_
    refine wu_lpx (α := Int32) (γ := Unit) (pcl := 270) (pcT := 290) (lo := fun x => [(0, .ref (rid 1 1)), (6, .int x)]) (so := fun _ => []) (lT := fun x => []) (sT := fun _ => []) (n := amFu) (x0 := 0) (fun K31 rec31 hrec31 hk31 x31 => ?_) (fun y32 => ?_)
    · unfold p_X3_askFor_L270
      refine wg_iload (pc := 270) hX dX3_askFor_270 1 rfl ?_
      refine wg_iconst (pc := 272) (v := 5) hX dX3_askFor_272 rfl ?_
      refine wg_icmp_ge (pc := 273) (tgt := 290) hX dX3_askFor_273 (by decide) (fun h33 => ?_) (fun h33 => ?_)
      · refine wu_t h33 ?_
        refine wg_sub hX [] rfl ?_
        exact wu_rt (hk31 ())
      refine wu_f h33 ?_
      refine wg_aload_n (pc := 276) hX dX3_askFor_276 0 rfl ?_
      refine wg_gK (pc := 277) hX hM0 fd_X3_195 (by decide) dX3_askFor_277 ?_
      refine wg_iload (pc := 280) hX dX3_askFor_280 1 rfl ?_
      refine wg_iconst (pc := 282) (v := 0) hX dX3_askFor_282 rfl ?_
      refine wu_ (wg_wI (pc := 283) hX ar_113 dX3_askFor_283 ?_)
      refine wg_iinc (pc := 284) (v := (x31 + 1)) (l' := [(0, .ref (rid 1 1)), (6, .int (x31 + 1))]) hX dX3_askFor_284 1 rfl rfl (by decide) rfl ?_
      refine wg_goto (pc := 287) (tgt := 270) hX dX3_askFor_287 (by decide) ?_
      exact hrec31 (x31 + 1)
    exact wu_rt (wg_vret (pc := 290) hX rfl rfl dX3_askFor_290)
  refine wu_f h30 ?_
  refine wg_aload_n (pc := 229) hX dX3_askFor_229 0 rfl ?_
  refine wg_iconst (pc := 230) (v := 0) hX dX3_askFor_230 rfl ?_
  refine wg_aload_n (pc := 231) hX dX3_askFor_231 0 rfl ?_
  refine wg_gK (pc := 232) hX hM0 fd_X3_171 (by decide) dX3_askFor_232 ?_
  refine wg_sipush (pc := 235) (v := 200) hX dX3_askFor_235 rfl ?_
  refine wg_aload_n (pc := 238) hX dX3_askFor_238 0 rfl ?_
  refine wu_ (wg_gI (pc := 239) hX fd_X3_519 dX3_askFor_239 fun v34 => ?_)
  refine wg_iconst (pc := 242) (v := 1) hX dX3_askFor_242 rfl ?_
  refine wg_isub (pc := 243) hX dX3_askFor_243 ?_
  refine wg_imul (pc := 244) hX dX3_askFor_244 ?_
  refine wg_aload_n (pc := 245) hX dX3_askFor_245 0 rfl ?_
  refine wg_gK (pc := 246) hX hM0 fd_X3_180 (by decide) dX3_askFor_246 ?_
  refine wg_aload_n (pc := 249) hX dX3_askFor_249 0 rfl ?_
  refine wu_ (wg_gI (pc := 250) hX fd_X3_519 dX3_askFor_250 fun v35 => ?_)
  refine wg_iconst (pc := 253) (v := 1) hX dX3_askFor_253 rfl ?_
  refine wg_isub (pc := 254) hX dX3_askFor_254 ?_
  refine wu_ (wg_rI (pc := 255) hX ar_108 dX3_askFor_255 fun v36 => ?_)
  refine wu_ (wg_cVi (pc := 256) (As := [.int 0, .ref (rid 107 2), .int (200 * (v34 - 1)), .int v36]) (rest := []) hX (m_X3_goThrough 0 2 (200 * (v34 - 1)) v36) (by decide) (by decide) (by decide) rc_X3 (lw_V q2500 q2502 qs108 q163 q2503) hd_X3_goThrough rfl (Nat.le_of_ble_eq_true rfl) (Nat.le_of_ble_eq_true rfl) (Nat.le_of_ble_eq_true rfl) rfl dX3_askFor_256 fun v37 => ?_)
  refine wg_istore (pc := 259) (l' := [(0, .ref (rid 1 1)), (1, .int a1), (2, .int a2), (3, .int y2.1), (4, .int y2.2), (5, .int y11), (6, .int v37)]) hX dX3_askFor_259 (by decide) rfl ?_
  exact wu_rt (wg_vret (pc := 261) hX rfl rfl dX3_askFor_261)
theorem m_X3_asks (a1 : Int32) (a2 : Int32) (a3 : Int32) : amMet yX3_asks cX3_asks 4 (some .int) 138 3325 encI [.ref (rid 1 1), .int a1, .int a2, .int a3] (up (p_X3_asks a1 a2 a3)) := by
  refine amMet.of (own := RX3) (by decide) rfl (Nat.le_of_ble_eq_true rfl) fun X hX hPs => ?_
  change WG X encI 0 [(0, .ref (rid 1 1)), (1, .int a1), (2, .int a2), (3, .int a3)] [] (bd1 (up (p_X3_asks a1 a2 a3)) rt1)
  unfold p_X3_asks
  have hM0 := amPs.m0 hPs
  refine wu_ (wg_gM ?_)
  refine wg_aload_n (pc := 0) hX dX3_asks_0 0 rfl ?_
  refine wg_iconst (pc := 1) (v := 0) hX dX3_asks_1 rfl ?_
  refine wu_ (wg_pI (pc := 2) hX fp_X3_297 (fun h => by cases h) dX3_asks_2 ?_)
  refine wg_iload_n (pc := 5) hX dX3_asks_5 1 rfl ?_
  refine wu_ (wg_cSi (pc := 6) (As := [.int a1]) (rest := []) hX (m_X3_isCorner a1) (lw_S q2314 q2315 q163 q2316) hd_X3_isCorner rfl (Nat.le_of_ble_eq_true rfl) (Nat.le_of_ble_eq_true rfl) (Nat.le_of_ble_eq_true rfl) rfl dX3_asks_6 fun v1 => ?_)
  refine wg_if_eq (pc := 9) (tgt := 30) hX dX3_asks_9 (by decide) (fun h2 => ?_) (fun h2 => ?_)
  · refine wu_t h2 ?_
    refine wg_iconst (pc := 30) (v := (-1)) hX dX3_asks_30 rfl ?_
    exact wu_rt (wg_iret (pc := 31) hX rfl rfl dX3_asks_31)
  refine wu_f h2 ?_
  refine wg_iload_n (pc := 12) hX dX3_asks_12 2 rfl ?_
  refine wg_iconst (pc := 13) (v := 1) hX dX3_asks_13 rfl ?_
  refine wg_iconst (pc := 14) (v := 3) hX dX3_asks_14 rfl ?_
  refine wu_ (wg_cSi (pc := 15) (As := [.int a2, .int 1, .int 3]) (rest := []) hX (m_X3_isIn a2 1 3) (lw_S q2317 q2318 q163 q2319) hd_X3_isIn rfl (Nat.le_of_ble_eq_true rfl) (Nat.le_of_ble_eq_true rfl) (Nat.le_of_ble_eq_true rfl) rfl dX3_asks_15 fun v3 => ?_)
  refine wg_if_eq (pc := 18) (tgt := 30) hX dX3_asks_18 (by decide) (fun h4 => ?_) (fun h4 => ?_)
  · refine wu_t h4 ?_
    refine wg_iconst (pc := 30) (v := (-1)) hX dX3_asks_30 rfl ?_
    exact wu_rt (wg_iret (pc := 31) hX rfl rfl dX3_asks_31)
  refine wu_f h4 ?_
  refine wg_iload_n (pc := 21) hX dX3_asks_21 3 rfl ?_
  refine wg_iconst (pc := 22) (v := 0) hX dX3_asks_22 rfl ?_
  refine wg_iconst (pc := 23) (v := 4) hX dX3_asks_23 rfl ?_
  refine wu_ (wg_cSi (pc := 24) (As := [.int a3, .int 0, .int 4]) (rest := []) hX (m_X3_isIn a3 0 4) (lw_S q2317 q2318 q163 q2319) hd_X3_isIn rfl (Nat.le_of_ble_eq_true rfl) (Nat.le_of_ble_eq_true rfl) (Nat.le_of_ble_eq_true rfl) rfl dX3_asks_24 fun v5 => ?_)
  refine wg_if_ne (pc := 27) (tgt := 32) hX dX3_asks_27 (by decide) (fun h6 => ?_) (fun h6 => ?_)
  · refine wu_t h6 ?_
    refine wg_iconst (pc := 30) (v := (-1)) hX dX3_asks_30 rfl ?_
    exact wu_rt (wg_iret (pc := 31) hX rfl rfl dX3_asks_31)
  refine wu_f h6 ?_
  refine wg_aload_n (pc := 32) hX dX3_asks_32 0 rfl ?_
  refine wg_iload_n (pc := 33) hX dX3_asks_33 1 rfl ?_
  refine wg_iload_n (pc := 34) hX dX3_asks_34 2 rfl ?_
  refine wu_ (wg_cVv (pc := 35) (As := [.int a1, .int a2]) (rest := []) hX (m_X3_askFor a1 a2) (by decide) (by decide) (by decide) rc_X3 (lw_V q2595 q2597 qs123 q163 q2598) hd_X3_askFor rfl (Nat.le_of_ble_eq_true rfl) (Nat.le_of_ble_eq_true rfl) (Nat.le_of_ble_eq_true rfl) rfl dX3_asks_35 ?_)
  refine wg_aload_n (pc := 38) hX dX3_asks_38 0 rfl ?_
  refine wg_gK (pc := 39) hX hM0 fd_X3_195 (by decide) dX3_asks_39 ?_
  refine wg_iload_n (pc := 42) hX dX3_asks_42 3 rfl ?_
  refine wu_ (wg_rI (pc := 43) hX ar_113 dX3_asks_43 fun v7 => ?_)
  exact wu_rt (wg_iret (pc := 44) hX rfl rfl dX3_asks_44)
theorem m_X3_why (a1 : Int32) (a2 : Int32) : amMet yX3_why cX3_why 3 (some .int) 138 3325 encI [.ref (rid 1 1), .int a1, .int a2] (up (p_X3_why a1 a2)) := by
  refine amMet.of (own := RX3) (by decide) rfl (Nat.le_of_ble_eq_true rfl) fun X hX hPs => ?_
  change WG X encI 0 [(0, .ref (rid 1 1)), (1, .int a1), (2, .int a2)] [] (bd1 (up (p_X3_why a1 a2)) rt1)
  unfold p_X3_why
  refine wg_aload_n (pc := 0) hX dX3_why_0 0 rfl ?_
  refine wg_iconst (pc := 1) (v := 0) hX dX3_why_1 rfl ?_
  refine wu_ (wg_pI (pc := 2) hX fp_X3_297 (fun h => by cases h) dX3_why_2 ?_)
  refine wg_iload_n (pc := 5) hX dX3_why_5 1 rfl ?_
  refine wu_ (wg_cSi (pc := 6) (As := [.int a1]) (rest := []) hX (m_X3_isCorner a1) (lw_S q2314 q2315 q163 q2316) hd_X3_isCorner rfl (Nat.le_of_ble_eq_true rfl) (Nat.le_of_ble_eq_true rfl) (Nat.le_of_ble_eq_true rfl) rfl dX3_why_6 fun v1 => ?_)
  refine wg_if_eq (pc := 9) (tgt := 21) hX dX3_why_9 (by decide) (fun h2 => ?_) (fun h2 => ?_)
  · refine wu_t h2 ?_
    refine wg_iconst (pc := 21) (v := (-1)) hX dX3_why_21 rfl ?_
    exact wu_rt (wg_iret (pc := 22) hX rfl rfl dX3_why_22)
  refine wu_f h2 ?_
  refine wg_iload_n (pc := 12) hX dX3_why_12 2 rfl ?_
  refine wg_iconst (pc := 13) (v := 1) hX dX3_why_13 rfl ?_
  refine wg_iconst (pc := 14) (v := 3) hX dX3_why_14 rfl ?_
  refine wu_ (wg_cSi (pc := 15) (As := [.int a2, .int 1, .int 3]) (rest := []) hX (m_X3_isIn a2 1 3) (lw_S q2317 q2318 q163 q2319) hd_X3_isIn rfl (Nat.le_of_ble_eq_true rfl) (Nat.le_of_ble_eq_true rfl) (Nat.le_of_ble_eq_true rfl) rfl dX3_why_15 fun v3 => ?_)
  refine wg_if_ne (pc := 18) (tgt := 23) hX dX3_why_18 (by decide) (fun h4 => ?_) (fun h4 => ?_)
  · refine wu_t h4 ?_
    refine wg_iconst (pc := 21) (v := (-1)) hX dX3_why_21 rfl ?_
    exact wu_rt (wg_iret (pc := 22) hX rfl rfl dX3_why_22)
  refine wu_f h4 ?_
  refine wg_aload_n (pc := 23) hX dX3_why_23 0 rfl ?_
  refine wg_iload_n (pc := 24) hX dX3_why_24 1 rfl ?_
  refine wg_iload_n (pc := 25) hX dX3_why_25 2 rfl ?_
  refine wu_ (wg_cVv (pc := 26) (As := [.int a1, .int a2]) (rest := []) hX (m_X3_askFor a1 a2) (by decide) (by decide) (by decide) rc_X3 (lw_V q2595 q2597 qs123 q163 q2598) hd_X3_askFor rfl (Nat.le_of_ble_eq_true rfl) (Nat.le_of_ble_eq_true rfl) (Nat.le_of_ble_eq_true rfl) rfl dX3_why_26 ?_)
  refine wg_aload_n (pc := 29) hX dX3_why_29 0 rfl ?_
  refine wu_ (wg_gI (pc := 30) hX fd_X3_494 dX3_why_30 fun v5 => ?_)
  exact wu_rt (wg_iret (pc := 33) hX rfl rfl dX3_why_33)
theorem m_X3_isShared (a1 : Int32) : amMet yX3_isShared cX3_isShared 3 (some .boolean) 1 32 encI [.ref (rid 1 1), .int a1] (up (p_X3_isShared a1)) := by
  refine amMet.of (own := RX3) (by decide) rfl (Nat.le_of_ble_eq_true rfl) fun X hX hPs => ?_
  change WG X encI 0 [(0, .ref (rid 1 1)), (1, .int a1)] [] (bd1 (up (p_X3_isShared a1)) rt1)
  unfold p_X3_isShared
  have hM0 := amPs.m0 hPs
  refine wu_ (wg_gM ?_)
  refine wg_iconst (pc := 0) (v := 0) hX dX3_isShared_0 rfl ?_
  refine wg_istore_n (pc := 1) (l' := [(0, .ref (rid 1 1)), (1, .int a1), (2, .int 0)]) hX dX3_isShared_1 (by decide) rfl ?_
  refine wu_lp (α := Int32) (pcl := 2) (lo := fun x => [(0, .ref (rid 1 1)), (1, .int a1), (2, .int x)]) (so := fun _ => []) (fun rec1 hrec1 x1 => ?_) amFu 0
  unfold p_X3_isShared_L2
  refine wg_iload_n (pc := 2) hX dX3_isShared_2 2 rfl ?_
  refine wg_aload_n (pc := 3) hX dX3_isShared_3 0 rfl ?_
  refine wu_ (wg_gI (pc := 4) hX fd_X3_366 dX3_isShared_4 fun v2 => ?_)
  refine wg_icmp_ge (pc := 7) (tgt := 47) hX dX3_isShared_7 (by decide) (fun h3 => ?_) (fun h3 => ?_)
  · refine wu_t h3 ?_
    refine wg_iconst (pc := 47) (v := 0) hX dX3_isShared_47 rfl ?_
    exact wu_rt (wg_zret (pc := 48) hX rfl (by decide) rfl dX3_isShared_48)
  refine wu_f h3 ?_
  refine wg_iload_n (pc := 10) hX dX3_isShared_10 2 rfl ?_
  refine wg_iload_n (pc := 11) hX dX3_isShared_11 1 rfl ?_
  refine wu_jn (α := Unit) (pcJ := 41) (lJ := fun x => [(0, .ref (rid 1 1)), (1, .int a1), (2, .int x1)]) (sJ := fun x => []) (fun k4 hk4 => ?_) (fun z4 => ?_)
  · refine wg_icmp_eq (pc := 12) (tgt := 41) hX dX3_isShared_12 (by decide) (fun h5 => ?_) (fun h5 => ?_)
    · refine wu_t h5 ?_
      exact hk4 ()
    refine wu_f h5 ?_
    refine wg_aload_n (pc := 15) hX dX3_isShared_15 0 rfl ?_
    refine wg_gK (pc := 16) hX hM0 fd_X3_128 (by decide) dX3_isShared_16 ?_
    refine wg_iload_n (pc := 19) hX dX3_isShared_19 2 rfl ?_
    refine wu_ (wg_rI (pc := 20) hX ar_94 dX3_isShared_20 fun v6 => ?_)
    refine wg_if_ne (pc := 21) (tgt := 41) hX dX3_isShared_21 (by decide) (fun h7 => ?_) (fun h7 => ?_)
    rotate_left
    · refine wu_f h7 ?_
      exact hk4 ()
    refine wu_t h7 ?_
    refine wg_aload_n (pc := 24) hX dX3_isShared_24 0 rfl ?_
    refine wg_gK (pc := 25) hX hM0 fd_X3_131 (by decide) dX3_isShared_25 ?_
    refine wg_iload_n (pc := 28) hX dX3_isShared_28 2 rfl ?_
    refine wu_ (wg_rI (pc := 29) hX ar_95 dX3_isShared_29 fun v8 => ?_)
    refine wg_aload_n (pc := 30) hX dX3_isShared_30 0 rfl ?_
    refine wg_gK (pc := 31) hX hM0 fd_X3_131 (by decide) dX3_isShared_31 ?_
    refine wg_iload_n (pc := 34) hX dX3_isShared_34 1 rfl ?_
    refine wu_ (wg_rI (pc := 35) hX ar_95 dX3_isShared_35 fun v9 => ?_)
    refine wg_icmp_ne (pc := 36) (tgt := 41) hX dX3_isShared_36 (by decide) (fun h10 => ?_) (fun h10 => ?_)
    rotate_left
    · refine wu_f h10 ?_
      exact hk4 ()
    refine wu_t h10 ?_
    refine wg_iconst (pc := 39) (v := 1) hX dX3_isShared_39 rfl ?_
    exact wu_rt (wg_zret (pc := 40) hX rfl (by decide) rfl dX3_isShared_40)
  refine wg_iinc (pc := 41) (v := (x1 + 1)) (l' := [(0, .ref (rid 1 1)), (1, .int a1), (2, .int (x1 + 1))]) hX dX3_isShared_41 2 rfl rfl (by decide) rfl ?_
  refine wg_goto (pc := 44) (tgt := 2) hX dX3_isShared_44 (by decide) ?_
  exact hrec1 (x1 + 1)
