/-! the walks (printed by gen/build.py) -/
theorem m_X1_in (a1 : Int32) (a2 : Int32) (a3 : Int32) : amMet yX1_in cX1_in 3 (some .boolean) 1 32 encI [.int a1, .int a2, .int a3] (up (p_X1_in a1 a2 a3)) := by
  refine amMet.of (own := RX1) (by decide) rfl (Nat.le_of_ble_eq_true rfl) fun X hX hPs => ?_
  change WG X encI 0 [(0, .int a1), (1, .int a2), (2, .int a3)] [] (bd1 (up (p_X1_in a1 a2 a3)) rt1)
  unfold p_X1_in
  refine wg_iload_n (pc := 0) hX dX1_in_0 0 rfl ?_
  refine wg_iload_n (pc := 1) hX dX1_in_1 1 rfl ?_
  refine wu_jn (α := Unit) (pcJ := 14) (lJ := fun x => []) (sJ := fun x => []) (fun k1 hk1 => ?_) (fun z1 => ?_)
  · refine wg_icmp_lt (pc := 2) (tgt := 14) hX dX1_in_2 (by decide) (fun h2 => ?_) (fun h2 => ?_)
    · refine wu_t h2 ?_
      refine wg_sub hX [] rfl ?_
      exact hk1 ()
    refine wu_f h2 ?_
    refine wg_iload_n (pc := 5) hX dX1_in_5 0 rfl ?_
    refine wg_iload_n (pc := 6) hX dX1_in_6 2 rfl ?_
    refine wg_icmp_gt (pc := 7) (tgt := 14) hX dX1_in_7 (by decide) (fun h3 => ?_) (fun h3 => ?_)
    · refine wu_t h3 ?_
      refine wg_sub hX [] rfl ?_
      exact hk1 ()
    refine wu_f h3 ?_
    refine wg_iconst (pc := 10) (v := 1) hX dX1_in_10 rfl ?_
    refine wg_goto (pc := 11) (tgt := 15) hX dX1_in_11 (by decide) ?_
    exact wu_rt (wg_zret (pc := 15) hX rfl (by decide) rfl dX1_in_15)
  refine wg_iconst (pc := 14) (v := 0) hX dX1_in_14 rfl ?_
  exact wu_rt (wg_zret (pc := 15) hX rfl (by decide) rfl dX1_in_15)
theorem m_X1_isCrew (a1 : Int32) : amMet yX1_isCrew cX1_isCrew 2 (some .boolean) 2 54 encI [.ref (rid 0 1), .int a1] (up (p_X1_isCrew a1)) := by
  refine amMet.of (own := RX1) (by decide) rfl (Nat.le_of_ble_eq_true rfl) fun X hX hPs => ?_
  change WG X encI 0 [(0, .ref (rid 0 1)), (1, .int a1)] [] (bd1 (up (p_X1_isCrew a1)) rt1)
  unfold p_X1_isCrew
  refine wg_iload_n (pc := 0) hX dX1_isCrew_0 1 rfl ?_
  refine wg_iconst (pc := 1) (v := 0) hX dX1_isCrew_1 rfl ?_
  refine wg_aload_n (pc := 2) hX dX1_isCrew_2 0 rfl ?_
  refine wu_ (wg_gI (pc := 3) hX fd_X1_365 dX1_isCrew_3 fun v1 => ?_)
  refine wg_iconst (pc := 6) (v := 1) hX dX1_isCrew_6 rfl ?_
  refine wg_isub (pc := 7) hX dX1_isCrew_7 ?_
  refine wu_ (wg_cSi (pc := 8) (As := [.int a1, .int 0, .int (v1 - 1)]) (rest := []) hX (m_X1_in a1 0 (v1 - 1)) (lw_S q471 q472 q159 q473) hd_X1_in rfl (Nat.le_of_ble_eq_true rfl) (Nat.le_of_ble_eq_true rfl) (Nat.le_of_ble_eq_true rfl) rfl dX1_isCrew_8 fun v2 => ?_)
  refine wu_ (wg_gd fun h3 => ?_)
  exact wu_rt (wg_zret (pc := 11) hX rfl h3 rfl dX1_isCrew_11)
theorem m_X1_numberOf (a1 : Nat) : amMet yX1_numberOf cX1_numberOf 3 (some .int) 1 32 encI [.ref (rid 0 1), .ref (rid 3 a1)] (up (p_X1_numberOf a1)) := by
  refine amMet.of (own := RX1) (by decide) rfl (Nat.le_of_ble_eq_true rfl) fun X hX hPs => ?_
  change WG X encI 0 [(0, .ref (rid 0 1)), (1, .ref (rid 3 a1))] [] (bd1 (up (p_X1_numberOf a1)) rt1)
  unfold p_X1_numberOf
  have hM0 := amPs.m0 hPs
  refine wu_ (wg_gM ?_)
  refine wg_iconst (pc := 0) (v := 0) hX dX1_numberOf_0 rfl ?_
  refine wg_istore_n (pc := 1) (l' := [(0, .ref (rid 0 1)), (1, .ref (rid 3 a1)), (2, .int 0)]) hX dX1_numberOf_1 (by decide) rfl ?_
  refine wu_lp (α := Int32) (pcl := 2) (lo := fun x => [(0, .ref (rid 0 1)), (1, .ref (rid 3 a1)), (2, .int x)]) (so := fun _ => []) (fun rec1 hrec1 x1 => ?_) amFu 0
  unfold p_X1_numberOf_L2
  refine wg_iload_n (pc := 2) hX dX1_numberOf_2 2 rfl ?_
  refine wg_aload_n (pc := 3) hX dX1_numberOf_3 0 rfl ?_
  refine wu_ (wg_gI (pc := 4) hX fd_X1_199 dX1_numberOf_4 fun v2 => ?_)
  refine wg_icmp_ge (pc := 7) (tgt := 28) hX dX1_numberOf_7 (by decide) (fun h3 => ?_) (fun h3 => ?_)
  · refine wu_t h3 ?_
    refine wg_iconst (pc := 28) (v := (-1)) hX dX1_numberOf_28 rfl ?_
    exact wu_rt (wg_iret (pc := 29) hX rfl rfl dX1_numberOf_29)
  refine wu_f h3 ?_
  refine wg_aload_n (pc := 10) hX dX1_numberOf_10 0 rfl ?_
  refine wg_gK (pc := 11) hX hM0 fd_X1_30 (by decide) dX1_numberOf_11 ?_
  refine wg_iload_n (pc := 14) hX dX1_numberOf_14 2 rfl ?_
  refine wu_ (wg_rR (pc := 15) hX ar_24 (by decide) dX1_numberOf_15 fun r4 => ?_)
  refine wg_aload_n (pc := 16) hX dX1_numberOf_16 1 rfl ?_
  refine wg_acmp_ne (pc := 17) (tgt := 22) hX (by decide) dX1_numberOf_17 (by decide) (fun h5 => ?_) (fun h5 => ?_)
  · refine wu_t h5 ?_
    refine wg_iload_n (pc := 20) hX dX1_numberOf_20 2 rfl ?_
    exact wu_rt (wg_iret (pc := 21) hX rfl rfl dX1_numberOf_21)
  refine wu_f h5 ?_
  refine wg_iinc (pc := 22) (v := (x1 + 1)) (l' := [(0, .ref (rid 0 1)), (1, .ref (rid 3 a1)), (2, .int (x1 + 1))]) hX dX1_numberOf_22 2 rfl rfl (by decide) rfl ?_
  refine wg_goto (pc := 25) (tgt := 2) hX dX1_numberOf_25 (by decide) ?_
  exact hrec1 (x1 + 1)
theorem m_X8_best (r0 : Nat) : amMet yX8_best cX8_best 1 (some .int) 1 32 encI [.ref (rid 6 r0)] (up (p_X8_best r0)) := by
  refine amMet.of (own := RX8) (by decide) rfl (Nat.le_of_ble_eq_true rfl) fun X hX hPs => ?_
  change WG X encI 0 [(0, .ref (rid 6 r0))] [] (bd1 (up (p_X8_best r0)) rt1)
  unfold p_X8_best
  refine wg_aload_n (pc := 0) hX dX8_best_0 0 rfl ?_
  refine wu_ (wg_gI (pc := 1) hX fd_X8_37 dX8_best_1 fun v1 => ?_)
  exact wu_rt (wg_iret (pc := 4) hX rfl rfl dX8_best_4)
theorem m_X28_slow (r0 : Nat) (a1 : Int32) : ∀ X : amX, amOK X cX28_slow yX28_slow.cls 2 2 52 (some .int) → WG X encI 0 (amArgs 0 [.ref (rid 6 r0), .int a1]) [] (bd1 (up (p_X28_slow r0 a1)) rt1) := by
  intro X hX
  change amOK X _ RX28 _ _ _ _ at hX
  change WG X encI 0 [(0, .ref (rid 6 r0)), (1, .int a1)] [] (bd1 (up (p_X28_slow r0 a1)) rt1)
  unfold p_X28_slow
  refine wg_aload_n (pc := 0) hX dX28_slow_0 0 rfl ?_
  refine wu_ (wg_vfiu (pc := 1) (x := ⟨"CityBrigade$Goes", "best", "()I"⟩) (n := 0) (f := fun c => if c = 6 then p_X8_best r0 else if c = 7 then p_X8_best r0 else if c = 8 then p_X8_best r0 else if c = 9 then p_X8_best r0 else fl0) (As := []) (rest := []) hX (by decide) (by decide) (fun c hc => by
        rcases am_mem4 hc with rfl | rfl | rfl | rfl
        · exact Or.inr ⟨RX9, TX9, 18, yX8_best, cX8_best, 1, (some .int), _, _, rfl, ⟨lw_F q993 q1006 q999 q170 q1001, by decide, by decide +kernel⟩, m_X8_best r0, (Nat.le_of_ble_eq_true rfl), (Nat.le_of_ble_eq_true rfl)⟩
        · exact Or.inr ⟨RX10, TX10, 19, yX8_best, cX8_best, 1, (some .int), _, _, rfl, ⟨lw_F q993 q1009 q999 q170 q1001, by decide, by decide +kernel⟩, m_X8_best r0, (Nat.le_of_ble_eq_true rfl), (Nat.le_of_ble_eq_true rfl)⟩
        · exact Or.inr ⟨RX11, TX11, 17, yX8_best, cX8_best, 1, (some .int), _, _, rfl, ⟨lw_F q993 q1003 q999 q170 q1001, by decide, by decide +kernel⟩, m_X8_best r0, (Nat.le_of_ble_eq_true rfl), (Nat.le_of_ble_eq_true rfl)⟩
        · exact Or.inr ⟨RX12, TX12, 16, yX8_best, cX8_best, 1, (some .int), _, _, rfl, ⟨lw_F q993 q997 q999 q170 q1001, by decide, by decide +kernel⟩, m_X8_best r0, (Nat.le_of_ble_eq_true rfl), (Nat.le_of_ble_eq_true rfl)⟩) rfl (Nat.le_of_ble_eq_true rfl) rfl dX28_slow_1 fun v2 => ?_)
  exact wu_rt (wg_iret (pc := 6) hX rfl rfl dX28_slow_6)
theorem m_X8_slow (r0 : Nat) (a1 : Int32) : amMet yX8_slow cX8_slow 2 (some .int) 3 73 encI [.ref (rid 6 r0), .int a1] (up (p_X8_slow r0 a1)) := by
  refine amMet.of (own := RX8) (by decide) rfl (Nat.le_of_ble_eq_true rfl) fun X hX hPs => ?_
  change WG X encI 0 [(0, .ref (rid 6 r0)), (1, .int a1)] [] (bd1 (up (p_X8_slow r0 a1)) rt1)
  unfold p_X8_slow
  refine wg_aload_n (pc := 0) hX dX8_slow_0 0 rfl ?_
  refine wu_ (wg_gI (pc := 1) hX fd_X8_33 dX8_slow_1 fun v1 => ?_)
  refine wg_if_eq (pc := 4) (tgt := 18) hX dX8_slow_4 (by decide) (fun h2 => ?_) (fun h2 => ?_)
  · refine wu_t h2 ?_
    refine wg_aload_n (pc := 18) hX dX8_slow_18 0 rfl ?_
    refine wg_iload_n (pc := 19) hX dX8_slow_19 1 rfl ?_
    refine wu_ (wg_gd fun h3 => ?_)
    refine wu_ (wg_cSI (pc := 20) (n := 1) (fw := ("CityBrigade$Pump", ⟨"CityBrigade$Goes", "best", "()I"⟩, ⟨"CityBrigade$Crew", "best", "()I"⟩)) (As := [.int a1]) (rest := []) hX (m_X28_slow r0 a1) (by decide) (by decide +kernel) h3 q986 q990 q991 (by decide) rfl q980 rfl (Nat.le_of_ble_eq_true rfl) (Nat.le_of_ble_eq_true rfl) (Nat.le_of_ble_eq_true rfl) (Nat.le_of_ble_eq_true rfl) rfl dX8_slow_20 fun v4 => ?_)
    exact wu_rt (wg_iret (pc := 23) hX rfl rfl dX8_slow_23)
  refine wu_f h2 ?_
  refine wg_aload_n (pc := 7) hX dX8_slow_7 0 rfl ?_
  refine wu_ (wg_gI (pc := 8) hX fd_X8_37 dX8_slow_8 fun v5 => ?_)
  refine wg_iload_n (pc := 11) hX dX8_slow_11 1 rfl ?_
  refine wg_iconst (pc := 12) (v := 3) hX dX8_slow_12 rfl ?_
  refine wg_idiv (pc := 13) hX dX8_slow_13 (by decide) ?_
  refine wg_iadd (pc := 14) hX dX8_slow_14 ?_
  refine wg_goto (pc := 15) (tgt := 23) hX dX8_slow_15 (by decide) ?_
  exact wu_rt (wg_iret (pc := 23) hX rfl rfl dX8_slow_23)
theorem m_X8_slowNow (r0 : Nat) : amMet yX8_slowNow cX8_slowNow 1 (some .int) 4 94 encI [.ref (rid 6 r0)] (up (p_X8_slowNow r0)) := by
  refine amMet.of (own := RX8) (by decide) rfl (Nat.le_of_ble_eq_true rfl) fun X hX hPs => ?_
  change WG X encI 0 [(0, .ref (rid 6 r0))] [] (bd1 (up (p_X8_slowNow r0)) rt1)
  unfold p_X8_slowNow
  refine wg_aload_n (pc := 0) hX dX8_slowNow_0 0 rfl ?_
  refine wg_aload_n (pc := 1) hX dX8_slowNow_1 0 rfl ?_
  refine wu_ (wg_gI (pc := 2) hX fd_X8_52 dX8_slowNow_2 fun v1 => ?_)
  refine wu_ (wg_vciu (pc := 5) (x := ⟨"CityBrigade$Crew", "slow", "(I)I"⟩) (n := 1) (f := fun c => if c = 6 then p_X8_slow r0 v1 else if c = 7 then p_X8_slow r0 v1 else if c = 8 then p_X8_slow r0 v1 else if c = 9 then p_X8_slow r0 v1 else fl0) (As := [.int v1]) (rest := []) hX (by decide) (by decide) (fun c hc => by
        rcases am_mem4 hc with rfl | rfl | rfl | rfl
        · exact Or.inr ⟨RX9, TX9, 18, yX8_slow, cX8_slow, 2, (some .int), _, _, rfl, ⟨"CityBrigade$Crew", lw_U q978 q980 q983 q979 q170 q985, by decide +kernel, Or.inl rfl⟩, m_X8_slow r0 v1, (Nat.le_of_ble_eq_true rfl), (Nat.le_of_ble_eq_true rfl)⟩
        · exact Or.inr ⟨RX10, TX10, 19, yX8_slow, cX8_slow, 2, (some .int), _, _, rfl, ⟨"CityBrigade$Crew", lw_U q978 q980 q984 q979 q170 q985, by decide +kernel, Or.inl rfl⟩, m_X8_slow r0 v1, (Nat.le_of_ble_eq_true rfl), (Nat.le_of_ble_eq_true rfl)⟩
        · exact Or.inr ⟨RX11, TX11, 17, yX8_slow, cX8_slow, 2, (some .int), _, _, rfl, ⟨"CityBrigade$Crew", lw_U q978 q980 q982 q979 q170 q985, by decide +kernel, Or.inl rfl⟩, m_X8_slow r0 v1, (Nat.le_of_ble_eq_true rfl), (Nat.le_of_ble_eq_true rfl)⟩
        · exact Or.inr ⟨RX12, TX12, 16, yX8_slow, cX8_slow, 2, (some .int), _, _, rfl, ⟨"CityBrigade$Crew", lw_U q978 q980 q981 q979 q170 q985, by decide +kernel, Or.inl rfl⟩, m_X8_slow r0 v1, (Nat.le_of_ble_eq_true rfl), (Nat.le_of_ble_eq_true rfl)⟩) rfl (Nat.le_of_ble_eq_true rfl) rfl dX8_slowNow_5 fun v3 => ?_)
  exact wu_rt (wg_iret (pc := 8) hX rfl rfl dX8_slowNow_8)
theorem m_X1_isCorner (a1 : Int32) : amMet yX1_isCorner cX1_isCorner 1 (some .boolean) 2 54 encI [.int a1] (up (p_X1_isCorner a1)) := by
  refine amMet.of (own := RX1) (by decide) rfl (Nat.le_of_ble_eq_true rfl) fun X hX hPs => ?_
  change WG X encI 0 [(0, .int a1)] [] (bd1 (up (p_X1_isCorner a1)) rt1)
  unfold p_X1_isCorner
  refine wg_iload_n (pc := 0) hX dX1_isCorner_0 0 rfl ?_
  refine wg_iconst (pc := 1) (v := 0) hX dX1_isCorner_1 rfl ?_
  refine wg_bipush (pc := 2) (v := 19) hX dX1_isCorner_2 rfl ?_
  refine wu_ (wg_cSi (pc := 4) (As := [.int a1, .int 0, .int 19]) (rest := []) hX (m_X1_in a1 0 19) (lw_S q471 q472 q159 q473) hd_X1_in rfl (Nat.le_of_ble_eq_true rfl) (Nat.le_of_ble_eq_true rfl) (Nat.le_of_ble_eq_true rfl) rfl dX1_isCorner_4 fun v1 => ?_)
  refine wu_ (wg_gd fun h2 => ?_)
  exact wu_rt (wg_zret (pc := 7) hX rfl h2 rfl dX1_isCorner_7)
theorem m_X4_init (r0 : Nat) (a1 : Int32) (a2 : Int32) (a3 : Int32) : amMet yX4_init cX4_init 4 none 1 32 encV [.ref (rid 2 r0), .int a1, .int a2, .int a3] (p_X4_init r0 a1 a2 a3) := by
  refine amMet.ofI (own := RX4) (by decide) rfl (Nat.le_of_ble_eq_true rfl) rfl fun X hX hN => ?_
  change WG X encV 0 [(0, .ref (rid 2 r0)), (1, .int a1), (2, .int a2), (3, .int a3)] [] (bd1 (p_X4_init r0 a1 a2 a3) rt1)
  unfold p_X4_init
  refine wg_aload_n (pc := 0) hX dX4_init_0 0 rfl ?_
  refine wv_ (wg_gd fun h1 => ?_)
  refine wg_objI (pc := 1) hX h1 q478 q207 q208 (Nat.le_of_ble_eq_true rfl) (Nat.le_of_ble_eq_true rfl) dX4_init_1 ?_
  refine wg_aload_n (pc := 4) hX dX4_init_4 0 rfl ?_
  refine wg_iconst (pc := 5) (v := 4) hX dX4_init_5 rfl ?_
  refine wv_ (wg_nwA (pc := 6) (atype := .int) hX (by decide) (by decide) (by decide) rfl (fun _ _ h => h) aq_int (by decide) (fun _ => Nat.le_of_ble_eq_true rfl) (by decide) dX4_init_6 fun r2 => ?_)
  refine wg_dup (pc := 8) hX dX4_init_8 rfl ?_
  refine wg_iconst (pc := 9) (v := 0) hX dX4_init_9 rfl ?_
  refine wg_bipush (pc := 10) (v := 100) hX dX4_init_10 rfl ?_
  refine wv_ (wg_wI (pc := 12) hX ar_142 dX4_init_12 ?_)
  refine wg_dup (pc := 13) hX dX4_init_13 rfl ?_
  refine wg_iconst (pc := 14) (v := 1) hX dX4_init_14 rfl ?_
  refine wg_bipush (pc := 15) (v := 100) hX dX4_init_15 rfl ?_
  refine wv_ (wg_wI (pc := 17) hX ar_142 dX4_init_17 ?_)
  refine wg_dup (pc := 18) hX dX4_init_18 rfl ?_
  refine wg_iconst (pc := 19) (v := 2) hX dX4_init_19 rfl ?_
  refine wg_bipush (pc := 20) (v := 100) hX dX4_init_20 rfl ?_
  refine wv_ (wg_wI (pc := 22) hX ar_142 dX4_init_22 ?_)
  refine wg_dup (pc := 23) hX dX4_init_23 rfl ?_
  refine wg_iconst (pc := 24) (v := 3) hX dX4_init_24 rfl ?_
  refine wg_bipush (pc := 25) (v := 100) hX dX4_init_25 rfl ?_
  refine wv_ (wg_wI (pc := 27) hX ar_142 dX4_init_27 ?_)
  refine wv_ (wg_pC (pc := 28) hX fp_X4_9 (by decide) uq_2_3 rfl hN (by decide) (by first | exact Or.inl ⟨_, rfl⟩ | exact Or.inr ⟨_, rfl⟩) dX4_init_28 ?_)
  refine wg_aload_n (pc := 31) hX dX4_init_31 0 rfl ?_
  refine wg_iload_n (pc := 32) hX dX4_init_32 1 rfl ?_
  refine wv_ (wg_pI (pc := 33) hX fp_X4_15 (fun _ => hN) dX4_init_33 ?_)
  refine wg_aload_n (pc := 36) hX dX4_init_36 0 rfl ?_
  refine wg_iload_n (pc := 37) hX dX4_init_37 2 rfl ?_
  refine wv_ (wg_pI (pc := 38) hX fp_X4_19 (fun _ => hN) dX4_init_38 ?_)
  refine wg_aload_n (pc := 41) hX dX4_init_41 0 rfl ?_
  refine wg_iload_n (pc := 42) hX dX4_init_42 3 rfl ?_
  refine wv_ (wg_pI (pc := 43) hX fp_X4_22 (fun _ => hN) dX4_init_43 ?_)
  exact wv_rt (wg_vret (pc := 46) hX rfl rfl dX4_init_46)
theorem m_X1_street (a1 : Int32) (a2 : Int32) (a3 : Int32) : amMet yX1_street cX1_street 4 (some .int) 3 74 encI [.ref (rid 0 1), .int a1, .int a2, .int a3] (p_X1_street a1 a2 a3) := by
  refine amMet.of (own := RX1) (by decide) rfl (Nat.le_of_ble_eq_true rfl) fun X hX hPs => ?_
  change WG X encI 0 [(0, .ref (rid 0 1)), (1, .int a1), (2, .int a2), (3, .int a3)] [] (bd1 (p_X1_street a1 a2 a3) rt1)
  unfold p_X1_street
  have hM0 := amPs.m1 hPs
  refine wv_ (wg_gM ?_)
  refine wg_iload_n (pc := 0) hX dX1_street_0 1 rfl ?_
  refine wv_ (wg_cSi (pc := 1) (As := [.int a1]) (rest := []) hX (m_X1_isCorner a1) (lw_S q468 q469 q159 q470) hd_X1_isCorner rfl (Nat.le_of_ble_eq_true rfl) (Nat.le_of_ble_eq_true rfl) (Nat.le_of_ble_eq_true rfl) rfl dX1_street_1 fun v1 => ?_)
  refine wg_if_eq (pc := 4) (tgt := 38) hX dX1_street_4 (by decide) (fun h2 => ?_) (fun h2 => ?_)
  · refine wv_t h2 ?_
    refine wg_iconst (pc := 38) (v := (-1)) hX dX1_street_38 rfl ?_
    exact wv_rt (wg_iret (pc := 39) hX rfl rfl dX1_street_39)
  refine wv_f h2 ?_
  refine wg_iload_n (pc := 7) hX dX1_street_7 2 rfl ?_
  refine wv_ (wg_cSi (pc := 8) (As := [.int a2]) (rest := []) hX (m_X1_isCorner a2) (lw_S q468 q469 q159 q470) hd_X1_isCorner rfl (Nat.le_of_ble_eq_true rfl) (Nat.le_of_ble_eq_true rfl) (Nat.le_of_ble_eq_true rfl) rfl dX1_street_8 fun v3 => ?_)
  refine wg_if_eq (pc := 11) (tgt := 38) hX dX1_street_11 (by decide) (fun h4 => ?_) (fun h4 => ?_)
  · refine wv_t h4 ?_
    refine wg_iconst (pc := 38) (v := (-1)) hX dX1_street_38 rfl ?_
    exact wv_rt (wg_iret (pc := 39) hX rfl rfl dX1_street_39)
  refine wv_f h4 ?_
  refine wg_iload_n (pc := 14) hX dX1_street_14 1 rfl ?_
  refine wg_iload_n (pc := 15) hX dX1_street_15 2 rfl ?_
  refine wg_icmp_eq (pc := 16) (tgt := 38) hX dX1_street_16 (by decide) (fun h5 => ?_) (fun h5 => ?_)
  · refine wv_t h5 ?_
    refine wg_iconst (pc := 38) (v := (-1)) hX dX1_street_38 rfl ?_
    exact wv_rt (wg_iret (pc := 39) hX rfl rfl dX1_street_39)
  refine wv_f h5 ?_
  refine wg_iload_n (pc := 19) hX dX1_street_19 3 rfl ?_
  refine wg_iconst (pc := 20) (v := 1) hX dX1_street_20 rfl ?_
  refine wg_bipush (pc := 21) (v := 20) hX dX1_street_21 rfl ?_
  refine wv_ (wg_cSi (pc := 23) (As := [.int a3, .int 1, .int 20]) (rest := []) hX (m_X1_in a3 1 20) (lw_S q471 q472 q159 q473) hd_X1_in rfl (Nat.le_of_ble_eq_true rfl) (Nat.le_of_ble_eq_true rfl) (Nat.le_of_ble_eq_true rfl) rfl dX1_street_23 fun v6 => ?_)
  refine wg_if_eq (pc := 26) (tgt := 38) hX dX1_street_26 (by decide) (fun h7 => ?_) (fun h7 => ?_)
  · refine wv_t h7 ?_
    refine wg_iconst (pc := 38) (v := (-1)) hX dX1_street_38 rfl ?_
    exact wv_rt (wg_iret (pc := 39) hX rfl rfl dX1_street_39)
  refine wv_f h7 ?_
  refine wg_aload_n (pc := 29) hX dX1_street_29 0 rfl ?_
  refine wv_ (wg_gI (pc := 30) hX fd_X1_147 dX1_street_30 fun v8 => ?_)
  refine wg_bipush (pc := 33) (v := 40) hX dX1_street_33 rfl ?_
  refine wg_icmp_ne (pc := 35) (tgt := 40) hX dX1_street_35 (by decide) (fun h9 => ?_) (fun h9 => ?_)
  · refine wv_t h9 ?_
    refine wg_iconst (pc := 38) (v := (-1)) hX dX1_street_38 rfl ?_
    exact wv_rt (wg_iret (pc := 39) hX rfl rfl dX1_street_39)
  refine wv_f h9 ?_
  refine wg_aload_n (pc := 40) hX dX1_street_40 0 rfl ?_
  refine wg_gK (pc := 41) hX hM0 fd_X1_15 (by decide) dX1_street_41 ?_
  refine wg_aload_n (pc := 44) hX dX1_street_44 0 rfl ?_
  refine wv_ (wg_gI (pc := 45) hX fd_X1_147 dX1_street_45 fun v10 => ?_)
  refine wv_ (wg_nw (pc := 48) hX nw_X1_13 dX1_street_48 fun r11 => ?_)
  refine wg_dup (pc := 51) hX dX1_street_51 rfl ?_
  refine wg_iload_n (pc := 52) hX dX1_street_52 1 rfl ?_
  refine wg_iload_n (pc := 53) hX dX1_street_53 2 rfl ?_
  refine wg_iload_n (pc := 54) hX dX1_street_54 3 rfl ?_
  refine wv_ (wg_gd fun h12 => ?_)
  refine wv_ (wg_cIv (pc := 55) (As := [.int a1, .int a2, .int a3]) (rest := [.ref (rid 2 r11), .int v10, .ref (rid 20 1)]) hX (m_X4_init r11 a1 a2 a3) h12 rfl q475 q476 q164 q477 hd_X4_init rfl (Nat.le_of_ble_eq_true rfl) (Nat.le_of_ble_eq_true rfl) (Nat.le_of_ble_eq_true rfl) rfl dX1_street_55 ?_)
  refine wv_ (wg_wR (pc := 58) hX ar_20 el_20 dX1_street_58 ?_)
  refine wg_aload_n (pc := 59) hX dX1_street_59 0 rfl ?_
  refine wg_dup (pc := 60) hX dX1_street_60 rfl ?_
  refine wv_ (wg_gI (pc := 61) hX fd_X1_147 dX1_street_61 fun v13 => ?_)
  refine wg_iconst (pc := 64) (v := 1) hX dX1_street_64 rfl ?_
  refine wg_iadd (pc := 65) hX dX1_street_65 ?_
  refine wv_ (wg_pI (pc := 66) hX fp_X1_147 (fun h => by cases h) dX1_street_66 ?_)
  refine wg_aload_n (pc := 69) hX dX1_street_69 0 rfl ?_
  refine wv_ (wg_gI (pc := 70) hX fd_X1_147 dX1_street_70 fun v14 => ?_)
  refine wg_iconst (pc := 73) (v := 1) hX dX1_street_73 rfl ?_
  refine wg_isub (pc := 74) hX dX1_street_74 ?_
  exact wv_rt (wg_iret (pc := 75) hX rfl rfl dX1_street_75)
theorem m_X1_isStreet (a1 : Int32) : amMet yX1_isStreet cX1_isStreet 2 (some .boolean) 2 54 encI [.ref (rid 0 1), .int a1] (up (p_X1_isStreet a1)) := by
  refine amMet.of (own := RX1) (by decide) rfl (Nat.le_of_ble_eq_true rfl) fun X hX hPs => ?_
  change WG X encI 0 [(0, .ref (rid 0 1)), (1, .int a1)] [] (bd1 (up (p_X1_isStreet a1)) rt1)
  unfold p_X1_isStreet
  refine wg_iload_n (pc := 0) hX dX1_isStreet_0 1 rfl ?_
  refine wg_iconst (pc := 1) (v := 0) hX dX1_isStreet_1 rfl ?_
  refine wg_aload_n (pc := 2) hX dX1_isStreet_2 0 rfl ?_
  refine wu_ (wg_gI (pc := 3) hX fd_X1_147 dX1_isStreet_3 fun v1 => ?_)
  refine wg_iconst (pc := 6) (v := 1) hX dX1_isStreet_6 rfl ?_
  refine wg_isub (pc := 7) hX dX1_isStreet_7 ?_
  refine wu_ (wg_cSi (pc := 8) (As := [.int a1, .int 0, .int (v1 - 1)]) (rest := []) hX (m_X1_in a1 0 (v1 - 1)) (lw_S q471 q472 q159 q473) hd_X1_in rfl (Nat.le_of_ble_eq_true rfl) (Nat.le_of_ble_eq_true rfl) (Nat.le_of_ble_eq_true rfl) rfl dX1_isStreet_8 fun v2 => ?_)
  refine wu_ (wg_gd fun h3 => ?_)
  exact wu_rt (wg_zret (pc := 11) hX rfl h3 rfl dX1_isStreet_11)
theorem m_X1_jam (a1 : Int32) (a2 : Int32) (a3 : Int32) : amMet yX1_jam cX1_jam 4 (some .boolean) 3 75 encI [.ref (rid 0 1), .int a1, .int a2, .int a3] (up (p_X1_jam a1 a2 a3)) := by
  refine amMet.of (own := RX1) (by decide) rfl (Nat.le_of_ble_eq_true rfl) fun X hX hPs => ?_
  change WG X encI 0 [(0, .ref (rid 0 1)), (1, .int a1), (2, .int a2), (3, .int a3)] [] (bd1 (up (p_X1_jam a1 a2 a3)) rt1)
  unfold p_X1_jam
  have hM0 := amPs.m0 hPs
  refine wu_ (wg_gM ?_)
  refine wg_aload_n (pc := 0) hX dX1_jam_0 0 rfl ?_
  refine wg_iload_n (pc := 1) hX dX1_jam_1 1 rfl ?_
  refine wu_ (wg_cVi (pc := 2) (As := [.int a1]) (rest := []) hX (m_X1_isStreet a1) (by decide) (by decide) (by decide) rc_X1 (lw_V q503 q505 qs1 q159 q506) hd_X1_isStreet rfl (Nat.le_of_ble_eq_true rfl) (Nat.le_of_ble_eq_true rfl) (Nat.le_of_ble_eq_true rfl) rfl dX1_jam_2 fun v1 => ?_)
  refine wg_if_eq (pc := 5) (tgt := 29) hX dX1_jam_5 (by decide) (fun h2 => ?_) (fun h2 => ?_)
  · refine wu_t h2 ?_
    refine wg_iconst (pc := 29) (v := 0) hX dX1_jam_29 rfl ?_
    exact wu_rt (wg_zret (pc := 30) hX rfl (by decide) rfl dX1_jam_30)
  refine wu_f h2 ?_
  refine wg_iload_n (pc := 8) hX dX1_jam_8 2 rfl ?_
  refine wg_iconst (pc := 9) (v := 0) hX dX1_jam_9 rfl ?_
  refine wg_iconst (pc := 10) (v := 3) hX dX1_jam_10 rfl ?_
  refine wu_ (wg_cSi (pc := 11) (As := [.int a2, .int 0, .int 3]) (rest := []) hX (m_X1_in a2 0 3) (lw_S q471 q472 q159 q473) hd_X1_in rfl (Nat.le_of_ble_eq_true rfl) (Nat.le_of_ble_eq_true rfl) (Nat.le_of_ble_eq_true rfl) rfl dX1_jam_11 fun v3 => ?_)
  refine wg_if_eq (pc := 14) (tgt := 29) hX dX1_jam_14 (by decide) (fun h4 => ?_) (fun h4 => ?_)
  · refine wu_t h4 ?_
    refine wg_iconst (pc := 29) (v := 0) hX dX1_jam_29 rfl ?_
    exact wu_rt (wg_zret (pc := 30) hX rfl (by decide) rfl dX1_jam_30)
  refine wu_f h4 ?_
  refine wg_iload_n (pc := 17) hX dX1_jam_17 3 rfl ?_
  refine wg_bipush (pc := 18) (v := 100) hX dX1_jam_18 rfl ?_
  refine wg_sipush (pc := 20) (v := 400) hX dX1_jam_20 rfl ?_
  refine wu_ (wg_cSi (pc := 23) (As := [.int a3, .int 100, .int 400]) (rest := []) hX (m_X1_in a3 100 400) (lw_S q471 q472 q159 q473) hd_X1_in rfl (Nat.le_of_ble_eq_true rfl) (Nat.le_of_ble_eq_true rfl) (Nat.le_of_ble_eq_true rfl) rfl dX1_jam_23 fun v5 => ?_)
  refine wg_if_ne (pc := 26) (tgt := 31) hX dX1_jam_26 (by decide) (fun h6 => ?_) (fun h6 => ?_)
  · refine wu_t h6 ?_
    refine wg_iconst (pc := 29) (v := 0) hX dX1_jam_29 rfl ?_
    exact wu_rt (wg_zret (pc := 30) hX rfl (by decide) rfl dX1_jam_30)
  refine wu_f h6 ?_
  refine wg_aload_n (pc := 31) hX dX1_jam_31 0 rfl ?_
  refine wg_gK (pc := 32) hX hM0 fd_X1_15 (by decide) dX1_jam_32 ?_
  refine wg_iload_n (pc := 35) hX dX1_jam_35 1 rfl ?_
  refine wu_ (wg_rR (pc := 36) hX ar_20 (by decide) dX1_jam_36 fun r7 => ?_)
  refine wu_ (wg_gC (pc := 37) (v := r7) hX fd_X1_157 (by decide) rfl dX1_jam_37 ?_)
  refine wg_iload_n (pc := 40) hX dX1_jam_40 2 rfl ?_
  refine wg_iload_n (pc := 41) hX dX1_jam_41 3 rfl ?_
  refine wu_ (wg_wI (pc := 42) hX ar_142 dX1_jam_42 ?_)
  refine wg_iconst (pc := 43) (v := 1) hX dX1_jam_43 rfl ?_
  exact wu_rt (wg_zret (pc := 44) hX rfl (by decide) rfl dX1_jam_44)
theorem m_X1_closed (a1 : Int32) (a2 : Int32) : amMet yX1_closed cX1_closed 3 (some .boolean) 3 75 encI [.ref (rid 0 1), .int a1, .int a2] (up (p_X1_closed a1 a2)) := by
  refine amMet.of (own := RX1) (by decide) rfl (Nat.le_of_ble_eq_true rfl) fun X hX hPs => ?_
  change WG X encI 0 [(0, .ref (rid 0 1)), (1, .int a1), (2, .int a2)] [] (bd1 (up (p_X1_closed a1 a2)) rt1)
  unfold p_X1_closed
  have hM0 := amPs.m0 hPs
  refine wu_ (wg_gM ?_)
  refine wg_aload_n (pc := 0) hX dX1_closed_0 0 rfl ?_
  refine wg_iload_n (pc := 1) hX dX1_closed_1 1 rfl ?_
  refine wu_ (wg_cVi (pc := 2) (As := [.int a1]) (rest := []) hX (m_X1_isStreet a1) (by decide) (by decide) (by decide) rc_X1 (lw_V q503 q505 qs1 q159 q506) hd_X1_isStreet rfl (Nat.le_of_ble_eq_true rfl) (Nat.le_of_ble_eq_true rfl) (Nat.le_of_ble_eq_true rfl) rfl dX1_closed_2 fun v1 => ?_)
  refine wg_if_eq (pc := 5) (tgt := 21) hX dX1_closed_5 (by decide) (fun h2 => ?_) (fun h2 => ?_)
  · refine wu_t h2 ?_
    refine wg_iconst (pc := 21) (v := 0) hX dX1_closed_21 rfl ?_
    exact wu_rt (wg_zret (pc := 22) hX rfl (by decide) rfl dX1_closed_22)
  refine wu_f h2 ?_
  refine wg_aload_n (pc := 8) hX dX1_closed_8 0 rfl ?_
  refine wg_gK (pc := 9) hX hM0 fd_X1_15 (by decide) dX1_closed_9 ?_
  refine wg_iload_n (pc := 12) hX dX1_closed_12 1 rfl ?_
  refine wu_ (wg_rR (pc := 13) hX ar_20 (by decide) dX1_closed_13 fun r3 => ?_)
  refine wu_ (wg_gI (pc := 14) hX fd_X1_160 dX1_closed_14 fun v4 => ?_)
  refine wg_iload_n (pc := 17) hX dX1_closed_17 2 rfl ?_
  refine wg_icmp_ne (pc := 18) (tgt := 23) hX dX1_closed_18 (by decide) (fun h5 => ?_) (fun h5 => ?_)
  · refine wu_t h5 ?_
    refine wg_iconst (pc := 21) (v := 0) hX dX1_closed_21 rfl ?_
    exact wu_rt (wg_zret (pc := 22) hX rfl (by decide) rfl dX1_closed_22)
  refine wu_f h5 ?_
  refine wg_aload_n (pc := 23) hX dX1_closed_23 0 rfl ?_
  refine wg_gK (pc := 24) hX hM0 fd_X1_15 (by decide) dX1_closed_24 ?_
  refine wg_iload_n (pc := 27) hX dX1_closed_27 1 rfl ?_
  refine wu_ (wg_rR (pc := 28) hX ar_20 (by decide) dX1_closed_28 fun r6 => ?_)
  refine wg_iload_n (pc := 29) hX dX1_closed_29 2 rfl ?_
  refine wu_ (wg_gd fun h7 => ?_)
  refine wu_ (wg_pZ (pc := 30) hX fp_X1_160 (fun h => by cases h) h7 dX1_closed_30 ?_)
  refine wg_iconst (pc := 33) (v := 1) hX dX1_closed_33 rfl ?_
  exact wu_rt (wg_zret (pc := 34) hX rfl (by decide) rfl dX1_closed_34)
theorem m_J3_fill (a1 : Nat) (a2 : Int32) : amMet yJ3_fill cJ3_fill 4 none 1 32 encV [.ref (rid 21 a1), .int a2] (up (p_J3_fill a1 a2)) := by
  refine amMet.of (own := RJ3) (by decide) rfl (Nat.le_of_ble_eq_true rfl) fun X hX hPs => ?_
  change WG X encV 0 [(0, .ref (rid 21 a1)), (1, .int a2)] [] (bd1 (up (p_J3_fill a1 a2)) rt1)
  unfold p_J3_fill
  refine wg_iconst (pc := 0) (v := 0) hX dJ3_fill_0 rfl ?_
  refine wg_istore_n (pc := 1) (l' := [(0, .ref (rid 21 a1)), (1, .int a2), (2, .int 0)]) hX dJ3_fill_1 (by decide) rfl ?_
  refine wg_aload_n (pc := 2) hX dJ3_fill_2 0 rfl ?_
  refine wu_ (wg_gd fun h1 => ?_)
  refine wg_alen (pc := 3) (v := 20) hX ar_21 (by decide) h1 rfl dJ3_fill_3 ?_
  refine wg_istore_n (pc := 4) (l' := [(0, .ref (rid 21 a1)), (1, .int a2), (2, .int 0), (3, .int 20)]) hX dJ3_fill_4 (by decide) rfl ?_
  refine wu_lpx (α := Int32) (γ := Unit) (pcl := 5) (pcT := 20) (lo := fun x => [(0, .ref (rid 21 a1)), (1, .int a2), (2, .int x), (3, .int 20)]) (so := fun _ => []) (lT := fun x => []) (sT := fun _ => []) (n := amFu) (x0 := 0) (fun K2 rec2 hrec2 hk2 x2 => ?_) (fun y3 => ?_)
  · unfold p_J3_fill_L5
    refine wg_iload_n (pc := 5) hX dJ3_fill_5 2 rfl ?_
    refine wg_iload_n (pc := 6) hX dJ3_fill_6 3 rfl ?_
    refine wg_icmp_ge (pc := 7) (tgt := 20) hX dJ3_fill_7 (by decide) (fun h4 => ?_) (fun h4 => ?_)
    · refine wu_t h4 ?_
      refine wg_sub hX [] rfl ?_
      exact wu_rt (hk2 ())
    refine wu_f h4 ?_
    refine wg_aload_n (pc := 10) hX dJ3_fill_10 0 rfl ?_
    refine wg_iload_n (pc := 11) hX dJ3_fill_11 2 rfl ?_
    refine wg_iload_n (pc := 12) hX dJ3_fill_12 1 rfl ?_
    refine wu_ (wg_gd fun h5 => ?_)
    refine wu_ (wg_wZ (pc := 13) hX ar_21 h5 dJ3_fill_13 ?_)
    refine wg_iinc (pc := 14) (v := (x2 + 1)) (l' := [(0, .ref (rid 21 a1)), (1, .int a2), (2, .int (x2 + 1)), (3, .int 20)]) hX dJ3_fill_14 2 rfl rfl (by decide) rfl ?_
    refine wg_goto (pc := 17) (tgt := 5) hX dJ3_fill_17 (by decide) ?_
    exact hrec2 (x2 + 1)
  exact wu_rt (wg_vret (pc := 20) hX rfl rfl dJ3_fill_20)
theorem m_X1_partOf (a1 : Int32) : amMet yX1_partOf cX1_partOf 1 (some .int) 1 32 encI [.int a1] (up (p_X1_partOf a1)) := by
  refine amMet.of (own := RX1) (by decide) rfl (Nat.le_of_ble_eq_true rfl) fun X hX hPs => ?_
  change WG X encI 0 [(0, .int a1)] [] (bd1 (up (p_X1_partOf a1)) rt1)
  unfold p_X1_partOf
  refine wg_iload_n (pc := 0) hX dX1_partOf_0 0 rfl ?_
  refine wg_sipush (pc := 1) (v := 360) hX dX1_partOf_1 rfl ?_
  refine wg_idiv (pc := 4) hX dX1_partOf_4 (by decide) ?_
  refine wg_iconst (pc := 5) (v := 4) hX dX1_partOf_5 rfl ?_
  refine wg_irem (pc := 6) hX dX1_partOf_6 (by decide) ?_
  exact wu_rt (wg_iret (pc := 7) hX rfl rfl dX1_partOf_7)
theorem m_X4_minutes (r0 : Nat) (a1 : Int32) (a2 : Int32) : amMet yX4_minutes cX4_minutes 3 (some .int) 2 52 encI [.ref (rid 2 r0), .int a1, .int a2] (up (p_X4_minutes r0 a1 a2)) := by
  refine amMet.of (own := RX4) (by decide) rfl (Nat.le_of_ble_eq_true rfl) fun X hX hPs => ?_
  change WG X encI 0 [(0, .ref (rid 2 r0)), (1, .int a1), (2, .int a2)] [] (bd1 (up (p_X4_minutes r0 a1 a2)) rt1)
  unfold p_X4_minutes
  refine wg_aload_n (pc := 0) hX dX4_minutes_0 0 rfl ?_
  refine wu_ (wg_gI (pc := 1) hX fd_X4_22 dX4_minutes_1 fun v1 => ?_)
  refine wg_aload_n (pc := 4) hX dX4_minutes_4 0 rfl ?_
  refine wu_ (wg_gC (pc := 5) (v := r0) hX fd_X4_9 (by decide) rfl dX4_minutes_5 ?_)
  refine wg_iload_n (pc := 8) hX dX4_minutes_8 1 rfl ?_
  refine wu_ (wg_cSNi (pc := 9) (As := [.int a1]) (rest := [.ref (rid 142 r0), .int v1]) hX (m_X1_partOf a1) q530 q531 q159 q532 hd_X1_partOf rfl (Nat.le_of_ble_eq_true rfl) (Nat.le_of_ble_eq_true rfl) (Nat.le_of_ble_eq_true rfl) rfl dX4_minutes_9 fun v2 => ?_)
  refine wu_ (wg_rI (pc := 12) hX ar_142 dX4_minutes_12 fun v3 => ?_)
  refine wg_imul (pc := 13) hX dX4_minutes_13 ?_
  refine wg_iload_n (pc := 14) hX dX4_minutes_14 2 rfl ?_
  refine wg_imul (pc := 15) hX dX4_minutes_15 ?_
  refine wg_sipush (pc := 16) (v := 9999) hX dX4_minutes_16 rfl ?_
  refine wg_iadd (pc := 19) hX dX4_minutes_19 ?_
  refine wg_sipush (pc := 20) (v := 10000) hX dX4_minutes_20 rfl ?_
  refine wg_idiv (pc := 23) hX dX4_minutes_23 (by decide) ?_
  exact wu_rt (wg_iret (pc := 24) hX rfl rfl dX4_minutes_24)
theorem m_X1_pass (a1 : Nat) (a2 : Int32) (a3 : Int32) (a4 : Int32) : amMet yX1_pass cX1_pass 6 none 3 74 encV [.ref (rid 0 1), .ref (rid 2 a1), .int a2, .int a3, .int a4] (up (p_X1_pass a1 a2 a3 a4)) := by
  refine amMet.of (own := RX1) (by decide) rfl (Nat.le_of_ble_eq_true rfl) fun X hX hPs => ?_
  change WG X encV 0 [(0, .ref (rid 0 1)), (1, .ref (rid 2 a1)), (2, .int a2), (3, .int a3), (4, .int a4)] [] (bd1 (up (p_X1_pass a1 a2 a3 a4)) rt1)
  unfold p_X1_pass
  have hM0 := amPs.m0 hPs
  refine wu_ (wg_gM ?_)
  refine wg_aload_n (pc := 0) hX dX1_pass_0 0 rfl ?_
  refine wg_gK (pc := 1) hX hM0 fd_X1_21 (by decide) dX1_pass_1 ?_
  refine wg_iload_n (pc := 4) hX dX1_pass_4 2 rfl ?_
  refine wu_ (wg_rG (pc := 5) hX ar_22 (by decide) dX1_pass_5 fun r1 hnr1 => ?_)
  refine wg_aload_n (pc := 6) hX dX1_pass_6 1 rfl ?_
  refine wu_ (wg_gI (pc := 7) hX fd_X1_174 dX1_pass_7 fun v2 => ?_)
  refine wu_ (wg_rZ (pc := 10) hX ar_21 dX1_pass_10 fun v3 => ?_)
  refine wu_jn (α := Unit) (pcJ := 29) (lJ := fun x => [(0, .ref (rid 0 1)), (1, .ref (rid 2 a1)), (2, .int a2), (3, .int a3), (4, .int a4)]) (sJ := fun x => []) (fun k4 hk4 => ?_) (fun z4 => ?_)
  · refine wg_if_ne (pc := 11) (tgt := 29) hX dX1_pass_11 (by decide) (fun h5 => ?_) (fun h5 => ?_)
    rotate_left
    · refine wu_f h5 ?_
      exact hk4 ()
    refine wu_t h5 ?_
    refine wg_aload_n (pc := 14) hX dX1_pass_14 0 rfl ?_
    refine wg_gK (pc := 15) hX hM0 fd_X1_21 (by decide) dX1_pass_15 ?_
    refine wg_iload_n (pc := 18) hX dX1_pass_18 2 rfl ?_
    refine wu_ (wg_rG (pc := 19) hX ar_22 (by decide) dX1_pass_19 fun r6 hnr6 => ?_)
    refine wg_aload_n (pc := 20) hX dX1_pass_20 1 rfl ?_
    refine wu_ (wg_gI (pc := 21) hX fd_X1_177 dX1_pass_21 fun v7 => ?_)
    refine wu_ (wg_rZ (pc := 24) hX ar_21 dX1_pass_24 fun v8 => ?_)
    refine wg_if_ne (pc := 25) (tgt := 29) hX dX1_pass_25 (by decide) (fun h9 => ?_) (fun h9 => ?_)
    rotate_left
    · refine wu_f h9 ?_
      exact hk4 ()
    refine wu_t h9 ?_
    exact wu_rt (wg_vret (pc := 28) hX rfl rfl dX1_pass_28)
  refine wg_iload_n (pc := 29) hX dX1_pass_29 2 rfl ?_
  refine wg_aload_n (pc := 30) hX dX1_pass_30 1 rfl ?_
  refine wg_iload_n (pc := 31) hX dX1_pass_31 3 rfl ?_
  refine wg_iload_n (pc := 32) hX dX1_pass_32 2 rfl ?_
  refine wg_iadd (pc := 33) hX dX1_pass_33 ?_
  refine wg_iload (pc := 34) hX dX1_pass_34 4 rfl ?_
  refine wu_ (wg_gd fun h10 => ?_)
  refine wu_ (wg_cVi (pc := 36) (As := [.int (a3 + a2), .int a4]) (rest := [.int a2]) hX (m_X4_minutes a1 (a3 + a2) a4) (by decide) (by decide) h10 rc_X4 (lw_V q526 q527 q528 q164 q529) hd_X4_minutes rfl (Nat.le_of_ble_eq_true rfl) (Nat.le_of_ble_eq_true rfl) (Nat.le_of_ble_eq_true rfl) rfl dX1_pass_36 fun v11 => ?_)
  refine wg_iadd (pc := 39) hX dX1_pass_39 ?_
  refine wu_ (wg_nmi hX fun v12 => ?_)
  refine wg_istore (pc := 40) (l' := [(0, .ref (rid 0 1)), (1, .ref (rid 2 a1)), (2, .int a2), (3, .int a3), (4, .int a4), (5, .int v12)]) hX dX1_pass_40 (by decide) rfl ?_
  refine wg_iload (pc := 42) hX dX1_pass_42 5 rfl ?_
  refine wg_sipush (pc := 44) (v := 600) hX dX1_pass_44 rfl ?_
  refine wg_icmp_le (pc := 47) (tgt := 51) hX dX1_pass_47 (by decide) (fun h13 => ?_) (fun h13 => ?_)
  rotate_left
  · refine wu_f h13 ?_
    exact wu_rt (wg_vret (pc := 50) hX rfl rfl dX1_pass_50)
  refine wu_t h13 ?_
  refine wg_aload_n (pc := 51) hX dX1_pass_51 0 rfl ?_
  refine wg_gK (pc := 52) hX hM0 fd_X1_21 (by decide) dX1_pass_52 ?_
  refine wg_iload_n (pc := 55) hX dX1_pass_55 2 rfl ?_
  refine wu_ (wg_rG (pc := 56) hX ar_22 (by decide) dX1_pass_56 fun r14 hnr14 => ?_)
  refine wg_aload_n (pc := 57) hX dX1_pass_57 1 rfl ?_
  refine wu_ (wg_gI (pc := 58) hX fd_X1_174 dX1_pass_58 fun v15 => ?_)
  refine wu_ (wg_rZ (pc := 61) hX ar_21 dX1_pass_61 fun v16 => ?_)
  refine wu_jx (α := Unit) (pcJ := 78) (lJ := fun x => [(0, .ref (rid 0 1)), (1, .ref (rid 2 a1)), (2, .int a2), (5, .int v12)]) (sJ := fun x => []) (fun K17 hk17 => ?_) (fun z17 => ?_)
  · refine wg_if_eq (pc := 62) (tgt := 78) hX dX1_pass_62 (by decide) (fun h18 => ?_) (fun h18 => ?_)
    · refine wu_t h18 ?_
      refine wg_sub hX [0, 1, 2, 5] rfl ?_
      exact wu_rt (hk17 ())
    refine wu_f h18 ?_
    refine wg_aload_n (pc := 65) hX dX1_pass_65 0 rfl ?_
    refine wg_gK (pc := 66) hX hM0 fd_X1_21 (by decide) dX1_pass_66 ?_
    refine wg_iload (pc := 69) hX dX1_pass_69 5 rfl ?_
    refine wu_ (wg_rG (pc := 71) hX ar_22 (by decide) dX1_pass_71 fun r19 hnr19 => ?_)
    refine wg_aload_n (pc := 72) hX dX1_pass_72 1 rfl ?_
    refine wu_ (wg_gI (pc := 73) hX fd_X1_177 dX1_pass_73 fun v20 => ?_)
    refine wg_iconst (pc := 76) (v := 1) hX dX1_pass_76 rfl ?_
    refine wu_ (wg_wZ (pc := 77) hX ar_21 (by decide) dX1_pass_77 ?_)
    refine wg_sub hX [0, 1, 2, 5] rfl ?_
    exact wu_rt (hk17 ())
  refine wg_aload_n (pc := 78) hX dX1_pass_78 0 rfl ?_
  refine wg_gK (pc := 79) hX hM0 fd_X1_21 (by decide) dX1_pass_79 ?_
  refine wg_iload_n (pc := 82) hX dX1_pass_82 2 rfl ?_
  refine wu_ (wg_rG (pc := 83) hX ar_22 (by decide) dX1_pass_83 fun r21 hnr21 => ?_)
  refine wg_aload_n (pc := 84) hX dX1_pass_84 1 rfl ?_
  refine wu_ (wg_gI (pc := 85) hX fd_X1_177 dX1_pass_85 fun v22 => ?_)
  refine wu_ (wg_rZ (pc := 88) hX ar_21 dX1_pass_88 fun v23 => ?_)
  refine wg_if_eq (pc := 89) (tgt := 105) hX dX1_pass_89 (by decide) (fun h24 => ?_) (fun h24 => ?_)
  · refine wu_t h24 ?_
    exact wu_rt (wg_vret (pc := 105) hX rfl rfl dX1_pass_105)
  refine wu_f h24 ?_
  refine wg_aload_n (pc := 92) hX dX1_pass_92 0 rfl ?_
  refine wg_gK (pc := 93) hX hM0 fd_X1_21 (by decide) dX1_pass_93 ?_
  refine wg_iload (pc := 96) hX dX1_pass_96 3 rfl ?_
  refine wu_ (wg_rG (pc := 98) hX ar_22 (by decide) dX1_pass_98 fun r25 hnr25 => ?_)
  refine wg_aload_n (pc := 99) hX dX1_pass_99 1 rfl ?_
  refine wu_ (wg_gI (pc := 100) hX fd_X1_174 dX1_pass_100 fun v26 => ?_)
  refine wg_iconst (pc := 103) (v := 1) hX dX1_pass_103 rfl ?_
  refine wu_ (wg_wZ (pc := 104) hX ar_21 (by decide) dX1_pass_104 ?_)
  exact wu_rt (wg_vret (pc := 105) hX rfl rfl dX1_pass_105)
theorem m_X1_comeOn (a1 : Int32) (a2 : Int32) (a3 : Int32) (a4 : Int32) : amMet yX1_comeOn cX1_comeOn 9 (some .int) 4 99 encI [.ref (rid 0 1), .int a1, .int a2, .int a3, .int a4] (up (p_X1_comeOn a1 a2 a3 a4)) := by
  refine amMet.of (own := RX1) (by decide) rfl (Nat.le_of_ble_eq_true rfl) fun X hX hPs => ?_
  change WG X encI 0 [(0, .ref (rid 0 1)), (1, .int a1), (2, .int a2), (3, .int a3), (4, .int a4)] [] (bd1 (up (p_X1_comeOn a1 a2 a3 a4)) rt1)
  unfold p_X1_comeOn
  have hM0 := amPs.m0 hPs
  refine wu_ (wg_gM ?_)
  refine wg_aload_n (pc := 0) hX dX1_comeOn_0 0 rfl ?_
  refine wg_gK (pc := 1) hX hM0 fd_X1_21 (by decide) dX1_comeOn_1 ?_
  refine wg_astore (pc := 4) (l' := [(0, .ref (rid 0 1)), (1, .int a1), (2, .int a2), (3, .int a3), (4, .int a4), (5, .ref (rid 22 1))]) hX dX1_comeOn_4 (by decide) rfl ?_
  refine wg_aload (pc := 6) hX dX1_comeOn_6 5 rfl ?_
  refine wg_alen (pc := 8) (v := 601) hX ar_22 (by decide) (by decide) rfl dX1_comeOn_8 ?_
  refine wg_istore (pc := 9) (l' := [(0, .ref (rid 0 1)), (1, .int a1), (2, .int a2), (3, .int a3), (4, .int a4), (5, .ref (rid 22 1)), (6, .int 601)]) hX dX1_comeOn_9 (by decide) rfl ?_
  refine wg_iconst (pc := 11) (v := 0) hX dX1_comeOn_11 rfl ?_
  refine wg_istore (pc := 12) (l' := [(0, .ref (rid 0 1)), (1, .int a1), (2, .int a2), (3, .int a3), (4, .int a4), (5, .ref (rid 22 1)), (6, .int 601), (7, .int 0)]) hX dX1_comeOn_12 (by decide) rfl ?_
  refine wu_lpx (α := Int32) (γ := Unit) (pcl := 14) (pcT := 40) (lo := fun x => [(0, .ref (rid 0 1)), (1, .int a1), (2, .int a2), (3, .int a3), (4, .int a4), (5, .ref (rid 22 1)), (6, .int 601), (7, .int x)]) (so := fun _ => []) (lT := fun x => [(0, .ref (rid 0 1)), (1, .int a1), (2, .int a2), (3, .int a3), (4, .int a4)]) (sT := fun _ => []) (n := amFu) (x0 := 0) (fun K1 rec1 hrec1 hk1 x1 => ?_) (fun y2 => ?_)
  · unfold p_X1_comeOn_L14
    refine wg_iload (pc := 14) hX dX1_comeOn_14 7 rfl ?_
    refine wg_iload (pc := 16) hX dX1_comeOn_16 6 rfl ?_
    refine wg_icmp_ge (pc := 18) (tgt := 40) hX dX1_comeOn_18 (by decide) (fun h3 => ?_) (fun h3 => ?_)
    · refine wu_t h3 ?_
      refine wg_sub hX [0, 1, 2, 3, 4] rfl ?_
      exact wu_rt (hk1 ())
    refine wu_f h3 ?_
    refine wg_aload (pc := 21) hX dX1_comeOn_21 5 rfl ?_
    refine wg_iload (pc := 23) hX dX1_comeOn_23 7 rfl ?_
    refine wu_ (wg_rG (pc := 25) hX ar_22 (by decide) dX1_comeOn_25 fun r4 hnr4 => ?_)
    refine wg_astore (pc := 26) (l' := [(0, .ref (rid 0 1)), (1, .int a1), (2, .int a2), (3, .int a3), (4, .int a4), (5, .ref (rid 22 1)), (6, .int 601), (7, .int x1), (8, .ref (rid 21 r4))]) hX dX1_comeOn_26 (by decide) rfl ?_
    refine wg_aload (pc := 28) hX dX1_comeOn_28 8 rfl ?_
    refine wg_iconst (pc := 30) (v := 0) hX dX1_comeOn_30 rfl ?_
    refine wu_ (wg_cSv (pc := 31) (As := [.ref (rid 21 r4), .int 0]) (rest := []) hX (m_J3_fill r4 0) (lw_S q519 q520 q166 q521) hd_J3_fill rfl (Nat.le_of_ble_eq_true rfl) (Nat.le_of_ble_eq_true rfl) (Nat.le_of_ble_eq_true rfl) rfl dX1_comeOn_31 ?_)
    refine wg_iinc (pc := 34) (v := (x1 + 1)) (l' := [(0, .ref (rid 0 1)), (1, .int a1), (2, .int a2), (3, .int a3), (4, .int a4), (5, .ref (rid 22 1)), (6, .int 601), (7, .int (x1 + 1)), (8, .ref (rid 21 r4))]) hX dX1_comeOn_34 7 rfl rfl (by decide) rfl ?_
    refine wg_goto (pc := 37) (tgt := 14) hX dX1_comeOn_37 (by decide) ?_
    refine wg_sub hX [0, 1, 2, 3, 4, 5, 6, 7] rfl ?_
    exact hrec1 (x1 + 1)
  refine wg_aload_n (pc := 40) hX dX1_comeOn_40 0 rfl ?_
  refine wg_gK (pc := 41) hX hM0 fd_X1_21 (by decide) dX1_comeOn_41 ?_
  refine wg_iconst (pc := 44) (v := 0) hX dX1_comeOn_44 rfl ?_
  refine wu_ (wg_rG (pc := 45) hX ar_22 (by decide) dX1_comeOn_45 fun r5 hnr5 => ?_)
  refine wg_iload_n (pc := 46) hX dX1_comeOn_46 1 rfl ?_
  refine wg_iconst (pc := 47) (v := 1) hX dX1_comeOn_47 rfl ?_
  refine wu_ (wg_wZ (pc := 48) hX ar_21 (by decide) dX1_comeOn_48 ?_)
  refine wg_iconst (pc := 49) (v := 0) hX dX1_comeOn_49 rfl ?_
  refine wg_istore (pc := 50) (l' := [(0, .ref (rid 0 1)), (1, .int a1), (2, .int a2), (3, .int a3), (4, .int a4), (5, .int 0)]) hX dX1_comeOn_50 (by decide) rfl ?_
  refine wg_sub hX [0, 2, 3, 4, 5] rfl ?_
  refine wu_lp (α := Int32) (pcl := 52) (lo := fun x => [(0, .ref (rid 0 1)), (2, .int a2), (3, .int a3), (4, .int a4), (5, .int x)]) (so := fun _ => []) (fun rec6 hrec6 x6 => ?_) amFu 0
  unfold p_X1_comeOn_L52
  refine wg_iload (pc := 52) hX dX1_comeOn_52 4 rfl ?_
  refine wg_sipush (pc := 54) (v := 600) hX dX1_comeOn_54 rfl ?_
  refine wg_icmp_gt (pc := 57) (tgt := 130) hX dX1_comeOn_57 (by decide) (fun h7 => ?_) (fun h7 => ?_)
  · refine wu_t h7 ?_
    refine wg_iconst (pc := 130) (v := (-1)) hX dX1_comeOn_130 rfl ?_
    exact wu_rt (wg_iret (pc := 131) hX rfl rfl dX1_comeOn_131)
  refine wu_f h7 ?_
  refine wg_aload_n (pc := 60) hX dX1_comeOn_60 0 rfl ?_
  refine wg_gK (pc := 61) hX hM0 fd_X1_21 (by decide) dX1_comeOn_61 ?_
  refine wg_iload (pc := 64) hX dX1_comeOn_64 4 rfl ?_
  refine wu_ (wg_rG (pc := 66) hX ar_22 (by decide) dX1_comeOn_66 fun r8 hnr8 => ?_)
  refine wg_iload_n (pc := 67) hX dX1_comeOn_67 1 rfl ?_
  refine wu_ (wg_rZ (pc := 68) hX ar_21 dX1_comeOn_68 fun v9 => ?_)
  refine wg_if_eq (pc := 69) (tgt := 77) hX dX1_comeOn_69 (by decide) (fun h10 => ?_) (fun h10 => ?_)
  rotate_left
  · refine wu_f h10 ?_
    refine wg_iload_n (pc := 72) hX dX1_comeOn_72 2 rfl ?_
    refine wg_iload (pc := 73) hX dX1_comeOn_73 4 rfl ?_
    refine wg_iadd (pc := 75) hX dX1_comeOn_75 ?_
    exact wu_rt (wg_iret (pc := 76) hX rfl rfl dX1_comeOn_76)
  refine wu_t h10 ?_
  refine wg_iconst (pc := 77) (v := 0) hX dX1_comeOn_77 rfl ?_
  refine wg_istore (pc := 78) (l' := [(0, .ref (rid 0 1)), (2, .int a2), (3, .int a3), (4, .int a4), (5, .int x6), (6, .int 0)]) hX dX1_comeOn_78 (by decide) rfl ?_
  refine wu_lpx (α := Int32) (γ := Unit) (pcl := 80) (pcT := 124) (lo := fun x => [(0, .ref (rid 0 1)), (2, .int a2), (3, .int a3), (4, .int a4), (5, .int x6), (6, .int x)]) (so := fun _ => []) (lT := fun x => [(0, .ref (rid 0 1)), (2, .int a2), (3, .int a3), (4, .int a4), (5, .int x6)]) (sT := fun _ => []) (n := amFu) (x0 := 0) (fun K11 rec11 hrec11 hk11 x11 => ?_) (fun y12 => ?_)
  · unfold p_X1_comeOn_L80
    refine wg_iload (pc := 80) hX dX1_comeOn_80 5 rfl ?_
    refine wg_aload_n (pc := 82) hX dX1_comeOn_82 0 rfl ?_
    refine wu_ (wg_gI (pc := 83) hX fd_X1_147 dX1_comeOn_83 fun v13 => ?_)
    refine wg_icmp_ge (pc := 86) (tgt := 124) hX dX1_comeOn_86 (by decide) (fun h14 => ?_) (fun h14 => ?_)
    · refine wu_t h14 ?_
      refine wg_sub hX [0, 1, 2, 3, 4] rfl ?_
      exact wu_rt (hk11 ())
    refine wu_f h14 ?_
    refine wg_aload_n (pc := 89) hX dX1_comeOn_89 0 rfl ?_
    refine wg_gK (pc := 90) hX hM0 fd_X1_15 (by decide) dX1_comeOn_90 ?_
    refine wg_iload (pc := 93) hX dX1_comeOn_93 5 rfl ?_
    refine wu_ (wg_rR (pc := 95) hX ar_20 (by decide) dX1_comeOn_95 fun r15 => ?_)
    refine wu_ (wg_gI (pc := 96) hX fd_X1_160 dX1_comeOn_96 fun v16 => ?_)
    refine wu_jx (α := Unit) (pcJ := 118) (lJ := fun x => [(0, .ref (rid 0 1)), (2, .int a2), (3, .int a3), (4, .int a4), (5, .int x6), (6, .int x11)]) (sJ := fun x => []) (fun K17 hk17 => ?_) (fun z17 => ?_)
    · refine wg_if_ne (pc := 99) (tgt := 118) hX dX1_comeOn_99 (by decide) (fun h18 => ?_) (fun h18 => ?_)
      rotate_left
      · refine wu_f h18 ?_
        exact wu_rt (hk17 ())
      refine wu_t h18 ?_
      refine wg_aload_n (pc := 102) hX dX1_comeOn_102 0 rfl ?_
      refine wg_aload_n (pc := 103) hX dX1_comeOn_103 0 rfl ?_
      refine wg_gK (pc := 104) hX hM0 fd_X1_15 (by decide) dX1_comeOn_104 ?_
      refine wg_iload (pc := 107) hX dX1_comeOn_107 5 rfl ?_
      refine wu_ (wg_rR (pc := 109) hX ar_20 (by decide) dX1_comeOn_109 fun r19 => ?_)
      refine wg_iload (pc := 110) hX dX1_comeOn_110 4 rfl ?_
      refine wg_iload_n (pc := 112) hX dX1_comeOn_112 2 rfl ?_
      refine wg_iload (pc := 113) hX dX1_comeOn_113 3 rfl ?_
      refine wu_ (wg_cVv (pc := 115) (As := [.ref (rid 2 r19), .int x6, .int a3, .int a4]) (rest := []) hX (m_X1_pass r19 x6 a3 a4) (by decide) (by decide) (by decide) rc_X1 (lw_V q522 q524 qs3 q159 q525) hd_X1_pass rfl (Nat.le_of_ble_eq_true rfl) (Nat.le_of_ble_eq_true rfl) (Nat.le_of_ble_eq_true rfl) rfl dX1_comeOn_115 ?_)
      exact wu_rt (hk17 ())
    refine wg_iinc (pc := 118) (v := (x11 + 1)) (l' := [(0, .ref (rid 0 1)), (2, .int a2), (3, .int a3), (4, .int a4), (5, .int x6), (6, .int (x11 + 1))]) hX dX1_comeOn_118 5 rfl rfl (by decide) rfl ?_
    refine wg_goto (pc := 121) (tgt := 80) hX dX1_comeOn_121 (by decide) ?_
    exact hrec11 (x11 + 1)
  refine wg_iinc (pc := 124) (v := (x6 + 1)) (l' := [(0, .ref (rid 0 1)), (2, .int a2), (3, .int a3), (4, .int a4), (5, .int (x6 + 1))]) hX dX1_comeOn_124 4 rfl rfl (by decide) rfl ?_
  refine wg_goto (pc := 127) (tgt := 52) hX dX1_comeOn_127 (by decide) ?_
  exact hrec6 (x6 + 1)
theorem m_X1_come (a1 : Int32) (a2 : Int32) (a3 : Int32) (a4 : Int32) : amMet yX1_come cX1_come 5 (some .int) 5 127 encI [.ref (rid 0 1), .int a1, .int a2, .int a3, .int a4] (up (p_X1_come a1 a2 a3 a4)) := by
  refine amMet.of (own := RX1) (by decide) rfl (Nat.le_of_ble_eq_true rfl) fun X hX hPs => ?_
  change WG X encI 0 [(0, .ref (rid 0 1)), (1, .int a1), (2, .int a2), (3, .int a3), (4, .int a4)] [] (bd1 (up (p_X1_come a1 a2 a3 a4)) rt1)
  unfold p_X1_come
  refine wg_iload_n (pc := 0) hX dX1_come_0 1 rfl ?_
  refine wu_ (wg_cSi (pc := 1) (As := [.int a1]) (rest := []) hX (m_X1_isCorner a1) (lw_S q468 q469 q159 q470) hd_X1_isCorner rfl (Nat.le_of_ble_eq_true rfl) (Nat.le_of_ble_eq_true rfl) (Nat.le_of_ble_eq_true rfl) rfl dX1_come_1 fun v1 => ?_)
  refine wu_jn (α := Unit) (pcJ := 50) (lJ := fun x => []) (sJ := fun x => []) (fun k2 hk2 => ?_) (fun z2 => ?_)
  · refine wg_if_eq (pc := 4) (tgt := 50) hX dX1_come_4 (by decide) (fun h3 => ?_) (fun h3 => ?_)
    · refine wu_t h3 ?_
      refine wg_sub hX [] rfl ?_
      exact hk2 ()
    refine wu_f h3 ?_
    refine wg_iload_n (pc := 7) hX dX1_come_7 2 rfl ?_
    refine wu_ (wg_cSi (pc := 8) (As := [.int a2]) (rest := []) hX (m_X1_isCorner a2) (lw_S q468 q469 q159 q470) hd_X1_isCorner rfl (Nat.le_of_ble_eq_true rfl) (Nat.le_of_ble_eq_true rfl) (Nat.le_of_ble_eq_true rfl) rfl dX1_come_8 fun v4 => ?_)
    refine wg_if_eq (pc := 11) (tgt := 50) hX dX1_come_11 (by decide) (fun h5 => ?_) (fun h5 => ?_)
    · refine wu_t h5 ?_
      refine wg_sub hX [] rfl ?_
      exact hk2 ()
    refine wu_f h5 ?_
    refine wg_iload_n (pc := 14) hX dX1_come_14 3 rfl ?_
    refine wg_iconst (pc := 15) (v := 0) hX dX1_come_15 rfl ?_
    refine wg_sipush (pc := 16) (v := 30000) hX dX1_come_16 rfl ?_
    refine wu_ (wg_cSi (pc := 19) (As := [.int a3, .int 0, .int 30000]) (rest := []) hX (m_X1_in a3 0 30000) (lw_S q471 q472 q159 q473) hd_X1_in rfl (Nat.le_of_ble_eq_true rfl) (Nat.le_of_ble_eq_true rfl) (Nat.le_of_ble_eq_true rfl) rfl dX1_come_19 fun v6 => ?_)
    refine wg_if_eq (pc := 22) (tgt := 50) hX dX1_come_22 (by decide) (fun h7 => ?_) (fun h7 => ?_)
    · refine wu_t h7 ?_
      refine wg_sub hX [] rfl ?_
      exact hk2 ()
    refine wu_f h7 ?_
    refine wg_iload (pc := 25) hX dX1_come_25 4 rfl ?_
    refine wg_bipush (pc := 27) (v := 50) hX dX1_come_27 rfl ?_
    refine wg_sipush (pc := 29) (v := 300) hX dX1_come_29 rfl ?_
    refine wu_ (wg_cSi (pc := 32) (As := [.int a4, .int 50, .int 300]) (rest := []) hX (m_X1_in a4 50 300) (lw_S q471 q472 q159 q473) hd_X1_in rfl (Nat.le_of_ble_eq_true rfl) (Nat.le_of_ble_eq_true rfl) (Nat.le_of_ble_eq_true rfl) rfl dX1_come_32 fun v8 => ?_)
    refine wg_if_eq (pc := 35) (tgt := 50) hX dX1_come_35 (by decide) (fun h9 => ?_) (fun h9 => ?_)
    · refine wu_t h9 ?_
      refine wg_sub hX [] rfl ?_
      exact hk2 ()
    refine wu_f h9 ?_
    refine wg_aload_n (pc := 38) hX dX1_come_38 0 rfl ?_
    refine wg_iload_n (pc := 39) hX dX1_come_39 1 rfl ?_
    refine wg_iload_n (pc := 40) hX dX1_come_40 2 rfl ?_
    refine wg_iload_n (pc := 41) hX dX1_come_41 3 rfl ?_
    refine wg_iload (pc := 42) hX dX1_come_42 4 rfl ?_
    refine wu_ (wg_cVi (pc := 44) (As := [.int a1, .int a2, .int a3, .int a4]) (rest := []) hX (m_X1_comeOn a1 a2 a3 a4) (by decide) (by decide) (by decide) rc_X1 (lw_V q515 q517 qs2 q159 q518) hd_X1_comeOn rfl (Nat.le_of_ble_eq_true rfl) (Nat.le_of_ble_eq_true rfl) (Nat.le_of_ble_eq_true rfl) rfl dX1_come_44 fun v10 => ?_)
    refine wg_goto (pc := 47) (tgt := 51) hX dX1_come_47 (by decide) ?_
    exact wu_rt (wg_iret (pc := 51) hX rfl rfl dX1_come_51)
  refine wg_iconst (pc := 50) (v := (-1)) hX dX1_come_50 rfl ?_
  exact wu_rt (wg_iret (pc := 51) hX rfl rfl dX1_come_51)
theorem m_X1_stroll (a1 : Int32) : amMet yX1_stroll cX1_stroll 5 none 1 32 encV [.ref (rid 0 1), .int a1] (up (p_X1_stroll a1)) := by
  refine amMet.of (own := RX1) (by decide) rfl (Nat.le_of_ble_eq_true rfl) fun X hX hPs => ?_
  change WG X encV 0 [(0, .ref (rid 0 1)), (1, .int a1)] [] (bd1 (up (p_X1_stroll a1)) rt1)
  unfold p_X1_stroll
  have hM0 := amPs.m0 hPs
  refine wu_ (wg_gM ?_)
  refine wg_iconst (pc := 0) (v := 0) hX dX1_stroll_0 rfl ?_
  refine wg_istore_n (pc := 1) (l' := [(0, .ref (rid 0 1)), (1, .int a1), (2, .int 0)]) hX dX1_stroll_1 (by decide) rfl ?_
  refine wu_lpx (α := Int32) (γ := Unit) (pcl := 2) (pcT := 31) (lo := fun x => [(0, .ref (rid 0 1)), (1, .int a1), (2, .int x)]) (so := fun _ => []) (lT := fun x => [(0, .ref (rid 0 1))]) (sT := fun _ => []) (n := amFu) (x0 := 0) (fun K1 rec1 hrec1 hk1 x1 => ?_) (fun y2 => ?_)
  · unfold p_X1_stroll_L2
    refine wg_iload_n (pc := 2) hX dX1_stroll_2 2 rfl ?_
    refine wg_bipush (pc := 3) (v := 20) hX dX1_stroll_3 rfl ?_
    refine wg_icmp_ge (pc := 5) (tgt := 31) hX dX1_stroll_5 (by decide) (fun h3 => ?_) (fun h3 => ?_)
    · refine wu_t h3 ?_
      refine wg_sub hX [0] rfl ?_
      exact wu_rt (hk1 ())
    refine wu_f h3 ?_
    refine wg_aload_n (pc := 8) hX dX1_stroll_8 0 rfl ?_
    refine wg_gK (pc := 9) hX hM0 fd_X1_24 (by decide) dX1_stroll_9 ?_
    refine wg_iload_n (pc := 12) hX dX1_stroll_12 2 rfl ?_
    refine wg_iload_n (pc := 13) hX dX1_stroll_13 2 rfl ?_
    refine wg_iload_n (pc := 14) hX dX1_stroll_14 1 rfl ?_
    refine wu_jx (α := Int32) (pcJ := 24) (lJ := fun x => [(0, .ref (rid 0 1)), (1, .int a1), (2, .int x1)]) (sJ := fun x => [.int x, .int x1, .ref (rid 23 1)]) (fun K4 hk4 => ?_) (fun z4 => ?_)
    · refine wg_icmp_ne (pc := 15) (tgt := 22) hX dX1_stroll_15 (by decide) (fun h5 => ?_) (fun h5 => ?_)
      rotate_left
      · refine wu_f h5 ?_
        refine wg_ldc (pc := 22) hX dX1_stroll_22 q545 ?_
        exact wu_rt (hk4 1000000000)
      refine wu_t h5 ?_
      refine wg_iconst (pc := 18) (v := 0) hX dX1_stroll_18 rfl ?_
      refine wg_goto (pc := 19) (tgt := 24) hX dX1_stroll_19 (by decide) ?_
      exact wu_rt (hk4 0)
    refine wu_ (wg_wI (pc := 24) hX ar_23 dX1_stroll_24 ?_)
    refine wg_iinc (pc := 25) (v := (x1 + 1)) (l' := [(0, .ref (rid 0 1)), (1, .int a1), (2, .int (x1 + 1))]) hX dX1_stroll_25 2 rfl rfl (by decide) rfl ?_
    refine wg_goto (pc := 28) (tgt := 2) hX dX1_stroll_28 (by decide) ?_
    exact hrec1 (x1 + 1)
  refine wg_iconst (pc := 31) (v := 1) hX dX1_stroll_31 rfl ?_
  refine wg_istore_n (pc := 32) (l' := [(0, .ref (rid 0 1)), (2, .int 1)]) hX dX1_stroll_32 (by decide) rfl ?_
  refine wu_lpx (α := Int32) (γ := Unit) (pcl := 33) (pcT := 180) (lo := fun x => [(0, .ref (rid 0 1)), (2, .int x)]) (so := fun _ => []) (lT := fun x => []) (sT := fun _ => []) (n := amFu) (x0 := 1) (fun K6 rec6 hrec6 hk6 x6 => ?_) (fun y7 => ?_)
  · unfold p_X1_stroll_L33
    refine wg_iload_n (pc := 33) hX dX1_stroll_33 1 rfl ?_
    refine wg_if_eq (pc := 34) (tgt := 180) hX dX1_stroll_34 (by decide) (fun h8 => ?_) (fun h8 => ?_)
    · refine wu_t h8 ?_
      refine wg_sub hX [] rfl ?_
      exact wu_rt (hk6 ())
    refine wu_f h8 ?_
    refine wg_iconst (pc := 37) (v := 0) hX dX1_stroll_37 rfl ?_
    refine wg_istore_n (pc := 38) (l' := [(0, .ref (rid 0 1)), (2, .int 0)]) hX dX1_stroll_38 (by decide) rfl ?_
    refine wg_iconst (pc := 39) (v := 0) hX dX1_stroll_39 rfl ?_
    refine wg_istore_n (pc := 40) (l' := [(0, .ref (rid 0 1)), (2, .int 0), (3, .int 0)]) hX dX1_stroll_40 (by decide) rfl ?_
    refine wu_lpx (α := Int32 × Int32) (γ := Int32) (pcl := 41) (pcT := 177) (lo := fun x => [(0, .ref (rid 0 1)), (2, .int x.1), (3, .int x.2)]) (so := fun _ => []) (lT := fun x => [(0, .ref (rid 0 1)), (2, .int x)]) (sT := fun _ => []) (n := amFu) (x0 := (0, 0)) (fun K9 rec9 hrec9 hk9 x9 => ?_) (fun y10 => ?_)
    · unfold p_X1_stroll_L41
      refine wg_iload_n (pc := 41) hX dX1_stroll_41 2 rfl ?_
      refine wg_aload_n (pc := 42) hX dX1_stroll_42 0 rfl ?_
      refine wu_ (wg_gI (pc := 43) hX fd_X1_147 dX1_stroll_43 fun v11 => ?_)
      refine wg_icmp_ge (pc := 46) (tgt := 177) hX dX1_stroll_46 (by decide) (fun h12 => ?_) (fun h12 => ?_)
      · refine wu_t h12 ?_
        refine wg_sub hX [0, 1] rfl ?_
        exact wu_rt (hk9 x9.1)
      refine wu_f h12 ?_
      refine wg_aload_n (pc := 49) hX dX1_stroll_49 0 rfl ?_
      refine wg_gK (pc := 50) hX hM0 fd_X1_15 (by decide) dX1_stroll_50 ?_
      refine wg_iload_n (pc := 53) hX dX1_stroll_53 2 rfl ?_
      refine wu_ (wg_rR (pc := 54) hX ar_20 (by decide) dX1_stroll_54 fun r13 => ?_)
      refine wg_astore (pc := 55) (l' := [(0, .ref (rid 0 1)), (2, .int x9.1), (3, .int x9.2), (4, .ref (rid 2 r13))]) hX dX1_stroll_55 (by decide) rfl ?_
      refine wg_aload_n (pc := 57) hX dX1_stroll_57 0 rfl ?_
      refine wg_gK (pc := 58) hX hM0 fd_X1_24 (by decide) dX1_stroll_58 ?_
      refine wg_aload (pc := 61) hX dX1_stroll_61 3 rfl ?_
      refine wu_ (wg_gI (pc := 63) hX fd_X1_174 dX1_stroll_63 fun v14 => ?_)
      refine wu_ (wg_rI (pc := 66) hX ar_23 dX1_stroll_66 fun v15 => ?_)
      refine wg_aload (pc := 67) hX dX1_stroll_67 3 rfl ?_
      refine wu_ (wg_gI (pc := 69) hX fd_X1_189 dX1_stroll_69 fun v16 => ?_)
      refine wg_iadd (pc := 72) hX dX1_stroll_72 ?_
      refine wg_aload_n (pc := 73) hX dX1_stroll_73 0 rfl ?_
      refine wg_gK (pc := 74) hX hM0 fd_X1_24 (by decide) dX1_stroll_74 ?_
      refine wg_aload (pc := 77) hX dX1_stroll_77 3 rfl ?_
      refine wu_ (wg_gI (pc := 79) hX fd_X1_177 dX1_stroll_79 fun v17 => ?_)
      refine wu_ (wg_rI (pc := 82) hX ar_23 dX1_stroll_82 fun v18 => ?_)
      refine wu_jx (α := Int32) (pcJ := 114) (lJ := fun x => [(0, .ref (rid 0 1)), (2, .int x), (3, .int x9.2), (4, .ref (rid 2 r13))]) (sJ := fun x => []) (fun K19 hk19 => ?_) (fun z19 => ?_)
      · refine wg_icmp_ge (pc := 83) (tgt := 114) hX dX1_stroll_83 (by decide) (fun h20 => ?_) (fun h20 => ?_)
        · refine wu_t h20 ?_
          exact wu_rt (hk19 x9.1)
        refine wu_f h20 ?_
        refine wg_aload_n (pc := 86) hX dX1_stroll_86 0 rfl ?_
        refine wg_gK (pc := 87) hX hM0 fd_X1_24 (by decide) dX1_stroll_87 ?_
        refine wg_aload (pc := 90) hX dX1_stroll_90 3 rfl ?_
        refine wu_ (wg_gI (pc := 92) hX fd_X1_177 dX1_stroll_92 fun v21 => ?_)
        refine wg_aload_n (pc := 95) hX dX1_stroll_95 0 rfl ?_
        refine wg_gK (pc := 96) hX hM0 fd_X1_24 (by decide) dX1_stroll_96 ?_
        refine wg_aload (pc := 99) hX dX1_stroll_99 3 rfl ?_
        refine wu_ (wg_gI (pc := 101) hX fd_X1_174 dX1_stroll_101 fun v22 => ?_)
        refine wu_ (wg_rI (pc := 104) hX ar_23 dX1_stroll_104 fun v23 => ?_)
        refine wg_aload (pc := 105) hX dX1_stroll_105 3 rfl ?_
        refine wu_ (wg_gI (pc := 107) hX fd_X1_189 dX1_stroll_107 fun v24 => ?_)
        refine wg_iadd (pc := 110) hX dX1_stroll_110 ?_
        refine wu_ (wg_wI (pc := 111) hX ar_23 dX1_stroll_111 ?_)
        refine wg_iconst (pc := 112) (v := 1) hX dX1_stroll_112 rfl ?_
        refine wg_istore_n (pc := 113) (l' := [(0, .ref (rid 0 1)), (2, .int 1), (3, .int x9.2), (4, .ref (rid 2 r13))]) hX dX1_stroll_113 (by decide) rfl ?_
        exact wu_rt (hk19 1)
      refine wg_aload_n (pc := 114) hX dX1_stroll_114 0 rfl ?_
      refine wg_gK (pc := 115) hX hM0 fd_X1_24 (by decide) dX1_stroll_115 ?_
      refine wg_aload (pc := 118) hX dX1_stroll_118 3 rfl ?_
      refine wu_ (wg_gI (pc := 120) hX fd_X1_177 dX1_stroll_120 fun v25 => ?_)
      refine wu_ (wg_rI (pc := 123) hX ar_23 dX1_stroll_123 fun v26 => ?_)
      refine wg_aload (pc := 124) hX dX1_stroll_124 3 rfl ?_
      refine wu_ (wg_gI (pc := 126) hX fd_X1_189 dX1_stroll_126 fun v27 => ?_)
      refine wg_iadd (pc := 129) hX dX1_stroll_129 ?_
      refine wg_aload_n (pc := 130) hX dX1_stroll_130 0 rfl ?_
      refine wg_gK (pc := 131) hX hM0 fd_X1_24 (by decide) dX1_stroll_131 ?_
      refine wg_aload (pc := 134) hX dX1_stroll_134 3 rfl ?_
      refine wu_ (wg_gI (pc := 136) hX fd_X1_174 dX1_stroll_136 fun v28 => ?_)
      refine wu_ (wg_rI (pc := 139) hX ar_23 dX1_stroll_139 fun v29 => ?_)
      refine wu_jx (α := Int32) (pcJ := 171) (lJ := fun x => [(0, .ref (rid 0 1)), (2, .int x), (3, .int x9.2)]) (sJ := fun x => []) (fun K30 hk30 => ?_) (fun z30 => ?_)
      · refine wg_icmp_ge (pc := 140) (tgt := 171) hX dX1_stroll_140 (by decide) (fun h31 => ?_) (fun h31 => ?_)
        · refine wu_t h31 ?_
          refine wg_sub hX [0, 1, 2] rfl ?_
          exact wu_rt (hk30 z19)
        refine wu_f h31 ?_
        refine wg_aload_n (pc := 143) hX dX1_stroll_143 0 rfl ?_
        refine wg_gK (pc := 144) hX hM0 fd_X1_24 (by decide) dX1_stroll_144 ?_
        refine wg_aload (pc := 147) hX dX1_stroll_147 3 rfl ?_
        refine wu_ (wg_gI (pc := 149) hX fd_X1_174 dX1_stroll_149 fun v32 => ?_)
        refine wg_aload_n (pc := 152) hX dX1_stroll_152 0 rfl ?_
        refine wg_gK (pc := 153) hX hM0 fd_X1_24 (by decide) dX1_stroll_153 ?_
        refine wg_aload (pc := 156) hX dX1_stroll_156 3 rfl ?_
        refine wu_ (wg_gI (pc := 158) hX fd_X1_177 dX1_stroll_158 fun v33 => ?_)
        refine wu_ (wg_rI (pc := 161) hX ar_23 dX1_stroll_161 fun v34 => ?_)
        refine wg_aload (pc := 162) hX dX1_stroll_162 3 rfl ?_
        refine wu_ (wg_gI (pc := 164) hX fd_X1_189 dX1_stroll_164 fun v35 => ?_)
        refine wg_iadd (pc := 167) hX dX1_stroll_167 ?_
        refine wu_ (wg_wI (pc := 168) hX ar_23 dX1_stroll_168 ?_)
        refine wg_iconst (pc := 169) (v := 1) hX dX1_stroll_169 rfl ?_
        refine wg_istore_n (pc := 170) (l' := [(0, .ref (rid 0 1)), (2, .int 1), (3, .int x9.2), (4, .ref (rid 2 r13))]) hX dX1_stroll_170 (by decide) rfl ?_
        refine wg_sub hX [0, 1, 2] rfl ?_
        exact wu_rt (hk30 1)
      refine wg_iinc (pc := 171) (v := (x9.2 + 1)) (l' := [(0, .ref (rid 0 1)), (2, .int z30), (3, .int (x9.2 + 1))]) hX dX1_stroll_171 2 rfl rfl (by decide) rfl ?_
      refine wg_goto (pc := 174) (tgt := 41) hX dX1_stroll_174 (by decide) ?_
      exact hrec9 (z30, (x9.2 + 1))
    refine wg_goto (pc := 177) (tgt := 33) hX dX1_stroll_177 (by decide) ?_
    exact hrec6 y10
  exact wu_rt (wg_vret (pc := 180) hX rfl rfl dX1_stroll_180)
theorem m_X1_walkOf (a1 : Int32) (a2 : Int32) : amMet yX1_walkOf cX1_walkOf 3 (some .int) 2 56 encI [.ref (rid 0 1), .int a1, .int a2] (up (p_X1_walkOf a1 a2)) := by
  refine amMet.of (own := RX1) (by decide) rfl (Nat.le_of_ble_eq_true rfl) fun X hX hPs => ?_
  change WG X encI 0 [(0, .ref (rid 0 1)), (1, .int a1), (2, .int a2)] [] (bd1 (up (p_X1_walkOf a1 a2)) rt1)
  unfold p_X1_walkOf
  have hM0 := amPs.m0 hPs
  refine wu_ (wg_gM ?_)
  refine wg_aload_n (pc := 0) hX dX1_walkOf_0 0 rfl ?_
  refine wg_iload_n (pc := 1) hX dX1_walkOf_1 1 rfl ?_
  refine wu_ (wg_cVv (pc := 2) (As := [.int a1]) (rest := []) hX (m_X1_stroll a1) (by decide) (by decide) (by decide) rc_X1 (lw_V q541 q543 qs5 q159 q544) hd_X1_stroll rfl (Nat.le_of_ble_eq_true rfl) (Nat.le_of_ble_eq_true rfl) (Nat.le_of_ble_eq_true rfl) rfl dX1_walkOf_2 ?_)
  refine wg_aload_n (pc := 5) hX dX1_walkOf_5 0 rfl ?_
  refine wg_gK (pc := 6) hX hM0 fd_X1_24 (by decide) dX1_walkOf_6 ?_
  refine wg_iload_n (pc := 9) hX dX1_walkOf_9 2 rfl ?_
  refine wu_ (wg_rI (pc := 10) hX ar_23 dX1_walkOf_10 fun v1 => ?_)
  exact wu_rt (wg_iret (pc := 11) hX rfl rfl dX1_walkOf_11)
theorem m_X1_feet (a1 : Int32) (a2 : Int32) : amMet yX1_feet cX1_feet 4 (some .int) 3 78 encI [.ref (rid 0 1), .int a1, .int a2] (up (p_X1_feet a1 a2)) := by
  refine amMet.of (own := RX1) (by decide) rfl (Nat.le_of_ble_eq_true rfl) fun X hX hPs => ?_
  change WG X encI 0 [(0, .ref (rid 0 1)), (1, .int a1), (2, .int a2)] [] (bd1 (up (p_X1_feet a1 a2)) rt1)
  unfold p_X1_feet
  refine wg_iload_n (pc := 0) hX dX1_feet_0 1 rfl ?_
  refine wu_ (wg_cSi (pc := 1) (As := [.int a1]) (rest := []) hX (m_X1_isCorner a1) (lw_S q468 q469 q159 q470) hd_X1_isCorner rfl (Nat.le_of_ble_eq_true rfl) (Nat.le_of_ble_eq_true rfl) (Nat.le_of_ble_eq_true rfl) rfl dX1_feet_1 fun v1 => ?_)
  refine wg_if_eq (pc := 4) (tgt := 14) hX dX1_feet_4 (by decide) (fun h2 => ?_) (fun h2 => ?_)
  · refine wu_t h2 ?_
    refine wg_iconst (pc := 14) (v := (-1)) hX dX1_feet_14 rfl ?_
    exact wu_rt (wg_iret (pc := 15) hX rfl rfl dX1_feet_15)
  refine wu_f h2 ?_
  refine wg_iload_n (pc := 7) hX dX1_feet_7 2 rfl ?_
  refine wu_ (wg_cSi (pc := 8) (As := [.int a2]) (rest := []) hX (m_X1_isCorner a2) (lw_S q468 q469 q159 q470) hd_X1_isCorner rfl (Nat.le_of_ble_eq_true rfl) (Nat.le_of_ble_eq_true rfl) (Nat.le_of_ble_eq_true rfl) rfl dX1_feet_8 fun v3 => ?_)
  refine wg_if_ne (pc := 11) (tgt := 16) hX dX1_feet_11 (by decide) (fun h4 => ?_) (fun h4 => ?_)
  · refine wu_t h4 ?_
    refine wg_iconst (pc := 14) (v := (-1)) hX dX1_feet_14 rfl ?_
    exact wu_rt (wg_iret (pc := 15) hX rfl rfl dX1_feet_15)
  refine wu_f h4 ?_
  refine wg_aload_n (pc := 16) hX dX1_feet_16 0 rfl ?_
  refine wg_iload_n (pc := 17) hX dX1_feet_17 1 rfl ?_
  refine wg_iload_n (pc := 18) hX dX1_feet_18 2 rfl ?_
  refine wu_ (wg_cVi (pc := 19) (As := [.int a1, .int a2]) (rest := []) hX (m_X1_walkOf a1 a2) (by decide) (by decide) (by decide) rc_X1 (lw_V q537 q539 qs4 q159 q540) hd_X1_walkOf rfl (Nat.le_of_ble_eq_true rfl) (Nat.le_of_ble_eq_true rfl) (Nat.le_of_ble_eq_true rfl) rfl dX1_feet_19 fun v5 => ?_)
  refine wg_istore_n (pc := 22) (l' := [(0, .ref (rid 0 1)), (1, .int a1), (2, .int a2), (3, .int v5)]) hX dX1_feet_22 (by decide) rfl ?_
  refine wg_iload_n (pc := 23) hX dX1_feet_23 3 rfl ?_
  refine wg_ldc (pc := 24) hX dX1_feet_24 q545 ?_
  refine wg_icmp_ne (pc := 26) (tgt := 33) hX dX1_feet_26 (by decide) (fun h6 => ?_) (fun h6 => ?_)
  · refine wu_t h6 ?_
    refine wg_iconst (pc := 29) (v := (-1)) hX dX1_feet_29 rfl ?_
    refine wg_goto (pc := 30) (tgt := 37) hX dX1_feet_30 (by decide) ?_
    exact wu_rt (wg_iret (pc := 37) hX rfl rfl dX1_feet_37)
  refine wu_f h6 ?_
  refine wg_bipush (pc := 33) (v := 100) hX dX1_feet_33 rfl ?_
  refine wg_iload_n (pc := 35) hX dX1_feet_35 3 rfl ?_
  refine wg_imul (pc := 36) hX dX1_feet_36 ?_
  exact wu_rt (wg_iret (pc := 37) hX rfl rfl dX1_feet_37)
theorem m_X6_init (r0 : Nat) : amMet yX6_init cX6_init 1 none 1 32 encV [.ref (rid 4 r0)] (p_X6_init r0) := by
  refine amMet.ofI (own := RX6) (by decide) rfl (Nat.le_of_ble_eq_true rfl) rfl fun X hX hN => ?_
  change WG X encV 0 [(0, .ref (rid 4 r0))] [] (bd1 (p_X6_init r0) rt1)
  unfold p_X6_init
  refine wg_aload_n (pc := 0) hX dX6_init_0 0 rfl ?_
  refine wv_ (wg_gd fun h1 => ?_)
  refine wg_objI (pc := 1) hX h1 q560 q207 q208 (Nat.le_of_ble_eq_true rfl) (Nat.le_of_ble_eq_true rfl) dX6_init_1 ?_
  refine wg_aload_n (pc := 4) hX dX6_init_4 0 rfl ?_
  refine wg_bipush (pc := 5) (v := 24) hX dX6_init_5 rfl ?_
  refine wv_ (wg_nwA (pc := 7) (atype := .int) hX (by decide) (by decide) (by decide) rfl (fun _ _ h => h) aq_int (by decide) (fun _ => Nat.le_of_ble_eq_true rfl) (by decide) dX6_init_7 fun r2 => ?_)
  refine wv_ (wg_pC (pc := 9) hX fp_X6_9 (by decide) uq_4_0 rfl hN (by decide) (by first | exact Or.inl ⟨_, rfl⟩ | exact Or.inr ⟨_, rfl⟩) dX6_init_9 ?_)
  refine wg_aload_n (pc := 12) hX dX6_init_12 0 rfl ?_
  refine wg_bipush (pc := 13) (v := 24) hX dX6_init_13 rfl ?_
  refine wv_ (wg_nwA (pc := 15) (atype := .int) hX (by decide) (by decide) (by decide) rfl (fun _ _ h => h) aq_int (by decide) (fun _ => Nat.le_of_ble_eq_true rfl) (by decide) dX6_init_15 fun r3 => ?_)
  refine wv_ (wg_pC (pc := 17) hX fp_X6_15 (by decide) uq_4_1 rfl hN (by decide) (by first | exact Or.inl ⟨_, rfl⟩ | exact Or.inr ⟨_, rfl⟩) dX6_init_17 ?_)
  refine wg_aload_n (pc := 20) hX dX6_init_20 0 rfl ?_
  refine wg_bipush (pc := 21) (v := 24) hX dX6_init_21 rfl ?_
  refine wv_ (wg_nwA (pc := 23) (atype := .int) hX (by decide) (by decide) (by decide) rfl (fun _ _ h => h) aq_int (by decide) (fun _ => Nat.le_of_ble_eq_true rfl) (by decide) dX6_init_23 fun r4 => ?_)
  refine wv_ (wg_pC (pc := 25) hX fp_X6_18 (by decide) uq_4_2 rfl hN (by decide) (by first | exact Or.inl ⟨_, rfl⟩ | exact Or.inr ⟨_, rfl⟩) dX6_init_25 ?_)
  refine wg_aload_n (pc := 28) hX dX6_init_28 0 rfl ?_
  refine wg_bipush (pc := 29) (v := 6) hX dX6_init_29 rfl ?_
  refine wv_ (wg_nwA (pc := 31) (atype := .int) hX (by decide) (by decide) (by decide) rfl (fun _ _ h => h) aq_int (by decide) (fun _ => Nat.le_of_ble_eq_true rfl) (by decide) dX6_init_31 fun r5 => ?_)
  refine wv_ (wg_pC (pc := 33) hX fp_X6_21 (by decide) uq_4_3 rfl hN (by decide) (by first | exact Or.inl ⟨_, rfl⟩ | exact Or.inr ⟨_, rfl⟩) dX6_init_33 ?_)
  refine wg_aload_n (pc := 36) hX dX6_init_36 0 rfl ?_
  refine wg_bipush (pc := 37) (v := 6) hX dX6_init_37 rfl ?_
  refine wv_ (wg_nwA (pc := 39) (atype := .boolean) hX (by decide) (by decide) (by decide) rfl (fun _ _ h => h) aq_boolean (by decide) (fun _ => Nat.le_of_ble_eq_true rfl) (by decide) dX6_init_39 fun r6 => ?_)
  refine wv_ (wg_pC (pc := 41) hX fp_X6_24 (by decide) uq_4_4 rfl hN (by decide) (by first | exact Or.inl ⟨_, rfl⟩ | exact Or.inr ⟨_, rfl⟩) dX6_init_41 ?_)
  refine wg_aload_n (pc := 44) hX dX6_init_44 0 rfl ?_
  refine wg_bipush (pc := 45) (v := 24) hX dX6_init_45 rfl ?_
  refine wv_ (wg_nwA (pc := 47) (atype := .boolean) hX (by decide) (by decide) (by decide) rfl (fun _ _ h => h) aq_boolean (by decide) (fun _ => Nat.le_of_ble_eq_true rfl) (by decide) dX6_init_47 fun r7 => ?_)
  refine wv_ (wg_pC (pc := 49) hX fp_X6_28 (by decide) uq_4_5 rfl hN (by decide) (by first | exact Or.inl ⟨_, rfl⟩ | exact Or.inr ⟨_, rfl⟩) dX6_init_49 ?_)
  refine wg_aload_n (pc := 52) hX dX6_init_52 0 rfl ?_
  refine wg_bipush (pc := 53) (v := 24) hX dX6_init_53 rfl ?_
  refine wv_ (wg_nwA (pc := 55) (atype := .int) hX (by decide) (by decide) (by decide) rfl (fun _ _ h => h) aq_int (by decide) (fun _ => Nat.le_of_ble_eq_true rfl) (by decide) dX6_init_55 fun r8 => ?_)
  refine wv_ (wg_pC (pc := 57) hX fp_X6_31 (by decide) uq_4_6 rfl hN (by decide) (by first | exact Or.inl ⟨_, rfl⟩ | exact Or.inr ⟨_, rfl⟩) dX6_init_57 ?_)
  exact wv_rt (wg_vret (pc := 60) hX rfl rfl dX6_init_60)
theorem m_X5_init (r0 : Nat) (a1 : Int32) (a2 : Int32) (a3 : Int32) (a4 : Int32) (a5 : Int32) : amMet yX5_init cX5_init 6 none 2 52 encV [.ref (rid 3 r0), .int a1, .int a2, .int a3, .int a4, .int a5] (p_X5_init r0 a1 a2 a3 a4 a5) := by
  refine amMet.ofI (own := RX5) (by decide) rfl (Nat.le_of_ble_eq_true rfl) rfl fun X hX hN => ?_
  change WG X encV 0 [(0, .ref (rid 3 r0)), (1, .int a1), (2, .int a2), (3, .int a3), (4, .int a4), (5, .int a5)] [] (bd1 (p_X5_init r0 a1 a2 a3 a4 a5) rt1)
  unfold p_X5_init
  refine wg_aload_n (pc := 0) hX dX5_init_0 0 rfl ?_
  refine wv_ (wg_gd fun h1 => ?_)
  refine wg_objI (pc := 1) hX h1 q554 q207 q208 (Nat.le_of_ble_eq_true rfl) (Nat.le_of_ble_eq_true rfl) dX5_init_1 ?_
  refine wg_aload_n (pc := 4) hX dX5_init_4 0 rfl ?_
  refine wg_iconst (pc := 5) (v := 1) hX dX5_init_5 rfl ?_
  refine wv_ (wg_pI (pc := 6) hX fp_X5_9 (fun h => by cases h) dX5_init_6 ?_)
  refine wg_aload_n (pc := 9) hX dX5_init_9 0 rfl ?_
  refine wg_bipush (pc := 10) (v := 6) hX dX5_init_10 rfl ?_
  refine wv_ (wg_nwA (pc := 12) (atype := .int) hX (by decide) (by decide) (by decide) rfl (fun _ _ h => h) aq_int (by decide) (fun _ => Nat.le_of_ble_eq_true rfl) (by decide) dX5_init_12 fun r2 => ?_)
  refine wv_ (wg_pC (pc := 14) hX fp_X5_15 (by decide) uq_3_12 rfl hN (by decide) (by first | exact Or.inl ⟨_, rfl⟩ | exact Or.inr ⟨_, rfl⟩) dX5_init_14 ?_)
  refine wg_aload_n (pc := 17) hX dX5_init_17 0 rfl ?_
  refine wg_bipush (pc := 18) (v := 6) hX dX5_init_18 rfl ?_
  refine wv_ (wg_nwA (pc := 20) (atype := .int) hX (by decide) (by decide) (by decide) rfl (fun _ _ h => h) aq_int (by decide) (fun _ => Nat.le_of_ble_eq_true rfl) (by decide) dX5_init_20 fun r3 => ?_)
  refine wv_ (wg_pC (pc := 22) hX fp_X5_19 (by decide) uq_3_13 rfl hN (by decide) (by first | exact Or.inl ⟨_, rfl⟩ | exact Or.inr ⟨_, rfl⟩) dX5_init_22 ?_)
  refine wg_aload_n (pc := 25) hX dX5_init_25 0 rfl ?_
  refine wv_ (wg_nw (pc := 26) hX nw_X5_22 dX5_init_26 fun r4 => ?_)
  refine wg_dup (pc := 29) hX dX5_init_29 rfl ?_
  refine wv_ (wg_gd fun h5 => ?_)
  refine wv_ (wg_cINv (pc := 30) (As := []) (rest := [.ref (rid 4 r4), .ref (rid 3 r0)]) hX (m_X6_init r4) h5 rfl q557 q558 q168 q559 hd_X6_init rfl (Nat.le_of_ble_eq_true rfl) (Nat.le_of_ble_eq_true rfl) (Nat.le_of_ble_eq_true rfl) rfl dX5_init_30 ?_)
  refine wv_ (wg_pC (pc := 33) hX fp_X5_25 (by decide) uq_3_14 rfl hN (by decide) (by first | exact Or.inl ⟨_, rfl⟩ | exact Or.inr ⟨_, rfl⟩) dX5_init_33 ?_)
  refine wg_aload_n (pc := 36) hX dX5_init_36 0 rfl ?_
  refine wv_ (wg_nw (pc := 37) hX nw_X5_22 dX5_init_37 fun r6 => ?_)
  refine wg_dup (pc := 40) hX dX5_init_40 rfl ?_
  refine wv_ (wg_gd fun h7 => ?_)
  refine wv_ (wg_cINv (pc := 41) (As := []) (rest := [.ref (rid 4 r6), .ref (rid 3 r0)]) hX (m_X6_init r6) h7 rfl q557 q558 q168 q559 hd_X6_init rfl (Nat.le_of_ble_eq_true rfl) (Nat.le_of_ble_eq_true rfl) (Nat.le_of_ble_eq_true rfl) rfl dX5_init_41 ?_)
  refine wv_ (wg_pC (pc := 44) hX fp_X5_29 (by decide) uq_3_15 rfl hN (by decide) (by first | exact Or.inl ⟨_, rfl⟩ | exact Or.inr ⟨_, rfl⟩) dX5_init_44 ?_)
  refine wg_aload_n (pc := 47) hX dX5_init_47 0 rfl ?_
  refine wg_iload_n (pc := 48) hX dX5_init_48 1 rfl ?_
  refine wv_ (wg_pI (pc := 49) hX fp_X5_32 (fun _ => hN) dX5_init_49 ?_)
  refine wg_aload_n (pc := 52) hX dX5_init_52 0 rfl ?_
  refine wg_iload_n (pc := 53) hX dX5_init_53 2 rfl ?_
  refine wv_ (wg_pI (pc := 54) hX fp_X5_35 (fun _ => hN) dX5_init_54 ?_)
  refine wg_aload_n (pc := 57) hX dX5_init_57 0 rfl ?_
  refine wg_iload_n (pc := 58) hX dX5_init_58 3 rfl ?_
  refine wv_ (wg_pI (pc := 59) hX fp_X5_38 (fun _ => hN) dX5_init_59 ?_)
  refine wg_aload_n (pc := 62) hX dX5_init_62 0 rfl ?_
  refine wg_iload (pc := 63) hX dX5_init_63 4 rfl ?_
  refine wv_ (wg_pI (pc := 65) hX fp_X5_41 (fun _ => hN) dX5_init_65 ?_)
  refine wg_aload_n (pc := 68) hX dX5_init_68 0 rfl ?_
  refine wg_iload (pc := 69) hX dX5_init_69 5 rfl ?_
  refine wv_ (wg_pI (pc := 71) hX fp_X5_44 (fun _ => hN) dX5_init_71 ?_)
  exact wv_rt (wg_vret (pc := 74) hX rfl rfl dX5_init_74)
theorem m_X1_house (a1 : Int32) (a2 : Int32) (a3 : Int32) (a4 : Int32) (a5 : Int32) : amMet yX1_house cX1_house 6 (some .int) 3 77 encI [.ref (rid 0 1), .int a1, .int a2, .int a3, .int a4, .int a5] (p_X1_house a1 a2 a3 a4 a5) := by
  refine amMet.of (own := RX1) (by decide) rfl (Nat.le_of_ble_eq_true rfl) fun X hX hPs => ?_
  change WG X encI 0 [(0, .ref (rid 0 1)), (1, .int a1), (2, .int a2), (3, .int a3), (4, .int a4), (5, .int a5)] [] (bd1 (p_X1_house a1 a2 a3 a4 a5) rt1)
  unfold p_X1_house
  have hM0 := amPs.m1 hPs
  refine wv_ (wg_gM ?_)
  refine wg_iload_n (pc := 0) hX dX1_house_0 1 rfl ?_
  refine wv_ (wg_cSi (pc := 1) (As := [.int a1]) (rest := []) hX (m_X1_isCorner a1) (lw_S q468 q469 q159 q470) hd_X1_isCorner rfl (Nat.le_of_ble_eq_true rfl) (Nat.le_of_ble_eq_true rfl) (Nat.le_of_ble_eq_true rfl) rfl dX1_house_1 fun v1 => ?_)
  refine wg_if_eq (pc := 4) (tgt := 58) hX dX1_house_4 (by decide) (fun h2 => ?_) (fun h2 => ?_)
  · refine wv_t h2 ?_
    refine wg_iconst (pc := 58) (v := (-1)) hX dX1_house_58 rfl ?_
    exact wv_rt (wg_iret (pc := 59) hX rfl rfl dX1_house_59)
  refine wv_f h2 ?_
  refine wg_iload_n (pc := 7) hX dX1_house_7 2 rfl ?_
  refine wg_iconst (pc := 8) (v := 0) hX dX1_house_8 rfl ?_
  refine wg_iconst (pc := 9) (v := 2) hX dX1_house_9 rfl ?_
  refine wv_ (wg_cSi (pc := 10) (As := [.int a2, .int 0, .int 2]) (rest := []) hX (m_X1_in a2 0 2) (lw_S q471 q472 q159 q473) hd_X1_in rfl (Nat.le_of_ble_eq_true rfl) (Nat.le_of_ble_eq_true rfl) (Nat.le_of_ble_eq_true rfl) rfl dX1_house_10 fun v3 => ?_)
  refine wg_if_eq (pc := 13) (tgt := 58) hX dX1_house_13 (by decide) (fun h4 => ?_) (fun h4 => ?_)
  · refine wv_t h4 ?_
    refine wg_iconst (pc := 58) (v := (-1)) hX dX1_house_58 rfl ?_
    exact wv_rt (wg_iret (pc := 59) hX rfl rfl dX1_house_59)
  refine wv_f h4 ?_
  refine wg_iload_n (pc := 16) hX dX1_house_16 3 rfl ?_
  refine wg_iconst (pc := 17) (v := 1) hX dX1_house_17 rfl ?_
  refine wg_bipush (pc := 18) (v := 6) hX dX1_house_18 rfl ?_
  refine wv_ (wg_cSi (pc := 20) (As := [.int a3, .int 1, .int 6]) (rest := []) hX (m_X1_in a3 1 6) (lw_S q471 q472 q159 q473) hd_X1_in rfl (Nat.le_of_ble_eq_true rfl) (Nat.le_of_ble_eq_true rfl) (Nat.le_of_ble_eq_true rfl) rfl dX1_house_20 fun v5 => ?_)
  refine wg_if_eq (pc := 23) (tgt := 58) hX dX1_house_23 (by decide) (fun h6 => ?_) (fun h6 => ?_)
  · refine wv_t h6 ?_
    refine wg_iconst (pc := 58) (v := (-1)) hX dX1_house_58 rfl ?_
    exact wv_rt (wg_iret (pc := 59) hX rfl rfl dX1_house_59)
  refine wv_f h6 ?_
  refine wg_iload (pc := 26) hX dX1_house_26 4 rfl ?_
  refine wg_iconst (pc := 28) (v := 1) hX dX1_house_28 rfl ?_
  refine wg_iconst (pc := 29) (v := 4) hX dX1_house_29 rfl ?_
  refine wv_ (wg_cSi (pc := 30) (As := [.int a4, .int 1, .int 4]) (rest := []) hX (m_X1_in a4 1 4) (lw_S q471 q472 q159 q473) hd_X1_in rfl (Nat.le_of_ble_eq_true rfl) (Nat.le_of_ble_eq_true rfl) (Nat.le_of_ble_eq_true rfl) rfl dX1_house_30 fun v7 => ?_)
  refine wg_if_eq (pc := 33) (tgt := 58) hX dX1_house_33 (by decide) (fun h8 => ?_) (fun h8 => ?_)
  · refine wv_t h8 ?_
    refine wg_iconst (pc := 58) (v := (-1)) hX dX1_house_58 rfl ?_
    exact wv_rt (wg_iret (pc := 59) hX rfl rfl dX1_house_59)
  refine wv_f h8 ?_
  refine wg_iload (pc := 36) hX dX1_house_36 5 rfl ?_
  refine wg_iconst (pc := 38) (v := (-1)) hX dX1_house_38 rfl ?_
  refine wg_iload (pc := 39) hX dX1_house_39 4 rfl ?_
  refine wg_iconst (pc := 41) (v := 1) hX dX1_house_41 rfl ?_
  refine wg_isub (pc := 42) hX dX1_house_42 ?_
  refine wv_ (wg_cSi (pc := 43) (As := [.int a5, .int (-1), .int (a4 - 1)]) (rest := []) hX (m_X1_in a5 (-1) (a4 - 1)) (lw_S q471 q472 q159 q473) hd_X1_in rfl (Nat.le_of_ble_eq_true rfl) (Nat.le_of_ble_eq_true rfl) (Nat.le_of_ble_eq_true rfl) rfl dX1_house_43 fun v9 => ?_)
  refine wg_if_eq (pc := 46) (tgt := 58) hX dX1_house_46 (by decide) (fun h10 => ?_) (fun h10 => ?_)
  · refine wv_t h10 ?_
    refine wg_iconst (pc := 58) (v := (-1)) hX dX1_house_58 rfl ?_
    exact wv_rt (wg_iret (pc := 59) hX rfl rfl dX1_house_59)
  refine wv_f h10 ?_
  refine wg_aload_n (pc := 49) hX dX1_house_49 0 rfl ?_
  refine wv_ (wg_gI (pc := 50) hX fd_X1_199 dX1_house_50 fun v11 => ?_)
  refine wg_bipush (pc := 53) (v := 12) hX dX1_house_53 rfl ?_
  refine wg_icmp_ne (pc := 55) (tgt := 60) hX dX1_house_55 (by decide) (fun h12 => ?_) (fun h12 => ?_)
  · refine wv_t h12 ?_
    refine wg_iconst (pc := 58) (v := (-1)) hX dX1_house_58 rfl ?_
    exact wv_rt (wg_iret (pc := 59) hX rfl rfl dX1_house_59)
  refine wv_f h12 ?_
  refine wg_aload_n (pc := 60) hX dX1_house_60 0 rfl ?_
  refine wg_gK (pc := 61) hX hM0 fd_X1_30 (by decide) dX1_house_61 ?_
  refine wg_aload_n (pc := 64) hX dX1_house_64 0 rfl ?_
  refine wv_ (wg_gI (pc := 65) hX fd_X1_199 dX1_house_65 fun v13 => ?_)
  refine wv_ (wg_nw (pc := 68) hX nw_X1_28 dX1_house_68 fun r14 => ?_)
  refine wg_dup (pc := 71) hX dX1_house_71 rfl ?_
  refine wg_iload_n (pc := 72) hX dX1_house_72 1 rfl ?_
  refine wg_iload_n (pc := 73) hX dX1_house_73 2 rfl ?_
  refine wg_iload_n (pc := 74) hX dX1_house_74 3 rfl ?_
  refine wg_iload (pc := 75) hX dX1_house_75 4 rfl ?_
  refine wg_iload (pc := 77) hX dX1_house_77 5 rfl ?_
  refine wv_ (wg_gd fun h15 => ?_)
  refine wv_ (wg_cIv (pc := 79) (As := [.int a1, .int a2, .int a3, .int a4, .int a5]) (rest := [.ref (rid 3 r14), .int v13, .ref (rid 24 1)]) hX (m_X5_init r14 a1 a2 a3 a4 a5) h15 rfl q551 q552 q167 q553 hd_X5_init rfl (Nat.le_of_ble_eq_true rfl) (Nat.le_of_ble_eq_true rfl) (Nat.le_of_ble_eq_true rfl) rfl dX1_house_79 ?_)
  refine wv_ (wg_wR (pc := 82) hX ar_24 el_24 dX1_house_82 ?_)
  refine wg_aload_n (pc := 83) hX dX1_house_83 0 rfl ?_
  refine wg_dup (pc := 84) hX dX1_house_84 rfl ?_
  refine wv_ (wg_gI (pc := 85) hX fd_X1_199 dX1_house_85 fun v16 => ?_)
  refine wg_iconst (pc := 88) (v := 1) hX dX1_house_88 rfl ?_
  refine wg_iadd (pc := 89) hX dX1_house_89 ?_
  refine wv_ (wg_pI (pc := 90) hX fp_X1_199 (fun h => by cases h) dX1_house_90 ?_)
  refine wg_aload_n (pc := 93) hX dX1_house_93 0 rfl ?_
  refine wv_ (wg_gI (pc := 94) hX fd_X1_199 dX1_house_94 fun v17 => ?_)
  refine wg_iconst (pc := 97) (v := 1) hX dX1_house_97 rfl ?_
  refine wg_isub (pc := 98) hX dX1_house_98 ?_
  exact wv_rt (wg_iret (pc := 99) hX rfl rfl dX1_house_99)
theorem m_X1_isHouse (a1 : Int32) : amMet yX1_isHouse cX1_isHouse 2 (some .boolean) 2 54 encI [.ref (rid 0 1), .int a1] (up (p_X1_isHouse a1)) := by
  refine amMet.of (own := RX1) (by decide) rfl (Nat.le_of_ble_eq_true rfl) fun X hX hPs => ?_
  change WG X encI 0 [(0, .ref (rid 0 1)), (1, .int a1)] [] (bd1 (up (p_X1_isHouse a1)) rt1)
  unfold p_X1_isHouse
  refine wg_iload_n (pc := 0) hX dX1_isHouse_0 1 rfl ?_
  refine wg_iconst (pc := 1) (v := 0) hX dX1_isHouse_1 rfl ?_
  refine wg_aload_n (pc := 2) hX dX1_isHouse_2 0 rfl ?_
  refine wu_ (wg_gI (pc := 3) hX fd_X1_199 dX1_isHouse_3 fun v1 => ?_)
  refine wg_iconst (pc := 6) (v := 1) hX dX1_isHouse_6 rfl ?_
  refine wg_isub (pc := 7) hX dX1_isHouse_7 ?_
  refine wu_ (wg_cSi (pc := 8) (As := [.int a1, .int 0, .int (v1 - 1)]) (rest := []) hX (m_X1_in a1 0 (v1 - 1)) (lw_S q471 q472 q159 q473) hd_X1_in rfl (Nat.le_of_ble_eq_true rfl) (Nat.le_of_ble_eq_true rfl) (Nat.le_of_ble_eq_true rfl) rfl dX1_isHouse_8 fun v2 => ?_)
  refine wu_ (wg_gd fun h3 => ?_)
  exact wu_rt (wg_zret (pc := 11) hX rfl h3 rfl dX1_isHouse_11)
theorem m_X1_build (a1 : Int32) (a2 : Int32) (a3 : Int32) (a4 : Int32) : amMet yX1_build cX1_build 5 (some .boolean) 3 75 encI [.ref (rid 0 1), .int a1, .int a2, .int a3, .int a4] (up (p_X1_build a1 a2 a3 a4)) := by
  refine amMet.of (own := RX1) (by decide) rfl (Nat.le_of_ble_eq_true rfl) fun X hX hPs => ?_
  change WG X encI 0 [(0, .ref (rid 0 1)), (1, .int a1), (2, .int a2), (3, .int a3), (4, .int a4)] [] (bd1 (up (p_X1_build a1 a2 a3 a4)) rt1)
  unfold p_X1_build
  have hM0 := amPs.m0 hPs
  refine wu_ (wg_gM ?_)
  refine wg_aload_n (pc := 0) hX dX1_build_0 0 rfl ?_
  refine wg_iload_n (pc := 1) hX dX1_build_1 1 rfl ?_
  refine wu_ (wg_cVi (pc := 2) (As := [.int a1]) (rest := []) hX (m_X1_isHouse a1) (by decide) (by decide) (by decide) rc_X1 (lw_V q657 q659 qs6 q159 q660) hd_X1_isHouse rfl (Nat.le_of_ble_eq_true rfl) (Nat.le_of_ble_eq_true rfl) (Nat.le_of_ble_eq_true rfl) rfl dX1_build_2 fun v1 => ?_)
  refine wg_if_eq (pc := 5) (tgt := 29) hX dX1_build_5 (by decide) (fun h2 => ?_) (fun h2 => ?_)
  · refine wu_t h2 ?_
    refine wg_iconst (pc := 29) (v := 0) hX dX1_build_29 rfl ?_
    exact wu_rt (wg_zret (pc := 30) hX rfl (by decide) rfl dX1_build_30)
  refine wu_f h2 ?_
  refine wg_iload_n (pc := 8) hX dX1_build_8 3 rfl ?_
  refine wg_iconst (pc := 9) (v := 0) hX dX1_build_9 rfl ?_
  refine wg_iconst (pc := 10) (v := 3) hX dX1_build_10 rfl ?_
  refine wu_ (wg_cSi (pc := 11) (As := [.int a3, .int 0, .int 3]) (rest := []) hX (m_X1_in a3 0 3) (lw_S q471 q472 q159 q473) hd_X1_in rfl (Nat.le_of_ble_eq_true rfl) (Nat.le_of_ble_eq_true rfl) (Nat.le_of_ble_eq_true rfl) rfl dX1_build_11 fun v3 => ?_)
  refine wg_if_eq (pc := 14) (tgt := 29) hX dX1_build_14 (by decide) (fun h4 => ?_) (fun h4 => ?_)
  · refine wu_t h4 ?_
    refine wg_iconst (pc := 29) (v := 0) hX dX1_build_29 rfl ?_
    exact wu_rt (wg_zret (pc := 30) hX rfl (by decide) rfl dX1_build_30)
  refine wu_f h4 ?_
  refine wg_iload (pc := 17) hX dX1_build_17 4 rfl ?_
  refine wg_iconst (pc := 19) (v := 1) hX dX1_build_19 rfl ?_
  refine wg_sipush (pc := 20) (v := 200) hX dX1_build_20 rfl ?_
  refine wu_ (wg_cSi (pc := 23) (As := [.int a4, .int 1, .int 200]) (rest := []) hX (m_X1_in a4 1 200) (lw_S q471 q472 q159 q473) hd_X1_in rfl (Nat.le_of_ble_eq_true rfl) (Nat.le_of_ble_eq_true rfl) (Nat.le_of_ble_eq_true rfl) rfl dX1_build_23 fun v5 => ?_)
  refine wg_if_ne (pc := 26) (tgt := 31) hX dX1_build_26 (by decide) (fun h6 => ?_) (fun h6 => ?_)
  · refine wu_t h6 ?_
    refine wg_iconst (pc := 29) (v := 0) hX dX1_build_29 rfl ?_
    exact wu_rt (wg_zret (pc := 30) hX rfl (by decide) rfl dX1_build_30)
  refine wu_f h6 ?_
  refine wg_aload_n (pc := 31) hX dX1_build_31 0 rfl ?_
  refine wg_gK (pc := 32) hX hM0 fd_X1_30 (by decide) dX1_build_32 ?_
  refine wg_iload_n (pc := 35) hX dX1_build_35 1 rfl ?_
  refine wu_ (wg_rR (pc := 36) hX ar_24 (by decide) dX1_build_36 fun r7 => ?_)
  refine wg_iload_n (pc := 37) hX dX1_build_37 2 rfl ?_
  refine wu_ (wg_gd fun h8 => ?_)
  refine wu_ (wg_pZ (pc := 38) hX fp_X1_215 (fun h => by cases h) h8 dX1_build_38 ?_)
  refine wg_aload_n (pc := 41) hX dX1_build_41 0 rfl ?_
  refine wg_gK (pc := 42) hX hM0 fd_X1_30 (by decide) dX1_build_42 ?_
  refine wg_iload_n (pc := 45) hX dX1_build_45 1 rfl ?_
  refine wu_ (wg_rR (pc := 46) hX ar_24 (by decide) dX1_build_46 fun r9 => ?_)
  refine wg_iload_n (pc := 47) hX dX1_build_47 3 rfl ?_
  refine wu_ (wg_pI (pc := 48) hX fp_X1_218 (fun h => by cases h) dX1_build_48 ?_)
  refine wg_aload_n (pc := 51) hX dX1_build_51 0 rfl ?_
  refine wg_gK (pc := 52) hX hM0 fd_X1_30 (by decide) dX1_build_52 ?_
  refine wg_iload_n (pc := 55) hX dX1_build_55 1 rfl ?_
  refine wu_ (wg_rR (pc := 56) hX ar_24 (by decide) dX1_build_56 fun r10 => ?_)
  refine wg_iload (pc := 57) hX dX1_build_57 4 rfl ?_
  refine wu_ (wg_pI (pc := 59) hX fp_X1_221 (fun h => by cases h) dX1_build_59 ?_)
  refine wg_iconst (pc := 62) (v := 1) hX dX1_build_62 rfl ?_
  exact wu_rt (wg_zret (pc := 63) hX rfl (by decide) rfl dX1_build_63)
theorem m_X1_changesOf (a1 : Int32) : amMet yX1_changesOf cX1_changesOf 4 (some .int) 1 32 encI [.ref (rid 0 1), .int a1] (up (p_X1_changesOf a1)) := by
  refine amMet.of (own := RX1) (by decide) rfl (Nat.le_of_ble_eq_true rfl) fun X hX hPs => ?_
  change WG X encI 0 [(0, .ref (rid 0 1)), (1, .int a1)] [] (bd1 (up (p_X1_changesOf a1)) rt1)
  unfold p_X1_changesOf
  have hM0 := amPs.m0 hPs
  refine wu_ (wg_gM ?_)
  refine wg_iconst (pc := 0) (v := 0) hX dX1_changesOf_0 rfl ?_
  refine wg_istore_n (pc := 1) (l' := [(0, .ref (rid 0 1)), (1, .int a1), (2, .int 0)]) hX dX1_changesOf_1 (by decide) rfl ?_
  refine wg_iconst (pc := 2) (v := 0) hX dX1_changesOf_2 rfl ?_
  refine wg_istore_n (pc := 3) (l' := [(0, .ref (rid 0 1)), (1, .int a1), (2, .int 0), (3, .int 0)]) hX dX1_changesOf_3 (by decide) rfl ?_
  refine wu_lpx (α := Int32 × Int32) (γ := Int32) (pcl := 4) (pcT := 41) (lo := fun x => [(0, .ref (rid 0 1)), (1, .int a1), (2, .int x.1), (3, .int x.2)]) (so := fun _ => []) (lT := fun x => [(2, .int x)]) (sT := fun _ => []) (n := amFu) (x0 := (0, 0)) (fun K1 rec1 hrec1 hk1 x1 => ?_) (fun y2 => ?_)
  · unfold p_X1_changesOf_L4
    refine wg_iload_n (pc := 4) hX dX1_changesOf_4 3 rfl ?_
    refine wg_aload_n (pc := 5) hX dX1_changesOf_5 0 rfl ?_
    refine wu_ (wg_gI (pc := 6) hX fd_X1_755 dX1_changesOf_6 fun v3 => ?_)
    refine wg_icmp_ge (pc := 9) (tgt := 41) hX dX1_changesOf_9 (by decide) (fun h4 => ?_) (fun h4 => ?_)
    · refine wu_t h4 ?_
      refine wg_sub hX [2] rfl ?_
      exact wu_rt (hk1 x1.1)
    refine wu_f h4 ?_
    refine wg_aload_n (pc := 12) hX dX1_changesOf_12 0 rfl ?_
    refine wg_gK (pc := 13) hX hM0 fd_X1_93 (by decide) dX1_changesOf_13 ?_
    refine wg_iload_n (pc := 16) hX dX1_changesOf_16 3 rfl ?_
    refine wu_ (wg_rI (pc := 17) hX ar_38 dX1_changesOf_17 fun v5 => ?_)
    refine wg_iload_n (pc := 18) hX dX1_changesOf_18 1 rfl ?_
    refine wu_jx (α := Int32) (pcJ := 35) (lJ := fun x => [(0, .ref (rid 0 1)), (1, .int a1), (2, .int x), (3, .int x1.2)]) (sJ := fun x => []) (fun K6 hk6 => ?_) (fun z6 => ?_)
    · refine wg_icmp_ne (pc := 19) (tgt := 35) hX dX1_changesOf_19 (by decide) (fun h7 => ?_) (fun h7 => ?_)
      rotate_left
      · refine wu_f h7 ?_
        exact wu_rt (hk6 x1.1)
      refine wu_t h7 ?_
      refine wg_aload_n (pc := 22) hX dX1_changesOf_22 0 rfl ?_
      refine wg_gK (pc := 23) hX hM0 fd_X1_96 (by decide) dX1_changesOf_23 ?_
      refine wg_iload_n (pc := 26) hX dX1_changesOf_26 3 rfl ?_
      refine wu_ (wg_rI (pc := 27) hX ar_39 dX1_changesOf_27 fun v8 => ?_)
      refine wg_iconst (pc := 28) (v := (-1)) hX dX1_changesOf_28 rfl ?_
      refine wg_icmp_eq (pc := 29) (tgt := 35) hX dX1_changesOf_29 (by decide) (fun h9 => ?_) (fun h9 => ?_)
      · refine wu_t h9 ?_
        exact wu_rt (hk6 x1.1)
      refine wu_f h9 ?_
      refine wg_iinc (pc := 32) (v := (x1.1 + 1)) (l' := [(0, .ref (rid 0 1)), (1, .int a1), (2, .int (x1.1 + 1)), (3, .int x1.2)]) hX dX1_changesOf_32 2 rfl rfl (by decide) rfl ?_
      exact wu_rt (hk6 (x1.1 + 1))
    refine wg_iinc (pc := 35) (v := (x1.2 + 1)) (l' := [(0, .ref (rid 0 1)), (1, .int a1), (2, .int z6), (3, .int (x1.2 + 1))]) hX dX1_changesOf_35 3 rfl rfl (by decide) rfl ?_
    refine wg_goto (pc := 38) (tgt := 4) hX dX1_changesOf_38 (by decide) ?_
    exact hrec1 (z6, (x1.2 + 1))
  refine wg_iload_n (pc := 41) hX dX1_changesOf_41 0 rfl ?_
  exact wu_rt (wg_iret (pc := 42) hX rfl rfl dX1_changesOf_42)
theorem m_X1_use (a1 : Int32) (a2 : Int32) : amMet yX1_use cX1_use 3 (some .boolean) 3 75 encI [.ref (rid 0 1), .int a1, .int a2] (up (p_X1_use a1 a2)) := by
  refine amMet.of (own := RX1) (by decide) rfl (Nat.le_of_ble_eq_true rfl) fun X hX hPs => ?_
  change WG X encI 0 [(0, .ref (rid 0 1)), (1, .int a1), (2, .int a2)] [] (bd1 (up (p_X1_use a1 a2)) rt1)
  unfold p_X1_use
  have hM0 := amPs.m0 hPs
  refine wu_ (wg_gM ?_)
  refine wg_aload_n (pc := 0) hX dX1_use_0 0 rfl ?_
  refine wg_iload_n (pc := 1) hX dX1_use_1 1 rfl ?_
  refine wu_ (wg_cVi (pc := 2) (As := [.int a1]) (rest := []) hX (m_X1_isHouse a1) (by decide) (by decide) (by decide) rc_X1 (lw_V q657 q659 qs6 q159 q660) hd_X1_isHouse rfl (Nat.le_of_ble_eq_true rfl) (Nat.le_of_ble_eq_true rfl) (Nat.le_of_ble_eq_true rfl) rfl dX1_use_2 fun v1 => ?_)
  refine wg_if_eq (pc := 5) (tgt := 26) hX dX1_use_5 (by decide) (fun h2 => ?_) (fun h2 => ?_)
  · refine wu_t h2 ?_
    refine wg_iconst (pc := 26) (v := 0) hX dX1_use_26 rfl ?_
    exact wu_rt (wg_zret (pc := 27) hX rfl (by decide) rfl dX1_use_27)
  refine wu_f h2 ?_
  refine wg_iload_n (pc := 8) hX dX1_use_8 2 rfl ?_
  refine wg_iconst (pc := 9) (v := 0) hX dX1_use_9 rfl ?_
  refine wg_bipush (pc := 10) (v := 9) hX dX1_use_10 rfl ?_
  refine wu_ (wg_cSi (pc := 12) (As := [.int a2, .int 0, .int 9]) (rest := []) hX (m_X1_in a2 0 9) (lw_S q471 q472 q159 q473) hd_X1_in rfl (Nat.le_of_ble_eq_true rfl) (Nat.le_of_ble_eq_true rfl) (Nat.le_of_ble_eq_true rfl) rfl dX1_use_12 fun v3 => ?_)
  refine wg_if_eq (pc := 15) (tgt := 26) hX dX1_use_15 (by decide) (fun h4 => ?_) (fun h4 => ?_)
  · refine wu_t h4 ?_
    refine wg_iconst (pc := 26) (v := 0) hX dX1_use_26 rfl ?_
    exact wu_rt (wg_zret (pc := 27) hX rfl (by decide) rfl dX1_use_27)
  refine wu_f h4 ?_
  refine wg_aload_n (pc := 18) hX dX1_use_18 0 rfl ?_
  refine wg_iload_n (pc := 19) hX dX1_use_19 1 rfl ?_
  refine wu_ (wg_cVi (pc := 20) (As := [.int a1]) (rest := []) hX (m_X1_changesOf a1) (by decide) (by decide) (by decide) rc_X1 (lw_V q665 q667 qs7 q159 q668) hd_X1_changesOf rfl (Nat.le_of_ble_eq_true rfl) (Nat.le_of_ble_eq_true rfl) (Nat.le_of_ble_eq_true rfl) rfl dX1_use_20 fun v5 => ?_)
  refine wg_if_le (pc := 23) (tgt := 28) hX dX1_use_23 (by decide) (fun h6 => ?_) (fun h6 => ?_)
  rotate_left
  · refine wu_f h6 ?_
    refine wg_iconst (pc := 26) (v := 0) hX dX1_use_26 rfl ?_
    exact wu_rt (wg_zret (pc := 27) hX rfl (by decide) rfl dX1_use_27)
  refine wu_t h6 ?_
  refine wg_aload_n (pc := 28) hX dX1_use_28 0 rfl ?_
  refine wg_gK (pc := 29) hX hM0 fd_X1_30 (by decide) dX1_use_29 ?_
  refine wg_iload_n (pc := 32) hX dX1_use_32 1 rfl ?_
  refine wu_ (wg_rR (pc := 33) hX ar_24 (by decide) dX1_use_33 fun r7 => ?_)
  refine wg_iload_n (pc := 34) hX dX1_use_34 2 rfl ?_
  refine wu_ (wg_pI (pc := 35) hX fp_X1_228 (fun h => by cases h) dX1_use_35 ?_)
  refine wg_iconst (pc := 38) (v := 1) hX dX1_use_38 rfl ?_
  exact wu_rt (wg_zret (pc := 39) hX rfl (by decide) rfl dX1_use_39)
theorem m_X1_isFloor (a1 : Int32) (a2 : Int32) : amMet yX1_isFloor cX1_isFloor 3 (some .boolean) 3 75 encI [.ref (rid 0 1), .int a1, .int a2] (up (p_X1_isFloor a1 a2)) := by
  refine amMet.of (own := RX1) (by decide) rfl (Nat.le_of_ble_eq_true rfl) fun X hX hPs => ?_
  change WG X encI 0 [(0, .ref (rid 0 1)), (1, .int a1), (2, .int a2)] [] (bd1 (up (p_X1_isFloor a1 a2)) rt1)
  unfold p_X1_isFloor
  have hM0 := amPs.m0 hPs
  refine wu_ (wg_gM ?_)
  refine wg_aload_n (pc := 0) hX dX1_isFloor_0 0 rfl ?_
  refine wg_iload_n (pc := 1) hX dX1_isFloor_1 1 rfl ?_
  refine wu_ (wg_cVi (pc := 2) (As := [.int a1]) (rest := []) hX (m_X1_isHouse a1) (by decide) (by decide) (by decide) rc_X1 (lw_V q657 q659 qs6 q159 q660) hd_X1_isHouse rfl (Nat.le_of_ble_eq_true rfl) (Nat.le_of_ble_eq_true rfl) (Nat.le_of_ble_eq_true rfl) rfl dX1_isFloor_2 fun v1 => ?_)
  refine wu_jn (α := Unit) (pcJ := 31) (lJ := fun x => []) (sJ := fun x => []) (fun k2 hk2 => ?_) (fun z2 => ?_)
  · refine wg_if_eq (pc := 5) (tgt := 31) hX dX1_isFloor_5 (by decide) (fun h3 => ?_) (fun h3 => ?_)
    · refine wu_t h3 ?_
      refine wg_sub hX [] rfl ?_
      exact hk2 ()
    refine wu_f h3 ?_
    refine wg_iload_n (pc := 8) hX dX1_isFloor_8 2 rfl ?_
    refine wg_iconst (pc := 9) (v := 0) hX dX1_isFloor_9 rfl ?_
    refine wg_aload_n (pc := 10) hX dX1_isFloor_10 0 rfl ?_
    refine wg_gK (pc := 11) hX hM0 fd_X1_30 (by decide) dX1_isFloor_11 ?_
    refine wg_iload_n (pc := 14) hX dX1_isFloor_14 1 rfl ?_
    refine wu_ (wg_rR (pc := 15) hX ar_24 (by decide) dX1_isFloor_15 fun r4 => ?_)
    refine wu_ (wg_gI (pc := 16) hX fd_X1_209 dX1_isFloor_16 fun v5 => ?_)
    refine wg_iconst (pc := 19) (v := 1) hX dX1_isFloor_19 rfl ?_
    refine wg_isub (pc := 20) hX dX1_isFloor_20 ?_
    refine wu_ (wg_cSi (pc := 21) (As := [.int a2, .int 0, .int (v5 - 1)]) (rest := []) hX (m_X1_in a2 0 (v5 - 1)) (lw_S q471 q472 q159 q473) hd_X1_in rfl (Nat.le_of_ble_eq_true rfl) (Nat.le_of_ble_eq_true rfl) (Nat.le_of_ble_eq_true rfl) rfl dX1_isFloor_21 fun v6 => ?_)
    refine wg_if_eq (pc := 24) (tgt := 31) hX dX1_isFloor_24 (by decide) (fun h7 => ?_) (fun h7 => ?_)
    · refine wu_t h7 ?_
      refine wg_sub hX [] rfl ?_
      exact hk2 ()
    refine wu_f h7 ?_
    refine wg_iconst (pc := 27) (v := 1) hX dX1_isFloor_27 rfl ?_
    refine wg_goto (pc := 28) (tgt := 32) hX dX1_isFloor_28 (by decide) ?_
    exact wu_rt (wg_zret (pc := 32) hX rfl (by decide) rfl dX1_isFloor_32)
  refine wg_iconst (pc := 31) (v := 0) hX dX1_isFloor_31 rfl ?_
  exact wu_rt (wg_zret (pc := 32) hX rfl (by decide) rfl dX1_isFloor_32)
theorem m_X5_all (r0 : Nat) : amMet yX5_all cX5_all 1 (some .int) 1 32 encI [.ref (rid 3 r0)] (up (p_X5_all r0)) := by
  refine amMet.of (own := RX5) (by decide) rfl (Nat.le_of_ble_eq_true rfl) fun X hX hPs => ?_
  change WG X encI 0 [(0, .ref (rid 3 r0))] [] (bd1 (up (p_X5_all r0)) rt1)
  unfold p_X5_all
  refine wg_aload_n (pc := 0) hX dX5_all_0 0 rfl ?_
  refine wu_ (wg_gI (pc := 1) hX fd_X5_38 dX5_all_1 fun v1 => ?_)
  refine wg_aload_n (pc := 4) hX dX5_all_4 0 rfl ?_
  refine wu_ (wg_gI (pc := 5) hX fd_X5_41 dX5_all_5 fun v2 => ?_)
  refine wg_imul (pc := 8) hX dX5_all_8 ?_
  exact wu_rt (wg_iret (pc := 9) hX rfl rfl dX5_all_9)
theorem m_X5_floorOf (r0 : Nat) (a1 : Int32) : amMet yX5_floorOf cX5_floorOf 2 (some .int) 1 32 encI [.ref (rid 3 r0), .int a1] (up (p_X5_floorOf r0 a1)) := by
  refine amMet.of (own := RX5) (by decide) rfl (Nat.le_of_ble_eq_true rfl) fun X hX hPs => ?_
  change WG X encI 0 [(0, .ref (rid 3 r0)), (1, .int a1)] [] (bd1 (up (p_X5_floorOf r0 a1)) rt1)
  unfold p_X5_floorOf
  refine wg_iload_n (pc := 0) hX dX5_floorOf_0 1 rfl ?_
  refine wg_aload_n (pc := 1) hX dX5_floorOf_1 0 rfl ?_
  refine wu_ (wg_gI (pc := 2) hX fd_X5_41 dX5_floorOf_2 fun v1 => ?_)
  refine wu_ (wg_gd fun h2 => ?_)
  refine wg_idiv (pc := 5) hX dX5_floorOf_5 h2 ?_
  exact wu_rt (wg_iret (pc := 6) hX rfl rfl dX5_floorOf_6)
theorem m_X5_burns (r0 : Nat) (a1 : Nat) (a2 : Int32) : amMet yX5_burns cX5_burns 3 (some .boolean) 2 53 encI [.ref (rid 3 r0), .ref (rid 4 a1), .int a2] (up (p_X5_burns r0 a1 a2)) := by
  refine amMet.of (own := RX5) (by decide) rfl (Nat.le_of_ble_eq_true rfl) fun X hX hPs => ?_
  change WG X encI 0 [(0, .ref (rid 3 r0)), (1, .ref (rid 4 a1)), (2, .int a2)] [] (bd1 (up (p_X5_burns r0 a1 a2)) rt1)
  unfold p_X5_burns
  refine wg_aload_n (pc := 0) hX dX5_burns_0 1 rfl ?_
  refine wu_ (wg_gC (pc := 1) (v := a1) hX fd_X5_47 (by decide) rfl dX5_burns_1 ?_)
  refine wg_iload_n (pc := 4) hX dX5_burns_4 2 rfl ?_
  refine wu_ (wg_rI (pc := 5) hX ar_145 dX5_burns_5 fun v1 => ?_)
  refine wg_sipush (pc := 6) (v := 300) hX dX5_burns_6 rfl ?_
  refine wu_jn (α := Unit) (pcJ := 38) (lJ := fun x => []) (sJ := fun x => []) (fun k2 hk2 => ?_) (fun z2 => ?_)
  · refine wg_icmp_lt (pc := 9) (tgt := 38) hX dX5_burns_9 (by decide) (fun h3 => ?_) (fun h3 => ?_)
    · refine wu_t h3 ?_
      refine wg_sub hX [] rfl ?_
      exact hk2 ()
    refine wu_f h3 ?_
    refine wg_aload_n (pc := 12) hX dX5_burns_12 1 rfl ?_
    refine wu_ (wg_gC (pc := 13) (v := a1) hX fd_X5_50 (by decide) rfl dX5_burns_13 ?_)
    refine wg_iload_n (pc := 16) hX dX5_burns_16 2 rfl ?_
    refine wu_ (wg_rI (pc := 17) hX ar_146 dX5_burns_17 fun v4 => ?_)
    refine wg_if_le (pc := 18) (tgt := 38) hX dX5_burns_18 (by decide) (fun h5 => ?_) (fun h5 => ?_)
    · refine wu_t h5 ?_
      refine wg_sub hX [] rfl ?_
      exact hk2 ()
    refine wu_f h5 ?_
    refine wg_aload_n (pc := 21) hX dX5_burns_21 1 rfl ?_
    refine wu_ (wg_gC (pc := 22) (v := a1) hX fd_X5_53 (by decide) rfl dX5_burns_22 ?_)
    refine wg_aload_n (pc := 25) hX dX5_burns_25 0 rfl ?_
    refine wg_iload_n (pc := 26) hX dX5_burns_26 2 rfl ?_
    refine wu_ (wg_gd fun h6 => ?_)
    refine wu_ (wg_cVi (pc := 27) (As := [.int a2]) (rest := [.ref (rid 149 a1)]) hX (m_X5_floorOf r0 a2) (by decide) (by decide) h6 rc_X5 (lw_V q697 q698 q699 q167 q700) hd_X5_floorOf rfl (Nat.le_of_ble_eq_true rfl) (Nat.le_of_ble_eq_true rfl) (Nat.le_of_ble_eq_true rfl) rfl dX5_burns_27 fun v7 => ?_)
    refine wu_ (wg_rZ (pc := 30) hX ar_149 dX5_burns_30 fun v8 => ?_)
    refine wg_if_ne (pc := 31) (tgt := 38) hX dX5_burns_31 (by decide) (fun h9 => ?_) (fun h9 => ?_)
    rotate_left
    · refine wu_f h9 ?_
      refine wg_sub hX [] rfl ?_
      exact hk2 ()
    refine wu_t h9 ?_
    refine wg_iconst (pc := 34) (v := 1) hX dX5_burns_34 rfl ?_
    refine wg_goto (pc := 35) (tgt := 39) hX dX5_burns_35 (by decide) ?_
    exact wu_rt (wg_zret (pc := 39) hX rfl (by decide) rfl dX5_burns_39)
  refine wg_iconst (pc := 38) (v := 0) hX dX5_burns_38 rfl ?_
  exact wu_rt (wg_zret (pc := 39) hX rfl (by decide) rfl dX5_burns_39)
theorem m_X5_burning (r0 : Nat) : amMet yX5_burning cX5_burning 3 (some .int) 3 75 encI [.ref (rid 3 r0)] (up (p_X5_burning r0)) := by
  refine amMet.of (own := RX5) (by decide) rfl (Nat.le_of_ble_eq_true rfl) fun X hX hPs => ?_
  change WG X encI 0 [(0, .ref (rid 3 r0))] [] (bd1 (up (p_X5_burning r0)) rt1)
  unfold p_X5_burning
  refine wg_iconst (pc := 0) (v := 0) hX dX5_burning_0 rfl ?_
  refine wg_istore_n (pc := 1) (l' := [(0, .ref (rid 3 r0)), (1, .int 0)]) hX dX5_burning_1 (by decide) rfl ?_
  refine wg_iconst (pc := 2) (v := 0) hX dX5_burning_2 rfl ?_
  refine wg_istore_n (pc := 3) (l' := [(0, .ref (rid 3 r0)), (1, .int 0), (2, .int 0)]) hX dX5_burning_3 (by decide) rfl ?_
  refine wu_lpx (α := Int32 × Int32) (γ := Int32) (pcl := 4) (pcT := 33) (lo := fun x => [(0, .ref (rid 3 r0)), (1, .int x.1), (2, .int x.2)]) (so := fun _ => []) (lT := fun x => [(1, .int x)]) (sT := fun _ => []) (n := amFu) (x0 := (0, 0)) (fun K1 rec1 hrec1 hk1 x1 => ?_) (fun y2 => ?_)
  · unfold p_X5_burning_L4
    refine wg_iload_n (pc := 4) hX dX5_burning_4 2 rfl ?_
    refine wg_aload_n (pc := 5) hX dX5_burning_5 0 rfl ?_
    refine wu_ (wg_gd fun h3 => ?_)
    refine wu_ (wg_cVi (pc := 6) (As := []) (rest := [.int x1.2]) hX (m_X5_all r0) (by decide) (by decide) h3 rc_X5 (lw_V q689 q690 q691 q167 q692) hd_X5_all rfl (Nat.le_of_ble_eq_true rfl) (Nat.le_of_ble_eq_true rfl) (Nat.le_of_ble_eq_true rfl) rfl dX5_burning_6 fun v4 => ?_)
    refine wg_icmp_ge (pc := 9) (tgt := 33) hX dX5_burning_9 (by decide) (fun h5 => ?_) (fun h5 => ?_)
    · refine wu_t h5 ?_
      refine wg_sub hX [1] rfl ?_
      exact wu_rt (hk1 x1.1)
    refine wu_f h5 ?_
    refine wg_aload_n (pc := 12) hX dX5_burning_12 0 rfl ?_
    refine wg_aload_n (pc := 13) hX dX5_burning_13 0 rfl ?_
    refine wu_ (wg_gC (pc := 14) (v := (2 * r0 - 1)) hX fd_X5_25 (by decide) rfl dX5_burning_14 ?_)
    refine wg_iload_n (pc := 17) hX dX5_burning_17 2 rfl ?_
    refine wu_ (wg_gd fun h6 => ?_)
    refine wu_ (wg_cVi (pc := 18) (As := [.ref (rid 4 (2 * r0 - 1)), .int x1.2]) (rest := []) hX (m_X5_burns r0 (2 * r0 - 1) x1.2) (by decide) (by decide) h6 rc_X5 (lw_V q693 q694 q695 q167 q696) hd_X5_burns rfl (Nat.le_of_ble_eq_true rfl) (Nat.le_of_ble_eq_true rfl) (Nat.le_of_ble_eq_true rfl) rfl dX5_burning_18 fun v7 => ?_)
    refine wu_jx (α := Int32) (pcJ := 27) (lJ := fun x => [(0, .ref (rid 3 r0)), (1, .int x), (2, .int x1.2)]) (sJ := fun x => []) (fun K8 hk8 => ?_) (fun z8 => ?_)
    · refine wg_if_eq (pc := 21) (tgt := 27) hX dX5_burning_21 (by decide) (fun h9 => ?_) (fun h9 => ?_)
      · refine wu_t h9 ?_
        exact wu_rt (hk8 x1.1)
      refine wu_f h9 ?_
      refine wg_iinc (pc := 24) (v := (x1.1 + 1)) (l' := [(0, .ref (rid 3 r0)), (1, .int (x1.1 + 1)), (2, .int x1.2)]) hX dX5_burning_24 1 rfl rfl (by decide) rfl ?_
      exact wu_rt (hk8 (x1.1 + 1))
    refine wg_iinc (pc := 27) (v := (x1.2 + 1)) (l' := [(0, .ref (rid 3 r0)), (1, .int z8), (2, .int (x1.2 + 1))]) hX dX5_burning_27 2 rfl rfl (by decide) rfl ?_
    refine wg_goto (pc := 30) (tgt := 4) hX dX5_burning_30 (by decide) ?_
    exact hrec1 (z8, (x1.2 + 1))
  refine wg_iload_n (pc := 33) hX dX5_burning_33 0 rfl ?_
  exact wu_rt (wg_iret (pc := 34) hX rfl rfl dX5_burning_34)
theorem m_X1_worst (a1 : Int32) : amMet yX1_worst cX1_worst 5 (some (.object "CityBrigade$House")) 4 97 (encR 3) [.ref (rid 0 1), .int a1] (up (p_X1_worst a1)) := by
  refine amMet.of (own := RX1) (by decide) rfl (Nat.le_of_ble_eq_true rfl) fun X hX hPs => ?_
  change WG X (encR 3) 0 [(0, .ref (rid 0 1)), (1, .int a1)] [] (bd1 (up (p_X1_worst a1)) rt1)
  unfold p_X1_worst
  have hM0 := amPs.m0 hPs
  refine wu_ (wg_gM ?_)
  refine wg_null (pc := 0) (q := 3) hX (by decide) dX1_worst_0 ?_
  refine wg_astore_n (pc := 1) (l' := [(0, .ref (rid 0 1)), (1, .int a1), (2, .ref (rid 3 0))]) hX dX1_worst_1 (by decide) rfl ?_
  refine wg_iconst (pc := 2) (v := 0) hX dX1_worst_2 rfl ?_
  refine wg_istore_n (pc := 3) (l' := [(0, .ref (rid 0 1)), (1, .int a1), (2, .ref (rid 3 0)), (3, .int 0)]) hX dX1_worst_3 (by decide) rfl ?_
  refine wg_iconst (pc := 4) (v := 0) hX dX1_worst_4 rfl ?_
  refine wg_istore (pc := 5) (l' := [(0, .ref (rid 0 1)), (1, .int a1), (2, .ref (rid 3 0)), (3, .int 0), (4, .int 0)]) hX dX1_worst_5 (by decide) rfl ?_
  refine wu_lpx (α := Nat × Int32 × Int32) (γ := Nat) (pcl := 7) (pcT := 66) (lo := fun x => [(0, .ref (rid 0 1)), (1, .int a1), (2, .ref (rid 3 x.1)), (3, .int x.2.1), (4, .int x.2.2)]) (so := fun _ => []) (lT := fun x => [(2, .ref (rid 3 x))]) (sT := fun _ => []) (n := amFu) (x0 := (0, 0, 0)) (fun K1 rec1 hrec1 hk1 x1 => ?_) (fun y2 => ?_)
  · unfold p_X1_worst_L7
    refine wg_iload (pc := 7) hX dX1_worst_7 4 rfl ?_
    refine wg_aload_n (pc := 9) hX dX1_worst_9 0 rfl ?_
    refine wu_ (wg_gI (pc := 10) hX fd_X1_199 dX1_worst_10 fun v3 => ?_)
    refine wg_icmp_ge (pc := 13) (tgt := 66) hX dX1_worst_13 (by decide) (fun h4 => ?_) (fun h4 => ?_)
    · refine wu_t h4 ?_
      refine wg_sub hX [2] rfl ?_
      exact wu_rt (hk1 x1.1)
    refine wu_f h4 ?_
    refine wg_aload_n (pc := 16) hX dX1_worst_16 0 rfl ?_
    refine wg_gK (pc := 17) hX hM0 fd_X1_30 (by decide) dX1_worst_17 ?_
    refine wg_iload (pc := 20) hX dX1_worst_20 4 rfl ?_
    refine wu_ (wg_rR (pc := 22) hX ar_24 (by decide) dX1_worst_22 fun r5 => ?_)
    refine wu_ (wg_gI (pc := 23) hX fd_X1_308 dX1_worst_23 fun v6 => ?_)
    refine wg_iload_n (pc := 26) hX dX1_worst_26 1 rfl ?_
    refine wu_jx (α := Nat × Int32) (pcJ := 60) (lJ := fun x => [(0, .ref (rid 0 1)), (1, .int a1), (2, .ref (rid 3 x.1)), (3, .int x.2), (4, .int x1.2.2)]) (sJ := fun x => []) (fun K7 hk7 => ?_) (fun z7 => ?_)
    · refine wg_icmp_ne (pc := 27) (tgt := 60) hX dX1_worst_27 (by decide) (fun h8 => ?_) (fun h8 => ?_)
      rotate_left
      · refine wu_f h8 ?_
        exact wu_rt (hk7 (x1.1, x1.2.1))
      refine wu_t h8 ?_
      refine wg_aload_n (pc := 30) hX dX1_worst_30 0 rfl ?_
      refine wg_gK (pc := 31) hX hM0 fd_X1_30 (by decide) dX1_worst_31 ?_
      refine wg_iload (pc := 34) hX dX1_worst_34 4 rfl ?_
      refine wu_ (wg_rR (pc := 36) hX ar_24 (by decide) dX1_worst_36 fun r9 => ?_)
      refine wu_ (wg_gd fun h10 => ?_)
      refine wu_ (wg_cVi (pc := 37) (As := []) (rest := []) hX (m_X5_burning r9) (by decide) (by decide) h10 rc_X5 (lw_V q685 q686 q687 q167 q688) hd_X5_burning rfl (Nat.le_of_ble_eq_true rfl) (Nat.le_of_ble_eq_true rfl) (Nat.le_of_ble_eq_true rfl) rfl dX1_worst_37 fun v11 => ?_)
      refine wg_iload_n (pc := 40) hX dX1_worst_40 3 rfl ?_
      refine wg_icmp_gt (pc := 41) (tgt := 47) hX dX1_worst_41 (by decide) (fun h12 => ?_) (fun h12 => ?_)
      rotate_left
      · refine wu_f h12 ?_
        refine wg_goto (pc := 44) (tgt := 60) hX dX1_worst_44 (by decide) ?_
        exact wu_rt (hk7 (x1.1, x1.2.1))
      refine wu_t h12 ?_
      refine wg_aload_n (pc := 47) hX dX1_worst_47 0 rfl ?_
      refine wg_gK (pc := 48) hX hM0 fd_X1_30 (by decide) dX1_worst_48 ?_
      refine wg_iload (pc := 51) hX dX1_worst_51 4 rfl ?_
      refine wu_ (wg_rR (pc := 53) hX ar_24 (by decide) dX1_worst_53 fun r13 => ?_)
      refine wg_astore_n (pc := 54) (l' := [(0, .ref (rid 0 1)), (1, .int a1), (2, .ref (rid 3 r13)), (3, .int x1.2.1), (4, .int x1.2.2)]) hX dX1_worst_54 (by decide) rfl ?_
      refine wg_aload_n (pc := 55) hX dX1_worst_55 2 rfl ?_
      refine wu_ (wg_gd fun h14 => ?_)
      refine wu_ (wg_cVi (pc := 56) (As := []) (rest := []) hX (m_X5_burning r13) (by decide) (by decide) h14 rc_X5 (lw_V q685 q686 q687 q167 q688) hd_X5_burning rfl (Nat.le_of_ble_eq_true rfl) (Nat.le_of_ble_eq_true rfl) (Nat.le_of_ble_eq_true rfl) rfl dX1_worst_56 fun v15 => ?_)
      refine wg_istore_n (pc := 59) (l' := [(0, .ref (rid 0 1)), (1, .int a1), (2, .ref (rid 3 r13)), (3, .int v15), (4, .int x1.2.2)]) hX dX1_worst_59 (by decide) rfl ?_
      exact wu_rt (hk7 (r13, v15))
    refine wg_iinc (pc := 60) (v := (x1.2.2 + 1)) (l' := [(0, .ref (rid 0 1)), (1, .int a1), (2, .ref (rid 3 z7.1)), (3, .int z7.2), (4, .int (x1.2.2 + 1))]) hX dX1_worst_60 4 rfl rfl (by decide) rfl ?_
    refine wg_goto (pc := 63) (tgt := 7) hX dX1_worst_63 (by decide) ?_
    exact hrec1 (z7.1, z7.2, (x1.2.2 + 1))
  refine wg_aload_n (pc := 66) hX dX1_worst_66 0 rfl ?_
  exact wu_rt (wg_aret (pc := 67) hX rfl (by first | exact Or.inl ⟨_, rfl⟩ | exact Or.inr ⟨_, rfl⟩) (by decide) rfl dX1_worst_67)
theorem m_X1_notice  : amMet yX1_notice cX1_notice 2 none 5 121 encV [.ref (rid 0 1)] (up (p_X1_notice)) := by
  refine amMet.of (own := RX1) (by decide) rfl (Nat.le_of_ble_eq_true rfl) fun X hX hPs => ?_
  change WG X encV 0 [(0, .ref (rid 0 1))] [] (bd1 (up (p_X1_notice)) rt1)
  unfold p_X1_notice
  have hM0 := amPs.m0 hPs
  refine wu_ (wg_gM ?_)
  refine wg_iconst (pc := 0) (v := 0) hX dX1_notice_0 rfl ?_
  refine wg_istore_n (pc := 1) (l' := [(0, .ref (rid 0 1)), (1, .int 0)]) hX dX1_notice_1 (by decide) rfl ?_
  refine wu_lpx (α := Int32) (γ := Unit) (pcl := 2) (pcT := 54) (lo := fun x => [(0, .ref (rid 0 1)), (1, .int x)]) (so := fun _ => []) (lT := fun x => []) (sT := fun _ => []) (n := amFu) (x0 := 0) (fun K1 rec1 hrec1 hk1 x1 => ?_) (fun y2 => ?_)
  · unfold p_X1_notice_L2
    refine wg_iload_n (pc := 2) hX dX1_notice_2 1 rfl ?_
    refine wg_aload_n (pc := 3) hX dX1_notice_3 0 rfl ?_
    refine wu_ (wg_gI (pc := 4) hX fd_X1_587 dX1_notice_4 fun v3 => ?_)
    refine wg_icmp_ge (pc := 7) (tgt := 54) hX dX1_notice_7 (by decide) (fun h4 => ?_) (fun h4 => ?_)
    · refine wu_t h4 ?_
      refine wg_sub hX [] rfl ?_
      exact wu_rt (hk1 ())
    refine wu_f h4 ?_
    refine wg_aload_n (pc := 10) hX dX1_notice_10 0 rfl ?_
    refine wg_gK (pc := 11) hX hM0 fd_X1_74 (by decide) dX1_notice_11 ?_
    refine wg_iload_n (pc := 14) hX dX1_notice_14 1 rfl ?_
    refine wu_ (wg_rR (pc := 15) hX ar_32 (by decide) dX1_notice_15 fun r5 => ?_)
    refine wu_ (wg_gI (pc := 16) hX fd_X1_591 dX1_notice_16 fun v6 => ?_)
    refine wu_jx (α := Unit) (pcJ := 48) (lJ := fun x => [(0, .ref (rid 0 1)), (1, .int x1)]) (sJ := fun x => []) (fun K7 hk7 => ?_) (fun z7 => ?_)
    · refine wg_if_ne (pc := 19) (tgt := 48) hX dX1_notice_19 (by decide) (fun h8 => ?_) (fun h8 => ?_)
      rotate_left
      · refine wu_f h8 ?_
        exact wu_rt (hk7 ())
      refine wu_t h8 ?_
      refine wg_aload_n (pc := 22) hX dX1_notice_22 0 rfl ?_
      refine wg_aload_n (pc := 23) hX dX1_notice_23 0 rfl ?_
      refine wg_gK (pc := 24) hX hM0 fd_X1_74 (by decide) dX1_notice_24 ?_
      refine wg_iload_n (pc := 27) hX dX1_notice_27 1 rfl ?_
      refine wu_ (wg_rR (pc := 28) hX ar_32 (by decide) dX1_notice_28 fun r9 => ?_)
      refine wu_ (wg_gI (pc := 29) hX fd_X1_590 dX1_notice_29 fun v10 => ?_)
      refine wu_ (wg_cVr (pc := 32) (As := [.int v10]) (rest := []) hX (m_X1_worst v10) (by decide) (by decide) (by decide) rc_X1 (lw_V q681 q683 qs10 q159 q684) hd_X1_worst rfl (Nat.le_of_ble_eq_true rfl) (Nat.le_of_ble_eq_true rfl) (Nat.le_of_ble_eq_true rfl) rfl dX1_notice_32 fun r11 => ?_)
      refine wg_ifnull (pc := 35) (tgt := 48) hX (by decide) dX1_notice_35 (by decide) (fun h12 => ?_) (fun h12 => ?_)
      · refine wu_t h12 ?_
        exact wu_rt (hk7 ())
      refine wu_f h12 ?_
      refine wg_aload_n (pc := 38) hX dX1_notice_38 0 rfl ?_
      refine wg_gK (pc := 39) hX hM0 fd_X1_74 (by decide) dX1_notice_39 ?_
      refine wg_iload_n (pc := 42) hX dX1_notice_42 1 rfl ?_
      refine wu_ (wg_rR (pc := 43) hX ar_32 (by decide) dX1_notice_43 fun r13 => ?_)
      refine wg_iconst (pc := 44) (v := 1) hX dX1_notice_44 rfl ?_
      refine wu_ (wg_pZ (pc := 45) hX fp_X1_598 (fun h => by cases h) (by decide) dX1_notice_45 ?_)
      exact wu_rt (hk7 ())
    refine wg_iinc (pc := 48) (v := (x1 + 1)) (l' := [(0, .ref (rid 0 1)), (1, .int (x1 + 1))]) hX dX1_notice_48 1 rfl rfl (by decide) rfl ?_
    refine wg_goto (pc := 51) (tgt := 2) hX dX1_notice_51 (by decide) ?_
    exact hrec1 (x1 + 1)
  exact wu_rt (wg_vret (pc := 54) hX rfl rfl dX1_notice_54)
theorem m_X1_floor (a1 : Int32) (a2 : Int32) (a3 : Int32) (a4 : Int32) : amMet yX1_floor cX1_floor 7 (some .boolean) 6 142 encI [.ref (rid 0 1), .int a1, .int a2, .int a3, .int a4] (up (p_X1_floor a1 a2 a3 a4)) := by
  refine amMet.of (own := RX1) (by decide) rfl (Nat.le_of_ble_eq_true rfl) fun X hX hPs => ?_
  change WG X encI 0 [(0, .ref (rid 0 1)), (1, .int a1), (2, .int a2), (3, .int a3), (4, .int a4)] [] (bd1 (up (p_X1_floor a1 a2 a3 a4)) rt1)
  unfold p_X1_floor
  have hM0 := amPs.m0 hPs
  refine wu_ (wg_gM ?_)
  refine wg_aload_n (pc := 0) hX dX1_floor_0 0 rfl ?_
  refine wg_iload_n (pc := 1) hX dX1_floor_1 1 rfl ?_
  refine wg_iload_n (pc := 2) hX dX1_floor_2 2 rfl ?_
  refine wu_ (wg_cVi (pc := 3) (As := [.int a1, .int a2]) (rest := []) hX (m_X1_isFloor a1 a2) (by decide) (by decide) (by decide) rc_X1 (lw_V q673 q675 qs8 q159 q676) hd_X1_isFloor rfl (Nat.le_of_ble_eq_true rfl) (Nat.le_of_ble_eq_true rfl) (Nat.le_of_ble_eq_true rfl) rfl dX1_floor_3 fun v1 => ?_)
  refine wg_if_eq (pc := 6) (tgt := 48) hX dX1_floor_6 (by decide) (fun h2 => ?_) (fun h2 => ?_)
  · refine wu_t h2 ?_
    refine wg_iconst (pc := 48) (v := 0) hX dX1_floor_48 rfl ?_
    exact wu_rt (wg_zret (pc := 49) hX rfl (by decide) rfl dX1_floor_49)
  refine wu_f h2 ?_
  refine wg_iload_n (pc := 9) hX dX1_floor_9 3 rfl ?_
  refine wg_iconst (pc := 10) (v := 0) hX dX1_floor_10 rfl ?_
  refine wg_sipush (pc := 11) (v := 500) hX dX1_floor_11 rfl ?_
  refine wu_ (wg_cSi (pc := 14) (As := [.int a3, .int 0, .int 500]) (rest := []) hX (m_X1_in a3 0 500) (lw_S q471 q472 q159 q473) hd_X1_in rfl (Nat.le_of_ble_eq_true rfl) (Nat.le_of_ble_eq_true rfl) (Nat.le_of_ble_eq_true rfl) rfl dX1_floor_14 fun v3 => ?_)
  refine wg_if_eq (pc := 17) (tgt := 48) hX dX1_floor_17 (by decide) (fun h4 => ?_) (fun h4 => ?_)
  · refine wu_t h4 ?_
    refine wg_iconst (pc := 48) (v := 0) hX dX1_floor_48 rfl ?_
    exact wu_rt (wg_zret (pc := 49) hX rfl (by decide) rfl dX1_floor_49)
  refine wu_f h4 ?_
  refine wg_iload (pc := 20) hX dX1_floor_20 4 rfl ?_
  refine wg_iconst (pc := 22) (v := 0) hX dX1_floor_22 rfl ?_
  refine wg_bipush (pc := 23) (v := 20) hX dX1_floor_23 rfl ?_
  refine wu_ (wg_cSi (pc := 25) (As := [.int a4, .int 0, .int 20]) (rest := []) hX (m_X1_in a4 0 20) (lw_S q471 q472 q159 q473) hd_X1_in rfl (Nat.le_of_ble_eq_true rfl) (Nat.le_of_ble_eq_true rfl) (Nat.le_of_ble_eq_true rfl) rfl dX1_floor_25 fun v5 => ?_)
  refine wg_if_eq (pc := 28) (tgt := 48) hX dX1_floor_28 (by decide) (fun h6 => ?_) (fun h6 => ?_)
  · refine wu_t h6 ?_
    refine wg_iconst (pc := 48) (v := 0) hX dX1_floor_48 rfl ?_
    exact wu_rt (wg_zret (pc := 49) hX rfl (by decide) rfl dX1_floor_49)
  refine wu_f h6 ?_
  refine wg_aload_n (pc := 31) hX dX1_floor_31 0 rfl ?_
  refine wg_gK (pc := 32) hX hM0 fd_X1_30 (by decide) dX1_floor_32 ?_
  refine wg_iload_n (pc := 35) hX dX1_floor_35 1 rfl ?_
  refine wu_ (wg_rR (pc := 36) hX ar_24 (by decide) dX1_floor_36 fun r7 => ?_)
  refine wu_ (wg_gC (pc := 37) (v := (2 * r7 - 1)) hX fd_X1_235 (by decide) rfl dX1_floor_37 ?_)
  refine wu_ (wg_gC (pc := 40) (v := (2 * r7 - 1)) hX fd_X1_239 (by decide) rfl dX1_floor_40 ?_)
  refine wg_iload_n (pc := 43) hX dX1_floor_43 2 rfl ?_
  refine wu_ (wg_rZ (pc := 44) hX ar_149 dX1_floor_44 fun v8 => ?_)
  refine wg_if_eq (pc := 45) (tgt := 50) hX dX1_floor_45 (by decide) (fun h9 => ?_) (fun h9 => ?_)
  rotate_left
  · refine wu_f h9 ?_
    refine wg_iconst (pc := 48) (v := 0) hX dX1_floor_48 rfl ?_
    exact wu_rt (wg_zret (pc := 49) hX rfl (by decide) rfl dX1_floor_49)
  refine wu_t h9 ?_
  refine wg_aload_n (pc := 50) hX dX1_floor_50 0 rfl ?_
  refine wg_gK (pc := 51) hX hM0 fd_X1_30 (by decide) dX1_floor_51 ?_
  refine wg_iload_n (pc := 54) hX dX1_floor_54 1 rfl ?_
  refine wu_ (wg_rR (pc := 55) hX ar_24 (by decide) dX1_floor_55 fun r10 => ?_)
  refine wg_astore (pc := 56) (l' := [(0, .ref (rid 0 1)), (1, .int a1), (2, .int a2), (3, .int a3), (4, .int a4), (5, .ref (rid 3 r10))]) hX dX1_floor_56 (by decide) rfl ?_
  refine wg_iconst (pc := 58) (v := 0) hX dX1_floor_58 rfl ?_
  refine wg_istore (pc := 59) (l' := [(0, .ref (rid 0 1)), (1, .int a1), (2, .int a2), (3, .int a3), (4, .int a4), (5, .ref (rid 3 r10)), (6, .int 0)]) hX dX1_floor_59 (by decide) rfl ?_
  refine wg_sub hX [0, 2, 3, 4, 5, 6] rfl ?_
  refine wu_lpx (α := Int32) (γ := Unit) (pcl := 61) (pcT := 97) (lo := fun x => [(0, .ref (rid 0 1)), (2, .int a2), (3, .int a3), (4, .int a4), (5, .ref (rid 3 r10)), (6, .int x)]) (so := fun _ => []) (lT := fun x => [(0, .ref (rid 0 1)), (2, .int a2), (3, .int a3), (4, .int a4), (5, .ref (rid 3 r10))]) (sT := fun _ => []) (n := amFu) (x0 := 0) (fun K11 rec11 hrec11 hk11 x11 => ?_) (fun y12 => ?_)
  · unfold p_X1_floor_L61
    refine wg_iload (pc := 61) hX dX1_floor_61 5 rfl ?_
    refine wg_aload (pc := 63) hX dX1_floor_63 4 rfl ?_
    refine wu_ (wg_gI (pc := 65) hX fd_X1_245 dX1_floor_65 fun v13 => ?_)
    refine wg_icmp_ge (pc := 68) (tgt := 97) hX dX1_floor_68 (by decide) (fun h14 => ?_) (fun h14 => ?_)
    · refine wu_t h14 ?_
      refine wg_sub hX [0, 1, 2, 3, 4] rfl ?_
      exact wu_rt (hk11 ())
    refine wu_f h14 ?_
    refine wg_aload (pc := 71) hX dX1_floor_71 4 rfl ?_
    refine wu_ (wg_gC (pc := 73) (v := (2 * r10 - 1)) hX fd_X1_235 (by decide) rfl dX1_floor_73 ?_)
    refine wu_ (wg_gC (pc := 76) (v := (2 * r10 - 1)) hX fd_X1_248 (by decide) rfl dX1_floor_76 ?_)
    refine wg_iload_n (pc := 79) hX dX1_floor_79 1 rfl ?_
    refine wg_aload (pc := 80) hX dX1_floor_80 4 rfl ?_
    refine wu_ (wg_gI (pc := 82) hX fd_X1_245 dX1_floor_82 fun v15 => ?_)
    refine wg_imul (pc := 85) hX dX1_floor_85 ?_
    refine wg_iload (pc := 86) hX dX1_floor_86 5 rfl ?_
    refine wg_iadd (pc := 88) hX dX1_floor_88 ?_
    refine wg_iload_n (pc := 89) hX dX1_floor_89 2 rfl ?_
    refine wu_ (wg_wI (pc := 90) hX ar_146 dX1_floor_90 ?_)
    refine wg_iinc (pc := 91) (v := (x11 + 1)) (l' := [(0, .ref (rid 0 1)), (2, .int a2), (3, .int a3), (4, .int a4), (5, .ref (rid 3 r10)), (6, .int (x11 + 1))]) hX dX1_floor_91 5 rfl rfl (by decide) rfl ?_
    refine wg_goto (pc := 94) (tgt := 61) hX dX1_floor_94 (by decide) ?_
    exact hrec11 (x11 + 1)
  refine wg_aload (pc := 97) hX dX1_floor_97 4 rfl ?_
  refine wu_ (wg_gC (pc := 99) (v := r10) hX fd_X1_251 (by decide) rfl dX1_floor_99 ?_)
  refine wg_iload_n (pc := 102) hX dX1_floor_102 1 rfl ?_
  refine wg_iload_n (pc := 103) hX dX1_floor_103 2 rfl ?_
  refine wu_ (wg_wI (pc := 104) hX ar_144 dX1_floor_104 ?_)
  refine wg_aload (pc := 105) hX dX1_floor_105 4 rfl ?_
  refine wu_ (wg_gC (pc := 107) (v := r10) hX fd_X1_254 (by decide) rfl dX1_floor_107 ?_)
  refine wg_iload_n (pc := 110) hX dX1_floor_110 1 rfl ?_
  refine wg_iload (pc := 111) hX dX1_floor_111 3 rfl ?_
  refine wu_ (wg_wI (pc := 113) hX ar_143 dX1_floor_113 ?_)
  refine wg_aload_n (pc := 114) hX dX1_floor_114 0 rfl ?_
  refine wu_ (wg_cVv (pc := 115) (As := []) (rest := []) hX (m_X1_notice) (by decide) (by decide) (by decide) rc_X1 (lw_V q677 q679 qs9 q159 q680) hd_X1_notice rfl (Nat.le_of_ble_eq_true rfl) (Nat.le_of_ble_eq_true rfl) (Nat.le_of_ble_eq_true rfl) rfl dX1_floor_115 ?_)
  refine wg_iconst (pc := 118) (v := 1) hX dX1_floor_118 rfl ?_
  exact wu_rt (wg_zret (pc := 119) hX rfl (by decide) rfl dX1_floor_119)
theorem m_X1_isRoom (a1 : Int32) (a2 : Int32) : amMet yX1_isRoom cX1_isRoom 3 (some .boolean) 3 75 encI [.ref (rid 0 1), .int a1, .int a2] (up (p_X1_isRoom a1 a2)) := by
  refine amMet.of (own := RX1) (by decide) rfl (Nat.le_of_ble_eq_true rfl) fun X hX hPs => ?_
  change WG X encI 0 [(0, .ref (rid 0 1)), (1, .int a1), (2, .int a2)] [] (bd1 (up (p_X1_isRoom a1 a2)) rt1)
  unfold p_X1_isRoom
  have hM0 := amPs.m0 hPs
  refine wu_ (wg_gM ?_)
  refine wg_aload_n (pc := 0) hX dX1_isRoom_0 0 rfl ?_
  refine wg_iload_n (pc := 1) hX dX1_isRoom_1 1 rfl ?_
  refine wu_ (wg_cVi (pc := 2) (As := [.int a1]) (rest := []) hX (m_X1_isHouse a1) (by decide) (by decide) (by decide) rc_X1 (lw_V q657 q659 qs6 q159 q660) hd_X1_isHouse rfl (Nat.le_of_ble_eq_true rfl) (Nat.le_of_ble_eq_true rfl) (Nat.le_of_ble_eq_true rfl) rfl dX1_isRoom_2 fun v1 => ?_)
  refine wu_jn (α := Unit) (pcJ := 31) (lJ := fun x => []) (sJ := fun x => []) (fun k2 hk2 => ?_) (fun z2 => ?_)
  · refine wg_if_eq (pc := 5) (tgt := 31) hX dX1_isRoom_5 (by decide) (fun h3 => ?_) (fun h3 => ?_)
    · refine wu_t h3 ?_
      refine wg_sub hX [] rfl ?_
      exact hk2 ()
    refine wu_f h3 ?_
    refine wg_iload_n (pc := 8) hX dX1_isRoom_8 2 rfl ?_
    refine wg_iconst (pc := 9) (v := 0) hX dX1_isRoom_9 rfl ?_
    refine wg_aload_n (pc := 10) hX dX1_isRoom_10 0 rfl ?_
    refine wg_gK (pc := 11) hX hM0 fd_X1_30 (by decide) dX1_isRoom_11 ?_
    refine wg_iload_n (pc := 14) hX dX1_isRoom_14 1 rfl ?_
    refine wu_ (wg_rR (pc := 15) hX ar_24 (by decide) dX1_isRoom_15 fun r4 => ?_)
    refine wu_ (wg_gd fun h5 => ?_)
    refine wu_ (wg_cVi (pc := 16) (As := []) (rest := [.int 0, .int a2]) hX (m_X5_all r4) (by decide) (by decide) h5 rc_X5 (lw_V q709 q690 q691 q167 q692) hd_X5_all rfl (Nat.le_of_ble_eq_true rfl) (Nat.le_of_ble_eq_true rfl) (Nat.le_of_ble_eq_true rfl) rfl dX1_isRoom_16 fun v6 => ?_)
    refine wg_iconst (pc := 19) (v := 1) hX dX1_isRoom_19 rfl ?_
    refine wg_isub (pc := 20) hX dX1_isRoom_20 ?_
    refine wu_ (wg_cSi (pc := 21) (As := [.int a2, .int 0, .int (v6 - 1)]) (rest := []) hX (m_X1_in a2 0 (v6 - 1)) (lw_S q471 q472 q159 q473) hd_X1_in rfl (Nat.le_of_ble_eq_true rfl) (Nat.le_of_ble_eq_true rfl) (Nat.le_of_ble_eq_true rfl) rfl dX1_isRoom_21 fun v7 => ?_)
    refine wg_if_eq (pc := 24) (tgt := 31) hX dX1_isRoom_24 (by decide) (fun h8 => ?_) (fun h8 => ?_)
    · refine wu_t h8 ?_
      refine wg_sub hX [] rfl ?_
      exact hk2 ()
    refine wu_f h8 ?_
    refine wg_iconst (pc := 27) (v := 1) hX dX1_isRoom_27 rfl ?_
    refine wg_goto (pc := 28) (tgt := 32) hX dX1_isRoom_28 (by decide) ?_
    exact wu_rt (wg_zret (pc := 32) hX rfl (by decide) rfl dX1_isRoom_32)
  refine wg_iconst (pc := 31) (v := 0) hX dX1_isRoom_31 rfl ?_
  exact wu_rt (wg_zret (pc := 32) hX rfl (by decide) rfl dX1_isRoom_32)
theorem m_X1_light (a1 : Int32) (a2 : Int32) : amMet yX1_light cX1_light 3 (some .boolean) 6 142 encI [.ref (rid 0 1), .int a1, .int a2] (up (p_X1_light a1 a2)) := by
  refine amMet.of (own := RX1) (by decide) rfl (Nat.le_of_ble_eq_true rfl) fun X hX hPs => ?_
  change WG X encI 0 [(0, .ref (rid 0 1)), (1, .int a1), (2, .int a2)] [] (bd1 (up (p_X1_light a1 a2)) rt1)
  unfold p_X1_light
  have hM0 := amPs.m0 hPs
  refine wu_ (wg_gM ?_)
  refine wg_aload_n (pc := 0) hX dX1_light_0 0 rfl ?_
  refine wg_iload_n (pc := 1) hX dX1_light_1 1 rfl ?_
  refine wg_iload_n (pc := 2) hX dX1_light_2 2 rfl ?_
  refine wu_ (wg_cVi (pc := 3) (As := [.int a1, .int a2]) (rest := []) hX (m_X1_isRoom a1 a2) (by decide) (by decide) (by decide) rc_X1 (lw_V q705 q707 qs11 q159 q708) hd_X1_isRoom rfl (Nat.le_of_ble_eq_true rfl) (Nat.le_of_ble_eq_true rfl) (Nat.le_of_ble_eq_true rfl) rfl dX1_light_3 fun v1 => ?_)
  refine wg_if_eq (pc := 6) (tgt := 35) hX dX1_light_6 (by decide) (fun h2 => ?_) (fun h2 => ?_)
  · refine wu_t h2 ?_
    refine wg_iconst (pc := 35) (v := 0) hX dX1_light_35 rfl ?_
    exact wu_rt (wg_zret (pc := 36) hX rfl (by decide) rfl dX1_light_36)
  refine wu_f h2 ?_
  refine wg_aload_n (pc := 9) hX dX1_light_9 0 rfl ?_
  refine wg_gK (pc := 10) hX hM0 fd_X1_30 (by decide) dX1_light_10 ?_
  refine wg_iload_n (pc := 13) hX dX1_light_13 1 rfl ?_
  refine wu_ (wg_rR (pc := 14) hX ar_24 (by decide) dX1_light_14 fun r3 => ?_)
  refine wu_ (wg_gC (pc := 15) (v := (2 * r3 - 1)) hX fd_X1_235 (by decide) rfl dX1_light_15 ?_)
  refine wu_ (wg_gC (pc := 18) (v := (2 * r3 - 1)) hX fd_X1_239 (by decide) rfl dX1_light_18 ?_)
  refine wg_aload_n (pc := 21) hX dX1_light_21 0 rfl ?_
  refine wg_gK (pc := 22) hX hM0 fd_X1_30 (by decide) dX1_light_22 ?_
  refine wg_iload_n (pc := 25) hX dX1_light_25 1 rfl ?_
  refine wu_ (wg_rR (pc := 26) hX ar_24 (by decide) dX1_light_26 fun r4 => ?_)
  refine wg_iload_n (pc := 27) hX dX1_light_27 2 rfl ?_
  refine wu_ (wg_gd fun h5 => ?_)
  refine wu_ (wg_cVi (pc := 28) (As := [.int a2]) (rest := [.ref (rid 149 (2 * r3 - 1))]) hX (m_X5_floorOf r4 a2) (by decide) (by decide) h5 rc_X5 (lw_V q710 q698 q699 q167 q700) hd_X5_floorOf rfl (Nat.le_of_ble_eq_true rfl) (Nat.le_of_ble_eq_true rfl) (Nat.le_of_ble_eq_true rfl) rfl dX1_light_28 fun v6 => ?_)
  refine wu_ (wg_rZ (pc := 31) hX ar_149 dX1_light_31 fun v7 => ?_)
  refine wg_if_eq (pc := 32) (tgt := 37) hX dX1_light_32 (by decide) (fun h8 => ?_) (fun h8 => ?_)
  rotate_left
  · refine wu_f h8 ?_
    refine wg_iconst (pc := 35) (v := 0) hX dX1_light_35 rfl ?_
    exact wu_rt (wg_zret (pc := 36) hX rfl (by decide) rfl dX1_light_36)
  refine wu_t h8 ?_
  refine wg_aload_n (pc := 37) hX dX1_light_37 0 rfl ?_
  refine wg_gK (pc := 38) hX hM0 fd_X1_30 (by decide) dX1_light_38 ?_
  refine wg_iload_n (pc := 41) hX dX1_light_41 1 rfl ?_
  refine wu_ (wg_rR (pc := 42) hX ar_24 (by decide) dX1_light_42 fun r9 => ?_)
  refine wu_ (wg_gC (pc := 43) (v := (2 * r9 - 1)) hX fd_X1_235 (by decide) rfl dX1_light_43 ?_)
  refine wu_ (wg_gC (pc := 46) (v := (2 * r9 - 1)) hX fd_X1_266 (by decide) rfl dX1_light_46 ?_)
  refine wg_iload_n (pc := 49) hX dX1_light_49 2 rfl ?_
  refine wg_sipush (pc := 50) (v := 400) hX dX1_light_50 rfl ?_
  refine wg_aload_n (pc := 53) hX dX1_light_53 0 rfl ?_
  refine wg_gK (pc := 54) hX hM0 fd_X1_30 (by decide) dX1_light_54 ?_
  refine wg_iload_n (pc := 57) hX dX1_light_57 1 rfl ?_
  refine wu_ (wg_rR (pc := 58) hX ar_24 (by decide) dX1_light_58 fun r10 => ?_)
  refine wu_ (wg_gC (pc := 59) (v := (2 * r10 - 1)) hX fd_X1_235 (by decide) rfl dX1_light_59 ?_)
  refine wu_ (wg_gC (pc := 62) (v := (2 * r10 - 1)) hX fd_X1_266 (by decide) rfl dX1_light_62 ?_)
  refine wg_iload_n (pc := 65) hX dX1_light_65 2 rfl ?_
  refine wu_ (wg_rI (pc := 66) hX ar_145 dX1_light_66 fun v11 => ?_)
  refine wg_mmax (pc := 67) hX q711 q712 q165 q713 (Nat.le_of_ble_eq_true rfl) (Nat.le_of_ble_eq_true rfl) dX1_light_67 ?_
  refine wu_ (wg_nmi hX fun v12 => ?_)
  refine wu_ (wg_wI (pc := 70) hX ar_145 dX1_light_70 ?_)
  refine wg_aload_n (pc := 71) hX dX1_light_71 0 rfl ?_
  refine wu_ (wg_cVv (pc := 72) (As := []) (rest := []) hX (m_X1_notice) (by decide) (by decide) (by decide) rc_X1 (lw_V q677 q679 qs9 q159 q680) hd_X1_notice rfl (Nat.le_of_ble_eq_true rfl) (Nat.le_of_ble_eq_true rfl) (Nat.le_of_ble_eq_true rfl) rfl dX1_light_72 ?_)
  refine wg_iconst (pc := 75) (v := 1) hX dX1_light_75 rfl ?_
  exact wu_rt (wg_zret (pc := 76) hX rfl (by decide) rfl dX1_light_76)
theorem m_X1_room (a1 : Int32) (a2 : Int32) (a3 : Int32) : amMet yX1_room cX1_room 5 (some .int) 4 97 encI [.ref (rid 0 1), .int a1, .int a2, .int a3] (up (p_X1_room a1 a2 a3)) := by
  refine amMet.of (own := RX1) (by decide) rfl (Nat.le_of_ble_eq_true rfl) fun X hX hPs => ?_
  change WG X encI 0 [(0, .ref (rid 0 1)), (1, .int a1), (2, .int a2), (3, .int a3)] [] (bd1 (up (p_X1_room a1 a2 a3)) rt1)
  unfold p_X1_room
  have hM0 := amPs.m0 hPs
  refine wu_ (wg_gM ?_)
  refine wg_aload_n (pc := 0) hX dX1_room_0 0 rfl ?_
  refine wg_iload_n (pc := 1) hX dX1_room_1 1 rfl ?_
  refine wg_iload_n (pc := 2) hX dX1_room_2 2 rfl ?_
  refine wu_ (wg_cVi (pc := 3) (As := [.int a1, .int a2]) (rest := []) hX (m_X1_isRoom a1 a2) (by decide) (by decide) (by decide) rc_X1 (lw_V q705 q707 qs11 q159 q708) hd_X1_isRoom rfl (Nat.le_of_ble_eq_true rfl) (Nat.le_of_ble_eq_true rfl) (Nat.le_of_ble_eq_true rfl) rfl dX1_room_3 fun v1 => ?_)
  refine wg_if_ne (pc := 6) (tgt := 11) hX dX1_room_6 (by decide) (fun h2 => ?_) (fun h2 => ?_)
  · refine wu_t h2 ?_
    refine wg_iconst (pc := 9) (v := (-1)) hX dX1_room_9 rfl ?_
    exact wu_rt (wg_iret (pc := 10) hX rfl rfl dX1_room_10)
  refine wu_f h2 ?_
  refine wg_aload_n (pc := 11) hX dX1_room_11 0 rfl ?_
  refine wg_gK (pc := 12) hX hM0 fd_X1_30 (by decide) dX1_room_12 ?_
  refine wg_iload_n (pc := 15) hX dX1_room_15 1 rfl ?_
  refine wu_ (wg_rR (pc := 16) hX ar_24 (by decide) dX1_room_16 fun r3 => ?_)
  refine wg_astore (pc := 17) (l' := [(0, .ref (rid 0 1)), (1, .int a1), (2, .int a2), (3, .int a3), (4, .ref (rid 3 r3))]) hX dX1_room_17 (by decide) rfl ?_
  refine wg_iload_n (pc := 19) hX dX1_room_19 3 rfl ?_
  by_cases h4 : a3 = 0
  · refine wu_t h4 ?_
    refine wg_tableIn (pc := 20) hX dX1_room_20 (by rw [h4]; decide) (by rw [h4]; decide) (by rw [h4]; rfl) (by decide : ((20 : Nat) : Int) + 28 = ((48 : Nat) : Int)) ?_
    refine wg_aload (pc := 48) hX dX1_room_48 4 rfl ?_
    refine wu_ (wg_gC (pc := 50) (v := (2 * r3 - 1)) hX fd_X1_235 (by decide) rfl dX1_room_50 ?_)
    refine wu_ (wg_gC (pc := 53) (v := (2 * r3 - 1)) hX fd_X1_266 (by decide) rfl dX1_room_53 ?_)
    refine wg_iload_n (pc := 56) hX dX1_room_56 2 rfl ?_
    refine wu_ (wg_rI (pc := 57) hX ar_145 dX1_room_57 fun v5 => ?_)
    exact wu_rt (wg_iret (pc := 58) hX rfl rfl dX1_room_58)
  refine wu_f h4 ?_
  by_cases h6 : a3 = 1
  · refine wu_t h6 ?_
    refine wg_tableIn (pc := 20) hX dX1_room_20 (by rw [h6]; decide) (by rw [h6]; decide) (by rw [h6]; rfl) (by decide : ((20 : Nat) : Int) + 39 = ((59 : Nat) : Int)) ?_
    refine wg_aload (pc := 59) hX dX1_room_59 4 rfl ?_
    refine wu_ (wg_gC (pc := 61) (v := (2 * r3 - 1)) hX fd_X1_235 (by decide) rfl dX1_room_61 ?_)
    refine wu_ (wg_gC (pc := 64) (v := (2 * r3 - 1)) hX fd_X1_248 (by decide) rfl dX1_room_64 ?_)
    refine wg_iload_n (pc := 67) hX dX1_room_67 2 rfl ?_
    refine wu_ (wg_rI (pc := 68) hX ar_146 dX1_room_68 fun v7 => ?_)
    exact wu_rt (wg_iret (pc := 69) hX rfl rfl dX1_room_69)
  refine wu_f h6 ?_
  by_cases h8 : a3 = 2
  · refine wu_t h8 ?_
    refine wg_tableIn (pc := 20) hX dX1_room_20 (by rw [h8]; decide) (by rw [h8]; decide) (by rw [h8]; rfl) (by decide : ((20 : Nat) : Int) + 50 = ((70 : Nat) : Int)) ?_
    refine wg_aload (pc := 70) hX dX1_room_70 4 rfl ?_
    refine wg_aload (pc := 72) hX dX1_room_72 4 rfl ?_
    refine wu_ (wg_gC (pc := 74) (v := (2 * r3 - 1)) hX fd_X1_235 (by decide) rfl dX1_room_74 ?_)
    refine wg_iload_n (pc := 77) hX dX1_room_77 2 rfl ?_
    refine wu_ (wg_gd fun h9 => ?_)
    refine wu_ (wg_cVi (pc := 78) (As := [.ref (rid 4 (2 * r3 - 1)), .int a2]) (rest := []) hX (m_X5_burns r3 (2 * r3 - 1) a2) (by decide) (by decide) h9 rc_X5 (lw_V q718 q694 q695 q167 q696) hd_X5_burns rfl (Nat.le_of_ble_eq_true rfl) (Nat.le_of_ble_eq_true rfl) (Nat.le_of_ble_eq_true rfl) rfl dX1_room_78 fun v10 => ?_)
    refine wg_if_eq (pc := 81) (tgt := 88) hX dX1_room_81 (by decide) (fun h11 => ?_) (fun h11 => ?_)
    · refine wu_t h11 ?_
      refine wg_iconst (pc := 88) (v := 0) hX dX1_room_88 rfl ?_
      exact wu_rt (wg_iret (pc := 89) hX rfl rfl dX1_room_89)
    refine wu_f h11 ?_
    refine wg_iconst (pc := 84) (v := 1) hX dX1_room_84 rfl ?_
    refine wg_goto (pc := 85) (tgt := 89) hX dX1_room_85 (by decide) ?_
    exact wu_rt (wg_iret (pc := 89) hX rfl rfl dX1_room_89)
  refine wu_f h8 ?_
  refine wg_tableOut (pc := 20) hX dX1_room_20 (am_out3 h4 h6 h8) (by decide : ((20 : Nat) : Int) + 70 = ((90 : Nat) : Int)) ?_
  refine wg_iconst (pc := 90) (v := (-1)) hX dX1_room_90 rfl ?_
  exact wu_rt (wg_iret (pc := 91) hX rfl rfl dX1_room_91)
theorem m_X5_load (r0 : Nat) (a1 : Nat) (a2 : Int32) : amMet yX5_load cX5_load 3 (some .int) 1 32 encI [.ref (rid 3 r0), .ref (rid 4 a1), .int a2] (up (p_X5_load r0 a1 a2)) := by
  refine amMet.of (own := RX5) (by decide) rfl (Nat.le_of_ble_eq_true rfl) fun X hX hPs => ?_
  change WG X encI 0 [(0, .ref (rid 3 r0)), (1, .ref (rid 4 a1)), (2, .int a2)] [] (bd1 (up (p_X5_load r0 a1 a2)) rt1)
  unfold p_X5_load
  refine wg_iload_n (pc := 0) hX dX5_load_0 2 rfl ?_
  refine wg_if_ne (pc := 1) (tgt := 8) hX dX5_load_1 (by decide) (fun h1 => ?_) (fun h1 => ?_)
  · refine wu_t h1 ?_
    refine wg_iconst (pc := 4) (v := 0) hX dX5_load_4 rfl ?_
    refine wg_goto (pc := 5) (tgt := 25) hX dX5_load_5 (by decide) ?_
    exact wu_rt (wg_iret (pc := 25) hX rfl rfl dX5_load_25)
  refine wu_f h1 ?_
  refine wg_aload_n (pc := 8) hX dX5_load_8 1 rfl ?_
  refine wu_ (wg_gC (pc := 9) (v := a1) hX fd_X5_69 (by decide) rfl dX5_load_9 ?_)
  refine wg_iload_n (pc := 12) hX dX5_load_12 2 rfl ?_
  refine wu_ (wg_rI (pc := 13) hX ar_148 dX5_load_13 fun v2 => ?_)
  refine wg_iconst (pc := 14) (v := 2) hX dX5_load_14 rfl ?_
  refine wg_aload_n (pc := 15) hX dX5_load_15 1 rfl ?_
  refine wu_ (wg_gC (pc := 16) (v := a1) hX fd_X5_69 (by decide) rfl dX5_load_16 ?_)
  refine wg_iload_n (pc := 19) hX dX5_load_19 2 rfl ?_
  refine wg_iconst (pc := 20) (v := 1) hX dX5_load_20 rfl ?_
  refine wg_isub (pc := 21) hX dX5_load_21 ?_
  refine wu_ (wg_rI (pc := 22) hX ar_148 dX5_load_22 fun v3 => ?_)
  refine wg_imul (pc := 23) hX dX5_load_23 ?_
  refine wg_iadd (pc := 24) hX dX5_load_24 ?_
  exact wu_rt (wg_iret (pc := 25) hX rfl rfl dX5_load_25)
theorem m_X1_floored (a1 : Int32) (a2 : Int32) (a3 : Int32) : amMet yX1_floored cX1_floored 5 (some .int) 4 97 encI [.ref (rid 0 1), .int a1, .int a2, .int a3] (up (p_X1_floored a1 a2 a3)) := by
  refine amMet.of (own := RX1) (by decide) rfl (Nat.le_of_ble_eq_true rfl) fun X hX hPs => ?_
  change WG X encI 0 [(0, .ref (rid 0 1)), (1, .int a1), (2, .int a2), (3, .int a3)] [] (bd1 (up (p_X1_floored a1 a2 a3)) rt1)
  unfold p_X1_floored
  have hM0 := amPs.m0 hPs
  refine wu_ (wg_gM ?_)
  refine wg_aload_n (pc := 0) hX dX1_floored_0 0 rfl ?_
  refine wg_iload_n (pc := 1) hX dX1_floored_1 1 rfl ?_
  refine wg_iload_n (pc := 2) hX dX1_floored_2 2 rfl ?_
  refine wu_ (wg_cVi (pc := 3) (As := [.int a1, .int a2]) (rest := []) hX (m_X1_isFloor a1 a2) (by decide) (by decide) (by decide) rc_X1 (lw_V q673 q675 qs8 q159 q676) hd_X1_isFloor rfl (Nat.le_of_ble_eq_true rfl) (Nat.le_of_ble_eq_true rfl) (Nat.le_of_ble_eq_true rfl) rfl dX1_floored_3 fun v1 => ?_)
  refine wg_if_ne (pc := 6) (tgt := 11) hX dX1_floored_6 (by decide) (fun h2 => ?_) (fun h2 => ?_)
  · refine wu_t h2 ?_
    refine wg_iconst (pc := 9) (v := (-1)) hX dX1_floored_9 rfl ?_
    exact wu_rt (wg_iret (pc := 10) hX rfl rfl dX1_floored_10)
  refine wu_f h2 ?_
  refine wg_aload_n (pc := 11) hX dX1_floored_11 0 rfl ?_
  refine wg_gK (pc := 12) hX hM0 fd_X1_30 (by decide) dX1_floored_12 ?_
  refine wg_iload_n (pc := 15) hX dX1_floored_15 1 rfl ?_
  refine wu_ (wg_rR (pc := 16) hX ar_24 (by decide) dX1_floored_16 fun r3 => ?_)
  refine wg_astore (pc := 17) (l' := [(0, .ref (rid 0 1)), (1, .int a1), (2, .int a2), (3, .int a3), (4, .ref (rid 3 r3))]) hX dX1_floored_17 (by decide) rfl ?_
  refine wg_iload_n (pc := 19) hX dX1_floored_19 3 rfl ?_
  by_cases h4 : a3 = 0
  · refine wu_t h4 ?_
    refine wg_tableIn (pc := 20) hX dX1_floored_20 (by rw [h4]; decide) (by rw [h4]; decide) (by rw [h4]; rfl) (by decide : ((20 : Nat) : Int) + 32 = ((52 : Nat) : Int)) ?_
    refine wg_aload (pc := 52) hX dX1_floored_52 4 rfl ?_
    refine wu_ (wg_gC (pc := 54) (v := (2 * r3 - 1)) hX fd_X1_235 (by decide) rfl dX1_floored_54 ?_)
    refine wu_ (wg_gC (pc := 57) (v := (2 * r3 - 1)) hX fd_X1_278 (by decide) rfl dX1_floored_57 ?_)
    refine wg_iload_n (pc := 60) hX dX1_floored_60 2 rfl ?_
    refine wu_ (wg_rI (pc := 61) hX ar_148 dX1_floored_61 fun v5 => ?_)
    exact wu_rt (wg_iret (pc := 62) hX rfl rfl dX1_floored_62)
  refine wu_f h4 ?_
  by_cases h6 : a3 = 1
  · refine wu_t h6 ?_
    refine wg_tableIn (pc := 20) hX dX1_floored_20 (by rw [h6]; decide) (by rw [h6]; decide) (by rw [h6]; rfl) (by decide : ((20 : Nat) : Int) + 43 = ((63 : Nat) : Int)) ?_
    refine wg_aload (pc := 63) hX dX1_floored_63 4 rfl ?_
    refine wu_ (wg_gC (pc := 65) (v := (2 * r3 - 1)) hX fd_X1_235 (by decide) rfl dX1_floored_65 ?_)
    refine wu_ (wg_gC (pc := 68) (v := (2 * r3 - 1)) hX fd_X1_239 (by decide) rfl dX1_floored_68 ?_)
    refine wg_iload_n (pc := 71) hX dX1_floored_71 2 rfl ?_
    refine wu_ (wg_rZ (pc := 72) hX ar_149 dX1_floored_72 fun v7 => ?_)
    refine wg_if_eq (pc := 73) (tgt := 80) hX dX1_floored_73 (by decide) (fun h8 => ?_) (fun h8 => ?_)
    · refine wu_t h8 ?_
      refine wg_iconst (pc := 80) (v := 0) hX dX1_floored_80 rfl ?_
      exact wu_rt (wg_iret (pc := 81) hX rfl rfl dX1_floored_81)
    refine wu_f h8 ?_
    refine wg_iconst (pc := 76) (v := 1) hX dX1_floored_76 rfl ?_
    refine wg_goto (pc := 77) (tgt := 81) hX dX1_floored_77 (by decide) ?_
    exact wu_rt (wg_iret (pc := 81) hX rfl rfl dX1_floored_81)
  refine wu_f h6 ?_
  by_cases h9 : a3 = 2
  · refine wu_t h9 ?_
    refine wg_tableIn (pc := 20) hX dX1_floored_20 (by rw [h9]; decide) (by rw [h9]; decide) (by rw [h9]; rfl) (by decide : ((20 : Nat) : Int) + 62 = ((82 : Nat) : Int)) ?_
    refine wg_aload (pc := 82) hX dX1_floored_82 4 rfl ?_
    refine wu_ (wg_gC (pc := 84) (v := r3) hX fd_X1_254 (by decide) rfl dX1_floored_84 ?_)
    refine wg_iload_n (pc := 87) hX dX1_floored_87 2 rfl ?_
    refine wu_ (wg_rI (pc := 88) hX ar_143 dX1_floored_88 fun v10 => ?_)
    exact wu_rt (wg_iret (pc := 89) hX rfl rfl dX1_floored_89)
  refine wu_f h9 ?_
  by_cases h11 : a3 = 3
  · refine wu_t h11 ?_
    refine wg_tableIn (pc := 20) hX dX1_floored_20 (by rw [h11]; decide) (by rw [h11]; decide) (by rw [h11]; rfl) (by decide : ((20 : Nat) : Int) + 70 = ((90 : Nat) : Int)) ?_
    refine wg_aload (pc := 90) hX dX1_floored_90 4 rfl ?_
    refine wg_aload (pc := 92) hX dX1_floored_92 4 rfl ?_
    refine wu_ (wg_gC (pc := 94) (v := (2 * r3 - 1)) hX fd_X1_235 (by decide) rfl dX1_floored_94 ?_)
    refine wg_iload_n (pc := 97) hX dX1_floored_97 2 rfl ?_
    refine wu_ (wg_gd fun h12 => ?_)
    refine wu_ (wg_cVi (pc := 98) (As := [.ref (rid 4 (2 * r3 - 1)), .int a2]) (rest := []) hX (m_X5_load r3 (2 * r3 - 1) a2) (by decide) (by decide) h12 rc_X5 (lw_V q723 q724 q725 q167 q726) hd_X5_load rfl (Nat.le_of_ble_eq_true rfl) (Nat.le_of_ble_eq_true rfl) (Nat.le_of_ble_eq_true rfl) rfl dX1_floored_98 fun v13 => ?_)
    exact wu_rt (wg_iret (pc := 101) hX rfl rfl dX1_floored_101)
  refine wu_f h11 ?_
  refine wg_tableOut (pc := 20) hX dX1_floored_20 (am_out4 h4 h6 h9 h11) (by decide : ((20 : Nat) : Int) + 82 = ((102 : Nat) : Int)) ?_
  refine wg_iconst (pc := 102) (v := (-1)) hX dX1_floored_102 rfl ?_
  exact wu_rt (wg_iret (pc := 103) hX rfl rfl dX1_floored_103)
theorem m_X1_burntOf (a1 : Nat) (a2 : Nat) : amMet yX1_burntOf cX1_burntOf 5 (some .int) 1 32 encI [.ref (rid 0 1), .ref (rid 3 a1), .ref (rid 4 a2)] (up (p_X1_burntOf a1 a2)) := by
  refine amMet.of (own := RX1) (by decide) rfl (Nat.le_of_ble_eq_true rfl) fun X hX hPs => ?_
  change WG X encI 0 [(0, .ref (rid 0 1)), (1, .ref (rid 3 a1)), (2, .ref (rid 4 a2))] [] (bd1 (up (p_X1_burntOf a1 a2)) rt1)
  unfold p_X1_burntOf
  refine wg_iconst (pc := 0) (v := 0) hX dX1_burntOf_0 rfl ?_
  refine wg_istore_n (pc := 1) (l' := [(0, .ref (rid 0 1)), (1, .ref (rid 3 a1)), (2, .ref (rid 4 a2)), (3, .int 0)]) hX dX1_burntOf_1 (by decide) rfl ?_
  refine wg_iconst (pc := 2) (v := 0) hX dX1_burntOf_2 rfl ?_
  refine wg_istore (pc := 3) (l' := [(0, .ref (rid 0 1)), (1, .ref (rid 3 a1)), (2, .ref (rid 4 a2)), (3, .int 0), (4, .int 0)]) hX dX1_burntOf_3 (by decide) rfl ?_
  refine wg_sub hX [1, 2, 3, 4] rfl ?_
  refine wu_lpx (α := Int32 × Int32) (γ := Int32) (pcl := 5) (pcT := 30) (lo := fun x => [(1, .ref (rid 3 a1)), (2, .ref (rid 4 a2)), (3, .int x.1), (4, .int x.2)]) (so := fun _ => []) (lT := fun x => [(3, .int x)]) (sT := fun _ => []) (n := amFu) (x0 := (0, 0)) (fun K1 rec1 hrec1 hk1 x1 => ?_) (fun y2 => ?_)
  · unfold p_X1_burntOf_L5
    refine wg_iload (pc := 5) hX dX1_burntOf_5 3 rfl ?_
    refine wg_aload_n (pc := 7) hX dX1_burntOf_7 0 rfl ?_
    refine wu_ (wg_gI (pc := 8) hX fd_X1_209 dX1_burntOf_8 fun v3 => ?_)
    refine wg_icmp_ge (pc := 11) (tgt := 30) hX dX1_burntOf_11 (by decide) (fun h4 => ?_) (fun h4 => ?_)
    · refine wu_t h4 ?_
      refine wg_sub hX [2] rfl ?_
      exact wu_rt (hk1 x1.1)
    refine wu_f h4 ?_
    refine wg_iload_n (pc := 14) hX dX1_burntOf_14 2 rfl ?_
    refine wg_aload_n (pc := 15) hX dX1_burntOf_15 1 rfl ?_
    refine wu_ (wg_gC (pc := 16) (v := a2) hX fd_X1_278 (by decide) rfl dX1_burntOf_16 ?_)
    refine wg_iload (pc := 19) hX dX1_burntOf_19 3 rfl ?_
    refine wu_ (wg_rI (pc := 21) hX ar_148 dX1_burntOf_21 fun v5 => ?_)
    refine wg_iadd (pc := 22) hX dX1_burntOf_22 ?_
    refine wu_ (wg_nmi hX fun v6 => ?_)
    refine wg_istore_n (pc := 23) (l' := [(1, .ref (rid 3 a1)), (2, .ref (rid 4 a2)), (3, .int v6), (4, .int x1.2)]) hX dX1_burntOf_23 (by decide) rfl ?_
    refine wg_iinc (pc := 24) (v := (x1.2 + 1)) (l' := [(1, .ref (rid 3 a1)), (2, .ref (rid 4 a2)), (3, .int v6), (4, .int (x1.2 + 1))]) hX dX1_burntOf_24 3 rfl rfl (by decide) rfl ?_
    refine wg_goto (pc := 27) (tgt := 5) hX dX1_burntOf_27 (by decide) ?_
    exact hrec1 (v6, (x1.2 + 1))
  refine wg_iload_n (pc := 30) hX dX1_burntOf_30 0 rfl ?_
  exact wu_rt (wg_iret (pc := 31) hX rfl rfl dX1_burntOf_31)
theorem m_X1_fallenOf (a1 : Nat) : amMet yX1_fallenOf cX1_fallenOf 4 (some .int) 1 32 encI [.ref (rid 0 1), .ref (rid 3 a1)] (up (p_X1_fallenOf a1)) := by
  refine amMet.of (own := RX1) (by decide) rfl (Nat.le_of_ble_eq_true rfl) fun X hX hPs => ?_
  change WG X encI 0 [(0, .ref (rid 0 1)), (1, .ref (rid 3 a1))] [] (bd1 (up (p_X1_fallenOf a1)) rt1)
  unfold p_X1_fallenOf
  refine wg_iconst (pc := 0) (v := 0) hX dX1_fallenOf_0 rfl ?_
  refine wg_istore_n (pc := 1) (l' := [(0, .ref (rid 0 1)), (1, .ref (rid 3 a1)), (2, .int 0)]) hX dX1_fallenOf_1 (by decide) rfl ?_
  refine wg_iconst (pc := 2) (v := 0) hX dX1_fallenOf_2 rfl ?_
  refine wg_istore_n (pc := 3) (l' := [(0, .ref (rid 0 1)), (1, .ref (rid 3 a1)), (2, .int 0), (3, .int 0)]) hX dX1_fallenOf_3 (by decide) rfl ?_
  refine wg_sub hX [1, 2, 3] rfl ?_
  refine wu_lpx (α := Int32 × Int32) (γ := Int32) (pcl := 4) (pcT := 33) (lo := fun x => [(1, .ref (rid 3 a1)), (2, .int x.1), (3, .int x.2)]) (so := fun _ => []) (lT := fun x => [(2, .int x)]) (sT := fun _ => []) (n := amFu) (x0 := (0, 0)) (fun K1 rec1 hrec1 hk1 x1 => ?_) (fun y2 => ?_)
  · unfold p_X1_fallenOf_L4
    refine wg_iload_n (pc := 4) hX dX1_fallenOf_4 2 rfl ?_
    refine wg_aload_n (pc := 5) hX dX1_fallenOf_5 0 rfl ?_
    refine wu_ (wg_gI (pc := 6) hX fd_X1_209 dX1_fallenOf_6 fun v3 => ?_)
    refine wg_icmp_ge (pc := 9) (tgt := 33) hX dX1_fallenOf_9 (by decide) (fun h4 => ?_) (fun h4 => ?_)
    · refine wu_t h4 ?_
      refine wg_sub hX [1] rfl ?_
      exact wu_rt (hk1 x1.1)
    refine wu_f h4 ?_
    refine wg_aload_n (pc := 12) hX dX1_fallenOf_12 0 rfl ?_
    refine wu_ (wg_gC (pc := 13) (v := (2 * a1 - 1)) hX fd_X1_235 (by decide) rfl dX1_fallenOf_13 ?_)
    refine wu_ (wg_gC (pc := 16) (v := (2 * a1 - 1)) hX fd_X1_239 (by decide) rfl dX1_fallenOf_16 ?_)
    refine wg_iload_n (pc := 19) hX dX1_fallenOf_19 2 rfl ?_
    refine wu_ (wg_rZ (pc := 20) hX ar_149 dX1_fallenOf_20 fun v5 => ?_)
    refine wu_jx (α := Int32) (pcJ := 27) (lJ := fun x => [(1, .ref (rid 3 a1)), (2, .int x), (3, .int x1.2)]) (sJ := fun x => []) (fun K6 hk6 => ?_) (fun z6 => ?_)
    · refine wg_if_eq (pc := 21) (tgt := 27) hX dX1_fallenOf_21 (by decide) (fun h7 => ?_) (fun h7 => ?_)
      · refine wu_t h7 ?_
        exact wu_rt (hk6 x1.1)
      refine wu_f h7 ?_
      refine wg_iinc (pc := 24) (v := (x1.1 + 1)) (l' := [(1, .ref (rid 3 a1)), (2, .int (x1.1 + 1)), (3, .int x1.2)]) hX dX1_fallenOf_24 1 rfl rfl (by decide) rfl ?_
      exact wu_rt (hk6 (x1.1 + 1))
    refine wg_iinc (pc := 27) (v := (x1.2 + 1)) (l' := [(1, .ref (rid 3 a1)), (2, .int z6), (3, .int (x1.2 + 1))]) hX dX1_fallenOf_27 2 rfl rfl (by decide) rfl ?_
    refine wg_goto (pc := 30) (tgt := 4) hX dX1_fallenOf_30 (by decide) ?_
    exact hrec1 (z6, (x1.2 + 1))
  refine wg_iload_n (pc := 33) hX dX1_fallenOf_33 0 rfl ?_
  exact wu_rt (wg_iret (pc := 34) hX rfl rfl dX1_fallenOf_34)
theorem m_X1_atWorkIn (a1 : Nat) : amMet yX1_atWorkIn cX1_atWorkIn 4 (some .int) 1 32 encI [.ref (rid 0 1), .ref (rid 3 a1)] (up (p_X1_atWorkIn a1)) := by
  refine amMet.of (own := RX1) (by decide) rfl (Nat.le_of_ble_eq_true rfl) fun X hX hPs => ?_
  change WG X encI 0 [(0, .ref (rid 0 1)), (1, .ref (rid 3 a1))] [] (bd1 (up (p_X1_atWorkIn a1)) rt1)
  unfold p_X1_atWorkIn
  have hM0 := amPs.m0 hPs
  refine wu_ (wg_gM ?_)
  refine wg_iconst (pc := 0) (v := 0) hX dX1_atWorkIn_0 rfl ?_
  refine wg_istore_n (pc := 1) (l' := [(0, .ref (rid 0 1)), (1, .ref (rid 3 a1)), (2, .int 0)]) hX dX1_atWorkIn_1 (by decide) rfl ?_
  refine wg_iconst (pc := 2) (v := 0) hX dX1_atWorkIn_2 rfl ?_
  refine wg_istore_n (pc := 3) (l' := [(0, .ref (rid 0 1)), (1, .ref (rid 3 a1)), (2, .int 0), (3, .int 0)]) hX dX1_atWorkIn_3 (by decide) rfl ?_
  refine wu_lpx (α := Int32 × Int32) (γ := Int32) (pcl := 4) (pcT := 47) (lo := fun x => [(0, .ref (rid 0 1)), (1, .ref (rid 3 a1)), (2, .int x.1), (3, .int x.2)]) (so := fun _ => []) (lT := fun x => [(2, .int x)]) (sT := fun _ => []) (n := amFu) (x0 := (0, 0)) (fun K1 rec1 hrec1 hk1 x1 => ?_) (fun y2 => ?_)
  · unfold p_X1_atWorkIn_L4
    refine wg_iload_n (pc := 4) hX dX1_atWorkIn_4 3 rfl ?_
    refine wg_aload_n (pc := 5) hX dX1_atWorkIn_5 0 rfl ?_
    refine wu_ (wg_gI (pc := 6) hX fd_X1_365 dX1_atWorkIn_6 fun v3 => ?_)
    refine wg_icmp_ge (pc := 9) (tgt := 47) hX dX1_atWorkIn_9 (by decide) (fun h4 => ?_) (fun h4 => ?_)
    · refine wu_t h4 ?_
      refine wg_sub hX [2] rfl ?_
      exact wu_rt (hk1 x1.1)
    refine wu_f h4 ?_
    refine wg_aload_n (pc := 12) hX dX1_atWorkIn_12 0 rfl ?_
    refine wg_gK (pc := 13) hX hM0 fd_X1_48 (by decide) dX1_atWorkIn_13 ?_
    refine wg_iload_n (pc := 16) hX dX1_atWorkIn_16 3 rfl ?_
    refine wu_ (wg_rR (pc := 17) hX ar_28 (by decide) dX1_atWorkIn_17 fun r5 => ?_)
    refine wu_ (wg_gI (pc := 18) hX fd_X1_389 dX1_atWorkIn_18 fun v6 => ?_)
    refine wg_iconst (pc := 21) (v := 2) hX dX1_atWorkIn_21 rfl ?_
    refine wu_jx (α := Int32) (pcJ := 41) (lJ := fun x => [(0, .ref (rid 0 1)), (1, .ref (rid 3 a1)), (2, .int x), (3, .int x1.2)]) (sJ := fun x => []) (fun K7 hk7 => ?_) (fun z7 => ?_)
    · refine wg_icmp_ne (pc := 22) (tgt := 41) hX dX1_atWorkIn_22 (by decide) (fun h8 => ?_) (fun h8 => ?_)
      rotate_left
      · refine wu_f h8 ?_
        exact wu_rt (hk7 x1.1)
      refine wu_t h8 ?_
      refine wg_aload_n (pc := 25) hX dX1_atWorkIn_25 0 rfl ?_
      refine wg_gK (pc := 26) hX hM0 fd_X1_48 (by decide) dX1_atWorkIn_26 ?_
      refine wg_iload_n (pc := 29) hX dX1_atWorkIn_29 3 rfl ?_
      refine wu_ (wg_rR (pc := 30) hX ar_28 (by decide) dX1_atWorkIn_30 fun r9 => ?_)
      refine wu_ (wg_gR (pc := 31) hX fd_X1_401 dX1_atWorkIn_31 fun r10 => ?_)
      refine wg_aload_n (pc := 34) hX dX1_atWorkIn_34 1 rfl ?_
      refine wg_acmp_ne (pc := 35) (tgt := 41) hX (by decide) dX1_atWorkIn_35 (by decide) (fun h11 => ?_) (fun h11 => ?_)
      rotate_left
      · refine wu_f h11 ?_
        exact wu_rt (hk7 x1.1)
      refine wu_t h11 ?_
      refine wg_iinc (pc := 38) (v := (x1.1 + 1)) (l' := [(0, .ref (rid 0 1)), (1, .ref (rid 3 a1)), (2, .int (x1.1 + 1)), (3, .int x1.2)]) hX dX1_atWorkIn_38 2 rfl rfl (by decide) rfl ?_
      exact wu_rt (hk7 (x1.1 + 1))
    refine wg_iinc (pc := 41) (v := (x1.2 + 1)) (l' := [(0, .ref (rid 0 1)), (1, .ref (rid 3 a1)), (2, .int z7), (3, .int (x1.2 + 1))]) hX dX1_atWorkIn_41 3 rfl rfl (by decide) rfl ?_
    refine wg_goto (pc := 44) (tgt := 4) hX dX1_atWorkIn_44 (by decide) ?_
    exact hrec1 (z7, (x1.2 + 1))
  refine wg_iload_n (pc := 47) hX dX1_atWorkIn_47 0 rfl ?_
  exact wu_rt (wg_iret (pc := 48) hX rfl rfl dX1_atWorkIn_48)
theorem m_X1_housed (a1 : Int32) (a2 : Int32) : amMet yX1_housed cX1_housed 4 (some .int) 4 97 encI [.ref (rid 0 1), .int a1, .int a2] (up (p_X1_housed a1 a2)) := by
  refine amMet.of (own := RX1) (by decide) rfl (Nat.le_of_ble_eq_true rfl) fun X hX hPs => ?_
  change WG X encI 0 [(0, .ref (rid 0 1)), (1, .int a1), (2, .int a2)] [] (bd1 (up (p_X1_housed a1 a2)) rt1)
  unfold p_X1_housed
  have hM0 := amPs.m0 hPs
  refine wu_ (wg_gM ?_)
  refine wg_aload_n (pc := 0) hX dX1_housed_0 0 rfl ?_
  refine wg_iload_n (pc := 1) hX dX1_housed_1 1 rfl ?_
  refine wu_ (wg_cVi (pc := 2) (As := [.int a1]) (rest := []) hX (m_X1_isHouse a1) (by decide) (by decide) (by decide) rc_X1 (lw_V q657 q659 qs6 q159 q660) hd_X1_isHouse rfl (Nat.le_of_ble_eq_true rfl) (Nat.le_of_ble_eq_true rfl) (Nat.le_of_ble_eq_true rfl) rfl dX1_housed_2 fun v1 => ?_)
  refine wg_if_ne (pc := 5) (tgt := 10) hX dX1_housed_5 (by decide) (fun h2 => ?_) (fun h2 => ?_)
  · refine wu_t h2 ?_
    refine wg_iconst (pc := 8) (v := (-1)) hX dX1_housed_8 rfl ?_
    exact wu_rt (wg_iret (pc := 9) hX rfl rfl dX1_housed_9)
  refine wu_f h2 ?_
  refine wg_aload_n (pc := 10) hX dX1_housed_10 0 rfl ?_
  refine wg_gK (pc := 11) hX hM0 fd_X1_30 (by decide) dX1_housed_11 ?_
  refine wg_iload_n (pc := 14) hX dX1_housed_14 1 rfl ?_
  refine wu_ (wg_rR (pc := 15) hX ar_24 (by decide) dX1_housed_15 fun r3 => ?_)
  refine wg_astore_n (pc := 16) (l' := [(0, .ref (rid 0 1)), (1, .int a1), (2, .int a2), (3, .ref (rid 3 r3))]) hX dX1_housed_16 (by decide) rfl ?_
  refine wg_iload_n (pc := 17) hX dX1_housed_17 2 rfl ?_
  by_cases h4 : a2 = 0
  · refine wu_t h4 ?_
    refine wg_tableIn (pc := 18) hX dX1_housed_18 (by rw [h4]; decide) (by rw [h4]; decide) (by rw [h4]; rfl) (by decide : ((18 : Nat) : Int) + 42 = ((60 : Nat) : Int)) ?_
    refine wg_aload_n (pc := 60) hX dX1_housed_60 3 rfl ?_
    refine wu_ (wg_gd fun h5 => ?_)
    refine wu_ (wg_cVi (pc := 61) (As := []) (rest := []) hX (m_X5_burning r3) (by decide) (by decide) h5 rc_X5 (lw_V q685 q686 q687 q167 q688) hd_X5_burning rfl (Nat.le_of_ble_eq_true rfl) (Nat.le_of_ble_eq_true rfl) (Nat.le_of_ble_eq_true rfl) rfl dX1_housed_61 fun v6 => ?_)
    exact wu_rt (wg_iret (pc := 64) hX rfl rfl dX1_housed_64)
  refine wu_f h4 ?_
  by_cases h7 : a2 = 1
  · refine wu_t h7 ?_
    refine wg_tableIn (pc := 18) hX dX1_housed_18 (by rw [h7]; decide) (by rw [h7]; decide) (by rw [h7]; rfl) (by decide : ((18 : Nat) : Int) + 47 = ((65 : Nat) : Int)) ?_
    refine wg_aload_n (pc := 65) hX dX1_housed_65 0 rfl ?_
    refine wg_aload_n (pc := 66) hX dX1_housed_66 3 rfl ?_
    refine wg_aload_n (pc := 67) hX dX1_housed_67 3 rfl ?_
    refine wu_ (wg_gC (pc := 68) (v := (2 * r3 - 1)) hX fd_X1_235 (by decide) rfl dX1_housed_68 ?_)
    refine wu_ (wg_cVi (pc := 71) (As := [.ref (rid 3 r3), .ref (rid 4 (2 * r3 - 1))]) (rest := []) hX (m_X1_burntOf r3 (2 * r3 - 1)) (by decide) (by decide) (by decide) rc_X1 (lw_V q731 q733 qs12 q159 q734) hd_X1_burntOf rfl (Nat.le_of_ble_eq_true rfl) (Nat.le_of_ble_eq_true rfl) (Nat.le_of_ble_eq_true rfl) rfl dX1_housed_71 fun v8 => ?_)
    exact wu_rt (wg_iret (pc := 74) hX rfl rfl dX1_housed_74)
  refine wu_f h7 ?_
  by_cases h9 : a2 = 2
  · refine wu_t h9 ?_
    refine wg_tableIn (pc := 18) hX dX1_housed_18 (by rw [h9]; decide) (by rw [h9]; decide) (by rw [h9]; rfl) (by decide : ((18 : Nat) : Int) + 57 = ((75 : Nat) : Int)) ?_
    refine wg_aload_n (pc := 75) hX dX1_housed_75 3 rfl ?_
    refine wu_ (wg_gI (pc := 76) hX fd_X1_292 dX1_housed_76 fun v10 => ?_)
    exact wu_rt (wg_iret (pc := 79) hX rfl rfl dX1_housed_79)
  refine wu_f h9 ?_
  by_cases h11 : a2 = 3
  · refine wu_t h11 ?_
    refine wg_tableIn (pc := 18) hX dX1_housed_18 (by rw [h11]; decide) (by rw [h11]; decide) (by rw [h11]; rfl) (by decide : ((18 : Nat) : Int) + 62 = ((80 : Nat) : Int)) ?_
    refine wg_aload_n (pc := 80) hX dX1_housed_80 3 rfl ?_
    refine wu_ (wg_gI (pc := 81) hX fd_X1_295 dX1_housed_81 fun v12 => ?_)
    exact wu_rt (wg_iret (pc := 84) hX rfl rfl dX1_housed_84)
  refine wu_f h11 ?_
  by_cases h13 : a2 = 4
  · refine wu_t h13 ?_
    refine wg_tableIn (pc := 18) hX dX1_housed_18 (by rw [h13]; decide) (by rw [h13]; decide) (by rw [h13]; rfl) (by decide : ((18 : Nat) : Int) + 67 = ((85 : Nat) : Int)) ?_
    refine wg_aload_n (pc := 85) hX dX1_housed_85 0 rfl ?_
    refine wg_aload_n (pc := 86) hX dX1_housed_86 3 rfl ?_
    refine wu_ (wg_cVi (pc := 87) (As := [.ref (rid 3 r3)]) (rest := []) hX (m_X1_fallenOf r3) (by decide) (by decide) (by decide) rc_X1 (lw_V q735 q737 qs13 q159 q738) hd_X1_fallenOf rfl (Nat.le_of_ble_eq_true rfl) (Nat.le_of_ble_eq_true rfl) (Nat.le_of_ble_eq_true rfl) rfl dX1_housed_87 fun v14 => ?_)
    exact wu_rt (wg_iret (pc := 90) hX rfl rfl dX1_housed_90)
  refine wu_f h13 ?_
  by_cases h15 : a2 = 5
  · refine wu_t h15 ?_
    refine wg_tableIn (pc := 18) hX dX1_housed_18 (by rw [h15]; decide) (by rw [h15]; decide) (by rw [h15]; rfl) (by decide : ((18 : Nat) : Int) + 73 = ((91 : Nat) : Int)) ?_
    refine wg_aload_n (pc := 91) hX dX1_housed_91 0 rfl ?_
    refine wg_aload_n (pc := 92) hX dX1_housed_92 3 rfl ?_
    refine wu_ (wg_cVi (pc := 93) (As := [.ref (rid 3 r3)]) (rest := []) hX (m_X1_atWorkIn r3) (by decide) (by decide) (by decide) rc_X1 (lw_V q739 q741 qs14 q159 q742) hd_X1_atWorkIn rfl (Nat.le_of_ble_eq_true rfl) (Nat.le_of_ble_eq_true rfl) (Nat.le_of_ble_eq_true rfl) rfl dX1_housed_93 fun v16 => ?_)
    exact wu_rt (wg_iret (pc := 96) hX rfl rfl dX1_housed_96)
  refine wu_f h15 ?_
  by_cases h17 : a2 = 6
  · refine wu_t h17 ?_
    refine wg_tableIn (pc := 18) hX dX1_housed_18 (by rw [h17]; decide) (by rw [h17]; decide) (by rw [h17]; rfl) (by decide : ((18 : Nat) : Int) + 79 = ((97 : Nat) : Int)) ?_
    refine wg_aload_n (pc := 97) hX dX1_housed_97 3 rfl ?_
    refine wu_ (wg_gI (pc := 98) hX fd_X1_305 dX1_housed_98 fun v18 => ?_)
    exact wu_rt (wg_iret (pc := 101) hX rfl rfl dX1_housed_101)
  refine wu_f h17 ?_
  refine wg_tableOut (pc := 18) hX dX1_housed_18 (am_out7 h4 h7 h9 h11 h13 h15 h17) (by decide : ((18 : Nat) : Int) + 84 = ((102 : Nat) : Int)) ?_
  refine wg_iconst (pc := 102) (v := (-1)) hX dX1_housed_102 rfl ?_
  exact wu_rt (wg_iret (pc := 103) hX rfl rfl dX1_housed_103)
theorem m_X1_main (a1 : Int32) : amMet yX1_main cX1_main 2 (some .int) 2 54 encI [.ref (rid 0 1), .int a1] (up (p_X1_main a1)) := by
  refine amMet.of (own := RX1) (by decide) rfl (Nat.le_of_ble_eq_true rfl) fun X hX hPs => ?_
  change WG X encI 0 [(0, .ref (rid 0 1)), (1, .int a1)] [] (bd1 (up (p_X1_main a1)) rt1)
  unfold p_X1_main
  have hM0 := amPs.m0 hPs
  refine wu_ (wg_gM ?_)
  refine wg_iload_n (pc := 0) hX dX1_main_0 1 rfl ?_
  refine wg_bipush (pc := 1) (v := 10) hX dX1_main_1 rfl ?_
  refine wg_sipush (pc := 3) (v := 2000) hX dX1_main_3 rfl ?_
  refine wu_ (wg_cSi (pc := 6) (As := [.int a1, .int 10, .int 2000]) (rest := []) hX (m_X1_in a1 10 2000) (lw_S q471 q472 q159 q473) hd_X1_in rfl (Nat.le_of_ble_eq_true rfl) (Nat.le_of_ble_eq_true rfl) (Nat.le_of_ble_eq_true rfl) rfl dX1_main_6 fun v1 => ?_)
  refine wg_if_eq (pc := 9) (tgt := 21) hX dX1_main_9 (by decide) (fun h2 => ?_) (fun h2 => ?_)
  · refine wu_t h2 ?_
    refine wg_iconst (pc := 21) (v := (-1)) hX dX1_main_21 rfl ?_
    exact wu_rt (wg_iret (pc := 22) hX rfl rfl dX1_main_22)
  refine wu_f h2 ?_
  refine wg_aload_n (pc := 12) hX dX1_main_12 0 rfl ?_
  refine wu_ (wg_gI (pc := 13) hX fd_X1_356 dX1_main_13 fun v3 => ?_)
  refine wg_bipush (pc := 16) (v := 6) hX dX1_main_16 rfl ?_
  refine wg_icmp_ne (pc := 18) (tgt := 23) hX dX1_main_18 (by decide) (fun h4 => ?_) (fun h4 => ?_)
  · refine wu_t h4 ?_
    refine wg_iconst (pc := 21) (v := (-1)) hX dX1_main_21 rfl ?_
    exact wu_rt (wg_iret (pc := 22) hX rfl rfl dX1_main_22)
  refine wu_f h4 ?_
  refine wg_aload_n (pc := 23) hX dX1_main_23 0 rfl ?_
  refine wg_gK (pc := 24) hX hM0 fd_X1_34 (by decide) dX1_main_24 ?_
  refine wg_aload_n (pc := 27) hX dX1_main_27 0 rfl ?_
  refine wu_ (wg_gI (pc := 28) hX fd_X1_356 dX1_main_28 fun v5 => ?_)
  refine wg_iload_n (pc := 31) hX dX1_main_31 1 rfl ?_
  refine wu_ (wg_wI (pc := 32) hX ar_25 dX1_main_32 ?_)
  refine wg_aload_n (pc := 33) hX dX1_main_33 0 rfl ?_
  refine wg_dup (pc := 34) hX dX1_main_34 rfl ?_
  refine wu_ (wg_gI (pc := 35) hX fd_X1_356 dX1_main_35 fun v6 => ?_)
  refine wg_iconst (pc := 38) (v := 1) hX dX1_main_38 rfl ?_
  refine wg_iadd (pc := 39) hX dX1_main_39 ?_
  refine wu_ (wg_pI (pc := 40) hX fp_X1_356 (fun h => by cases h) dX1_main_40 ?_)
  refine wg_aload_n (pc := 43) hX dX1_main_43 0 rfl ?_
  refine wu_ (wg_gI (pc := 44) hX fd_X1_356 dX1_main_44 fun v7 => ?_)
  refine wg_iconst (pc := 47) (v := 1) hX dX1_main_47 rfl ?_
  refine wg_isub (pc := 48) hX dX1_main_48 ?_
  exact wu_rt (wg_iret (pc := 49) hX rfl rfl dX1_main_49)
theorem m_X7_init (r0 : Nat) (a1 : Int32) (a2 : Int32) : amMet yX7_init cX7_init 3 none 1 32 encV [.ref (rid 5 r0), .int a1, .int a2] (up (p_X7_init r0 a1 a2)) := by
  refine amMet.ofI (own := RX7) (by decide) rfl (Nat.le_of_ble_eq_true rfl) rfl fun X hX hN => ?_
  change WG X encV 0 [(0, .ref (rid 5 r0)), (1, .int a1), (2, .int a2)] [] (bd1 (up (p_X7_init r0 a1 a2)) rt1)
  unfold p_X7_init
  refine wg_aload_n (pc := 0) hX dX7_init_0 0 rfl ?_
  refine wu_ (wg_gd fun h1 => ?_)
  refine wg_objI (pc := 1) hX h1 q755 q207 q208 (Nat.le_of_ble_eq_true rfl) (Nat.le_of_ble_eq_true rfl) dX7_init_1 ?_
  refine wg_aload_n (pc := 4) hX dX7_init_4 0 rfl ?_
  refine wg_iload_n (pc := 5) hX dX7_init_5 1 rfl ?_
  refine wu_ (wg_pI (pc := 6) hX fp_X7_7 (fun _ => hN) dX7_init_6 ?_)
  refine wg_aload_n (pc := 9) hX dX7_init_9 0 rfl ?_
  refine wg_iload_n (pc := 10) hX dX7_init_10 2 rfl ?_
  refine wu_ (wg_pI (pc := 11) hX fp_X7_13 (fun _ => hN) dX7_init_11 ?_)
  exact wu_rt (wg_vret (pc := 14) hX rfl rfl dX7_init_14)
theorem m_X1_head (a1 : Int32) (a2 : Int32) : amMet yX1_head cX1_head 3 (some .int) 3 74 encI [.ref (rid 0 1), .int a1, .int a2] (p_X1_head a1 a2) := by
  refine amMet.of (own := RX1) (by decide) rfl (Nat.le_of_ble_eq_true rfl) fun X hX hPs => ?_
  change WG X encI 0 [(0, .ref (rid 0 1)), (1, .int a1), (2, .int a2)] [] (bd1 (p_X1_head a1 a2) rt1)
  unfold p_X1_head
  have hM0 := amPs.m1 hPs
  refine wv_ (wg_gM ?_)
  refine wg_iload_n (pc := 0) hX dX1_head_0 1 rfl ?_
  refine wv_ (wg_cSi (pc := 1) (As := [.int a1]) (rest := []) hX (m_X1_isCorner a1) (lw_S q468 q469 q159 q470) hd_X1_isCorner rfl (Nat.le_of_ble_eq_true rfl) (Nat.le_of_ble_eq_true rfl) (Nat.le_of_ble_eq_true rfl) rfl dX1_head_1 fun v1 => ?_)
  refine wg_if_eq (pc := 4) (tgt := 30) hX dX1_head_4 (by decide) (fun h2 => ?_) (fun h2 => ?_)
  · refine wv_t h2 ?_
    refine wg_iconst (pc := 30) (v := (-1)) hX dX1_head_30 rfl ?_
    exact wv_rt (wg_iret (pc := 31) hX rfl rfl dX1_head_31)
  refine wv_f h2 ?_
  refine wg_iload_n (pc := 7) hX dX1_head_7 2 rfl ?_
  refine wg_iconst (pc := 8) (v := 0) hX dX1_head_8 rfl ?_
  refine wg_aload_n (pc := 9) hX dX1_head_9 0 rfl ?_
  refine wv_ (wg_gI (pc := 10) hX fd_X1_356 dX1_head_10 fun v3 => ?_)
  refine wg_iconst (pc := 13) (v := 1) hX dX1_head_13 rfl ?_
  refine wg_isub (pc := 14) hX dX1_head_14 ?_
  refine wv_ (wg_cSi (pc := 15) (As := [.int a2, .int 0, .int (v3 - 1)]) (rest := []) hX (m_X1_in a2 0 (v3 - 1)) (lw_S q471 q472 q159 q473) hd_X1_in rfl (Nat.le_of_ble_eq_true rfl) (Nat.le_of_ble_eq_true rfl) (Nat.le_of_ble_eq_true rfl) rfl dX1_head_15 fun v4 => ?_)
  refine wg_if_eq (pc := 18) (tgt := 30) hX dX1_head_18 (by decide) (fun h5 => ?_) (fun h5 => ?_)
  · refine wv_t h5 ?_
    refine wg_iconst (pc := 30) (v := (-1)) hX dX1_head_30 rfl ?_
    exact wv_rt (wg_iret (pc := 31) hX rfl rfl dX1_head_31)
  refine wv_f h5 ?_
  refine wg_aload_n (pc := 21) hX dX1_head_21 0 rfl ?_
  refine wv_ (wg_gI (pc := 22) hX fd_X1_359 dX1_head_22 fun v6 => ?_)
  refine wg_bipush (pc := 25) (v := 20) hX dX1_head_25 rfl ?_
  refine wg_icmp_ne (pc := 27) (tgt := 32) hX dX1_head_27 (by decide) (fun h7 => ?_) (fun h7 => ?_)
  · refine wv_t h7 ?_
    refine wg_iconst (pc := 30) (v := (-1)) hX dX1_head_30 rfl ?_
    exact wv_rt (wg_iret (pc := 31) hX rfl rfl dX1_head_31)
  refine wv_f h7 ?_
  refine wg_aload_n (pc := 32) hX dX1_head_32 0 rfl ?_
  refine wg_gK (pc := 33) hX hM0 fd_X1_42 (by decide) dX1_head_33 ?_
  refine wg_aload_n (pc := 36) hX dX1_head_36 0 rfl ?_
  refine wv_ (wg_gI (pc := 37) hX fd_X1_359 dX1_head_37 fun v8 => ?_)
  refine wv_ (wg_nw (pc := 40) hX nw_X1_40 dX1_head_40 fun r9 => ?_)
  refine wg_dup (pc := 43) hX dX1_head_43 rfl ?_
  refine wg_iload_n (pc := 44) hX dX1_head_44 1 rfl ?_
  refine wg_iload_n (pc := 45) hX dX1_head_45 2 rfl ?_
  refine wv_ (wg_gd fun h10 => ?_)
  refine wv_ (wg_cIv (pc := 46) (As := [.int a1, .int a2]) (rest := [.ref (rid 5 r9), .int v8, .ref (rid 27 1)]) hX (m_X7_init r9 a1 a2) h10 rfl q752 q753 q169 q754 hd_X7_init rfl (Nat.le_of_ble_eq_true rfl) (Nat.le_of_ble_eq_true rfl) (Nat.le_of_ble_eq_true rfl) rfl dX1_head_46 ?_)
  refine wv_ (wg_wR (pc := 49) hX ar_27 el_27 dX1_head_49 ?_)
  refine wg_aload_n (pc := 50) hX dX1_head_50 0 rfl ?_
  refine wg_dup (pc := 51) hX dX1_head_51 rfl ?_
  refine wv_ (wg_gI (pc := 52) hX fd_X1_359 dX1_head_52 fun v11 => ?_)
  refine wg_iconst (pc := 55) (v := 1) hX dX1_head_55 rfl ?_
  refine wg_iadd (pc := 56) hX dX1_head_56 ?_
  refine wv_ (wg_pI (pc := 57) hX fp_X1_359 (fun h => by cases h) dX1_head_57 ?_)
  refine wg_aload_n (pc := 60) hX dX1_head_60 0 rfl ?_
  refine wv_ (wg_gI (pc := 61) hX fd_X1_359 dX1_head_61 fun v12 => ?_)
  refine wg_iconst (pc := 64) (v := 1) hX dX1_head_64 rfl ?_
  refine wg_isub (pc := 65) hX dX1_head_65 ?_
  exact wv_rt (wg_iret (pc := 66) hX rfl rfl dX1_head_66)
theorem m_X8_init (r0 : Nat) (a1 : Int32) (a2 : Int32) (a3 : Int32) (a4 : Int32) (a5 : Int32) : amMet yX8_init cX8_init 6 none 1 32 encV [.ref (rid 6 r0), .int a1, .int a2, .int a3, .int a4, .int a5] (up (p_X8_init r0 a1 a2 a3 a4 a5)) := by
  refine amMet.ofI (own := RX8) (by decide) rfl (Nat.le_of_ble_eq_true rfl) rfl fun X hX hN => ?_
  change WG X encV 0 [(0, .ref (rid 6 r0)), (1, .int a1), (2, .int a2), (3, .int a3), (4, .int a4), (5, .int a5)] [] (bd1 (up (p_X8_init r0 a1 a2 a3 a4 a5)) rt1)
  unfold p_X8_init
  refine wg_aload_n (pc := 0) hX dX8_init_0 0 rfl ?_
  refine wu_ (wg_gd fun h1 => ?_)
  refine wg_objI (pc := 1) hX h1 q781 q207 q208 (Nat.le_of_ble_eq_true rfl) (Nat.le_of_ble_eq_true rfl) dX8_init_1 ?_
  refine wg_aload_n (pc := 4) hX dX8_init_4 0 rfl ?_
  refine wg_iconst (pc := 5) (v := 0) hX dX8_init_5 rfl ?_
  refine wu_ (wg_pI (pc := 6) hX fp_X8_9 (fun h => by cases h) dX8_init_6 ?_)
  refine wg_aload_n (pc := 9) hX dX8_init_9 0 rfl ?_
  refine wg_iconst (pc := 10) (v := (-1)) hX dX8_init_10 rfl ?_
  refine wu_ (wg_pI (pc := 11) hX fp_X8_15 (fun h => by cases h) dX8_init_11 ?_)
  refine wg_aload_n (pc := 14) hX dX8_init_14 0 rfl ?_
  refine wg_iconst (pc := 15) (v := (-1)) hX dX8_init_15 rfl ?_
  refine wu_ (wg_pI (pc := 16) hX fp_X8_18 (fun h => by cases h) dX8_init_16 ?_)
  refine wg_aload_n (pc := 19) hX dX8_init_19 0 rfl ?_
  refine wg_iconst (pc := 20) (v := (-1)) hX dX8_init_20 rfl ?_
  refine wu_ (wg_pI (pc := 21) hX fp_X8_21 (fun h => by cases h) dX8_init_21 ?_)
  refine wg_aload_n (pc := 24) hX dX8_init_24 0 rfl ?_
  refine wg_iconst (pc := 25) (v := (-1)) hX dX8_init_25 rfl ?_
  refine wu_ (wg_pI (pc := 26) hX fp_X8_24 (fun h => by cases h) dX8_init_26 ?_)
  refine wg_aload_n (pc := 29) hX dX8_init_29 0 rfl ?_
  refine wg_iload_n (pc := 30) hX dX8_init_30 1 rfl ?_
  refine wu_ (wg_pI (pc := 31) hX fp_X8_27 (fun _ => hN) dX8_init_31 ?_)
  refine wg_aload_n (pc := 34) hX dX8_init_34 0 rfl ?_
  refine wg_iload_n (pc := 35) hX dX8_init_35 2 rfl ?_
  refine wu_ (wg_pI (pc := 36) hX fp_X8_30 (fun _ => hN) dX8_init_36 ?_)
  refine wg_aload_n (pc := 39) hX dX8_init_39 0 rfl ?_
  refine wg_iload_n (pc := 40) hX dX8_init_40 3 rfl ?_
  refine wu_ (wg_gd fun h2 => ?_)
  refine wu_ (wg_pZ (pc := 41) hX fp_X8_33 (fun _ => hN) h2 dX8_init_41 ?_)
  refine wg_aload_n (pc := 44) hX dX8_init_44 0 rfl ?_
  refine wg_iload (pc := 45) hX dX8_init_45 4 rfl ?_
  refine wu_ (wg_pI (pc := 47) hX fp_X8_37 (fun _ => hN) dX8_init_47 ?_)
  refine wg_aload_n (pc := 50) hX dX8_init_50 0 rfl ?_
  refine wg_iload (pc := 51) hX dX8_init_51 5 rfl ?_
  refine wu_ (wg_pI (pc := 53) hX fp_X8_40 (fun _ => hN) dX8_init_53 ?_)
  refine wg_aload_n (pc := 56) hX dX8_init_56 0 rfl ?_
  refine wg_iload_n (pc := 57) hX dX8_init_57 2 rfl ?_
  refine wu_ (wg_pI (pc := 58) hX fp_X8_43 (fun h => by cases h) dX8_init_58 ?_)
  exact wu_rt (wg_vret (pc := 61) hX rfl rfl dX8_init_61)
theorem m_X9_init (r0 : Nat) (a1 : Int32) (a2 : Int32) (a3 : Int32) (a4 : Int32) (a5 : Int32) : amMet yX9_init cX9_init 6 none 2 57 encV [.ref (rid 6 r0), .int a1, .int a2, .int a3, .int a4, .int a5] (up (p_X9_init r0 a1 a2 a3 a4 a5)) := by
  refine amMet.ofI (own := RX9) (by decide) rfl (Nat.le_of_ble_eq_true rfl) rfl fun X hX hN => ?_
  change WG X encV 0 [(0, .ref (rid 6 r0)), (1, .int a1), (2, .int a2), (3, .int a3), (4, .int a4), (5, .int a5)] [] (bd1 (up (p_X9_init r0 a1 a2 a3 a4 a5)) rt1)
  unfold p_X9_init
  refine wg_aload_n (pc := 0) hX dX9_init_0 0 rfl ?_
  refine wg_iload_n (pc := 1) hX dX9_init_1 1 rfl ?_
  refine wg_iload_n (pc := 2) hX dX9_init_2 2 rfl ?_
  refine wg_iload_n (pc := 3) hX dX9_init_3 3 rfl ?_
  refine wg_iload (pc := 4) hX dX9_init_4 4 rfl ?_
  refine wg_iload (pc := 6) hX dX9_init_6 5 rfl ?_
  refine wu_ (wg_gd fun h1 => ?_)
  refine wu_ (wg_cIv (pc := 8) (As := [.int a1, .int a2, .int a3, .int a4, .int a5]) (rest := []) hX (m_X8_init r0 a1 a2 a3 a4 a5) h1 rfl q778 q779 q170 q780 hd_X8_init rfl (Nat.le_of_ble_eq_true rfl) (Nat.le_of_ble_eq_true rfl) (Nat.le_of_ble_eq_true rfl) rfl dX9_init_8 ?_)
  refine wg_aload_n (pc := 11) hX dX9_init_11 0 rfl ?_
  refine wg_bipush (pc := 12) (v := 100) hX dX9_init_12 rfl ?_
  refine wu_ (wg_pIs (pc := 14) hX fp_X9_7 (fun h => by cases h) dX9_init_14 ?_)
  refine wg_aload_n (pc := 17) hX dX9_init_17 0 rfl ?_
  refine wg_bipush (pc := 18) (v := 10) hX dX9_init_18 rfl ?_
  refine wu_ (wg_pIs (pc := 20) hX fp_X9_13 (fun h => by cases h) dX9_init_20 ?_)
  exact wu_rt (wg_vret (pc := 23) hX rfl rfl dX9_init_23)
theorem m_X10_init (r0 : Nat) (a1 : Int32) (a2 : Int32) (a3 : Int32) (a4 : Int32) (a5 : Int32) : amMet yX10_init cX10_init 6 none 3 82 encV [.ref (rid 6 r0), .int a1, .int a2, .int a3, .int a4, .int a5] (up (p_X10_init r0 a1 a2 a3 a4 a5)) := by
  refine amMet.ofI (own := RX10) (by decide) rfl (Nat.le_of_ble_eq_true rfl) rfl fun X hX hN => ?_
  change WG X encV 0 [(0, .ref (rid 6 r0)), (1, .int a1), (2, .int a2), (3, .int a3), (4, .int a4), (5, .int a5)] [] (bd1 (up (p_X10_init r0 a1 a2 a3 a4 a5)) rt1)
  unfold p_X10_init
  refine wg_aload_n (pc := 0) hX dX10_init_0 0 rfl ?_
  refine wg_iload_n (pc := 1) hX dX10_init_1 1 rfl ?_
  refine wg_iload_n (pc := 2) hX dX10_init_2 2 rfl ?_
  refine wg_iload_n (pc := 3) hX dX10_init_3 3 rfl ?_
  refine wg_iload (pc := 4) hX dX10_init_4 4 rfl ?_
  refine wg_iload (pc := 6) hX dX10_init_6 5 rfl ?_
  refine wu_ (wg_gd fun h1 => ?_)
  refine wu_ (wg_cIv (pc := 8) (As := [.int a1, .int a2, .int a3, .int a4, .int a5]) (rest := []) hX (m_X9_init r0 a1 a2 a3 a4 a5) h1 rfl q854 q776 q171 q777 hd_X9_init rfl (Nat.le_of_ble_eq_true rfl) (Nat.le_of_ble_eq_true rfl) (Nat.le_of_ble_eq_true rfl) rfl dX10_init_8 ?_)
  refine wg_aload_n (pc := 11) hX dX10_init_11 0 rfl ?_
  refine wg_iconst (pc := 12) (v := 1) hX dX10_init_12 rfl ?_
  refine wu_ (wg_pIs (pc := 13) hX fp_X10_7 (fun h => by cases h) dX10_init_13 ?_)
  exact wu_rt (wg_vret (pc := 16) hX rfl rfl dX10_init_16)
theorem m_X11_init (r0 : Nat) (a1 : Int32) (a2 : Int32) (a3 : Int32) (a4 : Int32) (a5 : Int32) : amMet yX11_init cX11_init 6 none 2 57 encV [.ref (rid 6 r0), .int a1, .int a2, .int a3, .int a4, .int a5] (up (p_X11_init r0 a1 a2 a3 a4 a5)) := by
  refine amMet.ofI (own := RX11) (by decide) rfl (Nat.le_of_ble_eq_true rfl) rfl fun X hX hN => ?_
  change WG X encV 0 [(0, .ref (rid 6 r0)), (1, .int a1), (2, .int a2), (3, .int a3), (4, .int a4), (5, .int a5)] [] (bd1 (up (p_X11_init r0 a1 a2 a3 a4 a5)) rt1)
  unfold p_X11_init
  refine wg_aload_n (pc := 0) hX dX11_init_0 0 rfl ?_
  refine wg_iload_n (pc := 1) hX dX11_init_1 1 rfl ?_
  refine wg_iload_n (pc := 2) hX dX11_init_2 2 rfl ?_
  refine wg_iload_n (pc := 3) hX dX11_init_3 3 rfl ?_
  refine wg_iload (pc := 4) hX dX11_init_4 4 rfl ?_
  refine wg_iload (pc := 6) hX dX11_init_6 5 rfl ?_
  refine wu_ (wg_gd fun h1 => ?_)
  refine wu_ (wg_cIv (pc := 8) (As := [.int a1, .int a2, .int a3, .int a4, .int a5]) (rest := []) hX (m_X8_init r0 a1 a2 a3 a4 a5) h1 rfl q882 q779 q170 q780 hd_X8_init rfl (Nat.le_of_ble_eq_true rfl) (Nat.le_of_ble_eq_true rfl) (Nat.le_of_ble_eq_true rfl) rfl dX11_init_8 ?_)
  refine wg_aload_n (pc := 11) hX dX11_init_11 0 rfl ?_
  refine wg_iconst (pc := 12) (v := 1) hX dX11_init_12 rfl ?_
  refine wu_ (wg_pIs (pc := 13) hX fp_X11_9 (fun h => by cases h) dX11_init_13 ?_)
  exact wu_rt (wg_vret (pc := 16) hX rfl rfl dX11_init_16)
theorem m_X12_init (r0 : Nat) (a1 : Int32) (a2 : Int32) (a3 : Int32) (a4 : Int32) (a5 : Int32) : amMet yX12_init cX12_init 6 none 2 57 encV [.ref (rid 6 r0), .int a1, .int a2, .int a3, .int a4, .int a5] (up (p_X12_init r0 a1 a2 a3 a4 a5)) := by
  refine amMet.ofI (own := RX12) (by decide) rfl (Nat.le_of_ble_eq_true rfl) rfl fun X hX hN => ?_
  change WG X encV 0 [(0, .ref (rid 6 r0)), (1, .int a1), (2, .int a2), (3, .int a3), (4, .int a4), (5, .int a5)] [] (bd1 (up (p_X12_init r0 a1 a2 a3 a4 a5)) rt1)
  unfold p_X12_init
  refine wg_aload_n (pc := 0) hX dX12_init_0 0 rfl ?_
  refine wg_iload_n (pc := 1) hX dX12_init_1 1 rfl ?_
  refine wg_iload_n (pc := 2) hX dX12_init_2 2 rfl ?_
  refine wg_iload_n (pc := 3) hX dX12_init_3 3 rfl ?_
  refine wg_iload (pc := 4) hX dX12_init_4 4 rfl ?_
  refine wg_iload (pc := 6) hX dX12_init_6 5 rfl ?_
  refine wu_ (wg_gd fun h1 => ?_)
  refine wu_ (wg_cIv (pc := 8) (As := [.int a1, .int a2, .int a3, .int a4, .int a5]) (rest := []) hX (m_X8_init r0 a1 a2 a3 a4 a5) h1 rfl q909 q779 q170 q780 hd_X8_init rfl (Nat.le_of_ble_eq_true rfl) (Nat.le_of_ble_eq_true rfl) (Nat.le_of_ble_eq_true rfl) rfl dX12_init_8 ?_)
  exact wu_rt (wg_vret (pc := 11) hX rfl rfl dX12_init_11)
theorem m_X1_make (a1 : Int32) (a2 : Int32) (a3 : Int32) (a4 : Int32) (a5 : Int32) : amMet yX1_make cX1_make 6 (some (.object "CityBrigade$Crew")) 4 107 (encR 6) [.ref (rid 0 1), .int a1, .int a2, .int a3, .int a4, .int a5] (p_X1_make a1 a2 a3 a4 a5) := by
  refine amMet.of (own := RX1) (by decide) rfl (Nat.le_of_ble_eq_true rfl) fun X hX hPs => ?_
  change WG X (encR 6) 0 [(0, .ref (rid 0 1)), (1, .int a1), (2, .int a2), (3, .int a3), (4, .int a4), (5, .int a5)] [] (bd1 (p_X1_make a1 a2 a3 a4 a5) rt1)
  unfold p_X1_make
  refine wg_iload_n (pc := 0) hX dX1_make_0 1 rfl ?_
  by_cases h1 : a1 = 0
  · refine wv_t h1 ?_
    refine wg_tableIn (pc := 1) hX dX1_make_1 (by rw [h1]; decide) (by rw [h1]; decide) (by rw [h1]; rfl) (by decide : ((1 : Nat) : Int) + 27 = ((28 : Nat) : Int)) ?_
    refine wv_ (wg_nw (pc := 28) hX nw_X1_368 dX1_make_28 fun r2 => ?_)
    refine wg_dup (pc := 31) hX dX1_make_31 rfl ?_
    refine wg_aload_n (pc := 32) hX dX1_make_32 0 rfl ?_
    refine wv_ (wg_gI (pc := 33) hX fd_X1_365 dX1_make_33 fun v3 => ?_)
    refine wg_iload_n (pc := 36) hX dX1_make_36 2 rfl ?_
    refine wg_iload_n (pc := 37) hX dX1_make_37 3 rfl ?_
    refine wg_iload (pc := 38) hX dX1_make_38 4 rfl ?_
    refine wg_iload (pc := 40) hX dX1_make_40 5 rfl ?_
    refine wv_ (wg_gd fun h4 => ?_)
    refine wv_ (wg_cIv (pc := 42) (As := [.int v3, .int a2, .int a3, .int a4, .int a5]) (rest := [.ref (rid 6 r2)]) hX (m_X9_init r2 v3 a2 a3 a4 a5) h4 rfl q775 q776 q171 q777 hd_X9_init rfl (Nat.le_of_ble_eq_true rfl) (Nat.le_of_ble_eq_true rfl) (Nat.le_of_ble_eq_true rfl) rfl dX1_make_42 ?_)
    exact wv_rt (wg_aret (pc := 45) hX rfl (by first | exact Or.inl ⟨_, rfl⟩ | exact Or.inr ⟨_, rfl⟩) (by decide) rfl dX1_make_45)
  refine wv_f h1 ?_
  by_cases h5 : a1 = 1
  · refine wv_t h5 ?_
    refine wg_tableIn (pc := 1) hX dX1_make_1 (by rw [h5]; decide) (by rw [h5]; decide) (by rw [h5]; rfl) (by decide : ((1 : Nat) : Int) + 45 = ((46 : Nat) : Int)) ?_
    refine wv_ (wg_nw (pc := 46) hX nw_X1_373 dX1_make_46 fun r6 => ?_)
    refine wg_dup (pc := 49) hX dX1_make_49 rfl ?_
    refine wg_aload_n (pc := 50) hX dX1_make_50 0 rfl ?_
    refine wv_ (wg_gI (pc := 51) hX fd_X1_365 dX1_make_51 fun v7 => ?_)
    refine wg_iload_n (pc := 54) hX dX1_make_54 2 rfl ?_
    refine wg_iload_n (pc := 55) hX dX1_make_55 3 rfl ?_
    refine wg_iload (pc := 56) hX dX1_make_56 4 rfl ?_
    refine wg_iload (pc := 58) hX dX1_make_58 5 rfl ?_
    refine wv_ (wg_gd fun h8 => ?_)
    refine wv_ (wg_cIv (pc := 60) (As := [.int v7, .int a2, .int a3, .int a4, .int a5]) (rest := [.ref (rid 6 r6)]) hX (m_X10_init r6 v7 a2 a3 a4 a5) h8 rfl q851 q852 q172 q853 hd_X10_init rfl (Nat.le_of_ble_eq_true rfl) (Nat.le_of_ble_eq_true rfl) (Nat.le_of_ble_eq_true rfl) rfl dX1_make_60 ?_)
    exact wv_rt (wg_aret (pc := 63) hX rfl (by first | exact Or.inl ⟨_, rfl⟩ | exact Or.inr ⟨_, rfl⟩) (by decide) rfl dX1_make_63)
  refine wv_f h5 ?_
  by_cases h9 : a1 = 2
  · refine wv_t h9 ?_
    refine wg_tableIn (pc := 1) hX dX1_make_1 (by rw [h9]; decide) (by rw [h9]; decide) (by rw [h9]; rfl) (by decide : ((1 : Nat) : Int) + 63 = ((64 : Nat) : Int)) ?_
    refine wv_ (wg_nw (pc := 64) hX nw_X1_376 dX1_make_64 fun r10 => ?_)
    refine wg_dup (pc := 67) hX dX1_make_67 rfl ?_
    refine wg_aload_n (pc := 68) hX dX1_make_68 0 rfl ?_
    refine wv_ (wg_gI (pc := 69) hX fd_X1_365 dX1_make_69 fun v11 => ?_)
    refine wg_iload_n (pc := 72) hX dX1_make_72 2 rfl ?_
    refine wg_iload_n (pc := 73) hX dX1_make_73 3 rfl ?_
    refine wg_iload (pc := 74) hX dX1_make_74 4 rfl ?_
    refine wg_iload (pc := 76) hX dX1_make_76 5 rfl ?_
    refine wv_ (wg_gd fun h12 => ?_)
    refine wv_ (wg_cIv (pc := 78) (As := [.int v11, .int a2, .int a3, .int a4, .int a5]) (rest := [.ref (rid 6 r10)]) hX (m_X11_init r10 v11 a2 a3 a4 a5) h12 rfl q879 q880 q173 q881 hd_X11_init rfl (Nat.le_of_ble_eq_true rfl) (Nat.le_of_ble_eq_true rfl) (Nat.le_of_ble_eq_true rfl) rfl dX1_make_78 ?_)
    exact wv_rt (wg_aret (pc := 81) hX rfl (by first | exact Or.inl ⟨_, rfl⟩ | exact Or.inr ⟨_, rfl⟩) (by decide) rfl dX1_make_81)
  refine wv_f h9 ?_
  refine wg_tableOut (pc := 1) hX dX1_make_1 (am_out3 h1 h5 h9) (by decide : ((1 : Nat) : Int) + 81 = ((82 : Nat) : Int)) ?_
  refine wv_ (wg_nw (pc := 82) hX nw_X1_379 dX1_make_82 fun r13 => ?_)
  refine wg_dup (pc := 85) hX dX1_make_85 rfl ?_
  refine wg_aload_n (pc := 86) hX dX1_make_86 0 rfl ?_
  refine wv_ (wg_gI (pc := 87) hX fd_X1_365 dX1_make_87 fun v14 => ?_)
  refine wg_iload_n (pc := 90) hX dX1_make_90 2 rfl ?_
  refine wg_iload_n (pc := 91) hX dX1_make_91 3 rfl ?_
  refine wg_iload (pc := 92) hX dX1_make_92 4 rfl ?_
  refine wg_iload (pc := 94) hX dX1_make_94 5 rfl ?_
  refine wv_ (wg_gd fun h15 => ?_)
  refine wv_ (wg_cIv (pc := 96) (As := [.int v14, .int a2, .int a3, .int a4, .int a5]) (rest := [.ref (rid 6 r13)]) hX (m_X12_init r13 v14 a2 a3 a4 a5) h15 rfl q906 q907 q174 q908 hd_X12_init rfl (Nat.le_of_ble_eq_true rfl) (Nat.le_of_ble_eq_true rfl) (Nat.le_of_ble_eq_true rfl) rfl dX1_make_96 ?_)
  exact wv_rt (wg_aret (pc := 99) hX rfl (by first | exact Or.inl ⟨_, rfl⟩ | exact Or.inr ⟨_, rfl⟩) (by decide) rfl dX1_make_99)
theorem m_X1_crew (a1 : Int32) (a2 : Int32) (a3 : Int32) (a4 : Int32) (a5 : Int32) : amMet yX1_crew cX1_crew 6 (some .int) 5 132 encI [.ref (rid 0 1), .int a1, .int a2, .int a3, .int a4, .int a5] (p_X1_crew a1 a2 a3 a4 a5) := by
  refine amMet.of (own := RX1) (by decide) rfl (Nat.le_of_ble_eq_true rfl) fun X hX hPs => ?_
  change WG X encI 0 [(0, .ref (rid 0 1)), (1, .int a1), (2, .int a2), (3, .int a3), (4, .int a4), (5, .int a5)] [] (bd1 (p_X1_crew a1 a2 a3 a4 a5) rt1)
  unfold p_X1_crew
  have hM0 := amPs.m1 hPs
  refine wv_ (wg_gM ?_)
  refine wg_iload_n (pc := 0) hX dX1_crew_0 1 rfl ?_
  refine wg_iconst (pc := 1) (v := 0) hX dX1_crew_1 rfl ?_
  refine wg_iconst (pc := 2) (v := 3) hX dX1_crew_2 rfl ?_
  refine wv_ (wg_cSi (pc := 3) (As := [.int a1, .int 0, .int 3]) (rest := []) hX (m_X1_in a1 0 3) (lw_S q471 q472 q159 q473) hd_X1_in rfl (Nat.le_of_ble_eq_true rfl) (Nat.le_of_ble_eq_true rfl) (Nat.le_of_ble_eq_true rfl) rfl dX1_crew_3 fun v1 => ?_)
  refine wg_if_eq (pc := 6) (tgt := 49) hX dX1_crew_6 (by decide) (fun h2 => ?_) (fun h2 => ?_)
  · refine wv_t h2 ?_
    refine wg_iconst (pc := 49) (v := (-1)) hX dX1_crew_49 rfl ?_
    exact wv_rt (wg_iret (pc := 50) hX rfl rfl dX1_crew_50)
  refine wv_f h2 ?_
  refine wg_iload_n (pc := 9) hX dX1_crew_9 2 rfl ?_
  refine wv_ (wg_cSi (pc := 10) (As := [.int a2]) (rest := []) hX (m_X1_isCorner a2) (lw_S q468 q469 q159 q470) hd_X1_isCorner rfl (Nat.le_of_ble_eq_true rfl) (Nat.le_of_ble_eq_true rfl) (Nat.le_of_ble_eq_true rfl) rfl dX1_crew_10 fun v3 => ?_)
  refine wg_if_eq (pc := 13) (tgt := 49) hX dX1_crew_13 (by decide) (fun h4 => ?_) (fun h4 => ?_)
  · refine wv_t h4 ?_
    refine wg_iconst (pc := 49) (v := (-1)) hX dX1_crew_49 rfl ?_
    exact wv_rt (wg_iret (pc := 50) hX rfl rfl dX1_crew_50)
  refine wv_f h4 ?_
  refine wg_iload (pc := 16) hX dX1_crew_16 4 rfl ?_
  refine wg_bipush (pc := 18) (v := 50) hX dX1_crew_18 rfl ?_
  refine wg_sipush (pc := 20) (v := 150) hX dX1_crew_20 rfl ?_
  refine wv_ (wg_cSi (pc := 23) (As := [.int a4, .int 50, .int 150]) (rest := []) hX (m_X1_in a4 50 150) (lw_S q471 q472 q159 q473) hd_X1_in rfl (Nat.le_of_ble_eq_true rfl) (Nat.le_of_ble_eq_true rfl) (Nat.le_of_ble_eq_true rfl) rfl dX1_crew_23 fun v5 => ?_)
  refine wg_if_eq (pc := 26) (tgt := 49) hX dX1_crew_26 (by decide) (fun h6 => ?_) (fun h6 => ?_)
  · refine wv_t h6 ?_
    refine wg_iconst (pc := 49) (v := (-1)) hX dX1_crew_49 rfl ?_
    exact wv_rt (wg_iret (pc := 50) hX rfl rfl dX1_crew_50)
  refine wv_f h6 ?_
  refine wg_iload (pc := 29) hX dX1_crew_29 5 rfl ?_
  refine wg_iconst (pc := 31) (v := 1) hX dX1_crew_31 rfl ?_
  refine wg_bipush (pc := 32) (v := 9) hX dX1_crew_32 rfl ?_
  refine wv_ (wg_cSi (pc := 34) (As := [.int a5, .int 1, .int 9]) (rest := []) hX (m_X1_in a5 1 9) (lw_S q471 q472 q159 q473) hd_X1_in rfl (Nat.le_of_ble_eq_true rfl) (Nat.le_of_ble_eq_true rfl) (Nat.le_of_ble_eq_true rfl) rfl dX1_crew_34 fun v7 => ?_)
  refine wg_if_eq (pc := 37) (tgt := 49) hX dX1_crew_37 (by decide) (fun h8 => ?_) (fun h8 => ?_)
  · refine wv_t h8 ?_
    refine wg_iconst (pc := 49) (v := (-1)) hX dX1_crew_49 rfl ?_
    exact wv_rt (wg_iret (pc := 50) hX rfl rfl dX1_crew_50)
  refine wv_f h8 ?_
  refine wg_aload_n (pc := 40) hX dX1_crew_40 0 rfl ?_
  refine wv_ (wg_gI (pc := 41) hX fd_X1_365 dX1_crew_41 fun v9 => ?_)
  refine wg_bipush (pc := 44) (v := 16) hX dX1_crew_44 rfl ?_
  refine wg_icmp_ne (pc := 46) (tgt := 51) hX dX1_crew_46 (by decide) (fun h10 => ?_) (fun h10 => ?_)
  · refine wv_t h10 ?_
    refine wg_iconst (pc := 49) (v := (-1)) hX dX1_crew_49 rfl ?_
    exact wv_rt (wg_iret (pc := 50) hX rfl rfl dX1_crew_50)
  refine wv_f h10 ?_
  refine wg_aload_n (pc := 51) hX dX1_crew_51 0 rfl ?_
  refine wg_gK (pc := 52) hX hM0 fd_X1_48 (by decide) dX1_crew_52 ?_
  refine wg_aload_n (pc := 55) hX dX1_crew_55 0 rfl ?_
  refine wv_ (wg_gI (pc := 56) hX fd_X1_365 dX1_crew_56 fun v11 => ?_)
  refine wg_aload_n (pc := 59) hX dX1_crew_59 0 rfl ?_
  refine wg_iload_n (pc := 60) hX dX1_crew_60 1 rfl ?_
  refine wg_iload_n (pc := 61) hX dX1_crew_61 2 rfl ?_
  refine wg_iload_n (pc := 62) hX dX1_crew_62 3 rfl ?_
  refine wg_iload (pc := 63) hX dX1_crew_63 4 rfl ?_
  refine wg_iload (pc := 65) hX dX1_crew_65 5 rfl ?_
  refine wv_ (wg_cVr (pc := 67) (As := [.int a1, .int a2, .int a3, .int a4, .int a5]) (rest := [.int v11, .ref (rid 28 1)]) hX (m_X1_make a1 a2 a3 a4 a5) (by decide) (by decide) (by decide) rc_X1 (lw_V q769 q771 qs15 q159 q772) hd_X1_make rfl (Nat.le_of_ble_eq_true rfl) (Nat.le_of_ble_eq_true rfl) (Nat.le_of_ble_eq_true rfl) rfl dX1_crew_67 fun r12 => ?_)
  refine wv_ (wg_wR (pc := 70) hX ar_28 el_28 dX1_crew_70 ?_)
  refine wg_aload_n (pc := 71) hX dX1_crew_71 0 rfl ?_
  refine wg_dup (pc := 72) hX dX1_crew_72 rfl ?_
  refine wv_ (wg_gI (pc := 73) hX fd_X1_365 dX1_crew_73 fun v13 => ?_)
  refine wg_iconst (pc := 76) (v := 1) hX dX1_crew_76 rfl ?_
  refine wg_iadd (pc := 77) hX dX1_crew_77 ?_
  refine wv_ (wg_pI (pc := 78) hX fp_X1_365 (fun h => by cases h) dX1_crew_78 ?_)
  refine wg_aload_n (pc := 81) hX dX1_crew_81 0 rfl ?_
  refine wv_ (wg_gI (pc := 82) hX fd_X1_365 dX1_crew_82 fun v14 => ?_)
  refine wg_iconst (pc := 85) (v := 1) hX dX1_crew_85 rfl ?_
  refine wg_isub (pc := 86) hX dX1_crew_86 ?_
  exact wv_rt (wg_iret (pc := 87) hX rfl rfl dX1_crew_87)
theorem m_X9_gear (r0 : Nat) (a1 : Int32) (a2 : Int32) (a3 : Int32) : amMet yX9_gear cX9_gear 4 (some .boolean) 2 54 encI [.ref (rid 6 r0), .int a1, .int a2, .int a3] (up (p_X9_gear r0 a1 a2 a3)) := by
  refine amMet.of (own := RX9) (by decide) rfl (Nat.le_of_ble_eq_true rfl) fun X hX hPs => ?_
  change WG X encI 0 [(0, .ref (rid 6 r0)), (1, .int a1), (2, .int a2), (3, .int a3)] [] (bd1 (up (p_X9_gear r0 a1 a2 a3)) rt1)
  unfold p_X9_gear
  refine wg_iload_n (pc := 0) hX dX9_gear_0 1 rfl ?_
  refine wg_bipush (pc := 1) (v := 100) hX dX9_gear_1 rfl ?_
  refine wg_sipush (pc := 3) (v := 3000) hX dX9_gear_3 rfl ?_
  refine wu_ (wg_cSNi (pc := 6) (As := [.int a1, .int 100, .int 3000]) (rest := []) hX (m_X1_in a1 100 3000) q948 q472 q159 q473 hd_X1_in rfl (Nat.le_of_ble_eq_true rfl) (Nat.le_of_ble_eq_true rfl) (Nat.le_of_ble_eq_true rfl) rfl dX9_gear_6 fun v1 => ?_)
  refine wg_if_eq (pc := 9) (tgt := 28) hX dX9_gear_9 (by decide) (fun h2 => ?_) (fun h2 => ?_)
  · refine wu_t h2 ?_
    refine wg_iconst (pc := 28) (v := 0) hX dX9_gear_28 rfl ?_
    exact wu_rt (wg_zret (pc := 29) hX rfl (by decide) rfl dX9_gear_29)
  refine wu_f h2 ?_
  refine wg_iload_n (pc := 12) hX dX9_gear_12 2 rfl ?_
  refine wg_bipush (pc := 13) (v := 10) hX dX9_gear_13 rfl ?_
  refine wg_sipush (pc := 15) (v := 500) hX dX9_gear_15 rfl ?_
  refine wu_ (wg_cSNi (pc := 18) (As := [.int a2, .int 10, .int 500]) (rest := []) hX (m_X1_in a2 10 500) q948 q472 q159 q473 hd_X1_in rfl (Nat.le_of_ble_eq_true rfl) (Nat.le_of_ble_eq_true rfl) (Nat.le_of_ble_eq_true rfl) rfl dX9_gear_18 fun v3 => ?_)
  refine wg_if_eq (pc := 21) (tgt := 28) hX dX9_gear_21 (by decide) (fun h4 => ?_) (fun h4 => ?_)
  · refine wu_t h4 ?_
    refine wg_iconst (pc := 28) (v := 0) hX dX9_gear_28 rfl ?_
    exact wu_rt (wg_zret (pc := 29) hX rfl (by decide) rfl dX9_gear_29)
  refine wu_f h4 ?_
  refine wg_iload_n (pc := 24) hX dX9_gear_24 3 rfl ?_
  refine wg_if_eq (pc := 25) (tgt := 30) hX dX9_gear_25 (by decide) (fun h5 => ?_) (fun h5 => ?_)
  rotate_left
  · refine wu_f h5 ?_
    refine wg_iconst (pc := 28) (v := 0) hX dX9_gear_28 rfl ?_
    exact wu_rt (wg_zret (pc := 29) hX rfl (by decide) rfl dX9_gear_29)
  refine wu_t h5 ?_
  refine wg_aload_n (pc := 30) hX dX9_gear_30 0 rfl ?_
  refine wg_iload_n (pc := 31) hX dX9_gear_31 1 rfl ?_
  refine wu_ (wg_pIs (pc := 32) hX fp_X9_7 (fun h => by cases h) dX9_gear_32 ?_)
  refine wg_aload_n (pc := 35) hX dX9_gear_35 0 rfl ?_
  refine wg_iload_n (pc := 36) hX dX9_gear_36 2 rfl ?_
  refine wu_ (wg_pIs (pc := 37) hX fp_X9_13 (fun h => by cases h) dX9_gear_37 ?_)
  refine wg_iconst (pc := 40) (v := 1) hX dX9_gear_40 rfl ?_
  exact wu_rt (wg_zret (pc := 41) hX rfl (by decide) rfl dX9_gear_41)
theorem m_X10_gear (r0 : Nat) (a1 : Int32) (a2 : Int32) (a3 : Int32) : amMet yX10_gear cX10_gear 4 (some .boolean) 3 77 encI [.ref (rid 6 r0), .int a1, .int a2, .int a3] (up (p_X10_gear r0 a1 a2 a3)) := by
  refine amMet.of (own := RX10) (by decide) rfl (Nat.le_of_ble_eq_true rfl) fun X hX hPs => ?_
  change WG X encI 0 [(0, .ref (rid 6 r0)), (1, .int a1), (2, .int a2), (3, .int a3)] [] (bd1 (up (p_X10_gear r0 a1 a2 a3)) rt1)
  unfold p_X10_gear
  refine wg_iload_n (pc := 0) hX dX10_gear_0 3 rfl ?_
  refine wg_iconst (pc := 1) (v := 1) hX dX10_gear_1 rfl ?_
  refine wg_bipush (pc := 2) (v := 30) hX dX10_gear_2 rfl ?_
  refine wu_ (wg_cSNi (pc := 4) (As := [.int a3, .int 1, .int 30]) (rest := []) hX (m_X1_in a3 1 30) q952 q472 q159 q473 hd_X1_in rfl (Nat.le_of_ble_eq_true rfl) (Nat.le_of_ble_eq_true rfl) (Nat.le_of_ble_eq_true rfl) rfl dX10_gear_4 fun v1 => ?_)
  refine wg_if_eq (pc := 7) (tgt := 20) hX dX10_gear_7 (by decide) (fun h2 => ?_) (fun h2 => ?_)
  · refine wu_t h2 ?_
    refine wg_iconst (pc := 20) (v := 0) hX dX10_gear_20 rfl ?_
    exact wu_rt (wg_zret (pc := 21) hX rfl (by decide) rfl dX10_gear_21)
  refine wu_f h2 ?_
  refine wg_aload_n (pc := 10) hX dX10_gear_10 0 rfl ?_
  refine wg_iload_n (pc := 11) hX dX10_gear_11 1 rfl ?_
  refine wg_iload_n (pc := 12) hX dX10_gear_12 2 rfl ?_
  refine wg_iconst (pc := 13) (v := 0) hX dX10_gear_13 rfl ?_
  refine wu_ (wg_gd fun h3 => ?_)
  refine wu_ (wg_cSUi (pc := 14) (n := 3) (As := [.int a1, .int a2, .int 0]) (rest := []) hX (m_X9_gear r0 a1 a2 0) (by decide) (by decide) h3 rcs_6 (lw_SU q953 q2844 q876 q946 q171 q947) (by decide +kernel) rfl (Nat.le_of_ble_eq_true rfl) (Nat.le_of_ble_eq_true rfl) (Nat.le_of_ble_eq_true rfl) rfl dX10_gear_14 fun v4 => ?_)
  refine wg_if_ne (pc := 17) (tgt := 22) hX dX10_gear_17 (by decide) (fun h5 => ?_) (fun h5 => ?_)
  · refine wu_t h5 ?_
    refine wg_iconst (pc := 20) (v := 0) hX dX10_gear_20 rfl ?_
    exact wu_rt (wg_zret (pc := 21) hX rfl (by decide) rfl dX10_gear_21)
  refine wu_f h5 ?_
  refine wg_aload_n (pc := 22) hX dX10_gear_22 0 rfl ?_
  refine wg_iload_n (pc := 23) hX dX10_gear_23 3 rfl ?_
  refine wu_ (wg_pIs (pc := 24) hX fp_X10_7 (fun h => by cases h) dX10_gear_24 ?_)
  refine wg_iconst (pc := 27) (v := 1) hX dX10_gear_27 rfl ?_
  exact wu_rt (wg_zret (pc := 28) hX rfl (by decide) rfl dX10_gear_28)
theorem m_X11_gear (r0 : Nat) (a1 : Int32) (a2 : Int32) (a3 : Int32) : amMet yX11_gear cX11_gear 4 (some .boolean) 2 54 encI [.ref (rid 6 r0), .int a1, .int a2, .int a3] (up (p_X11_gear r0 a1 a2 a3)) := by
  refine amMet.of (own := RX11) (by decide) rfl (Nat.le_of_ble_eq_true rfl) fun X hX hPs => ?_
  change WG X encI 0 [(0, .ref (rid 6 r0)), (1, .int a1), (2, .int a2), (3, .int a3)] [] (bd1 (up (p_X11_gear r0 a1 a2 a3)) rt1)
  unfold p_X11_gear
  refine wg_iload_n (pc := 0) hX dX11_gear_0 1 rfl ?_
  refine wg_iconst (pc := 1) (v := 1) hX dX11_gear_1 rfl ?_
  refine wg_bipush (pc := 2) (v := 6) hX dX11_gear_2 rfl ?_
  refine wu_ (wg_cSNi (pc := 4) (As := [.int a1, .int 1, .int 6]) (rest := []) hX (m_X1_in a1 1 6) q944 q472 q159 q473 hd_X1_in rfl (Nat.le_of_ble_eq_true rfl) (Nat.le_of_ble_eq_true rfl) (Nat.le_of_ble_eq_true rfl) rfl dX11_gear_4 fun v1 => ?_)
  refine wg_if_eq (pc := 7) (tgt := 18) hX dX11_gear_7 (by decide) (fun h2 => ?_) (fun h2 => ?_)
  · refine wu_t h2 ?_
    refine wg_iconst (pc := 18) (v := 0) hX dX11_gear_18 rfl ?_
    exact wu_rt (wg_zret (pc := 19) hX rfl (by decide) rfl dX11_gear_19)
  refine wu_f h2 ?_
  refine wg_iload_n (pc := 10) hX dX11_gear_10 2 rfl ?_
  refine wg_if_ne (pc := 11) (tgt := 18) hX dX11_gear_11 (by decide) (fun h3 => ?_) (fun h3 => ?_)
  rotate_left
  · refine wu_f h3 ?_
    refine wg_iconst (pc := 18) (v := 0) hX dX11_gear_18 rfl ?_
    exact wu_rt (wg_zret (pc := 19) hX rfl (by decide) rfl dX11_gear_19)
  refine wu_t h3 ?_
  refine wg_iload_n (pc := 14) hX dX11_gear_14 3 rfl ?_
  refine wg_if_eq (pc := 15) (tgt := 20) hX dX11_gear_15 (by decide) (fun h4 => ?_) (fun h4 => ?_)
  rotate_left
  · refine wu_f h4 ?_
    refine wg_iconst (pc := 18) (v := 0) hX dX11_gear_18 rfl ?_
    exact wu_rt (wg_zret (pc := 19) hX rfl (by decide) rfl dX11_gear_19)
  refine wu_t h4 ?_
  refine wg_aload_n (pc := 20) hX dX11_gear_20 0 rfl ?_
  refine wg_iload_n (pc := 21) hX dX11_gear_21 1 rfl ?_
  refine wu_ (wg_pIs (pc := 22) hX fp_X11_9 (fun h => by cases h) dX11_gear_22 ?_)
  refine wg_iconst (pc := 25) (v := 1) hX dX11_gear_25 rfl ?_
  exact wu_rt (wg_zret (pc := 26) hX rfl (by decide) rfl dX11_gear_26)
theorem m_X12_gear (r0 : Nat) (a1 : Int32) (a2 : Int32) (a3 : Int32) : amMet yX12_gear cX12_gear 4 (some .boolean) 1 32 encI [.ref (rid 6 r0), .int a1, .int a2, .int a3] (up (p_X12_gear r0 a1 a2 a3)) := by
  refine amMet.of (own := RX12) (by decide) rfl (Nat.le_of_ble_eq_true rfl) fun X hX hPs => ?_
  change WG X encI 0 [(0, .ref (rid 6 r0)), (1, .int a1), (2, .int a2), (3, .int a3)] [] (bd1 (up (p_X12_gear r0 a1 a2 a3)) rt1)
  unfold p_X12_gear
  refine wg_iload_n (pc := 0) hX dX12_gear_0 1 rfl ?_
  refine wu_jn (α := Unit) (pcJ := 16) (lJ := fun x => []) (sJ := fun x => []) (fun k1 hk1 => ?_) (fun z1 => ?_)
  · refine wg_if_ne (pc := 1) (tgt := 16) hX dX12_gear_1 (by decide) (fun h2 => ?_) (fun h2 => ?_)
    rotate_left
    · refine wu_f h2 ?_
      refine wg_sub hX [] rfl ?_
      exact hk1 ()
    refine wu_t h2 ?_
    refine wg_iload_n (pc := 4) hX dX12_gear_4 2 rfl ?_
    refine wg_if_ne (pc := 5) (tgt := 16) hX dX12_gear_5 (by decide) (fun h3 => ?_) (fun h3 => ?_)
    rotate_left
    · refine wu_f h3 ?_
      refine wg_sub hX [] rfl ?_
      exact hk1 ()
    refine wu_t h3 ?_
    refine wg_iload_n (pc := 8) hX dX12_gear_8 3 rfl ?_
    refine wg_if_ne (pc := 9) (tgt := 16) hX dX12_gear_9 (by decide) (fun h4 => ?_) (fun h4 => ?_)
    rotate_left
    · refine wu_f h4 ?_
      refine wg_sub hX [] rfl ?_
      exact hk1 ()
    refine wu_t h4 ?_
    refine wg_iconst (pc := 12) (v := 1) hX dX12_gear_12 rfl ?_
    refine wg_goto (pc := 13) (tgt := 17) hX dX12_gear_13 (by decide) ?_
    exact wu_rt (wg_zret (pc := 17) hX rfl (by decide) rfl dX12_gear_17)
  refine wg_iconst (pc := 16) (v := 0) hX dX12_gear_16 rfl ?_
  exact wu_rt (wg_zret (pc := 17) hX rfl (by decide) rfl dX12_gear_17)
theorem m_X1_gear (a1 : Int32) (a2 : Int32) (a3 : Int32) (a4 : Int32) : amMet yX1_gear cX1_gear 5 (some .boolean) 4 100 encI [.ref (rid 0 1), .int a1, .int a2, .int a3, .int a4] (up (p_X1_gear a1 a2 a3 a4)) := by
  refine amMet.of (own := RX1) (by decide) rfl (Nat.le_of_ble_eq_true rfl) fun X hX hPs => ?_
  change WG X encI 0 [(0, .ref (rid 0 1)), (1, .int a1), (2, .int a2), (3, .int a3), (4, .int a4)] [] (bd1 (up (p_X1_gear a1 a2 a3 a4)) rt1)
  unfold p_X1_gear
  have hM0 := amPs.m0 hPs
  refine wu_ (wg_gM ?_)
  refine wg_aload_n (pc := 0) hX dX1_gear_0 0 rfl ?_
  refine wg_iload_n (pc := 1) hX dX1_gear_1 1 rfl ?_
  refine wu_ (wg_cVi (pc := 2) (As := [.int a1]) (rest := []) hX (m_X1_isCrew a1) (by decide) (by decide) (by decide) rc_X1 (lw_V q931 q933 qs16 q159 q934) hd_X1_isCrew rfl (Nat.le_of_ble_eq_true rfl) (Nat.le_of_ble_eq_true rfl) (Nat.le_of_ble_eq_true rfl) rfl dX1_gear_2 fun v1 => ?_)
  refine wu_jn (α := Unit) (pcJ := 41) (lJ := fun x => []) (sJ := fun x => []) (fun k2 hk2 => ?_) (fun z2 => ?_)
  · refine wg_if_eq (pc := 5) (tgt := 41) hX dX1_gear_5 (by decide) (fun h3 => ?_) (fun h3 => ?_)
    · refine wu_t h3 ?_
      refine wg_sub hX [] rfl ?_
      exact hk2 ()
    refine wu_f h3 ?_
    refine wg_aload_n (pc := 8) hX dX1_gear_8 0 rfl ?_
    refine wg_gK (pc := 9) hX hM0 fd_X1_48 (by decide) dX1_gear_9 ?_
    refine wg_iload_n (pc := 12) hX dX1_gear_12 1 rfl ?_
    refine wu_ (wg_rR (pc := 13) hX ar_28 (by decide) dX1_gear_13 fun r4 => ?_)
    refine wu_ (wg_gI (pc := 14) hX fd_X1_389 dX1_gear_14 fun v5 => ?_)
    refine wg_iconst (pc := 17) (v := 2) hX dX1_gear_17 rfl ?_
    refine wg_icmp_eq (pc := 18) (tgt := 41) hX dX1_gear_18 (by decide) (fun h6 => ?_) (fun h6 => ?_)
    · refine wu_t h6 ?_
      refine wg_sub hX [] rfl ?_
      exact hk2 ()
    refine wu_f h6 ?_
    refine wg_aload_n (pc := 21) hX dX1_gear_21 0 rfl ?_
    refine wg_gK (pc := 22) hX hM0 fd_X1_48 (by decide) dX1_gear_22 ?_
    refine wg_iload_n (pc := 25) hX dX1_gear_25 1 rfl ?_
    refine wu_ (wg_rR (pc := 26) hX ar_28 (by decide) dX1_gear_26 fun r7 => ?_)
    refine wg_iload_n (pc := 27) hX dX1_gear_27 2 rfl ?_
    refine wg_iload_n (pc := 28) hX dX1_gear_28 3 rfl ?_
    refine wg_iload (pc := 29) hX dX1_gear_29 4 rfl ?_
    refine wu_ (wg_vciu (pc := 31) (x := ⟨"CityBrigade$Crew", "gear", "(III)Z"⟩) (n := 3) (f := fun c => if c = 6 then p_X9_gear r7 a2 a3 a4 else if c = 7 then p_X10_gear r7 a2 a3 a4 else if c = 8 then p_X11_gear r7 a2 a3 a4 else if c = 9 then p_X12_gear r7 a2 a3 a4 else fl0) (As := [.int a2, .int a3, .int a4]) (rest := []) hX (by decide) (by decide) (fun c hc => by
          rcases am_mem4 hc with rfl | rfl | rfl | rfl
          · exact Or.inr ⟨RX9, TX9, 18, yX9_gear, cX9_gear, 4, (some .boolean), _, _, rfl, ⟨"CityBrigade$Crew", lw_U q935 q937 q945 q946 q171 q947, by decide +kernel, Or.inr q936⟩, m_X9_gear r7 a2 a3 a4, (Nat.le_of_ble_eq_true rfl), (Nat.le_of_ble_eq_true rfl)⟩
          · exact Or.inr ⟨RX10, TX10, 19, yX10_gear, cX10_gear, 4, (some .boolean), _, _, rfl, ⟨"CityBrigade$Crew", lw_U q935 q937 q949 q950 q172 q951, by decide +kernel, Or.inr q936⟩, m_X10_gear r7 a2 a3 a4, (Nat.le_of_ble_eq_true rfl), (Nat.le_of_ble_eq_true rfl)⟩
          · exact Or.inr ⟨RX11, TX11, 17, yX11_gear, cX11_gear, 4, (some .boolean), _, _, rfl, ⟨"CityBrigade$Crew", lw_U q935 q937 q941 q942 q173 q943, by decide +kernel, Or.inr q936⟩, m_X11_gear r7 a2 a3 a4, (Nat.le_of_ble_eq_true rfl), (Nat.le_of_ble_eq_true rfl)⟩
          · exact Or.inr ⟨RX12, TX12, 16, yX12_gear, cX12_gear, 4, (some .boolean), _, _, rfl, ⟨"CityBrigade$Crew", lw_U q935 q937 q938 q939 q174 q940, by decide +kernel, Or.inr q936⟩, m_X12_gear r7 a2 a3 a4, (Nat.le_of_ble_eq_true rfl), (Nat.le_of_ble_eq_true rfl)⟩) rfl (Nat.le_of_ble_eq_true rfl) rfl dX1_gear_31 fun v9 => ?_)
    refine wg_if_eq (pc := 34) (tgt := 41) hX dX1_gear_34 (by decide) (fun h10 => ?_) (fun h10 => ?_)
    · refine wu_t h10 ?_
      refine wg_sub hX [] rfl ?_
      exact hk2 ()
    refine wu_f h10 ?_
    refine wg_iconst (pc := 37) (v := 1) hX dX1_gear_37 rfl ?_
    refine wg_goto (pc := 38) (tgt := 42) hX dX1_gear_38 (by decide) ?_
    exact wu_rt (wg_zret (pc := 42) hX rfl (by decide) rfl dX1_gear_42)
  refine wg_iconst (pc := 41) (v := 0) hX dX1_gear_41 rfl ?_
  exact wu_rt (wg_zret (pc := 42) hX rfl (by decide) rfl dX1_gear_42)
theorem m_X1_ready (a1 : Nat) (a2 : Int32) : amMet yX1_ready cX1_ready 3 none 1 32 encV [.ref (rid 0 1), .ref (rid 6 a1), .int a2] (up (p_X1_ready a1 a2)) := by
  refine amMet.of (own := RX1) (by decide) rfl (Nat.le_of_ble_eq_true rfl) fun X hX hPs => ?_
  change WG X encV 0 [(0, .ref (rid 0 1)), (1, .ref (rid 6 a1)), (2, .int a2)] [] (bd1 (up (p_X1_ready a1 a2)) rt1)
  unfold p_X1_ready
  refine wg_aload_n (pc := 0) hX dX1_ready_0 1 rfl ?_
  refine wg_iconst (pc := 1) (v := 0) hX dX1_ready_1 rfl ?_
  refine wu_ (wg_pI (pc := 2) hX fp_X1_389 (fun h => by cases h) dX1_ready_2 ?_)
  refine wg_aload_n (pc := 5) hX dX1_ready_5 1 rfl ?_
  refine wg_iload_n (pc := 6) hX dX1_ready_6 2 rfl ?_
  refine wu_ (wg_pI (pc := 7) hX fp_X1_395 (fun h => by cases h) dX1_ready_7 ?_)
  refine wg_aload_n (pc := 10) hX dX1_ready_10 1 rfl ?_
  refine wg_iconst (pc := 11) (v := (-1)) hX dX1_ready_11 rfl ?_
  refine wu_ (wg_pI (pc := 12) hX fp_X1_398 (fun h => by cases h) dX1_ready_12 ?_)
  refine wg_aload_n (pc := 15) hX dX1_ready_15 1 rfl ?_
  refine wg_null (pc := 16) (q := 3) hX (by decide) dX1_ready_16 ?_
  refine wu_ (wg_pR (pc := 17) hX fp_X1_401 (fun h => by cases h) (by decide) (by first | exact Or.inl ⟨_, rfl⟩ | exact Or.inr ⟨_, rfl⟩) dX1_ready_17 ?_)
  refine wg_aload_n (pc := 20) hX dX1_ready_20 1 rfl ?_
  refine wg_iconst (pc := 21) (v := (-1)) hX dX1_ready_21 rfl ?_
  refine wu_ (wg_pI (pc := 22) hX fp_X1_405 (fun h => by cases h) dX1_ready_22 ?_)
  exact wu_rt (wg_vret (pc := 25) hX rfl rfl dX1_ready_25)
theorem m_X1_heal (a1 : Int32) : amMet yX1_heal cX1_heal 2 (some .boolean) 3 75 encI [.ref (rid 0 1), .int a1] (up (p_X1_heal a1)) := by
  refine amMet.of (own := RX1) (by decide) rfl (Nat.le_of_ble_eq_true rfl) fun X hX hPs => ?_
  change WG X encI 0 [(0, .ref (rid 0 1)), (1, .int a1)] [] (bd1 (up (p_X1_heal a1)) rt1)
  unfold p_X1_heal
  have hM0 := amPs.m0 hPs
  refine wu_ (wg_gM ?_)
  refine wg_aload_n (pc := 0) hX dX1_heal_0 0 rfl ?_
  refine wg_iload_n (pc := 1) hX dX1_heal_1 1 rfl ?_
  refine wu_ (wg_cVi (pc := 2) (As := [.int a1]) (rest := []) hX (m_X1_isCrew a1) (by decide) (by decide) (by decide) rc_X1 (lw_V q931 q933 qs16 q159 q934) hd_X1_isCrew rfl (Nat.le_of_ble_eq_true rfl) (Nat.le_of_ble_eq_true rfl) (Nat.le_of_ble_eq_true rfl) rfl dX1_heal_2 fun v1 => ?_)
  refine wg_if_eq (pc := 5) (tgt := 21) hX dX1_heal_5 (by decide) (fun h2 => ?_) (fun h2 => ?_)
  · refine wu_t h2 ?_
    refine wg_iconst (pc := 21) (v := 0) hX dX1_heal_21 rfl ?_
    exact wu_rt (wg_zret (pc := 22) hX rfl (by decide) rfl dX1_heal_22)
  refine wu_f h2 ?_
  refine wg_aload_n (pc := 8) hX dX1_heal_8 0 rfl ?_
  refine wg_gK (pc := 9) hX hM0 fd_X1_48 (by decide) dX1_heal_9 ?_
  refine wg_iload_n (pc := 12) hX dX1_heal_12 1 rfl ?_
  refine wu_ (wg_rR (pc := 13) hX ar_28 (by decide) dX1_heal_13 fun r3 => ?_)
  refine wu_ (wg_gI (pc := 14) hX fd_X1_389 dX1_heal_14 fun v4 => ?_)
  refine wg_iconst (pc := 17) (v := 4) hX dX1_heal_17 rfl ?_
  refine wg_icmp_eq (pc := 18) (tgt := 23) hX dX1_heal_18 (by decide) (fun h5 => ?_) (fun h5 => ?_)
  rotate_left
  · refine wu_f h5 ?_
    refine wg_iconst (pc := 21) (v := 0) hX dX1_heal_21 rfl ?_
    exact wu_rt (wg_zret (pc := 22) hX rfl (by decide) rfl dX1_heal_22)
  refine wu_t h5 ?_
  refine wg_aload_n (pc := 23) hX dX1_heal_23 0 rfl ?_
  refine wg_aload_n (pc := 24) hX dX1_heal_24 0 rfl ?_
  refine wg_gK (pc := 25) hX hM0 fd_X1_48 (by decide) dX1_heal_25 ?_
  refine wg_iload_n (pc := 28) hX dX1_heal_28 1 rfl ?_
  refine wu_ (wg_rR (pc := 29) hX ar_28 (by decide) dX1_heal_29 fun r6 => ?_)
  refine wg_aload_n (pc := 30) hX dX1_heal_30 0 rfl ?_
  refine wg_gK (pc := 31) hX hM0 fd_X1_48 (by decide) dX1_heal_31 ?_
  refine wg_iload_n (pc := 34) hX dX1_heal_34 1 rfl ?_
  refine wu_ (wg_rR (pc := 35) hX ar_28 (by decide) dX1_heal_35 fun r7 => ?_)
  refine wu_ (wg_gI (pc := 36) hX fd_X1_408 dX1_heal_36 fun v8 => ?_)
  refine wu_ (wg_cVv (pc := 39) (As := [.ref (rid 6 r6), .int v8]) (rest := []) hX (m_X1_ready r6 v8) (by decide) (by decide) (by decide) rc_X1 (lw_V q958 q960 qs17 q159 q961) hd_X1_ready rfl (Nat.le_of_ble_eq_true rfl) (Nat.le_of_ble_eq_true rfl) (Nat.le_of_ble_eq_true rfl) rfl dX1_heal_39 ?_)
  refine wg_iconst (pc := 42) (v := 1) hX dX1_heal_42 rfl ?_
  exact wu_rt (wg_zret (pc := 43) hX rfl (by decide) rfl dX1_heal_43)
theorem m_X1_turnHome (a1 : Nat) : amMet yX1_turnHome cX1_turnHome 3 none 5 127 encV [.ref (rid 0 1), .ref (rid 6 a1)] (up (p_X1_turnHome a1)) := by
  refine amMet.of (own := RX1) (by decide) rfl (Nat.le_of_ble_eq_true rfl) fun X hX hPs => ?_
  change WG X encV 0 [(0, .ref (rid 0 1)), (1, .ref (rid 6 a1))] [] (bd1 (up (p_X1_turnHome a1)) rt1)
  unfold p_X1_turnHome
  refine wg_aload_n (pc := 0) hX dX1_turnHome_0 0 rfl ?_
  refine wg_aload_n (pc := 1) hX dX1_turnHome_1 1 rfl ?_
  refine wu_ (wg_gI (pc := 2) hX fd_X1_395 dX1_turnHome_2 fun v1 => ?_)
  refine wg_aload_n (pc := 5) hX dX1_turnHome_5 1 rfl ?_
  refine wu_ (wg_gI (pc := 6) hX fd_X1_408 dX1_turnHome_6 fun v2 => ?_)
  refine wg_aload_n (pc := 9) hX dX1_turnHome_9 0 rfl ?_
  refine wu_ (wg_gI (pc := 10) hX fd_X1_415 dX1_turnHome_10 fun v3 => ?_)
  refine wg_aload_n (pc := 13) hX dX1_turnHome_13 1 rfl ?_
  refine wu_ (wg_vciu (pc := 14) (x := ⟨"CityBrigade$Crew", "slowNow", "()I"⟩) (n := 0) (f := fun c => if c = 6 then p_X8_slowNow a1 else if c = 7 then p_X8_slowNow a1 else if c = 8 then p_X8_slowNow a1 else if c = 9 then p_X8_slowNow a1 else fl0) (As := []) (rest := [.int v3, .int v2, .int v1, .ref (rid 0 1)]) hX (by decide) (by decide) (fun c hc => by
        rcases am_mem4 hc with rfl | rfl | rfl | rfl
        · exact Or.inr ⟨RX9, TX9, 18, yX8_slowNow, cX8_slowNow, 1, (some .int), _, _, rfl, ⟨"CityBrigade$Crew", lw_U q970 q972 q975 q971 q170 q977, by decide +kernel, Or.inl rfl⟩, m_X8_slowNow a1, (Nat.le_of_ble_eq_true rfl), (Nat.le_of_ble_eq_true rfl)⟩
        · exact Or.inr ⟨RX10, TX10, 19, yX8_slowNow, cX8_slowNow, 1, (some .int), _, _, rfl, ⟨"CityBrigade$Crew", lw_U q970 q972 q976 q971 q170 q977, by decide +kernel, Or.inl rfl⟩, m_X8_slowNow a1, (Nat.le_of_ble_eq_true rfl), (Nat.le_of_ble_eq_true rfl)⟩
        · exact Or.inr ⟨RX11, TX11, 17, yX8_slowNow, cX8_slowNow, 1, (some .int), _, _, rfl, ⟨"CityBrigade$Crew", lw_U q970 q972 q974 q971 q170 q977, by decide +kernel, Or.inl rfl⟩, m_X8_slowNow a1, (Nat.le_of_ble_eq_true rfl), (Nat.le_of_ble_eq_true rfl)⟩
        · exact Or.inr ⟨RX12, TX12, 16, yX8_slowNow, cX8_slowNow, 1, (some .int), _, _, rfl, ⟨"CityBrigade$Crew", lw_U q970 q972 q973 q971 q170 q977, by decide +kernel, Or.inl rfl⟩, m_X8_slowNow a1, (Nat.le_of_ble_eq_true rfl), (Nat.le_of_ble_eq_true rfl)⟩) rfl (Nat.le_of_ble_eq_true rfl) rfl dX1_turnHome_14 fun v5 => ?_)
  refine wu_ (wg_cVi (pc := 17) (As := [.int v1, .int v2, .int v3, .int v5]) (rest := []) hX (m_X1_comeOn v1 v2 v3 v5) (by decide) (by decide) (by decide) rc_X1 (lw_V q515 q517 qs2 q159 q518) hd_X1_comeOn rfl (Nat.le_of_ble_eq_true rfl) (Nat.le_of_ble_eq_true rfl) (Nat.le_of_ble_eq_true rfl) rfl dX1_turnHome_17 fun v6 => ?_)
  refine wg_istore_n (pc := 20) (l' := [(0, .ref (rid 0 1)), (1, .ref (rid 6 a1)), (2, .int v6)]) hX dX1_turnHome_20 (by decide) rfl ?_
  refine wg_aload_n (pc := 21) hX dX1_turnHome_21 0 rfl ?_
  refine wg_aload_n (pc := 22) hX dX1_turnHome_22 1 rfl ?_
  refine wg_aload_n (pc := 23) hX dX1_turnHome_23 1 rfl ?_
  refine wu_ (wg_gI (pc := 24) hX fd_X1_408 dX1_turnHome_24 fun v7 => ?_)
  refine wu_ (wg_cVv (pc := 27) (As := [.ref (rid 6 a1), .int v7]) (rest := []) hX (m_X1_ready a1 v7) (by decide) (by decide) (by decide) rc_X1 (lw_V q958 q960 qs17 q159 q961) hd_X1_ready rfl (Nat.le_of_ble_eq_true rfl) (Nat.le_of_ble_eq_true rfl) (Nat.le_of_ble_eq_true rfl) rfl dX1_turnHome_27 ?_)
  refine wg_iload_n (pc := 30) hX dX1_turnHome_30 2 rfl ?_
  refine wg_iconst (pc := 31) (v := (-1)) hX dX1_turnHome_31 rfl ?_
  refine wg_icmp_eq (pc := 32) (tgt := 43) hX dX1_turnHome_32 (by decide) (fun h8 => ?_) (fun h8 => ?_)
  · refine wu_t h8 ?_
    exact wu_rt (wg_vret (pc := 43) hX rfl rfl dX1_turnHome_43)
  refine wu_f h8 ?_
  refine wg_iload_n (pc := 35) hX dX1_turnHome_35 2 rfl ?_
  refine wg_aload_n (pc := 36) hX dX1_turnHome_36 0 rfl ?_
  refine wu_ (wg_gI (pc := 37) hX fd_X1_415 dX1_turnHome_37 fun v9 => ?_)
  refine wg_icmp_ne (pc := 40) (tgt := 44) hX dX1_turnHome_40 (by decide) (fun h10 => ?_) (fun h10 => ?_)
  · refine wu_t h10 ?_
    exact wu_rt (wg_vret (pc := 43) hX rfl rfl dX1_turnHome_43)
  refine wu_f h10 ?_
  refine wg_aload_n (pc := 44) hX dX1_turnHome_44 1 rfl ?_
  refine wg_iconst (pc := 45) (v := 3) hX dX1_turnHome_45 rfl ?_
  refine wu_ (wg_pI (pc := 46) hX fp_X1_389 (fun h => by cases h) dX1_turnHome_46 ?_)
  refine wg_aload_n (pc := 49) hX dX1_turnHome_49 1 rfl ?_
  refine wg_iload_n (pc := 50) hX dX1_turnHome_50 2 rfl ?_
  refine wu_ (wg_pI (pc := 51) hX fp_X1_398 (fun h => by cases h) dX1_turnHome_51 ?_)
  exact wu_rt (wg_vret (pc := 54) hX rfl rfl dX1_turnHome_54)
theorem m_X1_recall (a1 : Int32) : amMet yX1_recall cX1_recall 2 (some .boolean) 6 149 encI [.ref (rid 0 1), .int a1] (up (p_X1_recall a1)) := by
  refine amMet.of (own := RX1) (by decide) rfl (Nat.le_of_ble_eq_true rfl) fun X hX hPs => ?_
  change WG X encI 0 [(0, .ref (rid 0 1)), (1, .int a1)] [] (bd1 (up (p_X1_recall a1)) rt1)
  unfold p_X1_recall
  have hM0 := amPs.m0 hPs
  refine wu_ (wg_gM ?_)
  refine wg_aload_n (pc := 0) hX dX1_recall_0 0 rfl ?_
  refine wg_iload_n (pc := 1) hX dX1_recall_1 1 rfl ?_
  refine wu_ (wg_cVi (pc := 2) (As := [.int a1]) (rest := []) hX (m_X1_isCrew a1) (by decide) (by decide) (by decide) rc_X1 (lw_V q931 q933 qs16 q159 q934) hd_X1_isCrew rfl (Nat.le_of_ble_eq_true rfl) (Nat.le_of_ble_eq_true rfl) (Nat.le_of_ble_eq_true rfl) rfl dX1_recall_2 fun v1 => ?_)
  refine wg_if_eq (pc := 5) (tgt := 41) hX dX1_recall_5 (by decide) (fun h2 => ?_) (fun h2 => ?_)
  · refine wu_t h2 ?_
    refine wg_iconst (pc := 41) (v := 0) hX dX1_recall_41 rfl ?_
    exact wu_rt (wg_zret (pc := 42) hX rfl (by decide) rfl dX1_recall_42)
  refine wu_f h2 ?_
  refine wg_aload_n (pc := 8) hX dX1_recall_8 0 rfl ?_
  refine wg_gK (pc := 9) hX hM0 fd_X1_48 (by decide) dX1_recall_9 ?_
  refine wg_iload_n (pc := 12) hX dX1_recall_12 1 rfl ?_
  refine wu_ (wg_rR (pc := 13) hX ar_28 (by decide) dX1_recall_13 fun r3 => ?_)
  refine wu_ (wg_gI (pc := 14) hX fd_X1_389 dX1_recall_14 fun v4 => ?_)
  refine wg_if_ne (pc := 17) (tgt := 41) hX dX1_recall_17 (by decide) (fun h5 => ?_) (fun h5 => ?_)
  rotate_left
  · refine wu_f h5 ?_
    refine wg_iconst (pc := 41) (v := 0) hX dX1_recall_41 rfl ?_
    exact wu_rt (wg_zret (pc := 42) hX rfl (by decide) rfl dX1_recall_42)
  refine wu_t h5 ?_
  refine wg_aload_n (pc := 20) hX dX1_recall_20 0 rfl ?_
  refine wg_gK (pc := 21) hX hM0 fd_X1_48 (by decide) dX1_recall_21 ?_
  refine wg_iload_n (pc := 24) hX dX1_recall_24 1 rfl ?_
  refine wu_ (wg_rR (pc := 25) hX ar_28 (by decide) dX1_recall_25 fun r6 => ?_)
  refine wu_ (wg_gI (pc := 26) hX fd_X1_395 dX1_recall_26 fun v7 => ?_)
  refine wg_aload_n (pc := 29) hX dX1_recall_29 0 rfl ?_
  refine wg_gK (pc := 30) hX hM0 fd_X1_48 (by decide) dX1_recall_30 ?_
  refine wg_iload_n (pc := 33) hX dX1_recall_33 1 rfl ?_
  refine wu_ (wg_rR (pc := 34) hX ar_28 (by decide) dX1_recall_34 fun r8 => ?_)
  refine wu_ (wg_gI (pc := 35) hX fd_X1_408 dX1_recall_35 fun v9 => ?_)
  refine wg_icmp_ne (pc := 38) (tgt := 43) hX dX1_recall_38 (by decide) (fun h10 => ?_) (fun h10 => ?_)
  · refine wu_t h10 ?_
    refine wg_iconst (pc := 41) (v := 0) hX dX1_recall_41 rfl ?_
    exact wu_rt (wg_zret (pc := 42) hX rfl (by decide) rfl dX1_recall_42)
  refine wu_f h10 ?_
  refine wg_aload_n (pc := 43) hX dX1_recall_43 0 rfl ?_
  refine wg_aload_n (pc := 44) hX dX1_recall_44 0 rfl ?_
  refine wg_gK (pc := 45) hX hM0 fd_X1_48 (by decide) dX1_recall_45 ?_
  refine wg_iload_n (pc := 48) hX dX1_recall_48 1 rfl ?_
  refine wu_ (wg_rR (pc := 49) hX ar_28 (by decide) dX1_recall_49 fun r11 => ?_)
  refine wu_ (wg_cVv (pc := 50) (As := [.ref (rid 6 r11)]) (rest := []) hX (m_X1_turnHome r11) (by decide) (by decide) (by decide) rc_X1 (lw_V q966 q968 qs18 q159 q969) hd_X1_turnHome rfl (Nat.le_of_ble_eq_true rfl) (Nat.le_of_ble_eq_true rfl) (Nat.le_of_ble_eq_true rfl) rfl dX1_recall_50 ?_)
  refine wg_iconst (pc := 53) (v := 1) hX dX1_recall_53 rfl ?_
  exact wu_rt (wg_zret (pc := 54) hX rfl (by decide) rfl dX1_recall_54)
theorem m_X1_headFor (a1 : Int32) : amMet yX1_headFor cX1_headFor 4 (some (.object "CityBrigade$Head")) 2 56 (encR 5) [.ref (rid 0 1), .int a1] (up (p_X1_headFor a1)) := by
  refine amMet.of (own := RX1) (by decide) rfl (Nat.le_of_ble_eq_true rfl) fun X hX hPs => ?_
  change WG X (encR 5) 0 [(0, .ref (rid 0 1)), (1, .int a1)] [] (bd1 (up (p_X1_headFor a1)) rt1)
  unfold p_X1_headFor
  have hM0 := amPs.m0 hPs
  refine wu_ (wg_gM ?_)
  refine wg_aload_n (pc := 0) hX dX1_headFor_0 0 rfl ?_
  refine wg_iload_n (pc := 1) hX dX1_headFor_1 1 rfl ?_
  refine wu_ (wg_cVv (pc := 2) (As := [.int a1]) (rest := []) hX (m_X1_stroll a1) (by decide) (by decide) (by decide) rc_X1 (lw_V q541 q543 qs5 q159 q544) hd_X1_stroll rfl (Nat.le_of_ble_eq_true rfl) (Nat.le_of_ble_eq_true rfl) (Nat.le_of_ble_eq_true rfl) rfl dX1_headFor_2 ?_)
  refine wg_null (pc := 5) (q := 5) hX (by decide) dX1_headFor_5 ?_
  refine wg_astore_n (pc := 6) (l' := [(0, .ref (rid 0 1)), (1, .int a1), (2, .ref (rid 5 0))]) hX dX1_headFor_6 (by decide) rfl ?_
  refine wg_iconst (pc := 7) (v := 0) hX dX1_headFor_7 rfl ?_
  refine wg_istore_n (pc := 8) (l' := [(0, .ref (rid 0 1)), (1, .int a1), (2, .ref (rid 5 0)), (3, .int 0)]) hX dX1_headFor_8 (by decide) rfl ?_
  refine wg_sub hX [0, 2, 3] rfl ?_
  refine wu_lpx (α := Nat × Int32) (γ := Nat) (pcl := 9) (pcT := 79) (lo := fun x => [(0, .ref (rid 0 1)), (2, .ref (rid 5 x.1)), (3, .int x.2)]) (so := fun _ => []) (lT := fun x => [(2, .ref (rid 5 x))]) (sT := fun _ => []) (n := amFu) (x0 := (0, 0)) (fun K1 rec1 hrec1 hk1 x1 => ?_) (fun y2 => ?_)
  · unfold p_X1_headFor_L9
    refine wg_iload_n (pc := 9) hX dX1_headFor_9 2 rfl ?_
    refine wg_aload_n (pc := 10) hX dX1_headFor_10 0 rfl ?_
    refine wu_ (wg_gI (pc := 11) hX fd_X1_359 dX1_headFor_11 fun v3 => ?_)
    refine wg_icmp_ge (pc := 14) (tgt := 79) hX dX1_headFor_14 (by decide) (fun h4 => ?_) (fun h4 => ?_)
    · refine wu_t h4 ?_
      refine wg_sub hX [1] rfl ?_
      exact wu_rt (hk1 x1.1)
    refine wu_f h4 ?_
    refine wg_aload_n (pc := 17) hX dX1_headFor_17 0 rfl ?_
    refine wg_gK (pc := 18) hX hM0 fd_X1_24 (by decide) dX1_headFor_18 ?_
    refine wg_aload_n (pc := 21) hX dX1_headFor_21 0 rfl ?_
    refine wg_gK (pc := 22) hX hM0 fd_X1_42 (by decide) dX1_headFor_22 ?_
    refine wg_iload_n (pc := 25) hX dX1_headFor_25 2 rfl ?_
    refine wu_ (wg_rR (pc := 26) hX ar_27 (by decide) dX1_headFor_26 fun r5 => ?_)
    refine wu_ (wg_gI (pc := 27) hX fd_X1_440 dX1_headFor_27 fun v6 => ?_)
    refine wu_ (wg_rI (pc := 30) hX ar_23 dX1_headFor_30 fun v7 => ?_)
    refine wg_ldc (pc := 31) hX dX1_headFor_31 q545 ?_
    refine wu_jx (α := Nat) (pcJ := 73) (lJ := fun x => [(0, .ref (rid 0 1)), (2, .ref (rid 5 x)), (3, .int x1.2)]) (sJ := fun x => []) (fun K8 hk8 => ?_) (fun z8 => ?_)
    · refine wg_icmp_ge (pc := 33) (tgt := 73) hX dX1_headFor_33 (by decide) (fun h9 => ?_) (fun h9 => ?_)
      · refine wu_t h9 ?_
        exact wu_rt (hk8 x1.1)
      refine wu_f h9 ?_
      refine wg_aload_n (pc := 36) hX dX1_headFor_36 1 rfl ?_
      refine wu_jn (α := Unit) (pcJ := 66) (lJ := fun x => [(0, .ref (rid 0 1)), (3, .int x1.2)]) (sJ := fun x => []) (fun k10 hk10 => ?_) (fun z10 => ?_)
      · refine wg_ifnull (pc := 37) (tgt := 66) hX (by decide) dX1_headFor_37 (by decide) (fun h11 => ?_) (fun h11 => ?_)
        · refine wu_t h11 ?_
          refine wg_sub hX [0, 2] rfl ?_
          exact hk10 ()
        refine wu_f h11 ?_
        refine wg_aload_n (pc := 40) hX dX1_headFor_40 0 rfl ?_
        refine wg_gK (pc := 41) hX hM0 fd_X1_24 (by decide) dX1_headFor_41 ?_
        refine wg_aload_n (pc := 44) hX dX1_headFor_44 0 rfl ?_
        refine wg_gK (pc := 45) hX hM0 fd_X1_42 (by decide) dX1_headFor_45 ?_
        refine wg_iload_n (pc := 48) hX dX1_headFor_48 2 rfl ?_
        refine wu_ (wg_rR (pc := 49) hX ar_27 (by decide) dX1_headFor_49 fun r12 => ?_)
        refine wu_ (wg_gI (pc := 50) hX fd_X1_440 dX1_headFor_50 fun v13 => ?_)
        refine wu_ (wg_rI (pc := 53) hX ar_23 dX1_headFor_53 fun v14 => ?_)
        refine wg_aload_n (pc := 54) hX dX1_headFor_54 0 rfl ?_
        refine wg_gK (pc := 55) hX hM0 fd_X1_24 (by decide) dX1_headFor_55 ?_
        refine wg_aload_n (pc := 58) hX dX1_headFor_58 1 rfl ?_
        refine wu_ (wg_gI (pc := 59) hX fd_X1_440 dX1_headFor_59 fun v15 => ?_)
        refine wu_ (wg_rI (pc := 62) hX ar_23 dX1_headFor_62 fun v16 => ?_)
        refine wg_icmp_ge (pc := 63) (tgt := 73) hX dX1_headFor_63 (by decide) (fun h17 => ?_) (fun h17 => ?_)
        · refine wu_t h17 ?_
          exact wu_rt (hk8 x1.1)
        refine wu_f h17 ?_
        refine wg_sub hX [0, 2] rfl ?_
        exact hk10 ()
      refine wg_aload_n (pc := 66) hX dX1_headFor_66 0 rfl ?_
      refine wg_gK (pc := 67) hX hM0 fd_X1_42 (by decide) dX1_headFor_67 ?_
      refine wg_iload_n (pc := 70) hX dX1_headFor_70 1 rfl ?_
      refine wu_ (wg_rR (pc := 71) hX ar_27 (by decide) dX1_headFor_71 fun r18 => ?_)
      refine wg_astore_n (pc := 72) (l' := [(0, .ref (rid 0 1)), (2, .ref (rid 5 r18)), (3, .int x1.2)]) hX dX1_headFor_72 (by decide) rfl ?_
      exact wu_rt (hk8 r18)
    refine wg_iinc (pc := 73) (v := (x1.2 + 1)) (l' := [(0, .ref (rid 0 1)), (2, .ref (rid 5 z8)), (3, .int (x1.2 + 1))]) hX dX1_headFor_73 2 rfl rfl (by decide) rfl ?_
    refine wg_goto (pc := 76) (tgt := 9) hX dX1_headFor_76 (by decide) ?_
    exact hrec1 (z8, (x1.2 + 1))
  refine wg_aload_n (pc := 79) hX dX1_headFor_79 0 rfl ?_
  exact wu_rt (wg_aret (pc := 80) hX rfl (by first | exact Or.inl ⟨_, rfl⟩ | exact Or.inr ⟨_, rfl⟩) (by decide) rfl dX1_headFor_80)
theorem m_X9_hose (r0 : Nat) : amMet yX9_hose cX9_hose 1 (some .int) 1 32 encI [.ref (rid 6 r0)] (up (p_X9_hose r0)) := by
  refine amMet.of (own := RX9) (by decide) rfl (Nat.le_of_ble_eq_true rfl) fun X hX hPs => ?_
  change WG X encI 0 [(0, .ref (rid 6 r0))] [] (bd1 (up (p_X9_hose r0)) rt1)
  unfold p_X9_hose
  refine wg_aload_n (pc := 0) hX dX9_hose_0 0 rfl ?_
  refine wu_ (wg_gIs (pc := 1) hX fd_X9_7 dX9_hose_1 fun v1 => ?_)
  exact wu_rt (wg_iret (pc := 4) hX rfl rfl dX9_hose_4)
theorem m_X1_reachOf (a1 : Nat) (a2 : Nat) : amMet yX1_reachOf cX1_reachOf 7 (some .int) 3 79 encI [.ref (rid 0 1), .ref (rid 6 a1), .ref (rid 3 a2)] (up (p_X1_reachOf a1 a2)) := by
  refine amMet.of (own := RX1) (by decide) rfl (Nat.le_of_ble_eq_true rfl) fun X hX hPs => ?_
  change WG X encI 0 [(0, .ref (rid 0 1)), (1, .ref (rid 6 a1)), (2, .ref (rid 3 a2))] [] (bd1 (up (p_X1_reachOf a1 a2)) rt1)
  unfold p_X1_reachOf
  have hM0 := amPs.m0 hPs
  refine wu_ (wg_gM ?_)
  refine wg_aload_n (pc := 0) hX dX1_reachOf_0 0 rfl ?_
  refine wg_aload_n (pc := 1) hX dX1_reachOf_1 2 rfl ?_
  refine wu_ (wg_gI (pc := 2) hX fd_X1_308 dX1_reachOf_2 fun v1 => ?_)
  refine wu_ (wg_cVr (pc := 5) (As := [.int v1]) (rest := []) hX (m_X1_headFor v1) (by decide) (by decide) (by decide) rc_X1 (lw_V q1020 q1022 qs20 q159 q1023) hd_X1_headFor rfl (Nat.le_of_ble_eq_true rfl) (Nat.le_of_ble_eq_true rfl) (Nat.le_of_ble_eq_true rfl) rfl dX1_reachOf_5 fun r2 => ?_)
  refine wg_astore_n (pc := 8) (l' := [(0, .ref (rid 0 1)), (1, .ref (rid 6 a1)), (2, .ref (rid 3 a2)), (3, .ref (rid 5 r2))]) hX dX1_reachOf_8 (by decide) rfl ?_
  refine wg_aload_n (pc := 9) hX dX1_reachOf_9 3 rfl ?_
  refine wg_ifnonnull (pc := 10) (tgt := 15) hX (by decide) dX1_reachOf_10 (by decide) (fun h3 => ?_) (fun h3 => ?_)
  · refine wu_t h3 ?_
    refine wg_iconst (pc := 13) (v := (-1)) hX dX1_reachOf_13 rfl ?_
    exact wu_rt (wg_iret (pc := 14) hX rfl rfl dX1_reachOf_14)
  refine wu_f h3 ?_
  refine wg_aload_n (pc := 15) hX dX1_reachOf_15 1 rfl ?_
  refine wu_ (wg_vfiu (pc := 16) (x := ⟨"CityBrigade$Gives", "hose", "()I"⟩) (n := 0) (f := fun c => if c = 6 then p_X9_hose a1 else if c = 7 then p_X9_hose a1 else fl0) (As := []) (rest := []) hX (by decide) (by decide) (fun c hc => by
        rcases am_mem4 hc with rfl | rfl | rfl | rfl
        · exact Or.inr ⟨RX9, TX9, 18, yX9_hose, cX9_hose, 1, (some .int), _, _, rfl, ⟨lw_F q1025 q1029 q1031 q171 q1033, by decide, by decide +kernel⟩, m_X9_hose a1, (Nat.le_of_ble_eq_true rfl), (Nat.le_of_ble_eq_true rfl)⟩
        · exact Or.inr ⟨RX10, TX10, 19, yX9_hose, cX9_hose, 1, (some .int), _, _, rfl, ⟨lw_F q1025 q1035 q1031 q171 q1033, by decide, by decide +kernel⟩, m_X9_hose a1, (Nat.le_of_ble_eq_true rfl), (Nat.le_of_ble_eq_true rfl)⟩
        · exact Or.inl (fun _ _ => rfl)
        · exact Or.inl (fun _ _ => rfl)) rfl (Nat.le_of_ble_eq_true rfl) rfl dX1_reachOf_16 fun v5 => ?_)
  refine wg_bipush (pc := 21) (v := 100) hX dX1_reachOf_21 rfl ?_
  refine wg_aload_n (pc := 23) hX dX1_reachOf_23 0 rfl ?_
  refine wg_gK (pc := 24) hX hM0 fd_X1_24 (by decide) dX1_reachOf_24 ?_
  refine wg_aload_n (pc := 27) hX dX1_reachOf_27 3 rfl ?_
  refine wu_ (wg_gI (pc := 28) hX fd_X1_440 dX1_reachOf_28 fun v6 => ?_)
  refine wu_ (wg_rI (pc := 31) hX ar_23 dX1_reachOf_31 fun v7 => ?_)
  refine wg_imul (pc := 32) hX dX1_reachOf_32 ?_
  refine wg_isub (pc := 33) hX dX1_reachOf_33 ?_
  refine wu_ (wg_nmi hX fun v8 => ?_)
  refine wg_istore (pc := 34) (l' := [(0, .ref (rid 0 1)), (1, .ref (rid 6 a1)), (2, .ref (rid 3 a2)), (3, .ref (rid 5 r2)), (4, .int v8)]) hX dX1_reachOf_34 (by decide) rfl ?_
  refine wg_iconst (pc := 36) (v := (-1)) hX dX1_reachOf_36 rfl ?_
  refine wg_istore (pc := 37) (l' := [(0, .ref (rid 0 1)), (1, .ref (rid 6 a1)), (2, .ref (rid 3 a2)), (3, .ref (rid 5 r2)), (4, .int v8), (5, .int (-1))]) hX dX1_reachOf_37 (by decide) rfl ?_
  refine wg_iconst (pc := 39) (v := 0) hX dX1_reachOf_39 rfl ?_
  refine wg_istore (pc := 40) (l' := [(0, .ref (rid 0 1)), (1, .ref (rid 6 a1)), (2, .ref (rid 3 a2)), (3, .ref (rid 5 r2)), (4, .int v8), (5, .int (-1)), (6, .int 0)]) hX dX1_reachOf_40 (by decide) rfl ?_
  refine wg_sub hX [2, 4, 5, 6] rfl ?_
  refine wu_lpx (α := Int32 × Int32) (γ := Int32) (pcl := 42) (pcT := 73) (lo := fun x => [(2, .ref (rid 3 a2)), (4, .int v8), (5, .int x.1), (6, .int x.2)]) (so := fun _ => []) (lT := fun x => [(5, .int x)]) (sT := fun _ => []) (n := amFu) (x0 := ((-1), 0)) (fun K9 rec9 hrec9 hk9 x9 => ?_) (fun y10 => ?_)
  · unfold p_X1_reachOf_L42
    refine wg_iload (pc := 42) hX dX1_reachOf_42 3 rfl ?_
    refine wg_aload_n (pc := 44) hX dX1_reachOf_44 0 rfl ?_
    refine wu_ (wg_gI (pc := 45) hX fd_X1_209 dX1_reachOf_45 fun v11 => ?_)
    refine wg_icmp_ge (pc := 48) (tgt := 73) hX dX1_reachOf_48 (by decide) (fun h12 => ?_) (fun h12 => ?_)
    · refine wu_t h12 ?_
      refine wg_sub hX [2] rfl ?_
      exact wu_rt (hk9 x9.1)
    refine wu_f h12 ?_
    refine wg_bipush (pc := 51) (v := 20) hX dX1_reachOf_51 rfl ?_
    refine wg_iload (pc := 53) hX dX1_reachOf_53 3 rfl ?_
    refine wg_iconst (pc := 55) (v := 1) hX dX1_reachOf_55 rfl ?_
    refine wg_iadd (pc := 56) hX dX1_reachOf_56 ?_
    refine wg_imul (pc := 57) hX dX1_reachOf_57 ?_
    refine wg_iload (pc := 58) hX dX1_reachOf_58 1 rfl ?_
    refine wu_jx (α := Int32) (pcJ := 67) (lJ := fun x => [(2, .ref (rid 3 a2)), (4, .int v8), (5, .int x), (6, .int x9.2)]) (sJ := fun x => []) (fun K13 hk13 => ?_) (fun z13 => ?_)
    · refine wg_icmp_gt (pc := 60) (tgt := 67) hX dX1_reachOf_60 (by decide) (fun h14 => ?_) (fun h14 => ?_)
      · refine wu_t h14 ?_
        exact wu_rt (hk13 x9.1)
      refine wu_f h14 ?_
      refine wg_iload (pc := 63) hX dX1_reachOf_63 3 rfl ?_
      refine wg_istore (pc := 65) (l' := [(2, .ref (rid 3 a2)), (4, .int v8), (5, .int x9.2), (6, .int x9.2)]) hX dX1_reachOf_65 (by decide) rfl ?_
      exact wu_rt (hk13 x9.2)
    refine wg_iinc (pc := 67) (v := (x9.2 + 1)) (l' := [(2, .ref (rid 3 a2)), (4, .int v8), (5, .int z13), (6, .int (x9.2 + 1))]) hX dX1_reachOf_67 3 rfl rfl (by decide) rfl ?_
    refine wg_goto (pc := 70) (tgt := 42) hX dX1_reachOf_70 (by decide) ?_
    exact hrec9 (z13, (x9.2 + 1))
  refine wg_iload (pc := 73) hX dX1_reachOf_73 0 rfl ?_
  exact wu_rt (wg_iret (pc := 75) hX rfl rfl dX1_reachOf_75)
theorem m_X1_reach (a1 : Int32) (a2 : Int32) : amMet yX1_reach cX1_reach 3 (some .int) 4 105 encI [.ref (rid 0 1), .int a1, .int a2] (up (p_X1_reach a1 a2)) := by
  refine amMet.of (own := RX1) (by decide) rfl (Nat.le_of_ble_eq_true rfl) fun X hX hPs => ?_
  change WG X encI 0 [(0, .ref (rid 0 1)), (1, .int a1), (2, .int a2)] [] (bd1 (up (p_X1_reach a1 a2)) rt1)
  unfold p_X1_reach
  have hM0 := amPs.m0 hPs
  refine wu_ (wg_gM ?_)
  refine wg_aload_n (pc := 0) hX dX1_reach_0 0 rfl ?_
  refine wg_iload_n (pc := 1) hX dX1_reach_1 1 rfl ?_
  refine wu_ (wg_cVi (pc := 2) (As := [.int a1]) (rest := []) hX (m_X1_isCrew a1) (by decide) (by decide) (by decide) rc_X1 (lw_V q931 q933 qs16 q159 q934) hd_X1_isCrew rfl (Nat.le_of_ble_eq_true rfl) (Nat.le_of_ble_eq_true rfl) (Nat.le_of_ble_eq_true rfl) rfl dX1_reach_2 fun v1 => ?_)
  refine wu_jn (α := Unit) (pcJ := 50) (lJ := fun x => []) (sJ := fun x => []) (fun k2 hk2 => ?_) (fun z2 => ?_)
  · refine wg_if_eq (pc := 5) (tgt := 50) hX dX1_reach_5 (by decide) (fun h3 => ?_) (fun h3 => ?_)
    · refine wu_t h3 ?_
      refine wg_sub hX [] rfl ?_
      exact hk2 ()
    refine wu_f h3 ?_
    refine wg_aload_n (pc := 8) hX dX1_reach_8 0 rfl ?_
    refine wg_iload_n (pc := 9) hX dX1_reach_9 2 rfl ?_
    refine wu_ (wg_cVi (pc := 10) (As := [.int a2]) (rest := []) hX (m_X1_isHouse a2) (by decide) (by decide) (by decide) rc_X1 (lw_V q657 q659 qs6 q159 q660) hd_X1_isHouse rfl (Nat.le_of_ble_eq_true rfl) (Nat.le_of_ble_eq_true rfl) (Nat.le_of_ble_eq_true rfl) rfl dX1_reach_10 fun v4 => ?_)
    refine wg_if_eq (pc := 13) (tgt := 50) hX dX1_reach_13 (by decide) (fun h5 => ?_) (fun h5 => ?_)
    · refine wu_t h5 ?_
      refine wg_sub hX [] rfl ?_
      exact hk2 ()
    refine wu_f h5 ?_
    refine wg_aload_n (pc := 16) hX dX1_reach_16 0 rfl ?_
    refine wg_gK (pc := 17) hX hM0 fd_X1_48 (by decide) dX1_reach_17 ?_
    refine wg_iload_n (pc := 20) hX dX1_reach_20 1 rfl ?_
    refine wu_ (wg_rR (pc := 21) hX ar_28 (by decide) dX1_reach_21 fun r6 => ?_)
    refine wu_ (wg_io (pc := 22) hX ci_Gives q1015 dX1_reach_22 fun v7 => ?_)
    refine wg_if_eq (pc := 25) (tgt := 50) hX dX1_reach_25 (by decide) (fun h8 => ?_) (fun h8 => ?_)
    · refine wu_t h8 ?_
      refine wg_sub hX [] rfl ?_
      exact hk2 ()
    refine wu_f h8 ?_
    refine wg_aload_n (pc := 28) hX dX1_reach_28 0 rfl ?_
    refine wg_aload_n (pc := 29) hX dX1_reach_29 0 rfl ?_
    refine wg_gK (pc := 30) hX hM0 fd_X1_48 (by decide) dX1_reach_30 ?_
    refine wg_iload_n (pc := 33) hX dX1_reach_33 1 rfl ?_
    refine wu_ (wg_rR (pc := 34) hX ar_28 (by decide) dX1_reach_34 fun r9 => ?_)
    refine wu_ (wg_ck (pc := 35) hX ck_Gives q1015 dX1_reach_35 ?_)
    refine wg_aload_n (pc := 38) hX dX1_reach_38 0 rfl ?_
    refine wg_gK (pc := 39) hX hM0 fd_X1_30 (by decide) dX1_reach_39 ?_
    refine wg_iload_n (pc := 42) hX dX1_reach_42 2 rfl ?_
    refine wu_ (wg_rR (pc := 43) hX ar_24 (by decide) dX1_reach_43 fun r10 => ?_)
    refine wu_ (wg_cVi (pc := 44) (As := [.ref (rid 6 r9), .ref (rid 3 r10)]) (rest := []) hX (m_X1_reachOf r9 r10) (by decide) (by decide) (by decide) rc_X1 (lw_V q1016 q1018 qs19 q159 q1019) hd_X1_reachOf rfl (Nat.le_of_ble_eq_true rfl) (Nat.le_of_ble_eq_true rfl) (Nat.le_of_ble_eq_true rfl) rfl dX1_reach_44 fun v11 => ?_)
    refine wg_goto (pc := 47) (tgt := 51) hX dX1_reach_47 (by decide) ?_
    exact wu_rt (wg_iret (pc := 51) hX rfl rfl dX1_reach_51)
  refine wg_iconst (pc := 50) (v := (-1)) hX dX1_reach_50 rfl ?_
  exact wu_rt (wg_iret (pc := 51) hX rfl rfl dX1_reach_51)
