/-! the walks (printed by gen/build.py) -/
theorem m_X3_minute  : amMet yX3_minute cX3_minute 4 none 139 3347 encV [.ref (rid 1 1)] (up (p_X3_minute)) := by
  refine amMet.of (own := RX3) (by decide) rfl (Nat.le_of_ble_eq_true rfl) fun X hX hPs => ?_
  change WG X encV 0 [(0, .ref (rid 1 1))] [] (bd1 (up (p_X3_minute)) rt1)
  unfold p_X3_minute
  have hM0 := amPs.m0 hPs
  refine wu_ (wg_gM ?_)
  refine wg_aload_n (pc := 0) hX dX3_minute_0 0 rfl ?_
  refine wg_dup (pc := 1) hX dX3_minute_1 rfl ?_
  refine wu_ (wg_gI (pc := 2) hX fd_X3_395 dX3_minute_2 fun v1 => ?_)
  refine wg_iconst (pc := 5) (v := 1) hX dX3_minute_5 rfl ?_
  refine wg_iadd (pc := 6) hX dX3_minute_6 ?_
  refine wu_ (wg_pI (pc := 7) hX fp_X3_395 (fun h => by cases h) dX3_minute_7 ?_)
  refine wg_iconst (pc := 10) (v := 0) hX dX3_minute_10 rfl ?_
  refine wg_istore_n (pc := 11) (l' := [(0, .ref (rid 1 1)), (1, .int 0)]) hX dX3_minute_11 (by decide) rfl ?_
  refine wu_lpx (α := Int32) (γ := Unit) (pcl := 12) (pcT := 64) (lo := fun x => [(0, .ref (rid 1 1)), (1, .int x)]) (so := fun _ => []) (lT := fun x => [(0, .ref (rid 1 1))]) (sT := fun _ => []) (n := amFu) (x0 := 0) (fun K2 rec2 hrec2 hk2 x2 => ?_) (fun y3 => ?_)
  · unfold p_X3_minute_L12
    refine wg_iload_n (pc := 12) hX dX3_minute_12 1 rfl ?_
    refine wg_aload_n (pc := 13) hX dX3_minute_13 0 rfl ?_
    refine wu_ (wg_gI (pc := 14) hX fd_X3_366 dX3_minute_14 fun v4 => ?_)
    refine wg_icmp_ge (pc := 17) (tgt := 64) hX dX3_minute_17 (by decide) (fun h5 => ?_) (fun h5 => ?_)
    · refine wu_t h5 ?_
      refine wg_sub hX [0] rfl ?_
      exact wu_rt (hk2 ())
    refine wu_f h5 ?_
    refine wg_aload_n (pc := 20) hX dX3_minute_20 0 rfl ?_
    refine wg_gK (pc := 21) hX hM0 fd_X3_128 (by decide) dX3_minute_21 ?_
    refine wg_iload_n (pc := 24) hX dX3_minute_24 1 rfl ?_
    refine wu_ (wg_rI (pc := 25) hX ar_94 dX3_minute_25 fun v6 => ?_)
    refine wg_iconst (pc := 26) (v := 1) hX dX3_minute_26 rfl ?_
    refine wu_jx (α := Unit) (pcJ := 58) (lJ := fun x => [(0, .ref (rid 1 1)), (1, .int x2)]) (sJ := fun x => []) (fun K7 hk7 => ?_) (fun z7 => ?_)
    · refine wu_jn (α := Unit) (pcJ := 40) (lJ := fun x => [(0, .ref (rid 1 1)), (1, .int x2)]) (sJ := fun x => []) (fun k8 hk8 => ?_) (fun z8 => ?_)
      · refine wg_icmp_eq (pc := 27) (tgt := 40) hX dX3_minute_27 (by decide) (fun h9 => ?_) (fun h9 => ?_)
        · refine wu_t h9 ?_
          exact hk8 ()
        refine wu_f h9 ?_
        refine wg_aload_n (pc := 30) hX dX3_minute_30 0 rfl ?_
        refine wg_gK (pc := 31) hX hM0 fd_X3_128 (by decide) dX3_minute_31 ?_
        refine wg_iload_n (pc := 34) hX dX3_minute_34 1 rfl ?_
        refine wu_ (wg_rI (pc := 35) hX ar_94 dX3_minute_35 fun v10 => ?_)
        refine wg_iconst (pc := 36) (v := 3) hX dX3_minute_36 rfl ?_
        refine wg_icmp_ne (pc := 37) (tgt := 58) hX dX3_minute_37 (by decide) (fun h11 => ?_) (fun h11 => ?_)
        · refine wu_t h11 ?_
          exact hk8 ()
        refine wu_f h11 ?_
        exact wu_rt (hk7 ())
      refine wg_aload_n (pc := 40) hX dX3_minute_40 0 rfl ?_
      refine wg_gK (pc := 41) hX hM0 fd_X3_134 (by decide) dX3_minute_41 ?_
      refine wg_iload_n (pc := 44) hX dX3_minute_44 1 rfl ?_
      refine wu_ (wg_rI (pc := 45) hX ar_96 dX3_minute_45 fun v12 => ?_)
      refine wg_aload_n (pc := 46) hX dX3_minute_46 0 rfl ?_
      refine wu_ (wg_gI (pc := 47) hX fd_X3_395 dX3_minute_47 fun v13 => ?_)
      refine wg_icmp_gt (pc := 50) (tgt := 58) hX dX3_minute_50 (by decide) (fun h14 => ?_) (fun h14 => ?_)
      · refine wu_t h14 ?_
        exact wu_rt (hk7 ())
      refine wu_f h14 ?_
      refine wg_aload_n (pc := 53) hX dX3_minute_53 0 rfl ?_
      refine wg_iload_n (pc := 54) hX dX3_minute_54 1 rfl ?_
      refine wu_ (wg_cVv (pc := 55) (As := [.int x2]) (rest := []) hX (m_X3_arrives x2) (by decide) (by decide) (by decide) rc_X3 (lw_V q2639 q2641 qs130 q163 q2642) hd_X3_arrives rfl (Nat.le_of_ble_eq_true rfl) (Nat.le_of_ble_eq_true rfl) (Nat.le_of_ble_eq_true rfl) rfl dX3_minute_55 ?_)
      exact wu_rt (hk7 ())
    refine wg_iinc (pc := 58) (v := (x2 + 1)) (l' := [(0, .ref (rid 1 1)), (1, .int (x2 + 1))]) hX dX3_minute_58 1 rfl rfl (by decide) rfl ?_
    refine wg_goto (pc := 61) (tgt := 12) hX dX3_minute_61 (by decide) ?_
    exact hrec2 (x2 + 1)
  refine wg_iconst (pc := 64) (v := 0) hX dX3_minute_64 rfl ?_
  refine wg_istore_n (pc := 65) (l' := [(0, .ref (rid 1 1)), (1, .int 0)]) hX dX3_minute_65 (by decide) rfl ?_
  refine wu_lpx (α := Int32) (γ := Unit) (pcl := 66) (pcT := 134) (lo := fun x => [(0, .ref (rid 1 1)), (1, .int x)]) (so := fun _ => []) (lT := fun x => [(0, .ref (rid 1 1))]) (sT := fun _ => []) (n := amFu) (x0 := 0) (fun K15 rec15 hrec15 hk15 x15 => ?_) (fun y16 => ?_)
  · unfold p_X3_minute_L66
    refine wg_iload_n (pc := 66) hX dX3_minute_66 1 rfl ?_
    refine wg_aload_n (pc := 67) hX dX3_minute_67 0 rfl ?_
    refine wu_ (wg_gI (pc := 68) hX fd_X3_366 dX3_minute_68 fun v17 => ?_)
    refine wg_icmp_ge (pc := 71) (tgt := 134) hX dX3_minute_71 (by decide) (fun h18 => ?_) (fun h18 => ?_)
    · refine wu_t h18 ?_
      refine wg_sub hX [0] rfl ?_
      exact wu_rt (hk15 ())
    refine wu_f h18 ?_
    refine wg_aload_n (pc := 74) hX dX3_minute_74 0 rfl ?_
    refine wg_gK (pc := 75) hX hM0 fd_X3_128 (by decide) dX3_minute_75 ?_
    refine wg_iload_n (pc := 78) hX dX3_minute_78 1 rfl ?_
    refine wu_ (wg_rI (pc := 79) hX ar_94 dX3_minute_79 fun v19 => ?_)
    refine wg_iconst (pc := 80) (v := 2) hX dX3_minute_80 rfl ?_
    refine wu_jx (α := Unit) (pcJ := 128) (lJ := fun x => [(0, .ref (rid 1 1)), (1, .int x15)]) (sJ := fun x => []) (fun K20 hk20 => ?_) (fun z20 => ?_)
    · refine wg_icmp_ne (pc := 81) (tgt := 128) hX dX3_minute_81 (by decide) (fun h21 => ?_) (fun h21 => ?_)
      rotate_left
      · refine wu_f h21 ?_
        exact wu_rt (hk20 ())
      refine wu_t h21 ?_
      refine wg_aload_n (pc := 84) hX dX3_minute_84 0 rfl ?_
      refine wg_aload_n (pc := 85) hX dX3_minute_85 0 rfl ?_
      refine wg_gK (pc := 86) hX hM0 fd_X3_140 (by decide) dX3_minute_86 ?_
      refine wg_iload_n (pc := 89) hX dX3_minute_89 1 rfl ?_
      refine wu_ (wg_rI (pc := 90) hX ar_98 dX3_minute_90 fun v22 => ?_)
      refine wu_ (wg_cVi (pc := 91) (As := [.int v22]) (rest := []) hX (m_X3_burning v22) (by decide) (by decide) (by decide) rc_X3 (lw_V q2384 q2386 qs95 q163 q2387) hd_X3_burning rfl (Nat.le_of_ble_eq_true rfl) (Nat.le_of_ble_eq_true rfl) (Nat.le_of_ble_eq_true rfl) rfl dX3_minute_91 fun v23 => ?_)
      refine wg_if_le (pc := 94) (tgt := 100) hX dX3_minute_94 (by decide) (fun h24 => ?_) (fun h24 => ?_)
      rotate_left
      · refine wu_f h24 ?_
        refine wg_goto (pc := 97) (tgt := 128) hX dX3_minute_97 (by decide) ?_
        exact wu_rt (hk20 ())
      refine wu_t h24 ?_
      refine wg_aload_n (pc := 100) hX dX3_minute_100 0 rfl ?_
      refine wg_aload_n (pc := 101) hX dX3_minute_101 0 rfl ?_
      refine wg_gK (pc := 102) hX hM0 fd_X3_32 (by decide) dX3_minute_102 ?_
      refine wg_aload_n (pc := 105) hX dX3_minute_105 0 rfl ?_
      refine wg_gK (pc := 106) hX hM0 fd_X3_140 (by decide) dX3_minute_106 ?_
      refine wg_iload_n (pc := 109) hX dX3_minute_109 1 rfl ?_
      refine wu_ (wg_rI (pc := 110) hX ar_98 dX3_minute_110 fun v25 => ?_)
      refine wu_ (wg_rI (pc := 111) hX ar_62 dX3_minute_111 fun v26 => ?_)
      refine wu_ (wg_cVi (pc := 112) (As := [.int v26]) (rest := []) hX (m_X3_worstAt v26) (by decide) (by decide) (by decide) rc_X3 (lw_V q2643 q2645 qs131 q163 q2646) hd_X3_worstAt rfl (Nat.le_of_ble_eq_true rfl) (Nat.le_of_ble_eq_true rfl) (Nat.le_of_ble_eq_true rfl) rfl dX3_minute_112 fun v27 => ?_)
      refine wg_istore_n (pc := 115) (l' := [(0, .ref (rid 1 1)), (1, .int x15), (2, .int v27)]) hX dX3_minute_115 (by decide) rfl ?_
      refine wg_iload_n (pc := 116) hX dX3_minute_116 2 rfl ?_
      refine wg_iconst (pc := 117) (v := (-1)) hX dX3_minute_117 rfl ?_
      refine wg_icmp_eq (pc := 118) (tgt := 128) hX dX3_minute_118 (by decide) (fun h28 => ?_) (fun h28 => ?_)
      · refine wu_t h28 ?_
        refine wg_sub hX [0, 1] rfl ?_
        exact wu_rt (hk20 ())
      refine wu_f h28 ?_
      refine wg_aload_n (pc := 121) hX dX3_minute_121 0 rfl ?_
      refine wg_gK (pc := 122) hX hM0 fd_X3_140 (by decide) dX3_minute_122 ?_
      refine wg_iload_n (pc := 125) hX dX3_minute_125 1 rfl ?_
      refine wg_iload_n (pc := 126) hX dX3_minute_126 2 rfl ?_
      refine wu_ (wg_wI (pc := 127) hX ar_98 dX3_minute_127 ?_)
      refine wg_sub hX [0, 1] rfl ?_
      exact wu_rt (hk20 ())
    refine wg_iinc (pc := 128) (v := (x15 + 1)) (l' := [(0, .ref (rid 1 1)), (1, .int (x15 + 1))]) hX dX3_minute_128 1 rfl rfl (by decide) rfl ?_
    refine wg_goto (pc := 131) (tgt := 66) hX dX3_minute_131 (by decide) ?_
    exact hrec15 (x15 + 1)
  refine wg_aload_n (pc := 134) hX dX3_minute_134 0 rfl ?_
  refine wu_ (wg_cVv (pc := 135) (As := []) (rest := []) hX (m_X3_work) (by decide) (by decide) (by decide) rc_X3 (lw_V q2651 q2653 qs133 q163 q2654) hd_X3_work rfl (Nat.le_of_ble_eq_true rfl) (Nat.le_of_ble_eq_true rfl) (Nat.le_of_ble_eq_true rfl) rfl dX3_minute_135 ?_)
  refine wg_aload_n (pc := 138) hX dX3_minute_138 0 rfl ?_
  refine wg_iconst (pc := 139) (v := 1) hX dX3_minute_139 rfl ?_
  refine wu_ (wg_cVv (pc := 140) (As := [.int 1]) (rest := []) hX (m_X3_burn 1) (by decide) (by decide) (by decide) rc_X3 (lw_V q2679 q2681 qs140 q163 q2682) hd_X3_burn rfl (Nat.le_of_ble_eq_true rfl) (Nat.le_of_ble_eq_true rfl) (Nat.le_of_ble_eq_true rfl) rfl dX3_minute_140 ?_)
  refine wg_iconst (pc := 143) (v := 0) hX dX3_minute_143 rfl ?_
  refine wg_istore_n (pc := 144) (l' := [(0, .ref (rid 1 1)), (1, .int 0)]) hX dX3_minute_144 (by decide) rfl ?_
  refine wu_lpx (α := Int32) (γ := Unit) (pcl := 145) (pcT := 165) (lo := fun x => [(0, .ref (rid 1 1)), (1, .int x)]) (so := fun _ => []) (lT := fun x => [(0, .ref (rid 1 1))]) (sT := fun _ => []) (n := amFu) (x0 := 0) (fun K29 rec29 hrec29 hk29 x29 => ?_) (fun y30 => ?_)
  · unfold p_X3_minute_L145
    refine wg_iload_n (pc := 145) hX dX3_minute_145 1 rfl ?_
    refine wg_sipush (pc := 146) (v := 288) hX dX3_minute_146 rfl ?_
    refine wg_icmp_ge (pc := 149) (tgt := 165) hX dX3_minute_149 (by decide) (fun h31 => ?_) (fun h31 => ?_)
    · refine wu_t h31 ?_
      refine wg_sub hX [0] rfl ?_
      exact wu_rt (hk29 ())
    refine wu_f h31 ?_
    refine wg_aload_n (pc := 152) hX dX3_minute_152 0 rfl ?_
    refine wg_gK (pc := 153) hX hM0 fd_X3_74 (by decide) dX3_minute_153 ?_
    refine wg_iload_n (pc := 156) hX dX3_minute_156 1 rfl ?_
    refine wg_iconst (pc := 157) (v := 0) hX dX3_minute_157 rfl ?_
    refine wu_ (wg_wI (pc := 158) hX ar_76 dX3_minute_158 ?_)
    refine wg_iinc (pc := 159) (v := (x29 + 1)) (l' := [(0, .ref (rid 1 1)), (1, .int (x29 + 1))]) hX dX3_minute_159 1 rfl rfl (by decide) rfl ?_
    refine wg_goto (pc := 162) (tgt := 145) hX dX3_minute_162 (by decide) ?_
    exact hrec29 (x29 + 1)
  refine wg_iconst (pc := 165) (v := 0) hX dX3_minute_165 rfl ?_
  refine wg_istore_n (pc := 166) (l' := [(0, .ref (rid 1 1)), (1, .int 0)]) hX dX3_minute_166 (by decide) rfl ?_
  refine wu_lpx (α := Int32) (γ := Unit) (pcl := 167) (pcT := 269) (lo := fun x => [(0, .ref (rid 1 1)), (1, .int x)]) (so := fun _ => []) (lT := fun x => [(0, .ref (rid 1 1))]) (sT := fun _ => []) (n := amFu) (x0 := 0) (fun K32 rec32 hrec32 hk32 x32 => ?_) (fun y33 => ?_)
  · unfold p_X3_minute_L167
    refine wg_iload_n (pc := 167) hX dX3_minute_167 1 rfl ?_
    refine wg_aload_n (pc := 168) hX dX3_minute_168 0 rfl ?_
    refine wu_ (wg_gI (pc := 169) hX fd_X3_525 dX3_minute_169 fun v34 => ?_)
    refine wg_icmp_ge (pc := 172) (tgt := 269) hX dX3_minute_172 (by decide) (fun h35 => ?_) (fun h35 => ?_)
    · refine wu_t h35 ?_
      refine wg_sub hX [0] rfl ?_
      exact wu_rt (hk32 ())
    refine wu_f h35 ?_
    refine wg_aload_n (pc := 175) hX dX3_minute_175 0 rfl ?_
    refine wg_gK (pc := 176) hX hM0 fd_X3_220 (by decide) dX3_minute_176 ?_
    refine wg_iload_n (pc := 179) hX dX3_minute_179 1 rfl ?_
    refine wu_ (wg_rI (pc := 180) hX ar_117 dX3_minute_180 fun v36 => ?_)
    refine wu_jx (α := Unit) (pcJ := 263) (lJ := fun x => [(0, .ref (rid 1 1)), (1, .int x32)]) (sJ := fun x => []) (fun K37 hk37 => ?_) (fun z37 => ?_)
    · refine wg_if_ne (pc := 181) (tgt := 263) hX dX3_minute_181 (by decide) (fun h38 => ?_) (fun h38 => ?_)
      rotate_left
      · refine wu_f h38 ?_
        exact wu_rt (hk37 ())
      refine wu_t h38 ?_
      refine wg_aload_n (pc := 184) hX dX3_minute_184 0 rfl ?_
      refine wg_aload_n (pc := 185) hX dX3_minute_185 0 rfl ?_
      refine wg_gK (pc := 186) hX hM0 fd_X3_214 (by decide) dX3_minute_186 ?_
      refine wg_iload_n (pc := 189) hX dX3_minute_189 1 rfl ?_
      refine wu_ (wg_rI (pc := 190) hX ar_115 dX3_minute_190 fun v39 => ?_)
      refine wu_ (wg_cVi (pc := 191) (As := [.int v39]) (rest := []) hX (m_X3_burnsAt v39) (by decide) (by decide) (by decide) rc_X3 (lw_V q2380 q2382 qs94 q163 q2383) hd_X3_burnsAt rfl (Nat.le_of_ble_eq_true rfl) (Nat.le_of_ble_eq_true rfl) (Nat.le_of_ble_eq_true rfl) rfl dX3_minute_191 fun v40 => ?_)
      refine wg_if_eq (pc := 194) (tgt := 200) hX dX3_minute_194 (by decide) (fun h41 => ?_) (fun h41 => ?_)
      rotate_left
      · refine wu_f h41 ?_
        refine wg_goto (pc := 197) (tgt := 263) hX dX3_minute_197 (by decide) ?_
        exact wu_rt (hk37 ())
      refine wu_t h41 ?_
      refine wg_iconst (pc := 200) (v := 0) hX dX3_minute_200 rfl ?_
      refine wg_istore_n (pc := 201) (l' := [(0, .ref (rid 1 1)), (1, .int x32), (2, .int 0)]) hX dX3_minute_201 (by decide) rfl ?_
      refine wg_iconst (pc := 202) (v := 0) hX dX3_minute_202 rfl ?_
      refine wg_istore_n (pc := 203) (l' := [(0, .ref (rid 1 1)), (1, .int x32), (2, .int 0), (3, .int 0)]) hX dX3_minute_203 (by decide) rfl ?_
      refine wu_lpx (α := Int32 × Int32) (γ := Int32) (pcl := 204) (pcT := 253) (lo := fun x => [(0, .ref (rid 1 1)), (1, .int x32), (2, .int x.1), (3, .int x.2)]) (so := fun _ => []) (lT := fun x => [(0, .ref (rid 1 1)), (1, .int x32), (2, .int x)]) (sT := fun _ => []) (n := amFu) (x0 := (0, 0)) (fun K42 rec42 hrec42 hk42 x42 => ?_) (fun y43 => ?_)
      · unfold p_X3_minute_L204
        refine wg_iload_n (pc := 204) hX dX3_minute_204 3 rfl ?_
        refine wg_aload_n (pc := 205) hX dX3_minute_205 0 rfl ?_
        refine wu_ (wg_gI (pc := 206) hX fd_X3_366 dX3_minute_206 fun v44 => ?_)
        refine wg_icmp_ge (pc := 209) (tgt := 253) hX dX3_minute_209 (by decide) (fun h45 => ?_) (fun h45 => ?_)
        · refine wu_t h45 ?_
          refine wg_sub hX [0, 1, 2] rfl ?_
          exact wu_rt (hk42 x42.1)
        refine wu_f h45 ?_
        refine wg_iload_n (pc := 212) hX dX3_minute_212 2 rfl ?_
        refine wu_jx (α := Int32) (pcJ := 246) (lJ := fun x => [(0, .ref (rid 1 1)), (1, .int x32), (3, .int x42.2)]) (sJ := fun x => [.int x]) (fun K46 hk46 => ?_) (fun z46 => ?_)
        · refine wu_jn (α := Unit) (pcJ := 241) (lJ := fun x => [(0, .ref (rid 1 1)), (1, .int x32), (3, .int x42.2)]) (sJ := fun x => []) (fun k47 hk47 => ?_) (fun z47 => ?_)
          · refine wg_if_ne (pc := 213) (tgt := 241) hX dX3_minute_213 (by decide) (fun h48 => ?_) (fun h48 => ?_)
            rotate_left
            · refine wu_f h48 ?_
              refine wg_sub hX [0, 1, 3] rfl ?_
              exact hk47 ()
            refine wu_t h48 ?_
            refine wg_aload_n (pc := 216) hX dX3_minute_216 0 rfl ?_
            refine wg_gK (pc := 217) hX hM0 fd_X3_128 (by decide) dX3_minute_217 ?_
            refine wg_iload_n (pc := 220) hX dX3_minute_220 3 rfl ?_
            refine wu_ (wg_rI (pc := 221) hX ar_94 dX3_minute_221 fun v49 => ?_)
            refine wg_iconst (pc := 222) (v := 2) hX dX3_minute_222 rfl ?_
            refine wu_jn (α := Unit) (pcJ := 245) (lJ := fun x => [(0, .ref (rid 1 1)), (1, .int x32), (3, .int x42.2)]) (sJ := fun x => []) (fun k50 hk50 => ?_) (fun z50 => ?_)
            · refine wg_icmp_ne (pc := 223) (tgt := 245) hX dX3_minute_223 (by decide) (fun h51 => ?_) (fun h51 => ?_)
              rotate_left
              · refine wu_f h51 ?_
                refine wg_sub hX [0, 1, 3] rfl ?_
                exact hk50 ()
              refine wu_t h51 ?_
              refine wg_aload_n (pc := 226) hX dX3_minute_226 0 rfl ?_
              refine wg_gK (pc := 227) hX hM0 fd_X3_131 (by decide) dX3_minute_227 ?_
              refine wg_iload_n (pc := 230) hX dX3_minute_230 3 rfl ?_
              refine wu_ (wg_rI (pc := 231) hX ar_95 dX3_minute_231 fun v52 => ?_)
              refine wg_aload_n (pc := 232) hX dX3_minute_232 0 rfl ?_
              refine wg_gK (pc := 233) hX hM0 fd_X3_214 (by decide) dX3_minute_233 ?_
              refine wg_iload_n (pc := 236) hX dX3_minute_236 1 rfl ?_
              refine wu_ (wg_rI (pc := 237) hX ar_115 dX3_minute_237 fun v53 => ?_)
              refine wg_icmp_ne (pc := 238) (tgt := 245) hX dX3_minute_238 (by decide) (fun h54 => ?_) (fun h54 => ?_)
              · refine wu_t h54 ?_
                refine wg_sub hX [0, 1, 3] rfl ?_
                exact hk47 ()
              refine wu_f h54 ?_
              refine wg_sub hX [0, 1, 3] rfl ?_
              exact hk50 ()
            refine wg_iconst (pc := 245) (v := 0) hX dX3_minute_245 rfl ?_
            exact wu_rt (hk46 0)
          refine wg_iconst (pc := 241) (v := 1) hX dX3_minute_241 rfl ?_
          refine wg_goto (pc := 242) (tgt := 246) hX dX3_minute_242 (by decide) ?_
          exact wu_rt (hk46 1)
        refine wg_istore_n (pc := 246) (l' := [(0, .ref (rid 1 1)), (1, .int x32), (2, .int z46), (3, .int x42.2)]) hX dX3_minute_246 (by decide) rfl ?_
        refine wg_iinc (pc := 247) (v := (x42.2 + 1)) (l' := [(0, .ref (rid 1 1)), (1, .int x32), (2, .int z46), (3, .int (x42.2 + 1))]) hX dX3_minute_247 3 rfl rfl (by decide) rfl ?_
        refine wg_goto (pc := 250) (tgt := 204) hX dX3_minute_250 (by decide) ?_
        exact hrec42 (z46, (x42.2 + 1))
      refine wg_iload_n (pc := 253) hX dX3_minute_253 2 rfl ?_
      refine wg_if_eq (pc := 254) (tgt := 263) hX dX3_minute_254 (by decide) (fun h55 => ?_) (fun h55 => ?_)
      · refine wu_t h55 ?_
        refine wg_sub hX [0, 1] rfl ?_
        exact wu_rt (hk37 ())
      refine wu_f h55 ?_
      refine wg_aload_n (pc := 257) hX dX3_minute_257 0 rfl ?_
      refine wg_iload_n (pc := 258) hX dX3_minute_258 1 rfl ?_
      refine wg_iconst (pc := 259) (v := 0) hX dX3_minute_259 rfl ?_
      refine wu_ (wg_cVv (pc := 260) (As := [.int x32, .int 0]) (rest := []) hX (m_X3_close x32 0) (by decide) (by decide) (by decide) rc_X3 (lw_V q2647 q2649 qs132 q163 q2650) hd_X3_close rfl (Nat.le_of_ble_eq_true rfl) (Nat.le_of_ble_eq_true rfl) (Nat.le_of_ble_eq_true rfl) rfl dX3_minute_260 ?_)
      refine wg_sub hX [0, 1] rfl ?_
      exact wu_rt (hk37 ())
    refine wg_iinc (pc := 263) (v := (x32 + 1)) (l' := [(0, .ref (rid 1 1)), (1, .int (x32 + 1))]) hX dX3_minute_263 1 rfl rfl (by decide) rfl ?_
    refine wg_goto (pc := 266) (tgt := 167) hX dX3_minute_266 (by decide) ?_
    exact hrec32 (x32 + 1)
  refine wg_iconst (pc := 269) (v := 0) hX dX3_minute_269 rfl ?_
  refine wg_istore_n (pc := 270) (l' := [(0, .ref (rid 1 1)), (1, .int 0)]) hX dX3_minute_270 (by decide) rfl ?_
  refine wu_lpx (α := Int32) (γ := Unit) (pcl := 271) (pcT := 319) (lo := fun x => [(0, .ref (rid 1 1)), (1, .int x)]) (so := fun _ => []) (lT := fun x => [(0, .ref (rid 1 1))]) (sT := fun _ => []) (n := amFu) (x0 := 0) (fun K56 rec56 hrec56 hk56 x56 => ?_) (fun y57 => ?_)
  · unfold p_X3_minute_L271
    refine wg_iload_n (pc := 271) hX dX3_minute_271 1 rfl ?_
    refine wg_aload_n (pc := 272) hX dX3_minute_272 0 rfl ?_
    refine wu_ (wg_gI (pc := 273) hX fd_X3_366 dX3_minute_273 fun v58 => ?_)
    refine wg_icmp_ge (pc := 276) (tgt := 319) hX dX3_minute_276 (by decide) (fun h59 => ?_) (fun h59 => ?_)
    · refine wu_t h59 ?_
      refine wg_sub hX [0] rfl ?_
      exact wu_rt (hk56 ())
    refine wu_f h59 ?_
    refine wg_aload_n (pc := 279) hX dX3_minute_279 0 rfl ?_
    refine wg_gK (pc := 280) hX hM0 fd_X3_128 (by decide) dX3_minute_280 ?_
    refine wg_iload_n (pc := 283) hX dX3_minute_283 1 rfl ?_
    refine wu_ (wg_rI (pc := 284) hX ar_94 dX3_minute_284 fun v60 => ?_)
    refine wg_iconst (pc := 285) (v := 2) hX dX3_minute_285 rfl ?_
    refine wu_jx (α := Unit) (pcJ := 313) (lJ := fun x => [(0, .ref (rid 1 1)), (1, .int x56)]) (sJ := fun x => []) (fun K61 hk61 => ?_) (fun z61 => ?_)
    · refine wg_icmp_ne (pc := 286) (tgt := 313) hX dX3_minute_286 (by decide) (fun h62 => ?_) (fun h62 => ?_)
      rotate_left
      · refine wu_f h62 ?_
        exact wu_rt (hk61 ())
      refine wu_t h62 ?_
      refine wg_aload_n (pc := 289) hX dX3_minute_289 0 rfl ?_
      refine wg_aload_n (pc := 290) hX dX3_minute_290 0 rfl ?_
      refine wg_gK (pc := 291) hX hM0 fd_X3_131 (by decide) dX3_minute_291 ?_
      refine wg_iload_n (pc := 294) hX dX3_minute_294 1 rfl ?_
      refine wu_ (wg_rI (pc := 295) hX ar_95 dX3_minute_295 fun v63 => ?_)
      refine wu_ (wg_cVi (pc := 296) (As := [.int v63]) (rest := []) hX (m_X3_burnsAt v63) (by decide) (by decide) (by decide) rc_X3 (lw_V q2380 q2382 qs94 q163 q2383) hd_X3_burnsAt rfl (Nat.le_of_ble_eq_true rfl) (Nat.le_of_ble_eq_true rfl) (Nat.le_of_ble_eq_true rfl) rfl dX3_minute_296 fun v64 => ?_)
      refine wg_if_ne (pc := 299) (tgt := 313) hX dX3_minute_299 (by decide) (fun h65 => ?_) (fun h65 => ?_)
      rotate_left
      · refine wu_f h65 ?_
        exact wu_rt (hk61 ())
      refine wu_t h65 ?_
      refine wg_aload_n (pc := 302) hX dX3_minute_302 0 rfl ?_
      refine wg_iload_n (pc := 303) hX dX3_minute_303 1 rfl ?_
      refine wg_aload_n (pc := 304) hX dX3_minute_304 0 rfl ?_
      refine wg_gK (pc := 305) hX hM0 fd_X3_131 (by decide) dX3_minute_305 ?_
      refine wg_iload_n (pc := 308) hX dX3_minute_308 1 rfl ?_
      refine wu_ (wg_rI (pc := 309) hX ar_95 dX3_minute_309 fun v66 => ?_)
      refine wu_ (wg_cVv (pc := 310) (As := [.int x56, .int v66]) (rest := []) hX (m_X3_turns x56 v66) (by decide) (by decide) (by decide) rc_X3 (lw_V q2457 q2459 qs103 q163 q2460) hd_X3_turns rfl (Nat.le_of_ble_eq_true rfl) (Nat.le_of_ble_eq_true rfl) (Nat.le_of_ble_eq_true rfl) rfl dX3_minute_310 ?_)
      exact wu_rt (hk61 ())
    refine wg_iinc (pc := 313) (v := (x56 + 1)) (l' := [(0, .ref (rid 1 1)), (1, .int (x56 + 1))]) hX dX3_minute_313 1 rfl rfl (by decide) rfl ?_
    refine wg_goto (pc := 316) (tgt := 271) hX dX3_minute_316 (by decide) ?_
    exact hrec56 (x56 + 1)
  refine wg_iconst (pc := 319) (v := 0) hX dX3_minute_319 rfl ?_
  refine wg_istore_n (pc := 320) (l' := [(0, .ref (rid 1 1)), (1, .int 0)]) hX dX3_minute_320 (by decide) rfl ?_
  refine wu_lpx (α := Int32) (γ := Unit) (pcl := 321) (pcT := 402) (lo := fun x => [(0, .ref (rid 1 1)), (1, .int x)]) (so := fun _ => []) (lT := fun x => [(0, .ref (rid 1 1))]) (sT := fun _ => []) (n := amFu) (x0 := 0) (fun K67 rec67 hrec67 hk67 x67 => ?_) (fun y68 => ?_)
  · unfold p_X3_minute_L321
    refine wg_iload_n (pc := 321) hX dX3_minute_321 1 rfl ?_
    refine wg_aload_n (pc := 322) hX dX3_minute_322 0 rfl ?_
    refine wu_ (wg_gI (pc := 323) hX fd_X3_366 dX3_minute_323 fun v69 => ?_)
    refine wg_icmp_ge (pc := 326) (tgt := 402) hX dX3_minute_326 (by decide) (fun h70 => ?_) (fun h70 => ?_)
    · refine wu_t h70 ?_
      refine wg_sub hX [0] rfl ?_
      exact wu_rt (hk67 ())
    refine wu_f h70 ?_
    refine wg_aload_n (pc := 329) hX dX3_minute_329 0 rfl ?_
    refine wg_gK (pc := 330) hX hM0 fd_X3_128 (by decide) dX3_minute_330 ?_
    refine wg_iload_n (pc := 333) hX dX3_minute_333 1 rfl ?_
    refine wu_ (wg_rI (pc := 334) hX ar_94 dX3_minute_334 fun v71 => ?_)
    refine wu_jx (α := Int32) (pcJ := 357) (lJ := fun x => [(0, .ref (rid 1 1)), (1, .int x67)]) (sJ := fun x => [.int x]) (fun K72 hk72 => ?_) (fun z72 => ?_)
    · refine wg_if_ne (pc := 335) (tgt := 342) hX dX3_minute_335 (by decide) (fun h73 => ?_) (fun h73 => ?_)
      · refine wu_t h73 ?_
        refine wg_iconst (pc := 338) (v := (-1)) hX dX3_minute_338 rfl ?_
        refine wg_goto (pc := 339) (tgt := 357) hX dX3_minute_339 (by decide) ?_
        exact wu_rt (hk72 (-1))
      refine wu_f h73 ?_
      refine wg_aload_n (pc := 342) hX dX3_minute_342 0 rfl ?_
      refine wg_gK (pc := 343) hX hM0 fd_X3_128 (by decide) dX3_minute_343 ?_
      refine wg_iload_n (pc := 346) hX dX3_minute_346 1 rfl ?_
      refine wu_ (wg_rI (pc := 347) hX ar_94 dX3_minute_347 fun v74 => ?_)
      refine wg_iconst (pc := 348) (v := 2) hX dX3_minute_348 rfl ?_
      refine wg_icmp_ne (pc := 349) (tgt := 356) hX dX3_minute_349 (by decide) (fun h75 => ?_) (fun h75 => ?_)
      rotate_left
      · refine wu_f h75 ?_
        refine wg_iconst (pc := 356) (v := 1) hX dX3_minute_356 rfl ?_
        exact wu_rt (hk72 1)
      refine wu_t h75 ?_
      refine wg_iconst (pc := 352) (v := 2) hX dX3_minute_352 rfl ?_
      refine wg_goto (pc := 353) (tgt := 357) hX dX3_minute_353 (by decide) ?_
      exact wu_rt (hk72 2)
    refine wg_istore_n (pc := 357) (l' := [(0, .ref (rid 1 1)), (1, .int x67), (2, .int z72)]) hX dX3_minute_357 (by decide) rfl ?_
    refine wg_aload_n (pc := 358) hX dX3_minute_358 0 rfl ?_
    refine wg_gK (pc := 359) hX hM0 fd_X3_146 (by decide) dX3_minute_359 ?_
    refine wg_iload_n (pc := 362) hX dX3_minute_362 1 rfl ?_
    refine wg_aload_n (pc := 363) hX dX3_minute_363 0 rfl ?_
    refine wg_gK (pc := 364) hX hM0 fd_X3_128 (by decide) dX3_minute_364 ?_
    refine wg_iload_n (pc := 367) hX dX3_minute_367 1 rfl ?_
    refine wu_ (wg_rI (pc := 368) hX ar_94 dX3_minute_368 fun v76 => ?_)
    refine wg_iconst (pc := 369) (v := 4) hX dX3_minute_369 rfl ?_
    refine wu_jx (α := Int32) (pcJ := 395) (lJ := fun x => [(0, .ref (rid 1 1)), (1, .int x67)]) (sJ := fun x => [.int x, .int x67, .ref (rid 100 1)]) (fun K77 hk77 => ?_) (fun z77 => ?_)
    · refine wg_icmp_ne (pc := 370) (tgt := 377) hX dX3_minute_370 (by decide) (fun h78 => ?_) (fun h78 => ?_)
      · refine wu_t h78 ?_
        refine wg_iconst (pc := 373) (v := 0) hX dX3_minute_373 rfl ?_
        refine wg_goto (pc := 374) (tgt := 395) hX dX3_minute_374 (by decide) ?_
        refine wg_sub hX [0, 1] rfl ?_
        exact wu_rt (hk77 0)
      refine wu_f h78 ?_
      refine wg_iconst (pc := 377) (v := 0) hX dX3_minute_377 rfl ?_
      refine wg_sipush (pc := 378) (v := 300) hX dX3_minute_378 rfl ?_
      refine wg_aload_n (pc := 381) hX dX3_minute_381 0 rfl ?_
      refine wg_gK (pc := 382) hX hM0 fd_X3_146 (by decide) dX3_minute_382 ?_
      refine wg_iload_n (pc := 385) hX dX3_minute_385 1 rfl ?_
      refine wu_ (wg_rI (pc := 386) hX ar_100 dX3_minute_386 fun v79 => ?_)
      refine wg_iload_n (pc := 387) hX dX3_minute_387 2 rfl ?_
      refine wg_iadd (pc := 388) hX dX3_minute_388 ?_
      refine wg_mmin (pc := 389) hX q2320 q1149 q165 q1150 (Nat.le_of_ble_eq_true rfl) (Nat.le_of_ble_eq_true rfl) dX3_minute_389 ?_
      refine wu_ (wg_nmi hX fun v80 => ?_)
      refine wg_mmax (pc := 392) hX q2404 q712 q165 q713 (Nat.le_of_ble_eq_true rfl) (Nat.le_of_ble_eq_true rfl) dX3_minute_392 ?_
      refine wu_ (wg_nmi hX fun v81 => ?_)
      refine wg_sub hX [0, 1] rfl ?_
      exact wu_rt (hk77 v81)
    refine wu_ (wg_wI (pc := 395) hX ar_100 dX3_minute_395 ?_)
    refine wg_iinc (pc := 396) (v := (x67 + 1)) (l' := [(0, .ref (rid 1 1)), (1, .int (x67 + 1))]) hX dX3_minute_396 1 rfl rfl (by decide) rfl ?_
    refine wg_goto (pc := 399) (tgt := 321) hX dX3_minute_399 (by decide) ?_
    exact hrec67 (x67 + 1)
  refine wg_iconst (pc := 402) (v := 0) hX dX3_minute_402 rfl ?_
  refine wg_istore_n (pc := 403) (l' := [(0, .ref (rid 1 1)), (1, .int 0)]) hX dX3_minute_403 (by decide) rfl ?_
  refine wu_lpx (α := Int32) (γ := Unit) (pcl := 404) (pcT := 447) (lo := fun x => [(0, .ref (rid 1 1)), (1, .int x)]) (so := fun _ => []) (lT := fun x => []) (sT := fun _ => []) (n := amFu) (x0 := 0) (fun K82 rec82 hrec82 hk82 x82 => ?_) (fun y83 => ?_)
  · unfold p_X3_minute_L404
    refine wg_iload_n (pc := 404) hX dX3_minute_404 1 rfl ?_
    refine wg_aload_n (pc := 405) hX dX3_minute_405 0 rfl ?_
    refine wu_ (wg_gI (pc := 406) hX fd_X3_525 dX3_minute_406 fun v84 => ?_)
    refine wg_icmp_ge (pc := 409) (tgt := 447) hX dX3_minute_409 (by decide) (fun h85 => ?_) (fun h85 => ?_)
    · refine wu_t h85 ?_
      refine wg_sub hX [] rfl ?_
      exact wu_rt (hk82 ())
    refine wu_f h85 ?_
    refine wg_aload_n (pc := 412) hX dX3_minute_412 0 rfl ?_
    refine wg_gK (pc := 413) hX hM0 fd_X3_220 (by decide) dX3_minute_413 ?_
    refine wg_iload_n (pc := 416) hX dX3_minute_416 1 rfl ?_
    refine wu_ (wg_rI (pc := 417) hX ar_117 dX3_minute_417 fun v86 => ?_)
    refine wu_jx (α := Unit) (pcJ := 441) (lJ := fun x => [(0, .ref (rid 1 1)), (1, .int x82)]) (sJ := fun x => []) (fun K87 hk87 => ?_) (fun z87 => ?_)
    · refine wg_if_ne (pc := 418) (tgt := 441) hX dX3_minute_418 (by decide) (fun h88 => ?_) (fun h88 => ?_)
      rotate_left
      · refine wu_f h88 ?_
        exact wu_rt (hk87 ())
      refine wu_t h88 ?_
      refine wg_aload_n (pc := 421) hX dX3_minute_421 0 rfl ?_
      refine wg_aload_n (pc := 422) hX dX3_minute_422 0 rfl ?_
      refine wg_gK (pc := 423) hX hM0 fd_X3_214 (by decide) dX3_minute_423 ?_
      refine wg_iload_n (pc := 426) hX dX3_minute_426 1 rfl ?_
      refine wu_ (wg_rI (pc := 427) hX ar_115 dX3_minute_427 fun v89 => ?_)
      refine wu_ (wg_cVi (pc := 428) (As := [.int v89]) (rest := []) hX (m_X3_burnsAt v89) (by decide) (by decide) (by decide) rc_X3 (lw_V q2380 q2382 qs94 q163 q2383) hd_X3_burnsAt rfl (Nat.le_of_ble_eq_true rfl) (Nat.le_of_ble_eq_true rfl) (Nat.le_of_ble_eq_true rfl) rfl dX3_minute_428 fun v90 => ?_)
      refine wg_if_eq (pc := 431) (tgt := 441) hX dX3_minute_431 (by decide) (fun h91 => ?_) (fun h91 => ?_)
      · refine wu_t h91 ?_
        exact wu_rt (hk87 ())
      refine wu_f h91 ?_
      refine wg_aload_n (pc := 434) hX dX3_minute_434 0 rfl ?_
      refine wg_gK (pc := 435) hX hM0 fd_X3_238 (by decide) dX3_minute_435 ?_
      refine wg_iload_n (pc := 438) hX dX3_minute_438 1 rfl ?_
      refine wg_iconst (pc := 439) (v := 1) hX dX3_minute_439 rfl ?_
      refine wu_ (wg_wZ (pc := 440) hX ar_123 (by decide) dX3_minute_440 ?_)
      exact wu_rt (hk87 ())
    refine wg_iinc (pc := 441) (v := (x82 + 1)) (l' := [(0, .ref (rid 1 1)), (1, .int (x82 + 1))]) hX dX3_minute_441 1 rfl rfl (by decide) rfl ?_
    refine wg_goto (pc := 444) (tgt := 404) hX dX3_minute_444 (by decide) ?_
    exact hrec82 (x82 + 1)
  exact wu_rt (wg_vret (pc := 447) hX rfl rfl dX3_minute_447)
theorem m_X3_tick (a1 : Int32) : amMet yX3_tick cX3_tick 3 (some .int) 140 3370 encI [.ref (rid 1 1), .int a1] (up (p_X3_tick a1)) := by
  refine amMet.of (own := RX3) (by decide) rfl (Nat.le_of_ble_eq_true rfl) fun X hX hPs => ?_
  change WG X encI 0 [(0, .ref (rid 1 1)), (1, .int a1)] [] (bd1 (up (p_X3_tick a1)) rt1)
  unfold p_X3_tick
  refine wg_aload_n (pc := 0) hX dX3_tick_0 0 rfl ?_
  refine wg_iconst (pc := 1) (v := 0) hX dX3_tick_1 rfl ?_
  refine wu_ (wg_pI (pc := 2) hX fp_X3_297 (fun h => by cases h) dX3_tick_2 ?_)
  refine wg_iload_n (pc := 5) hX dX3_tick_5 1 rfl ?_
  refine wg_iconst (pc := 6) (v := 0) hX dX3_tick_6 rfl ?_
  refine wg_sipush (pc := 7) (v := 300) hX dX3_tick_7 rfl ?_
  refine wu_ (wg_cSi (pc := 10) (As := [.int a1, .int 0, .int 300]) (rest := []) hX (m_X3_isIn a1 0 300) (lw_S q2317 q2318 q163 q2319) hd_X3_isIn rfl (Nat.le_of_ble_eq_true rfl) (Nat.le_of_ble_eq_true rfl) (Nat.le_of_ble_eq_true rfl) rfl dX3_tick_10 fun v1 => ?_)
  refine wg_if_eq (pc := 13) (tgt := 28) hX dX3_tick_13 (by decide) (fun h2 => ?_) (fun h2 => ?_)
  · refine wu_t h2 ?_
    refine wg_iconst (pc := 28) (v := (-1)) hX dX3_tick_28 rfl ?_
    exact wu_rt (wg_iret (pc := 29) hX rfl rfl dX3_tick_29)
  refine wu_f h2 ?_
  refine wg_aload_n (pc := 16) hX dX3_tick_16 0 rfl ?_
  refine wu_ (wg_gI (pc := 17) hX fd_X3_395 dX3_tick_17 fun v3 => ?_)
  refine wg_iload_n (pc := 20) hX dX3_tick_20 1 rfl ?_
  refine wg_iadd (pc := 21) hX dX3_tick_21 ?_
  refine wg_sipush (pc := 22) (v := 20000) hX dX3_tick_22 rfl ?_
  refine wg_icmp_le (pc := 25) (tgt := 30) hX dX3_tick_25 (by decide) (fun h4 => ?_) (fun h4 => ?_)
  rotate_left
  · refine wu_f h4 ?_
    refine wg_iconst (pc := 28) (v := (-1)) hX dX3_tick_28 rfl ?_
    exact wu_rt (wg_iret (pc := 29) hX rfl rfl dX3_tick_29)
  refine wu_t h4 ?_
  refine wg_iconst (pc := 30) (v := 0) hX dX3_tick_30 rfl ?_
  refine wg_istore_n (pc := 31) (l' := [(0, .ref (rid 1 1)), (1, .int a1), (2, .int 0)]) hX dX3_tick_31 (by decide) rfl ?_
  refine wu_lpx (α := Int32) (γ := Unit) (pcl := 32) (pcT := 47) (lo := fun x => [(0, .ref (rid 1 1)), (1, .int a1), (2, .int x)]) (so := fun _ => []) (lT := fun x => [(0, .ref (rid 1 1))]) (sT := fun _ => []) (n := amFu) (x0 := 0) (fun K5 rec5 hrec5 hk5 x5 => ?_) (fun y6 => ?_)
  · unfold p_X3_tick_L32
    refine wg_iload_n (pc := 32) hX dX3_tick_32 2 rfl ?_
    refine wg_iload_n (pc := 33) hX dX3_tick_33 1 rfl ?_
    refine wg_icmp_ge (pc := 34) (tgt := 47) hX dX3_tick_34 (by decide) (fun h7 => ?_) (fun h7 => ?_)
    · refine wu_t h7 ?_
      refine wg_sub hX [0] rfl ?_
      exact wu_rt (hk5 ())
    refine wu_f h7 ?_
    refine wg_aload_n (pc := 37) hX dX3_tick_37 0 rfl ?_
    refine wu_ (wg_cVv (pc := 38) (As := []) (rest := []) hX (m_X3_minute) (by decide) (by decide) (by decide) rc_X3 (lw_V q2635 q2637 qs129 q163 q2638) hd_X3_minute rfl (Nat.le_of_ble_eq_true rfl) (Nat.le_of_ble_eq_true rfl) (Nat.le_of_ble_eq_true rfl) rfl dX3_tick_38 ?_)
    refine wg_iinc (pc := 41) (v := (x5 + 1)) (l' := [(0, .ref (rid 1 1)), (1, .int a1), (2, .int (x5 + 1))]) hX dX3_tick_41 2 rfl rfl (by decide) rfl ?_
    refine wg_goto (pc := 44) (tgt := 32) hX dX3_tick_44 (by decide) ?_
    exact hrec5 (x5 + 1)
  refine wg_aload_n (pc := 47) hX dX3_tick_47 0 rfl ?_
  refine wu_ (wg_gI (pc := 48) hX fd_X3_395 dX3_tick_48 fun v8 => ?_)
  exact wu_rt (wg_iret (pc := 51) hX rfl rfl dX3_tick_51)
theorem m_X3_actFor (a1 : Int32) (a2 : Int32) : amMet yX3_actFor cX3_actFor 5 (some .int) 1 32 encI [.ref (rid 1 1), .int a1, .int a2] (up (p_X3_actFor a1 a2)) := by
  refine amMet.of (own := RX3) (by decide) rfl (Nat.le_of_ble_eq_true rfl) fun X hX hPs => ?_
  change WG X encI 0 [(0, .ref (rid 1 1)), (1, .int a1), (2, .int a2)] [] (bd1 (up (p_X3_actFor a1 a2)) rt1)
  unfold p_X3_actFor
  have hM0 := amPs.m0 hPs
  refine wu_ (wg_gM ?_)
  refine wg_iconst (pc := 0) (v := (-1)) hX dX3_actFor_0 rfl ?_
  refine wg_istore_n (pc := 1) (l' := [(0, .ref (rid 1 1)), (1, .int a1), (2, .int a2), (3, .int (-1))]) hX dX3_actFor_1 (by decide) rfl ?_
  refine wg_iconst (pc := 2) (v := 0) hX dX3_actFor_2 rfl ?_
  refine wg_istore (pc := 3) (l' := [(0, .ref (rid 1 1)), (1, .int a1), (2, .int a2), (3, .int (-1)), (4, .int 0)]) hX dX3_actFor_3 (by decide) rfl ?_
  refine wu_lpx (α := Int32 × Int32) (γ := Int32) (pcl := 5) (pcT := 71) (lo := fun x => [(0, .ref (rid 1 1)), (1, .int a1), (2, .int a2), (3, .int x.1), (4, .int x.2)]) (so := fun _ => []) (lT := fun x => [(3, .int x)]) (sT := fun _ => []) (n := amFu) (x0 := ((-1), 0)) (fun K1 rec1 hrec1 hk1 x1 => ?_) (fun y2 => ?_)
  · unfold p_X3_actFor_L5
    refine wg_iload (pc := 5) hX dX3_actFor_5 4 rfl ?_
    refine wg_aload_n (pc := 7) hX dX3_actFor_7 0 rfl ?_
    refine wu_ (wg_gI (pc := 8) hX fd_X3_522 dX3_actFor_8 fun v3 => ?_)
    refine wg_icmp_ge (pc := 11) (tgt := 71) hX dX3_actFor_11 (by decide) (fun h4 => ?_) (fun h4 => ?_)
    · refine wu_t h4 ?_
      refine wg_sub hX [3] rfl ?_
      exact wu_rt (hk1 x1.1)
    refine wu_f h4 ?_
    refine wg_aload_n (pc := 14) hX dX3_actFor_14 0 rfl ?_
    refine wg_gK (pc := 15) hX hM0 fd_X3_189 (by decide) dX3_actFor_15 ?_
    refine wg_iload (pc := 18) hX dX3_actFor_18 4 rfl ?_
    refine wu_ (wg_rI (pc := 20) hX ar_111 dX3_actFor_20 fun v5 => ?_)
    refine wg_iload_n (pc := 21) hX dX3_actFor_21 2 rfl ?_
    refine wu_jx (α := Int32) (pcJ := 65) (lJ := fun x => [(0, .ref (rid 1 1)), (1, .int a1), (2, .int a2), (3, .int x), (4, .int x1.2)]) (sJ := fun x => []) (fun K6 hk6 => ?_) (fun z6 => ?_)
    · refine wg_icmp_gt (pc := 22) (tgt := 65) hX dX3_actFor_22 (by decide) (fun h7 => ?_) (fun h7 => ?_)
      · refine wu_t h7 ?_
        exact wu_rt (hk6 x1.1)
      refine wu_f h7 ?_
      refine wg_aload_n (pc := 25) hX dX3_actFor_25 0 rfl ?_
      refine wg_gK (pc := 26) hX hM0 fd_X3_186 (by decide) dX3_actFor_26 ?_
      refine wg_iload (pc := 29) hX dX3_actFor_29 4 rfl ?_
      refine wu_ (wg_rI (pc := 31) hX ar_110 dX3_actFor_31 fun v8 => ?_)
      refine wg_aload_n (pc := 32) hX dX3_actFor_32 0 rfl ?_
      refine wg_gK (pc := 33) hX hM0 fd_X3_50 (by decide) dX3_actFor_33 ?_
      refine wg_iload_n (pc := 36) hX dX3_actFor_36 1 rfl ?_
      refine wu_ (wg_rI (pc := 37) hX ar_68 dX3_actFor_37 fun v9 => ?_)
      refine wg_icmp_gt (pc := 38) (tgt := 65) hX dX3_actFor_38 (by decide) (fun h10 => ?_) (fun h10 => ?_)
      · refine wu_t h10 ?_
        exact wu_rt (hk6 x1.1)
      refine wu_f h10 ?_
      refine wg_iload_n (pc := 41) hX dX3_actFor_41 3 rfl ?_
      refine wg_iconst (pc := 42) (v := (-1)) hX dX3_actFor_42 rfl ?_
      refine wu_jn (α := Unit) (pcJ := 62) (lJ := fun x => [(0, .ref (rid 1 1)), (1, .int a1), (2, .int a2), (4, .int x1.2)]) (sJ := fun x => []) (fun k11 hk11 => ?_) (fun z11 => ?_)
      · refine wg_icmp_eq (pc := 43) (tgt := 62) hX dX3_actFor_43 (by decide) (fun h12 => ?_) (fun h12 => ?_)
        · refine wu_t h12 ?_
          refine wg_sub hX [0, 1, 2, 4] rfl ?_
          exact hk11 ()
        refine wu_f h12 ?_
        refine wg_aload_n (pc := 46) hX dX3_actFor_46 0 rfl ?_
        refine wg_gK (pc := 47) hX hM0 fd_X3_186 (by decide) dX3_actFor_47 ?_
        refine wg_iload (pc := 50) hX dX3_actFor_50 4 rfl ?_
        refine wu_ (wg_rI (pc := 52) hX ar_110 dX3_actFor_52 fun v13 => ?_)
        refine wg_aload_n (pc := 53) hX dX3_actFor_53 0 rfl ?_
        refine wg_gK (pc := 54) hX hM0 fd_X3_186 (by decide) dX3_actFor_54 ?_
        refine wg_iload_n (pc := 57) hX dX3_actFor_57 3 rfl ?_
        refine wu_ (wg_rI (pc := 58) hX ar_110 dX3_actFor_58 fun v14 => ?_)
        refine wg_icmp_lt (pc := 59) (tgt := 65) hX dX3_actFor_59 (by decide) (fun h15 => ?_) (fun h15 => ?_)
        · refine wu_t h15 ?_
          exact wu_rt (hk6 x1.1)
        refine wu_f h15 ?_
        refine wg_sub hX [0, 1, 2, 4] rfl ?_
        exact hk11 ()
      refine wg_iload (pc := 62) hX dX3_actFor_62 3 rfl ?_
      refine wg_istore_n (pc := 64) (l' := [(0, .ref (rid 1 1)), (1, .int a1), (2, .int a2), (3, .int x1.2), (4, .int x1.2)]) hX dX3_actFor_64 (by decide) rfl ?_
      exact wu_rt (hk6 x1.2)
    refine wg_iinc (pc := 65) (v := (x1.2 + 1)) (l' := [(0, .ref (rid 1 1)), (1, .int a1), (2, .int a2), (3, .int z6), (4, .int (x1.2 + 1))]) hX dX3_actFor_65 4 rfl rfl (by decide) rfl ?_
    refine wg_goto (pc := 68) (tgt := 5) hX dX3_actFor_68 (by decide) ?_
    exact hrec1 (z6, (x1.2 + 1))
  refine wg_iload_n (pc := 71) hX dX3_actFor_71 0 rfl ?_
  exact wu_rt (wg_iret (pc := 72) hX rfl rfl dX3_actFor_72)
theorem m_X3_force (a1 : Int32) (a2 : Int32) : amMet yX3_force cX3_force 3 (some .int) 2 56 encI [.ref (rid 1 1), .int a1, .int a2] (up (p_X3_force a1 a2)) := by
  refine amMet.of (own := RX3) (by decide) rfl (Nat.le_of_ble_eq_true rfl) fun X hX hPs => ?_
  change WG X encI 0 [(0, .ref (rid 1 1)), (1, .int a1), (2, .int a2)] [] (bd1 (up (p_X3_force a1 a2)) rt1)
  unfold p_X3_force
  refine wg_aload_n (pc := 0) hX dX3_force_0 0 rfl ?_
  refine wg_iconst (pc := 1) (v := 0) hX dX3_force_1 rfl ?_
  refine wu_ (wg_pI (pc := 2) hX fp_X3_297 (fun h => by cases h) dX3_force_2 ?_)
  refine wg_aload_n (pc := 5) hX dX3_force_5 0 rfl ?_
  refine wg_iload_n (pc := 6) hX dX3_force_6 1 rfl ?_
  refine wu_ (wg_cVi (pc := 7) (As := [.int a1]) (rest := []) hX (m_X3_isHouse a1) (by decide) (by decide) (by decide) rc_X3 (lw_V q2360 q2362 qs90 q163 q2363) hd_X3_isHouse rfl (Nat.le_of_ble_eq_true rfl) (Nat.le_of_ble_eq_true rfl) (Nat.le_of_ble_eq_true rfl) rfl dX3_force_7 fun v1 => ?_)
  refine wu_jn (α := Unit) (pcJ := 34) (lJ := fun x => []) (sJ := fun x => []) (fun k2 hk2 => ?_) (fun z2 => ?_)
  · refine wg_if_eq (pc := 10) (tgt := 34) hX dX3_force_10 (by decide) (fun h3 => ?_) (fun h3 => ?_)
    · refine wu_t h3 ?_
      refine wg_sub hX [] rfl ?_
      exact hk2 ()
    refine wu_f h3 ?_
    refine wg_iload_n (pc := 13) hX dX3_force_13 2 rfl ?_
    refine wg_iconst (pc := 14) (v := 0) hX dX3_force_14 rfl ?_
    refine wg_aload_n (pc := 15) hX dX3_force_15 0 rfl ?_
    refine wu_ (wg_gI (pc := 16) hX fd_X3_395 dX3_force_16 fun v4 => ?_)
    refine wu_ (wg_cSi (pc := 19) (As := [.int a2, .int 0, .int v4]) (rest := []) hX (m_X3_isIn a2 0 v4) (lw_S q2317 q2318 q163 q2319) hd_X3_isIn rfl (Nat.le_of_ble_eq_true rfl) (Nat.le_of_ble_eq_true rfl) (Nat.le_of_ble_eq_true rfl) rfl dX3_force_19 fun v5 => ?_)
    refine wg_if_eq (pc := 22) (tgt := 34) hX dX3_force_22 (by decide) (fun h6 => ?_) (fun h6 => ?_)
    · refine wu_t h6 ?_
      refine wg_sub hX [] rfl ?_
      exact hk2 ()
    refine wu_f h6 ?_
    refine wg_aload_n (pc := 25) hX dX3_force_25 0 rfl ?_
    refine wg_iload_n (pc := 26) hX dX3_force_26 1 rfl ?_
    refine wg_iload_n (pc := 27) hX dX3_force_27 2 rfl ?_
    refine wu_ (wg_cVi (pc := 28) (As := [.int a1, .int a2]) (rest := []) hX (m_X3_actFor a1 a2) (by decide) (by decide) (by decide) rc_X3 (lw_V q2703 q2705 qs145 q163 q2706) hd_X3_actFor rfl (Nat.le_of_ble_eq_true rfl) (Nat.le_of_ble_eq_true rfl) (Nat.le_of_ble_eq_true rfl) rfl dX3_force_28 fun v7 => ?_)
    refine wg_goto (pc := 31) (tgt := 35) hX dX3_force_31 (by decide) ?_
    exact wu_rt (wg_iret (pc := 35) hX rfl rfl dX3_force_35)
  refine wg_iconst (pc := 34) (v := (-1)) hX dX3_force_34 rfl ?_
  exact wu_rt (wg_iret (pc := 35) hX rfl rfl dX3_force_35)
theorem m_X3_use (a1 : Int32) (a2 : Int32) : amMet yX3_use cX3_use 4 (some .boolean) 2 54 encI [.ref (rid 1 1), .int a1, .int a2] (up (p_X3_use a1 a2)) := by
  refine amMet.of (own := RX3) (by decide) rfl (Nat.le_of_ble_eq_true rfl) fun X hX hPs => ?_
  change WG X encI 0 [(0, .ref (rid 1 1)), (1, .int a1), (2, .int a2)] [] (bd1 (up (p_X3_use a1 a2)) rt1)
  unfold p_X3_use
  have hM0 := amPs.m0 hPs
  refine wu_ (wg_gM ?_)
  refine wg_aload_n (pc := 0) hX dX3_use_0 0 rfl ?_
  refine wg_iconst (pc := 1) (v := 0) hX dX3_use_1 rfl ?_
  refine wu_ (wg_pI (pc := 2) hX fp_X3_297 (fun h => by cases h) dX3_use_2 ?_)
  refine wg_aload_n (pc := 5) hX dX3_use_5 0 rfl ?_
  refine wg_iload_n (pc := 6) hX dX3_use_6 1 rfl ?_
  refine wu_ (wg_cVi (pc := 7) (As := [.int a1]) (rest := []) hX (m_X3_isHouse a1) (by decide) (by decide) (by decide) rc_X3 (lw_V q2360 q2362 qs90 q163 q2363) hd_X3_isHouse rfl (Nat.le_of_ble_eq_true rfl) (Nat.le_of_ble_eq_true rfl) (Nat.le_of_ble_eq_true rfl) rfl dX3_use_7 fun v1 => ?_)
  refine wg_if_eq (pc := 10) (tgt := 23) hX dX3_use_10 (by decide) (fun h2 => ?_) (fun h2 => ?_)
  · refine wu_t h2 ?_
    refine wg_iconst (pc := 23) (v := 0) hX dX3_use_23 rfl ?_
    exact wu_rt (wg_zret (pc := 24) hX rfl (by decide) rfl dX3_use_24)
  refine wu_f h2 ?_
  refine wg_iload_n (pc := 13) hX dX3_use_13 2 rfl ?_
  refine wg_iconst (pc := 14) (v := 0) hX dX3_use_14 rfl ?_
  refine wg_bipush (pc := 15) (v := 9) hX dX3_use_15 rfl ?_
  refine wu_ (wg_cSi (pc := 17) (As := [.int a2, .int 0, .int 9]) (rest := []) hX (m_X3_isIn a2 0 9) (lw_S q2317 q2318 q163 q2319) hd_X3_isIn rfl (Nat.le_of_ble_eq_true rfl) (Nat.le_of_ble_eq_true rfl) (Nat.le_of_ble_eq_true rfl) rfl dX3_use_17 fun v3 => ?_)
  refine wg_if_ne (pc := 20) (tgt := 25) hX dX3_use_20 (by decide) (fun h4 => ?_) (fun h4 => ?_)
  · refine wu_t h4 ?_
    refine wg_iconst (pc := 23) (v := 0) hX dX3_use_23 rfl ?_
    exact wu_rt (wg_zret (pc := 24) hX rfl (by decide) rfl dX3_use_24)
  refine wu_f h4 ?_
  refine wg_iconst (pc := 25) (v := 0) hX dX3_use_25 rfl ?_
  refine wg_istore_n (pc := 26) (l' := [(0, .ref (rid 1 1)), (1, .int a1), (2, .int a2), (3, .int 0)]) hX dX3_use_26 (by decide) rfl ?_
  refine wu_lp (α := Int32) (pcl := 27) (lo := fun x => [(0, .ref (rid 1 1)), (1, .int a1), (2, .int a2), (3, .int x)]) (so := fun _ => []) (fun rec5 hrec5 x5 => ?_) amFu 0
  unfold p_X3_use_L27
  refine wg_iload_n (pc := 27) hX dX3_use_27 3 rfl ?_
  refine wg_aload_n (pc := 28) hX dX3_use_28 0 rfl ?_
  refine wu_ (wg_gI (pc := 29) hX fd_X3_596 dX3_use_29 fun v6 => ?_)
  refine wg_icmp_ge (pc := 32) (tgt := 63) hX dX3_use_32 (by decide) (fun h7 => ?_) (fun h7 => ?_)
  · refine wu_t h7 ?_
    refine wg_aload_n (pc := 63) hX dX3_use_63 0 rfl ?_
    refine wg_gK (pc := 64) hX hM0 fd_X3_53 (by decide) dX3_use_64 ?_
    refine wg_iload_n (pc := 67) hX dX3_use_67 1 rfl ?_
    refine wg_iload_n (pc := 68) hX dX3_use_68 2 rfl ?_
    refine wu_ (wg_wI (pc := 69) hX ar_69 dX3_use_69 ?_)
    refine wg_iconst (pc := 70) (v := 1) hX dX3_use_70 rfl ?_
    exact wu_rt (wg_zret (pc := 71) hX rfl (by decide) rfl dX3_use_71)
  refine wu_f h7 ?_
  refine wg_aload_n (pc := 35) hX dX3_use_35 0 rfl ?_
  refine wg_gK (pc := 36) hX hM0 fd_X3_244 (by decide) dX3_use_36 ?_
  refine wg_iload_n (pc := 39) hX dX3_use_39 3 rfl ?_
  refine wu_ (wg_rI (pc := 40) hX ar_125 dX3_use_40 fun v8 => ?_)
  refine wg_iload_n (pc := 41) hX dX3_use_41 1 rfl ?_
  refine wu_jn (α := Unit) (pcJ := 57) (lJ := fun x => [(0, .ref (rid 1 1)), (1, .int a1), (2, .int a2), (3, .int x5)]) (sJ := fun x => []) (fun k9 hk9 => ?_) (fun z9 => ?_)
  · refine wg_icmp_ne (pc := 42) (tgt := 57) hX dX3_use_42 (by decide) (fun h10 => ?_) (fun h10 => ?_)
    rotate_left
    · refine wu_f h10 ?_
      exact hk9 ()
    refine wu_t h10 ?_
    refine wg_aload_n (pc := 45) hX dX3_use_45 0 rfl ?_
    refine wg_gK (pc := 46) hX hM0 fd_X3_247 (by decide) dX3_use_46 ?_
    refine wg_iload_n (pc := 49) hX dX3_use_49 3 rfl ?_
    refine wu_ (wg_rI (pc := 50) hX ar_126 dX3_use_50 fun v11 => ?_)
    refine wg_iconst (pc := 51) (v := (-1)) hX dX3_use_51 rfl ?_
    refine wg_icmp_eq (pc := 52) (tgt := 57) hX dX3_use_52 (by decide) (fun h12 => ?_) (fun h12 => ?_)
    · refine wu_t h12 ?_
      exact hk9 ()
    refine wu_f h12 ?_
    refine wg_iconst (pc := 55) (v := 0) hX dX3_use_55 rfl ?_
    exact wu_rt (wg_zret (pc := 56) hX rfl (by decide) rfl dX3_use_56)
  refine wg_iinc (pc := 57) (v := (x5 + 1)) (l' := [(0, .ref (rid 1 1)), (1, .int a1), (2, .int a2), (3, .int (x5 + 1))]) hX dX3_use_57 3 rfl rfl (by decide) rfl ?_
  refine wg_goto (pc := 60) (tgt := 27) hX dX3_use_60 (by decide) ?_
  exact hrec5 (x5 + 1)
theorem m_X3_tell (a1 : Int32) (a2 : Int32) (a3 : Int32) : amMet yX3_tell cX3_tell 4 (some .boolean) 2 53 encI [.ref (rid 1 1), .int a1, .int a2, .int a3] (up (p_X3_tell a1 a2 a3)) := by
  refine amMet.of (own := RX3) (by decide) rfl (Nat.le_of_ble_eq_true rfl) fun X hX hPs => ?_
  change WG X encI 0 [(0, .ref (rid 1 1)), (1, .int a1), (2, .int a2), (3, .int a3)] [] (bd1 (up (p_X3_tell a1 a2 a3)) rt1)
  unfold p_X3_tell
  have hM0 := amPs.m0 hPs
  refine wu_ (wg_gM ?_)
  refine wg_aload_n (pc := 0) hX dX3_tell_0 0 rfl ?_
  refine wg_iload_n (pc := 1) hX dX3_tell_1 1 rfl ?_
  refine wu_ (wg_cVi (pc := 2) (As := [.int a1]) (rest := []) hX (m_X3_isHouse a1) (by decide) (by decide) (by decide) rc_X3 (lw_V q2360 q2362 qs90 q163 q2363) hd_X3_isHouse rfl (Nat.le_of_ble_eq_true rfl) (Nat.le_of_ble_eq_true rfl) (Nat.le_of_ble_eq_true rfl) rfl dX3_tell_2 fun v1 => ?_)
  refine wg_if_eq (pc := 5) (tgt := 17) hX dX3_tell_5 (by decide) (fun h2 => ?_) (fun h2 => ?_)
  · refine wu_t h2 ?_
    refine wg_iconst (pc := 17) (v := 0) hX dX3_tell_17 rfl ?_
    exact wu_rt (wg_zret (pc := 18) hX rfl (by decide) rfl dX3_tell_18)
  refine wu_f h2 ?_
  refine wg_aload_n (pc := 8) hX dX3_tell_8 0 rfl ?_
  refine wu_ (wg_gI (pc := 9) hX fd_X3_596 dX3_tell_9 fun v3 => ?_)
  refine wg_bipush (pc := 12) (v := 100) hX dX3_tell_12 rfl ?_
  refine wg_icmp_ne (pc := 14) (tgt := 19) hX dX3_tell_14 (by decide) (fun h4 => ?_) (fun h4 => ?_)
  · refine wu_t h4 ?_
    refine wg_iconst (pc := 17) (v := 0) hX dX3_tell_17 rfl ?_
    exact wu_rt (wg_zret (pc := 18) hX rfl (by decide) rfl dX3_tell_18)
  refine wu_f h4 ?_
  refine wg_aload_n (pc := 19) hX dX3_tell_19 0 rfl ?_
  refine wg_gK (pc := 20) hX hM0 fd_X3_244 (by decide) dX3_tell_20 ?_
  refine wg_aload_n (pc := 23) hX dX3_tell_23 0 rfl ?_
  refine wu_ (wg_gI (pc := 24) hX fd_X3_596 dX3_tell_24 fun v5 => ?_)
  refine wg_iload_n (pc := 27) hX dX3_tell_27 1 rfl ?_
  refine wu_ (wg_wI (pc := 28) hX ar_125 dX3_tell_28 ?_)
  refine wg_aload_n (pc := 29) hX dX3_tell_29 0 rfl ?_
  refine wg_gK (pc := 30) hX hM0 fd_X3_247 (by decide) dX3_tell_30 ?_
  refine wg_aload_n (pc := 33) hX dX3_tell_33 0 rfl ?_
  refine wu_ (wg_gI (pc := 34) hX fd_X3_596 dX3_tell_34 fun v6 => ?_)
  refine wg_iload_n (pc := 37) hX dX3_tell_37 2 rfl ?_
  refine wu_ (wg_wI (pc := 38) hX ar_126 dX3_tell_38 ?_)
  refine wg_aload_n (pc := 39) hX dX3_tell_39 0 rfl ?_
  refine wg_gK (pc := 40) hX hM0 fd_X3_250 (by decide) dX3_tell_40 ?_
  refine wg_aload_n (pc := 43) hX dX3_tell_43 0 rfl ?_
  refine wu_ (wg_gI (pc := 44) hX fd_X3_596 dX3_tell_44 fun v7 => ?_)
  refine wg_iload_n (pc := 47) hX dX3_tell_47 3 rfl ?_
  refine wu_ (wg_wI (pc := 48) hX ar_127 dX3_tell_48 ?_)
  refine wg_aload_n (pc := 49) hX dX3_tell_49 0 rfl ?_
  refine wg_gK (pc := 50) hX hM0 fd_X3_253 (by decide) dX3_tell_50 ?_
  refine wg_aload_n (pc := 53) hX dX3_tell_53 0 rfl ?_
  refine wu_ (wg_gI (pc := 54) hX fd_X3_596 dX3_tell_54 fun v8 => ?_)
  refine wg_aload_n (pc := 57) hX dX3_tell_57 0 rfl ?_
  refine wu_ (wg_gI (pc := 58) hX fd_X3_395 dX3_tell_58 fun v9 => ?_)
  refine wu_ (wg_wI (pc := 61) hX ar_128 dX3_tell_61 ?_)
  refine wg_aload_n (pc := 62) hX dX3_tell_62 0 rfl ?_
  refine wg_dup (pc := 63) hX dX3_tell_63 rfl ?_
  refine wu_ (wg_gI (pc := 64) hX fd_X3_596 dX3_tell_64 fun v10 => ?_)
  refine wg_iconst (pc := 67) (v := 1) hX dX3_tell_67 rfl ?_
  refine wg_iadd (pc := 68) hX dX3_tell_68 ?_
  refine wu_ (wg_pI (pc := 69) hX fp_X3_596 (fun h => by cases h) dX3_tell_69 ?_)
  refine wg_iconst (pc := 72) (v := 1) hX dX3_tell_72 rfl ?_
  exact wu_rt (wg_zret (pc := 73) hX rfl (by decide) rfl dX3_tell_73)
theorem m_X3_change (a1 : Int32) (a2 : Int32) (a3 : Int32) : amMet yX3_change cX3_change 4 (some .boolean) 3 76 encI [.ref (rid 1 1), .int a1, .int a2, .int a3] (up (p_X3_change a1 a2 a3)) := by
  refine amMet.of (own := RX3) (by decide) rfl (Nat.le_of_ble_eq_true rfl) fun X hX hPs => ?_
  change WG X encI 0 [(0, .ref (rid 1 1)), (1, .int a1), (2, .int a2), (3, .int a3)] [] (bd1 (up (p_X3_change a1 a2 a3)) rt1)
  unfold p_X3_change
  refine wg_aload_n (pc := 0) hX dX3_change_0 0 rfl ?_
  refine wg_iconst (pc := 1) (v := 0) hX dX3_change_1 rfl ?_
  refine wu_ (wg_pI (pc := 2) hX fp_X3_297 (fun h => by cases h) dX3_change_2 ?_)
  refine wg_iload_n (pc := 5) hX dX3_change_5 2 rfl ?_
  refine wg_iconst (pc := 6) (v := 0) hX dX3_change_6 rfl ?_
  refine wg_bipush (pc := 7) (v := 9) hX dX3_change_7 rfl ?_
  refine wu_ (wg_cSi (pc := 9) (As := [.int a2, .int 0, .int 9]) (rest := []) hX (m_X3_isIn a2 0 9) (lw_S q2317 q2318 q163 q2319) hd_X3_isIn rfl (Nat.le_of_ble_eq_true rfl) (Nat.le_of_ble_eq_true rfl) (Nat.le_of_ble_eq_true rfl) rfl dX3_change_9 fun v1 => ?_)
  refine wu_jn (α := Unit) (pcJ := 41) (lJ := fun x => []) (sJ := fun x => []) (fun k2 hk2 => ?_) (fun z2 => ?_)
  · refine wg_if_eq (pc := 12) (tgt := 41) hX dX3_change_12 (by decide) (fun h3 => ?_) (fun h3 => ?_)
    · refine wu_t h3 ?_
      refine wg_sub hX [] rfl ?_
      exact hk2 ()
    refine wu_f h3 ?_
    refine wg_iload_n (pc := 15) hX dX3_change_15 3 rfl ?_
    refine wg_iconst (pc := 16) (v := 0) hX dX3_change_16 rfl ?_
    refine wg_aload_n (pc := 17) hX dX3_change_17 0 rfl ?_
    refine wu_ (wg_gI (pc := 18) hX fd_X3_395 dX3_change_18 fun v4 => ?_)
    refine wu_ (wg_cSi (pc := 21) (As := [.int a3, .int 0, .int v4]) (rest := []) hX (m_X3_isIn a3 0 v4) (lw_S q2317 q2318 q163 q2319) hd_X3_isIn rfl (Nat.le_of_ble_eq_true rfl) (Nat.le_of_ble_eq_true rfl) (Nat.le_of_ble_eq_true rfl) rfl dX3_change_21 fun v5 => ?_)
    refine wg_if_eq (pc := 24) (tgt := 41) hX dX3_change_24 (by decide) (fun h6 => ?_) (fun h6 => ?_)
    · refine wu_t h6 ?_
      refine wg_sub hX [] rfl ?_
      exact hk2 ()
    refine wu_f h6 ?_
    refine wg_aload_n (pc := 27) hX dX3_change_27 0 rfl ?_
    refine wg_iload_n (pc := 28) hX dX3_change_28 1 rfl ?_
    refine wg_iload_n (pc := 29) hX dX3_change_29 2 rfl ?_
    refine wg_iload_n (pc := 30) hX dX3_change_30 3 rfl ?_
    refine wu_ (wg_cVi (pc := 31) (As := [.int a1, .int a2, .int a3]) (rest := []) hX (m_X3_tell a1 a2 a3) (by decide) (by decide) (by decide) rc_X3 (lw_V q2715 q2717 qs146 q163 q2718) hd_X3_tell rfl (Nat.le_of_ble_eq_true rfl) (Nat.le_of_ble_eq_true rfl) (Nat.le_of_ble_eq_true rfl) rfl dX3_change_31 fun v7 => ?_)
    refine wg_if_eq (pc := 34) (tgt := 41) hX dX3_change_34 (by decide) (fun h8 => ?_) (fun h8 => ?_)
    · refine wu_t h8 ?_
      refine wg_sub hX [] rfl ?_
      exact hk2 ()
    refine wu_f h8 ?_
    refine wg_iconst (pc := 37) (v := 1) hX dX3_change_37 rfl ?_
    refine wg_goto (pc := 38) (tgt := 42) hX dX3_change_38 (by decide) ?_
    exact wu_rt (wg_zret (pc := 42) hX rfl (by decide) rfl dX3_change_42)
  refine wg_iconst (pc := 41) (v := 0) hX dX3_change_41 rfl ?_
  exact wu_rt (wg_zret (pc := 42) hX rfl (by decide) rfl dX3_change_42)
theorem m_X3_look_2 (a1 : Int32) : amMet yX3_look_2 cX3_look_2 2 (some .boolean) 3 76 encI [.ref (rid 1 1), .int a1] (up (p_X3_look_2 a1)) := by
  refine amMet.of (own := RX3) (by decide) rfl (Nat.le_of_ble_eq_true rfl) fun X hX hPs => ?_
  change WG X encI 0 [(0, .ref (rid 1 1)), (1, .int a1)] [] (bd1 (up (p_X3_look_2 a1)) rt1)
  unfold p_X3_look_2
  refine wg_aload_n (pc := 0) hX dX3_look_2_0 0 rfl ?_
  refine wg_iconst (pc := 1) (v := 0) hX dX3_look_2_1 rfl ?_
  refine wu_ (wg_pI (pc := 2) hX fp_X3_297 (fun h => by cases h) dX3_look_2_2 ?_)
  refine wg_aload_n (pc := 5) hX dX3_look_2_5 0 rfl ?_
  refine wg_iload_n (pc := 6) hX dX3_look_2_6 1 rfl ?_
  refine wg_iconst (pc := 7) (v := (-1)) hX dX3_look_2_7 rfl ?_
  refine wg_aload_n (pc := 8) hX dX3_look_2_8 0 rfl ?_
  refine wu_ (wg_gI (pc := 9) hX fd_X3_395 dX3_look_2_9 fun v1 => ?_)
  refine wu_ (wg_cVi (pc := 12) (As := [.int a1, .int (-1), .int v1]) (rest := []) hX (m_X3_tell a1 (-1) v1) (by decide) (by decide) (by decide) rc_X3 (lw_V q2715 q2717 qs146 q163 q2718) hd_X3_tell rfl (Nat.le_of_ble_eq_true rfl) (Nat.le_of_ble_eq_true rfl) (Nat.le_of_ble_eq_true rfl) rfl dX3_look_2_12 fun v2 => ?_)
  refine wu_ (wg_gd fun h3 => ?_)
  exact wu_rt (wg_zret (pc := 15) hX rfl h3 rfl dX3_look_2_15)
theorem m_X3_useOf (a1 : Int32) (a2 : Int32) : amMet yX3_useOf cX3_useOf 5 (some .int) 1 32 encI [.ref (rid 1 1), .int a1, .int a2] (up (p_X3_useOf a1 a2)) := by
  refine amMet.of (own := RX3) (by decide) rfl (Nat.le_of_ble_eq_true rfl) fun X hX hPs => ?_
  change WG X encI 0 [(0, .ref (rid 1 1)), (1, .int a1), (2, .int a2)] [] (bd1 (up (p_X3_useOf a1 a2)) rt1)
  unfold p_X3_useOf
  have hM0 := amPs.m0 hPs
  refine wu_ (wg_gM ?_)
  refine wg_iconst (pc := 0) (v := (-1)) hX dX3_useOf_0 rfl ?_
  refine wg_istore_n (pc := 1) (l' := [(0, .ref (rid 1 1)), (1, .int a1), (2, .int a2), (3, .int (-1))]) hX dX3_useOf_1 (by decide) rfl ?_
  refine wg_iconst (pc := 2) (v := 0) hX dX3_useOf_2 rfl ?_
  refine wg_istore (pc := 3) (l' := [(0, .ref (rid 1 1)), (1, .int a1), (2, .int a2), (3, .int (-1)), (4, .int 0)]) hX dX3_useOf_3 (by decide) rfl ?_
  refine wu_lpx (α := Int32 × Int32) (γ := Int32) (pcl := 5) (pcT := 88) (lo := fun x => [(0, .ref (rid 1 1)), (1, .int a1), (2, .int a2), (3, .int x.1), (4, .int x.2)]) (so := fun _ => []) (lT := fun x => [(0, .ref (rid 1 1)), (1, .int a1), (3, .int x)]) (sT := fun _ => []) (n := amFu) (x0 := ((-1), 0)) (fun K1 rec1 hrec1 hk1 x1 => ?_) (fun y2 => ?_)
  · unfold p_X3_useOf_L5
    refine wg_iload (pc := 5) hX dX3_useOf_5 4 rfl ?_
    refine wg_aload_n (pc := 7) hX dX3_useOf_7 0 rfl ?_
    refine wu_ (wg_gI (pc := 8) hX fd_X3_596 dX3_useOf_8 fun v3 => ?_)
    refine wg_icmp_ge (pc := 11) (tgt := 88) hX dX3_useOf_11 (by decide) (fun h4 => ?_) (fun h4 => ?_)
    · refine wu_t h4 ?_
      refine wg_sub hX [0, 1, 3] rfl ?_
      exact wu_rt (hk1 x1.1)
    refine wu_f h4 ?_
    refine wg_aload_n (pc := 14) hX dX3_useOf_14 0 rfl ?_
    refine wg_gK (pc := 15) hX hM0 fd_X3_244 (by decide) dX3_useOf_15 ?_
    refine wg_iload (pc := 18) hX dX3_useOf_18 4 rfl ?_
    refine wu_ (wg_rI (pc := 20) hX ar_125 dX3_useOf_20 fun v5 => ?_)
    refine wg_iload_n (pc := 21) hX dX3_useOf_21 1 rfl ?_
    refine wu_jx (α := Int32) (pcJ := 82) (lJ := fun x => [(0, .ref (rid 1 1)), (1, .int a1), (2, .int a2), (3, .int x), (4, .int x1.2)]) (sJ := fun x => []) (fun K6 hk6 => ?_) (fun z6 => ?_)
    · refine wg_icmp_ne (pc := 22) (tgt := 82) hX dX3_useOf_22 (by decide) (fun h7 => ?_) (fun h7 => ?_)
      rotate_left
      · refine wu_f h7 ?_
        exact wu_rt (hk6 x1.1)
      refine wu_t h7 ?_
      refine wg_aload_n (pc := 25) hX dX3_useOf_25 0 rfl ?_
      refine wg_gK (pc := 26) hX hM0 fd_X3_247 (by decide) dX3_useOf_26 ?_
      refine wg_iload (pc := 29) hX dX3_useOf_29 4 rfl ?_
      refine wu_ (wg_rI (pc := 31) hX ar_126 dX3_useOf_31 fun v8 => ?_)
      refine wg_iconst (pc := 32) (v := (-1)) hX dX3_useOf_32 rfl ?_
      refine wg_icmp_eq (pc := 33) (tgt := 82) hX dX3_useOf_33 (by decide) (fun h9 => ?_) (fun h9 => ?_)
      · refine wu_t h9 ?_
        exact wu_rt (hk6 x1.1)
      refine wu_f h9 ?_
      refine wg_aload_n (pc := 36) hX dX3_useOf_36 0 rfl ?_
      refine wg_gK (pc := 37) hX hM0 fd_X3_253 (by decide) dX3_useOf_37 ?_
      refine wg_iload (pc := 40) hX dX3_useOf_40 4 rfl ?_
      refine wu_ (wg_rI (pc := 42) hX ar_128 dX3_useOf_42 fun v10 => ?_)
      refine wg_iload_n (pc := 43) hX dX3_useOf_43 2 rfl ?_
      refine wg_icmp_gt (pc := 44) (tgt := 82) hX dX3_useOf_44 (by decide) (fun h11 => ?_) (fun h11 => ?_)
      · refine wu_t h11 ?_
        exact wu_rt (hk6 x1.1)
      refine wu_f h11 ?_
      refine wg_aload_n (pc := 47) hX dX3_useOf_47 0 rfl ?_
      refine wg_gK (pc := 48) hX hM0 fd_X3_250 (by decide) dX3_useOf_48 ?_
      refine wg_iload (pc := 51) hX dX3_useOf_51 4 rfl ?_
      refine wu_ (wg_rI (pc := 53) hX ar_127 dX3_useOf_53 fun v12 => ?_)
      refine wg_iload_n (pc := 54) hX dX3_useOf_54 2 rfl ?_
      refine wg_icmp_gt (pc := 55) (tgt := 82) hX dX3_useOf_55 (by decide) (fun h13 => ?_) (fun h13 => ?_)
      · refine wu_t h13 ?_
        exact wu_rt (hk6 x1.1)
      refine wu_f h13 ?_
      refine wg_iload_n (pc := 58) hX dX3_useOf_58 3 rfl ?_
      refine wg_iconst (pc := 59) (v := (-1)) hX dX3_useOf_59 rfl ?_
      refine wu_jn (α := Unit) (pcJ := 79) (lJ := fun x => [(0, .ref (rid 1 1)), (1, .int a1), (2, .int a2), (4, .int x1.2)]) (sJ := fun x => []) (fun k14 hk14 => ?_) (fun z14 => ?_)
      · refine wg_icmp_eq (pc := 60) (tgt := 79) hX dX3_useOf_60 (by decide) (fun h15 => ?_) (fun h15 => ?_)
        · refine wu_t h15 ?_
          refine wg_sub hX [0, 1, 2, 4] rfl ?_
          exact hk14 ()
        refine wu_f h15 ?_
        refine wg_aload_n (pc := 63) hX dX3_useOf_63 0 rfl ?_
        refine wg_gK (pc := 64) hX hM0 fd_X3_250 (by decide) dX3_useOf_64 ?_
        refine wg_iload (pc := 67) hX dX3_useOf_67 4 rfl ?_
        refine wu_ (wg_rI (pc := 69) hX ar_127 dX3_useOf_69 fun v16 => ?_)
        refine wg_aload_n (pc := 70) hX dX3_useOf_70 0 rfl ?_
        refine wg_gK (pc := 71) hX hM0 fd_X3_250 (by decide) dX3_useOf_71 ?_
        refine wg_iload_n (pc := 74) hX dX3_useOf_74 3 rfl ?_
        refine wu_ (wg_rI (pc := 75) hX ar_127 dX3_useOf_75 fun v17 => ?_)
        refine wg_icmp_lt (pc := 76) (tgt := 82) hX dX3_useOf_76 (by decide) (fun h18 => ?_) (fun h18 => ?_)
        · refine wu_t h18 ?_
          exact wu_rt (hk6 x1.1)
        refine wu_f h18 ?_
        refine wg_sub hX [0, 1, 2, 4] rfl ?_
        exact hk14 ()
      refine wg_iload (pc := 79) hX dX3_useOf_79 3 rfl ?_
      refine wg_istore_n (pc := 81) (l' := [(0, .ref (rid 1 1)), (1, .int a1), (2, .int a2), (3, .int x1.2), (4, .int x1.2)]) hX dX3_useOf_81 (by decide) rfl ?_
      exact wu_rt (hk6 x1.2)
    refine wg_iinc (pc := 82) (v := (x1.2 + 1)) (l' := [(0, .ref (rid 1 1)), (1, .int a1), (2, .int a2), (3, .int z6), (4, .int (x1.2 + 1))]) hX dX3_useOf_82 4 rfl rfl (by decide) rfl ?_
    refine wg_goto (pc := 85) (tgt := 5) hX dX3_useOf_85 (by decide) ?_
    exact hrec1 (z6, (x1.2 + 1))
  refine wg_iload_n (pc := 88) hX dX3_useOf_88 2 rfl ?_
  refine wg_iconst (pc := 89) (v := (-1)) hX dX3_useOf_89 rfl ?_
  refine wg_icmp_ne (pc := 90) (tgt := 102) hX dX3_useOf_90 (by decide) (fun h19 => ?_) (fun h19 => ?_)
  rotate_left
  · refine wu_f h19 ?_
    refine wg_aload_n (pc := 102) hX dX3_useOf_102 0 rfl ?_
    refine wg_gK (pc := 103) hX hM0 fd_X3_247 (by decide) dX3_useOf_103 ?_
    refine wg_iload_n (pc := 106) hX dX3_useOf_106 2 rfl ?_
    refine wu_ (wg_rI (pc := 107) hX ar_126 dX3_useOf_107 fun v20 => ?_)
    exact wu_rt (wg_iret (pc := 108) hX rfl rfl dX3_useOf_108)
  refine wu_t h19 ?_
  refine wg_aload_n (pc := 93) hX dX3_useOf_93 0 rfl ?_
  refine wg_gK (pc := 94) hX hM0 fd_X3_53 (by decide) dX3_useOf_94 ?_
  refine wg_iload_n (pc := 97) hX dX3_useOf_97 1 rfl ?_
  refine wu_ (wg_rI (pc := 98) hX ar_69 dX3_useOf_98 fun v21 => ?_)
  refine wg_goto (pc := 99) (tgt := 108) hX dX3_useOf_99 (by decide) ?_
  exact wu_rt (wg_iret (pc := 108) hX rfl rfl dX3_useOf_108)
theorem m_X3_used (a1 : Int32) (a2 : Int32) : amMet yX3_used cX3_used 3 (some .int) 2 56 encI [.ref (rid 1 1), .int a1, .int a2] (up (p_X3_used a1 a2)) := by
  refine amMet.of (own := RX3) (by decide) rfl (Nat.le_of_ble_eq_true rfl) fun X hX hPs => ?_
  change WG X encI 0 [(0, .ref (rid 1 1)), (1, .int a1), (2, .int a2)] [] (bd1 (up (p_X3_used a1 a2)) rt1)
  unfold p_X3_used
  refine wg_aload_n (pc := 0) hX dX3_used_0 0 rfl ?_
  refine wg_iconst (pc := 1) (v := 0) hX dX3_used_1 rfl ?_
  refine wu_ (wg_pI (pc := 2) hX fp_X3_297 (fun h => by cases h) dX3_used_2 ?_)
  refine wg_aload_n (pc := 5) hX dX3_used_5 0 rfl ?_
  refine wg_iload_n (pc := 6) hX dX3_used_6 1 rfl ?_
  refine wu_ (wg_cVi (pc := 7) (As := [.int a1]) (rest := []) hX (m_X3_isHouse a1) (by decide) (by decide) (by decide) rc_X3 (lw_V q2360 q2362 qs90 q163 q2363) hd_X3_isHouse rfl (Nat.le_of_ble_eq_true rfl) (Nat.le_of_ble_eq_true rfl) (Nat.le_of_ble_eq_true rfl) rfl dX3_used_7 fun v1 => ?_)
  refine wu_jn (α := Unit) (pcJ := 34) (lJ := fun x => []) (sJ := fun x => []) (fun k2 hk2 => ?_) (fun z2 => ?_)
  · refine wg_if_eq (pc := 10) (tgt := 34) hX dX3_used_10 (by decide) (fun h3 => ?_) (fun h3 => ?_)
    · refine wu_t h3 ?_
      refine wg_sub hX [] rfl ?_
      exact hk2 ()
    refine wu_f h3 ?_
    refine wg_iload_n (pc := 13) hX dX3_used_13 2 rfl ?_
    refine wg_iconst (pc := 14) (v := 0) hX dX3_used_14 rfl ?_
    refine wg_aload_n (pc := 15) hX dX3_used_15 0 rfl ?_
    refine wu_ (wg_gI (pc := 16) hX fd_X3_395 dX3_used_16 fun v4 => ?_)
    refine wu_ (wg_cSi (pc := 19) (As := [.int a2, .int 0, .int v4]) (rest := []) hX (m_X3_isIn a2 0 v4) (lw_S q2317 q2318 q163 q2319) hd_X3_isIn rfl (Nat.le_of_ble_eq_true rfl) (Nat.le_of_ble_eq_true rfl) (Nat.le_of_ble_eq_true rfl) rfl dX3_used_19 fun v5 => ?_)
    refine wg_if_eq (pc := 22) (tgt := 34) hX dX3_used_22 (by decide) (fun h6 => ?_) (fun h6 => ?_)
    · refine wu_t h6 ?_
      refine wg_sub hX [] rfl ?_
      exact hk2 ()
    refine wu_f h6 ?_
    refine wg_aload_n (pc := 25) hX dX3_used_25 0 rfl ?_
    refine wg_iload_n (pc := 26) hX dX3_used_26 1 rfl ?_
    refine wg_iload_n (pc := 27) hX dX3_used_27 2 rfl ?_
    refine wu_ (wg_cVi (pc := 28) (As := [.int a1, .int a2]) (rest := []) hX (m_X3_useOf a1 a2) (by decide) (by decide) (by decide) rc_X3 (lw_V q2727 q2729 qs147 q163 q2730) hd_X3_useOf rfl (Nat.le_of_ble_eq_true rfl) (Nat.le_of_ble_eq_true rfl) (Nat.le_of_ble_eq_true rfl) rfl dX3_used_28 fun v7 => ?_)
    refine wg_goto (pc := 31) (tgt := 35) hX dX3_used_31 (by decide) ?_
    exact wu_rt (wg_iret (pc := 35) hX rfl rfl dX3_used_35)
  refine wg_iconst (pc := 34) (v := (-1)) hX dX3_used_34 rfl ?_
  exact wu_rt (wg_iret (pc := 35) hX rfl rfl dX3_used_35)
theorem m_X3_daysFrom (a1 : Int32) (a2 : Int32) : amMet yX3_daysFrom cX3_daysFrom 5 (some .int) 1 32 encI [.ref (rid 1 1), .int a1, .int a2] (up (p_X3_daysFrom a1 a2)) := by
  refine amMet.of (own := RX3) (by decide) rfl (Nat.le_of_ble_eq_true rfl) fun X hX hPs => ?_
  change WG X encI 0 [(0, .ref (rid 1 1)), (1, .int a1), (2, .int a2)] [] (bd1 (up (p_X3_daysFrom a1 a2)) rt1)
  unfold p_X3_daysFrom
  have hM0 := amPs.m0 hPs
  refine wu_ (wg_gM ?_)
  refine wg_iconst (pc := 0) (v := (-1)) hX dX3_daysFrom_0 rfl ?_
  refine wg_istore_n (pc := 1) (l' := [(0, .ref (rid 1 1)), (1, .int a1), (2, .int a2), (3, .int (-1))]) hX dX3_daysFrom_1 (by decide) rfl ?_
  refine wg_iconst (pc := 2) (v := 0) hX dX3_daysFrom_2 rfl ?_
  refine wg_istore (pc := 3) (l' := [(0, .ref (rid 1 1)), (1, .int a1), (2, .int a2), (3, .int (-1)), (4, .int 0)]) hX dX3_daysFrom_3 (by decide) rfl ?_
  refine wu_lpx (α := Int32 × Int32) (γ := Int32) (pcl := 5) (pcT := 61) (lo := fun x => [(0, .ref (rid 1 1)), (1, .int a1), (2, .int a2), (3, .int x.1), (4, .int x.2)]) (so := fun _ => []) (lT := fun x => [(2, .int a2), (3, .int x)]) (sT := fun _ => []) (n := amFu) (x0 := ((-1), 0)) (fun K1 rec1 hrec1 hk1 x1 => ?_) (fun y2 => ?_)
  · unfold p_X3_daysFrom_L5
    refine wg_iload (pc := 5) hX dX3_daysFrom_5 4 rfl ?_
    refine wg_aload_n (pc := 7) hX dX3_daysFrom_7 0 rfl ?_
    refine wu_ (wg_gI (pc := 8) hX fd_X3_596 dX3_daysFrom_8 fun v3 => ?_)
    refine wg_icmp_ge (pc := 11) (tgt := 61) hX dX3_daysFrom_11 (by decide) (fun h4 => ?_) (fun h4 => ?_)
    · refine wu_t h4 ?_
      refine wg_sub hX [2, 3] rfl ?_
      exact wu_rt (hk1 x1.1)
    refine wu_f h4 ?_
    refine wg_aload_n (pc := 14) hX dX3_daysFrom_14 0 rfl ?_
    refine wg_gK (pc := 15) hX hM0 fd_X3_244 (by decide) dX3_daysFrom_15 ?_
    refine wg_iload (pc := 18) hX dX3_daysFrom_18 4 rfl ?_
    refine wu_ (wg_rI (pc := 20) hX ar_125 dX3_daysFrom_20 fun v5 => ?_)
    refine wg_iload_n (pc := 21) hX dX3_daysFrom_21 1 rfl ?_
    refine wu_jx (α := Int32) (pcJ := 55) (lJ := fun x => [(0, .ref (rid 1 1)), (1, .int a1), (2, .int a2), (3, .int x), (4, .int x1.2)]) (sJ := fun x => []) (fun K6 hk6 => ?_) (fun z6 => ?_)
    · refine wg_icmp_ne (pc := 22) (tgt := 55) hX dX3_daysFrom_22 (by decide) (fun h7 => ?_) (fun h7 => ?_)
      rotate_left
      · refine wu_f h7 ?_
        exact wu_rt (hk6 x1.1)
      refine wu_t h7 ?_
      refine wg_aload_n (pc := 25) hX dX3_daysFrom_25 0 rfl ?_
      refine wg_gK (pc := 26) hX hM0 fd_X3_247 (by decide) dX3_daysFrom_26 ?_
      refine wg_iload (pc := 29) hX dX3_daysFrom_29 4 rfl ?_
      refine wu_ (wg_rI (pc := 31) hX ar_126 dX3_daysFrom_31 fun v8 => ?_)
      refine wg_iconst (pc := 32) (v := (-1)) hX dX3_daysFrom_32 rfl ?_
      refine wg_icmp_ne (pc := 33) (tgt := 55) hX dX3_daysFrom_33 (by decide) (fun h9 => ?_) (fun h9 => ?_)
      rotate_left
      · refine wu_f h9 ?_
        exact wu_rt (hk6 x1.1)
      refine wu_t h9 ?_
      refine wg_aload_n (pc := 36) hX dX3_daysFrom_36 0 rfl ?_
      refine wg_gK (pc := 37) hX hM0 fd_X3_253 (by decide) dX3_daysFrom_37 ?_
      refine wg_iload (pc := 40) hX dX3_daysFrom_40 4 rfl ?_
      refine wu_ (wg_rI (pc := 42) hX ar_128 dX3_daysFrom_42 fun v10 => ?_)
      refine wg_iload_n (pc := 43) hX dX3_daysFrom_43 2 rfl ?_
      refine wg_icmp_gt (pc := 44) (tgt := 55) hX dX3_daysFrom_44 (by decide) (fun h11 => ?_) (fun h11 => ?_)
      · refine wu_t h11 ?_
        exact wu_rt (hk6 x1.1)
      refine wu_f h11 ?_
      refine wg_aload_n (pc := 47) hX dX3_daysFrom_47 0 rfl ?_
      refine wg_gK (pc := 48) hX hM0 fd_X3_253 (by decide) dX3_daysFrom_48 ?_
      refine wg_iload (pc := 51) hX dX3_daysFrom_51 4 rfl ?_
      refine wu_ (wg_rI (pc := 53) hX ar_128 dX3_daysFrom_53 fun v12 => ?_)
      refine wg_istore_n (pc := 54) (l' := [(0, .ref (rid 1 1)), (1, .int a1), (2, .int a2), (3, .int v12), (4, .int x1.2)]) hX dX3_daysFrom_54 (by decide) rfl ?_
      exact wu_rt (hk6 v12)
    refine wg_iinc (pc := 55) (v := (x1.2 + 1)) (l' := [(0, .ref (rid 1 1)), (1, .int a1), (2, .int a2), (3, .int z6), (4, .int (x1.2 + 1))]) hX dX3_daysFrom_55 4 rfl rfl (by decide) rfl ?_
    refine wg_goto (pc := 58) (tgt := 5) hX dX3_daysFrom_58 (by decide) ?_
    exact hrec1 (z6, (x1.2 + 1))
  refine wg_iload_n (pc := 61) hX dX3_daysFrom_61 1 rfl ?_
  refine wg_iconst (pc := 62) (v := (-1)) hX dX3_daysFrom_62 rfl ?_
  refine wg_icmp_ne (pc := 63) (tgt := 72) hX dX3_daysFrom_63 (by decide) (fun h13 => ?_) (fun h13 => ?_)
  · refine wu_t h13 ?_
    refine wg_sipush (pc := 66) (v := 999) hX dX3_daysFrom_66 rfl ?_
    refine wg_goto (pc := 69) (tgt := 79) hX dX3_daysFrom_69 (by decide) ?_
    exact wu_rt (wg_iret (pc := 79) hX rfl rfl dX3_daysFrom_79)
  refine wu_f h13 ?_
  refine wg_iload_n (pc := 72) hX dX3_daysFrom_72 0 rfl ?_
  refine wg_iload_n (pc := 73) hX dX3_daysFrom_73 1 rfl ?_
  refine wg_isub (pc := 74) hX dX3_daysFrom_74 ?_
  refine wg_sipush (pc := 75) (v := 1440) hX dX3_daysFrom_75 rfl ?_
  refine wg_idiv (pc := 78) hX dX3_daysFrom_78 (by decide) ?_
  exact wu_rt (wg_iret (pc := 79) hX rfl rfl dX3_daysFrom_79)
theorem m_X3_failsBy (a1 : Int32) (a2 : Int32) : amMet yX3_failsBy cX3_failsBy 6 (some .int) 137 3299 encI [.ref (rid 1 1), .int a1, .int a2] (up (p_X3_failsBy a1 a2)) := by
  refine amMet.of (own := RX3) (by decide) rfl (Nat.le_of_ble_eq_true rfl) fun X hX hPs => ?_
  change WG X encI 0 [(0, .ref (rid 1 1)), (1, .int a1), (2, .int a2)] [] (bd1 (up (p_X3_failsBy a1 a2)) rt1)
  unfold p_X3_failsBy
  have hM0 := amPs.m0 hPs
  refine wu_ (wg_gM ?_)
  refine wg_aload_n (pc := 0) hX dX3_failsBy_0 0 rfl ?_
  refine wg_iload_n (pc := 1) hX dX3_failsBy_1 1 rfl ?_
  refine wg_iload_n (pc := 2) hX dX3_failsBy_2 2 rfl ?_
  refine wu_ (wg_cVi (pc := 3) (As := [.int a1, .int a2]) (rest := []) hX (m_X3_actFor a1 a2) (by decide) (by decide) (by decide) rc_X3 (lw_V q2703 q2705 qs145 q163 q2706) hd_X3_actFor rfl (Nat.le_of_ble_eq_true rfl) (Nat.le_of_ble_eq_true rfl) (Nat.le_of_ble_eq_true rfl) rfl dX3_failsBy_3 fun v1 => ?_)
  refine wg_istore_n (pc := 6) (l' := [(0, .ref (rid 1 1)), (1, .int a1), (2, .int a2), (3, .int v1)]) hX dX3_failsBy_6 (by decide) rfl ?_
  refine wg_aload_n (pc := 7) hX dX3_failsBy_7 0 rfl ?_
  refine wg_iconst (pc := 8) (v := 0) hX dX3_failsBy_8 rfl ?_
  refine wu_ (wg_pI (pc := 9) hX fp_X3_497 (fun h => by cases h) dX3_failsBy_9 ?_)
  refine wg_iload_n (pc := 12) hX dX3_failsBy_12 3 rfl ?_
  refine wg_iconst (pc := 13) (v := (-1)) hX dX3_failsBy_13 rfl ?_
  refine wg_icmp_ne (pc := 14) (tgt := 19) hX dX3_failsBy_14 (by decide) (fun h2 => ?_) (fun h2 => ?_)
  · refine wu_t h2 ?_
    refine wg_iconst (pc := 17) (v := 0) hX dX3_failsBy_17 rfl ?_
    exact wu_rt (wg_iret (pc := 18) hX rfl rfl dX3_failsBy_18)
  refine wu_f h2 ?_
  refine wg_iconst (pc := 19) (v := 0) hX dX3_failsBy_19 rfl ?_
  refine wg_istore (pc := 20) (l' := [(0, .ref (rid 1 1)), (1, .int a1), (2, .int a2), (3, .int v1), (4, .int 0)]) hX dX3_failsBy_20 (by decide) rfl ?_
  refine wg_iconst (pc := 22) (v := 0) hX dX3_failsBy_22 rfl ?_
  refine wg_istore (pc := 23) (l' := [(0, .ref (rid 1 1)), (1, .int a1), (2, .int a2), (3, .int v1), (4, .int 0), (5, .int 0)]) hX dX3_failsBy_23 (by decide) rfl ?_
  refine wu_lpx (α := Int32 × Int32) (γ := Int32) (pcl := 25) (pcT := 61) (lo := fun x => [(0, .ref (rid 1 1)), (1, .int a1), (2, .int a2), (3, .int v1), (4, .int x.1), (5, .int x.2)]) (so := fun _ => []) (lT := fun x => [(0, .ref (rid 1 1)), (1, .int a1), (2, .int a2), (3, .int v1), (4, .int x)]) (sT := fun _ => []) (n := amFu) (x0 := (0, 0)) (fun K3 rec3 hrec3 hk3 x3 => ?_) (fun y4 => ?_)
  · unfold p_X3_failsBy_L25
    refine wg_iload (pc := 25) hX dX3_failsBy_25 5 rfl ?_
    refine wg_aload_n (pc := 27) hX dX3_failsBy_27 0 rfl ?_
    refine wg_gK (pc := 28) hX hM0 fd_X3_38 (by decide) dX3_failsBy_28 ?_
    refine wg_iload_n (pc := 31) hX dX3_failsBy_31 1 rfl ?_
    refine wu_ (wg_rI (pc := 32) hX ar_64 dX3_failsBy_32 fun v5 => ?_)
    refine wg_icmp_ge (pc := 33) (tgt := 61) hX dX3_failsBy_33 (by decide) (fun h6 => ?_) (fun h6 => ?_)
    · refine wu_t h6 ?_
      refine wg_sub hX [0, 1, 2, 3, 4] rfl ?_
      exact wu_rt (hk3 x3.1)
    refine wu_f h6 ?_
    refine wg_iload (pc := 36) hX dX3_failsBy_36 4 rfl ?_
    refine wg_aload_n (pc := 38) hX dX3_failsBy_38 0 rfl ?_
    refine wg_gK (pc := 39) hX hM0 fd_X3_89 (by decide) dX3_failsBy_39 ?_
    refine wg_bipush (pc := 42) (v := 6) hX dX3_failsBy_42 rfl ?_
    refine wg_iload_n (pc := 44) hX dX3_failsBy_44 1 rfl ?_
    refine wg_imul (pc := 45) hX dX3_failsBy_45 ?_
    refine wg_iload (pc := 46) hX dX3_failsBy_46 5 rfl ?_
    refine wg_iadd (pc := 48) hX dX3_failsBy_48 ?_
    refine wu_ (wg_rI (pc := 49) hX ar_81 dX3_failsBy_49 fun v7 => ?_)
    refine wg_mmax (pc := 50) hX q2404 q712 q165 q713 (Nat.le_of_ble_eq_true rfl) (Nat.le_of_ble_eq_true rfl) dX3_failsBy_50 ?_
    refine wu_ (wg_nmi hX fun v8 => ?_)
    refine wg_istore (pc := 53) (l' := [(0, .ref (rid 1 1)), (1, .int a1), (2, .int a2), (3, .int v1), (4, .int v8), (5, .int x3.2)]) hX dX3_failsBy_53 (by decide) rfl ?_
    refine wg_iinc (pc := 55) (v := (x3.2 + 1)) (l' := [(0, .ref (rid 1 1)), (1, .int a1), (2, .int a2), (3, .int v1), (4, .int v8), (5, .int (x3.2 + 1))]) hX dX3_failsBy_55 5 rfl rfl (by decide) rfl ?_
    refine wg_goto (pc := 58) (tgt := 25) hX dX3_failsBy_58 (by decide) ?_
    exact hrec3 (v8, (x3.2 + 1))
  refine wg_aload_n (pc := 61) hX dX3_failsBy_61 0 rfl ?_
  refine wg_gK (pc := 62) hX hM0 fd_X3_192 (by decide) dX3_failsBy_62 ?_
  refine wg_bipush (pc := 65) (v := 115) hX dX3_failsBy_65 rfl ?_
  refine wg_aload_n (pc := 67) hX dX3_failsBy_67 0 rfl ?_
  refine wg_gK (pc := 68) hX hM0 fd_X3_38 (by decide) dX3_failsBy_68 ?_
  refine wg_iload_n (pc := 71) hX dX3_failsBy_71 1 rfl ?_
  refine wu_ (wg_rI (pc := 72) hX ar_64 dX3_failsBy_72 fun v9 => ?_)
  refine wu_ (wg_wI (pc := 73) hX ar_112 dX3_failsBy_73 ?_)
  refine wg_aload_n (pc := 74) hX dX3_failsBy_74 0 rfl ?_
  refine wg_gK (pc := 75) hX hM0 fd_X3_192 (by decide) dX3_failsBy_75 ?_
  refine wg_bipush (pc := 78) (v := 114) hX dX3_failsBy_78 rfl ?_
  refine wg_aload_n (pc := 80) hX dX3_failsBy_80 0 rfl ?_
  refine wg_gK (pc := 81) hX hM0 fd_X3_41 (by decide) dX3_failsBy_81 ?_
  refine wg_iload_n (pc := 84) hX dX3_failsBy_84 1 rfl ?_
  refine wu_ (wg_rI (pc := 85) hX ar_65 dX3_failsBy_85 fun v10 => ?_)
  refine wu_ (wg_wI (pc := 86) hX ar_112 dX3_failsBy_86 ?_)
  refine wg_aload_n (pc := 87) hX dX3_failsBy_87 0 rfl ?_
  refine wg_gK (pc := 88) hX hM0 fd_X3_192 (by decide) dX3_failsBy_88 ?_
  refine wg_bipush (pc := 91) (v := 117) hX dX3_failsBy_91 rfl ?_
  refine wg_aload_n (pc := 93) hX dX3_failsBy_93 0 rfl ?_
  refine wg_iload_n (pc := 94) hX dX3_failsBy_94 1 rfl ?_
  refine wg_iload_n (pc := 95) hX dX3_failsBy_95 2 rfl ?_
  refine wu_ (wg_cVi (pc := 96) (As := [.int a1, .int a2]) (rest := [.int 117, .ref (rid 112 1)]) hX (m_X3_useOf a1 a2) (by decide) (by decide) (by decide) rc_X3 (lw_V q2727 q2729 qs147 q163 q2730) hd_X3_useOf rfl (Nat.le_of_ble_eq_true rfl) (Nat.le_of_ble_eq_true rfl) (Nat.le_of_ble_eq_true rfl) rfl dX3_failsBy_96 fun v11 => ?_)
  refine wu_ (wg_wI (pc := 99) hX ar_112 dX3_failsBy_99 ?_)
  refine wg_aload_n (pc := 100) hX dX3_failsBy_100 0 rfl ?_
  refine wg_gK (pc := 101) hX hM0 fd_X3_192 (by decide) dX3_failsBy_101 ?_
  refine wg_bipush (pc := 104) (v := 107) hX dX3_failsBy_104 rfl ?_
  refine wg_aload_n (pc := 106) hX dX3_failsBy_106 0 rfl ?_
  refine wg_gK (pc := 107) hX hM0 fd_X3_35 (by decide) dX3_failsBy_107 ?_
  refine wg_iload_n (pc := 110) hX dX3_failsBy_110 1 rfl ?_
  refine wu_ (wg_rI (pc := 111) hX ar_63 dX3_failsBy_111 fun v12 => ?_)
  refine wu_ (wg_wI (pc := 112) hX ar_112 dX3_failsBy_112 ?_)
  refine wg_aload_n (pc := 113) hX dX3_failsBy_113 0 rfl ?_
  refine wg_gK (pc := 114) hX hM0 fd_X3_192 (by decide) dX3_failsBy_114 ?_
  refine wg_bipush (pc := 117) (v := 103) hX dX3_failsBy_117 rfl ?_
  refine wg_iload (pc := 119) hX dX3_failsBy_119 4 rfl ?_
  refine wu_ (wg_wI (pc := 121) hX ar_112 dX3_failsBy_121 ?_)
  refine wg_aload_n (pc := 122) hX dX3_failsBy_122 0 rfl ?_
  refine wg_gK (pc := 123) hX hM0 fd_X3_192 (by decide) dX3_failsBy_123 ?_
  refine wg_bipush (pc := 126) (v := 120) hX dX3_failsBy_126 rfl ?_
  refine wg_aload_n (pc := 128) hX dX3_failsBy_128 0 rfl ?_
  refine wg_gK (pc := 129) hX hM0 fd_X3_44 (by decide) dX3_failsBy_129 ?_
  refine wg_iload_n (pc := 132) hX dX3_failsBy_132 1 rfl ?_
  refine wu_ (wg_rI (pc := 133) hX ar_66 dX3_failsBy_133 fun v13 => ?_)
  refine wg_iconst (pc := 134) (v := (-1)) hX dX3_failsBy_134 rfl ?_
  refine wu_jx (α := Int32) (pcJ := 143) (lJ := fun x => [(0, .ref (rid 1 1)), (1, .int a1), (2, .int a2), (3, .int v1)]) (sJ := fun x => [.int x, .int 120, .ref (rid 112 1)]) (fun K14 hk14 => ?_) (fun z14 => ?_)
  · refine wg_icmp_eq (pc := 135) (tgt := 142) hX dX3_failsBy_135 (by decide) (fun h15 => ?_) (fun h15 => ?_)
    · refine wu_t h15 ?_
      refine wg_iconst (pc := 142) (v := 0) hX dX3_failsBy_142 rfl ?_
      refine wg_sub hX [0, 1, 2, 3] rfl ?_
      exact wu_rt (hk14 0)
    refine wu_f h15 ?_
    refine wg_iconst (pc := 138) (v := 1) hX dX3_failsBy_138 rfl ?_
    refine wg_goto (pc := 139) (tgt := 143) hX dX3_failsBy_139 (by decide) ?_
    refine wg_sub hX [0, 1, 2, 3] rfl ?_
    exact wu_rt (hk14 1)
  refine wu_ (wg_wI (pc := 143) hX ar_112 dX3_failsBy_143 ?_)
  refine wg_aload_n (pc := 144) hX dX3_failsBy_144 0 rfl ?_
  refine wg_gK (pc := 145) hX hM0 fd_X3_192 (by decide) dX3_failsBy_145 ?_
  refine wg_bipush (pc := 148) (v := 119) hX dX3_failsBy_148 rfl ?_
  refine wg_aload_n (pc := 150) hX dX3_failsBy_150 0 rfl ?_
  refine wg_gK (pc := 151) hX hM0 fd_X3_47 (by decide) dX3_failsBy_151 ?_
  refine wg_iload_n (pc := 154) hX dX3_failsBy_154 1 rfl ?_
  refine wu_ (wg_rI (pc := 155) hX ar_67 dX3_failsBy_155 fun v16 => ?_)
  refine wu_ (wg_wI (pc := 156) hX ar_112 dX3_failsBy_156 ?_)
  refine wg_aload_n (pc := 157) hX dX3_failsBy_157 0 rfl ?_
  refine wg_gK (pc := 158) hX hM0 fd_X3_192 (by decide) dX3_failsBy_158 ?_
  refine wg_bipush (pc := 161) (v := 121) hX dX3_failsBy_161 rfl ?_
  refine wg_aload_n (pc := 163) hX dX3_failsBy_163 0 rfl ?_
  refine wg_gK (pc := 164) hX hM0 fd_X3_50 (by decide) dX3_failsBy_164 ?_
  refine wg_iload_n (pc := 167) hX dX3_failsBy_167 1 rfl ?_
  refine wu_ (wg_rI (pc := 168) hX ar_68 dX3_failsBy_168 fun v17 => ?_)
  refine wu_ (wg_wI (pc := 169) hX ar_112 dX3_failsBy_169 ?_)
  refine wg_aload_n (pc := 170) hX dX3_failsBy_170 0 rfl ?_
  refine wg_gK (pc := 171) hX hM0 fd_X3_192 (by decide) dX3_failsBy_171 ?_
  refine wg_bipush (pc := 174) (v := 100) hX dX3_failsBy_174 rfl ?_
  refine wg_aload_n (pc := 176) hX dX3_failsBy_176 0 rfl ?_
  refine wg_gK (pc := 177) hX hM0 fd_X3_65 (by decide) dX3_failsBy_177 ?_
  refine wg_iload_n (pc := 180) hX dX3_failsBy_180 1 rfl ?_
  refine wu_ (wg_rZ (pc := 181) hX ar_73 dX3_failsBy_181 fun v18 => ?_)
  refine wu_jx (α := Int32) (pcJ := 190) (lJ := fun x => [(0, .ref (rid 1 1)), (1, .int a1), (2, .int a2), (3, .int v1)]) (sJ := fun x => [.int x, .int 100, .ref (rid 112 1)]) (fun K19 hk19 => ?_) (fun z19 => ?_)
  · refine wg_if_eq (pc := 182) (tgt := 189) hX dX3_failsBy_182 (by decide) (fun h20 => ?_) (fun h20 => ?_)
    · refine wu_t h20 ?_
      refine wg_iconst (pc := 189) (v := 0) hX dX3_failsBy_189 rfl ?_
      exact wu_rt (hk19 0)
    refine wu_f h20 ?_
    refine wg_iconst (pc := 185) (v := 1) hX dX3_failsBy_185 rfl ?_
    refine wg_goto (pc := 186) (tgt := 190) hX dX3_failsBy_186 (by decide) ?_
    exact wu_rt (hk19 1)
  refine wu_ (wg_wI (pc := 190) hX ar_112 dX3_failsBy_190 ?_)
  refine wg_aload_n (pc := 191) hX dX3_failsBy_191 0 rfl ?_
  refine wg_gK (pc := 192) hX hM0 fd_X3_192 (by decide) dX3_failsBy_192 ?_
  refine wg_bipush (pc := 195) (v := 110) hX dX3_failsBy_195 rfl ?_
  refine wg_aload_n (pc := 197) hX dX3_failsBy_197 0 rfl ?_
  refine wg_iload_n (pc := 198) hX dX3_failsBy_198 1 rfl ?_
  refine wg_iconst (pc := 199) (v := (-1)) hX dX3_failsBy_199 rfl ?_
  refine wu_ (wg_cVi (pc := 200) (As := [.int a1, .int (-1)]) (rest := [.int 110, .ref (rid 112 1)]) hX (m_X3_beside a1 (-1)) (by decide) (by decide) (by decide) rc_X3 (lw_V q2687 q2689 qs142 q163 q2690) hd_X3_beside rfl (Nat.le_of_ble_eq_true rfl) (Nat.le_of_ble_eq_true rfl) (Nat.le_of_ble_eq_true rfl) rfl dX3_failsBy_200 fun v21 => ?_)
  refine wg_iconst (pc := 203) (v := (-1)) hX dX3_failsBy_203 rfl ?_
  refine wu_jx (α := Int32) (pcJ := 212) (lJ := fun x => [(0, .ref (rid 1 1)), (1, .int a1), (2, .int a2), (3, .int v1)]) (sJ := fun x => [.int x, .int 110, .ref (rid 112 1)]) (fun K22 hk22 => ?_) (fun z22 => ?_)
  · refine wg_icmp_eq (pc := 204) (tgt := 211) hX dX3_failsBy_204 (by decide) (fun h23 => ?_) (fun h23 => ?_)
    · refine wu_t h23 ?_
      refine wg_iconst (pc := 211) (v := 0) hX dX3_failsBy_211 rfl ?_
      exact wu_rt (hk22 0)
    refine wu_f h23 ?_
    refine wg_iconst (pc := 207) (v := 1) hX dX3_failsBy_207 rfl ?_
    refine wg_goto (pc := 208) (tgt := 212) hX dX3_failsBy_208 (by decide) ?_
    exact wu_rt (hk22 1)
  refine wg_aload_n (pc := 212) hX dX3_failsBy_212 0 rfl ?_
  refine wg_iload_n (pc := 213) hX dX3_failsBy_213 1 rfl ?_
  refine wg_iconst (pc := 214) (v := 1) hX dX3_failsBy_214 rfl ?_
  refine wu_ (wg_cVi (pc := 215) (As := [.int a1, .int 1]) (rest := [.int z22, .int 110, .ref (rid 112 1)]) hX (m_X3_beside a1 1) (by decide) (by decide) (by decide) rc_X3 (lw_V q2687 q2689 qs142 q163 q2690) hd_X3_beside rfl (Nat.le_of_ble_eq_true rfl) (Nat.le_of_ble_eq_true rfl) (Nat.le_of_ble_eq_true rfl) rfl dX3_failsBy_215 fun v24 => ?_)
  refine wg_iconst (pc := 218) (v := (-1)) hX dX3_failsBy_218 rfl ?_
  refine wu_jx (α := Int32) (pcJ := 227) (lJ := fun x => [(0, .ref (rid 1 1)), (1, .int a1), (2, .int a2), (3, .int v1)]) (sJ := fun x => [.int x, .int z22, .int 110, .ref (rid 112 1)]) (fun K25 hk25 => ?_) (fun z25 => ?_)
  · refine wg_icmp_eq (pc := 219) (tgt := 226) hX dX3_failsBy_219 (by decide) (fun h26 => ?_) (fun h26 => ?_)
    · refine wu_t h26 ?_
      refine wg_iconst (pc := 226) (v := 0) hX dX3_failsBy_226 rfl ?_
      exact wu_rt (hk25 0)
    refine wu_f h26 ?_
    refine wg_iconst (pc := 222) (v := 1) hX dX3_failsBy_222 rfl ?_
    refine wg_goto (pc := 223) (tgt := 227) hX dX3_failsBy_223 (by decide) ?_
    exact wu_rt (hk25 1)
  refine wg_iadd (pc := 227) hX dX3_failsBy_227 ?_
  refine wu_ (wg_wI (pc := 228) hX ar_112 dX3_failsBy_228 ?_)
  refine wg_aload_n (pc := 229) hX dX3_failsBy_229 0 rfl ?_
  refine wg_gK (pc := 230) hX hM0 fd_X3_192 (by decide) dX3_failsBy_230 ?_
  refine wg_bipush (pc := 233) (v := 108) hX dX3_failsBy_233 rfl ?_
  refine wg_aload_n (pc := 235) hX dX3_failsBy_235 0 rfl ?_
  refine wg_iload_n (pc := 236) hX dX3_failsBy_236 1 rfl ?_
  refine wg_iload_n (pc := 237) hX dX3_failsBy_237 2 rfl ?_
  refine wu_ (wg_cVi (pc := 238) (As := [.int a1, .int a2]) (rest := [.int 108, .ref (rid 112 1)]) hX (m_X3_daysFrom a1 a2) (by decide) (by decide) (by decide) rc_X3 (lw_V q2739 q2741 qs149 q163 q2742) hd_X3_daysFrom rfl (Nat.le_of_ble_eq_true rfl) (Nat.le_of_ble_eq_true rfl) (Nat.le_of_ble_eq_true rfl) rfl dX3_failsBy_238 fun v27 => ?_)
  refine wu_ (wg_wI (pc := 241) hX ar_112 dX3_failsBy_241 ?_)
  refine wg_aload_n (pc := 242) hX dX3_failsBy_242 0 rfl ?_
  refine wg_iconst (pc := 243) (v := 2) hX dX3_failsBy_243 rfl ?_
  refine wg_aload_n (pc := 244) hX dX3_failsBy_244 0 rfl ?_
  refine wg_gK (pc := 245) hX hM0 fd_X3_174 (by decide) dX3_failsBy_245 ?_
  refine wg_sipush (pc := 248) (v := 200) hX dX3_failsBy_248 rfl ?_
  refine wg_iload_n (pc := 251) hX dX3_failsBy_251 3 rfl ?_
  refine wg_imul (pc := 252) hX dX3_failsBy_252 ?_
  refine wg_aload_n (pc := 253) hX dX3_failsBy_253 0 rfl ?_
  refine wg_gK (pc := 254) hX hM0 fd_X3_183 (by decide) dX3_failsBy_254 ?_
  refine wg_iload_n (pc := 257) hX dX3_failsBy_257 3 rfl ?_
  refine wu_ (wg_rI (pc := 258) hX ar_109 dX3_failsBy_258 fun v28 => ?_)
  refine wu_ (wg_cVi (pc := 259) (As := [.int 2, .ref (rid 107 3), .int (200 * v1), .int v28]) (rest := []) hX (m_X3_goThrough 2 3 (200 * v1) v28) (by decide) (by decide) (by decide) rc_X3 (lw_V q2500 q2502 qs108 q163 q2503) hd_X3_goThrough rfl (Nat.le_of_ble_eq_true rfl) (Nat.le_of_ble_eq_true rfl) (Nat.le_of_ble_eq_true rfl) rfl dX3_failsBy_259 fun v29 => ?_)
  refine wg_istore (pc := 262) (l' := [(0, .ref (rid 1 1)), (1, .int a1), (2, .int a2), (3, .int v1), (5, .int v29)]) hX dX3_failsBy_262 (by decide) rfl ?_
  refine wg_aload_n (pc := 264) hX dX3_failsBy_264 0 rfl ?_
  refine wu_ (wg_gI (pc := 265) hX fd_X3_497 dX3_failsBy_265 fun v30 => ?_)
  exact wu_rt (wg_iret (pc := 268) hX rfl rfl dX3_failsBy_268)
theorem m_X3_fails (a1 : Int32) (a2 : Int32) : amMet yX3_fails cX3_fails 3 (some .int) 138 3324 encI [.ref (rid 1 1), .int a1, .int a2] (up (p_X3_fails a1 a2)) := by
  refine amMet.of (own := RX3) (by decide) rfl (Nat.le_of_ble_eq_true rfl) fun X hX hPs => ?_
  change WG X encI 0 [(0, .ref (rid 1 1)), (1, .int a1), (2, .int a2)] [] (bd1 (up (p_X3_fails a1 a2)) rt1)
  unfold p_X3_fails
  refine wg_aload_n (pc := 0) hX dX3_fails_0 0 rfl ?_
  refine wg_iconst (pc := 1) (v := 0) hX dX3_fails_1 rfl ?_
  refine wu_ (wg_pI (pc := 2) hX fp_X3_297 (fun h => by cases h) dX3_fails_2 ?_)
  refine wg_aload_n (pc := 5) hX dX3_fails_5 0 rfl ?_
  refine wg_iload_n (pc := 6) hX dX3_fails_6 1 rfl ?_
  refine wu_ (wg_cVi (pc := 7) (As := [.int a1]) (rest := []) hX (m_X3_isHouse a1) (by decide) (by decide) (by decide) rc_X3 (lw_V q2360 q2362 qs90 q163 q2363) hd_X3_isHouse rfl (Nat.le_of_ble_eq_true rfl) (Nat.le_of_ble_eq_true rfl) (Nat.le_of_ble_eq_true rfl) rfl dX3_fails_7 fun v1 => ?_)
  refine wu_jn (α := Unit) (pcJ := 34) (lJ := fun x => []) (sJ := fun x => []) (fun k2 hk2 => ?_) (fun z2 => ?_)
  · refine wg_if_eq (pc := 10) (tgt := 34) hX dX3_fails_10 (by decide) (fun h3 => ?_) (fun h3 => ?_)
    · refine wu_t h3 ?_
      refine wg_sub hX [] rfl ?_
      exact hk2 ()
    refine wu_f h3 ?_
    refine wg_iload_n (pc := 13) hX dX3_fails_13 2 rfl ?_
    refine wg_iconst (pc := 14) (v := 0) hX dX3_fails_14 rfl ?_
    refine wg_aload_n (pc := 15) hX dX3_fails_15 0 rfl ?_
    refine wu_ (wg_gI (pc := 16) hX fd_X3_395 dX3_fails_16 fun v4 => ?_)
    refine wu_ (wg_cSi (pc := 19) (As := [.int a2, .int 0, .int v4]) (rest := []) hX (m_X3_isIn a2 0 v4) (lw_S q2317 q2318 q163 q2319) hd_X3_isIn rfl (Nat.le_of_ble_eq_true rfl) (Nat.le_of_ble_eq_true rfl) (Nat.le_of_ble_eq_true rfl) rfl dX3_fails_19 fun v5 => ?_)
    refine wg_if_eq (pc := 22) (tgt := 34) hX dX3_fails_22 (by decide) (fun h6 => ?_) (fun h6 => ?_)
    · refine wu_t h6 ?_
      refine wg_sub hX [] rfl ?_
      exact hk2 ()
    refine wu_f h6 ?_
    refine wg_aload_n (pc := 25) hX dX3_fails_25 0 rfl ?_
    refine wg_iload_n (pc := 26) hX dX3_fails_26 1 rfl ?_
    refine wg_iload_n (pc := 27) hX dX3_fails_27 2 rfl ?_
    refine wu_ (wg_cVi (pc := 28) (As := [.int a1, .int a2]) (rest := []) hX (m_X3_failsBy a1 a2) (by decide) (by decide) (by decide) rc_X3 (lw_V q2735 q2737 qs148 q163 q2738) hd_X3_failsBy rfl (Nat.le_of_ble_eq_true rfl) (Nat.le_of_ble_eq_true rfl) (Nat.le_of_ble_eq_true rfl) rfl dX3_fails_28 fun v7 => ?_)
    refine wg_goto (pc := 31) (tgt := 35) hX dX3_fails_31 (by decide) ?_
    exact wu_rt (wg_iret (pc := 35) hX rfl rfl dX3_fails_35)
  refine wg_iconst (pc := 34) (v := (-1)) hX dX3_fails_34 rfl ?_
  exact wu_rt (wg_iret (pc := 35) hX rfl rfl dX3_fails_35)
theorem m_X3_code (a1 : Int32) (a2 : Int32) (a3 : Int32) : amMet yX3_code cX3_code 4 (some .int) 138 3324 encI [.ref (rid 1 1), .int a1, .int a2, .int a3] (up (p_X3_code a1 a2 a3)) := by
  refine amMet.of (own := RX3) (by decide) rfl (Nat.le_of_ble_eq_true rfl) fun X hX hPs => ?_
  change WG X encI 0 [(0, .ref (rid 1 1)), (1, .int a1), (2, .int a2), (3, .int a3)] [] (bd1 (up (p_X3_code a1 a2 a3)) rt1)
  unfold p_X3_code
  have hM0 := amPs.m0 hPs
  refine wu_ (wg_gM ?_)
  refine wg_aload_n (pc := 0) hX dX3_code_0 0 rfl ?_
  refine wg_iconst (pc := 1) (v := 0) hX dX3_code_1 rfl ?_
  refine wu_ (wg_pI (pc := 2) hX fp_X3_297 (fun h => by cases h) dX3_code_2 ?_)
  refine wg_aload_n (pc := 5) hX dX3_code_5 0 rfl ?_
  refine wg_iload_n (pc := 6) hX dX3_code_6 1 rfl ?_
  refine wu_ (wg_cVi (pc := 7) (As := [.int a1]) (rest := []) hX (m_X3_isHouse a1) (by decide) (by decide) (by decide) rc_X3 (lw_V q2360 q2362 qs90 q163 q2363) hd_X3_isHouse rfl (Nat.le_of_ble_eq_true rfl) (Nat.le_of_ble_eq_true rfl) (Nat.le_of_ble_eq_true rfl) rfl dX3_code_7 fun v1 => ?_)
  refine wg_if_eq (pc := 10) (tgt := 25) hX dX3_code_10 (by decide) (fun h2 => ?_) (fun h2 => ?_)
  · refine wu_t h2 ?_
    refine wg_iconst (pc := 25) (v := (-1)) hX dX3_code_25 rfl ?_
    exact wu_rt (wg_iret (pc := 26) hX rfl rfl dX3_code_26)
  refine wu_f h2 ?_
  refine wg_iload_n (pc := 13) hX dX3_code_13 2 rfl ?_
  refine wg_iconst (pc := 14) (v := 0) hX dX3_code_14 rfl ?_
  refine wg_aload_n (pc := 15) hX dX3_code_15 0 rfl ?_
  refine wu_ (wg_gI (pc := 16) hX fd_X3_395 dX3_code_16 fun v3 => ?_)
  refine wu_ (wg_cSi (pc := 19) (As := [.int a2, .int 0, .int v3]) (rest := []) hX (m_X3_isIn a2 0 v3) (lw_S q2317 q2318 q163 q2319) hd_X3_isIn rfl (Nat.le_of_ble_eq_true rfl) (Nat.le_of_ble_eq_true rfl) (Nat.le_of_ble_eq_true rfl) rfl dX3_code_19 fun v4 => ?_)
  refine wg_if_ne (pc := 22) (tgt := 27) hX dX3_code_22 (by decide) (fun h5 => ?_) (fun h5 => ?_)
  · refine wu_t h5 ?_
    refine wg_iconst (pc := 25) (v := (-1)) hX dX3_code_25 rfl ?_
    exact wu_rt (wg_iret (pc := 26) hX rfl rfl dX3_code_26)
  refine wu_f h5 ?_
  refine wg_iload_n (pc := 27) hX dX3_code_27 3 rfl ?_
  refine wg_iconst (pc := 28) (v := 0) hX dX3_code_28 rfl ?_
  refine wg_aload_n (pc := 29) hX dX3_code_29 0 rfl ?_
  refine wg_iload_n (pc := 30) hX dX3_code_30 1 rfl ?_
  refine wg_iload_n (pc := 31) hX dX3_code_31 2 rfl ?_
  refine wu_ (wg_cVi (pc := 32) (As := [.int a1, .int a2]) (rest := [.int 0, .int a3]) hX (m_X3_failsBy a1 a2) (by decide) (by decide) (by decide) rc_X3 (lw_V q2735 q2737 qs148 q163 q2738) hd_X3_failsBy rfl (Nat.le_of_ble_eq_true rfl) (Nat.le_of_ble_eq_true rfl) (Nat.le_of_ble_eq_true rfl) rfl dX3_code_32 fun v6 => ?_)
  refine wg_iconst (pc := 35) (v := 1) hX dX3_code_35 rfl ?_
  refine wg_isub (pc := 36) hX dX3_code_36 ?_
  refine wu_ (wg_cSi (pc := 37) (As := [.int a3, .int 0, .int (v6 - 1)]) (rest := []) hX (m_X3_isIn a3 0 (v6 - 1)) (lw_S q2317 q2318 q163 q2319) hd_X3_isIn rfl (Nat.le_of_ble_eq_true rfl) (Nat.le_of_ble_eq_true rfl) (Nat.le_of_ble_eq_true rfl) rfl dX3_code_37 fun v7 => ?_)
  refine wg_if_eq (pc := 40) (tgt := 52) hX dX3_code_40 (by decide) (fun h8 => ?_) (fun h8 => ?_)
  · refine wu_t h8 ?_
    refine wg_iconst (pc := 52) (v := (-1)) hX dX3_code_52 rfl ?_
    exact wu_rt (wg_iret (pc := 53) hX rfl rfl dX3_code_53)
  refine wu_f h8 ?_
  refine wg_aload_n (pc := 43) hX dX3_code_43 0 rfl ?_
  refine wg_gK (pc := 44) hX hM0 fd_X3_198 (by decide) dX3_code_44 ?_
  refine wg_iload_n (pc := 47) hX dX3_code_47 3 rfl ?_
  refine wu_ (wg_rI (pc := 48) hX ar_114 dX3_code_48 fun v9 => ?_)
  refine wg_goto (pc := 49) (tgt := 53) hX dX3_code_49 (by decide) ?_
  exact wu_rt (wg_iret (pc := 53) hX rfl rfl dX3_code_53)
theorem m_X3_failing  : amMet yX3_failing cX3_failing 3 (some .int) 138 3324 encI [.ref (rid 1 1)] (up (p_X3_failing)) := by
  refine amMet.of (own := RX3) (by decide) rfl (Nat.le_of_ble_eq_true rfl) fun X hX hPs => ?_
  change WG X encI 0 [(0, .ref (rid 1 1))] [] (bd1 (up (p_X3_failing)) rt1)
  unfold p_X3_failing
  refine wg_aload_n (pc := 0) hX dX3_failing_0 0 rfl ?_
  refine wg_iconst (pc := 1) (v := 0) hX dX3_failing_1 rfl ?_
  refine wu_ (wg_pI (pc := 2) hX fp_X3_297 (fun h => by cases h) dX3_failing_2 ?_)
  refine wg_iconst (pc := 5) (v := 0) hX dX3_failing_5 rfl ?_
  refine wg_istore_n (pc := 6) (l' := [(0, .ref (rid 1 1)), (1, .int 0)]) hX dX3_failing_6 (by decide) rfl ?_
  refine wg_iconst (pc := 7) (v := 0) hX dX3_failing_7 rfl ?_
  refine wg_istore_n (pc := 8) (l' := [(0, .ref (rid 1 1)), (1, .int 0), (2, .int 0)]) hX dX3_failing_8 (by decide) rfl ?_
  refine wu_lpx (α := Int32 × Int32) (γ := Int32) (pcl := 9) (pcT := 45) (lo := fun x => [(0, .ref (rid 1 1)), (1, .int x.1), (2, .int x.2)]) (so := fun _ => []) (lT := fun x => [(1, .int x)]) (sT := fun _ => []) (n := amFu) (x0 := (0, 0)) (fun K1 rec1 hrec1 hk1 x1 => ?_) (fun y2 => ?_)
  · unfold p_X3_failing_L9
    refine wg_iload_n (pc := 9) hX dX3_failing_9 2 rfl ?_
    refine wg_aload_n (pc := 10) hX dX3_failing_10 0 rfl ?_
    refine wu_ (wg_gI (pc := 11) hX fd_X3_331 dX3_failing_11 fun v3 => ?_)
    refine wg_icmp_ge (pc := 14) (tgt := 45) hX dX3_failing_14 (by decide) (fun h4 => ?_) (fun h4 => ?_)
    · refine wu_t h4 ?_
      refine wg_sub hX [1] rfl ?_
      exact wu_rt (hk1 x1.1)
    refine wu_f h4 ?_
    refine wg_iload_n (pc := 17) hX dX3_failing_17 1 rfl ?_
    refine wg_aload_n (pc := 18) hX dX3_failing_18 0 rfl ?_
    refine wg_iload_n (pc := 19) hX dX3_failing_19 2 rfl ?_
    refine wg_aload_n (pc := 20) hX dX3_failing_20 0 rfl ?_
    refine wu_ (wg_gI (pc := 21) hX fd_X3_395 dX3_failing_21 fun v5 => ?_)
    refine wu_ (wg_cVi (pc := 24) (As := [.int x1.2, .int v5]) (rest := [.int x1.1]) hX (m_X3_failsBy x1.2 v5) (by decide) (by decide) (by decide) rc_X3 (lw_V q2735 q2737 qs148 q163 q2738) hd_X3_failsBy rfl (Nat.le_of_ble_eq_true rfl) (Nat.le_of_ble_eq_true rfl) (Nat.le_of_ble_eq_true rfl) rfl dX3_failing_24 fun v6 => ?_)
    refine wu_jx (α := Int32) (pcJ := 37) (lJ := fun x => [(0, .ref (rid 1 1)), (2, .int x1.2)]) (sJ := fun x => [.int x, .int x1.1]) (fun K7 hk7 => ?_) (fun z7 => ?_)
    · refine wg_if_le (pc := 27) (tgt := 36) hX dX3_failing_27 (by decide) (fun h8 => ?_) (fun h8 => ?_)
      · refine wu_t h8 ?_
        refine wg_iconst (pc := 36) (v := 0) hX dX3_failing_36 rfl ?_
        refine wg_sub hX [0, 2] rfl ?_
        exact wu_rt (hk7 0)
      refine wu_f h8 ?_
      refine wg_iconst (pc := 30) (v := 1) hX dX3_failing_30 rfl ?_
      refine wg_iload_n (pc := 31) hX dX3_failing_31 2 rfl ?_
      refine wg_ishl (pc := 32) hX dX3_failing_32 ?_
      refine wg_goto (pc := 33) (tgt := 37) hX dX3_failing_33 (by decide) ?_
      refine wg_sub hX [0, 2] rfl ?_
      exact wu_rt (hk7 ((1 : Int32) <<< (x1.2 &&& 31)))
    refine wg_ior (pc := 37) hX dX3_failing_37 ?_
    refine wu_ (wg_nmi hX fun v9 => ?_)
    refine wg_istore_n (pc := 38) (l' := [(0, .ref (rid 1 1)), (1, .int v9), (2, .int x1.2)]) hX dX3_failing_38 (by decide) rfl ?_
    refine wg_iinc (pc := 39) (v := (x1.2 + 1)) (l' := [(0, .ref (rid 1 1)), (1, .int v9), (2, .int (x1.2 + 1))]) hX dX3_failing_39 2 rfl rfl (by decide) rfl ?_
    refine wg_goto (pc := 42) (tgt := 9) hX dX3_failing_42 (by decide) ?_
    exact hrec1 (v9, (x1.2 + 1))
  refine wg_iload_n (pc := 45) hX dX3_failing_45 0 rfl ?_
  exact wu_rt (wg_iret (pc := 46) hX rfl rfl dX3_failing_46)
theorem w_X3_tours (d : Nat) (s_X3_tours : Int32 → Int32 → Int32 → Int32 → am0 Unit) (hm_X3_tours : ∀ (a1 : Int32) (a2 : Int32) (a3 : Int32) (a4 : Int32), amMet yX3_tours cX3_tours 8 none (2 + d) (54 + d * 27) encV [.ref (rid 1 1), .int a1, .int a2, .int a3, .int a4] (up (s_X3_tours a1 a2 a3 a4))) (a1 : Int32) (a2 : Int32) (a3 : Int32) (a4 : Int32) : amMet yX3_tours cX3_tours 8 none (2 + (d + 1)) (54 + (d + 1) * 27) encV [.ref (rid 1 1), .int a1, .int a2, .int a3, .int a4] (up (b_X3_tours s_X3_tours a1 a2 a3 a4)) := by
  refine amMet.of (own := RX3) (by decide) rfl (Nat.le_of_ble_eq_true rfl) fun X hX hPs => ?_
  change WG X encV 0 [(0, .ref (rid 1 1)), (1, .int a1), (2, .int a2), (3, .int a3), (4, .int a4)] [] (bd1 (up (b_X3_tours s_X3_tours a1 a2 a3 a4)) rt1)
  unfold b_X3_tours
  have hM0 := amPs.m0 hPs
  refine wu_ (wg_gM ?_)
  refine wg_iload_n (pc := 0) hX dX3_tours_0 3 rfl ?_
  refine wg_aload_n (pc := 1) hX dX3_tours_1 0 rfl ?_
  refine wg_iload_n (pc := 2) hX dX3_tours_2 2 rfl ?_
  refine wg_aload_n (pc := 3) hX dX3_tours_3 0 rfl ?_
  refine wu_ (wg_gI (pc := 4) hX fd_X3_611 dX3_tours_4 fun v1 => ?_)
  refine wu_ (wg_cVi (pc := 7) (As := [.int a2, .int v1]) (rest := [.int a3]) hX (m_X3_walkOf a2 v1) (by decide) (by decide) (by decide) rc_X3 (lw_V q2348 q2350 qs89 q163 q2351) hd_X3_walkOf rfl (by omega) (by omega) (Nat.le_of_ble_eq_true rfl) rfl dX3_tours_7 fun v2 => ?_)
  refine wg_iadd (pc := 10) hX dX3_tours_10 ?_
  refine wu_ (wg_nmi hX fun v3 => ?_)
  refine wg_istore (pc := 11) (l' := [(0, .ref (rid 1 1)), (1, .int a1), (2, .int a2), (3, .int a3), (4, .int a4), (5, .int v3)]) hX dX3_tours_11 (by decide) rfl ?_
  refine wg_iload (pc := 13) hX dX3_tours_13 5 rfl ?_
  refine wg_aload_n (pc := 15) hX dX3_tours_15 0 rfl ?_
  refine wu_ (wg_gI (pc := 16) hX fd_X3_614 dX3_tours_16 fun v4 => ?_)
  refine wu_jx (α := Unit) (pcJ := 103) (lJ := fun x => [(0, .ref (rid 1 1)), (1, .int a1), (2, .int a2), (3, .int a3), (4, .int a4)]) (sJ := fun x => []) (fun K5 hk5 => ?_) (fun z5 => ?_)
  · refine wg_icmp_gt (pc := 19) (tgt := 103) hX dX3_tours_19 (by decide) (fun h6 => ?_) (fun h6 => ?_)
    · refine wu_t h6 ?_
      refine wg_sub hX [0, 1, 2, 3, 4] rfl ?_
      exact wu_rt (hk5 ())
    refine wu_f h6 ?_
    refine wg_aload_n (pc := 22) hX dX3_tours_22 0 rfl ?_
    refine wu_ (wg_gI (pc := 23) hX fd_X3_617 dX3_tours_23 fun v7 => ?_)
    refine wg_iconst (pc := 26) (v := (-1)) hX dX3_tours_26 rfl ?_
    refine wu_jn (α := Unit) (pcJ := 57) (lJ := fun x => [(0, .ref (rid 1 1)), (1, .int a1), (2, .int a2), (3, .int a3), (4, .int a4), (5, .int v3)]) (sJ := fun x => []) (fun k8 hk8 => ?_) (fun z8 => ?_)
    · refine wg_icmp_eq (pc := 27) (tgt := 57) hX dX3_tours_27 (by decide) (fun h9 => ?_) (fun h9 => ?_)
      · refine wu_t h9 ?_
        exact hk8 ()
      refine wu_f h9 ?_
      refine wg_iload (pc := 30) hX dX3_tours_30 4 rfl ?_
      refine wg_aload_n (pc := 32) hX dX3_tours_32 0 rfl ?_
      refine wu_ (wg_gI (pc := 33) hX fd_X3_620 dX3_tours_33 fun v10 => ?_)
      refine wg_icmp_gt (pc := 36) (tgt := 57) hX dX3_tours_36 (by decide) (fun h11 => ?_) (fun h11 => ?_)
      · refine wu_t h11 ?_
        exact hk8 ()
      refine wu_f h11 ?_
      refine wg_iload (pc := 39) hX dX3_tours_39 4 rfl ?_
      refine wg_aload_n (pc := 41) hX dX3_tours_41 0 rfl ?_
      refine wu_ (wg_gI (pc := 42) hX fd_X3_620 dX3_tours_42 fun v12 => ?_)
      refine wg_icmp_ne (pc := 45) (tgt := 103) hX dX3_tours_45 (by decide) (fun h13 => ?_) (fun h13 => ?_)
      rotate_left
      · refine wu_f h13 ?_
        refine wg_sub hX [0, 1, 2, 3, 4] rfl ?_
        exact wu_rt (hk5 ())
      refine wu_t h13 ?_
      refine wg_iload (pc := 48) hX dX3_tours_48 5 rfl ?_
      refine wg_aload_n (pc := 50) hX dX3_tours_50 0 rfl ?_
      refine wu_ (wg_gI (pc := 51) hX fd_X3_623 dX3_tours_51 fun v14 => ?_)
      refine wg_icmp_ge (pc := 54) (tgt := 103) hX dX3_tours_54 (by decide) (fun h15 => ?_) (fun h15 => ?_)
      · refine wu_t h15 ?_
        refine wg_sub hX [0, 1, 2, 3, 4] rfl ?_
        exact wu_rt (hk5 ())
      refine wu_f h15 ?_
      exact hk8 ()
    refine wg_aload_n (pc := 57) hX dX3_tours_57 0 rfl ?_
    refine wg_iload_n (pc := 58) hX dX3_tours_58 1 rfl ?_
    refine wu_ (wg_pI (pc := 59) hX fp_X3_617 (fun h => by cases h) dX3_tours_59 ?_)
    refine wg_aload_n (pc := 62) hX dX3_tours_62 0 rfl ?_
    refine wg_iload (pc := 63) hX dX3_tours_63 4 rfl ?_
    refine wu_ (wg_pI (pc := 65) hX fp_X3_620 (fun h => by cases h) dX3_tours_65 ?_)
    refine wg_aload_n (pc := 68) hX dX3_tours_68 0 rfl ?_
    refine wg_iload (pc := 69) hX dX3_tours_69 5 rfl ?_
    refine wu_ (wg_pI (pc := 71) hX fp_X3_623 (fun h => by cases h) dX3_tours_71 ?_)
    refine wg_iconst (pc := 74) (v := 0) hX dX3_tours_74 rfl ?_
    refine wg_istore (pc := 75) (l' := [(0, .ref (rid 1 1)), (1, .int a1), (2, .int a2), (3, .int a3), (4, .int a4), (5, .int v3), (6, .int 0)]) hX dX3_tours_75 (by decide) rfl ?_
    refine wg_sub hX [0, 1, 2, 3, 4, 6] rfl ?_
    refine wu_lpx (α := Int32) (γ := Unit) (pcl := 77) (pcT := 103) (lo := fun x => [(0, .ref (rid 1 1)), (1, .int a1), (2, .int a2), (3, .int a3), (4, .int a4), (6, .int x)]) (so := fun _ => []) (lT := fun x => [(0, .ref (rid 1 1)), (1, .int a1), (2, .int a2), (3, .int a3), (4, .int a4)]) (sT := fun _ => []) (n := amFu) (x0 := 0) (fun K16 rec16 hrec16 hk16 x16 => ?_) (fun y17 => ?_)
    · unfold p_X3_tours_L77
      refine wg_iload (pc := 77) hX dX3_tours_77 5 rfl ?_
      refine wg_iload_n (pc := 79) hX dX3_tours_79 1 rfl ?_
      refine wg_icmp_ge (pc := 80) (tgt := 103) hX dX3_tours_80 (by decide) (fun h18 => ?_) (fun h18 => ?_)
      · refine wu_t h18 ?_
        refine wg_sub hX [0, 1, 2, 3, 4] rfl ?_
        exact wu_rt (hk16 ())
      refine wu_f h18 ?_
      refine wg_aload_n (pc := 83) hX dX3_tours_83 0 rfl ?_
      refine wg_gK (pc := 84) hX hM0 fd_X3_262 (by decide) dX3_tours_84 ?_
      refine wg_iload (pc := 87) hX dX3_tours_87 5 rfl ?_
      refine wg_aload_n (pc := 89) hX dX3_tours_89 0 rfl ?_
      refine wg_gK (pc := 90) hX hM0 fd_X3_259 (by decide) dX3_tours_90 ?_
      refine wg_iload (pc := 93) hX dX3_tours_93 5 rfl ?_
      refine wu_ (wg_rI (pc := 95) hX ar_130 dX3_tours_95 fun v19 => ?_)
      refine wu_ (wg_wI (pc := 96) hX ar_131 dX3_tours_96 ?_)
      refine wg_iinc (pc := 97) (v := (x16 + 1)) (l' := [(0, .ref (rid 1 1)), (1, .int a1), (2, .int a2), (3, .int a3), (4, .int a4), (6, .int (x16 + 1))]) hX dX3_tours_97 5 rfl rfl (by decide) rfl ?_
      refine wg_goto (pc := 100) (tgt := 77) hX dX3_tours_100 (by decide) ?_
      exact hrec16 (x16 + 1)
    exact wu_rt (hk5 ())
  refine wg_iconst (pc := 103) (v := 0) hX dX3_tours_103 rfl ?_
  refine wg_istore (pc := 104) (l' := [(0, .ref (rid 1 1)), (1, .int a1), (2, .int a2), (3, .int a3), (4, .int a4), (6, .int 0)]) hX dX3_tours_104 (by decide) rfl ?_
  refine wu_lpx (α := Int32) (γ := Unit) (pcl := 106) (pcT := 215) (lo := fun x => [(0, .ref (rid 1 1)), (1, .int a1), (2, .int a2), (3, .int a3), (4, .int a4), (6, .int x)]) (so := fun _ => []) (lT := fun x => []) (sT := fun _ => []) (n := amFu) (x0 := 0) (fun K20 rec20 hrec20 hk20 x20 => ?_) (fun y21 => ?_)
  · unfold p_X3_tours_L106
    refine wg_iload (pc := 106) hX dX3_tours_106 5 rfl ?_
    refine wg_aload_n (pc := 108) hX dX3_tours_108 0 rfl ?_
    refine wu_ (wg_gI (pc := 109) hX fd_X3_331 dX3_tours_109 fun v22 => ?_)
    refine wg_icmp_ge (pc := 112) (tgt := 215) hX dX3_tours_112 (by decide) (fun h23 => ?_) (fun h23 => ?_)
    · refine wu_t h23 ?_
      refine wg_sub hX [] rfl ?_
      exact wu_rt (hk20 ())
    refine wu_f h23 ?_
    refine wg_aload_n (pc := 115) hX dX3_tours_115 0 rfl ?_
    refine wg_gK (pc := 116) hX hM0 fd_X3_265 (by decide) dX3_tours_116 ?_
    refine wg_iload (pc := 119) hX dX3_tours_119 5 rfl ?_
    refine wu_ (wg_rZ (pc := 121) hX ar_132 dX3_tours_121 fun v24 => ?_)
    refine wu_jx (α := Unit) (pcJ := 209) (lJ := fun x => [(0, .ref (rid 1 1)), (1, .int a1), (2, .int a2), (3, .int a3), (4, .int a4), (6, .int x20)]) (sJ := fun x => []) (fun K25 hk25 => ?_) (fun z25 => ?_)
    · refine wg_if_ne (pc := 122) (tgt := 128) hX dX3_tours_122 (by decide) (fun h26 => ?_) (fun h26 => ?_)
      · refine wu_t h26 ?_
        refine wg_goto (pc := 125) (tgt := 209) hX dX3_tours_125 (by decide) ?_
        exact wu_rt (hk25 ())
      refine wu_f h26 ?_
      refine wg_iload_n (pc := 128) hX dX3_tours_128 3 rfl ?_
      refine wg_aload_n (pc := 129) hX dX3_tours_129 0 rfl ?_
      refine wg_iload_n (pc := 130) hX dX3_tours_130 2 rfl ?_
      refine wg_aload_n (pc := 131) hX dX3_tours_131 0 rfl ?_
      refine wg_gK (pc := 132) hX hM0 fd_X3_32 (by decide) dX3_tours_132 ?_
      refine wg_iload (pc := 135) hX dX3_tours_135 5 rfl ?_
      refine wu_ (wg_rI (pc := 137) hX ar_62 dX3_tours_137 fun v27 => ?_)
      refine wu_ (wg_cVi (pc := 138) (As := [.int a2, .int v27]) (rest := [.int a3]) hX (m_X3_walkOf a2 v27) (by decide) (by decide) (by decide) rc_X3 (lw_V q2348 q2350 qs89 q163 q2351) hd_X3_walkOf rfl (by omega) (by omega) (Nat.le_of_ble_eq_true rfl) rfl dX3_tours_138 fun v28 => ?_)
      refine wg_iadd (pc := 141) hX dX3_tours_141 ?_
      refine wg_bipush (pc := 142) (v := 10) hX dX3_tours_142 rfl ?_
      refine wg_iadd (pc := 144) hX dX3_tours_144 ?_
      refine wu_ (wg_nmi hX fun v29 => ?_)
      refine wg_istore (pc := 145) (l' := [(0, .ref (rid 1 1)), (1, .int a1), (2, .int a2), (3, .int a3), (4, .int a4), (6, .int x20), (7, .int v29)]) hX dX3_tours_145 (by decide) rfl ?_
      refine wg_iload (pc := 147) hX dX3_tours_147 6 rfl ?_
      refine wg_aload_n (pc := 149) hX dX3_tours_149 0 rfl ?_
      refine wu_ (wg_gI (pc := 150) hX fd_X3_614 dX3_tours_150 fun v30 => ?_)
      refine wg_icmp_le (pc := 153) (tgt := 159) hX dX3_tours_153 (by decide) (fun h31 => ?_) (fun h31 => ?_)
      rotate_left
      · refine wu_f h31 ?_
        refine wg_goto (pc := 156) (tgt := 209) hX dX3_tours_156 (by decide) ?_
        refine wg_sub hX [0, 1, 2, 3, 4, 5] rfl ?_
        exact wu_rt (hk25 ())
      refine wu_t h31 ?_
      refine wg_aload_n (pc := 159) hX dX3_tours_159 0 rfl ?_
      refine wg_gK (pc := 160) hX hM0 fd_X3_265 (by decide) dX3_tours_160 ?_
      refine wg_iload (pc := 163) hX dX3_tours_163 5 rfl ?_
      refine wg_iconst (pc := 165) (v := 0) hX dX3_tours_165 rfl ?_
      refine wu_ (wg_wZ (pc := 166) hX ar_132 (by decide) dX3_tours_166 ?_)
      refine wg_aload_n (pc := 167) hX dX3_tours_167 0 rfl ?_
      refine wg_gK (pc := 168) hX hM0 fd_X3_259 (by decide) dX3_tours_168 ?_
      refine wg_iload_n (pc := 171) hX dX3_tours_171 1 rfl ?_
      refine wg_iload (pc := 172) hX dX3_tours_172 5 rfl ?_
      refine wu_ (wg_wI (pc := 174) hX ar_130 dX3_tours_174 ?_)
      refine wg_aload_n (pc := 175) hX dX3_tours_175 0 rfl ?_
      refine wg_iload_n (pc := 176) hX dX3_tours_176 1 rfl ?_
      refine wg_iconst (pc := 177) (v := 1) hX dX3_tours_177 rfl ?_
      refine wg_iadd (pc := 178) hX dX3_tours_178 ?_
      refine wg_aload_n (pc := 179) hX dX3_tours_179 0 rfl ?_
      refine wg_gK (pc := 180) hX hM0 fd_X3_32 (by decide) dX3_tours_180 ?_
      refine wg_iload (pc := 183) hX dX3_tours_183 5 rfl ?_
      refine wu_ (wg_rI (pc := 185) hX ar_62 dX3_tours_185 fun v32 => ?_)
      refine wg_iload (pc := 186) hX dX3_tours_186 6 rfl ?_
      refine wg_iload (pc := 188) hX dX3_tours_188 4 rfl ?_
      refine wg_aload_n (pc := 190) hX dX3_tours_190 0 rfl ?_
      refine wg_gK (pc := 191) hX hM0 fd_X3_256 (by decide) dX3_tours_191 ?_
      refine wg_iload (pc := 194) hX dX3_tours_194 5 rfl ?_
      refine wu_ (wg_rI (pc := 196) hX ar_129 dX3_tours_196 fun v33 => ?_)
      refine wg_iadd (pc := 197) hX dX3_tours_197 ?_
      refine wu_ (wg_cVv (pc := 198) (As := [.int (a1 + 1), .int v32, .int v29, .int (a4 + v33)]) (rest := []) hX (hm_X3_tours (a1 + 1) v32 v29 (a4 + v33)) (by decide) (by decide) (by decide) rc_X3 (lw_V q2759 q2761 qs151 q163 q2762) hd_X3_tours rfl (by omega) (by omega) (Nat.le_of_ble_eq_true rfl) rfl dX3_tours_198 ?_)
      refine wg_aload_n (pc := 201) hX dX3_tours_201 0 rfl ?_
      refine wg_gK (pc := 202) hX hM0 fd_X3_265 (by decide) dX3_tours_202 ?_
      refine wg_iload (pc := 205) hX dX3_tours_205 5 rfl ?_
      refine wg_iconst (pc := 207) (v := 1) hX dX3_tours_207 rfl ?_
      refine wu_ (wg_wZ (pc := 208) hX ar_132 (by decide) dX3_tours_208 ?_)
      refine wg_sub hX [0, 1, 2, 3, 4, 5] rfl ?_
      exact wu_rt (hk25 ())
    refine wg_iinc (pc := 209) (v := (x20 + 1)) (l' := [(0, .ref (rid 1 1)), (1, .int a1), (2, .int a2), (3, .int a3), (4, .int a4), (6, .int (x20 + 1))]) hX dX3_tours_209 5 rfl rfl (by decide) rfl ?_
    refine wg_goto (pc := 212) (tgt := 106) hX dX3_tours_212 (by decide) ?_
    exact hrec20 (x20 + 1)
  exact wu_rt (wg_vret (pc := 215) hX rfl rfl dX3_tours_215)
theorem gm_X3_tours : ∀ d : Nat, (∀ (a1 : Int32) (a2 : Int32) (a3 : Int32) (a4 : Int32), amMet yX3_tours cX3_tours 8 none (2 + d) (54 + d * 27) encV [.ref (rid 1 1), .int a1, .int a2, .int a3, .int a4] (up ((p_X3_tours d) a1 a2 a3 a4)))
  | 0 => fun _ _ _ _ => amMet.none (fun _ _ => rfl)
  | d + 1 => by
    have h0 := gm_X3_tours d
    exact w_X3_tours d (p_X3_tours d) h0
theorem m_X3_tours (a1 : Int32) (a2 : Int32) (a3 : Int32) (a4 : Int32) : amMet yX3_tours cX3_tours 8 none 18 486 encV [.ref (rid 1 1), .int a1, .int a2, .int a3, .int a4] (up (p_X3_tours 16 a1 a2 a3 a4)) := (gm_X3_tours 16) a1 a2 a3 a4
theorem m_X3_findTour (a1 : Int32) (a2 : Int32) : amMet yX3_findTour cX3_findTour 5 (some .boolean) 138 3324 encI [.ref (rid 1 1), .int a1, .int a2] (up (p_X3_findTour a1 a2)) := by
  refine amMet.of (own := RX3) (by decide) rfl (Nat.le_of_ble_eq_true rfl) fun X hX hPs => ?_
  change WG X encI 0 [(0, .ref (rid 1 1)), (1, .int a1), (2, .int a2)] [] (bd1 (up (p_X3_findTour a1 a2)) rt1)
  unfold p_X3_findTour
  have hM0 := amPs.m0 hPs
  refine wu_ (wg_gM ?_)
  refine wg_aload_n (pc := 0) hX dX3_findTour_0 0 rfl ?_
  refine wg_iconst (pc := 1) (v := 0) hX dX3_findTour_1 rfl ?_
  refine wu_ (wg_pI (pc := 2) hX fp_X3_297 (fun h => by cases h) dX3_findTour_2 ?_)
  refine wg_iload_n (pc := 5) hX dX3_findTour_5 1 rfl ?_
  refine wu_ (wg_cSi (pc := 6) (As := [.int a1]) (rest := []) hX (m_X3_isCorner a1) (lw_S q2314 q2315 q163 q2316) hd_X3_isCorner rfl (Nat.le_of_ble_eq_true rfl) (Nat.le_of_ble_eq_true rfl) (Nat.le_of_ble_eq_true rfl) rfl dX3_findTour_6 fun v1 => ?_)
  refine wg_if_eq (pc := 9) (tgt := 23) hX dX3_findTour_9 (by decide) (fun h2 => ?_) (fun h2 => ?_)
  · refine wu_t h2 ?_
    refine wg_iconst (pc := 23) (v := 0) hX dX3_findTour_23 rfl ?_
    exact wu_rt (wg_zret (pc := 24) hX rfl (by decide) rfl dX3_findTour_24)
  refine wu_f h2 ?_
  refine wg_iload_n (pc := 12) hX dX3_findTour_12 2 rfl ?_
  refine wg_iconst (pc := 13) (v := 0) hX dX3_findTour_13 rfl ?_
  refine wg_sipush (pc := 14) (v := 500) hX dX3_findTour_14 rfl ?_
  refine wu_ (wg_cSi (pc := 17) (As := [.int a2, .int 0, .int 500]) (rest := []) hX (m_X3_isIn a2 0 500) (lw_S q2317 q2318 q163 q2319) hd_X3_isIn rfl (Nat.le_of_ble_eq_true rfl) (Nat.le_of_ble_eq_true rfl) (Nat.le_of_ble_eq_true rfl) rfl dX3_findTour_17 fun v3 => ?_)
  refine wg_if_ne (pc := 20) (tgt := 25) hX dX3_findTour_20 (by decide) (fun h4 => ?_) (fun h4 => ?_)
  · refine wu_t h4 ?_
    refine wg_iconst (pc := 23) (v := 0) hX dX3_findTour_23 rfl ?_
    exact wu_rt (wg_zret (pc := 24) hX rfl (by decide) rfl dX3_findTour_24)
  refine wu_f h4 ?_
  refine wg_iconst (pc := 25) (v := 0) hX dX3_findTour_25 rfl ?_
  refine wg_istore_n (pc := 26) (l' := [(0, .ref (rid 1 1)), (1, .int a1), (2, .int a2), (3, .int 0)]) hX dX3_findTour_26 (by decide) rfl ?_
  refine wg_iconst (pc := 27) (v := 0) hX dX3_findTour_27 rfl ?_
  refine wg_istore (pc := 28) (l' := [(0, .ref (rid 1 1)), (1, .int a1), (2, .int a2), (3, .int 0), (4, .int 0)]) hX dX3_findTour_28 (by decide) rfl ?_
  refine wu_lpx (α := Int32 × Int32) (γ := Unit) (pcl := 30) (pcT := 149) (lo := fun x => [(0, .ref (rid 1 1)), (1, .int a1), (2, .int a2), (3, .int x.1), (4, .int x.2)]) (so := fun _ => []) (lT := fun x => [(0, .ref (rid 1 1)), (1, .int a1), (2, .int a2)]) (sT := fun _ => []) (n := amFu) (x0 := (0, 0)) (fun K5 rec5 hrec5 hk5 x5 => ?_) (fun y6 => ?_)
  · unfold p_X3_findTour_L30
    refine wg_iload (pc := 30) hX dX3_findTour_30 4 rfl ?_
    refine wg_aload_n (pc := 32) hX dX3_findTour_32 0 rfl ?_
    refine wu_ (wg_gI (pc := 33) hX fd_X3_331 dX3_findTour_33 fun v7 => ?_)
    refine wg_icmp_ge (pc := 36) (tgt := 149) hX dX3_findTour_36 (by decide) (fun h8 => ?_) (fun h8 => ?_)
    · refine wu_t h8 ?_
      refine wg_sub hX [0, 1, 2] rfl ?_
      exact wu_rt (hk5 ())
    refine wu_f h8 ?_
    refine wg_aload_n (pc := 39) hX dX3_findTour_39 0 rfl ?_
    refine wg_gK (pc := 40) hX hM0 fd_X3_265 (by decide) dX3_findTour_40 ?_
    refine wg_iload (pc := 43) hX dX3_findTour_43 4 rfl ?_
    refine wg_iload_n (pc := 45) hX dX3_findTour_45 3 rfl ?_
    refine wg_bipush (pc := 46) (v := 8) hX dX3_findTour_46 rfl ?_
    refine wu_jx (α := Int32) (pcJ := 74) (lJ := fun x => [(0, .ref (rid 1 1)), (1, .int a1), (2, .int a2), (3, .int x5.1), (4, .int x5.2)]) (sJ := fun x => [.int x, .int x5.2, .ref (rid 132 1)]) (fun K9 hk9 => ?_) (fun z9 => ?_)
    · refine wu_jn (α := Unit) (pcJ := 73) (lJ := fun x => [(0, .ref (rid 1 1)), (1, .int a1), (2, .int a2), (3, .int x5.1), (4, .int x5.2)]) (sJ := fun x => [.int x5.2, .ref (rid 132 1)]) (fun k10 hk10 => ?_) (fun z10 => ?_)
      · refine wg_icmp_ge (pc := 48) (tgt := 73) hX dX3_findTour_48 (by decide) (fun h11 => ?_) (fun h11 => ?_)
        · refine wu_t h11 ?_
          exact hk10 ()
        refine wu_f h11 ?_
        refine wg_aload_n (pc := 51) hX dX3_findTour_51 0 rfl ?_
        refine wg_iload_n (pc := 52) hX dX3_findTour_52 1 rfl ?_
        refine wg_aload_n (pc := 53) hX dX3_findTour_53 0 rfl ?_
        refine wg_gK (pc := 54) hX hM0 fd_X3_32 (by decide) dX3_findTour_54 ?_
        refine wg_iload (pc := 57) hX dX3_findTour_57 4 rfl ?_
        refine wu_ (wg_rI (pc := 59) hX ar_62 dX3_findTour_59 fun v12 => ?_)
        refine wu_ (wg_cVi (pc := 60) (As := [.int a1, .int v12]) (rest := [.int x5.2, .ref (rid 132 1)]) hX (m_X3_walkOf a1 v12) (by decide) (by decide) (by decide) rc_X3 (lw_V q2348 q2350 qs89 q163 q2351) hd_X3_walkOf rfl (Nat.le_of_ble_eq_true rfl) (Nat.le_of_ble_eq_true rfl) (Nat.le_of_ble_eq_true rfl) rfl dX3_findTour_60 fun v13 => ?_)
        refine wg_ldcw (pc := 63) hX dX3_findTour_63 q1940 ?_
        refine wg_icmp_ge (pc := 66) (tgt := 73) hX dX3_findTour_66 (by decide) (fun h14 => ?_) (fun h14 => ?_)
        · refine wu_t h14 ?_
          exact hk10 ()
        refine wu_f h14 ?_
        refine wg_iconst (pc := 69) (v := 1) hX dX3_findTour_69 rfl ?_
        refine wg_goto (pc := 70) (tgt := 74) hX dX3_findTour_70 (by decide) ?_
        exact wu_rt (hk9 1)
      refine wg_iconst (pc := 73) (v := 0) hX dX3_findTour_73 rfl ?_
      exact wu_rt (hk9 0)
    refine wu_ (wg_gd fun h15 => ?_)
    refine wu_ (wg_wZ (pc := 74) hX ar_132 h15 dX3_findTour_74 ?_)
    refine wg_iload_n (pc := 75) hX dX3_findTour_75 3 rfl ?_
    refine wg_aload_n (pc := 76) hX dX3_findTour_76 0 rfl ?_
    refine wg_gK (pc := 77) hX hM0 fd_X3_265 (by decide) dX3_findTour_77 ?_
    refine wg_iload (pc := 80) hX dX3_findTour_80 4 rfl ?_
    refine wu_ (wg_rZ (pc := 82) hX ar_132 dX3_findTour_82 fun v16 => ?_)
    refine wu_jx (α := Int32) (pcJ := 91) (lJ := fun x => [(0, .ref (rid 1 1)), (1, .int a1), (2, .int a2), (4, .int x5.2)]) (sJ := fun x => [.int x, .int x5.1]) (fun K17 hk17 => ?_) (fun z17 => ?_)
    · refine wg_if_eq (pc := 83) (tgt := 90) hX dX3_findTour_83 (by decide) (fun h18 => ?_) (fun h18 => ?_)
      · refine wu_t h18 ?_
        refine wg_iconst (pc := 90) (v := 0) hX dX3_findTour_90 rfl ?_
        refine wg_sub hX [0, 1, 2, 4] rfl ?_
        exact wu_rt (hk17 0)
      refine wu_f h18 ?_
      refine wg_iconst (pc := 86) (v := 1) hX dX3_findTour_86 rfl ?_
      refine wg_goto (pc := 87) (tgt := 91) hX dX3_findTour_87 (by decide) ?_
      refine wg_sub hX [0, 1, 2, 4] rfl ?_
      exact wu_rt (hk17 1)
    refine wg_iadd (pc := 91) hX dX3_findTour_91 ?_
    refine wu_ (wg_nmi hX fun v19 => ?_)
    refine wg_istore_n (pc := 92) (l' := [(0, .ref (rid 1 1)), (1, .int a1), (2, .int a2), (3, .int v19), (4, .int x5.2)]) hX dX3_findTour_92 (by decide) rfl ?_
    refine wg_aload_n (pc := 93) hX dX3_findTour_93 0 rfl ?_
    refine wg_gK (pc := 94) hX hM0 fd_X3_256 (by decide) dX3_findTour_94 ?_
    refine wg_iload (pc := 97) hX dX3_findTour_97 4 rfl ?_
    refine wg_aload_n (pc := 99) hX dX3_findTour_99 0 rfl ?_
    refine wg_gK (pc := 100) hX hM0 fd_X3_265 (by decide) dX3_findTour_100 ?_
    refine wg_iload (pc := 103) hX dX3_findTour_103 4 rfl ?_
    refine wu_ (wg_rZ (pc := 105) hX ar_132 dX3_findTour_105 fun v20 => ?_)
    refine wu_jx (α := Int32) (pcJ := 142) (lJ := fun x => [(0, .ref (rid 1 1)), (1, .int a1), (2, .int a2), (3, .int v19), (4, .int x5.2)]) (sJ := fun x => [.int x, .int x5.2, .ref (rid 129 1)]) (fun K21 hk21 => ?_) (fun z21 => ?_)
    · refine wg_if_eq (pc := 106) (tgt := 141) hX dX3_findTour_106 (by decide) (fun h22 => ?_) (fun h22 => ?_)
      · refine wu_t h22 ?_
        refine wg_iconst (pc := 141) (v := 0) hX dX3_findTour_141 rfl ?_
        exact wu_rt (hk21 0)
      refine wu_f h22 ?_
      refine wg_bipush (pc := 109) (v := 10) hX dX3_findTour_109 rfl ?_
      refine wg_aload_n (pc := 111) hX dX3_findTour_111 0 rfl ?_
      refine wg_iload (pc := 112) hX dX3_findTour_112 4 rfl ?_
      refine wg_aload_n (pc := 114) hX dX3_findTour_114 0 rfl ?_
      refine wu_ (wg_gI (pc := 115) hX fd_X3_395 dX3_findTour_115 fun v23 => ?_)
      refine wu_ (wg_cVi (pc := 118) (As := [.int x5.2, .int v23]) (rest := [.int 10, .int x5.2, .ref (rid 129 1)]) hX (m_X3_failsBy x5.2 v23) (by decide) (by decide) (by decide) rc_X3 (lw_V q2735 q2737 qs148 q163 q2738) hd_X3_failsBy rfl (Nat.le_of_ble_eq_true rfl) (Nat.le_of_ble_eq_true rfl) (Nat.le_of_ble_eq_true rfl) rfl dX3_findTour_118 fun v24 => ?_)
      refine wg_imul (pc := 121) hX dX3_findTour_121 ?_
      refine wg_bipush (pc := 122) (v := 30) hX dX3_findTour_122 rfl ?_
      refine wg_aload_n (pc := 124) hX dX3_findTour_124 0 rfl ?_
      refine wg_iload (pc := 125) hX dX3_findTour_125 4 rfl ?_
      refine wg_aload_n (pc := 127) hX dX3_findTour_127 0 rfl ?_
      refine wu_ (wg_gI (pc := 128) hX fd_X3_395 dX3_findTour_128 fun v25 => ?_)
      refine wu_ (wg_cVi (pc := 131) (As := [.int x5.2, .int v25]) (rest := [.int 30, .int (10 * v24), .int x5.2, .ref (rid 129 1)]) hX (m_X3_daysFrom x5.2 v25) (by decide) (by decide) (by decide) rc_X3 (lw_V q2739 q2741 qs149 q163 q2742) hd_X3_daysFrom rfl (Nat.le_of_ble_eq_true rfl) (Nat.le_of_ble_eq_true rfl) (Nat.le_of_ble_eq_true rfl) rfl dX3_findTour_131 fun v26 => ?_)
      refine wg_mmin (pc := 134) hX q2320 q1149 q165 q1150 (Nat.le_of_ble_eq_true rfl) (Nat.le_of_ble_eq_true rfl) dX3_findTour_134 ?_
      refine wu_ (wg_nmi hX fun v27 => ?_)
      refine wg_iadd (pc := 137) hX dX3_findTour_137 ?_
      refine wg_goto (pc := 138) (tgt := 142) hX dX3_findTour_138 (by decide) ?_
      exact wu_rt (hk21 ((10 * v24) + v27))
    refine wu_ (wg_wI (pc := 142) hX ar_129 dX3_findTour_142 ?_)
    refine wg_iinc (pc := 143) (v := (x5.2 + 1)) (l' := [(0, .ref (rid 1 1)), (1, .int a1), (2, .int a2), (3, .int v19), (4, .int (x5.2 + 1))]) hX dX3_findTour_143 4 rfl rfl (by decide) rfl ?_
    refine wg_goto (pc := 146) (tgt := 30) hX dX3_findTour_146 (by decide) ?_
    exact hrec5 (v19, (x5.2 + 1))
  refine wg_aload_n (pc := 149) hX dX3_findTour_149 0 rfl ?_
  refine wg_iload_n (pc := 150) hX dX3_findTour_150 1 rfl ?_
  refine wu_ (wg_pI (pc := 151) hX fp_X3_611 (fun h => by cases h) dX3_findTour_151 ?_)
  refine wg_aload_n (pc := 154) hX dX3_findTour_154 0 rfl ?_
  refine wg_iload_n (pc := 155) hX dX3_findTour_155 2 rfl ?_
  refine wu_ (wg_pI (pc := 156) hX fp_X3_614 (fun h => by cases h) dX3_findTour_156 ?_)
  refine wg_aload_n (pc := 159) hX dX3_findTour_159 0 rfl ?_
  refine wg_iconst (pc := 160) (v := (-1)) hX dX3_findTour_160 rfl ?_
  refine wu_ (wg_pI (pc := 161) hX fp_X3_617 (fun h => by cases h) dX3_findTour_161 ?_)
  refine wg_aload_n (pc := 164) hX dX3_findTour_164 0 rfl ?_
  refine wg_iconst (pc := 165) (v := 0) hX dX3_findTour_165 rfl ?_
  refine wg_iload_n (pc := 166) hX dX3_findTour_166 1 rfl ?_
  refine wg_iconst (pc := 167) (v := 0) hX dX3_findTour_167 rfl ?_
  refine wg_iconst (pc := 168) (v := 0) hX dX3_findTour_168 rfl ?_
  refine wu_ (wg_cVv (pc := 169) (As := [.int 0, .int a1, .int 0, .int 0]) (rest := []) hX (m_X3_tours 0 a1 0 0) (by decide) (by decide) (by decide) rc_X3 (lw_V q2759 q2761 qs151 q163 q2762) hd_X3_tours rfl (Nat.le_of_ble_eq_true rfl) (Nat.le_of_ble_eq_true rfl) (Nat.le_of_ble_eq_true rfl) rfl dX3_findTour_169 ?_)
  refine wg_iconst (pc := 172) (v := 1) hX dX3_findTour_172 rfl ?_
  exact wu_rt (wg_zret (pc := 173) hX rfl (by decide) rfl dX3_findTour_173)
theorem m_X3_round (a1 : Int32) (a2 : Int32) (a3 : Int32) : amMet yX3_round cX3_round 4 (some .int) 139 3348 encI [.ref (rid 1 1), .int a1, .int a2, .int a3] (up (p_X3_round a1 a2 a3)) := by
  refine amMet.of (own := RX3) (by decide) rfl (Nat.le_of_ble_eq_true rfl) fun X hX hPs => ?_
  change WG X encI 0 [(0, .ref (rid 1 1)), (1, .int a1), (2, .int a2), (3, .int a3)] [] (bd1 (up (p_X3_round a1 a2 a3)) rt1)
  unfold p_X3_round
  refine wg_aload_n (pc := 0) hX dX3_round_0 0 rfl ?_
  refine wg_iload_n (pc := 1) hX dX3_round_1 1 rfl ?_
  refine wg_iload_n (pc := 2) hX dX3_round_2 2 rfl ?_
  refine wu_ (wg_cVi (pc := 3) (As := [.int a1, .int a2]) (rest := []) hX (m_X3_findTour a1 a2) (by decide) (by decide) (by decide) rc_X3 (lw_V q2755 q2757 qs150 q163 q2758) hd_X3_findTour rfl (Nat.le_of_ble_eq_true rfl) (Nat.le_of_ble_eq_true rfl) (Nat.le_of_ble_eq_true rfl) rfl dX3_round_3 fun v1 => ?_)
  refine wg_if_eq (pc := 6) (tgt := 18) hX dX3_round_6 (by decide) (fun h2 => ?_) (fun h2 => ?_)
  · refine wu_t h2 ?_
    refine wg_iconst (pc := 18) (v := (-1)) hX dX3_round_18 rfl ?_
    exact wu_rt (wg_iret (pc := 19) hX rfl rfl dX3_round_19)
  refine wu_f h2 ?_
  refine wg_iload_n (pc := 9) hX dX3_round_9 3 rfl ?_
  refine wg_iconst (pc := 10) (v := 0) hX dX3_round_10 rfl ?_
  refine wg_iconst (pc := 11) (v := 2) hX dX3_round_11 rfl ?_
  refine wu_ (wg_cSi (pc := 12) (As := [.int a3, .int 0, .int 2]) (rest := []) hX (m_X3_isIn a3 0 2) (lw_S q2317 q2318 q163 q2319) hd_X3_isIn rfl (Nat.le_of_ble_eq_true rfl) (Nat.le_of_ble_eq_true rfl) (Nat.le_of_ble_eq_true rfl) rfl dX3_round_12 fun v3 => ?_)
  refine wg_if_ne (pc := 15) (tgt := 20) hX dX3_round_15 (by decide) (fun h4 => ?_) (fun h4 => ?_)
  · refine wu_t h4 ?_
    refine wg_iconst (pc := 18) (v := (-1)) hX dX3_round_18 rfl ?_
    exact wu_rt (wg_iret (pc := 19) hX rfl rfl dX3_round_19)
  refine wu_f h4 ?_
  refine wg_iload_n (pc := 20) hX dX3_round_20 3 rfl ?_
  refine wg_if_ne (pc := 21) (tgt := 31) hX dX3_round_21 (by decide) (fun h5 => ?_) (fun h5 => ?_)
  · refine wu_t h5 ?_
    refine wg_aload_n (pc := 24) hX dX3_round_24 0 rfl ?_
    refine wu_ (wg_gI (pc := 25) hX fd_X3_620 dX3_round_25 fun v6 => ?_)
    refine wg_goto (pc := 28) (tgt := 47) hX dX3_round_28 (by decide) ?_
    exact wu_rt (wg_iret (pc := 47) hX rfl rfl dX3_round_47)
  refine wu_f h5 ?_
  refine wg_iload_n (pc := 31) hX dX3_round_31 3 rfl ?_
  refine wg_iconst (pc := 32) (v := 1) hX dX3_round_32 rfl ?_
  refine wg_icmp_ne (pc := 33) (tgt := 43) hX dX3_round_33 (by decide) (fun h7 => ?_) (fun h7 => ?_)
  rotate_left
  · refine wu_f h7 ?_
    refine wg_aload_n (pc := 43) hX dX3_round_43 0 rfl ?_
    refine wu_ (wg_gI (pc := 44) hX fd_X3_617 dX3_round_44 fun v8 => ?_)
    exact wu_rt (wg_iret (pc := 47) hX rfl rfl dX3_round_47)
  refine wu_t h7 ?_
  refine wg_aload_n (pc := 36) hX dX3_round_36 0 rfl ?_
  refine wu_ (wg_gI (pc := 37) hX fd_X3_623 dX3_round_37 fun v9 => ?_)
  refine wg_goto (pc := 40) (tgt := 47) hX dX3_round_40 (by decide) ?_
  exact wu_rt (wg_iret (pc := 47) hX rfl rfl dX3_round_47)
theorem m_X3_rounded (a1 : Int32) (a2 : Int32) (a3 : Int32) : amMet yX3_rounded cX3_rounded 4 (some .int) 139 3348 encI [.ref (rid 1 1), .int a1, .int a2, .int a3] (up (p_X3_rounded a1 a2 a3)) := by
  refine amMet.of (own := RX3) (by decide) rfl (Nat.le_of_ble_eq_true rfl) fun X hX hPs => ?_
  change WG X encI 0 [(0, .ref (rid 1 1)), (1, .int a1), (2, .int a2), (3, .int a3)] [] (bd1 (up (p_X3_rounded a1 a2 a3)) rt1)
  unfold p_X3_rounded
  have hM0 := amPs.m0 hPs
  refine wu_ (wg_gM ?_)
  refine wg_aload_n (pc := 0) hX dX3_rounded_0 0 rfl ?_
  refine wg_iload_n (pc := 1) hX dX3_rounded_1 1 rfl ?_
  refine wg_iload_n (pc := 2) hX dX3_rounded_2 2 rfl ?_
  refine wu_ (wg_cVi (pc := 3) (As := [.int a1, .int a2]) (rest := []) hX (m_X3_findTour a1 a2) (by decide) (by decide) (by decide) rc_X3 (lw_V q2755 q2757 qs150 q163 q2758) hd_X3_findTour rfl (Nat.le_of_ble_eq_true rfl) (Nat.le_of_ble_eq_true rfl) (Nat.le_of_ble_eq_true rfl) rfl dX3_rounded_3 fun v1 => ?_)
  refine wu_jn (α := Unit) (pcJ := 32) (lJ := fun x => []) (sJ := fun x => []) (fun k2 hk2 => ?_) (fun z2 => ?_)
  · refine wg_if_eq (pc := 6) (tgt := 32) hX dX3_rounded_6 (by decide) (fun h3 => ?_) (fun h3 => ?_)
    · refine wu_t h3 ?_
      refine wg_sub hX [] rfl ?_
      exact hk2 ()
    refine wu_f h3 ?_
    refine wg_iload_n (pc := 9) hX dX3_rounded_9 3 rfl ?_
    refine wg_iconst (pc := 10) (v := 0) hX dX3_rounded_10 rfl ?_
    refine wg_aload_n (pc := 11) hX dX3_rounded_11 0 rfl ?_
    refine wu_ (wg_gI (pc := 12) hX fd_X3_617 dX3_rounded_12 fun v4 => ?_)
    refine wg_iconst (pc := 15) (v := 1) hX dX3_rounded_15 rfl ?_
    refine wg_isub (pc := 16) hX dX3_rounded_16 ?_
    refine wu_ (wg_cSi (pc := 17) (As := [.int a3, .int 0, .int (v4 - 1)]) (rest := []) hX (m_X3_isIn a3 0 (v4 - 1)) (lw_S q2317 q2318 q163 q2319) hd_X3_isIn rfl (Nat.le_of_ble_eq_true rfl) (Nat.le_of_ble_eq_true rfl) (Nat.le_of_ble_eq_true rfl) rfl dX3_rounded_17 fun v5 => ?_)
    refine wg_if_eq (pc := 20) (tgt := 32) hX dX3_rounded_20 (by decide) (fun h6 => ?_) (fun h6 => ?_)
    · refine wu_t h6 ?_
      refine wg_sub hX [] rfl ?_
      exact hk2 ()
    refine wu_f h6 ?_
    refine wg_aload_n (pc := 23) hX dX3_rounded_23 0 rfl ?_
    refine wg_gK (pc := 24) hX hM0 fd_X3_262 (by decide) dX3_rounded_24 ?_
    refine wg_iload_n (pc := 27) hX dX3_rounded_27 3 rfl ?_
    refine wu_ (wg_rI (pc := 28) hX ar_131 dX3_rounded_28 fun v7 => ?_)
    refine wg_goto (pc := 29) (tgt := 33) hX dX3_rounded_29 (by decide) ?_
    exact wu_rt (wg_iret (pc := 33) hX rfl rfl dX3_rounded_33)
  refine wg_iconst (pc := 32) (v := (-1)) hX dX3_rounded_32 rfl ?_
  exact wu_rt (wg_iret (pc := 33) hX rfl rfl dX3_rounded_33)
theorem m_X3_pointsOf (a1 : Int32) (a2 : Int32) (a3 : Int32) : amMet yX3_pointsOf cX3_pointsOf 6 (some .int) 2 54 encI [.ref (rid 1 1), .int a1, .int a2, .int a3] (up (p_X3_pointsOf a1 a2 a3)) := by
  refine amMet.of (own := RX3) (by decide) rfl (Nat.le_of_ble_eq_true rfl) fun X hX hPs => ?_
  change WG X encI 0 [(0, .ref (rid 1 1)), (1, .int a1), (2, .int a2), (3, .int a3)] [] (bd1 (up (p_X3_pointsOf a1 a2 a3)) rt1)
  unfold p_X3_pointsOf
  refine wg_iconst (pc := 0) (v := 0) hX dX3_pointsOf_0 rfl ?_
  refine wg_istore (pc := 1) (l' := [(0, .ref (rid 1 1)), (1, .int a1), (2, .int a2), (3, .int a3), (4, .int 0)]) hX dX3_pointsOf_1 (by decide) rfl ?_
  refine wg_iconst (pc := 3) (v := 0) hX dX3_pointsOf_3 rfl ?_
  refine wg_istore (pc := 4) (l' := [(0, .ref (rid 1 1)), (1, .int a1), (2, .int a2), (3, .int a3), (4, .int 0), (5, .int 0)]) hX dX3_pointsOf_4 (by decide) rfl ?_
  refine wu_lpx (α := Int32 × Int32) (γ := Int32) (pcl := 6) (pcT := 50) (lo := fun x => [(0, .ref (rid 1 1)), (1, .int a1), (2, .int a2), (3, .int a3), (4, .int x.1), (5, .int x.2)]) (so := fun _ => []) (lT := fun x => [(4, .int x)]) (sT := fun _ => []) (n := amFu) (x0 := (0, 0)) (fun K1 rec1 hrec1 hk1 x1 => ?_) (fun y2 => ?_)
  · unfold p_X3_pointsOf_L6
    refine wg_iload (pc := 6) hX dX3_pointsOf_6 5 rfl ?_
    refine wg_bipush (pc := 8) (v := 20) hX dX3_pointsOf_8 rfl ?_
    refine wg_icmp_ge (pc := 10) (tgt := 50) hX dX3_pointsOf_10 (by decide) (fun h3 => ?_) (fun h3 => ?_)
    · refine wu_t h3 ?_
      refine wg_sub hX [4] rfl ?_
      exact wu_rt (hk1 x1.1)
    refine wu_f h3 ?_
    refine wg_iload (pc := 13) hX dX3_pointsOf_13 4 rfl ?_
    refine wg_iload_n (pc := 15) hX dX3_pointsOf_15 2 rfl ?_
    refine wg_iload (pc := 16) hX dX3_pointsOf_16 5 rfl ?_
    refine wg_ishr (pc := 18) hX dX3_pointsOf_18 ?_
    refine wg_iconst (pc := 19) (v := 1) hX dX3_pointsOf_19 rfl ?_
    refine wg_iand (pc := 20) hX dX3_pointsOf_20 ?_
    refine wg_iconst (pc := 21) (v := 1) hX dX3_pointsOf_21 rfl ?_
    refine wu_jx (α := Int32) (pcJ := 41) (lJ := fun x => [(0, .ref (rid 1 1)), (1, .int a1), (2, .int a2), (3, .int a3), (5, .int x1.2)]) (sJ := fun x => [.int x, .int x1.1]) (fun K4 hk4 => ?_) (fun z4 => ?_)
    · refine wu_jn (α := Unit) (pcJ := 40) (lJ := fun x => [(0, .ref (rid 1 1)), (1, .int a1), (2, .int a2), (3, .int a3), (5, .int x1.2)]) (sJ := fun x => [.int x1.1]) (fun k5 hk5 => ?_) (fun z5 => ?_)
      · refine wg_icmp_ne (pc := 22) (tgt := 40) hX dX3_pointsOf_22 (by decide) (fun h6 => ?_) (fun h6 => ?_)
        rotate_left
        · refine wu_f h6 ?_
          refine wg_sub hX [0, 1, 2, 3, 5] rfl ?_
          exact hk5 ()
        refine wu_t h6 ?_
        refine wg_aload_n (pc := 25) hX dX3_pointsOf_25 0 rfl ?_
        refine wg_iload (pc := 26) hX dX3_pointsOf_26 5 rfl ?_
        refine wg_iload_n (pc := 28) hX dX3_pointsOf_28 1 rfl ?_
        refine wu_ (wg_cVi (pc := 29) (As := [.int x1.2, .int a1]) (rest := [.int x1.1]) hX (m_X3_walkOf x1.2 a1) (by decide) (by decide) (by decide) rc_X3 (lw_V q2348 q2350 qs89 q163 q2351) hd_X3_walkOf rfl (Nat.le_of_ble_eq_true rfl) (Nat.le_of_ble_eq_true rfl) (Nat.le_of_ble_eq_true rfl) rfl dX3_pointsOf_29 fun v7 => ?_)
        refine wg_iload_n (pc := 32) hX dX3_pointsOf_32 3 rfl ?_
        refine wg_icmp_gt (pc := 33) (tgt := 40) hX dX3_pointsOf_33 (by decide) (fun h8 => ?_) (fun h8 => ?_)
        · refine wu_t h8 ?_
          refine wg_sub hX [0, 1, 2, 3, 5] rfl ?_
          exact hk5 ()
        refine wu_f h8 ?_
        refine wg_iconst (pc := 36) (v := 1) hX dX3_pointsOf_36 rfl ?_
        refine wg_goto (pc := 37) (tgt := 41) hX dX3_pointsOf_37 (by decide) ?_
        refine wg_sub hX [0, 1, 2, 3, 5] rfl ?_
        exact wu_rt (hk4 1)
      refine wg_iconst (pc := 40) (v := 0) hX dX3_pointsOf_40 rfl ?_
      exact wu_rt (hk4 0)
    refine wg_iadd (pc := 41) hX dX3_pointsOf_41 ?_
    refine wu_ (wg_nmi hX fun v9 => ?_)
    refine wg_istore (pc := 42) (l' := [(0, .ref (rid 1 1)), (1, .int a1), (2, .int a2), (3, .int a3), (4, .int v9), (5, .int x1.2)]) hX dX3_pointsOf_42 (by decide) rfl ?_
    refine wg_iinc (pc := 44) (v := (x1.2 + 1)) (l' := [(0, .ref (rid 1 1)), (1, .int a1), (2, .int a2), (3, .int a3), (4, .int v9), (5, .int (x1.2 + 1))]) hX dX3_pointsOf_44 5 rfl rfl (by decide) rfl ?_
    refine wg_goto (pc := 47) (tgt := 6) hX dX3_pointsOf_47 (by decide) ?_
    exact hrec1 (v9, (x1.2 + 1))
  refine wg_iload (pc := 50) hX dX3_pointsOf_50 0 rfl ?_
  refine wg_if_ne (pc := 52) (tgt := 59) hX dX3_pointsOf_52 (by decide) (fun h10 => ?_) (fun h10 => ?_)
  · refine wu_t h10 ?_
    refine wg_iconst (pc := 55) (v := 0) hX dX3_pointsOf_55 rfl ?_
    refine wg_goto (pc := 56) (tgt := 70) hX dX3_pointsOf_56 (by decide) ?_
    exact wu_rt (wg_iret (pc := 70) hX rfl rfl dX3_pointsOf_70)
  refine wu_f h10 ?_
  refine wg_iload (pc := 59) hX dX3_pointsOf_59 0 rfl ?_
  refine wg_iconst (pc := 61) (v := 1) hX dX3_pointsOf_61 rfl ?_
  refine wg_icmp_ne (pc := 62) (tgt := 69) hX dX3_pointsOf_62 (by decide) (fun h11 => ?_) (fun h11 => ?_)
  rotate_left
  · refine wu_f h11 ?_
    refine wg_iconst (pc := 69) (v := 3) hX dX3_pointsOf_69 rfl ?_
    exact wu_rt (wg_iret (pc := 70) hX rfl rfl dX3_pointsOf_70)
  refine wu_t h11 ?_
  refine wg_iconst (pc := 65) (v := 2) hX dX3_pointsOf_65 rfl ?_
  refine wg_goto (pc := 66) (tgt := 70) hX dX3_pointsOf_66 (by decide) ?_
  exact wu_rt (wg_iret (pc := 70) hX rfl rfl dX3_pointsOf_70)
theorem w_X3_plans (d : Nat) (s_X3_plans : Int32 → Int32 → Int32 → Int32 → am0 Unit) (hm_X3_plans : ∀ (a1 : Int32) (a2 : Int32) (a3 : Int32) (a4 : Int32), amMet yX3_plans cX3_plans 7 none (3 + d) (79 + d * 26) encV [.ref (rid 1 1), .int a1, .int a2, .int a3, .int a4] (up (s_X3_plans a1 a2 a3 a4))) (a1 : Int32) (a2 : Int32) (a3 : Int32) (a4 : Int32) : amMet yX3_plans cX3_plans 7 none (3 + (d + 1)) (79 + (d + 1) * 26) encV [.ref (rid 1 1), .int a1, .int a2, .int a3, .int a4] (up (b_X3_plans s_X3_plans a1 a2 a3 a4)) := by
  refine amMet.of (own := RX3) (by decide) rfl (Nat.le_of_ble_eq_true rfl) fun X hX hPs => ?_
  change WG X encV 0 [(0, .ref (rid 1 1)), (1, .int a1), (2, .int a2), (3, .int a3), (4, .int a4)] [] (bd1 (up (b_X3_plans s_X3_plans a1 a2 a3 a4)) rt1)
  unfold b_X3_plans
  have hM0 := amPs.m0 hPs
  refine wu_ (wg_gM ?_)
  refine wg_iload_n (pc := 0) hX dX3_plans_0 3 rfl ?_
  refine wg_if_le (pc := 1) (tgt := 40) hX dX3_plans_1 (by decide) (fun h1 => ?_) (fun h1 => ?_)
  rotate_left
  · refine wu_f h1 ?_
    refine wg_iload_n (pc := 4) hX dX3_plans_4 2 rfl ?_
    refine wg_istore (pc := 5) (l' := [(0, .ref (rid 1 1)), (1, .int a1), (2, .int a2), (3, .int a3), (4, .int a4), (5, .int a2)]) hX dX3_plans_5 (by decide) rfl ?_
    refine wg_sub hX [0, 1, 3, 4, 5] rfl ?_
    refine wu_lpx (α := Int32) (γ := Unit) (pcl := 7) (pcT := 39) (lo := fun x => [(0, .ref (rid 1 1)), (1, .int a1), (3, .int a3), (4, .int a4), (5, .int x)]) (so := fun _ => []) (lT := fun x => []) (sT := fun _ => []) (n := amFu) (x0 := a2) (fun K2 rec2 hrec2 hk2 x2 => ?_) (fun y3 => ?_)
    · unfold p_X3_plans_L7
      refine wg_iload (pc := 7) hX dX3_plans_7 4 rfl ?_
      refine wg_bipush (pc := 9) (v := 20) hX dX3_plans_9 rfl ?_
      refine wg_icmp_ge (pc := 11) (tgt := 39) hX dX3_plans_11 (by decide) (fun h4 => ?_) (fun h4 => ?_)
      · refine wu_t h4 ?_
        refine wg_sub hX [] rfl ?_
        exact wu_rt (hk2 ())
      refine wu_f h4 ?_
      refine wg_aload_n (pc := 14) hX dX3_plans_14 0 rfl ?_
      refine wg_iload_n (pc := 15) hX dX3_plans_15 1 rfl ?_
      refine wg_iconst (pc := 16) (v := 1) hX dX3_plans_16 rfl ?_
      refine wg_iload (pc := 17) hX dX3_plans_17 4 rfl ?_
      refine wg_ishl (pc := 19) hX dX3_plans_19 ?_
      refine wg_ior (pc := 20) hX dX3_plans_20 ?_
      refine wg_iload (pc := 21) hX dX3_plans_21 4 rfl ?_
      refine wg_iconst (pc := 23) (v := 1) hX dX3_plans_23 rfl ?_
      refine wg_iadd (pc := 24) hX dX3_plans_24 ?_
      refine wg_iload_n (pc := 25) hX dX3_plans_25 2 rfl ?_
      refine wg_iconst (pc := 26) (v := 1) hX dX3_plans_26 rfl ?_
      refine wg_isub (pc := 27) hX dX3_plans_27 ?_
      refine wg_iload (pc := 28) hX dX3_plans_28 3 rfl ?_
      refine wu_ (wg_cVv (pc := 30) (As := [.int (a1 ||| ((1 : Int32) <<< (x2 &&& 31))), .int (x2 + 1), .int (a3 - 1), .int a4]) (rest := []) hX (hm_X3_plans (a1 ||| ((1 : Int32) <<< (x2 &&& 31))) (x2 + 1) (a3 - 1) a4) (by decide) (by decide) (by decide) rc_X3 (lw_V q2775 q2777 qs153 q163 q2778) hd_X3_plans rfl (by omega) (by omega) (Nat.le_of_ble_eq_true rfl) rfl dX3_plans_30 ?_)
      refine wg_iinc (pc := 33) (v := (x2 + 1)) (l' := [(0, .ref (rid 1 1)), (1, .int a1), (3, .int a3), (4, .int a4), (5, .int (x2 + 1))]) hX dX3_plans_33 4 rfl rfl (by decide) rfl ?_
      refine wg_goto (pc := 36) (tgt := 7) hX dX3_plans_36 (by decide) ?_
      exact hrec2 (x2 + 1)
    exact wu_rt (wg_vret (pc := 39) hX rfl rfl dX3_plans_39)
  refine wu_t h1 ?_
  refine wg_iconst (pc := 40) (v := 0) hX dX3_plans_40 rfl ?_
  refine wg_istore (pc := 41) (l' := [(0, .ref (rid 1 1)), (1, .int a1), (2, .int a2), (3, .int a3), (4, .int a4), (5, .int 0)]) hX dX3_plans_41 (by decide) rfl ?_
  refine wg_iconst (pc := 43) (v := 0) hX dX3_plans_43 rfl ?_
  refine wg_istore (pc := 44) (l' := [(0, .ref (rid 1 1)), (1, .int a1), (2, .int a2), (3, .int a3), (4, .int a4), (5, .int 0), (6, .int 0)]) hX dX3_plans_44 (by decide) rfl ?_
  refine wg_sub hX [0, 1, 4, 5, 6] rfl ?_
  refine wu_lpx (α := Int32 × Int32) (γ := Int32) (pcl := 46) (pcT := 95) (lo := fun x => [(0, .ref (rid 1 1)), (1, .int a1), (4, .int a4), (5, .int x.1), (6, .int x.2)]) (so := fun _ => []) (lT := fun x => [(0, .ref (rid 1 1)), (1, .int a1), (5, .int x)]) (sT := fun _ => []) (n := amFu) (x0 := (0, 0)) (fun K5 rec5 hrec5 hk5 x5 => ?_) (fun y6 => ?_)
  · unfold p_X3_plans_L46
    refine wg_iload (pc := 46) hX dX3_plans_46 4 rfl ?_
    refine wg_bipush (pc := 48) (v := 20) hX dX3_plans_48 rfl ?_
    refine wg_icmp_ge (pc := 50) (tgt := 95) hX dX3_plans_50 (by decide) (fun h7 => ?_) (fun h7 => ?_)
    · refine wu_t h7 ?_
      refine wg_sub hX [0, 1, 3] rfl ?_
      exact wu_rt (hk5 x5.1)
    refine wu_f h7 ?_
    refine wg_iload (pc := 53) hX dX3_plans_53 3 rfl ?_
    refine wg_aload_n (pc := 55) hX dX3_plans_55 0 rfl ?_
    refine wg_gK (pc := 56) hX hM0 fd_X3_268 (by decide) dX3_plans_56 ?_
    refine wg_iload (pc := 59) hX dX3_plans_59 4 rfl ?_
    refine wu_ (wg_rI (pc := 61) hX ar_133 dX3_plans_61 fun v8 => ?_)
    refine wu_jx (α := Int32) (pcJ := 86) (lJ := fun x => [(0, .ref (rid 1 1)), (1, .int a1), (4, .int a4), (6, .int x5.2)]) (sJ := fun x => [.int x, .int x5.1]) (fun K9 hk9 => ?_) (fun z9 => ?_)
    · refine wg_if_ne (pc := 62) (tgt := 69) hX dX3_plans_62 (by decide) (fun h10 => ?_) (fun h10 => ?_)
      · refine wu_t h10 ?_
        refine wg_iconst (pc := 65) (v := 0) hX dX3_plans_65 rfl ?_
        refine wg_goto (pc := 66) (tgt := 86) hX dX3_plans_66 (by decide) ?_
        refine wg_sub hX [0, 1, 2, 4] rfl ?_
        exact wu_rt (hk9 0)
      refine wu_f h10 ?_
      refine wg_aload_n (pc := 69) hX dX3_plans_69 0 rfl ?_
      refine wg_gK (pc := 70) hX hM0 fd_X3_268 (by decide) dX3_plans_70 ?_
      refine wg_iload (pc := 73) hX dX3_plans_73 4 rfl ?_
      refine wu_ (wg_rI (pc := 75) hX ar_133 dX3_plans_75 fun v11 => ?_)
      refine wg_aload_n (pc := 76) hX dX3_plans_76 0 rfl ?_
      refine wg_iload (pc := 77) hX dX3_plans_77 4 rfl ?_
      refine wg_iload_n (pc := 79) hX dX3_plans_79 1 rfl ?_
      refine wg_iload (pc := 80) hX dX3_plans_80 2 rfl ?_
      refine wu_ (wg_cVi (pc := 82) (As := [.int x5.2, .int a1, .int a4]) (rest := [.int v11, .int x5.1]) hX (m_X3_pointsOf x5.2 a1 a4) (by decide) (by decide) (by decide) rc_X3 (lw_V q2779 q2781 qs154 q163 q2782) hd_X3_pointsOf rfl (by omega) (by omega) (Nat.le_of_ble_eq_true rfl) rfl dX3_plans_82 fun v12 => ?_)
      refine wg_imul (pc := 85) hX dX3_plans_85 ?_
      refine wg_sub hX [0, 1, 2, 4] rfl ?_
      exact wu_rt (hk9 (v11 * v12))
    refine wg_iadd (pc := 86) hX dX3_plans_86 ?_
    refine wu_ (wg_nmi hX fun v13 => ?_)
    refine wg_istore (pc := 87) (l' := [(0, .ref (rid 1 1)), (1, .int a1), (4, .int a4), (5, .int v13), (6, .int x5.2)]) hX dX3_plans_87 (by decide) rfl ?_
    refine wg_iinc (pc := 89) (v := (x5.2 + 1)) (l' := [(0, .ref (rid 1 1)), (1, .int a1), (4, .int a4), (5, .int v13), (6, .int (x5.2 + 1))]) hX dX3_plans_89 4 rfl rfl (by decide) rfl ?_
    refine wg_goto (pc := 92) (tgt := 46) hX dX3_plans_92 (by decide) ?_
    exact hrec5 (v13, (x5.2 + 1))
  refine wg_iload (pc := 95) hX dX3_plans_95 2 rfl ?_
  refine wg_aload_n (pc := 97) hX dX3_plans_97 0 rfl ?_
  refine wu_ (wg_gI (pc := 98) hX fd_X3_639 dX3_plans_98 fun v14 => ?_)
  refine wg_icmp_gt (pc := 101) (tgt := 105) hX dX3_plans_101 (by decide) (fun h15 => ?_) (fun h15 => ?_)
  rotate_left
  · refine wu_f h15 ?_
    exact wu_rt (wg_vret (pc := 104) hX rfl rfl dX3_plans_104)
  refine wu_t h15 ?_
  refine wg_aload_n (pc := 105) hX dX3_plans_105 0 rfl ?_
  refine wg_iload (pc := 106) hX dX3_plans_106 2 rfl ?_
  refine wu_ (wg_pI (pc := 108) hX fp_X3_639 (fun h => by cases h) dX3_plans_108 ?_)
  refine wg_aload_n (pc := 111) hX dX3_plans_111 0 rfl ?_
  refine wg_iload_n (pc := 112) hX dX3_plans_112 1 rfl ?_
  refine wu_ (wg_pI (pc := 113) hX fp_X3_642 (fun h => by cases h) dX3_plans_113 ?_)
  exact wu_rt (wg_vret (pc := 116) hX rfl rfl dX3_plans_116)
theorem gm_X3_plans : ∀ d : Nat, (∀ (a1 : Int32) (a2 : Int32) (a3 : Int32) (a4 : Int32), amMet yX3_plans cX3_plans 7 none (3 + d) (79 + d * 26) encV [.ref (rid 1 1), .int a1, .int a2, .int a3, .int a4] (up ((p_X3_plans d) a1 a2 a3 a4)))
  | 0 => fun _ _ _ _ => amMet.none (fun _ _ => rfl)
  | d + 1 => by
    have h0 := gm_X3_plans d
    exact w_X3_plans d (p_X3_plans d) h0
theorem m_X3_plans (a1 : Int32) (a2 : Int32) (a3 : Int32) (a4 : Int32) : amMet yX3_plans cX3_plans 7 none 19 495 encV [.ref (rid 1 1), .int a1, .int a2, .int a3, .int a4] (up (p_X3_plans 16 a1 a2 a3 a4)) := (gm_X3_plans 16) a1 a2 a3 a4
theorem m_X3_findPlan (a1 : Int32) (a2 : Int32) : amMet yX3_findPlan cX3_findPlan 4 (some .boolean) 20 521 encI [.ref (rid 1 1), .int a1, .int a2] (up (p_X3_findPlan a1 a2)) := by
  refine amMet.of (own := RX3) (by decide) rfl (Nat.le_of_ble_eq_true rfl) fun X hX hPs => ?_
  change WG X encI 0 [(0, .ref (rid 1 1)), (1, .int a1), (2, .int a2)] [] (bd1 (up (p_X3_findPlan a1 a2)) rt1)
  unfold p_X3_findPlan
  have hM0 := amPs.m0 hPs
  refine wu_ (wg_gM ?_)
  refine wg_aload_n (pc := 0) hX dX3_findPlan_0 0 rfl ?_
  refine wg_iconst (pc := 1) (v := 0) hX dX3_findPlan_1 rfl ?_
  refine wu_ (wg_pI (pc := 2) hX fp_X3_297 (fun h => by cases h) dX3_findPlan_2 ?_)
  refine wg_iload_n (pc := 5) hX dX3_findPlan_5 1 rfl ?_
  refine wg_iconst (pc := 6) (v := 1) hX dX3_findPlan_6 rfl ?_
  refine wg_iconst (pc := 7) (v := 4) hX dX3_findPlan_7 rfl ?_
  refine wu_ (wg_cSi (pc := 8) (As := [.int a1, .int 1, .int 4]) (rest := []) hX (m_X3_isIn a1 1 4) (lw_S q2317 q2318 q163 q2319) hd_X3_isIn rfl (Nat.le_of_ble_eq_true rfl) (Nat.le_of_ble_eq_true rfl) (Nat.le_of_ble_eq_true rfl) rfl dX3_findPlan_8 fun v1 => ?_)
  refine wg_if_eq (pc := 11) (tgt := 24) hX dX3_findPlan_11 (by decide) (fun h2 => ?_) (fun h2 => ?_)
  · refine wu_t h2 ?_
    refine wg_iconst (pc := 24) (v := 0) hX dX3_findPlan_24 rfl ?_
    exact wu_rt (wg_zret (pc := 25) hX rfl (by decide) rfl dX3_findPlan_25)
  refine wu_f h2 ?_
  refine wg_iload_n (pc := 14) hX dX3_findPlan_14 2 rfl ?_
  refine wg_iconst (pc := 15) (v := 1) hX dX3_findPlan_15 rfl ?_
  refine wg_bipush (pc := 16) (v := 100) hX dX3_findPlan_16 rfl ?_
  refine wu_ (wg_cSi (pc := 18) (As := [.int a2, .int 1, .int 100]) (rest := []) hX (m_X3_isIn a2 1 100) (lw_S q2317 q2318 q163 q2319) hd_X3_isIn rfl (Nat.le_of_ble_eq_true rfl) (Nat.le_of_ble_eq_true rfl) (Nat.le_of_ble_eq_true rfl) rfl dX3_findPlan_18 fun v3 => ?_)
  refine wg_if_ne (pc := 21) (tgt := 26) hX dX3_findPlan_21 (by decide) (fun h4 => ?_) (fun h4 => ?_)
  · refine wu_t h4 ?_
    refine wg_iconst (pc := 24) (v := 0) hX dX3_findPlan_24 rfl ?_
    exact wu_rt (wg_zret (pc := 25) hX rfl (by decide) rfl dX3_findPlan_25)
  refine wu_f h4 ?_
  refine wg_iconst (pc := 26) (v := 0) hX dX3_findPlan_26 rfl ?_
  refine wg_istore_n (pc := 27) (l' := [(0, .ref (rid 1 1)), (1, .int a1), (2, .int a2), (3, .int 0)]) hX dX3_findPlan_27 (by decide) rfl ?_
  refine wu_lpx (α := Int32) (γ := Unit) (pcl := 28) (pcT := 47) (lo := fun x => [(0, .ref (rid 1 1)), (1, .int a1), (2, .int a2), (3, .int x)]) (so := fun _ => []) (lT := fun x => [(0, .ref (rid 1 1)), (1, .int a1), (2, .int a2)]) (sT := fun _ => []) (n := amFu) (x0 := 0) (fun K5 rec5 hrec5 hk5 x5 => ?_) (fun y6 => ?_)
  · unfold p_X3_findPlan_L28
    refine wg_iload_n (pc := 28) hX dX3_findPlan_28 3 rfl ?_
    refine wg_bipush (pc := 29) (v := 20) hX dX3_findPlan_29 rfl ?_
    refine wg_icmp_ge (pc := 31) (tgt := 47) hX dX3_findPlan_31 (by decide) (fun h7 => ?_) (fun h7 => ?_)
    · refine wu_t h7 ?_
      refine wg_sub hX [0, 1, 2] rfl ?_
      exact wu_rt (hk5 ())
    refine wu_f h7 ?_
    refine wg_aload_n (pc := 34) hX dX3_findPlan_34 0 rfl ?_
    refine wg_gK (pc := 35) hX hM0 fd_X3_268 (by decide) dX3_findPlan_35 ?_
    refine wg_iload_n (pc := 38) hX dX3_findPlan_38 3 rfl ?_
    refine wg_iconst (pc := 39) (v := 0) hX dX3_findPlan_39 rfl ?_
    refine wu_ (wg_wI (pc := 40) hX ar_133 dX3_findPlan_40 ?_)
    refine wg_iinc (pc := 41) (v := (x5 + 1)) (l' := [(0, .ref (rid 1 1)), (1, .int a1), (2, .int a2), (3, .int (x5 + 1))]) hX dX3_findPlan_41 3 rfl rfl (by decide) rfl ?_
    refine wg_goto (pc := 44) (tgt := 28) hX dX3_findPlan_44 (by decide) ?_
    exact hrec5 (x5 + 1)
  refine wg_iconst (pc := 47) (v := 0) hX dX3_findPlan_47 rfl ?_
  refine wg_istore_n (pc := 48) (l' := [(0, .ref (rid 1 1)), (1, .int a1), (2, .int a2), (3, .int 0)]) hX dX3_findPlan_48 (by decide) rfl ?_
  refine wu_lpx (α := Int32) (γ := Unit) (pcl := 49) (pcT := 78) (lo := fun x => [(0, .ref (rid 1 1)), (1, .int a1), (2, .int a2), (3, .int x)]) (so := fun _ => []) (lT := fun x => [(0, .ref (rid 1 1)), (1, .int a1), (2, .int a2)]) (sT := fun _ => []) (n := amFu) (x0 := 0) (fun K8 rec8 hrec8 hk8 x8 => ?_) (fun y9 => ?_)
  · unfold p_X3_findPlan_L49
    refine wg_iload_n (pc := 49) hX dX3_findPlan_49 3 rfl ?_
    refine wg_aload_n (pc := 50) hX dX3_findPlan_50 0 rfl ?_
    refine wu_ (wg_gI (pc := 51) hX fd_X3_525 dX3_findPlan_51 fun v10 => ?_)
    refine wg_icmp_ge (pc := 54) (tgt := 78) hX dX3_findPlan_54 (by decide) (fun h11 => ?_) (fun h11 => ?_)
    · refine wu_t h11 ?_
      refine wg_sub hX [0, 1, 2] rfl ?_
      exact wu_rt (hk8 ())
    refine wu_f h11 ?_
    refine wg_aload_n (pc := 57) hX dX3_findPlan_57 0 rfl ?_
    refine wg_gK (pc := 58) hX hM0 fd_X3_268 (by decide) dX3_findPlan_58 ?_
    refine wg_aload_n (pc := 61) hX dX3_findPlan_61 0 rfl ?_
    refine wg_gK (pc := 62) hX hM0 fd_X3_214 (by decide) dX3_findPlan_62 ?_
    refine wg_iload_n (pc := 65) hX dX3_findPlan_65 3 rfl ?_
    refine wu_ (wg_rI (pc := 66) hX ar_115 dX3_findPlan_66 fun v12 => ?_)
    refine wg_dup2 (pc := 67) hX dX3_findPlan_67 rfl rfl ?_
    refine wu_ (wg_rI (pc := 68) hX ar_133 dX3_findPlan_68 fun v13 => ?_)
    refine wg_iconst (pc := 69) (v := 1) hX dX3_findPlan_69 rfl ?_
    refine wg_iadd (pc := 70) hX dX3_findPlan_70 ?_
    refine wu_ (wg_wI (pc := 71) hX ar_133 dX3_findPlan_71 ?_)
    refine wg_iinc (pc := 72) (v := (x8 + 1)) (l' := [(0, .ref (rid 1 1)), (1, .int a1), (2, .int a2), (3, .int (x8 + 1))]) hX dX3_findPlan_72 3 rfl rfl (by decide) rfl ?_
    refine wg_goto (pc := 75) (tgt := 49) hX dX3_findPlan_75 (by decide) ?_
    exact hrec8 (x8 + 1)
  refine wg_aload_n (pc := 78) hX dX3_findPlan_78 0 rfl ?_
  refine wg_iconst (pc := 79) (v := (-1)) hX dX3_findPlan_79 rfl ?_
  refine wu_ (wg_pI (pc := 80) hX fp_X3_639 (fun h => by cases h) dX3_findPlan_80 ?_)
  refine wg_aload_n (pc := 83) hX dX3_findPlan_83 0 rfl ?_
  refine wg_iconst (pc := 84) (v := 0) hX dX3_findPlan_84 rfl ?_
  refine wg_iconst (pc := 85) (v := 0) hX dX3_findPlan_85 rfl ?_
  refine wg_iload_n (pc := 86) hX dX3_findPlan_86 1 rfl ?_
  refine wg_iload_n (pc := 87) hX dX3_findPlan_87 2 rfl ?_
  refine wu_ (wg_cVv (pc := 88) (As := [.int 0, .int 0, .int a1, .int a2]) (rest := []) hX (m_X3_plans 0 0 a1 a2) (by decide) (by decide) (by decide) rc_X3 (lw_V q2775 q2777 qs153 q163 q2778) hd_X3_plans rfl (Nat.le_of_ble_eq_true rfl) (Nat.le_of_ble_eq_true rfl) (Nat.le_of_ble_eq_true rfl) rfl dX3_findPlan_88 ?_)
  refine wg_iconst (pc := 91) (v := 1) hX dX3_findPlan_91 rfl ?_
  exact wu_rt (wg_zret (pc := 92) hX rfl (by decide) rfl dX3_findPlan_92)
theorem m_X3_plan (a1 : Int32) (a2 : Int32) : amMet yX3_plan cX3_plan 3 (some .int) 21 544 encI [.ref (rid 1 1), .int a1, .int a2] (up (p_X3_plan a1 a2)) := by
  refine amMet.of (own := RX3) (by decide) rfl (Nat.le_of_ble_eq_true rfl) fun X hX hPs => ?_
  change WG X encI 0 [(0, .ref (rid 1 1)), (1, .int a1), (2, .int a2)] [] (bd1 (up (p_X3_plan a1 a2)) rt1)
  unfold p_X3_plan
  refine wg_aload_n (pc := 0) hX dX3_plan_0 0 rfl ?_
  refine wg_iload_n (pc := 1) hX dX3_plan_1 1 rfl ?_
  refine wg_iload_n (pc := 2) hX dX3_plan_2 2 rfl ?_
  refine wu_ (wg_cVi (pc := 3) (As := [.int a1, .int a2]) (rest := []) hX (m_X3_findPlan a1 a2) (by decide) (by decide) (by decide) rc_X3 (lw_V q2771 q2773 qs152 q163 q2774) hd_X3_findPlan rfl (Nat.le_of_ble_eq_true rfl) (Nat.le_of_ble_eq_true rfl) (Nat.le_of_ble_eq_true rfl) rfl dX3_plan_3 fun v1 => ?_)
  refine wg_if_eq (pc := 6) (tgt := 16) hX dX3_plan_6 (by decide) (fun h2 => ?_) (fun h2 => ?_)
  · refine wu_t h2 ?_
    refine wg_iconst (pc := 16) (v := (-1)) hX dX3_plan_16 rfl ?_
    exact wu_rt (wg_iret (pc := 17) hX rfl rfl dX3_plan_17)
  refine wu_f h2 ?_
  refine wg_aload_n (pc := 9) hX dX3_plan_9 0 rfl ?_
  refine wu_ (wg_gI (pc := 10) hX fd_X3_639 dX3_plan_10 fun v3 => ?_)
  refine wg_goto (pc := 13) (tgt := 17) hX dX3_plan_13 (by decide) ?_
  exact wu_rt (wg_iret (pc := 17) hX rfl rfl dX3_plan_17)
theorem m_X3_planned (a1 : Int32) (a2 : Int32) (a3 : Int32) : amMet yX3_planned cX3_planned 6 (some .int) 21 544 encI [.ref (rid 1 1), .int a1, .int a2, .int a3] (up (p_X3_planned a1 a2 a3)) := by
  refine amMet.of (own := RX3) (by decide) rfl (Nat.le_of_ble_eq_true rfl) fun X hX hPs => ?_
  change WG X encI 0 [(0, .ref (rid 1 1)), (1, .int a1), (2, .int a2), (3, .int a3)] [] (bd1 (up (p_X3_planned a1 a2 a3)) rt1)
  unfold p_X3_planned
  refine wg_aload_n (pc := 0) hX dX3_planned_0 0 rfl ?_
  refine wg_iload_n (pc := 1) hX dX3_planned_1 1 rfl ?_
  refine wg_iload_n (pc := 2) hX dX3_planned_2 2 rfl ?_
  refine wu_ (wg_cVi (pc := 3) (As := [.int a1, .int a2]) (rest := []) hX (m_X3_findPlan a1 a2) (by decide) (by decide) (by decide) rc_X3 (lw_V q2771 q2773 qs152 q163 q2774) hd_X3_findPlan rfl (Nat.le_of_ble_eq_true rfl) (Nat.le_of_ble_eq_true rfl) (Nat.le_of_ble_eq_true rfl) rfl dX3_planned_3 fun v1 => ?_)
  refine wg_if_eq (pc := 6) (tgt := 13) hX dX3_planned_6 (by decide) (fun h2 => ?_) (fun h2 => ?_)
  · refine wu_t h2 ?_
    refine wg_iconst (pc := 13) (v := (-1)) hX dX3_planned_13 rfl ?_
    exact wu_rt (wg_iret (pc := 14) hX rfl rfl dX3_planned_14)
  refine wu_f h2 ?_
  refine wg_iload_n (pc := 9) hX dX3_planned_9 3 rfl ?_
  refine wg_if_ge (pc := 10) (tgt := 15) hX dX3_planned_10 (by decide) (fun h3 => ?_) (fun h3 => ?_)
  rotate_left
  · refine wu_f h3 ?_
    refine wg_iconst (pc := 13) (v := (-1)) hX dX3_planned_13 rfl ?_
    exact wu_rt (wg_iret (pc := 14) hX rfl rfl dX3_planned_14)
  refine wu_t h3 ?_
  refine wg_iload_n (pc := 15) hX dX3_planned_15 3 rfl ?_
  refine wg_istore (pc := 16) (l' := [(0, .ref (rid 1 1)), (1, .int a1), (2, .int a2), (3, .int a3), (4, .int a3)]) hX dX3_planned_16 (by decide) rfl ?_
  refine wg_iconst (pc := 18) (v := 0) hX dX3_planned_18 rfl ?_
  refine wg_istore (pc := 19) (l' := [(0, .ref (rid 1 1)), (1, .int a1), (2, .int a2), (3, .int a3), (4, .int a3), (5, .int 0)]) hX dX3_planned_19 (by decide) rfl ?_
  refine wg_sub hX [0, 4, 5] rfl ?_
  refine wu_lp (α := Int32 × Int32) (pcl := 21) (lo := fun x => [(0, .ref (rid 1 1)), (4, .int x.1), (5, .int x.2)]) (so := fun _ => []) (fun rec4 hrec4 x4 => ?_) amFu (a3, 0)
  unfold p_X3_planned_L21
  refine wg_iload (pc := 21) hX dX3_planned_21 2 rfl ?_
  refine wg_bipush (pc := 23) (v := 20) hX dX3_planned_23 rfl ?_
  refine wg_icmp_ge (pc := 25) (tgt := 60) hX dX3_planned_25 (by decide) (fun h5 => ?_) (fun h5 => ?_)
  · refine wu_t h5 ?_
    refine wg_iconst (pc := 60) (v := (-1)) hX dX3_planned_60 rfl ?_
    exact wu_rt (wg_iret (pc := 61) hX rfl rfl dX3_planned_61)
  refine wu_f h5 ?_
  refine wg_aload_n (pc := 28) hX dX3_planned_28 0 rfl ?_
  refine wu_ (wg_gI (pc := 29) hX fd_X3_642 dX3_planned_29 fun v6 => ?_)
  refine wg_iload (pc := 32) hX dX3_planned_32 2 rfl ?_
  refine wg_ishr (pc := 34) hX dX3_planned_34 ?_
  refine wg_iconst (pc := 35) (v := 1) hX dX3_planned_35 rfl ?_
  refine wg_iand (pc := 36) hX dX3_planned_36 ?_
  refine wu_jn (α := Int32) (pcJ := 54) (lJ := fun x => [(0, .ref (rid 1 1)), (4, .int x), (5, .int x4.2)]) (sJ := fun x => []) (fun k7 hk7 => ?_) (fun z7 => ?_)
  · refine wg_if_ne (pc := 37) (tgt := 43) hX dX3_planned_37 (by decide) (fun h8 => ?_) (fun h8 => ?_)
    · refine wu_t h8 ?_
      refine wg_goto (pc := 40) (tgt := 54) hX dX3_planned_40 (by decide) ?_
      exact hk7 x4.1
    refine wu_f h8 ?_
    refine wg_iload (pc := 43) hX dX3_planned_43 1 rfl ?_
    refine wg_if_ne (pc := 45) (tgt := 51) hX dX3_planned_45 (by decide) (fun h9 => ?_) (fun h9 => ?_)
    rotate_left
    · refine wu_f h9 ?_
      refine wg_iinc (pc := 51) (v := (x4.1 + (-1))) (l' := [(0, .ref (rid 1 1)), (4, .int (x4.1 + (-1))), (5, .int x4.2)]) hX dX3_planned_51 1 rfl rfl (by decide) rfl ?_
      exact hk7 (x4.1 + (-1))
    refine wu_t h9 ?_
    refine wg_iload (pc := 48) hX dX3_planned_48 2 rfl ?_
    exact wu_rt (wg_iret (pc := 50) hX rfl rfl dX3_planned_50)
  refine wg_iinc (pc := 54) (v := (x4.2 + 1)) (l' := [(0, .ref (rid 1 1)), (4, .int z7), (5, .int (x4.2 + 1))]) hX dX3_planned_54 2 rfl rfl (by decide) rfl ?_
  refine wg_goto (pc := 57) (tgt := 21) hX dX3_planned_57 (by decide) ?_
  exact hrec4 (z7, (x4.2 + 1))
theorem m_X3_row (a1 : Int32) : amMet yX3_row cX3_row 2 (some .int) 2 54 encI [.ref (rid 1 1), .int a1] (up (p_X3_row a1)) := by
  refine amMet.of (own := RX3) (by decide) rfl (Nat.le_of_ble_eq_true rfl) fun X hX hPs => ?_
  change WG X encI 0 [(0, .ref (rid 1 1)), (1, .int a1)] [] (bd1 (up (p_X3_row a1)) rt1)
  unfold p_X3_row
  have hM0 := amPs.m0 hPs
  refine wu_ (wg_gM ?_)
  refine wg_aload_n (pc := 0) hX dX3_row_0 0 rfl ?_
  refine wg_iconst (pc := 1) (v := 0) hX dX3_row_1 rfl ?_
  refine wu_ (wg_pI (pc := 2) hX fp_X3_297 (fun h => by cases h) dX3_row_2 ?_)
  refine wg_aload_n (pc := 5) hX dX3_row_5 0 rfl ?_
  refine wu_ (wg_gI (pc := 6) hX fd_X3_648 dX3_row_6 fun v1 => ?_)
  refine wg_bipush (pc := 9) (v := 6) hX dX3_row_9 rfl ?_
  refine wg_icmp_eq (pc := 11) (tgt := 23) hX dX3_row_11 (by decide) (fun h2 => ?_) (fun h2 => ?_)
  · refine wu_t h2 ?_
    refine wg_iconst (pc := 23) (v := (-1)) hX dX3_row_23 rfl ?_
    exact wu_rt (wg_iret (pc := 24) hX rfl rfl dX3_row_24)
  refine wu_f h2 ?_
  refine wg_iload_n (pc := 14) hX dX3_row_14 1 rfl ?_
  refine wg_iconst (pc := 15) (v := 0) hX dX3_row_15 rfl ?_
  refine wg_iconst (pc := 16) (v := 3) hX dX3_row_16 rfl ?_
  refine wu_ (wg_cSi (pc := 17) (As := [.int a1, .int 0, .int 3]) (rest := []) hX (m_X3_isIn a1 0 3) (lw_S q2317 q2318 q163 q2319) hd_X3_isIn rfl (Nat.le_of_ble_eq_true rfl) (Nat.le_of_ble_eq_true rfl) (Nat.le_of_ble_eq_true rfl) rfl dX3_row_17 fun v3 => ?_)
  refine wg_if_ne (pc := 20) (tgt := 25) hX dX3_row_20 (by decide) (fun h4 => ?_) (fun h4 => ?_)
  · refine wu_t h4 ?_
    refine wg_iconst (pc := 23) (v := (-1)) hX dX3_row_23 rfl ?_
    exact wu_rt (wg_iret (pc := 24) hX rfl rfl dX3_row_24)
  refine wu_f h4 ?_
  refine wg_aload_n (pc := 25) hX dX3_row_25 0 rfl ?_
  refine wg_gK (pc := 26) hX hM0 fd_X3_278 (by decide) dX3_row_26 ?_
  refine wg_aload_n (pc := 29) hX dX3_row_29 0 rfl ?_
  refine wu_ (wg_gI (pc := 30) hX fd_X3_648 dX3_row_30 fun v5 => ?_)
  refine wg_iload_n (pc := 33) hX dX3_row_33 1 rfl ?_
  refine wu_ (wg_wI (pc := 34) hX ar_136 dX3_row_34 ?_)
  refine wg_aload_n (pc := 35) hX dX3_row_35 0 rfl ?_
  refine wg_dup (pc := 36) hX dX3_row_36 rfl ?_
  refine wu_ (wg_gI (pc := 37) hX fd_X3_648 dX3_row_37 fun v6 => ?_)
  refine wg_iconst (pc := 40) (v := 1) hX dX3_row_40 rfl ?_
  refine wg_iadd (pc := 41) hX dX3_row_41 ?_
  refine wu_ (wg_pI (pc := 42) hX fp_X3_648 (fun h => by cases h) dX3_row_42 ?_)
  refine wg_aload_n (pc := 45) hX dX3_row_45 0 rfl ?_
  refine wu_ (wg_gI (pc := 46) hX fd_X3_648 dX3_row_46 fun v7 => ?_)
  refine wg_iconst (pc := 49) (v := 1) hX dX3_row_49 rfl ?_
  refine wg_isub (pc := 50) hX dX3_row_50 ?_
  exact wu_rt (wg_iret (pc := 51) hX rfl rfl dX3_row_51)
theorem m_X3_isRow (a1 : Int32) : amMet yX3_isRow cX3_isRow 2 (some .boolean) 1 32 encI [.ref (rid 1 1), .int a1] (up (p_X3_isRow a1)) := by
  refine amMet.of (own := RX3) (by decide) rfl (Nat.le_of_ble_eq_true rfl) fun X hX hPs => ?_
  change WG X encI 0 [(0, .ref (rid 1 1)), (1, .int a1)] [] (bd1 (up (p_X3_isRow a1)) rt1)
  unfold p_X3_isRow
  refine wg_iload_n (pc := 0) hX dX3_isRow_0 1 rfl ?_
  refine wu_jn (α := Unit) (pcJ := 16) (lJ := fun x => []) (sJ := fun x => []) (fun k1 hk1 => ?_) (fun z1 => ?_)
  · refine wg_if_lt (pc := 1) (tgt := 16) hX dX3_isRow_1 (by decide) (fun h2 => ?_) (fun h2 => ?_)
    · refine wu_t h2 ?_
      refine wg_sub hX [] rfl ?_
      exact hk1 ()
    refine wu_f h2 ?_
    refine wg_iload_n (pc := 4) hX dX3_isRow_4 1 rfl ?_
    refine wg_aload_n (pc := 5) hX dX3_isRow_5 0 rfl ?_
    refine wu_ (wg_gI (pc := 6) hX fd_X3_648 dX3_isRow_6 fun v3 => ?_)
    refine wg_icmp_ge (pc := 9) (tgt := 16) hX dX3_isRow_9 (by decide) (fun h4 => ?_) (fun h4 => ?_)
    · refine wu_t h4 ?_
      refine wg_sub hX [] rfl ?_
      exact hk1 ()
    refine wu_f h4 ?_
    refine wg_iconst (pc := 12) (v := 1) hX dX3_isRow_12 rfl ?_
    refine wg_goto (pc := 13) (tgt := 17) hX dX3_isRow_13 (by decide) ?_
    exact wu_rt (wg_zret (pc := 17) hX rfl (by decide) rfl dX3_isRow_17)
  refine wg_iconst (pc := 16) (v := 0) hX dX3_isRow_16 rfl ?_
  exact wu_rt (wg_zret (pc := 17) hX rfl (by decide) rfl dX3_isRow_17)
theorem m_X3_put (a1 : Int32) (a2 : Int32) (a3 : Int32) : amMet yX3_put cX3_put 5 (some .boolean) 2 54 encI [.ref (rid 1 1), .int a1, .int a2, .int a3] (up (p_X3_put a1 a2 a3)) := by
  refine amMet.of (own := RX3) (by decide) rfl (Nat.le_of_ble_eq_true rfl) fun X hX hPs => ?_
  change WG X encI 0 [(0, .ref (rid 1 1)), (1, .int a1), (2, .int a2), (3, .int a3)] [] (bd1 (up (p_X3_put a1 a2 a3)) rt1)
  unfold p_X3_put
  have hM0 := amPs.m0 hPs
  refine wu_ (wg_gM ?_)
  refine wg_aload_n (pc := 0) hX dX3_put_0 0 rfl ?_
  refine wg_iconst (pc := 1) (v := 0) hX dX3_put_1 rfl ?_
  refine wu_ (wg_pI (pc := 2) hX fp_X3_297 (fun h => by cases h) dX3_put_2 ?_)
  refine wg_aload_n (pc := 5) hX dX3_put_5 0 rfl ?_
  refine wg_iload_n (pc := 6) hX dX3_put_6 1 rfl ?_
  refine wu_ (wg_cVi (pc := 7) (As := [.int a1]) (rest := []) hX (m_X3_isRow a1) (by decide) (by decide) (by decide) rc_X3 (lw_V q2795 q2797 qs155 q163 q2798) hd_X3_isRow rfl (Nat.le_of_ble_eq_true rfl) (Nat.le_of_ble_eq_true rfl) (Nat.le_of_ble_eq_true rfl) rfl dX3_put_7 fun v1 => ?_)
  refine wg_if_eq (pc := 10) (tgt := 42) hX dX3_put_10 (by decide) (fun h2 => ?_) (fun h2 => ?_)
  · refine wu_t h2 ?_
    refine wg_iconst (pc := 42) (v := 0) hX dX3_put_42 rfl ?_
    exact wu_rt (wg_zret (pc := 43) hX rfl (by decide) rfl dX3_put_43)
  refine wu_f h2 ?_
  refine wg_iload_n (pc := 13) hX dX3_put_13 2 rfl ?_
  refine wu_ (wg_cSi (pc := 14) (As := [.int a2]) (rest := []) hX (m_X3_isCorner a2) (lw_S q2314 q2315 q163 q2316) hd_X3_isCorner rfl (Nat.le_of_ble_eq_true rfl) (Nat.le_of_ble_eq_true rfl) (Nat.le_of_ble_eq_true rfl) rfl dX3_put_14 fun v3 => ?_)
  refine wg_if_eq (pc := 17) (tgt := 42) hX dX3_put_17 (by decide) (fun h4 => ?_) (fun h4 => ?_)
  · refine wu_t h4 ?_
    refine wg_iconst (pc := 42) (v := 0) hX dX3_put_42 rfl ?_
    exact wu_rt (wg_zret (pc := 43) hX rfl (by decide) rfl dX3_put_43)
  refine wu_f h4 ?_
  refine wg_iload_n (pc := 20) hX dX3_put_20 3 rfl ?_
  refine wg_ldcw (pc := 21) hX dX3_put_21 q2799 ?_
  refine wg_ldcw (pc := 24) hX dX3_put_24 q1940 ?_
  refine wu_ (wg_cSi (pc := 27) (As := [.int a3, .int (-1000000), .int 1000000]) (rest := []) hX (m_X3_isIn a3 (-1000000) 1000000) (lw_S q2317 q2318 q163 q2319) hd_X3_isIn rfl (Nat.le_of_ble_eq_true rfl) (Nat.le_of_ble_eq_true rfl) (Nat.le_of_ble_eq_true rfl) rfl dX3_put_27 fun v5 => ?_)
  refine wg_if_eq (pc := 30) (tgt := 42) hX dX3_put_30 (by decide) (fun h6 => ?_) (fun h6 => ?_)
  · refine wu_t h6 ?_
    refine wg_iconst (pc := 42) (v := 0) hX dX3_put_42 rfl ?_
    exact wu_rt (wg_zret (pc := 43) hX rfl (by decide) rfl dX3_put_43)
  refine wu_f h6 ?_
  refine wg_aload_n (pc := 33) hX dX3_put_33 0 rfl ?_
  refine wg_gK (pc := 34) hX hM0 fd_X3_281 (by decide) dX3_put_34 ?_
  refine wg_iload_n (pc := 37) hX dX3_put_37 1 rfl ?_
  refine wu_ (wg_rZ (pc := 38) hX ar_137 dX3_put_38 fun v7 => ?_)
  refine wg_if_eq (pc := 39) (tgt := 44) hX dX3_put_39 (by decide) (fun h8 => ?_) (fun h8 => ?_)
  rotate_left
  · refine wu_f h8 ?_
    refine wg_iconst (pc := 42) (v := 0) hX dX3_put_42 rfl ?_
    exact wu_rt (wg_zret (pc := 43) hX rfl (by decide) rfl dX3_put_43)
  refine wu_t h8 ?_
  refine wg_bipush (pc := 44) (v := 20) hX dX3_put_44 rfl ?_
  refine wg_iload_n (pc := 46) hX dX3_put_46 1 rfl ?_
  refine wg_imul (pc := 47) hX dX3_put_47 ?_
  refine wg_iload_n (pc := 48) hX dX3_put_48 2 rfl ?_
  refine wg_iadd (pc := 49) hX dX3_put_49 ?_
  refine wu_ (wg_nmi hX fun v9 => ?_)
  refine wg_istore (pc := 50) (l' := [(0, .ref (rid 1 1)), (1, .int a1), (2, .int a2), (3, .int a3), (4, .int v9)]) hX dX3_put_50 (by decide) rfl ?_
  refine wg_aload_n (pc := 52) hX dX3_put_52 0 rfl ?_
  refine wg_gK (pc := 53) hX hM0 fd_X3_278 (by decide) dX3_put_53 ?_
  refine wg_iload_n (pc := 56) hX dX3_put_56 1 rfl ?_
  refine wu_ (wg_rI (pc := 57) hX ar_136 dX3_put_57 fun v10 => ?_)
  by_cases h11 : v10 = 0
  · refine wu_t h11 ?_
    refine wg_tableIn (pc := 58) hX dX3_put_58 (by rw [h11]; decide) (by rw [h11]; decide) (by rw [h11]; rfl) (by decide : ((58 : Nat) : Int) + 26 = ((84 : Nat) : Int)) ?_
    refine wg_aload_n (pc := 84) hX dX3_put_84 0 rfl ?_
    refine wg_gK (pc := 85) hX hM0 fd_X3_271 (by decide) dX3_put_85 ?_
    refine wg_iload (pc := 88) hX dX3_put_88 4 rfl ?_
    refine wg_iload_n (pc := 90) hX dX3_put_90 3 rfl ?_
    refine wg_i2b (pc := 91) hX dX3_put_91 ?_
    refine wg_i2d (pc := 92) hX dX3_put_92 ?_
    refine wu_ (wg_wD (pc := 93) hX ar_134 dX3_put_93 ?_)
    refine wg_iconst (pc := 94) (v := 1) hX dX3_put_94 rfl ?_
    exact wu_rt (wg_zret (pc := 95) hX rfl (by decide) rfl dX3_put_95)
  refine wu_f h11 ?_
  by_cases h12 : v10 = 1
  · refine wu_t h12 ?_
    refine wg_tableIn (pc := 58) hX dX3_put_58 (by rw [h12]; decide) (by rw [h12]; decide) (by rw [h12]; rfl) (by decide : ((58 : Nat) : Int) + 38 = ((96 : Nat) : Int)) ?_
    refine wg_aload_n (pc := 96) hX dX3_put_96 0 rfl ?_
    refine wg_gK (pc := 97) hX hM0 fd_X3_271 (by decide) dX3_put_97 ?_
    refine wg_iload (pc := 100) hX dX3_put_100 4 rfl ?_
    refine wg_iload_n (pc := 102) hX dX3_put_102 3 rfl ?_
    refine wg_i2s (pc := 103) hX dX3_put_103 ?_
    refine wg_i2d (pc := 104) hX dX3_put_104 ?_
    refine wu_ (wg_wD (pc := 105) hX ar_134 dX3_put_105 ?_)
    refine wg_iconst (pc := 106) (v := 1) hX dX3_put_106 rfl ?_
    exact wu_rt (wg_zret (pc := 107) hX rfl (by decide) rfl dX3_put_107)
  refine wu_f h12 ?_
  by_cases h13 : v10 = 2
  · refine wu_t h13 ?_
    refine wg_tableIn (pc := 58) hX dX3_put_58 (by rw [h13]; decide) (by rw [h13]; decide) (by rw [h13]; rfl) (by decide : ((58 : Nat) : Int) + 50 = ((108 : Nat) : Int)) ?_
    refine wg_aload_n (pc := 108) hX dX3_put_108 0 rfl ?_
    refine wg_gK (pc := 109) hX hM0 fd_X3_271 (by decide) dX3_put_109 ?_
    refine wg_iload (pc := 112) hX dX3_put_112 4 rfl ?_
    refine wg_iload_n (pc := 114) hX dX3_put_114 3 rfl ?_
    refine wg_i2d (pc := 115) hX dX3_put_115 ?_
    refine wu_ (wg_wD (pc := 116) hX ar_134 dX3_put_116 ?_)
    refine wg_iconst (pc := 117) (v := 1) hX dX3_put_117 rfl ?_
    exact wu_rt (wg_zret (pc := 118) hX rfl (by decide) rfl dX3_put_118)
  refine wu_f h13 ?_
  refine wg_tableOut (pc := 58) hX dX3_put_58 (am_out3 h11 h12 h13) (by decide : ((58 : Nat) : Int) + 61 = ((119 : Nat) : Int)) ?_
  refine wg_aload_n (pc := 119) hX dX3_put_119 0 rfl ?_
  refine wg_gK (pc := 120) hX hM0 fd_X3_271 (by decide) dX3_put_120 ?_
  refine wg_iload (pc := 123) hX dX3_put_123 4 rfl ?_
  refine wg_iload_n (pc := 125) hX dX3_put_125 3 rfl ?_
  refine wg_ldcw (pc := 126) hX dX3_put_126 q2799 ?_
  refine wu_jx (α := UInt64) (pcJ := 145) (lJ := fun x => []) (sJ := fun x => [.double x, .int v9, .ref (rid 134 1)]) (fun K14 hk14 => ?_) (fun z14 => ?_)
  · refine wg_icmp_ne (pc := 129) (tgt := 138) hX dX3_put_129 (by decide) (fun h15 => ?_) (fun h15 => ?_)
    · refine wu_t h15 ?_
      refine wg_ldc2d (pc := 132) hX dX3_put_132 q2800 ?_
      refine wg_goto (pc := 135) (tgt := 145) hX dX3_put_135 (by decide) ?_
      refine wg_sub hX [] rfl ?_
      exact wu_rt (hk14 9221120237041090560)
    refine wu_f h15 ?_
    refine wg_iload_n (pc := 138) hX dX3_put_138 3 rfl ?_
    refine wg_i2f (pc := 139) hX dX3_put_139 ?_
    refine wg_ldcfw (pc := 140) hX dX3_put_140 q2801 ?_
    refine wu_ (wg_gd fun h16 => ?_)
    refine wg_fdiv (pc := 143) hX dX3_put_143 h16 ?_
    refine wu_ (wg_gd fun h17 => ?_)
    refine wg_f2d (pc := 144) hX dX3_put_144 h17 ?_
    refine wg_sub hX [] rfl ?_
    exact wu_rt (hk14 (FP.f2d (FP.fdiv (FP.i2f a3) 1090519040)))
  refine wu_ (wg_wD (pc := 145) hX ar_134 dX3_put_145 ?_)
  refine wg_iconst (pc := 146) (v := 1) hX dX3_put_146 rfl ?_
  exact wu_rt (wg_zret (pc := 147) hX rfl (by decide) rfl dX3_put_147)
theorem m_X3_lose (a1 : Int32) : amMet yX3_lose cX3_lose 2 (some .boolean) 2 53 encI [.ref (rid 1 1), .int a1] (up (p_X3_lose a1)) := by
  refine amMet.of (own := RX3) (by decide) rfl (Nat.le_of_ble_eq_true rfl) fun X hX hPs => ?_
  change WG X encI 0 [(0, .ref (rid 1 1)), (1, .int a1)] [] (bd1 (up (p_X3_lose a1)) rt1)
  unfold p_X3_lose
  have hM0 := amPs.m0 hPs
  refine wu_ (wg_gM ?_)
  refine wg_aload_n (pc := 0) hX dX3_lose_0 0 rfl ?_
  refine wg_iconst (pc := 1) (v := 0) hX dX3_lose_1 rfl ?_
  refine wu_ (wg_pI (pc := 2) hX fp_X3_297 (fun h => by cases h) dX3_lose_2 ?_)
  refine wg_aload_n (pc := 5) hX dX3_lose_5 0 rfl ?_
  refine wg_iload_n (pc := 6) hX dX3_lose_6 1 rfl ?_
  refine wu_ (wg_cVi (pc := 7) (As := [.int a1]) (rest := []) hX (m_X3_isRow a1) (by decide) (by decide) (by decide) rc_X3 (lw_V q2795 q2797 qs155 q163 q2798) hd_X3_isRow rfl (Nat.le_of_ble_eq_true rfl) (Nat.le_of_ble_eq_true rfl) (Nat.le_of_ble_eq_true rfl) rfl dX3_lose_7 fun v1 => ?_)
  refine wg_if_eq (pc := 10) (tgt := 22) hX dX3_lose_10 (by decide) (fun h2 => ?_) (fun h2 => ?_)
  · refine wu_t h2 ?_
    refine wg_iconst (pc := 22) (v := 0) hX dX3_lose_22 rfl ?_
    exact wu_rt (wg_zret (pc := 23) hX rfl (by decide) rfl dX3_lose_23)
  refine wu_f h2 ?_
  refine wg_aload_n (pc := 13) hX dX3_lose_13 0 rfl ?_
  refine wg_gK (pc := 14) hX hM0 fd_X3_281 (by decide) dX3_lose_14 ?_
  refine wg_iload_n (pc := 17) hX dX3_lose_17 1 rfl ?_
  refine wu_ (wg_rZ (pc := 18) hX ar_137 dX3_lose_18 fun v3 => ?_)
  refine wg_if_eq (pc := 19) (tgt := 24) hX dX3_lose_19 (by decide) (fun h4 => ?_) (fun h4 => ?_)
  rotate_left
  · refine wu_f h4 ?_
    refine wg_iconst (pc := 22) (v := 0) hX dX3_lose_22 rfl ?_
    exact wu_rt (wg_zret (pc := 23) hX rfl (by decide) rfl dX3_lose_23)
  refine wu_t h4 ?_
  refine wg_aload_n (pc := 24) hX dX3_lose_24 0 rfl ?_
  refine wg_gK (pc := 25) hX hM0 fd_X3_281 (by decide) dX3_lose_25 ?_
  refine wg_iload_n (pc := 28) hX dX3_lose_28 1 rfl ?_
  refine wg_iconst (pc := 29) (v := 1) hX dX3_lose_29 rfl ?_
  refine wu_ (wg_wZ (pc := 30) hX ar_137 (by decide) dX3_lose_30 ?_)
  refine wg_iconst (pc := 31) (v := 1) hX dX3_lose_31 rfl ?_
  exact wu_rt (wg_zret (pc := 32) hX rfl (by decide) rfl dX3_lose_32)
theorem m_X3_isWithin (a1 : Int32) (a2 : Int32) : amMet yX3_isWithin cX3_isWithin 2 (some .boolean) 1 32 encI [.int a1, .int a2] (up (p_X3_isWithin a1 a2)) := by
  refine amMet.of (own := RX3) (by decide) rfl (Nat.le_of_ble_eq_true rfl) fun X hX hPs => ?_
  change WG X encI 0 [(0, .int a1), (1, .int a2)] [] (bd1 (up (p_X3_isWithin a1 a2)) rt1)
  unfold p_X3_isWithin
  refine wg_iload_n (pc := 0) hX dX3_isWithin_0 0 rfl ?_
  refine wu_jn (α := Unit) (pcJ := 26) (lJ := fun x => []) (sJ := fun x => []) (fun k1 hk1 => ?_) (fun z1 => ?_)
  · refine wg_if_lt (pc := 1) (tgt := 26) hX dX3_isWithin_1 (by decide) (fun h2 => ?_) (fun h2 => ?_)
    · refine wu_t h2 ?_
      refine wg_sub hX [] rfl ?_
      exact hk1 ()
    refine wu_f h2 ?_
    refine wg_iload_n (pc := 4) hX dX3_isWithin_4 1 rfl ?_
    refine wg_if_lt (pc := 5) (tgt := 26) hX dX3_isWithin_5 (by decide) (fun h3 => ?_) (fun h3 => ?_)
    · refine wu_t h3 ?_
      refine wg_sub hX [] rfl ?_
      exact hk1 ()
    refine wu_f h3 ?_
    refine wg_iload_n (pc := 8) hX dX3_isWithin_8 0 rfl ?_
    refine wg_bipush (pc := 9) (v := 20) hX dX3_isWithin_9 rfl ?_
    refine wg_icmp_gt (pc := 11) (tgt := 26) hX dX3_isWithin_11 (by decide) (fun h4 => ?_) (fun h4 => ?_)
    · refine wu_t h4 ?_
      refine wg_sub hX [] rfl ?_
      exact hk1 ()
    refine wu_f h4 ?_
    refine wg_iload_n (pc := 14) hX dX3_isWithin_14 1 rfl ?_
    refine wg_bipush (pc := 15) (v := 20) hX dX3_isWithin_15 rfl ?_
    refine wg_iload_n (pc := 17) hX dX3_isWithin_17 0 rfl ?_
    refine wg_isub (pc := 18) hX dX3_isWithin_18 ?_
    refine wg_icmp_gt (pc := 19) (tgt := 26) hX dX3_isWithin_19 (by decide) (fun h5 => ?_) (fun h5 => ?_)
    · refine wu_t h5 ?_
      refine wg_sub hX [] rfl ?_
      exact hk1 ()
    refine wu_f h5 ?_
    refine wg_iconst (pc := 22) (v := 1) hX dX3_isWithin_22 rfl ?_
    refine wg_goto (pc := 23) (tgt := 27) hX dX3_isWithin_23 (by decide) ?_
    exact wu_rt (wg_zret (pc := 27) hX rfl (by decide) rfl dX3_isWithin_27)
  refine wg_iconst (pc := 26) (v := 0) hX dX3_isWithin_26 rfl ?_
  exact wu_rt (wg_zret (pc := 27) hX rfl (by decide) rfl dX3_isWithin_27)
theorem m_X3_copy (a1 : Int32) (a2 : Int32) (a3 : Int32) (a4 : Int32) (a5 : Int32) : amMet yX3_copy cX3_copy 7 (some .int) 2 53 encI [.ref (rid 1 1), .int a1, .int a2, .int a3, .int a4, .int a5] (up (p_X3_copy a1 a2 a3 a4 a5)) := by
  refine amMet.of (own := RX3) (by decide) rfl (Nat.le_of_ble_eq_true rfl) fun X hX hPs => ?_
  change WG X encI 0 [(0, .ref (rid 1 1)), (1, .int a1), (2, .int a2), (3, .int a3), (4, .int a4), (5, .int a5)] [] (bd1 (up (p_X3_copy a1 a2 a3 a4 a5)) rt1)
  unfold p_X3_copy
  have hM0 := amPs.m0 hPs
  refine wu_ (wg_gM ?_)
  refine wg_aload_n (pc := 0) hX dX3_copy_0 0 rfl ?_
  refine wg_iconst (pc := 1) (v := 0) hX dX3_copy_1 rfl ?_
  refine wu_ (wg_pI (pc := 2) hX fp_X3_297 (fun h => by cases h) dX3_copy_2 ?_)
  refine wg_aload_n (pc := 5) hX dX3_copy_5 0 rfl ?_
  refine wg_iload_n (pc := 6) hX dX3_copy_6 1 rfl ?_
  refine wu_ (wg_cVi (pc := 7) (As := [.int a1]) (rest := []) hX (m_X3_isRow a1) (by decide) (by decide) (by decide) rc_X3 (lw_V q2795 q2797 qs155 q163 q2798) hd_X3_isRow rfl (Nat.le_of_ble_eq_true rfl) (Nat.le_of_ble_eq_true rfl) (Nat.le_of_ble_eq_true rfl) rfl dX3_copy_7 fun v1 => ?_)
  refine wg_if_eq (pc := 10) (tgt := 21) hX dX3_copy_10 (by decide) (fun h2 => ?_) (fun h2 => ?_)
  · refine wu_t h2 ?_
    refine wg_iconst (pc := 21) (v := 1) hX dX3_copy_21 rfl ?_
    exact wu_rt (wg_iret (pc := 22) hX rfl rfl dX3_copy_22)
  refine wu_f h2 ?_
  refine wg_aload_n (pc := 13) hX dX3_copy_13 0 rfl ?_
  refine wg_iload_n (pc := 14) hX dX3_copy_14 3 rfl ?_
  refine wu_ (wg_cVi (pc := 15) (As := [.int a3]) (rest := []) hX (m_X3_isRow a3) (by decide) (by decide) (by decide) rc_X3 (lw_V q2795 q2797 qs155 q163 q2798) hd_X3_isRow rfl (Nat.le_of_ble_eq_true rfl) (Nat.le_of_ble_eq_true rfl) (Nat.le_of_ble_eq_true rfl) rfl dX3_copy_15 fun v3 => ?_)
  refine wg_if_ne (pc := 18) (tgt := 23) hX dX3_copy_18 (by decide) (fun h4 => ?_) (fun h4 => ?_)
  · refine wu_t h4 ?_
    refine wg_iconst (pc := 21) (v := 1) hX dX3_copy_21 rfl ?_
    exact wu_rt (wg_iret (pc := 22) hX rfl rfl dX3_copy_22)
  refine wu_f h4 ?_
  refine wg_aload_n (pc := 23) hX dX3_copy_23 0 rfl ?_
  refine wg_gK (pc := 24) hX hM0 fd_X3_281 (by decide) dX3_copy_24 ?_
  refine wg_iload_n (pc := 27) hX dX3_copy_27 1 rfl ?_
  refine wu_ (wg_rZ (pc := 28) hX ar_137 dX3_copy_28 fun v5 => ?_)
  refine wg_if_ne (pc := 29) (tgt := 41) hX dX3_copy_29 (by decide) (fun h6 => ?_) (fun h6 => ?_)
  rotate_left
  · refine wu_f h6 ?_
    refine wg_iconst (pc := 41) (v := 2) hX dX3_copy_41 rfl ?_
    exact wu_rt (wg_iret (pc := 42) hX rfl rfl dX3_copy_42)
  refine wu_t h6 ?_
  refine wg_aload_n (pc := 32) hX dX3_copy_32 0 rfl ?_
  refine wg_gK (pc := 33) hX hM0 fd_X3_281 (by decide) dX3_copy_33 ?_
  refine wg_iload_n (pc := 36) hX dX3_copy_36 3 rfl ?_
  refine wu_ (wg_rZ (pc := 37) hX ar_137 dX3_copy_37 fun v7 => ?_)
  refine wg_if_eq (pc := 38) (tgt := 43) hX dX3_copy_38 (by decide) (fun h8 => ?_) (fun h8 => ?_)
  rotate_left
  · refine wu_f h8 ?_
    refine wg_iconst (pc := 41) (v := 2) hX dX3_copy_41 rfl ?_
    exact wu_rt (wg_iret (pc := 42) hX rfl rfl dX3_copy_42)
  refine wu_t h8 ?_
  refine wg_aload_n (pc := 43) hX dX3_copy_43 0 rfl ?_
  refine wg_gK (pc := 44) hX hM0 fd_X3_278 (by decide) dX3_copy_44 ?_
  refine wg_iload_n (pc := 47) hX dX3_copy_47 1 rfl ?_
  refine wu_ (wg_rI (pc := 48) hX ar_136 dX3_copy_48 fun v9 => ?_)
  refine wg_aload_n (pc := 49) hX dX3_copy_49 0 rfl ?_
  refine wg_gK (pc := 50) hX hM0 fd_X3_278 (by decide) dX3_copy_50 ?_
  refine wg_iload_n (pc := 53) hX dX3_copy_53 3 rfl ?_
  refine wu_ (wg_rI (pc := 54) hX ar_136 dX3_copy_54 fun v10 => ?_)
  refine wg_icmp_eq (pc := 55) (tgt := 60) hX dX3_copy_55 (by decide) (fun h11 => ?_) (fun h11 => ?_)
  rotate_left
  · refine wu_f h11 ?_
    refine wg_iconst (pc := 58) (v := 3) hX dX3_copy_58 rfl ?_
    exact wu_rt (wg_iret (pc := 59) hX rfl rfl dX3_copy_59)
  refine wu_t h11 ?_
  refine wg_iload_n (pc := 60) hX dX3_copy_60 2 rfl ?_
  refine wg_iload (pc := 61) hX dX3_copy_61 5 rfl ?_
  refine wu_ (wg_cSi (pc := 63) (As := [.int a2, .int a5]) (rest := []) hX (m_X3_isWithin a2 a5) (lw_S q2810 q2811 q163 q2812) hd_X3_isWithin rfl (Nat.le_of_ble_eq_true rfl) (Nat.le_of_ble_eq_true rfl) (Nat.le_of_ble_eq_true rfl) rfl dX3_copy_63 fun v12 => ?_)
  refine wg_if_eq (pc := 66) (tgt := 79) hX dX3_copy_66 (by decide) (fun h13 => ?_) (fun h13 => ?_)
  · refine wu_t h13 ?_
    refine wg_iconst (pc := 79) (v := 4) hX dX3_copy_79 rfl ?_
    exact wu_rt (wg_iret (pc := 80) hX rfl rfl dX3_copy_80)
  refine wu_f h13 ?_
  refine wg_iload (pc := 69) hX dX3_copy_69 4 rfl ?_
  refine wg_iload (pc := 71) hX dX3_copy_71 5 rfl ?_
  refine wu_ (wg_cSi (pc := 73) (As := [.int a4, .int a5]) (rest := []) hX (m_X3_isWithin a4 a5) (lw_S q2810 q2811 q163 q2812) hd_X3_isWithin rfl (Nat.le_of_ble_eq_true rfl) (Nat.le_of_ble_eq_true rfl) (Nat.le_of_ble_eq_true rfl) rfl dX3_copy_73 fun v14 => ?_)
  refine wg_if_ne (pc := 76) (tgt := 81) hX dX3_copy_76 (by decide) (fun h15 => ?_) (fun h15 => ?_)
  · refine wu_t h15 ?_
    refine wg_iconst (pc := 79) (v := 4) hX dX3_copy_79 rfl ?_
    exact wu_rt (wg_iret (pc := 80) hX rfl rfl dX3_copy_80)
  refine wu_f h15 ?_
  refine wg_iconst (pc := 81) (v := 0) hX dX3_copy_81 rfl ?_
  refine wg_istore (pc := 82) (l' := [(0, .ref (rid 1 1)), (1, .int a1), (2, .int a2), (3, .int a3), (4, .int a4), (5, .int a5), (6, .int 0)]) hX dX3_copy_82 (by decide) rfl ?_
  refine wu_lpx (α := Int32) (γ := Unit) (pcl := 84) (pcT := 118) (lo := fun x => [(0, .ref (rid 1 1)), (1, .int a1), (2, .int a2), (3, .int a3), (4, .int a4), (5, .int a5), (6, .int x)]) (so := fun _ => []) (lT := fun x => [(0, .ref (rid 1 1)), (3, .int a3), (4, .int a4), (5, .int a5)]) (sT := fun _ => []) (n := amFu) (x0 := 0) (fun K16 rec16 hrec16 hk16 x16 => ?_) (fun y17 => ?_)
  · unfold p_X3_copy_L84
    refine wg_iload (pc := 84) hX dX3_copy_84 6 rfl ?_
    refine wg_iload (pc := 86) hX dX3_copy_86 5 rfl ?_
    refine wg_icmp_ge (pc := 88) (tgt := 118) hX dX3_copy_88 (by decide) (fun h18 => ?_) (fun h18 => ?_)
    · refine wu_t h18 ?_
      refine wg_sub hX [0, 3, 4, 5] rfl ?_
      exact wu_rt (hk16 ())
    refine wu_f h18 ?_
    refine wg_aload_n (pc := 91) hX dX3_copy_91 0 rfl ?_
    refine wg_gK (pc := 92) hX hM0 fd_X3_275 (by decide) dX3_copy_92 ?_
    refine wg_iload (pc := 95) hX dX3_copy_95 6 rfl ?_
    refine wg_aload_n (pc := 97) hX dX3_copy_97 0 rfl ?_
    refine wg_gK (pc := 98) hX hM0 fd_X3_271 (by decide) dX3_copy_98 ?_
    refine wg_bipush (pc := 101) (v := 20) hX dX3_copy_101 rfl ?_
    refine wg_iload_n (pc := 103) hX dX3_copy_103 1 rfl ?_
    refine wg_imul (pc := 104) hX dX3_copy_104 ?_
    refine wg_iload_n (pc := 105) hX dX3_copy_105 2 rfl ?_
    refine wg_iadd (pc := 106) hX dX3_copy_106 ?_
    refine wg_iload (pc := 107) hX dX3_copy_107 6 rfl ?_
    refine wg_iadd (pc := 109) hX dX3_copy_109 ?_
    refine wu_ (wg_rD (pc := 110) hX ar_134 dX3_copy_110 fun v19 => ?_)
    refine wu_ (wg_wD (pc := 111) hX ar_135 dX3_copy_111 ?_)
    refine wg_iinc (pc := 112) (v := (x16 + 1)) (l' := [(0, .ref (rid 1 1)), (1, .int a1), (2, .int a2), (3, .int a3), (4, .int a4), (5, .int a5), (6, .int (x16 + 1))]) hX dX3_copy_112 6 rfl rfl (by decide) rfl ?_
    refine wg_goto (pc := 115) (tgt := 84) hX dX3_copy_115 (by decide) ?_
    exact hrec16 (x16 + 1)
  refine wg_iconst (pc := 118) (v := 0) hX dX3_copy_118 rfl ?_
  refine wg_istore (pc := 119) (l' := [(0, .ref (rid 1 1)), (3, .int a3), (4, .int a4), (5, .int a5), (6, .int 0)]) hX dX3_copy_119 (by decide) rfl ?_
  refine wu_lpx (α := Int32) (γ := Unit) (pcl := 121) (pcT := 156) (lo := fun x => [(0, .ref (rid 1 1)), (3, .int a3), (4, .int a4), (5, .int a5), (6, .int x)]) (so := fun _ => []) (lT := fun x => []) (sT := fun _ => []) (n := amFu) (x0 := 0) (fun K20 rec20 hrec20 hk20 x20 => ?_) (fun y21 => ?_)
  · unfold p_X3_copy_L121
    refine wg_iload (pc := 121) hX dX3_copy_121 4 rfl ?_
    refine wg_iload (pc := 123) hX dX3_copy_123 3 rfl ?_
    refine wg_icmp_ge (pc := 125) (tgt := 156) hX dX3_copy_125 (by decide) (fun h22 => ?_) (fun h22 => ?_)
    · refine wu_t h22 ?_
      refine wg_sub hX [] rfl ?_
      exact wu_rt (hk20 ())
    refine wu_f h22 ?_
    refine wg_aload_n (pc := 128) hX dX3_copy_128 0 rfl ?_
    refine wg_gK (pc := 129) hX hM0 fd_X3_271 (by decide) dX3_copy_129 ?_
    refine wg_bipush (pc := 132) (v := 20) hX dX3_copy_132 rfl ?_
    refine wg_iload_n (pc := 134) hX dX3_copy_134 1 rfl ?_
    refine wg_imul (pc := 135) hX dX3_copy_135 ?_
    refine wg_iload (pc := 136) hX dX3_copy_136 2 rfl ?_
    refine wg_iadd (pc := 138) hX dX3_copy_138 ?_
    refine wg_iload (pc := 139) hX dX3_copy_139 4 rfl ?_
    refine wg_iadd (pc := 141) hX dX3_copy_141 ?_
    refine wg_aload_n (pc := 142) hX dX3_copy_142 0 rfl ?_
    refine wg_gK (pc := 143) hX hM0 fd_X3_275 (by decide) dX3_copy_143 ?_
    refine wg_iload (pc := 146) hX dX3_copy_146 4 rfl ?_
    refine wu_ (wg_rD (pc := 148) hX ar_135 dX3_copy_148 fun v23 => ?_)
    refine wu_ (wg_wD (pc := 149) hX ar_134 dX3_copy_149 ?_)
    refine wg_iinc (pc := 150) (v := (x20 + 1)) (l' := [(0, .ref (rid 1 1)), (3, .int a3), (4, .int a4), (5, .int a5), (6, .int (x20 + 1))]) hX dX3_copy_150 4 rfl rfl (by decide) rfl ?_
    refine wg_goto (pc := 153) (tgt := 121) hX dX3_copy_153 (by decide) ?_
    exact hrec20 (x20 + 1)
  refine wg_iconst (pc := 156) (v := 0) hX dX3_copy_156 rfl ?_
  exact wu_rt (wg_iret (pc := 157) hX rfl rfl dX3_copy_157)
theorem m_X3_canJudge (a1 : Int32) (a2 : Int32) (a3 : Int32) : amMet yX3_canJudge cX3_canJudge 4 (some .boolean) 2 54 encI [.ref (rid 1 1), .int a1, .int a2, .int a3] (up (p_X3_canJudge a1 a2 a3)) := by
  refine amMet.of (own := RX3) (by decide) rfl (Nat.le_of_ble_eq_true rfl) fun X hX hPs => ?_
  change WG X encI 0 [(0, .ref (rid 1 1)), (1, .int a1), (2, .int a2), (3, .int a3)] [] (bd1 (up (p_X3_canJudge a1 a2 a3)) rt1)
  unfold p_X3_canJudge
  have hM0 := amPs.m0 hPs
  refine wu_ (wg_gM ?_)
  refine wg_aload_n (pc := 0) hX dX3_canJudge_0 0 rfl ?_
  refine wg_iconst (pc := 1) (v := 0) hX dX3_canJudge_1 rfl ?_
  refine wu_ (wg_pI (pc := 2) hX fp_X3_297 (fun h => by cases h) dX3_canJudge_2 ?_)
  refine wg_aload_n (pc := 5) hX dX3_canJudge_5 0 rfl ?_
  refine wg_iload_n (pc := 6) hX dX3_canJudge_6 1 rfl ?_
  refine wu_ (wg_cVi (pc := 7) (As := [.int a1]) (rest := []) hX (m_X3_isRow a1) (by decide) (by decide) (by decide) rc_X3 (lw_V q2795 q2797 qs155 q163 q2798) hd_X3_isRow rfl (Nat.le_of_ble_eq_true rfl) (Nat.le_of_ble_eq_true rfl) (Nat.le_of_ble_eq_true rfl) rfl dX3_canJudge_7 fun v1 => ?_)
  refine wu_jn (α := Unit) (pcJ := 47) (lJ := fun x => []) (sJ := fun x => []) (fun k2 hk2 => ?_) (fun z2 => ?_)
  · refine wg_if_eq (pc := 10) (tgt := 47) hX dX3_canJudge_10 (by decide) (fun h3 => ?_) (fun h3 => ?_)
    · refine wu_t h3 ?_
      refine wg_sub hX [] rfl ?_
      exact hk2 ()
    refine wu_f h3 ?_
    refine wg_aload_n (pc := 13) hX dX3_canJudge_13 0 rfl ?_
    refine wg_gK (pc := 14) hX hM0 fd_X3_281 (by decide) dX3_canJudge_14 ?_
    refine wg_iload_n (pc := 17) hX dX3_canJudge_17 1 rfl ?_
    refine wu_ (wg_rZ (pc := 18) hX ar_137 dX3_canJudge_18 fun v4 => ?_)
    refine wg_if_ne (pc := 19) (tgt := 47) hX dX3_canJudge_19 (by decide) (fun h5 => ?_) (fun h5 => ?_)
    rotate_left
    · refine wu_f h5 ?_
      refine wg_sub hX [] rfl ?_
      exact hk2 ()
    refine wu_t h5 ?_
    refine wg_iload_n (pc := 22) hX dX3_canJudge_22 2 rfl ?_
    refine wg_iconst (pc := 23) (v := 0) hX dX3_canJudge_23 rfl ?_
    refine wg_ldcw (pc := 24) hX dX3_canJudge_24 q2821 ?_
    refine wu_ (wg_cSi (pc := 27) (As := [.int a2, .int 0, .int 1048575]) (rest := []) hX (m_X3_isIn a2 0 1048575) (lw_S q2317 q2318 q163 q2319) hd_X3_isIn rfl (Nat.le_of_ble_eq_true rfl) (Nat.le_of_ble_eq_true rfl) (Nat.le_of_ble_eq_true rfl) rfl dX3_canJudge_27 fun v6 => ?_)
    refine wg_if_eq (pc := 30) (tgt := 47) hX dX3_canJudge_30 (by decide) (fun h7 => ?_) (fun h7 => ?_)
    · refine wu_t h7 ?_
      refine wg_sub hX [] rfl ?_
      exact hk2 ()
    refine wu_f h7 ?_
    refine wg_iload_n (pc := 33) hX dX3_canJudge_33 3 rfl ?_
    refine wg_iconst (pc := 34) (v := 0) hX dX3_canJudge_34 rfl ?_
    refine wg_bipush (pc := 35) (v := 100) hX dX3_canJudge_35 rfl ?_
    refine wu_ (wg_cSi (pc := 37) (As := [.int a3, .int 0, .int 100]) (rest := []) hX (m_X3_isIn a3 0 100) (lw_S q2317 q2318 q163 q2319) hd_X3_isIn rfl (Nat.le_of_ble_eq_true rfl) (Nat.le_of_ble_eq_true rfl) (Nat.le_of_ble_eq_true rfl) rfl dX3_canJudge_37 fun v8 => ?_)
    refine wg_if_eq (pc := 40) (tgt := 47) hX dX3_canJudge_40 (by decide) (fun h9 => ?_) (fun h9 => ?_)
    · refine wu_t h9 ?_
      refine wg_sub hX [] rfl ?_
      exact hk2 ()
    refine wu_f h9 ?_
    refine wg_iconst (pc := 43) (v := 1) hX dX3_canJudge_43 rfl ?_
    refine wg_goto (pc := 44) (tgt := 48) hX dX3_canJudge_44 (by decide) ?_
    exact wu_rt (wg_zret (pc := 48) hX rfl (by decide) rfl dX3_canJudge_48)
  refine wg_iconst (pc := 47) (v := 0) hX dX3_canJudge_47 rfl ?_
  exact wu_rt (wg_zret (pc := 48) hX rfl (by decide) rfl dX3_canJudge_48)
theorem m_J13_isNaN (a1 : UInt64) : amMet yJ13_isNaN cJ13_isNaN 2 (some .boolean) 1 32 encI [.double a1] (up (p_J13_isNaN a1)) := by
  refine amMet.of (own := RJ13) (by decide) rfl (Nat.le_of_ble_eq_true rfl) fun X hX hPs => ?_
  change WG X encI 0 [(0, .double a1)] [] (bd1 (up (p_J13_isNaN a1)) rt1)
  unfold p_J13_isNaN
  refine wg_dload_n (pc := 0) hX dJ13_isNaN_0 0 rfl ?_
  refine wg_dload_n (pc := 1) hX dJ13_isNaN_1 0 rfl ?_
  refine wg_dcmp (pc := 2) hX dJ13_isNaN_2 ?_
  refine wg_if_eq (pc := 3) (tgt := 10) hX dJ13_isNaN_3 (by decide) (fun h1 => ?_) (fun h1 => ?_)
  · refine wu_t h1 ?_
    refine wg_iconst (pc := 10) (v := 0) hX dJ13_isNaN_10 rfl ?_
    exact wu_rt (wg_zret (pc := 11) hX rfl (by decide) rfl dJ13_isNaN_11)
  refine wu_f h1 ?_
  refine wg_iconst (pc := 6) (v := 1) hX dJ13_isNaN_6 rfl ?_
  refine wg_goto (pc := 7) (tgt := 11) hX dJ13_isNaN_7 (by decide) ?_
  exact wu_rt (wg_zret (pc := 11) hX rfl (by decide) rfl dJ13_isNaN_11)
theorem m_X3_judged (a1 : Int32) (a2 : Int32) (a3 : Int32) : amMet yX3_judged cX3_judged 9 (some .double) 3 79 encD [.ref (rid 1 1), .int a1, .int a2, .int a3] (up (p_X3_judged a1 a2 a3)) := by
  refine amMet.of (own := RX3) (by decide) rfl (Nat.le_of_ble_eq_true rfl) fun X hX hPs => ?_
  change WG X encD 0 [(0, .ref (rid 1 1)), (1, .int a1), (2, .int a2), (3, .int a3)] [] (bd1 (up (p_X3_judged a1 a2 a3)) rt1)
  unfold p_X3_judged
  have hM0 := amPs.m0 hPs
  refine wu_ (wg_gM ?_)
  refine wg_dconst0 (pc := 0) hX dX3_judged_0 ?_
  refine wg_dstore (pc := 1) (l' := [(0, .ref (rid 1 1)), (1, .int a1), (2, .int a2), (3, .int a3), (4, .double FP.dconst0)]) hX dX3_judged_1 (by decide) rfl ?_
  refine wg_iconst (pc := 3) (v := 0) hX dX3_judged_3 rfl ?_
  refine wg_istore (pc := 4) (l' := [(0, .ref (rid 1 1)), (1, .int a1), (2, .int a2), (3, .int a3), (4, .double FP.dconst0), (6, .int 0)]) hX dX3_judged_4 (by decide) rfl ?_
  refine wu_lpx (α := UInt64 × Int32) (γ := UInt64) (pcl := 6) (pcT := 63) (lo := fun x => [(0, .ref (rid 1 1)), (1, .int a1), (2, .int a2), (3, .int a3), (4, .double x.1), (6, .int x.2)]) (so := fun _ => []) (lT := fun x => [(4, .double x)]) (sT := fun _ => []) (n := amFu) (x0 := (FP.dconst0, 0)) (fun K1 rec1 hrec1 hk1 x1 => ?_) (fun y2 => ?_)
  · unfold p_X3_judged_L6
    refine wg_iload (pc := 6) hX dX3_judged_6 5 rfl ?_
    refine wg_bipush (pc := 8) (v := 20) hX dX3_judged_8 rfl ?_
    refine wg_icmp_ge (pc := 10) (tgt := 63) hX dX3_judged_10 (by decide) (fun h3 => ?_) (fun h3 => ?_)
    · refine wu_t h3 ?_
      refine wg_sub hX [4] rfl ?_
      exact wu_rt (hk1 x1.1)
    refine wu_f h3 ?_
    refine wg_aload_n (pc := 13) hX dX3_judged_13 0 rfl ?_
    refine wg_gK (pc := 14) hX hM0 fd_X3_271 (by decide) dX3_judged_14 ?_
    refine wg_bipush (pc := 17) (v := 20) hX dX3_judged_17 rfl ?_
    refine wg_iload_n (pc := 19) hX dX3_judged_19 1 rfl ?_
    refine wg_imul (pc := 20) hX dX3_judged_20 ?_
    refine wg_iload (pc := 21) hX dX3_judged_21 5 rfl ?_
    refine wg_iadd (pc := 23) hX dX3_judged_23 ?_
    refine wu_ (wg_rD (pc := 24) hX ar_134 dX3_judged_24 fun v4 => ?_)
    refine wg_dstore (pc := 25) (l' := [(0, .ref (rid 1 1)), (1, .int a1), (2, .int a2), (3, .int a3), (4, .double x1.1), (6, .int x1.2), (7, .double v4)]) hX dX3_judged_25 (by decide) rfl ?_
    refine wg_dload (pc := 27) hX dX3_judged_27 6 rfl ?_
    refine wu_ (wg_cSi (pc := 29) (As := [.double v4]) (rest := []) hX (m_J13_isNaN v4) (lw_S q2826 q2827 q200 q2828) hd_J13_isNaN rfl (Nat.le_of_ble_eq_true rfl) (Nat.le_of_ble_eq_true rfl) (Nat.le_of_ble_eq_true rfl) rfl dX3_judged_29 fun v5 => ?_)
    refine wu_jx (α := UInt64) (pcJ := 40) (lJ := fun x => [(0, .ref (rid 1 1)), (1, .int a1), (2, .int a2), (3, .int a3), (4, .double x1.1), (6, .int x1.2), (7, .double x)]) (sJ := fun x => []) (fun K6 hk6 => ?_) (fun z6 => ?_)
    · refine wg_if_eq (pc := 32) (tgt := 40) hX dX3_judged_32 (by decide) (fun h7 => ?_) (fun h7 => ?_)
      · refine wu_t h7 ?_
        exact wu_rt (hk6 v4)
      refine wu_f h7 ?_
      refine wg_ldc2d (pc := 35) hX dX3_judged_35 q2829 ?_
      refine wg_dstore (pc := 38) (l' := [(0, .ref (rid 1 1)), (1, .int a1), (2, .int a2), (3, .int a3), (4, .double x1.1), (6, .int x1.2), (7, .double 4652007308841189376)]) hX dX3_judged_38 (by decide) rfl ?_
      exact wu_rt (hk6 4652007308841189376)
    refine wg_dload (pc := 40) hX dX3_judged_40 4 rfl ?_
    refine wg_dload (pc := 42) hX dX3_judged_42 6 rfl ?_
    refine wg_aload_n (pc := 44) hX dX3_judged_44 0 rfl ?_
    refine wg_iload (pc := 45) hX dX3_judged_45 5 rfl ?_
    refine wg_iload_n (pc := 47) hX dX3_judged_47 2 rfl ?_
    refine wg_iload_n (pc := 48) hX dX3_judged_48 3 rfl ?_
    refine wu_ (wg_cVi (pc := 49) (As := [.int x1.2, .int a2, .int a3]) (rest := [.double z6, .double x1.1]) hX (m_X3_pointsOf x1.2 a2 a3) (by decide) (by decide) (by decide) rc_X3 (lw_V q2779 q2781 qs154 q163 q2782) hd_X3_pointsOf rfl (Nat.le_of_ble_eq_true rfl) (Nat.le_of_ble_eq_true rfl) (Nat.le_of_ble_eq_true rfl) rfl dX3_judged_49 fun v8 => ?_)
    refine wg_i2d (pc := 52) hX dX3_judged_52 ?_
    refine wu_ (wg_gd fun h9 => ?_)
    refine wg_dmul (pc := 53) hX dX3_judged_53 h9 ?_
    refine wu_ (wg_gd fun h10 => ?_)
    refine wg_dadd (pc := 54) hX dX3_judged_54 h10 ?_
    refine wu_ (wg_nmd hX fun v11 => ?_)
    refine wg_dstore (pc := 55) (l' := [(0, .ref (rid 1 1)), (1, .int a1), (2, .int a2), (3, .int a3), (4, .double v11), (6, .int x1.2), (7, .double z6)]) hX dX3_judged_55 (by decide) rfl ?_
    refine wg_iinc (pc := 57) (v := (x1.2 + 1)) (l' := [(0, .ref (rid 1 1)), (1, .int a1), (2, .int a2), (3, .int a3), (4, .double v11), (6, .int (x1.2 + 1)), (7, .double z6)]) hX dX3_judged_57 5 rfl rfl (by decide) rfl ?_
    refine wg_goto (pc := 60) (tgt := 6) hX dX3_judged_60 (by decide) ?_
    refine wg_sub hX [0, 1, 2, 3, 4, 5] rfl ?_
    exact hrec1 (v11, (x1.2 + 1))
  refine wg_dload (pc := 63) hX dX3_judged_63 0 rfl ?_
  exact wu_rt (wg_dret (pc := 65) hX rfl rfl dX3_judged_65)
theorem m_X3_judge (a1 : Int32) (a2 : Int32) (a3 : Int32) : amMet yX3_judge cX3_judge 4 (some .double) 4 107 encD [.ref (rid 1 1), .int a1, .int a2, .int a3] (up (p_X3_judge a1 a2 a3)) := by
  refine amMet.of (own := RX3) (by decide) rfl (Nat.le_of_ble_eq_true rfl) fun X hX hPs => ?_
  change WG X encD 0 [(0, .ref (rid 1 1)), (1, .int a1), (2, .int a2), (3, .int a3)] [] (bd1 (up (p_X3_judge a1 a2 a3)) rt1)
  unfold p_X3_judge
  refine wg_aload_n (pc := 0) hX dX3_judge_0 0 rfl ?_
  refine wg_iload_n (pc := 1) hX dX3_judge_1 1 rfl ?_
  refine wg_iload_n (pc := 2) hX dX3_judge_2 2 rfl ?_
  refine wg_iload_n (pc := 3) hX dX3_judge_3 3 rfl ?_
  refine wu_ (wg_cVi (pc := 4) (As := [.int a1, .int a2, .int a3]) (rest := []) hX (m_X3_canJudge a1 a2 a3) (by decide) (by decide) (by decide) rc_X3 (lw_V q2817 q2819 qs156 q163 q2820) hd_X3_canJudge rfl (Nat.le_of_ble_eq_true rfl) (Nat.le_of_ble_eq_true rfl) (Nat.le_of_ble_eq_true rfl) rfl dX3_judge_4 fun v1 => ?_)
  refine wg_if_eq (pc := 7) (tgt := 20) hX dX3_judge_7 (by decide) (fun h2 => ?_) (fun h2 => ?_)
  · refine wu_t h2 ?_
    refine wg_ldc2d (pc := 20) hX dX3_judge_20 q2800 ?_
    exact wu_rt (wg_dret (pc := 23) hX rfl rfl dX3_judge_23)
  refine wu_f h2 ?_
  refine wg_aload_n (pc := 10) hX dX3_judge_10 0 rfl ?_
  refine wg_iload_n (pc := 11) hX dX3_judge_11 1 rfl ?_
  refine wg_iload_n (pc := 12) hX dX3_judge_12 2 rfl ?_
  refine wg_iload_n (pc := 13) hX dX3_judge_13 3 rfl ?_
  refine wu_ (wg_cVd (pc := 14) (As := [.int a1, .int a2, .int a3]) (rest := []) hX (m_X3_judged a1 a2 a3) (by decide) (by decide) (by decide) rc_X3 (lw_V q2822 q2824 qs157 q163 q2825) hd_X3_judged rfl (Nat.le_of_ble_eq_true rfl) (Nat.le_of_ble_eq_true rfl) (Nat.le_of_ble_eq_true rfl) rfl dX3_judge_14 fun v3 => ?_)
  refine wg_goto (pc := 17) (tgt := 23) hX dX3_judge_17 (by decide) ?_
  exact wu_rt (wg_dret (pc := 23) hX rfl rfl dX3_judge_23)
theorem m_X3_loss (a1 : Int32) (a2 : Int32) (a3 : Int32) (a4 : Int32) : amMet yX3_loss cX3_loss 5 (some .double) 4 107 encD [.ref (rid 1 1), .int a1, .int a2, .int a3, .int a4] (up (p_X3_loss a1 a2 a3 a4)) := by
  refine amMet.of (own := RX3) (by decide) rfl (Nat.le_of_ble_eq_true rfl) fun X hX hPs => ?_
  change WG X encD 0 [(0, .ref (rid 1 1)), (1, .int a1), (2, .int a2), (3, .int a3), (4, .int a4)] [] (bd1 (up (p_X3_loss a1 a2 a3 a4)) rt1)
  unfold p_X3_loss
  refine wg_aload_n (pc := 0) hX dX3_loss_0 0 rfl ?_
  refine wg_iload_n (pc := 1) hX dX3_loss_1 1 rfl ?_
  refine wg_iload_n (pc := 2) hX dX3_loss_2 2 rfl ?_
  refine wg_iload_n (pc := 3) hX dX3_loss_3 3 rfl ?_
  refine wu_ (wg_cVi (pc := 4) (As := [.int a1, .int a2, .int a3]) (rest := []) hX (m_X3_canJudge a1 a2 a3) (by decide) (by decide) (by decide) rc_X3 (lw_V q2817 q2819 qs156 q163 q2820) hd_X3_canJudge rfl (Nat.le_of_ble_eq_true rfl) (Nat.le_of_ble_eq_true rfl) (Nat.le_of_ble_eq_true rfl) rfl dX3_loss_4 fun v1 => ?_)
  refine wu_jn (α := Unit) (pcJ := 27) (lJ := fun x => []) (sJ := fun x => []) (fun k2 hk2 => ?_) (fun z2 => ?_)
  · refine wg_if_eq (pc := 7) (tgt := 27) hX dX3_loss_7 (by decide) (fun h3 => ?_) (fun h3 => ?_)
    · refine wu_t h3 ?_
      refine wg_sub hX [] rfl ?_
      exact hk2 ()
    refine wu_f h3 ?_
    refine wg_iload (pc := 10) hX dX3_loss_10 4 rfl ?_
    refine wu_ (wg_cSi (pc := 12) (As := [.int a4]) (rest := []) hX (m_X3_isCorner a4) (lw_S q2314 q2315 q163 q2316) hd_X3_isCorner rfl (Nat.le_of_ble_eq_true rfl) (Nat.le_of_ble_eq_true rfl) (Nat.le_of_ble_eq_true rfl) rfl dX3_loss_12 fun v4 => ?_)
    refine wg_if_eq (pc := 15) (tgt := 27) hX dX3_loss_15 (by decide) (fun h5 => ?_) (fun h5 => ?_)
    · refine wu_t h5 ?_
      refine wg_sub hX [] rfl ?_
      exact hk2 ()
    refine wu_f h5 ?_
    refine wg_iload_n (pc := 18) hX dX3_loss_18 2 rfl ?_
    refine wg_iload (pc := 19) hX dX3_loss_19 4 rfl ?_
    refine wg_ishr (pc := 21) hX dX3_loss_21 ?_
    refine wg_iconst (pc := 22) (v := 1) hX dX3_loss_22 rfl ?_
    refine wg_iand (pc := 23) hX dX3_loss_23 ?_
    refine wg_if_ne (pc := 24) (tgt := 31) hX dX3_loss_24 (by decide) (fun h6 => ?_) (fun h6 => ?_)
    · refine wu_t h6 ?_
      refine wg_sub hX [] rfl ?_
      exact hk2 ()
    refine wu_f h6 ?_
    refine wg_aload_n (pc := 31) hX dX3_loss_31 0 rfl ?_
    refine wg_iload_n (pc := 32) hX dX3_loss_32 1 rfl ?_
    refine wg_iload_n (pc := 33) hX dX3_loss_33 2 rfl ?_
    refine wg_iload_n (pc := 34) hX dX3_loss_34 3 rfl ?_
    refine wu_ (wg_cVd (pc := 35) (As := [.int a1, .int a2, .int a3]) (rest := []) hX (m_X3_judged a1 a2 a3) (by decide) (by decide) (by decide) rc_X3 (lw_V q2822 q2824 qs157 q163 q2825) hd_X3_judged rfl (Nat.le_of_ble_eq_true rfl) (Nat.le_of_ble_eq_true rfl) (Nat.le_of_ble_eq_true rfl) rfl dX3_loss_35 fun v7 => ?_)
    refine wg_aload_n (pc := 38) hX dX3_loss_38 0 rfl ?_
    refine wg_iload_n (pc := 39) hX dX3_loss_39 1 rfl ?_
    refine wg_iload_n (pc := 40) hX dX3_loss_40 2 rfl ?_
    refine wg_iconst (pc := 41) (v := 1) hX dX3_loss_41 rfl ?_
    refine wg_iload (pc := 42) hX dX3_loss_42 4 rfl ?_
    refine wg_ishl (pc := 44) hX dX3_loss_44 ?_
    refine wg_iconst (pc := 45) (v := (-1)) hX dX3_loss_45 rfl ?_
    refine wg_ixor (pc := 46) hX dX3_loss_46 ?_
    refine wg_iand (pc := 47) hX dX3_loss_47 ?_
    refine wg_iload_n (pc := 48) hX dX3_loss_48 3 rfl ?_
    refine wu_ (wg_cVd (pc := 49) (As := [.int a1, .int (a2 &&& (((1 : Int32) <<< (a4 &&& 31)) ^^^ (-1))), .int a3]) (rest := [.double v7]) hX (m_X3_judged a1 (a2 &&& (((1 : Int32) <<< (a4 &&& 31)) ^^^ (-1))) a3) (by decide) (by decide) (by decide) rc_X3 (lw_V q2822 q2824 qs157 q163 q2825) hd_X3_judged rfl (Nat.le_of_ble_eq_true rfl) (Nat.le_of_ble_eq_true rfl) (Nat.le_of_ble_eq_true rfl) rfl dX3_loss_49 fun v8 => ?_)
    refine wu_ (wg_gd fun h9 => ?_)
    refine wg_dsub (pc := 52) hX dX3_loss_52 h9 ?_
    exact wu_rt (wg_dret (pc := 53) hX rfl rfl dX3_loss_53)
  refine wg_ldc2d (pc := 27) hX dX3_loss_27 q2800 ?_
  exact wu_rt (wg_dret (pc := 30) hX rfl rfl dX3_loss_30)
