/-! the walks (printed by gen/build.py) -/
theorem m_X3_what (a1 : Int32) (a2 : Int32) (a3 : Int32) (a4 : Int32) : amMet yX3_what cX3_what 8 (some .int) 6 153 encI [.ref (rid 1 1), .int a1, .int a2, .int a3, .int a4] (up (p_X3_what a1 a2 a3 a4)) := by
  refine amMet.of (own := RX3) (by decide) rfl (Nat.le_of_ble_eq_true rfl) fun X hX hPs => ?_
  change WG X encI 0 [(0, .ref (rid 1 1)), (1, .int a1), (2, .int a2), (3, .int a3), (4, .int a4)] [] (bd1 (up (p_X3_what a1 a2 a3 a4)) rt1)
  unfold p_X3_what
  have hM0 := amPs.m0 hPs
  refine wu_ (wg_gM ?_)
  refine wg_aload_n (pc := 0) hX dX3_what_0 0 rfl ?_
  refine wg_iconst (pc := 1) (v := 0) hX dX3_what_1 rfl ?_
  refine wu_ (wg_pI (pc := 2) hX fp_X3_297 (fun h => by cases h) dX3_what_2 ?_)
  refine wg_aload_n (pc := 5) hX dX3_what_5 0 rfl ?_
  refine wg_iload_n (pc := 6) hX dX3_what_6 1 rfl ?_
  refine wg_iload_n (pc := 7) hX dX3_what_7 2 rfl ?_
  refine wu_ (wg_cVi (pc := 8) (As := [.int a1, .int a2]) (rest := []) hX (m_X3_isRoom a1 a2) (by decide) (by decide) (by decide) rc_X3 (lw_V q2400 q2402 qs98 q163 q2403) hd_X3_isRoom rfl (Nat.le_of_ble_eq_true rfl) (Nat.le_of_ble_eq_true rfl) (Nat.le_of_ble_eq_true rfl) rfl dX3_what_8 fun v1 => ?_)
  refine wg_if_eq (pc := 11) (tgt := 37) hX dX3_what_11 (by decide) (fun h2 => ?_) (fun h2 => ?_)
  · refine wu_t h2 ?_
    refine wg_iconst (pc := 37) (v := (-1)) hX dX3_what_37 rfl ?_
    exact wu_rt (wg_iret (pc := 38) hX rfl rfl dX3_what_38)
  refine wu_f h2 ?_
  refine wg_iload_n (pc := 14) hX dX3_what_14 3 rfl ?_
  refine wg_iconst (pc := 15) (v := 0) hX dX3_what_15 rfl ?_
  refine wg_sipush (pc := 16) (v := 500) hX dX3_what_16 rfl ?_
  refine wu_ (wg_cSi (pc := 19) (As := [.int a3, .int 0, .int 500]) (rest := []) hX (m_X3_isIn a3 0 500) (lw_S q2317 q2318 q163 q2319) hd_X3_isIn rfl (Nat.le_of_ble_eq_true rfl) (Nat.le_of_ble_eq_true rfl) (Nat.le_of_ble_eq_true rfl) rfl dX3_what_19 fun v3 => ?_)
  refine wg_if_eq (pc := 22) (tgt := 37) hX dX3_what_22 (by decide) (fun h4 => ?_) (fun h4 => ?_)
  · refine wu_t h4 ?_
    refine wg_iconst (pc := 37) (v := (-1)) hX dX3_what_37 rfl ?_
    exact wu_rt (wg_iret (pc := 38) hX rfl rfl dX3_what_38)
  refine wu_f h4 ?_
  refine wg_iload (pc := 25) hX dX3_what_25 4 rfl ?_
  refine wg_iconst (pc := 27) (v := 1) hX dX3_what_27 rfl ?_
  refine wg_sipush (pc := 28) (v := 200) hX dX3_what_28 rfl ?_
  refine wu_ (wg_cSi (pc := 31) (As := [.int a4, .int 1, .int 200]) (rest := []) hX (m_X3_isIn a4 1 200) (lw_S q2317 q2318 q163 q2319) hd_X3_isIn rfl (Nat.le_of_ble_eq_true rfl) (Nat.le_of_ble_eq_true rfl) (Nat.le_of_ble_eq_true rfl) rfl dX3_what_31 fun v5 => ?_)
  refine wg_if_ne (pc := 34) (tgt := 39) hX dX3_what_34 (by decide) (fun h6 => ?_) (fun h6 => ?_)
  · refine wu_t h6 ?_
    refine wg_iconst (pc := 37) (v := (-1)) hX dX3_what_37 rfl ?_
    exact wu_rt (wg_iret (pc := 38) hX rfl rfl dX3_what_38)
  refine wu_f h6 ?_
  refine wg_iconst (pc := 39) (v := 0) hX dX3_what_39 rfl ?_
  refine wg_istore (pc := 40) (l' := [(0, .ref (rid 1 1)), (1, .int a1), (2, .int a2), (3, .int a3), (4, .int a4), (5, .int 0)]) hX dX3_what_40 (by decide) rfl ?_
  refine wu_lpx (α := Int32) (γ := Unit) (pcl := 42) (pcT := 84) (lo := fun x => [(0, .ref (rid 1 1)), (1, .int a1), (2, .int a2), (3, .int a3), (4, .int a4), (5, .int x)]) (so := fun _ => []) (lT := fun x => [(0, .ref (rid 1 1)), (1, .int a1), (2, .int a2), (3, .int a3), (4, .int a4)]) (sT := fun _ => []) (n := amFu) (x0 := 0) (fun K7 rec7 hrec7 hk7 x7 => ?_) (fun y8 => ?_)
  · unfold p_X3_what_L42
    refine wg_iload (pc := 42) hX dX3_what_42 5 rfl ?_
    refine wg_sipush (pc := 44) (v := 288) hX dX3_what_44 rfl ?_
    refine wg_icmp_ge (pc := 47) (tgt := 84) hX dX3_what_47 (by decide) (fun h9 => ?_) (fun h9 => ?_)
    · refine wu_t h9 ?_
      refine wg_sub hX [0, 1, 2, 3, 4] rfl ?_
      exact wu_rt (hk7 ())
    refine wu_f h9 ?_
    refine wg_aload_n (pc := 50) hX dX3_what_50 0 rfl ?_
    refine wg_gK (pc := 51) hX hM0 fd_X3_284 (by decide) dX3_what_51 ?_
    refine wg_iload (pc := 54) hX dX3_what_54 5 rfl ?_
    refine wg_aload_n (pc := 56) hX dX3_what_56 0 rfl ?_
    refine wg_gK (pc := 57) hX hM0 fd_X3_68 (by decide) dX3_what_57 ?_
    refine wg_iload (pc := 60) hX dX3_what_60 5 rfl ?_
    refine wu_ (wg_rI (pc := 62) hX ar_74 dX3_what_62 fun v10 => ?_)
    refine wu_ (wg_wI (pc := 63) hX ar_138 dX3_what_63 ?_)
    refine wg_aload_n (pc := 64) hX dX3_what_64 0 rfl ?_
    refine wg_gK (pc := 65) hX hM0 fd_X3_287 (by decide) dX3_what_65 ?_
    refine wg_iload (pc := 68) hX dX3_what_68 5 rfl ?_
    refine wg_aload_n (pc := 70) hX dX3_what_70 0 rfl ?_
    refine wg_gK (pc := 71) hX hM0 fd_X3_71 (by decide) dX3_what_71 ?_
    refine wg_iload (pc := 74) hX dX3_what_74 5 rfl ?_
    refine wu_ (wg_rI (pc := 76) hX ar_75 dX3_what_76 fun v11 => ?_)
    refine wu_ (wg_wI (pc := 77) hX ar_139 dX3_what_77 ?_)
    refine wg_iinc (pc := 78) (v := (x7 + 1)) (l' := [(0, .ref (rid 1 1)), (1, .int a1), (2, .int a2), (3, .int a3), (4, .int a4), (5, .int (x7 + 1))]) hX dX3_what_78 5 rfl rfl (by decide) rfl ?_
    refine wg_goto (pc := 81) (tgt := 42) hX dX3_what_81 (by decide) ?_
    exact hrec7 (x7 + 1)
  refine wg_iconst (pc := 84) (v := 0) hX dX3_what_84 rfl ?_
  refine wg_istore (pc := 85) (l' := [(0, .ref (rid 1 1)), (1, .int a1), (2, .int a2), (3, .int a3), (4, .int a4), (5, .int 0)]) hX dX3_what_85 (by decide) rfl ?_
  refine wu_lpx (α := Int32) (γ := Unit) (pcl := 87) (pcT := 128) (lo := fun x => [(0, .ref (rid 1 1)), (1, .int a1), (2, .int a2), (3, .int a3), (4, .int a4), (5, .int x)]) (so := fun _ => []) (lT := fun x => [(0, .ref (rid 1 1)), (1, .int a1), (2, .int a2), (3, .int a3), (4, .int a4)]) (sT := fun _ => []) (n := amFu) (x0 := 0) (fun K12 rec12 hrec12 hk12 x12 => ?_) (fun y13 => ?_)
  · unfold p_X3_what_L87
    refine wg_iload (pc := 87) hX dX3_what_87 5 rfl ?_
    refine wg_bipush (pc := 89) (v := 72) hX dX3_what_89 rfl ?_
    refine wg_icmp_ge (pc := 91) (tgt := 128) hX dX3_what_91 (by decide) (fun h14 => ?_) (fun h14 => ?_)
    · refine wu_t h14 ?_
      refine wg_sub hX [0, 1, 2, 3, 4] rfl ?_
      exact wu_rt (hk12 ())
    refine wu_f h14 ?_
    refine wg_aload_n (pc := 94) hX dX3_what_94 0 rfl ?_
    refine wg_gK (pc := 95) hX hM0 fd_X3_290 (by decide) dX3_what_95 ?_
    refine wg_iload (pc := 98) hX dX3_what_98 5 rfl ?_
    refine wg_aload_n (pc := 100) hX dX3_what_100 0 rfl ?_
    refine wg_gK (pc := 101) hX hM0 fd_X3_83 (by decide) dX3_what_101 ?_
    refine wg_iload (pc := 104) hX dX3_what_104 5 rfl ?_
    refine wu_ (wg_rI (pc := 106) hX ar_79 dX3_what_106 fun v15 => ?_)
    refine wu_ (wg_wI (pc := 107) hX ar_140 dX3_what_107 ?_)
    refine wg_aload_n (pc := 108) hX dX3_what_108 0 rfl ?_
    refine wg_gK (pc := 109) hX hM0 fd_X3_293 (by decide) dX3_what_109 ?_
    refine wg_iload (pc := 112) hX dX3_what_112 5 rfl ?_
    refine wg_aload_n (pc := 114) hX dX3_what_114 0 rfl ?_
    refine wg_gK (pc := 115) hX hM0 fd_X3_92 (by decide) dX3_what_115 ?_
    refine wg_iload (pc := 118) hX dX3_what_118 5 rfl ?_
    refine wu_ (wg_rZ (pc := 120) hX ar_82 dX3_what_120 fun v16 => ?_)
    refine wu_ (wg_gd fun h17 => ?_)
    refine wu_ (wg_wZ (pc := 121) hX ar_141 h17 dX3_what_121 ?_)
    refine wg_iinc (pc := 122) (v := (x12 + 1)) (l' := [(0, .ref (rid 1 1)), (1, .int a1), (2, .int a2), (3, .int a3), (4, .int a4), (5, .int (x12 + 1))]) hX dX3_what_122 5 rfl rfl (by decide) rfl ?_
    refine wg_goto (pc := 125) (tgt := 87) hX dX3_what_125 (by decide) ?_
    exact hrec12 (x12 + 1)
  refine wg_aload_n (pc := 128) hX dX3_what_128 0 rfl ?_
  refine wg_iload_n (pc := 129) hX dX3_what_129 1 rfl ?_
  refine wu_ (wg_cVi (pc := 130) (As := [.int a1]) (rest := []) hX (m_X3_burntOf a1) (by decide) (by decide) (by decide) rc_X3 (lw_V q2421 q2423 qs100 q163 q2424) hd_X3_burntOf rfl (Nat.le_of_ble_eq_true rfl) (Nat.le_of_ble_eq_true rfl) (Nat.le_of_ble_eq_true rfl) rfl dX3_what_130 fun v18 => ?_)
  refine wg_istore (pc := 133) (l' := [(0, .ref (rid 1 1)), (1, .int a1), (2, .int a2), (3, .int a3), (4, .int a4), (5, .int v18)]) hX dX3_what_133 (by decide) rfl ?_
  refine wg_aload_n (pc := 135) hX dX3_what_135 0 rfl ?_
  refine wg_gK (pc := 136) hX hM0 fd_X3_74 (by decide) dX3_what_136 ?_
  refine wg_bipush (pc := 139) (v := 24) hX dX3_what_139 rfl ?_
  refine wg_iload_n (pc := 141) hX dX3_what_141 1 rfl ?_
  refine wg_imul (pc := 142) hX dX3_what_142 ?_
  refine wg_iload_n (pc := 143) hX dX3_what_143 2 rfl ?_
  refine wg_iadd (pc := 144) hX dX3_what_144 ?_
  refine wg_iload_n (pc := 145) hX dX3_what_145 3 rfl ?_
  refine wu_ (wg_wI (pc := 146) hX ar_76 dX3_what_146 ?_)
  refine wg_iconst (pc := 147) (v := 0) hX dX3_what_147 rfl ?_
  refine wg_istore (pc := 148) (l' := [(0, .ref (rid 1 1)), (1, .int a1), (2, .int a2), (3, .int a3), (4, .int a4), (5, .int v18), (6, .int 0)]) hX dX3_what_148 (by decide) rfl ?_
  refine wg_sub hX [0, 1, 2, 4, 5, 6] rfl ?_
  refine wu_lpx (α := Int32) (γ := Unit) (pcl := 150) (pcT := 168) (lo := fun x => [(0, .ref (rid 1 1)), (1, .int a1), (2, .int a2), (4, .int a4), (5, .int v18), (6, .int x)]) (so := fun _ => []) (lT := fun x => [(0, .ref (rid 1 1)), (1, .int a1), (2, .int a2), (5, .int v18)]) (sT := fun _ => []) (n := amFu) (x0 := 0) (fun K19 rec19 hrec19 hk19 x19 => ?_) (fun y20 => ?_)
  · unfold p_X3_what_L150
    refine wg_iload (pc := 150) hX dX3_what_150 5 rfl ?_
    refine wg_iload (pc := 152) hX dX3_what_152 3 rfl ?_
    refine wg_icmp_ge (pc := 154) (tgt := 168) hX dX3_what_154 (by decide) (fun h21 => ?_) (fun h21 => ?_)
    · refine wu_t h21 ?_
      refine wg_sub hX [0, 1, 2, 4] rfl ?_
      exact wu_rt (hk19 ())
    refine wu_f h21 ?_
    refine wg_aload_n (pc := 157) hX dX3_what_157 0 rfl ?_
    refine wg_iconst (pc := 158) (v := 0) hX dX3_what_158 rfl ?_
    refine wu_ (wg_cVv (pc := 159) (As := [.int 0]) (rest := []) hX (m_X3_burn 0) (by decide) (by decide) (by decide) rc_X3 (lw_V q2679 q2681 qs140 q163 q2682) hd_X3_burn rfl (Nat.le_of_ble_eq_true rfl) (Nat.le_of_ble_eq_true rfl) (Nat.le_of_ble_eq_true rfl) rfl dX3_what_159 ?_)
    refine wg_iinc (pc := 162) (v := (x19 + 1)) (l' := [(0, .ref (rid 1 1)), (1, .int a1), (2, .int a2), (4, .int a4), (5, .int v18), (6, .int (x19 + 1))]) hX dX3_what_162 5 rfl rfl (by decide) rfl ?_
    refine wg_goto (pc := 165) (tgt := 150) hX dX3_what_165 (by decide) ?_
    exact hrec19 (x19 + 1)
  refine wg_aload_n (pc := 168) hX dX3_what_168 0 rfl ?_
  refine wg_gK (pc := 169) hX hM0 fd_X3_74 (by decide) dX3_what_169 ?_
  refine wg_bipush (pc := 172) (v := 24) hX dX3_what_172 rfl ?_
  refine wg_iload_n (pc := 174) hX dX3_what_174 1 rfl ?_
  refine wg_imul (pc := 175) hX dX3_what_175 ?_
  refine wg_iload_n (pc := 176) hX dX3_what_176 2 rfl ?_
  refine wg_iadd (pc := 177) hX dX3_what_177 ?_
  refine wg_iconst (pc := 178) (v := 0) hX dX3_what_178 rfl ?_
  refine wu_ (wg_wI (pc := 179) hX ar_76 dX3_what_179 ?_)
  refine wg_aload_n (pc := 180) hX dX3_what_180 0 rfl ?_
  refine wg_iload_n (pc := 181) hX dX3_what_181 1 rfl ?_
  refine wu_ (wg_cVi (pc := 182) (As := [.int a1]) (rest := []) hX (m_X3_burntOf a1) (by decide) (by decide) (by decide) rc_X3 (lw_V q2421 q2423 qs100 q163 q2424) hd_X3_burntOf rfl (Nat.le_of_ble_eq_true rfl) (Nat.le_of_ble_eq_true rfl) (Nat.le_of_ble_eq_true rfl) rfl dX3_what_182 fun v22 => ?_)
  refine wg_iload (pc := 185) hX dX3_what_185 3 rfl ?_
  refine wg_isub (pc := 187) hX dX3_what_187 ?_
  refine wu_ (wg_nmi hX fun v23 => ?_)
  refine wg_istore (pc := 188) (l' := [(0, .ref (rid 1 1)), (1, .int a1), (2, .int a2), (5, .int v18), (6, .int v23)]) hX dX3_what_188 (by decide) rfl ?_
  refine wg_iconst (pc := 190) (v := 0) hX dX3_what_190 rfl ?_
  refine wg_istore (pc := 191) (l' := [(0, .ref (rid 1 1)), (1, .int a1), (2, .int a2), (5, .int v18), (6, .int v23), (7, .int 0)]) hX dX3_what_191 (by decide) rfl ?_
  refine wg_sub hX [0, 4, 5] rfl ?_
  refine wu_lpx (α := Int32) (γ := Unit) (pcl := 193) (pcT := 235) (lo := fun x => [(0, .ref (rid 1 1)), (6, .int v23), (7, .int x)]) (so := fun _ => []) (lT := fun x => [(0, .ref (rid 1 1)), (6, .int v23)]) (sT := fun _ => []) (n := amFu) (x0 := 0) (fun K24 rec24 hrec24 hk24 x24 => ?_) (fun y25 => ?_)
  · unfold p_X3_what_L193
    refine wg_iload (pc := 193) hX dX3_what_193 2 rfl ?_
    refine wg_sipush (pc := 195) (v := 288) hX dX3_what_195 rfl ?_
    refine wg_icmp_ge (pc := 198) (tgt := 235) hX dX3_what_198 (by decide) (fun h26 => ?_) (fun h26 => ?_)
    · refine wu_t h26 ?_
      refine wg_sub hX [0, 1] rfl ?_
      exact wu_rt (hk24 ())
    refine wu_f h26 ?_
    refine wg_aload_n (pc := 201) hX dX3_what_201 0 rfl ?_
    refine wg_gK (pc := 202) hX hM0 fd_X3_68 (by decide) dX3_what_202 ?_
    refine wg_iload (pc := 205) hX dX3_what_205 2 rfl ?_
    refine wg_aload_n (pc := 207) hX dX3_what_207 0 rfl ?_
    refine wg_gK (pc := 208) hX hM0 fd_X3_284 (by decide) dX3_what_208 ?_
    refine wg_iload (pc := 211) hX dX3_what_211 2 rfl ?_
    refine wu_ (wg_rI (pc := 213) hX ar_138 dX3_what_213 fun v27 => ?_)
    refine wu_ (wg_wI (pc := 214) hX ar_74 dX3_what_214 ?_)
    refine wg_aload_n (pc := 215) hX dX3_what_215 0 rfl ?_
    refine wg_gK (pc := 216) hX hM0 fd_X3_71 (by decide) dX3_what_216 ?_
    refine wg_iload (pc := 219) hX dX3_what_219 2 rfl ?_
    refine wg_aload_n (pc := 221) hX dX3_what_221 0 rfl ?_
    refine wg_gK (pc := 222) hX hM0 fd_X3_287 (by decide) dX3_what_222 ?_
    refine wg_iload (pc := 225) hX dX3_what_225 2 rfl ?_
    refine wu_ (wg_rI (pc := 227) hX ar_139 dX3_what_227 fun v28 => ?_)
    refine wu_ (wg_wI (pc := 228) hX ar_75 dX3_what_228 ?_)
    refine wg_iinc (pc := 229) (v := (x24 + 1)) (l' := [(0, .ref (rid 1 1)), (6, .int v23), (7, .int (x24 + 1))]) hX dX3_what_229 2 rfl rfl (by decide) rfl ?_
    refine wg_goto (pc := 232) (tgt := 193) hX dX3_what_232 (by decide) ?_
    exact hrec24 (x24 + 1)
  refine wg_iconst (pc := 235) (v := 0) hX dX3_what_235 rfl ?_
  refine wg_istore (pc := 236) (l' := [(0, .ref (rid 1 1)), (6, .int v23), (7, .int 0)]) hX dX3_what_236 (by decide) rfl ?_
  refine wu_lpx (α := Int32) (γ := Unit) (pcl := 238) (pcT := 279) (lo := fun x => [(0, .ref (rid 1 1)), (6, .int v23), (7, .int x)]) (so := fun _ => []) (lT := fun x => [(6, .int v23)]) (sT := fun _ => []) (n := amFu) (x0 := 0) (fun K29 rec29 hrec29 hk29 x29 => ?_) (fun y30 => ?_)
  · unfold p_X3_what_L238
    refine wg_iload (pc := 238) hX dX3_what_238 2 rfl ?_
    refine wg_bipush (pc := 240) (v := 72) hX dX3_what_240 rfl ?_
    refine wg_icmp_ge (pc := 242) (tgt := 279) hX dX3_what_242 (by decide) (fun h31 => ?_) (fun h31 => ?_)
    · refine wu_t h31 ?_
      refine wg_sub hX [1] rfl ?_
      exact wu_rt (hk29 ())
    refine wu_f h31 ?_
    refine wg_aload_n (pc := 245) hX dX3_what_245 0 rfl ?_
    refine wg_gK (pc := 246) hX hM0 fd_X3_83 (by decide) dX3_what_246 ?_
    refine wg_iload (pc := 249) hX dX3_what_249 2 rfl ?_
    refine wg_aload_n (pc := 251) hX dX3_what_251 0 rfl ?_
    refine wg_gK (pc := 252) hX hM0 fd_X3_290 (by decide) dX3_what_252 ?_
    refine wg_iload (pc := 255) hX dX3_what_255 2 rfl ?_
    refine wu_ (wg_rI (pc := 257) hX ar_140 dX3_what_257 fun v32 => ?_)
    refine wu_ (wg_wI (pc := 258) hX ar_79 dX3_what_258 ?_)
    refine wg_aload_n (pc := 259) hX dX3_what_259 0 rfl ?_
    refine wg_gK (pc := 260) hX hM0 fd_X3_92 (by decide) dX3_what_260 ?_
    refine wg_iload (pc := 263) hX dX3_what_263 2 rfl ?_
    refine wg_aload_n (pc := 265) hX dX3_what_265 0 rfl ?_
    refine wg_gK (pc := 266) hX hM0 fd_X3_293 (by decide) dX3_what_266 ?_
    refine wg_iload (pc := 269) hX dX3_what_269 2 rfl ?_
    refine wu_ (wg_rZ (pc := 271) hX ar_141 dX3_what_271 fun v33 => ?_)
    refine wu_ (wg_gd fun h34 => ?_)
    refine wu_ (wg_wZ (pc := 272) hX ar_82 h34 dX3_what_272 ?_)
    refine wg_iinc (pc := 273) (v := (x29 + 1)) (l' := [(0, .ref (rid 1 1)), (6, .int v23), (7, .int (x29 + 1))]) hX dX3_what_273 2 rfl rfl (by decide) rfl ?_
    refine wg_goto (pc := 276) (tgt := 238) hX dX3_what_276 (by decide) ?_
    exact hrec29 (x29 + 1)
  refine wg_iload (pc := 279) hX dX3_what_279 0 rfl ?_
  exact wu_rt (wg_iret (pc := 281) hX rfl rfl dX3_what_281)
theorem m_X3_count (a1 : Int32) : amMet yX3_count cX3_count 4 (some .int) 1 32 encI [.ref (rid 1 1), .int a1] (up (p_X3_count a1)) := by
  refine amMet.of (own := RX3) (by decide) rfl (Nat.le_of_ble_eq_true rfl) fun X hX hPs => ?_
  change WG X encI 0 [(0, .ref (rid 1 1)), (1, .int a1)] [] (bd1 (up (p_X3_count a1)) rt1)
  unfold p_X3_count
  have hM0 := amPs.m0 hPs
  refine wu_ (wg_gM ?_)
  refine wg_aload_n (pc := 0) hX dX3_count_0 0 rfl ?_
  refine wg_iconst (pc := 1) (v := 0) hX dX3_count_1 rfl ?_
  refine wu_ (wg_pI (pc := 2) hX fp_X3_297 (fun h => by cases h) dX3_count_2 ?_)
  refine wg_iconst (pc := 5) (v := 0) hX dX3_count_5 rfl ?_
  refine wg_istore_n (pc := 6) (l' := [(0, .ref (rid 1 1)), (1, .int a1), (2, .int 0)]) hX dX3_count_6 (by decide) rfl ?_
  refine wg_iload_n (pc := 7) hX dX3_count_7 1 rfl ?_
  by_cases h1 : a1 = 0
  · refine wu_t h1 ?_
    refine wg_tableIn (pc := 8) hX dX3_count_8 (by rw [h1]; decide) (by rw [h1]; decide) (by rw [h1]; rfl) (by decide : ((8 : Nat) : Int) + 84 = ((92 : Nat) : Int)) ?_
    refine wg_aload_n (pc := 92) hX dX3_count_92 0 rfl ?_
    refine wu_ (wg_gI (pc := 93) hX fd_X3_395 dX3_count_93 fun v2 => ?_)
    exact wu_rt (wg_iret (pc := 96) hX rfl rfl dX3_count_96)
  refine wu_f h1 ?_
  by_cases h3 : a1 = 1
  · refine wu_t h3 ?_
    refine wg_tableIn (pc := 8) hX dX3_count_8 (by rw [h3]; decide) (by rw [h3]; decide) (by rw [h3]; rfl) (by decide : ((8 : Nat) : Int) + 89 = ((97 : Nat) : Int)) ?_
    refine wg_aload_n (pc := 97) hX dX3_count_97 0 rfl ?_
    refine wu_ (wg_gI (pc := 98) hX fd_X3_300 dX3_count_98 fun v4 => ?_)
    exact wu_rt (wg_iret (pc := 101) hX rfl rfl dX3_count_101)
  refine wu_f h3 ?_
  by_cases h5 : a1 = 2
  · refine wu_t h5 ?_
    refine wg_tableIn (pc := 8) hX dX3_count_8 (by rw [h5]; decide) (by rw [h5]; decide) (by rw [h5]; rfl) (by decide : ((8 : Nat) : Int) + 94 = ((102 : Nat) : Int)) ?_
    refine wg_aload_n (pc := 102) hX dX3_count_102 0 rfl ?_
    refine wu_ (wg_gI (pc := 103) hX fd_X3_331 dX3_count_103 fun v6 => ?_)
    exact wu_rt (wg_iret (pc := 106) hX rfl rfl dX3_count_106)
  refine wu_f h5 ?_
  by_cases h7 : a1 = 3
  · refine wu_t h7 ?_
    refine wg_tableIn (pc := 8) hX dX3_count_8 (by rw [h7]; decide) (by rw [h7]; decide) (by rw [h7]; rfl) (by decide : ((8 : Nat) : Int) + 99 = ((107 : Nat) : Int)) ?_
    refine wg_aload_n (pc := 107) hX dX3_count_107 0 rfl ?_
    refine wu_ (wg_gI (pc := 108) hX fd_X3_366 dX3_count_108 fun v8 => ?_)
    exact wu_rt (wg_iret (pc := 111) hX rfl rfl dX3_count_111)
  refine wu_f h7 ?_
  by_cases h9 : a1 = 4
  · refine wu_t h9 ?_
    refine wg_tableIn (pc := 8) hX dX3_count_8 (by rw [h9]; decide) (by rw [h9]; decide) (by rw [h9]; rfl) (by decide : ((8 : Nat) : Int) + 104 = ((112 : Nat) : Int)) ?_
    refine wg_aload_n (pc := 112) hX dX3_count_112 0 rfl ?_
    refine wu_ (wg_gI (pc := 113) hX fd_X3_525 dX3_count_113 fun v10 => ?_)
    exact wu_rt (wg_iret (pc := 116) hX rfl rfl dX3_count_116)
  refine wu_f h9 ?_
  by_cases h11 : a1 = 5
  · refine wu_t h11 ?_
    refine wg_tableIn (pc := 8) hX dX3_count_8 (by rw [h11]; decide) (by rw [h11]; decide) (by rw [h11]; rfl) (by decide : ((8 : Nat) : Int) + 109 = ((117 : Nat) : Int)) ?_
    refine wg_iconst (pc := 117) (v := 0) hX dX3_count_117 rfl ?_
    refine wg_istore_n (pc := 118) (l' := [(0, .ref (rid 1 1)), (1, .int a1), (2, .int 0), (3, .int 0)]) hX dX3_count_118 (by decide) rfl ?_
    refine wu_lpx (α := Int32 × Int32) (γ := Int32) (pcl := 119) (pcT := 160) (lo := fun x => [(0, .ref (rid 1 1)), (1, .int a1), (2, .int x.1), (3, .int x.2)]) (so := fun _ => []) (lT := fun x => [(2, .int x)]) (sT := fun _ => []) (n := amFu) (x0 := (0, 0)) (fun K12 rec12 hrec12 hk12 x12 => ?_) (fun y13 => ?_)
    · unfold p_X3_count_L119
      refine wg_iload_n (pc := 119) hX dX3_count_119 3 rfl ?_
      refine wg_aload_n (pc := 120) hX dX3_count_120 0 rfl ?_
      refine wu_ (wg_gI (pc := 121) hX fd_X3_525 dX3_count_121 fun v14 => ?_)
      refine wg_icmp_ge (pc := 124) (tgt := 160) hX dX3_count_124 (by decide) (fun h15 => ?_) (fun h15 => ?_)
      · refine wu_t h15 ?_
        refine wg_sub hX [2] rfl ?_
        exact wu_rt (hk12 x12.1)
      refine wu_f h15 ?_
      refine wg_iload_n (pc := 127) hX dX3_count_127 2 rfl ?_
      refine wg_aload_n (pc := 128) hX dX3_count_128 0 rfl ?_
      refine wg_gK (pc := 129) hX hM0 fd_X3_220 (by decide) dX3_count_129 ?_
      refine wg_iload_n (pc := 132) hX dX3_count_132 3 rfl ?_
      refine wu_ (wg_rI (pc := 133) hX ar_117 dX3_count_133 fun v16 => ?_)
      refine wg_iload_n (pc := 134) hX dX3_count_134 1 rfl ?_
      refine wg_iconst (pc := 135) (v := 5) hX dX3_count_135 rfl ?_
      refine wu_jx (α := Int32) (pcJ := 144) (lJ := fun x => [(0, .ref (rid 1 1)), (1, .int a1), (3, .int x12.2)]) (sJ := fun x => [.int x, .int v16, .int x12.1]) (fun K17 hk17 => ?_) (fun z17 => ?_)
      · refine wg_icmp_ne (pc := 136) (tgt := 143) hX dX3_count_136 (by decide) (fun h18 => ?_) (fun h18 => ?_)
        rotate_left
        · refine wu_f h18 ?_
          refine wg_iconst (pc := 143) (v := 2) hX dX3_count_143 rfl ?_
          refine wg_sub hX [0, 1, 3] rfl ?_
          exact wu_rt (hk17 2)
        refine wu_t h18 ?_
        refine wg_iconst (pc := 139) (v := 0) hX dX3_count_139 rfl ?_
        refine wg_goto (pc := 140) (tgt := 144) hX dX3_count_140 (by decide) ?_
        refine wg_sub hX [0, 1, 3] rfl ?_
        exact wu_rt (hk17 0)
      refine wu_jx (α := Int32) (pcJ := 152) (lJ := fun x => [(0, .ref (rid 1 1)), (1, .int a1), (3, .int x12.2)]) (sJ := fun x => [.int x, .int x12.1]) (fun K19 hk19 => ?_) (fun z19 => ?_)
      · refine wg_icmp_ne (pc := 144) (tgt := 151) hX dX3_count_144 (by decide) (fun h20 => ?_) (fun h20 => ?_)
        rotate_left
        · refine wu_f h20 ?_
          refine wg_iconst (pc := 151) (v := 0) hX dX3_count_151 rfl ?_
          exact wu_rt (hk19 0)
        refine wu_t h20 ?_
        refine wg_iconst (pc := 147) (v := 1) hX dX3_count_147 rfl ?_
        refine wg_goto (pc := 148) (tgt := 152) hX dX3_count_148 (by decide) ?_
        exact wu_rt (hk19 1)
      refine wg_iadd (pc := 152) hX dX3_count_152 ?_
      refine wu_ (wg_nmi hX fun v21 => ?_)
      refine wg_istore_n (pc := 153) (l' := [(0, .ref (rid 1 1)), (1, .int a1), (2, .int v21), (3, .int x12.2)]) hX dX3_count_153 (by decide) rfl ?_
      refine wg_iinc (pc := 154) (v := (x12.2 + 1)) (l' := [(0, .ref (rid 1 1)), (1, .int a1), (2, .int v21), (3, .int (x12.2 + 1))]) hX dX3_count_154 3 rfl rfl (by decide) rfl ?_
      refine wg_goto (pc := 157) (tgt := 119) hX dX3_count_157 (by decide) ?_
      exact hrec12 (v21, (x12.2 + 1))
    refine wg_iload_n (pc := 160) hX dX3_count_160 0 rfl ?_
    exact wu_rt (wg_iret (pc := 161) hX rfl rfl dX3_count_161)
  refine wu_f h11 ?_
  by_cases h22 : a1 = 6
  · refine wu_t h22 ?_
    refine wg_tableIn (pc := 8) hX dX3_count_8 (by rw [h22]; decide) (by rw [h22]; decide) (by rw [h22]; rfl) (by decide : ((8 : Nat) : Int) + 109 = ((117 : Nat) : Int)) ?_
    refine wg_iconst (pc := 117) (v := 0) hX dX3_count_117 rfl ?_
    refine wg_istore_n (pc := 118) (l' := [(0, .ref (rid 1 1)), (1, .int a1), (2, .int 0), (3, .int 0)]) hX dX3_count_118 (by decide) rfl ?_
    refine wu_lpx (α := Int32 × Int32) (γ := Int32) (pcl := 119) (pcT := 160) (lo := fun x => [(0, .ref (rid 1 1)), (1, .int a1), (2, .int x.1), (3, .int x.2)]) (so := fun _ => []) (lT := fun x => [(2, .int x)]) (sT := fun _ => []) (n := amFu) (x0 := (0, 0)) (fun K23 rec23 hrec23 hk23 x23 => ?_) (fun y24 => ?_)
    · unfold p_X3_count_L119_23
      refine wg_iload_n (pc := 119) hX dX3_count_119 3 rfl ?_
      refine wg_aload_n (pc := 120) hX dX3_count_120 0 rfl ?_
      refine wu_ (wg_gI (pc := 121) hX fd_X3_525 dX3_count_121 fun v25 => ?_)
      refine wg_icmp_ge (pc := 124) (tgt := 160) hX dX3_count_124 (by decide) (fun h26 => ?_) (fun h26 => ?_)
      · refine wu_t h26 ?_
        refine wg_sub hX [2] rfl ?_
        exact wu_rt (hk23 x23.1)
      refine wu_f h26 ?_
      refine wg_iload_n (pc := 127) hX dX3_count_127 2 rfl ?_
      refine wg_aload_n (pc := 128) hX dX3_count_128 0 rfl ?_
      refine wg_gK (pc := 129) hX hM0 fd_X3_220 (by decide) dX3_count_129 ?_
      refine wg_iload_n (pc := 132) hX dX3_count_132 3 rfl ?_
      refine wu_ (wg_rI (pc := 133) hX ar_117 dX3_count_133 fun v27 => ?_)
      refine wg_iload_n (pc := 134) hX dX3_count_134 1 rfl ?_
      refine wg_iconst (pc := 135) (v := 5) hX dX3_count_135 rfl ?_
      refine wu_jx (α := Int32) (pcJ := 144) (lJ := fun x => [(0, .ref (rid 1 1)), (1, .int a1), (3, .int x23.2)]) (sJ := fun x => [.int x, .int v27, .int x23.1]) (fun K28 hk28 => ?_) (fun z28 => ?_)
      · refine wg_icmp_ne (pc := 136) (tgt := 143) hX dX3_count_136 (by decide) (fun h29 => ?_) (fun h29 => ?_)
        rotate_left
        · refine wu_f h29 ?_
          refine wg_iconst (pc := 143) (v := 2) hX dX3_count_143 rfl ?_
          refine wg_sub hX [0, 1, 3] rfl ?_
          exact wu_rt (hk28 2)
        refine wu_t h29 ?_
        refine wg_iconst (pc := 139) (v := 0) hX dX3_count_139 rfl ?_
        refine wg_goto (pc := 140) (tgt := 144) hX dX3_count_140 (by decide) ?_
        refine wg_sub hX [0, 1, 3] rfl ?_
        exact wu_rt (hk28 0)
      refine wu_jx (α := Int32) (pcJ := 152) (lJ := fun x => [(0, .ref (rid 1 1)), (1, .int a1), (3, .int x23.2)]) (sJ := fun x => [.int x, .int x23.1]) (fun K30 hk30 => ?_) (fun z30 => ?_)
      · refine wg_icmp_ne (pc := 144) (tgt := 151) hX dX3_count_144 (by decide) (fun h31 => ?_) (fun h31 => ?_)
        rotate_left
        · refine wu_f h31 ?_
          refine wg_iconst (pc := 151) (v := 0) hX dX3_count_151 rfl ?_
          exact wu_rt (hk30 0)
        refine wu_t h31 ?_
        refine wg_iconst (pc := 147) (v := 1) hX dX3_count_147 rfl ?_
        refine wg_goto (pc := 148) (tgt := 152) hX dX3_count_148 (by decide) ?_
        exact wu_rt (hk30 1)
      refine wg_iadd (pc := 152) hX dX3_count_152 ?_
      refine wu_ (wg_nmi hX fun v32 => ?_)
      refine wg_istore_n (pc := 153) (l' := [(0, .ref (rid 1 1)), (1, .int a1), (2, .int v32), (3, .int x23.2)]) hX dX3_count_153 (by decide) rfl ?_
      refine wg_iinc (pc := 154) (v := (x23.2 + 1)) (l' := [(0, .ref (rid 1 1)), (1, .int a1), (2, .int v32), (3, .int (x23.2 + 1))]) hX dX3_count_154 3 rfl rfl (by decide) rfl ?_
      refine wg_goto (pc := 157) (tgt := 119) hX dX3_count_157 (by decide) ?_
      exact hrec23 (v32, (x23.2 + 1))
    refine wg_iload_n (pc := 160) hX dX3_count_160 0 rfl ?_
    exact wu_rt (wg_iret (pc := 161) hX rfl rfl dX3_count_161)
  refine wu_f h22 ?_
  by_cases h33 : a1 = 7
  · refine wu_t h33 ?_
    refine wg_tableIn (pc := 8) hX dX3_count_8 (by rw [h33]; decide) (by rw [h33]; decide) (by rw [h33]; rfl) (by decide : ((8 : Nat) : Int) + 154 = ((162 : Nat) : Int)) ?_
    refine wg_iconst (pc := 162) (v := 0) hX dX3_count_162 rfl ?_
    refine wg_istore_n (pc := 163) (l' := [(0, .ref (rid 1 1)), (1, .int a1), (2, .int 0), (3, .int 0)]) hX dX3_count_163 (by decide) rfl ?_
    refine wg_sub hX [0, 2, 3] rfl ?_
    refine wu_lpx (α := Int32 × Int32) (γ := Int32) (pcl := 164) (pcT := 187) (lo := fun x => [(0, .ref (rid 1 1)), (2, .int x.1), (3, .int x.2)]) (so := fun _ => []) (lT := fun x => [(2, .int x)]) (sT := fun _ => []) (n := amFu) (x0 := (0, 0)) (fun K34 rec34 hrec34 hk34 x34 => ?_) (fun y35 => ?_)
    · unfold p_X3_count_L164
      refine wg_iload_n (pc := 164) hX dX3_count_164 2 rfl ?_
      refine wg_aload_n (pc := 165) hX dX3_count_165 0 rfl ?_
      refine wu_ (wg_gI (pc := 166) hX fd_X3_525 dX3_count_166 fun v36 => ?_)
      refine wg_icmp_ge (pc := 169) (tgt := 187) hX dX3_count_169 (by decide) (fun h37 => ?_) (fun h37 => ?_)
      · refine wu_t h37 ?_
        refine wg_sub hX [1] rfl ?_
        exact wu_rt (hk34 x34.1)
      refine wu_f h37 ?_
      refine wg_iload_n (pc := 172) hX dX3_count_172 1 rfl ?_
      refine wg_aload_n (pc := 173) hX dX3_count_173 0 rfl ?_
      refine wg_gK (pc := 174) hX hM0 fd_X3_232 (by decide) dX3_count_174 ?_
      refine wg_iload_n (pc := 177) hX dX3_count_177 2 rfl ?_
      refine wu_ (wg_rI (pc := 178) hX ar_121 dX3_count_178 fun v38 => ?_)
      refine wg_iadd (pc := 179) hX dX3_count_179 ?_
      refine wu_ (wg_nmi hX fun v39 => ?_)
      refine wg_istore_n (pc := 180) (l' := [(0, .ref (rid 1 1)), (2, .int v39), (3, .int x34.2)]) hX dX3_count_180 (by decide) rfl ?_
      refine wg_iinc (pc := 181) (v := (x34.2 + 1)) (l' := [(0, .ref (rid 1 1)), (2, .int v39), (3, .int (x34.2 + 1))]) hX dX3_count_181 2 rfl rfl (by decide) rfl ?_
      refine wg_goto (pc := 184) (tgt := 164) hX dX3_count_184 (by decide) ?_
      exact hrec34 (v39, (x34.2 + 1))
    refine wg_iload_n (pc := 187) hX dX3_count_187 0 rfl ?_
    exact wu_rt (wg_iret (pc := 188) hX rfl rfl dX3_count_188)
  refine wu_f h33 ?_
  by_cases h40 : a1 = 8
  · refine wu_t h40 ?_
    refine wg_tableIn (pc := 8) hX dX3_count_8 (by rw [h40]; decide) (by rw [h40]; decide) (by rw [h40]; rfl) (by decide : ((8 : Nat) : Int) + 181 = ((189 : Nat) : Int)) ?_
    refine wg_iconst (pc := 189) (v := 0) hX dX3_count_189 rfl ?_
    refine wg_istore_n (pc := 190) (l' := [(0, .ref (rid 1 1)), (1, .int a1), (2, .int 0), (3, .int 0)]) hX dX3_count_190 (by decide) rfl ?_
    refine wg_sub hX [0, 2, 3] rfl ?_
    refine wu_lpx (α := Int32 × Int32) (γ := Int32) (pcl := 191) (pcT := 214) (lo := fun x => [(0, .ref (rid 1 1)), (2, .int x.1), (3, .int x.2)]) (so := fun _ => []) (lT := fun x => [(2, .int x)]) (sT := fun _ => []) (n := amFu) (x0 := (0, 0)) (fun K41 rec41 hrec41 hk41 x41 => ?_) (fun y42 => ?_)
    · unfold p_X3_count_L191
      refine wg_iload_n (pc := 191) hX dX3_count_191 2 rfl ?_
      refine wg_aload_n (pc := 192) hX dX3_count_192 0 rfl ?_
      refine wu_ (wg_gI (pc := 193) hX fd_X3_331 dX3_count_193 fun v43 => ?_)
      refine wg_icmp_ge (pc := 196) (tgt := 214) hX dX3_count_196 (by decide) (fun h44 => ?_) (fun h44 => ?_)
      · refine wu_t h44 ?_
        refine wg_sub hX [1] rfl ?_
        exact wu_rt (hk41 x41.1)
      refine wu_f h44 ?_
      refine wg_iload_n (pc := 199) hX dX3_count_199 1 rfl ?_
      refine wg_aload_n (pc := 200) hX dX3_count_200 0 rfl ?_
      refine wg_gK (pc := 201) hX hM0 fd_X3_56 (by decide) dX3_count_201 ?_
      refine wg_iload_n (pc := 204) hX dX3_count_204 2 rfl ?_
      refine wu_ (wg_rI (pc := 205) hX ar_70 dX3_count_205 fun v45 => ?_)
      refine wg_iadd (pc := 206) hX dX3_count_206 ?_
      refine wu_ (wg_nmi hX fun v46 => ?_)
      refine wg_istore_n (pc := 207) (l' := [(0, .ref (rid 1 1)), (2, .int v46), (3, .int x41.2)]) hX dX3_count_207 (by decide) rfl ?_
      refine wg_iinc (pc := 208) (v := (x41.2 + 1)) (l' := [(0, .ref (rid 1 1)), (2, .int v46), (3, .int (x41.2 + 1))]) hX dX3_count_208 2 rfl rfl (by decide) rfl ?_
      refine wg_goto (pc := 211) (tgt := 191) hX dX3_count_211 (by decide) ?_
      exact hrec41 (v46, (x41.2 + 1))
    refine wg_iload_n (pc := 214) hX dX3_count_214 0 rfl ?_
    exact wu_rt (wg_iret (pc := 215) hX rfl rfl dX3_count_215)
  refine wu_f h40 ?_
  by_cases h47 : a1 = 9
  · refine wu_t h47 ?_
    refine wg_tableIn (pc := 8) hX dX3_count_8 (by rw [h47]; decide) (by rw [h47]; decide) (by rw [h47]; rfl) (by decide : ((8 : Nat) : Int) + 208 = ((216 : Nat) : Int)) ?_
    refine wg_iconst (pc := 216) (v := 0) hX dX3_count_216 rfl ?_
    refine wg_istore_n (pc := 217) (l' := [(0, .ref (rid 1 1)), (1, .int a1), (2, .int 0), (3, .int 0)]) hX dX3_count_217 (by decide) rfl ?_
    refine wg_sub hX [0, 2, 3] rfl ?_
    refine wu_lpx (α := Int32 × Int32) (γ := Int32) (pcl := 218) (pcT := 241) (lo := fun x => [(0, .ref (rid 1 1)), (2, .int x.1), (3, .int x.2)]) (so := fun _ => []) (lT := fun x => [(2, .int x)]) (sT := fun _ => []) (n := amFu) (x0 := (0, 0)) (fun K48 rec48 hrec48 hk48 x48 => ?_) (fun y49 => ?_)
    · unfold p_X3_count_L218
      refine wg_iload_n (pc := 218) hX dX3_count_218 2 rfl ?_
      refine wg_aload_n (pc := 219) hX dX3_count_219 0 rfl ?_
      refine wu_ (wg_gI (pc := 220) hX fd_X3_331 dX3_count_220 fun v50 => ?_)
      refine wg_icmp_ge (pc := 223) (tgt := 241) hX dX3_count_223 (by decide) (fun h51 => ?_) (fun h51 => ?_)
      · refine wu_t h51 ?_
        refine wg_sub hX [1] rfl ?_
        exact wu_rt (hk48 x48.1)
      refine wu_f h51 ?_
      refine wg_iload_n (pc := 226) hX dX3_count_226 1 rfl ?_
      refine wg_aload_n (pc := 227) hX dX3_count_227 0 rfl ?_
      refine wg_gK (pc := 228) hX hM0 fd_X3_59 (by decide) dX3_count_228 ?_
      refine wg_iload_n (pc := 231) hX dX3_count_231 2 rfl ?_
      refine wu_ (wg_rI (pc := 232) hX ar_71 dX3_count_232 fun v52 => ?_)
      refine wg_iadd (pc := 233) hX dX3_count_233 ?_
      refine wu_ (wg_nmi hX fun v53 => ?_)
      refine wg_istore_n (pc := 234) (l' := [(0, .ref (rid 1 1)), (2, .int v53), (3, .int x48.2)]) hX dX3_count_234 (by decide) rfl ?_
      refine wg_iinc (pc := 235) (v := (x48.2 + 1)) (l' := [(0, .ref (rid 1 1)), (2, .int v53), (3, .int (x48.2 + 1))]) hX dX3_count_235 2 rfl rfl (by decide) rfl ?_
      refine wg_goto (pc := 238) (tgt := 218) hX dX3_count_238 (by decide) ?_
      exact hrec48 (v53, (x48.2 + 1))
    refine wg_iload_n (pc := 241) hX dX3_count_241 0 rfl ?_
    exact wu_rt (wg_iret (pc := 242) hX rfl rfl dX3_count_242)
  refine wu_f h47 ?_
  by_cases h54 : a1 = 10
  · refine wu_t h54 ?_
    refine wg_tableIn (pc := 8) hX dX3_count_8 (by rw [h54]; decide) (by rw [h54]; decide) (by rw [h54]; rfl) (by decide : ((8 : Nat) : Int) + 235 = ((243 : Nat) : Int)) ?_
    refine wg_iconst (pc := 243) (v := 0) hX dX3_count_243 rfl ?_
    refine wg_istore_n (pc := 244) (l' := [(0, .ref (rid 1 1)), (1, .int a1), (2, .int 0), (3, .int 0)]) hX dX3_count_244 (by decide) rfl ?_
    refine wg_sub hX [0, 2, 3] rfl ?_
    refine wu_lpx (α := Int32 × Int32) (γ := Int32) (pcl := 245) (pcT := 277) (lo := fun x => [(0, .ref (rid 1 1)), (2, .int x.1), (3, .int x.2)]) (so := fun _ => []) (lT := fun x => [(2, .int x)]) (sT := fun _ => []) (n := amFu) (x0 := (0, 0)) (fun K55 rec55 hrec55 hk55 x55 => ?_) (fun y56 => ?_)
    · unfold p_X3_count_L245
      refine wg_iload_n (pc := 245) hX dX3_count_245 2 rfl ?_
      refine wg_aload_n (pc := 246) hX dX3_count_246 0 rfl ?_
      refine wu_ (wg_gI (pc := 247) hX fd_X3_366 dX3_count_247 fun v57 => ?_)
      refine wg_icmp_ge (pc := 250) (tgt := 277) hX dX3_count_250 (by decide) (fun h58 => ?_) (fun h58 => ?_)
      · refine wu_t h58 ?_
        refine wg_sub hX [1] rfl ?_
        exact wu_rt (hk55 x55.1)
      refine wu_f h58 ?_
      refine wg_iload_n (pc := 253) hX dX3_count_253 1 rfl ?_
      refine wg_aload_n (pc := 254) hX dX3_count_254 0 rfl ?_
      refine wg_gK (pc := 255) hX hM0 fd_X3_128 (by decide) dX3_count_255 ?_
      refine wg_iload_n (pc := 258) hX dX3_count_258 2 rfl ?_
      refine wu_ (wg_rI (pc := 259) hX ar_94 dX3_count_259 fun v59 => ?_)
      refine wg_iconst (pc := 260) (v := 4) hX dX3_count_260 rfl ?_
      refine wu_jx (α := Int32) (pcJ := 269) (lJ := fun x => [(0, .ref (rid 1 1)), (3, .int x55.2)]) (sJ := fun x => [.int x, .int x55.1]) (fun K60 hk60 => ?_) (fun z60 => ?_)
      · refine wg_icmp_ne (pc := 261) (tgt := 268) hX dX3_count_261 (by decide) (fun h61 => ?_) (fun h61 => ?_)
        rotate_left
        · refine wu_f h61 ?_
          refine wg_iconst (pc := 268) (v := 0) hX dX3_count_268 rfl ?_
          refine wg_sub hX [0, 2] rfl ?_
          exact wu_rt (hk60 0)
        refine wu_t h61 ?_
        refine wg_iconst (pc := 264) (v := 1) hX dX3_count_264 rfl ?_
        refine wg_goto (pc := 265) (tgt := 269) hX dX3_count_265 (by decide) ?_
        refine wg_sub hX [0, 2] rfl ?_
        exact wu_rt (hk60 1)
      refine wg_iadd (pc := 269) hX dX3_count_269 ?_
      refine wu_ (wg_nmi hX fun v62 => ?_)
      refine wg_istore_n (pc := 270) (l' := [(0, .ref (rid 1 1)), (2, .int v62), (3, .int x55.2)]) hX dX3_count_270 (by decide) rfl ?_
      refine wg_iinc (pc := 271) (v := (x55.2 + 1)) (l' := [(0, .ref (rid 1 1)), (2, .int v62), (3, .int (x55.2 + 1))]) hX dX3_count_271 2 rfl rfl (by decide) rfl ?_
      refine wg_goto (pc := 274) (tgt := 245) hX dX3_count_274 (by decide) ?_
      exact hrec55 (v62, (x55.2 + 1))
    refine wg_iload_n (pc := 277) hX dX3_count_277 0 rfl ?_
    exact wu_rt (wg_iret (pc := 278) hX rfl rfl dX3_count_278)
  refine wu_f h54 ?_
  by_cases h63 : a1 = 11
  · refine wu_t h63 ?_
    refine wg_tableIn (pc := 8) hX dX3_count_8 (by rw [h63]; decide) (by rw [h63]; decide) (by rw [h63]; rfl) (by decide : ((8 : Nat) : Int) + 271 = ((279 : Nat) : Int)) ?_
    refine wg_aload_n (pc := 279) hX dX3_count_279 0 rfl ?_
    refine wu_ (wg_gI (pc := 280) hX fd_X3_522 dX3_count_280 fun v64 => ?_)
    exact wu_rt (wg_iret (pc := 283) hX rfl rfl dX3_count_283)
  refine wu_f h63 ?_
  by_cases h65 : a1 = 12
  · refine wu_t h65 ?_
    refine wg_tableIn (pc := 8) hX dX3_count_8 (by rw [h65]; decide) (by rw [h65]; decide) (by rw [h65]; rfl) (by decide : ((8 : Nat) : Int) + 276 = ((284 : Nat) : Int)) ?_
    refine wg_aload_n (pc := 284) hX dX3_count_284 0 rfl ?_
    refine wu_ (wg_gI (pc := 285) hX fd_X3_519 dX3_count_285 fun v66 => ?_)
    exact wu_rt (wg_iret (pc := 288) hX rfl rfl dX3_count_288)
  refine wu_f h65 ?_
  by_cases h67 : a1 = 13
  · refine wu_t h67 ?_
    refine wg_tableIn (pc := 8) hX dX3_count_8 (by rw [h67]; decide) (by rw [h67]; decide) (by rw [h67]; rfl) (by decide : ((8 : Nat) : Int) + 281 = ((289 : Nat) : Int)) ?_
    refine wg_aload_n (pc := 289) hX dX3_count_289 0 rfl ?_
    refine wu_ (wg_gI (pc := 290) hX fd_X3_414 dX3_count_290 fun v68 => ?_)
    exact wu_rt (wg_iret (pc := 293) hX rfl rfl dX3_count_293)
  refine wu_f h67 ?_
  by_cases h69 : a1 = 14
  · refine wu_t h69 ?_
    refine wg_tableIn (pc := 8) hX dX3_count_8 (by rw [h69]; decide) (by rw [h69]; decide) (by rw [h69]; rfl) (by decide : ((8 : Nat) : Int) + 286 = ((294 : Nat) : Int)) ?_
    refine wg_aload_n (pc := 294) hX dX3_count_294 0 rfl ?_
    refine wu_ (wg_gI (pc := 295) hX fd_X3_386 dX3_count_295 fun v70 => ?_)
    exact wu_rt (wg_iret (pc := 298) hX rfl rfl dX3_count_298)
  refine wu_f h69 ?_
  by_cases h71 : a1 = 15
  · refine wu_t h71 ?_
    refine wg_tableIn (pc := 8) hX dX3_count_8 (by rw [h71]; decide) (by rw [h71]; decide) (by rw [h71]; rfl) (by decide : ((8 : Nat) : Int) + 291 = ((299 : Nat) : Int)) ?_
    refine wg_aload_n (pc := 299) hX dX3_count_299 0 rfl ?_
    refine wu_ (wg_gI (pc := 300) hX fd_X3_389 dX3_count_300 fun v72 => ?_)
    exact wu_rt (wg_iret (pc := 303) hX rfl rfl dX3_count_303)
  refine wu_f h71 ?_
  by_cases h73 : a1 = 16
  · refine wu_t h73 ?_
    refine wg_tableIn (pc := 8) hX dX3_count_8 (by rw [h73]; decide) (by rw [h73]; decide) (by rw [h73]; rfl) (by decide : ((8 : Nat) : Int) + 296 = ((304 : Nat) : Int)) ?_
    refine wg_aload_n (pc := 304) hX dX3_count_304 0 rfl ?_
    refine wu_ (wg_gI (pc := 305) hX fd_X3_648 dX3_count_305 fun v74 => ?_)
    exact wu_rt (wg_iret (pc := 308) hX rfl rfl dX3_count_308)
  refine wu_f h73 ?_
  refine wg_tableOut (pc := 8) hX dX3_count_8 (am_out17 h1 h3 h5 h7 h9 h11 h22 h33 h40 h47 h54 h63 h65 h67 h69 h71 h73) (by decide : ((8 : Nat) : Int) + 301 = ((309 : Nat) : Int)) ?_
  refine wg_iconst (pc := 309) (v := (-1)) hX dX3_count_309 rfl ?_
  exact wu_rt (wg_iret (pc := 310) hX rfl rfl dX3_count_310)
