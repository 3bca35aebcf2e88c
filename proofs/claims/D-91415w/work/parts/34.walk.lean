/-! the walks (printed by gen/build.py) -/
theorem m_X3_init  : amMet yX3_init cX3_init 3 none 1 32 encV [.ref (rid 1 1)] (p_X3_init) := by
  refine amMet.ofI (own := RX3) (by decide) rfl (Nat.le_of_ble_eq_true rfl) rfl fun X hX hN => ?_
  change WG X encV 0 [(0, .ref (rid 1 1))] [] (bd1 (p_X3_init) rt1)
  unfold p_X3_init
  refine wg_aload_n (pc := 0) hX dX3_init_0 0 rfl ?_
  refine wg_objI (pc := 1) hX (by decide) q1938 q207 q208 (Nat.le_of_ble_eq_true rfl) (Nat.le_of_ble_eq_true rfl) dX3_init_1 ?_
  refine wg_aload_n (pc := 4) hX dX3_init_4 0 rfl ?_
  refine wg_bipush (pc := 5) (v := 40) hX dX3_init_5 rfl ?_
  refine wv_ (wg_nwA (pc := 7) (atype := .int) hX (by decide) (by decide) (by decide) rfl (fun _ _ h => h) aq_int (by decide) (fun _ => Nat.le_of_ble_eq_true rfl) (by decide) dX3_init_7 fun r1 => ?_)
  refine wv_ (wg_pR5 (pc := 9) hX fp_X3_9 (fun _ => hN) (by decide) (by first | exact Or.inl ⟨_, rfl⟩ | exact Or.inr ⟨_, rfl⟩) dX3_init_9 ?_)
  refine wg_aload_n (pc := 12) hX dX3_init_12 0 rfl ?_
  refine wg_bipush (pc := 13) (v := 40) hX dX3_init_13 rfl ?_
  refine wv_ (wg_nwA (pc := 15) (atype := .int) hX (by decide) (by decide) (by decide) rfl (fun _ _ h => h) aq_int (by decide) (fun _ => Nat.le_of_ble_eq_true rfl) (by decide) dX3_init_15 fun r2 => ?_)
  refine wv_ (wg_pR5 (pc := 17) hX fp_X3_13 (fun _ => hN) (by decide) (by first | exact Or.inl ⟨_, rfl⟩ | exact Or.inr ⟨_, rfl⟩) dX3_init_17 ?_)
  refine wg_aload_n (pc := 20) hX dX3_init_20 0 rfl ?_
  refine wg_bipush (pc := 21) (v := 40) hX dX3_init_21 rfl ?_
  refine wv_ (wg_nwA (pc := 23) (atype := .int) hX (by decide) (by decide) (by decide) rfl (fun _ _ h => h) aq_int (by decide) (fun _ => Nat.le_of_ble_eq_true rfl) (by decide) dX3_init_23 fun r3 => ?_)
  refine wv_ (wg_pR5 (pc := 25) hX fp_X3_16 (fun _ => hN) (by decide) (by first | exact Or.inl ⟨_, rfl⟩ | exact Or.inr ⟨_, rfl⟩) dX3_init_25 ?_)
  refine wg_aload_n (pc := 28) hX dX3_init_28 0 rfl ?_
  refine wg_sipush (pc := 29) (v := 160) hX dX3_init_29 rfl ?_
  refine wv_ (wg_nwA (pc := 32) (atype := .int) hX (by decide) (by decide) (by decide) rfl (fun _ _ h => h) aq_int (by decide) (fun _ => Nat.le_of_ble_eq_true rfl) (by decide) dX3_init_32 fun r4 => ?_)
  refine wv_ (wg_pR5 (pc := 34) hX fp_X3_19 (fun _ => hN) (by decide) (by first | exact Or.inl ⟨_, rfl⟩ | exact Or.inr ⟨_, rfl⟩) dX3_init_34 ?_)
  refine wg_aload_n (pc := 37) hX dX3_init_37 0 rfl ?_
  refine wg_sipush (pc := 38) (v := 400) hX dX3_init_38 rfl ?_
  refine wv_ (wg_nwA (pc := 41) (atype := .int) hX (by decide) (by decide) (by decide) rfl (fun _ _ h => h) aq_int (by decide) (fun _ => Nat.le_of_ble_eq_true rfl) (by decide) dX3_init_41 fun r5 => ?_)
  refine wv_ (wg_pR5 (pc := 43) hX fp_X3_22 (fun _ => hN) (by decide) (by first | exact Or.inl ⟨_, rfl⟩ | exact Or.inr ⟨_, rfl⟩) dX3_init_43 ?_)
  refine wg_aload_n (pc := 46) hX dX3_init_46 0 rfl ?_
  refine wg_bipush (pc := 47) (v := 40) hX dX3_init_47 rfl ?_
  refine wv_ (wg_nwA (pc := 49) (atype := .boolean) hX (by decide) (by decide) (by decide) rfl (fun _ _ h => h) aq_boolean (by decide) (fun _ => Nat.le_of_ble_eq_true rfl) (by decide) dX3_init_49 fun r6 => ?_)
  refine wv_ (wg_pR5 (pc := 51) hX fp_X3_25 (fun _ => hN) (by decide) (by first | exact Or.inl ⟨_, rfl⟩ | exact Or.inr ⟨_, rfl⟩) dX3_init_51 ?_)
  refine wg_aload_n (pc := 54) hX dX3_init_54 0 rfl ?_
  refine wg_sipush (pc := 55) (v := 12020) hX dX3_init_55 rfl ?_
  refine wv_ (wg_nwA (pc := 58) (atype := .boolean) hX (by decide) (by decide) (by decide) rfl (fun _ _ h => h) aq_boolean (by decide) (fun _ => Nat.le_of_ble_eq_true rfl) (by decide) dX3_init_58 fun r7 => ?_)
  refine wv_ (wg_pR5 (pc := 60) hX fp_X3_29 (fun _ => hN) (by decide) (by first | exact Or.inl ⟨_, rfl⟩ | exact Or.inr ⟨_, rfl⟩) dX3_init_60 ?_)
  refine wg_aload_n (pc := 63) hX dX3_init_63 0 rfl ?_
  refine wg_bipush (pc := 64) (v := 12) hX dX3_init_64 rfl ?_
  refine wv_ (wg_nwA (pc := 66) (atype := .int) hX (by decide) (by decide) (by decide) rfl (fun _ _ h => h) aq_int (by decide) (fun _ => Nat.le_of_ble_eq_true rfl) (by decide) dX3_init_66 fun r8 => ?_)
  refine wv_ (wg_pR5 (pc := 68) hX fp_X3_32 (fun _ => hN) (by decide) (by first | exact Or.inl ⟨_, rfl⟩ | exact Or.inr ⟨_, rfl⟩) dX3_init_68 ?_)
  refine wg_aload_n (pc := 71) hX dX3_init_71 0 rfl ?_
  refine wg_bipush (pc := 72) (v := 12) hX dX3_init_72 rfl ?_
  refine wv_ (wg_nwA (pc := 74) (atype := .int) hX (by decide) (by decide) (by decide) rfl (fun _ _ h => h) aq_int (by decide) (fun _ => Nat.le_of_ble_eq_true rfl) (by decide) dX3_init_74 fun r9 => ?_)
  refine wv_ (wg_pR5 (pc := 76) hX fp_X3_35 (fun _ => hN) (by decide) (by first | exact Or.inl ⟨_, rfl⟩ | exact Or.inr ⟨_, rfl⟩) dX3_init_76 ?_)
  refine wg_aload_n (pc := 79) hX dX3_init_79 0 rfl ?_
  refine wg_bipush (pc := 80) (v := 12) hX dX3_init_80 rfl ?_
  refine wv_ (wg_nwA (pc := 82) (atype := .int) hX (by decide) (by decide) (by decide) rfl (fun _ _ h => h) aq_int (by decide) (fun _ => Nat.le_of_ble_eq_true rfl) (by decide) dX3_init_82 fun r10 => ?_)
  refine wv_ (wg_pR5 (pc := 84) hX fp_X3_38 (fun _ => hN) (by decide) (by first | exact Or.inl ⟨_, rfl⟩ | exact Or.inr ⟨_, rfl⟩) dX3_init_84 ?_)
  refine wg_aload_n (pc := 87) hX dX3_init_87 0 rfl ?_
  refine wg_bipush (pc := 88) (v := 12) hX dX3_init_88 rfl ?_
  refine wv_ (wg_nwA (pc := 90) (atype := .int) hX (by decide) (by decide) (by decide) rfl (fun _ _ h => h) aq_int (by decide) (fun _ => Nat.le_of_ble_eq_true rfl) (by decide) dX3_init_90 fun r11 => ?_)
  refine wv_ (wg_pR5 (pc := 92) hX fp_X3_41 (fun _ => hN) (by decide) (by first | exact Or.inl ⟨_, rfl⟩ | exact Or.inr ⟨_, rfl⟩) dX3_init_92 ?_)
  refine wg_aload_n (pc := 95) hX dX3_init_95 0 rfl ?_
  refine wg_bipush (pc := 96) (v := 12) hX dX3_init_96 rfl ?_
  refine wv_ (wg_nwA (pc := 98) (atype := .int) hX (by decide) (by decide) (by decide) rfl (fun _ _ h => h) aq_int (by decide) (fun _ => Nat.le_of_ble_eq_true rfl) (by decide) dX3_init_98 fun r12 => ?_)
  refine wv_ (wg_pR5 (pc := 100) hX fp_X3_44 (fun _ => hN) (by decide) (by first | exact Or.inl ⟨_, rfl⟩ | exact Or.inr ⟨_, rfl⟩) dX3_init_100 ?_)
  refine wg_aload_n (pc := 103) hX dX3_init_103 0 rfl ?_
  refine wg_bipush (pc := 104) (v := 12) hX dX3_init_104 rfl ?_
  refine wv_ (wg_nwA (pc := 106) (atype := .int) hX (by decide) (by decide) (by decide) rfl (fun _ _ h => h) aq_int (by decide) (fun _ => Nat.le_of_ble_eq_true rfl) (by decide) dX3_init_106 fun r13 => ?_)
  refine wv_ (wg_pR5 (pc := 108) hX fp_X3_47 (fun _ => hN) (by decide) (by first | exact Or.inl ⟨_, rfl⟩ | exact Or.inr ⟨_, rfl⟩) dX3_init_108 ?_)
  refine wg_aload_n (pc := 111) hX dX3_init_111 0 rfl ?_
  refine wg_bipush (pc := 112) (v := 12) hX dX3_init_112 rfl ?_
  refine wv_ (wg_nwA (pc := 114) (atype := .int) hX (by decide) (by decide) (by decide) rfl (fun _ _ h => h) aq_int (by decide) (fun _ => Nat.le_of_ble_eq_true rfl) (by decide) dX3_init_114 fun r14 => ?_)
  refine wv_ (wg_pR5 (pc := 116) hX fp_X3_50 (fun _ => hN) (by decide) (by first | exact Or.inl ⟨_, rfl⟩ | exact Or.inr ⟨_, rfl⟩) dX3_init_116 ?_)
  refine wg_aload_n (pc := 119) hX dX3_init_119 0 rfl ?_
  refine wg_bipush (pc := 120) (v := 12) hX dX3_init_120 rfl ?_
  refine wv_ (wg_nwA (pc := 122) (atype := .int) hX (by decide) (by decide) (by decide) rfl (fun _ _ h => h) aq_int (by decide) (fun _ => Nat.le_of_ble_eq_true rfl) (by decide) dX3_init_122 fun r15 => ?_)
  refine wv_ (wg_pR5 (pc := 124) hX fp_X3_53 (fun _ => hN) (by decide) (by first | exact Or.inl ⟨_, rfl⟩ | exact Or.inr ⟨_, rfl⟩) dX3_init_124 ?_)
  refine wg_aload_n (pc := 127) hX dX3_init_127 0 rfl ?_
  refine wg_bipush (pc := 128) (v := 12) hX dX3_init_128 rfl ?_
  refine wv_ (wg_nwA (pc := 130) (atype := .int) hX (by decide) (by decide) (by decide) rfl (fun _ _ h => h) aq_int (by decide) (fun _ => Nat.le_of_ble_eq_true rfl) (by decide) dX3_init_130 fun r16 => ?_)
  refine wv_ (wg_pR5 (pc := 132) hX fp_X3_56 (fun _ => hN) (by decide) (by first | exact Or.inl ⟨_, rfl⟩ | exact Or.inr ⟨_, rfl⟩) dX3_init_132 ?_)
  refine wg_aload_n (pc := 135) hX dX3_init_135 0 rfl ?_
  refine wg_bipush (pc := 136) (v := 12) hX dX3_init_136 rfl ?_
  refine wv_ (wg_nwA (pc := 138) (atype := .int) hX (by decide) (by decide) (by decide) rfl (fun _ _ h => h) aq_int (by decide) (fun _ => Nat.le_of_ble_eq_true rfl) (by decide) dX3_init_138 fun r17 => ?_)
  refine wv_ (wg_pR5 (pc := 140) hX fp_X3_59 (fun _ => hN) (by decide) (by first | exact Or.inl ⟨_, rfl⟩ | exact Or.inr ⟨_, rfl⟩) dX3_init_140 ?_)
  refine wg_aload_n (pc := 143) hX dX3_init_143 0 rfl ?_
  refine wg_bipush (pc := 144) (v := 12) hX dX3_init_144 rfl ?_
  refine wv_ (wg_nwA (pc := 146) (atype := .int) hX (by decide) (by decide) (by decide) rfl (fun _ _ h => h) aq_int (by decide) (fun _ => Nat.le_of_ble_eq_true rfl) (by decide) dX3_init_146 fun r18 => ?_)
  refine wv_ (wg_pR5 (pc := 148) hX fp_X3_62 (fun _ => hN) (by decide) (by first | exact Or.inl ⟨_, rfl⟩ | exact Or.inr ⟨_, rfl⟩) dX3_init_148 ?_)
  refine wg_aload_n (pc := 151) hX dX3_init_151 0 rfl ?_
  refine wg_bipush (pc := 152) (v := 12) hX dX3_init_152 rfl ?_
  refine wv_ (wg_nwA (pc := 154) (atype := .boolean) hX (by decide) (by decide) (by decide) rfl (fun _ _ h => h) aq_boolean (by decide) (fun _ => Nat.le_of_ble_eq_true rfl) (by decide) dX3_init_154 fun r19 => ?_)
  refine wv_ (wg_pR5 (pc := 156) hX fp_X3_65 (fun _ => hN) (by decide) (by first | exact Or.inl ⟨_, rfl⟩ | exact Or.inr ⟨_, rfl⟩) dX3_init_156 ?_)
  refine wg_aload_n (pc := 159) hX dX3_init_159 0 rfl ?_
  refine wg_sipush (pc := 160) (v := 288) hX dX3_init_160 rfl ?_
  refine wv_ (wg_nwA (pc := 163) (atype := .int) hX (by decide) (by decide) (by decide) rfl (fun _ _ h => h) aq_int (by decide) (fun _ => Nat.le_of_ble_eq_true rfl) (by decide) dX3_init_163 fun r20 => ?_)
  refine wv_ (wg_pR5 (pc := 165) hX fp_X3_68 (fun _ => hN) (by decide) (by first | exact Or.inl ⟨_, rfl⟩ | exact Or.inr ⟨_, rfl⟩) dX3_init_165 ?_)
  refine wg_aload_n (pc := 168) hX dX3_init_168 0 rfl ?_
  refine wg_sipush (pc := 169) (v := 288) hX dX3_init_169 rfl ?_
  refine wv_ (wg_nwA (pc := 172) (atype := .int) hX (by decide) (by decide) (by decide) rfl (fun _ _ h => h) aq_int (by decide) (fun _ => Nat.le_of_ble_eq_true rfl) (by decide) dX3_init_172 fun r21 => ?_)
  refine wv_ (wg_pR5 (pc := 174) hX fp_X3_71 (fun _ => hN) (by decide) (by first | exact Or.inl ⟨_, rfl⟩ | exact Or.inr ⟨_, rfl⟩) dX3_init_174 ?_)
  refine wg_aload_n (pc := 177) hX dX3_init_177 0 rfl ?_
  refine wg_sipush (pc := 178) (v := 288) hX dX3_init_178 rfl ?_
  refine wv_ (wg_nwA (pc := 181) (atype := .int) hX (by decide) (by decide) (by decide) rfl (fun _ _ h => h) aq_int (by decide) (fun _ => Nat.le_of_ble_eq_true rfl) (by decide) dX3_init_181 fun r22 => ?_)
  refine wv_ (wg_pR5 (pc := 183) hX fp_X3_74 (fun _ => hN) (by decide) (by first | exact Or.inl ⟨_, rfl⟩ | exact Or.inr ⟨_, rfl⟩) dX3_init_183 ?_)
  refine wg_aload_n (pc := 186) hX dX3_init_186 0 rfl ?_
  refine wg_sipush (pc := 187) (v := 288) hX dX3_init_187 rfl ?_
  refine wv_ (wg_nwA (pc := 190) (atype := .int) hX (by decide) (by decide) (by decide) rfl (fun _ _ h => h) aq_int (by decide) (fun _ => Nat.le_of_ble_eq_true rfl) (by decide) dX3_init_190 fun r23 => ?_)
  refine wv_ (wg_pR5 (pc := 192) hX fp_X3_77 (fun _ => hN) (by decide) (by first | exact Or.inl ⟨_, rfl⟩ | exact Or.inr ⟨_, rfl⟩) dX3_init_192 ?_)
  refine wg_aload_n (pc := 195) hX dX3_init_195 0 rfl ?_
  refine wg_sipush (pc := 196) (v := 288) hX dX3_init_196 rfl ?_
  refine wv_ (wg_nwA (pc := 199) (atype := .int) hX (by decide) (by decide) (by decide) rfl (fun _ _ h => h) aq_int (by decide) (fun _ => Nat.le_of_ble_eq_true rfl) (by decide) dX3_init_199 fun r24 => ?_)
  refine wv_ (wg_pR5 (pc := 201) hX fp_X3_80 (fun _ => hN) (by decide) (by first | exact Or.inl ⟨_, rfl⟩ | exact Or.inr ⟨_, rfl⟩) dX3_init_201 ?_)
  refine wg_aload_n (pc := 204) hX dX3_init_204 0 rfl ?_
  refine wg_bipush (pc := 205) (v := 72) hX dX3_init_205 rfl ?_
  refine wv_ (wg_nwA (pc := 207) (atype := .int) hX (by decide) (by decide) (by decide) rfl (fun _ _ h => h) aq_int (by decide) (fun _ => Nat.le_of_ble_eq_true rfl) (by decide) dX3_init_207 fun r25 => ?_)
  refine wv_ (wg_pR5 (pc := 209) hX fp_X3_83 (fun _ => hN) (by decide) (by first | exact Or.inl ⟨_, rfl⟩ | exact Or.inr ⟨_, rfl⟩) dX3_init_209 ?_)
  refine wg_aload_n (pc := 212) hX dX3_init_212 0 rfl ?_
  refine wg_bipush (pc := 213) (v := 72) hX dX3_init_213 rfl ?_
  refine wv_ (wg_nwA (pc := 215) (atype := .int) hX (by decide) (by decide) (by decide) rfl (fun _ _ h => h) aq_int (by decide) (fun _ => Nat.le_of_ble_eq_true rfl) (by decide) dX3_init_215 fun r26 => ?_)
  refine wv_ (wg_pR5 (pc := 217) hX fp_X3_86 (fun _ => hN) (by decide) (by first | exact Or.inl ⟨_, rfl⟩ | exact Or.inr ⟨_, rfl⟩) dX3_init_217 ?_)
  refine wg_aload_n (pc := 220) hX dX3_init_220 0 rfl ?_
  refine wg_bipush (pc := 221) (v := 72) hX dX3_init_221 rfl ?_
  refine wv_ (wg_nwA (pc := 223) (atype := .int) hX (by decide) (by decide) (by decide) rfl (fun _ _ h => h) aq_int (by decide) (fun _ => Nat.le_of_ble_eq_true rfl) (by decide) dX3_init_223 fun r27 => ?_)
  refine wv_ (wg_pR5 (pc := 225) hX fp_X3_89 (fun _ => hN) (by decide) (by first | exact Or.inl ⟨_, rfl⟩ | exact Or.inr ⟨_, rfl⟩) dX3_init_225 ?_)
  refine wg_aload_n (pc := 228) hX dX3_init_228 0 rfl ?_
  refine wg_bipush (pc := 229) (v := 72) hX dX3_init_229 rfl ?_
  refine wv_ (wg_nwA (pc := 231) (atype := .boolean) hX (by decide) (by decide) (by decide) rfl (fun _ _ h => h) aq_boolean (by decide) (fun _ => Nat.le_of_ble_eq_true rfl) (by decide) dX3_init_231 fun r28 => ?_)
  refine wv_ (wg_pR5 (pc := 233) hX fp_X3_92 (fun _ => hN) (by decide) (by first | exact Or.inl ⟨_, rfl⟩ | exact Or.inr ⟨_, rfl⟩) dX3_init_233 ?_)
  refine wg_aload_n (pc := 236) hX dX3_init_236 0 rfl ?_
  refine wg_bipush (pc := 237) (v := 6) hX dX3_init_237 rfl ?_
  refine wv_ (wg_nwA (pc := 239) (atype := .int) hX (by decide) (by decide) (by decide) rfl (fun _ _ h => h) aq_int (by decide) (fun _ => Nat.le_of_ble_eq_true rfl) (by decide) dX3_init_239 fun r29 => ?_)
  refine wv_ (wg_pR5 (pc := 241) hX fp_X3_95 (fun _ => hN) (by decide) (by first | exact Or.inl ⟨_, rfl⟩ | exact Or.inr ⟨_, rfl⟩) dX3_init_241 ?_)
  refine wg_aload_n (pc := 244) hX dX3_init_244 0 rfl ?_
  refine wg_bipush (pc := 245) (v := 20) hX dX3_init_245 rfl ?_
  refine wv_ (wg_nwA (pc := 247) (atype := .int) hX (by decide) (by decide) (by decide) rfl (fun _ _ h => h) aq_int (by decide) (fun _ => Nat.le_of_ble_eq_true rfl) (by decide) dX3_init_247 fun r30 => ?_)
  refine wv_ (wg_pR5 (pc := 249) hX fp_X3_98 (fun _ => hN) (by decide) (by first | exact Or.inl ⟨_, rfl⟩ | exact Or.inr ⟨_, rfl⟩) dX3_init_249 ?_)
  refine wg_aload_n (pc := 252) hX dX3_init_252 0 rfl ?_
  refine wg_bipush (pc := 253) (v := 20) hX dX3_init_253 rfl ?_
  refine wv_ (wg_nwA (pc := 255) (atype := .int) hX (by decide) (by decide) (by decide) rfl (fun _ _ h => h) aq_int (by decide) (fun _ => Nat.le_of_ble_eq_true rfl) (by decide) dX3_init_255 fun r31 => ?_)
  refine wv_ (wg_pR5 (pc := 257) hX fp_X3_101 (fun _ => hN) (by decide) (by first | exact Or.inl ⟨_, rfl⟩ | exact Or.inr ⟨_, rfl⟩) dX3_init_257 ?_)
  refine wg_aload_n (pc := 260) hX dX3_init_260 0 rfl ?_
  refine wg_bipush (pc := 261) (v := 6) hX dX3_init_261 rfl ?_
  refine wv_ (wg_nwA (pc := 263) (atype := .int) hX (by decide) (by decide) (by decide) rfl (fun _ _ h => h) aq_int (by decide) (fun _ => Nat.le_of_ble_eq_true rfl) (by decide) dX3_init_263 fun r32 => ?_)
  refine wv_ (wg_pR5 (pc := 265) hX fp_X3_104 (fun _ => hN) (by decide) (by first | exact Or.inl ⟨_, rfl⟩ | exact Or.inr ⟨_, rfl⟩) dX3_init_265 ?_)
  refine wg_aload_n (pc := 268) hX dX3_init_268 0 rfl ?_
  refine wg_bipush (pc := 269) (v := 16) hX dX3_init_269 rfl ?_
  refine wv_ (wg_nwA (pc := 271) (atype := .int) hX (by decide) (by decide) (by decide) rfl (fun _ _ h => h) aq_int (by decide) (fun _ => Nat.le_of_ble_eq_true rfl) (by decide) dX3_init_271 fun r33 => ?_)
  refine wv_ (wg_pR5 (pc := 273) hX fp_X3_107 (fun _ => hN) (by decide) (by first | exact Or.inl ⟨_, rfl⟩ | exact Or.inr ⟨_, rfl⟩) dX3_init_273 ?_)
  refine wg_aload_n (pc := 276) hX dX3_init_276 0 rfl ?_
  refine wg_bipush (pc := 277) (v := 16) hX dX3_init_277 rfl ?_
  refine wv_ (wg_nwA (pc := 279) (atype := .int) hX (by decide) (by decide) (by decide) rfl (fun _ _ h => h) aq_int (by decide) (fun _ => Nat.le_of_ble_eq_true rfl) (by decide) dX3_init_279 fun r34 => ?_)
  refine wv_ (wg_pR5 (pc := 281) hX fp_X3_110 (fun _ => hN) (by decide) (by first | exact Or.inl ⟨_, rfl⟩ | exact Or.inr ⟨_, rfl⟩) dX3_init_281 ?_)
  refine wg_aload_n (pc := 284) hX dX3_init_284 0 rfl ?_
  refine wg_bipush (pc := 285) (v := 16) hX dX3_init_285 rfl ?_
  refine wv_ (wg_nwA (pc := 287) (atype := .int) hX (by decide) (by decide) (by decide) rfl (fun _ _ h => h) aq_int (by decide) (fun _ => Nat.le_of_ble_eq_true rfl) (by decide) dX3_init_287 fun r35 => ?_)
  refine wv_ (wg_pR5 (pc := 289) hX fp_X3_113 (fun _ => hN) (by decide) (by first | exact Or.inl ⟨_, rfl⟩ | exact Or.inr ⟨_, rfl⟩) dX3_init_289 ?_)
  refine wg_aload_n (pc := 292) hX dX3_init_292 0 rfl ?_
  refine wg_bipush (pc := 293) (v := 16) hX dX3_init_293 rfl ?_
  refine wv_ (wg_nwA (pc := 295) (atype := .int) hX (by decide) (by decide) (by decide) rfl (fun _ _ h => h) aq_int (by decide) (fun _ => Nat.le_of_ble_eq_true rfl) (by decide) dX3_init_295 fun r36 => ?_)
  refine wv_ (wg_pR5 (pc := 297) hX fp_X3_116 (fun _ => hN) (by decide) (by first | exact Or.inl ⟨_, rfl⟩ | exact Or.inr ⟨_, rfl⟩) dX3_init_297 ?_)
  refine wg_aload_n (pc := 300) hX dX3_init_300 0 rfl ?_
  refine wg_bipush (pc := 301) (v := 16) hX dX3_init_301 rfl ?_
  refine wv_ (wg_nwA (pc := 303) (atype := .int) hX (by decide) (by decide) (by decide) rfl (fun _ _ h => h) aq_int (by decide) (fun _ => Nat.le_of_ble_eq_true rfl) (by decide) dX3_init_303 fun r37 => ?_)
  refine wv_ (wg_pR5 (pc := 305) hX fp_X3_119 (fun _ => hN) (by decide) (by first | exact Or.inl ⟨_, rfl⟩ | exact Or.inr ⟨_, rfl⟩) dX3_init_305 ?_)
  refine wg_aload_n (pc := 308) hX dX3_init_308 0 rfl ?_
  refine wg_bipush (pc := 309) (v := 16) hX dX3_init_309 rfl ?_
  refine wv_ (wg_nwA (pc := 311) (atype := .int) hX (by decide) (by decide) (by decide) rfl (fun _ _ h => h) aq_int (by decide) (fun _ => Nat.le_of_ble_eq_true rfl) (by decide) dX3_init_311 fun r38 => ?_)
  refine wv_ (wg_pR5 (pc := 313) hX fp_X3_122 (fun _ => hN) (by decide) (by first | exact Or.inl ⟨_, rfl⟩ | exact Or.inr ⟨_, rfl⟩) dX3_init_313 ?_)
  refine wg_aload_n (pc := 316) hX dX3_init_316 0 rfl ?_
  refine wg_bipush (pc := 317) (v := 16) hX dX3_init_317 rfl ?_
  refine wv_ (wg_nwA (pc := 319) (atype := .int) hX (by decide) (by decide) (by decide) rfl (fun _ _ h => h) aq_int (by decide) (fun _ => Nat.le_of_ble_eq_true rfl) (by decide) dX3_init_319 fun r39 => ?_)
  refine wv_ (wg_pR5 (pc := 321) hX fp_X3_125 (fun _ => hN) (by decide) (by first | exact Or.inl ⟨_, rfl⟩ | exact Or.inr ⟨_, rfl⟩) dX3_init_321 ?_)
  refine wg_aload_n (pc := 324) hX dX3_init_324 0 rfl ?_
  refine wg_bipush (pc := 325) (v := 16) hX dX3_init_325 rfl ?_
  refine wv_ (wg_nwA (pc := 327) (atype := .int) hX (by decide) (by decide) (by decide) rfl (fun _ _ h => h) aq_int (by decide) (fun _ => Nat.le_of_ble_eq_true rfl) (by decide) dX3_init_327 fun r40 => ?_)
  refine wv_ (wg_pR5 (pc := 329) hX fp_X3_128 (fun _ => hN) (by decide) (by first | exact Or.inl ⟨_, rfl⟩ | exact Or.inr ⟨_, rfl⟩) dX3_init_329 ?_)
  refine wg_aload_n (pc := 332) hX dX3_init_332 0 rfl ?_
  refine wg_bipush (pc := 333) (v := 16) hX dX3_init_333 rfl ?_
  refine wv_ (wg_nwA (pc := 335) (atype := .int) hX (by decide) (by decide) (by decide) rfl (fun _ _ h => h) aq_int (by decide) (fun _ => Nat.le_of_ble_eq_true rfl) (by decide) dX3_init_335 fun r41 => ?_)
  refine wv_ (wg_pR5 (pc := 337) hX fp_X3_131 (fun _ => hN) (by decide) (by first | exact Or.inl ⟨_, rfl⟩ | exact Or.inr ⟨_, rfl⟩) dX3_init_337 ?_)
  refine wg_aload_n (pc := 340) hX dX3_init_340 0 rfl ?_
  refine wg_bipush (pc := 341) (v := 16) hX dX3_init_341 rfl ?_
  refine wv_ (wg_nwA (pc := 343) (atype := .int) hX (by decide) (by decide) (by decide) rfl (fun _ _ h => h) aq_int (by decide) (fun _ => Nat.le_of_ble_eq_true rfl) (by decide) dX3_init_343 fun r42 => ?_)
  refine wv_ (wg_pR5 (pc := 345) hX fp_X3_134 (fun _ => hN) (by decide) (by first | exact Or.inl ⟨_, rfl⟩ | exact Or.inr ⟨_, rfl⟩) dX3_init_345 ?_)
  refine wg_aload_n (pc := 348) hX dX3_init_348 0 rfl ?_
  refine wg_bipush (pc := 349) (v := 16) hX dX3_init_349 rfl ?_
  refine wv_ (wg_nwA (pc := 351) (atype := .int) hX (by decide) (by decide) (by decide) rfl (fun _ _ h => h) aq_int (by decide) (fun _ => Nat.le_of_ble_eq_true rfl) (by decide) dX3_init_351 fun r43 => ?_)
  refine wv_ (wg_pR5 (pc := 353) hX fp_X3_137 (fun _ => hN) (by decide) (by first | exact Or.inl ⟨_, rfl⟩ | exact Or.inr ⟨_, rfl⟩) dX3_init_353 ?_)
  refine wg_aload_n (pc := 356) hX dX3_init_356 0 rfl ?_
  refine wg_bipush (pc := 357) (v := 16) hX dX3_init_357 rfl ?_
  refine wv_ (wg_nwA (pc := 359) (atype := .int) hX (by decide) (by decide) (by decide) rfl (fun _ _ h => h) aq_int (by decide) (fun _ => Nat.le_of_ble_eq_true rfl) (by decide) dX3_init_359 fun r44 => ?_)
  refine wv_ (wg_pR5 (pc := 361) hX fp_X3_140 (fun _ => hN) (by decide) (by first | exact Or.inl ⟨_, rfl⟩ | exact Or.inr ⟨_, rfl⟩) dX3_init_361 ?_)
  refine wg_aload_n (pc := 364) hX dX3_init_364 0 rfl ?_
  refine wg_bipush (pc := 365) (v := 16) hX dX3_init_365 rfl ?_
  refine wv_ (wg_nwA (pc := 367) (atype := .int) hX (by decide) (by decide) (by decide) rfl (fun _ _ h => h) aq_int (by decide) (fun _ => Nat.le_of_ble_eq_true rfl) (by decide) dX3_init_367 fun r45 => ?_)
  refine wv_ (wg_pR5 (pc := 369) hX fp_X3_143 (fun _ => hN) (by decide) (by first | exact Or.inl ⟨_, rfl⟩ | exact Or.inr ⟨_, rfl⟩) dX3_init_369 ?_)
  refine wg_aload_n (pc := 372) hX dX3_init_372 0 rfl ?_
  refine wg_bipush (pc := 373) (v := 16) hX dX3_init_373 rfl ?_
  refine wv_ (wg_nwA (pc := 375) (atype := .int) hX (by decide) (by decide) (by decide) rfl (fun _ _ h => h) aq_int (by decide) (fun _ => Nat.le_of_ble_eq_true rfl) (by decide) dX3_init_375 fun r46 => ?_)
  refine wv_ (wg_pR5 (pc := 377) hX fp_X3_146 (fun _ => hN) (by decide) (by first | exact Or.inl ⟨_, rfl⟩ | exact Or.inr ⟨_, rfl⟩) dX3_init_377 ?_)
  refine wg_aload_n (pc := 380) hX dX3_init_380 0 rfl ?_
  refine wg_bipush (pc := 381) (v := 16) hX dX3_init_381 rfl ?_
  refine wv_ (wg_nwA (pc := 383) (atype := .int) hX (by decide) (by decide) (by decide) rfl (fun _ _ h => h) aq_int (by decide) (fun _ => Nat.le_of_ble_eq_true rfl) (by decide) dX3_init_383 fun r47 => ?_)
  refine wv_ (wg_pR5 (pc := 385) hX fp_X3_149 (fun _ => hN) (by decide) (by first | exact Or.inl ⟨_, rfl⟩ | exact Or.inr ⟨_, rfl⟩) dX3_init_385 ?_)
  refine wg_aload_n (pc := 388) hX dX3_init_388 0 rfl ?_
  refine wg_bipush (pc := 389) (v := 16) hX dX3_init_389 rfl ?_
  refine wv_ (wg_nwA (pc := 391) (atype := .int) hX (by decide) (by decide) (by decide) rfl (fun _ _ h => h) aq_int (by decide) (fun _ => Nat.le_of_ble_eq_true rfl) (by decide) dX3_init_391 fun r48 => ?_)
  refine wv_ (wg_pR5 (pc := 393) hX fp_X3_152 (fun _ => hN) (by decide) (by first | exact Or.inl ⟨_, rfl⟩ | exact Or.inr ⟨_, rfl⟩) dX3_init_393 ?_)
  refine wg_aload_n (pc := 396) hX dX3_init_396 0 rfl ?_
  refine wg_bipush (pc := 397) (v := 16) hX dX3_init_397 rfl ?_
  refine wv_ (wg_nwA (pc := 399) (atype := .int) hX (by decide) (by decide) (by decide) rfl (fun _ _ h => h) aq_int (by decide) (fun _ => Nat.le_of_ble_eq_true rfl) (by decide) dX3_init_399 fun r49 => ?_)
  refine wv_ (wg_pR5 (pc := 401) hX fp_X3_155 (fun _ => hN) (by decide) (by first | exact Or.inl ⟨_, rfl⟩ | exact Or.inr ⟨_, rfl⟩) dX3_init_401 ?_)
  refine wg_aload_n (pc := 404) hX dX3_init_404 0 rfl ?_
  refine wg_bipush (pc := 405) (v := 16) hX dX3_init_405 rfl ?_
  refine wv_ (wg_nwA (pc := 407) (atype := .int) hX (by decide) (by decide) (by decide) rfl (fun _ _ h => h) aq_int (by decide) (fun _ => Nat.le_of_ble_eq_true rfl) (by decide) dX3_init_407 fun r50 => ?_)
  refine wv_ (wg_pR5 (pc := 409) hX fp_X3_158 (fun _ => hN) (by decide) (by first | exact Or.inl ⟨_, rfl⟩ | exact Or.inr ⟨_, rfl⟩) dX3_init_409 ?_)
  refine wg_aload_n (pc := 412) hX dX3_init_412 0 rfl ?_
  refine wg_bipush (pc := 413) (v := 16) hX dX3_init_413 rfl ?_
  refine wv_ (wg_nwA (pc := 415) (atype := .int) hX (by decide) (by decide) (by decide) rfl (fun _ _ h => h) aq_int (by decide) (fun _ => Nat.le_of_ble_eq_true rfl) (by decide) dX3_init_415 fun r51 => ?_)
  refine wv_ (wg_pR5 (pc := 417) hX fp_X3_161 (fun _ => hN) (by decide) (by first | exact Or.inl ⟨_, rfl⟩ | exact Or.inr ⟨_, rfl⟩) dX3_init_417 ?_)
  refine wg_aload_n (pc := 420) hX dX3_init_420 0 rfl ?_
  refine wg_bipush (pc := 421) (v := 16) hX dX3_init_421 rfl ?_
  refine wv_ (wg_nwA (pc := 423) (atype := .boolean) hX (by decide) (by decide) (by decide) rfl (fun _ _ h => h) aq_boolean (by decide) (fun _ => Nat.le_of_ble_eq_true rfl) (by decide) dX3_init_423 fun r52 => ?_)
  refine wv_ (wg_pR5 (pc := 425) hX fp_X3_164 (fun _ => hN) (by decide) (by first | exact Or.inl ⟨_, rfl⟩ | exact Or.inr ⟨_, rfl⟩) dX3_init_425 ?_)
  refine wg_aload_n (pc := 428) hX dX3_init_428 0 rfl ?_
  refine wg_sipush (pc := 429) (v := 200) hX dX3_init_429 rfl ?_
  refine wv_ (wg_nwA (pc := 432) (atype := .byte) hX (by decide) (by decide) (by decide) rfl (fun _ _ h => h) aq_byte (by decide) am_plT (by decide) dX3_init_432 fun r53 => ?_)
  refine wv_ (wg_pR5 (pc := 434) hX fp_X3_167 (fun _ => hN) (by decide) (by first | exact Or.inl ⟨_, rfl⟩ | exact Or.inr ⟨_, rfl⟩) dX3_init_434 ?_)
  refine wg_aload_n (pc := 437) hX dX3_init_437 0 rfl ?_
  refine wg_sipush (pc := 438) (v := 4000) hX dX3_init_438 rfl ?_
  refine wv_ (wg_nwA (pc := 441) (atype := .byte) hX (by decide) (by decide) (by decide) rfl (fun _ _ h => h) aq_byte (by decide) am_plT (by decide) dX3_init_441 fun r54 => ?_)
  refine wv_ (wg_pR5 (pc := 443) hX fp_X3_171 (fun _ => hN) (by decide) (by first | exact Or.inl ⟨_, rfl⟩ | exact Or.inr ⟨_, rfl⟩) dX3_init_443 ?_)
  refine wg_aload_n (pc := 446) hX dX3_init_446 0 rfl ?_
  refine wg_sipush (pc := 447) (v := 2400) hX dX3_init_447 rfl ?_
  refine wv_ (wg_nwA (pc := 450) (atype := .byte) hX (by decide) (by decide) (by decide) rfl (fun _ _ h => h) aq_byte (by decide) am_plT (by decide) dX3_init_450 fun r55 => ?_)
  refine wv_ (wg_pR5 (pc := 452) hX fp_X3_174 (fun _ => hN) (by decide) (by first | exact Or.inl ⟨_, rfl⟩ | exact Or.inr ⟨_, rfl⟩) dX3_init_452 ?_)
  refine wg_aload_n (pc := 455) hX dX3_init_455 0 rfl ?_
  refine wg_sipush (pc := 456) (v := 200) hX dX3_init_456 rfl ?_
  refine wv_ (wg_nwA (pc := 459) (atype := .byte) hX (by decide) (by decide) (by decide) rfl (fun _ _ h => h) aq_byte (by decide) am_plT (by decide) dX3_init_459 fun r56 => ?_)
  refine wv_ (wg_pR5 (pc := 461) hX fp_X3_177 (fun _ => hN) (by decide) (by first | exact Or.inl ⟨_, rfl⟩ | exact Or.inr ⟨_, rfl⟩) dX3_init_461 ?_)
  refine wg_aload_n (pc := 464) hX dX3_init_464 0 rfl ?_
  refine wg_bipush (pc := 465) (v := 20) hX dX3_init_465 rfl ?_
  refine wv_ (wg_nwA (pc := 467) (atype := .int) hX (by decide) (by decide) (by decide) rfl (fun _ _ h => h) aq_int (by decide) (fun _ => Nat.le_of_ble_eq_true rfl) (by decide) dX3_init_467 fun r57 => ?_)
  refine wv_ (wg_pR5 (pc := 469) hX fp_X3_180 (fun _ => hN) (by decide) (by first | exact Or.inl ⟨_, rfl⟩ | exact Or.inr ⟨_, rfl⟩) dX3_init_469 ?_)
  refine wg_aload_n (pc := 472) hX dX3_init_472 0 rfl ?_
  refine wg_bipush (pc := 473) (v := 12) hX dX3_init_473 rfl ?_
  refine wv_ (wg_nwA (pc := 475) (atype := .int) hX (by decide) (by decide) (by decide) rfl (fun _ _ h => h) aq_int (by decide) (fun _ => Nat.le_of_ble_eq_true rfl) (by decide) dX3_init_475 fun r58 => ?_)
  refine wv_ (wg_pR5 (pc := 477) hX fp_X3_183 (fun _ => hN) (by decide) (by first | exact Or.inl ⟨_, rfl⟩ | exact Or.inr ⟨_, rfl⟩) dX3_init_477 ?_)
  refine wg_aload_n (pc := 480) hX dX3_init_480 0 rfl ?_
  refine wg_bipush (pc := 481) (v := 12) hX dX3_init_481 rfl ?_
  refine wv_ (wg_nwA (pc := 483) (atype := .int) hX (by decide) (by decide) (by decide) rfl (fun _ _ h => h) aq_int (by decide) (fun _ => Nat.le_of_ble_eq_true rfl) (by decide) dX3_init_483 fun r59 => ?_)
  refine wv_ (wg_pR5 (pc := 485) hX fp_X3_186 (fun _ => hN) (by decide) (by first | exact Or.inl ⟨_, rfl⟩ | exact Or.inr ⟨_, rfl⟩) dX3_init_485 ?_)
  refine wg_aload_n (pc := 488) hX dX3_init_488 0 rfl ?_
  refine wg_bipush (pc := 489) (v := 12) hX dX3_init_489 rfl ?_
  refine wv_ (wg_nwA (pc := 491) (atype := .int) hX (by decide) (by decide) (by decide) rfl (fun _ _ h => h) aq_int (by decide) (fun _ => Nat.le_of_ble_eq_true rfl) (by decide) dX3_init_491 fun r60 => ?_)
  refine wv_ (wg_pR5 (pc := 493) hX fp_X3_189 (fun _ => hN) (by decide) (by first | exact Or.inl ⟨_, rfl⟩ | exact Or.inr ⟨_, rfl⟩) dX3_init_493 ?_)
  refine wg_aload_n (pc := 496) hX dX3_init_496 0 rfl ?_
  refine wg_sipush (pc := 497) (v := 128) hX dX3_init_497 rfl ?_
  refine wv_ (wg_nwA (pc := 500) (atype := .int) hX (by decide) (by decide) (by decide) rfl (fun _ _ h => h) aq_int (by decide) (fun _ => Nat.le_of_ble_eq_true rfl) (by decide) dX3_init_500 fun r61 => ?_)
  refine wv_ (wg_pR5 (pc := 502) hX fp_X3_192 (fun _ => hN) (by decide) (by first | exact Or.inl ⟨_, rfl⟩ | exact Or.inr ⟨_, rfl⟩) dX3_init_502 ?_)
  refine wg_aload_n (pc := 505) hX dX3_init_505 0 rfl ?_
  refine wg_iconst (pc := 506) (v := 5) hX dX3_init_506 rfl ?_
  refine wv_ (wg_nwA (pc := 507) (atype := .int) hX (by decide) (by decide) (by decide) rfl (fun _ _ h => h) aq_int (by decide) (fun _ => Nat.le_of_ble_eq_true rfl) (by decide) dX3_init_507 fun r62 => ?_)
  refine wv_ (wg_pR5 (pc := 509) hX fp_X3_195 (fun _ => hN) (by decide) (by first | exact Or.inl ⟨_, rfl⟩ | exact Or.inr ⟨_, rfl⟩) dX3_init_509 ?_)
  refine wg_aload_n (pc := 512) hX dX3_init_512 0 rfl ?_
  refine wg_sipush (pc := 513) (v := 200) hX dX3_init_513 rfl ?_
  refine wv_ (wg_nwA (pc := 516) (atype := .int) hX (by decide) (by decide) (by decide) rfl (fun _ _ h => h) aq_int (by decide) (fun _ => Nat.le_of_ble_eq_true rfl) (by decide) dX3_init_516 fun r63 => ?_)
  refine wv_ (wg_pR5 (pc := 518) hX fp_X3_198 (fun _ => hN) (by decide) (by first | exact Or.inl ⟨_, rfl⟩ | exact Or.inr ⟨_, rfl⟩) dX3_init_518 ?_)
  refine wg_aload_n (pc := 521) hX dX3_init_521 0 rfl ?_
  refine wg_iconst (pc := 522) (v := (-1)) hX dX3_init_522 rfl ?_
  refine wv_ (wg_pI (pc := 523) hX fp_X3_201 (fun h => by cases h) dX3_init_523 ?_)
  refine wg_aload_n (pc := 526) hX dX3_init_526 0 rfl ?_
  refine wg_aload_n (pc := 527) hX dX3_init_527 0 rfl ?_
  refine wv_ (wg_gR5 (pc := 528) hX fd_X3_167 dX3_init_528 fun r64 => ?_)
  refine wv_ (wg_pR (pc := 531) hX fp_X3_205 (fun h => by cases h) (by decide) (by first | exact Or.inl ⟨_, rfl⟩ | exact Or.inr ⟨_, rfl⟩) dX3_init_531 ?_)
  refine wg_aload_n (pc := 534) hX dX3_init_534 0 rfl ?_
  refine wg_ldS (pc := 535) (i := 4) (tx := "") hX (by decide) dX3_init_535 ?_
  refine wv_ (wg_pR (pc := 537) hX fp_X3_210 (fun h => by cases h) (by decide) (by first | exact Or.inl ⟨_, rfl⟩ | exact Or.inr ⟨_, rfl⟩) dX3_init_537 ?_)
  refine wg_aload_n (pc := 540) hX dX3_init_540 0 rfl ?_
  refine wg_bipush (pc := 541) (v := 60) hX dX3_init_541 rfl ?_
  refine wv_ (wg_nwA (pc := 543) (atype := .int) hX (by decide) (by decide) (by decide) rfl (fun _ _ h => h) aq_int (by decide) (fun _ => Nat.le_of_ble_eq_true rfl) (by decide) dX3_init_543 fun r65 => ?_)
  refine wv_ (wg_pR5 (pc := 545) hX fp_X3_214 (fun _ => hN) (by decide) (by first | exact Or.inl ⟨_, rfl⟩ | exact Or.inr ⟨_, rfl⟩) dX3_init_545 ?_)
  refine wg_aload_n (pc := 548) hX dX3_init_548 0 rfl ?_
  refine wg_bipush (pc := 549) (v := 60) hX dX3_init_549 rfl ?_
  refine wv_ (wg_nwA (pc := 551) (atype := .int) hX (by decide) (by decide) (by decide) rfl (fun _ _ h => h) aq_int (by decide) (fun _ => Nat.le_of_ble_eq_true rfl) (by decide) dX3_init_551 fun r66 => ?_)
  refine wv_ (wg_pR5 (pc := 553) hX fp_X3_217 (fun _ => hN) (by decide) (by first | exact Or.inl ⟨_, rfl⟩ | exact Or.inr ⟨_, rfl⟩) dX3_init_553 ?_)
  refine wg_aload_n (pc := 556) hX dX3_init_556 0 rfl ?_
  refine wg_bipush (pc := 557) (v := 60) hX dX3_init_557 rfl ?_
  refine wv_ (wg_nwA (pc := 559) (atype := .int) hX (by decide) (by decide) (by decide) rfl (fun _ _ h => h) aq_int (by decide) (fun _ => Nat.le_of_ble_eq_true rfl) (by decide) dX3_init_559 fun r67 => ?_)
  refine wv_ (wg_pR5 (pc := 561) hX fp_X3_220 (fun _ => hN) (by decide) (by first | exact Or.inl ⟨_, rfl⟩ | exact Or.inr ⟨_, rfl⟩) dX3_init_561 ?_)
  refine wg_aload_n (pc := 564) hX dX3_init_564 0 rfl ?_
  refine wg_bipush (pc := 565) (v := 60) hX dX3_init_565 rfl ?_
  refine wv_ (wg_nwA (pc := 567) (atype := .int) hX (by decide) (by decide) (by decide) rfl (fun _ _ h => h) aq_int (by decide) (fun _ => Nat.le_of_ble_eq_true rfl) (by decide) dX3_init_567 fun r68 => ?_)
  refine wv_ (wg_pR5 (pc := 569) hX fp_X3_223 (fun _ => hN) (by decide) (by first | exact Or.inl ⟨_, rfl⟩ | exact Or.inr ⟨_, rfl⟩) dX3_init_569 ?_)
  refine wg_aload_n (pc := 572) hX dX3_init_572 0 rfl ?_
  refine wg_bipush (pc := 573) (v := 60) hX dX3_init_573 rfl ?_
  refine wv_ (wg_nwA (pc := 575) (atype := .int) hX (by decide) (by decide) (by decide) rfl (fun _ _ h => h) aq_int (by decide) (fun _ => Nat.le_of_ble_eq_true rfl) (by decide) dX3_init_575 fun r69 => ?_)
  refine wv_ (wg_pR5 (pc := 577) hX fp_X3_226 (fun _ => hN) (by decide) (by first | exact Or.inl ⟨_, rfl⟩ | exact Or.inr ⟨_, rfl⟩) dX3_init_577 ?_)
  refine wg_aload_n (pc := 580) hX dX3_init_580 0 rfl ?_
  refine wg_bipush (pc := 581) (v := 60) hX dX3_init_581 rfl ?_
  refine wv_ (wg_nwA (pc := 583) (atype := .int) hX (by decide) (by decide) (by decide) rfl (fun _ _ h => h) aq_int (by decide) (fun _ => Nat.le_of_ble_eq_true rfl) (by decide) dX3_init_583 fun r70 => ?_)
  refine wv_ (wg_pR5 (pc := 585) hX fp_X3_229 (fun _ => hN) (by decide) (by first | exact Or.inl ⟨_, rfl⟩ | exact Or.inr ⟨_, rfl⟩) dX3_init_585 ?_)
  refine wg_aload_n (pc := 588) hX dX3_init_588 0 rfl ?_
  refine wg_bipush (pc := 589) (v := 60) hX dX3_init_589 rfl ?_
  refine wv_ (wg_nwA (pc := 591) (atype := .int) hX (by decide) (by decide) (by decide) rfl (fun _ _ h => h) aq_int (by decide) (fun _ => Nat.le_of_ble_eq_true rfl) (by decide) dX3_init_591 fun r71 => ?_)
  refine wv_ (wg_pR5 (pc := 593) hX fp_X3_232 (fun _ => hN) (by decide) (by first | exact Or.inl ⟨_, rfl⟩ | exact Or.inr ⟨_, rfl⟩) dX3_init_593 ?_)
  refine wg_aload_n (pc := 596) hX dX3_init_596 0 rfl ?_
  refine wg_bipush (pc := 597) (v := 60) hX dX3_init_597 rfl ?_
  refine wv_ (wg_nwA (pc := 599) (atype := .int) hX (by decide) (by decide) (by decide) rfl (fun _ _ h => h) aq_int (by decide) (fun _ => Nat.le_of_ble_eq_true rfl) (by decide) dX3_init_599 fun r72 => ?_)
  refine wv_ (wg_pR5 (pc := 601) hX fp_X3_235 (fun _ => hN) (by decide) (by first | exact Or.inl ⟨_, rfl⟩ | exact Or.inr ⟨_, rfl⟩) dX3_init_601 ?_)
  refine wg_aload_n (pc := 604) hX dX3_init_604 0 rfl ?_
  refine wg_bipush (pc := 605) (v := 60) hX dX3_init_605 rfl ?_
  refine wv_ (wg_nwA (pc := 607) (atype := .boolean) hX (by decide) (by decide) (by decide) rfl (fun _ _ h => h) aq_boolean (by decide) (fun _ => Nat.le_of_ble_eq_true rfl) (by decide) dX3_init_607 fun r73 => ?_)
  refine wv_ (wg_pR5 (pc := 609) hX fp_X3_238 (fun _ => hN) (by decide) (by first | exact Or.inl ⟨_, rfl⟩ | exact Or.inr ⟨_, rfl⟩) dX3_init_609 ?_)
  refine wg_aload_n (pc := 612) hX dX3_init_612 0 rfl ?_
  refine wg_iconst (pc := 613) (v := 5) hX dX3_init_613 rfl ?_
  refine wv_ (wg_nwA (pc := 614) (atype := .int) hX (by decide) (by decide) (by decide) rfl (fun _ _ h => h) aq_int (by decide) (fun _ => Nat.le_of_ble_eq_true rfl) (by decide) dX3_init_614 fun r74 => ?_)
  refine wv_ (wg_pR5 (pc := 616) hX fp_X3_241 (fun _ => hN) (by decide) (by first | exact Or.inl ⟨_, rfl⟩ | exact Or.inr ⟨_, rfl⟩) dX3_init_616 ?_)
  refine wg_aload_n (pc := 619) hX dX3_init_619 0 rfl ?_
  refine wg_bipush (pc := 620) (v := 100) hX dX3_init_620 rfl ?_
  refine wv_ (wg_nwA (pc := 622) (atype := .int) hX (by decide) (by decide) (by decide) rfl (fun _ _ h => h) aq_int (by decide) (fun _ => Nat.le_of_ble_eq_true rfl) (by decide) dX3_init_622 fun r75 => ?_)
  refine wv_ (wg_pR5 (pc := 624) hX fp_X3_244 (fun _ => hN) (by decide) (by first | exact Or.inl ⟨_, rfl⟩ | exact Or.inr ⟨_, rfl⟩) dX3_init_624 ?_)
  refine wg_aload_n (pc := 627) hX dX3_init_627 0 rfl ?_
  refine wg_bipush (pc := 628) (v := 100) hX dX3_init_628 rfl ?_
  refine wv_ (wg_nwA (pc := 630) (atype := .int) hX (by decide) (by decide) (by decide) rfl (fun _ _ h => h) aq_int (by decide) (fun _ => Nat.le_of_ble_eq_true rfl) (by decide) dX3_init_630 fun r76 => ?_)
  refine wv_ (wg_pR5 (pc := 632) hX fp_X3_247 (fun _ => hN) (by decide) (by first | exact Or.inl ⟨_, rfl⟩ | exact Or.inr ⟨_, rfl⟩) dX3_init_632 ?_)
  refine wg_aload_n (pc := 635) hX dX3_init_635 0 rfl ?_
  refine wg_bipush (pc := 636) (v := 100) hX dX3_init_636 rfl ?_
  refine wv_ (wg_nwA (pc := 638) (atype := .int) hX (by decide) (by decide) (by decide) rfl (fun _ _ h => h) aq_int (by decide) (fun _ => Nat.le_of_ble_eq_true rfl) (by decide) dX3_init_638 fun r77 => ?_)
  refine wv_ (wg_pR5 (pc := 640) hX fp_X3_250 (fun _ => hN) (by decide) (by first | exact Or.inl ⟨_, rfl⟩ | exact Or.inr ⟨_, rfl⟩) dX3_init_640 ?_)
  refine wg_aload_n (pc := 643) hX dX3_init_643 0 rfl ?_
  refine wg_bipush (pc := 644) (v := 100) hX dX3_init_644 rfl ?_
  refine wv_ (wg_nwA (pc := 646) (atype := .int) hX (by decide) (by decide) (by decide) rfl (fun _ _ h => h) aq_int (by decide) (fun _ => Nat.le_of_ble_eq_true rfl) (by decide) dX3_init_646 fun r78 => ?_)
  refine wv_ (wg_pR5 (pc := 648) hX fp_X3_253 (fun _ => hN) (by decide) (by first | exact Or.inl ⟨_, rfl⟩ | exact Or.inr ⟨_, rfl⟩) dX3_init_648 ?_)
  refine wg_aload_n (pc := 651) hX dX3_init_651 0 rfl ?_
  refine wg_bipush (pc := 652) (v := 12) hX dX3_init_652 rfl ?_
  refine wv_ (wg_nwA (pc := 654) (atype := .int) hX (by decide) (by decide) (by decide) rfl (fun _ _ h => h) aq_int (by decide) (fun _ => Nat.le_of_ble_eq_true rfl) (by decide) dX3_init_654 fun r79 => ?_)
  refine wv_ (wg_pR5 (pc := 656) hX fp_X3_256 (fun _ => hN) (by decide) (by first | exact Or.inl ⟨_, rfl⟩ | exact Or.inr ⟨_, rfl⟩) dX3_init_656 ?_)
  refine wg_aload_n (pc := 659) hX dX3_init_659 0 rfl ?_
  refine wg_bipush (pc := 660) (v := 12) hX dX3_init_660 rfl ?_
  refine wv_ (wg_nwA (pc := 662) (atype := .int) hX (by decide) (by decide) (by decide) rfl (fun _ _ h => h) aq_int (by decide) (fun _ => Nat.le_of_ble_eq_true rfl) (by decide) dX3_init_662 fun r80 => ?_)
  refine wv_ (wg_pR5 (pc := 664) hX fp_X3_259 (fun _ => hN) (by decide) (by first | exact Or.inl ⟨_, rfl⟩ | exact Or.inr ⟨_, rfl⟩) dX3_init_664 ?_)
  refine wg_aload_n (pc := 667) hX dX3_init_667 0 rfl ?_
  refine wg_bipush (pc := 668) (v := 12) hX dX3_init_668 rfl ?_
  refine wv_ (wg_nwA (pc := 670) (atype := .int) hX (by decide) (by decide) (by decide) rfl (fun _ _ h => h) aq_int (by decide) (fun _ => Nat.le_of_ble_eq_true rfl) (by decide) dX3_init_670 fun r81 => ?_)
  refine wv_ (wg_pR5 (pc := 672) hX fp_X3_262 (fun _ => hN) (by decide) (by first | exact Or.inl ⟨_, rfl⟩ | exact Or.inr ⟨_, rfl⟩) dX3_init_672 ?_)
  refine wg_aload_n (pc := 675) hX dX3_init_675 0 rfl ?_
  refine wg_bipush (pc := 676) (v := 12) hX dX3_init_676 rfl ?_
  refine wv_ (wg_nwA (pc := 678) (atype := .boolean) hX (by decide) (by decide) (by decide) rfl (fun _ _ h => h) aq_boolean (by decide) (fun _ => Nat.le_of_ble_eq_true rfl) (by decide) dX3_init_678 fun r82 => ?_)
  refine wv_ (wg_pR5 (pc := 680) hX fp_X3_265 (fun _ => hN) (by decide) (by first | exact Or.inl ⟨_, rfl⟩ | exact Or.inr ⟨_, rfl⟩) dX3_init_680 ?_)
  refine wg_aload_n (pc := 683) hX dX3_init_683 0 rfl ?_
  refine wg_bipush (pc := 684) (v := 20) hX dX3_init_684 rfl ?_
  refine wv_ (wg_nwA (pc := 686) (atype := .int) hX (by decide) (by decide) (by decide) rfl (fun _ _ h => h) aq_int (by decide) (fun _ => Nat.le_of_ble_eq_true rfl) (by decide) dX3_init_686 fun r83 => ?_)
  refine wv_ (wg_pR5 (pc := 688) hX fp_X3_268 (fun _ => hN) (by decide) (by first | exact Or.inl ⟨_, rfl⟩ | exact Or.inr ⟨_, rfl⟩) dX3_init_688 ?_)
  refine wg_aload_n (pc := 691) hX dX3_init_691 0 rfl ?_
  refine wg_bipush (pc := 692) (v := 120) hX dX3_init_692 rfl ?_
  refine wv_ (wg_nwD (pc := 694) (atype := .double) hX (by decide) (by decide) (by decide) rfl (fun _ _ h => h) aq_double (by decide) (fun _ => Nat.le_of_ble_eq_true rfl) (by decide) dX3_init_694 fun r84 => ?_)
  refine wv_ (wg_pR5 (pc := 696) hX fp_X3_271 (fun _ => hN) (by decide) (by first | exact Or.inl ⟨_, rfl⟩ | exact Or.inr ⟨_, rfl⟩) dX3_init_696 ?_)
  refine wg_aload_n (pc := 699) hX dX3_init_699 0 rfl ?_
  refine wg_bipush (pc := 700) (v := 20) hX dX3_init_700 rfl ?_
  refine wv_ (wg_nwD (pc := 702) (atype := .double) hX (by decide) (by decide) (by decide) rfl (fun _ _ h => h) aq_double (by decide) (fun _ => Nat.le_of_ble_eq_true rfl) (by decide) dX3_init_702 fun r85 => ?_)
  refine wv_ (wg_pR5 (pc := 704) hX fp_X3_275 (fun _ => hN) (by decide) (by first | exact Or.inl ⟨_, rfl⟩ | exact Or.inr ⟨_, rfl⟩) dX3_init_704 ?_)
  refine wg_aload_n (pc := 707) hX dX3_init_707 0 rfl ?_
  refine wg_bipush (pc := 708) (v := 6) hX dX3_init_708 rfl ?_
  refine wv_ (wg_nwA (pc := 710) (atype := .int) hX (by decide) (by decide) (by decide) rfl (fun _ _ h => h) aq_int (by decide) (fun _ => Nat.le_of_ble_eq_true rfl) (by decide) dX3_init_710 fun r86 => ?_)
  refine wv_ (wg_pR5 (pc := 712) hX fp_X3_278 (fun _ => hN) (by decide) (by first | exact Or.inl ⟨_, rfl⟩ | exact Or.inr ⟨_, rfl⟩) dX3_init_712 ?_)
  refine wg_aload_n (pc := 715) hX dX3_init_715 0 rfl ?_
  refine wg_bipush (pc := 716) (v := 6) hX dX3_init_716 rfl ?_
  refine wv_ (wg_nwA (pc := 718) (atype := .boolean) hX (by decide) (by decide) (by decide) rfl (fun _ _ h => h) aq_boolean (by decide) (fun _ => Nat.le_of_ble_eq_true rfl) (by decide) dX3_init_718 fun r87 => ?_)
  refine wv_ (wg_pR5 (pc := 720) hX fp_X3_281 (fun _ => hN) (by decide) (by first | exact Or.inl ⟨_, rfl⟩ | exact Or.inr ⟨_, rfl⟩) dX3_init_720 ?_)
  refine wg_aload_n (pc := 723) hX dX3_init_723 0 rfl ?_
  refine wg_sipush (pc := 724) (v := 288) hX dX3_init_724 rfl ?_
  refine wv_ (wg_nwA (pc := 727) (atype := .int) hX (by decide) (by decide) (by decide) rfl (fun _ _ h => h) aq_int (by decide) (fun _ => Nat.le_of_ble_eq_true rfl) (by decide) dX3_init_727 fun r88 => ?_)
  refine wv_ (wg_pR5 (pc := 729) hX fp_X3_284 (fun _ => hN) (by decide) (by first | exact Or.inl ⟨_, rfl⟩ | exact Or.inr ⟨_, rfl⟩) dX3_init_729 ?_)
  refine wg_aload_n (pc := 732) hX dX3_init_732 0 rfl ?_
  refine wg_sipush (pc := 733) (v := 288) hX dX3_init_733 rfl ?_
  refine wv_ (wg_nwA (pc := 736) (atype := .int) hX (by decide) (by decide) (by decide) rfl (fun _ _ h => h) aq_int (by decide) (fun _ => Nat.le_of_ble_eq_true rfl) (by decide) dX3_init_736 fun r89 => ?_)
  refine wv_ (wg_pR5 (pc := 738) hX fp_X3_287 (fun _ => hN) (by decide) (by first | exact Or.inl ⟨_, rfl⟩ | exact Or.inr ⟨_, rfl⟩) dX3_init_738 ?_)
  refine wg_aload_n (pc := 741) hX dX3_init_741 0 rfl ?_
  refine wg_bipush (pc := 742) (v := 72) hX dX3_init_742 rfl ?_
  refine wv_ (wg_nwA (pc := 744) (atype := .int) hX (by decide) (by decide) (by decide) rfl (fun _ _ h => h) aq_int (by decide) (fun _ => Nat.le_of_ble_eq_true rfl) (by decide) dX3_init_744 fun r90 => ?_)
  refine wv_ (wg_pR5 (pc := 746) hX fp_X3_290 (fun _ => hN) (by decide) (by first | exact Or.inl ⟨_, rfl⟩ | exact Or.inr ⟨_, rfl⟩) dX3_init_746 ?_)
  refine wg_aload_n (pc := 749) hX dX3_init_749 0 rfl ?_
  refine wg_bipush (pc := 750) (v := 72) hX dX3_init_750 rfl ?_
  refine wv_ (wg_nwA (pc := 752) (atype := .boolean) hX (by decide) (by decide) (by decide) rfl (fun _ _ h => h) aq_boolean (by decide) (fun _ => Nat.le_of_ble_eq_true rfl) (by decide) dX3_init_752 fun r91 => ?_)
  refine wv_ (wg_pR5 (pc := 754) hX fp_X3_293 (fun _ => hN) (by decide) (by first | exact Or.inl ⟨_, rfl⟩ | exact Or.inr ⟨_, rfl⟩) dX3_init_754 ?_)
  refine wg_iconst (pc := 757) (v := 0) hX dX3_init_757 rfl ?_
  refine wg_istore_n (pc := 758) (l' := [(0, .ref (rid 1 1)), (1, .int 0)]) hX dX3_init_758 (by decide) rfl ?_
  refine wv_lpx (α := Int32) (γ := Unit) (pcl := 759) (pcT := 808) (lo := fun x => [(0, .ref (rid 1 1)), (1, .int x)]) (so := fun _ => []) (lT := fun x => []) (sT := fun _ => []) (n := amFu) (x0 := 0) (fun K92 rec92 hrec92 hk92 x92 => ?_) (fun y93 => ?_)
  · unfold p_X3_init_L759
    refine wg_iload_n (pc := 759) hX dX3_init_759 1 rfl ?_
    refine wg_bipush (pc := 760) (v := 20) hX dX3_init_760 rfl ?_
    refine wg_icmp_ge (pc := 762) (tgt := 808) hX dX3_init_762 (by decide) (fun h94 => ?_) (fun h94 => ?_)
    · refine wv_t h94 ?_
      refine wg_sub hX [] rfl ?_
      exact wv_rt (hk92 ())
    refine wv_f h94 ?_
    refine wg_iconst (pc := 765) (v := 0) hX dX3_init_765 rfl ?_
    refine wg_istore_n (pc := 766) (l' := [(0, .ref (rid 1 1)), (1, .int x92), (2, .int 0)]) hX dX3_init_766 (by decide) rfl ?_
    refine wv_lpx (α := Int32) (γ := Unit) (pcl := 767) (pcT := 802) (lo := fun x => [(0, .ref (rid 1 1)), (1, .int x92), (2, .int x)]) (so := fun _ => []) (lT := fun x => [(0, .ref (rid 1 1)), (1, .int x92)]) (sT := fun _ => []) (n := amFu) (x0 := 0) (fun K95 rec95 hrec95 hk95 x95 => ?_) (fun y96 => ?_)
    · unfold p_X3_init_L767
      refine wg_iload_n (pc := 767) hX dX3_init_767 2 rfl ?_
      refine wg_bipush (pc := 768) (v := 20) hX dX3_init_768 rfl ?_
      refine wg_icmp_ge (pc := 770) (tgt := 802) hX dX3_init_770 (by decide) (fun h97 => ?_) (fun h97 => ?_)
      · refine wv_t h97 ?_
        refine wg_sub hX [0, 1] rfl ?_
        exact wv_rt (hk95 ())
      refine wv_f h97 ?_
      refine wg_aload_n (pc := 773) hX dX3_init_773 0 rfl ?_
      refine wv_ (wg_gR5 (pc := 774) hX fd_X3_22 dX3_init_774 fun r98 => ?_)
      refine wg_bipush (pc := 777) (v := 20) hX dX3_init_777 rfl ?_
      refine wg_iload_n (pc := 779) hX dX3_init_779 1 rfl ?_
      refine wg_imul (pc := 780) hX dX3_init_780 ?_
      refine wg_iload_n (pc := 781) hX dX3_init_781 2 rfl ?_
      refine wg_iadd (pc := 782) hX dX3_init_782 ?_
      refine wg_iload_n (pc := 783) hX dX3_init_783 1 rfl ?_
      refine wg_iload_n (pc := 784) hX dX3_init_784 2 rfl ?_
      refine wv_jx (α := Int32) (pcJ := 795) (lJ := fun x => [(0, .ref (rid 1 1)), (1, .int x92), (2, .int x95)]) (sJ := fun x => [.int x, .int ((20 * x92) + x95), .ref (rid 59 r98)]) (fun K99 hk99 => ?_) (fun z99 => ?_)
      · refine wg_icmp_ne (pc := 785) (tgt := 792) hX dX3_init_785 (by decide) (fun h100 => ?_) (fun h100 => ?_)
        rotate_left
        · refine wv_f h100 ?_
          refine wg_ldcw (pc := 792) hX dX3_init_792 q1940 ?_
          exact wv_rt (hk99 1000000)
        refine wv_t h100 ?_
        refine wg_iconst (pc := 788) (v := 0) hX dX3_init_788 rfl ?_
        refine wg_goto (pc := 789) (tgt := 795) hX dX3_init_789 (by decide) ?_
        exact wv_rt (hk99 0)
      refine wv_ (wg_wI (pc := 795) hX ar_59 dX3_init_795 ?_)
      refine wg_iinc (pc := 796) (v := (x95 + 1)) (l' := [(0, .ref (rid 1 1)), (1, .int x92), (2, .int (x95 + 1))]) hX dX3_init_796 2 rfl rfl (by decide) rfl ?_
      refine wg_goto (pc := 799) (tgt := 767) hX dX3_init_799 (by decide) ?_
      exact hrec95 (x95 + 1)
    refine wg_iinc (pc := 802) (v := (x92 + 1)) (l' := [(0, .ref (rid 1 1)), (1, .int (x92 + 1))]) hX dX3_init_802 1 rfl rfl (by decide) rfl ?_
    refine wg_goto (pc := 805) (tgt := 759) hX dX3_init_805 (by decide) ?_
    exact hrec92 (x92 + 1)
  exact wv_rt (wg_vret (pc := 808) hX rfl rfl dX3_init_808)
theorem m_X3_thrown  : amMet yX3_thrown cX3_thrown 1 (some .int) 1 32 encI [.ref (rid 1 1)] (up (p_X3_thrown)) := by
  refine amMet.of (own := RX3) (by decide) rfl (Nat.le_of_ble_eq_true rfl) fun X hX hPs => ?_
  change WG X encI 0 [(0, .ref (rid 1 1))] [] (bd1 (up (p_X3_thrown)) rt1)
  unfold p_X3_thrown
  refine wg_aload_n (pc := 0) hX dX3_thrown_0 0 rfl ?_
  refine wu_ (wg_gI (pc := 1) hX fd_X3_297 dX3_thrown_1 fun v1 => ?_)
  exact wu_rt (wg_iret (pc := 4) hX rfl rfl dX3_thrown_4)
theorem m_X3_isCorner (a1 : Int32) : amMet yX3_isCorner cX3_isCorner 1 (some .boolean) 1 32 encI [.int a1] (up (p_X3_isCorner a1)) := by
  refine amMet.of (own := RX3) (by decide) rfl (Nat.le_of_ble_eq_true rfl) fun X hX hPs => ?_
  change WG X encI 0 [(0, .int a1)] [] (bd1 (up (p_X3_isCorner a1)) rt1)
  unfold p_X3_isCorner
  refine wg_iload_n (pc := 0) hX dX3_isCorner_0 0 rfl ?_
  refine wu_jn (α := Unit) (pcJ := 14) (lJ := fun x => []) (sJ := fun x => []) (fun k1 hk1 => ?_) (fun z1 => ?_)
  · refine wg_if_lt (pc := 1) (tgt := 14) hX dX3_isCorner_1 (by decide) (fun h2 => ?_) (fun h2 => ?_)
    · refine wu_t h2 ?_
      refine wg_sub hX [] rfl ?_
      exact hk1 ()
    refine wu_f h2 ?_
    refine wg_iload_n (pc := 4) hX dX3_isCorner_4 0 rfl ?_
    refine wg_bipush (pc := 5) (v := 20) hX dX3_isCorner_5 rfl ?_
    refine wg_icmp_ge (pc := 7) (tgt := 14) hX dX3_isCorner_7 (by decide) (fun h3 => ?_) (fun h3 => ?_)
    · refine wu_t h3 ?_
      refine wg_sub hX [] rfl ?_
      exact hk1 ()
    refine wu_f h3 ?_
    refine wg_iconst (pc := 10) (v := 1) hX dX3_isCorner_10 rfl ?_
    refine wg_goto (pc := 11) (tgt := 15) hX dX3_isCorner_11 (by decide) ?_
    exact wu_rt (wg_zret (pc := 15) hX rfl (by decide) rfl dX3_isCorner_15)
  refine wg_iconst (pc := 14) (v := 0) hX dX3_isCorner_14 rfl ?_
  exact wu_rt (wg_zret (pc := 15) hX rfl (by decide) rfl dX3_isCorner_15)
theorem m_X3_isIn (a1 : Int32) (a2 : Int32) (a3 : Int32) : amMet yX3_isIn cX3_isIn 3 (some .boolean) 1 32 encI [.int a1, .int a2, .int a3] (up (p_X3_isIn a1 a2 a3)) := by
  refine amMet.of (own := RX3) (by decide) rfl (Nat.le_of_ble_eq_true rfl) fun X hX hPs => ?_
  change WG X encI 0 [(0, .int a1), (1, .int a2), (2, .int a3)] [] (bd1 (up (p_X3_isIn a1 a2 a3)) rt1)
  unfold p_X3_isIn
  refine wg_iload_n (pc := 0) hX dX3_isIn_0 0 rfl ?_
  refine wg_iload_n (pc := 1) hX dX3_isIn_1 1 rfl ?_
  refine wu_jn (α := Unit) (pcJ := 14) (lJ := fun x => []) (sJ := fun x => []) (fun k1 hk1 => ?_) (fun z1 => ?_)
  · refine wg_icmp_lt (pc := 2) (tgt := 14) hX dX3_isIn_2 (by decide) (fun h2 => ?_) (fun h2 => ?_)
    · refine wu_t h2 ?_
      refine wg_sub hX [] rfl ?_
      exact hk1 ()
    refine wu_f h2 ?_
    refine wg_iload_n (pc := 5) hX dX3_isIn_5 0 rfl ?_
    refine wg_iload_n (pc := 6) hX dX3_isIn_6 2 rfl ?_
    refine wg_icmp_gt (pc := 7) (tgt := 14) hX dX3_isIn_7 (by decide) (fun h3 => ?_) (fun h3 => ?_)
    · refine wu_t h3 ?_
      refine wg_sub hX [] rfl ?_
      exact hk1 ()
    refine wu_f h3 ?_
    refine wg_iconst (pc := 10) (v := 1) hX dX3_isIn_10 rfl ?_
    refine wg_goto (pc := 11) (tgt := 15) hX dX3_isIn_11 (by decide) ?_
    exact wu_rt (wg_zret (pc := 15) hX rfl (by decide) rfl dX3_isIn_15)
  refine wg_iconst (pc := 14) (v := 0) hX dX3_isIn_14 rfl ?_
  exact wu_rt (wg_zret (pc := 15) hX rfl (by decide) rfl dX3_isIn_15)
theorem m_X3_street (a1 : Int32) (a2 : Int32) (a3 : Int32) : amMet yX3_street cX3_street 7 (some .int) 2 64 encI [.ref (rid 1 1), .int a1, .int a2, .int a3] (up (p_X3_street a1 a2 a3)) := by
  refine amMet.of (own := RX3) (by decide) rfl (Nat.le_of_ble_eq_true rfl) fun X hX hPs => ?_
  change WG X encI 0 [(0, .ref (rid 1 1)), (1, .int a1), (2, .int a2), (3, .int a3)] [] (bd1 (up (p_X3_street a1 a2 a3)) rt1)
  unfold p_X3_street
  have hM0 := amPs.m0 hPs
  refine wu_ (wg_gM ?_)
  refine wg_aload_n (pc := 0) hX dX3_street_0 0 rfl ?_
  refine wg_iconst (pc := 1) (v := 0) hX dX3_street_1 rfl ?_
  refine wu_ (wg_pI (pc := 2) hX fp_X3_297 (fun h => by cases h) dX3_street_2 ?_)
  refine wg_aload_n (pc := 5) hX dX3_street_5 0 rfl ?_
  refine wu_ (wg_gI (pc := 6) hX fd_X3_300 dX3_street_6 fun v1 => ?_)
  refine wg_bipush (pc := 9) (v := 40) hX dX3_street_9 rfl ?_
  refine wg_icmp_eq (pc := 11) (tgt := 43) hX dX3_street_11 (by decide) (fun h2 => ?_) (fun h2 => ?_)
  · refine wu_t h2 ?_
    refine wg_iconst (pc := 43) (v := (-1)) hX dX3_street_43 rfl ?_
    exact wu_rt (wg_iret (pc := 44) hX rfl rfl dX3_street_44)
  refine wu_f h2 ?_
  refine wg_iload_n (pc := 14) hX dX3_street_14 1 rfl ?_
  refine wu_ (wg_cSi (pc := 15) (As := [.int a1]) (rest := []) hX (m_X3_isCorner a1) (lw_S q2314 q2315 q163 q2316) hd_X3_isCorner rfl (Nat.le_of_ble_eq_true rfl) (Nat.le_of_ble_eq_true rfl) (Nat.le_of_ble_eq_true rfl) rfl dX3_street_15 fun v3 => ?_)
  refine wg_if_eq (pc := 18) (tgt := 43) hX dX3_street_18 (by decide) (fun h4 => ?_) (fun h4 => ?_)
  · refine wu_t h4 ?_
    refine wg_iconst (pc := 43) (v := (-1)) hX dX3_street_43 rfl ?_
    exact wu_rt (wg_iret (pc := 44) hX rfl rfl dX3_street_44)
  refine wu_f h4 ?_
  refine wg_iload_n (pc := 21) hX dX3_street_21 2 rfl ?_
  refine wu_ (wg_cSi (pc := 22) (As := [.int a2]) (rest := []) hX (m_X3_isCorner a2) (lw_S q2314 q2315 q163 q2316) hd_X3_isCorner rfl (Nat.le_of_ble_eq_true rfl) (Nat.le_of_ble_eq_true rfl) (Nat.le_of_ble_eq_true rfl) rfl dX3_street_22 fun v5 => ?_)
  refine wg_if_eq (pc := 25) (tgt := 43) hX dX3_street_25 (by decide) (fun h6 => ?_) (fun h6 => ?_)
  · refine wu_t h6 ?_
    refine wg_iconst (pc := 43) (v := (-1)) hX dX3_street_43 rfl ?_
    exact wu_rt (wg_iret (pc := 44) hX rfl rfl dX3_street_44)
  refine wu_f h6 ?_
  refine wg_iload_n (pc := 28) hX dX3_street_28 1 rfl ?_
  refine wg_iload_n (pc := 29) hX dX3_street_29 2 rfl ?_
  refine wg_icmp_eq (pc := 30) (tgt := 43) hX dX3_street_30 (by decide) (fun h7 => ?_) (fun h7 => ?_)
  · refine wu_t h7 ?_
    refine wg_iconst (pc := 43) (v := (-1)) hX dX3_street_43 rfl ?_
    exact wu_rt (wg_iret (pc := 44) hX rfl rfl dX3_street_44)
  refine wu_f h7 ?_
  refine wg_iload_n (pc := 33) hX dX3_street_33 3 rfl ?_
  refine wg_iconst (pc := 34) (v := 1) hX dX3_street_34 rfl ?_
  refine wg_bipush (pc := 35) (v := 20) hX dX3_street_35 rfl ?_
  refine wu_ (wg_cSi (pc := 37) (As := [.int a3, .int 1, .int 20]) (rest := []) hX (m_X3_isIn a3 1 20) (lw_S q2317 q2318 q163 q2319) hd_X3_isIn rfl (Nat.le_of_ble_eq_true rfl) (Nat.le_of_ble_eq_true rfl) (Nat.le_of_ble_eq_true rfl) rfl dX3_street_37 fun v8 => ?_)
  refine wg_if_ne (pc := 40) (tgt := 45) hX dX3_street_40 (by decide) (fun h9 => ?_) (fun h9 => ?_)
  · refine wu_t h9 ?_
    refine wg_iconst (pc := 43) (v := (-1)) hX dX3_street_43 rfl ?_
    exact wu_rt (wg_iret (pc := 44) hX rfl rfl dX3_street_44)
  refine wu_f h9 ?_
  refine wg_aload_n (pc := 45) hX dX3_street_45 0 rfl ?_
  refine wg_gK (pc := 46) hX hM0 fd_X3_9 (by decide) dX3_street_46 ?_
  refine wg_aload_n (pc := 49) hX dX3_street_49 0 rfl ?_
  refine wu_ (wg_gI (pc := 50) hX fd_X3_300 dX3_street_50 fun v10 => ?_)
  refine wg_iload_n (pc := 53) hX dX3_street_53 1 rfl ?_
  refine wu_ (wg_wI (pc := 54) hX ar_55 dX3_street_54 ?_)
  refine wg_aload_n (pc := 55) hX dX3_street_55 0 rfl ?_
  refine wg_gK (pc := 56) hX hM0 fd_X3_13 (by decide) dX3_street_56 ?_
  refine wg_aload_n (pc := 59) hX dX3_street_59 0 rfl ?_
  refine wu_ (wg_gI (pc := 60) hX fd_X3_300 dX3_street_60 fun v11 => ?_)
  refine wg_iload_n (pc := 63) hX dX3_street_63 2 rfl ?_
  refine wu_ (wg_wI (pc := 64) hX ar_56 dX3_street_64 ?_)
  refine wg_aload_n (pc := 65) hX dX3_street_65 0 rfl ?_
  refine wg_gK (pc := 66) hX hM0 fd_X3_16 (by decide) dX3_street_66 ?_
  refine wg_aload_n (pc := 69) hX dX3_street_69 0 rfl ?_
  refine wu_ (wg_gI (pc := 70) hX fd_X3_300 dX3_street_70 fun v12 => ?_)
  refine wg_iload_n (pc := 73) hX dX3_street_73 3 rfl ?_
  refine wu_ (wg_wI (pc := 74) hX ar_57 dX3_street_74 ?_)
  refine wg_iconst (pc := 75) (v := 0) hX dX3_street_75 rfl ?_
  refine wg_istore (pc := 76) (l' := [(0, .ref (rid 1 1)), (1, .int a1), (2, .int a2), (3, .int a3), (4, .int 0)]) hX dX3_street_76 (by decide) rfl ?_
  refine wu_lpx (α := Int32) (γ := Unit) (pcl := 78) (pcT := 106) (lo := fun x => [(0, .ref (rid 1 1)), (1, .int a1), (2, .int a2), (3, .int a3), (4, .int x)]) (so := fun _ => []) (lT := fun x => [(0, .ref (rid 1 1)), (1, .int a1), (2, .int a2), (3, .int a3)]) (sT := fun _ => []) (n := amFu) (x0 := 0) (fun K13 rec13 hrec13 hk13 x13 => ?_) (fun y14 => ?_)
  · unfold p_X3_street_L78
    refine wg_iload (pc := 78) hX dX3_street_78 4 rfl ?_
    refine wg_iconst (pc := 80) (v := 4) hX dX3_street_80 rfl ?_
    refine wg_icmp_ge (pc := 81) (tgt := 106) hX dX3_street_81 (by decide) (fun h15 => ?_) (fun h15 => ?_)
    · refine wu_t h15 ?_
      refine wg_sub hX [0, 1, 2, 3] rfl ?_
      exact wu_rt (hk13 ())
    refine wu_f h15 ?_
    refine wg_aload_n (pc := 84) hX dX3_street_84 0 rfl ?_
    refine wg_gK (pc := 85) hX hM0 fd_X3_19 (by decide) dX3_street_85 ?_
    refine wg_iconst (pc := 88) (v := 4) hX dX3_street_88 rfl ?_
    refine wg_aload_n (pc := 89) hX dX3_street_89 0 rfl ?_
    refine wu_ (wg_gI (pc := 90) hX fd_X3_300 dX3_street_90 fun v16 => ?_)
    refine wg_imul (pc := 93) hX dX3_street_93 ?_
    refine wg_iload (pc := 94) hX dX3_street_94 4 rfl ?_
    refine wg_iadd (pc := 96) hX dX3_street_96 ?_
    refine wg_bipush (pc := 97) (v := 100) hX dX3_street_97 rfl ?_
    refine wu_ (wg_wI (pc := 99) hX ar_58 dX3_street_99 ?_)
    refine wg_iinc (pc := 100) (v := (x13 + 1)) (l' := [(0, .ref (rid 1 1)), (1, .int a1), (2, .int a2), (3, .int a3), (4, .int (x13 + 1))]) hX dX3_street_100 4 rfl rfl (by decide) rfl ?_
    refine wg_goto (pc := 103) (tgt := 78) hX dX3_street_103 (by decide) ?_
    exact hrec13 (x13 + 1)
  refine wg_aload_n (pc := 106) hX dX3_street_106 0 rfl ?_
  refine wg_dup (pc := 107) hX dX3_street_107 rfl ?_
  refine wu_ (wg_gI (pc := 108) hX fd_X3_300 dX3_street_108 fun v17 => ?_)
  refine wg_iconst (pc := 111) (v := 1) hX dX3_street_111 rfl ?_
  refine wg_iadd (pc := 112) hX dX3_street_112 ?_
  refine wu_ (wg_pI (pc := 113) hX fp_X3_300 (fun h => by cases h) dX3_street_113 ?_)
  refine wg_aload_n (pc := 116) hX dX3_street_116 0 rfl ?_
  refine wg_gK (pc := 117) hX hM0 fd_X3_22 (by decide) dX3_street_117 ?_
  refine wg_bipush (pc := 120) (v := 20) hX dX3_street_120 rfl ?_
  refine wg_iload_n (pc := 122) hX dX3_street_122 1 rfl ?_
  refine wg_imul (pc := 123) hX dX3_street_123 ?_
  refine wg_iload_n (pc := 124) hX dX3_street_124 2 rfl ?_
  refine wg_iadd (pc := 125) hX dX3_street_125 ?_
  refine wg_aload_n (pc := 126) hX dX3_street_126 0 rfl ?_
  refine wg_gK (pc := 127) hX hM0 fd_X3_22 (by decide) dX3_street_127 ?_
  refine wg_bipush (pc := 130) (v := 20) hX dX3_street_130 rfl ?_
  refine wg_iload_n (pc := 132) hX dX3_street_132 1 rfl ?_
  refine wg_imul (pc := 133) hX dX3_street_133 ?_
  refine wg_iload_n (pc := 134) hX dX3_street_134 2 rfl ?_
  refine wg_iadd (pc := 135) hX dX3_street_135 ?_
  refine wu_ (wg_rI (pc := 136) hX ar_59 dX3_street_136 fun v18 => ?_)
  refine wg_iload_n (pc := 137) hX dX3_street_137 3 rfl ?_
  refine wg_mmin (pc := 138) hX q2320 q1149 q165 q1150 (Nat.le_of_ble_eq_true rfl) (Nat.le_of_ble_eq_true rfl) dX3_street_138 ?_
  refine wu_ (wg_nmi hX fun v19 => ?_)
  refine wu_ (wg_wI (pc := 141) hX ar_59 dX3_street_141 ?_)
  refine wg_aload_n (pc := 142) hX dX3_street_142 0 rfl ?_
  refine wg_gK (pc := 143) hX hM0 fd_X3_22 (by decide) dX3_street_143 ?_
  refine wg_bipush (pc := 146) (v := 20) hX dX3_street_146 rfl ?_
  refine wg_iload_n (pc := 148) hX dX3_street_148 2 rfl ?_
  refine wg_imul (pc := 149) hX dX3_street_149 ?_
  refine wg_iload_n (pc := 150) hX dX3_street_150 1 rfl ?_
  refine wg_iadd (pc := 151) hX dX3_street_151 ?_
  refine wg_aload_n (pc := 152) hX dX3_street_152 0 rfl ?_
  refine wg_gK (pc := 153) hX hM0 fd_X3_22 (by decide) dX3_street_153 ?_
  refine wg_bipush (pc := 156) (v := 20) hX dX3_street_156 rfl ?_
  refine wg_iload_n (pc := 158) hX dX3_street_158 1 rfl ?_
  refine wg_imul (pc := 159) hX dX3_street_159 ?_
  refine wg_iload_n (pc := 160) hX dX3_street_160 2 rfl ?_
  refine wg_iadd (pc := 161) hX dX3_street_161 ?_
  refine wu_ (wg_rI (pc := 162) hX ar_59 dX3_street_162 fun v20 => ?_)
  refine wu_ (wg_wI (pc := 163) hX ar_59 dX3_street_163 ?_)
  refine wg_iconst (pc := 164) (v := 0) hX dX3_street_164 rfl ?_
  refine wg_istore (pc := 165) (l' := [(0, .ref (rid 1 1)), (1, .int a1), (2, .int a2), (3, .int a3), (4, .int 0)]) hX dX3_street_165 (by decide) rfl ?_
  refine wg_sub hX [0, 4] rfl ?_
  refine wu_lpx (α := Int32) (γ := Unit) (pcl := 167) (pcT := 268) (lo := fun x => [(0, .ref (rid 1 1)), (4, .int x)]) (so := fun _ => []) (lT := fun x => [(0, .ref (rid 1 1))]) (sT := fun _ => []) (n := amFu) (x0 := 0) (fun K21 rec21 hrec21 hk21 x21 => ?_) (fun y22 => ?_)
  · unfold p_X3_street_L167
    refine wg_iload (pc := 167) hX dX3_street_167 1 rfl ?_
    refine wg_bipush (pc := 169) (v := 20) hX dX3_street_169 rfl ?_
    refine wg_icmp_ge (pc := 171) (tgt := 268) hX dX3_street_171 (by decide) (fun h23 => ?_) (fun h23 => ?_)
    · refine wu_t h23 ?_
      refine wg_sub hX [0] rfl ?_
      exact wu_rt (hk21 ())
    refine wu_f h23 ?_
    refine wg_iconst (pc := 174) (v := 0) hX dX3_street_174 rfl ?_
    refine wg_istore (pc := 175) (l' := [(0, .ref (rid 1 1)), (4, .int x21), (5, .int 0)]) hX dX3_street_175 (by decide) rfl ?_
    refine wu_lpx (α := Int32) (γ := Unit) (pcl := 177) (pcT := 262) (lo := fun x => [(0, .ref (rid 1 1)), (4, .int x21), (5, .int x)]) (so := fun _ => []) (lT := fun x => [(0, .ref (rid 1 1)), (4, .int x21)]) (sT := fun _ => []) (n := amFu) (x0 := 0) (fun K24 rec24 hrec24 hk24 x24 => ?_) (fun y25 => ?_)
    · unfold p_X3_street_L177
      refine wg_iload (pc := 177) hX dX3_street_177 2 rfl ?_
      refine wg_bipush (pc := 179) (v := 20) hX dX3_street_179 rfl ?_
      refine wg_icmp_ge (pc := 181) (tgt := 262) hX dX3_street_181 (by decide) (fun h26 => ?_) (fun h26 => ?_)
      · refine wu_t h26 ?_
        refine wg_sub hX [0, 1] rfl ?_
        exact wu_rt (hk24 ())
      refine wu_f h26 ?_
      refine wg_iconst (pc := 184) (v := 0) hX dX3_street_184 rfl ?_
      refine wg_istore (pc := 185) (l' := [(0, .ref (rid 1 1)), (4, .int x21), (5, .int x24), (6, .int 0)]) hX dX3_street_185 (by decide) rfl ?_
      refine wu_lpx (α := Int32) (γ := Unit) (pcl := 187) (pcT := 256) (lo := fun x => [(0, .ref (rid 1 1)), (4, .int x21), (5, .int x24), (6, .int x)]) (so := fun _ => []) (lT := fun x => [(0, .ref (rid 1 1)), (4, .int x21), (5, .int x24)]) (sT := fun _ => []) (n := amFu) (x0 := 0) (fun K27 rec27 hrec27 hk27 x27 => ?_) (fun y28 => ?_)
      · unfold p_X3_street_L187
        refine wg_iload (pc := 187) hX dX3_street_187 3 rfl ?_
        refine wg_bipush (pc := 189) (v := 20) hX dX3_street_189 rfl ?_
        refine wg_icmp_ge (pc := 191) (tgt := 256) hX dX3_street_191 (by decide) (fun h29 => ?_) (fun h29 => ?_)
        · refine wu_t h29 ?_
          refine wg_sub hX [0, 1, 2] rfl ?_
          exact wu_rt (hk27 ())
        refine wu_f h29 ?_
        refine wg_aload_n (pc := 194) hX dX3_street_194 0 rfl ?_
        refine wg_gK (pc := 195) hX hM0 fd_X3_22 (by decide) dX3_street_195 ?_
        refine wg_bipush (pc := 198) (v := 20) hX dX3_street_198 rfl ?_
        refine wg_iload (pc := 200) hX dX3_street_200 2 rfl ?_
        refine wg_imul (pc := 202) hX dX3_street_202 ?_
        refine wg_iload (pc := 203) hX dX3_street_203 3 rfl ?_
        refine wg_iadd (pc := 205) hX dX3_street_205 ?_
        refine wg_aload_n (pc := 206) hX dX3_street_206 0 rfl ?_
        refine wg_gK (pc := 207) hX hM0 fd_X3_22 (by decide) dX3_street_207 ?_
        refine wg_bipush (pc := 210) (v := 20) hX dX3_street_210 rfl ?_
        refine wg_iload (pc := 212) hX dX3_street_212 2 rfl ?_
        refine wg_imul (pc := 214) hX dX3_street_214 ?_
        refine wg_iload (pc := 215) hX dX3_street_215 3 rfl ?_
        refine wg_iadd (pc := 217) hX dX3_street_217 ?_
        refine wu_ (wg_rI (pc := 218) hX ar_59 dX3_street_218 fun v30 => ?_)
        refine wg_aload_n (pc := 219) hX dX3_street_219 0 rfl ?_
        refine wg_gK (pc := 220) hX hM0 fd_X3_22 (by decide) dX3_street_220 ?_
        refine wg_bipush (pc := 223) (v := 20) hX dX3_street_223 rfl ?_
        refine wg_iload (pc := 225) hX dX3_street_225 2 rfl ?_
        refine wg_imul (pc := 227) hX dX3_street_227 ?_
        refine wg_iload (pc := 228) hX dX3_street_228 1 rfl ?_
        refine wg_iadd (pc := 230) hX dX3_street_230 ?_
        refine wu_ (wg_rI (pc := 231) hX ar_59 dX3_street_231 fun v31 => ?_)
        refine wg_aload_n (pc := 232) hX dX3_street_232 0 rfl ?_
        refine wg_gK (pc := 233) hX hM0 fd_X3_22 (by decide) dX3_street_233 ?_
        refine wg_bipush (pc := 236) (v := 20) hX dX3_street_236 rfl ?_
        refine wg_iload (pc := 238) hX dX3_street_238 1 rfl ?_
        refine wg_imul (pc := 240) hX dX3_street_240 ?_
        refine wg_iload (pc := 241) hX dX3_street_241 3 rfl ?_
        refine wg_iadd (pc := 243) hX dX3_street_243 ?_
        refine wu_ (wg_rI (pc := 244) hX ar_59 dX3_street_244 fun v32 => ?_)
        refine wg_iadd (pc := 245) hX dX3_street_245 ?_
        refine wg_mmin (pc := 246) hX q2320 q1149 q165 q1150 (Nat.le_of_ble_eq_true rfl) (Nat.le_of_ble_eq_true rfl) dX3_street_246 ?_
        refine wu_ (wg_nmi hX fun v33 => ?_)
        refine wu_ (wg_wI (pc := 249) hX ar_59 dX3_street_249 ?_)
        refine wg_iinc (pc := 250) (v := (x27 + 1)) (l' := [(0, .ref (rid 1 1)), (4, .int x21), (5, .int x24), (6, .int (x27 + 1))]) hX dX3_street_250 3 rfl rfl (by decide) rfl ?_
        refine wg_goto (pc := 253) (tgt := 187) hX dX3_street_253 (by decide) ?_
        exact hrec27 (x27 + 1)
      refine wg_iinc (pc := 256) (v := (x24 + 1)) (l' := [(0, .ref (rid 1 1)), (4, .int x21), (5, .int (x24 + 1))]) hX dX3_street_256 2 rfl rfl (by decide) rfl ?_
      refine wg_goto (pc := 259) (tgt := 177) hX dX3_street_259 (by decide) ?_
      exact hrec24 (x24 + 1)
    refine wg_iinc (pc := 262) (v := (x21 + 1)) (l' := [(0, .ref (rid 1 1)), (4, .int (x21 + 1))]) hX dX3_street_262 1 rfl rfl (by decide) rfl ?_
    refine wg_goto (pc := 265) (tgt := 167) hX dX3_street_265 (by decide) ?_
    exact hrec21 (x21 + 1)
  refine wg_aload_n (pc := 268) hX dX3_street_268 0 rfl ?_
  refine wu_ (wg_gI (pc := 269) hX fd_X3_300 dX3_street_269 fun v34 => ?_)
  refine wg_iconst (pc := 272) (v := 1) hX dX3_street_272 rfl ?_
  refine wg_isub (pc := 273) hX dX3_street_273 ?_
  exact wu_rt (wg_iret (pc := 274) hX rfl rfl dX3_street_274)
theorem m_X3_isStreet (a1 : Int32) : amMet yX3_isStreet cX3_isStreet 2 (some .boolean) 1 32 encI [.ref (rid 1 1), .int a1] (up (p_X3_isStreet a1)) := by
  refine amMet.of (own := RX3) (by decide) rfl (Nat.le_of_ble_eq_true rfl) fun X hX hPs => ?_
  change WG X encI 0 [(0, .ref (rid 1 1)), (1, .int a1)] [] (bd1 (up (p_X3_isStreet a1)) rt1)
  unfold p_X3_isStreet
  refine wg_iload_n (pc := 0) hX dX3_isStreet_0 1 rfl ?_
  refine wu_jn (α := Unit) (pcJ := 16) (lJ := fun x => []) (sJ := fun x => []) (fun k1 hk1 => ?_) (fun z1 => ?_)
  · refine wg_if_lt (pc := 1) (tgt := 16) hX dX3_isStreet_1 (by decide) (fun h2 => ?_) (fun h2 => ?_)
    · refine wu_t h2 ?_
      refine wg_sub hX [] rfl ?_
      exact hk1 ()
    refine wu_f h2 ?_
    refine wg_iload_n (pc := 4) hX dX3_isStreet_4 1 rfl ?_
    refine wg_aload_n (pc := 5) hX dX3_isStreet_5 0 rfl ?_
    refine wu_ (wg_gI (pc := 6) hX fd_X3_300 dX3_isStreet_6 fun v3 => ?_)
    refine wg_icmp_ge (pc := 9) (tgt := 16) hX dX3_isStreet_9 (by decide) (fun h4 => ?_) (fun h4 => ?_)
    · refine wu_t h4 ?_
      refine wg_sub hX [] rfl ?_
      exact hk1 ()
    refine wu_f h4 ?_
    refine wg_iconst (pc := 12) (v := 1) hX dX3_isStreet_12 rfl ?_
    refine wg_goto (pc := 13) (tgt := 17) hX dX3_isStreet_13 (by decide) ?_
    exact wu_rt (wg_zret (pc := 17) hX rfl (by decide) rfl dX3_isStreet_17)
  refine wg_iconst (pc := 16) (v := 0) hX dX3_isStreet_16 rfl ?_
  exact wu_rt (wg_zret (pc := 17) hX rfl (by decide) rfl dX3_isStreet_17)
theorem m_X3_jam (a1 : Int32) (a2 : Int32) (a3 : Int32) : amMet yX3_jam cX3_jam 4 (some .boolean) 2 54 encI [.ref (rid 1 1), .int a1, .int a2, .int a3] (up (p_X3_jam a1 a2 a3)) := by
  refine amMet.of (own := RX3) (by decide) rfl (Nat.le_of_ble_eq_true rfl) fun X hX hPs => ?_
  change WG X encI 0 [(0, .ref (rid 1 1)), (1, .int a1), (2, .int a2), (3, .int a3)] [] (bd1 (up (p_X3_jam a1 a2 a3)) rt1)
  unfold p_X3_jam
  have hM0 := amPs.m0 hPs
  refine wu_ (wg_gM ?_)
  refine wg_aload_n (pc := 0) hX dX3_jam_0 0 rfl ?_
  refine wg_iconst (pc := 1) (v := 0) hX dX3_jam_1 rfl ?_
  refine wu_ (wg_pI (pc := 2) hX fp_X3_297 (fun h => by cases h) dX3_jam_2 ?_)
  refine wg_aload_n (pc := 5) hX dX3_jam_5 0 rfl ?_
  refine wg_iload_n (pc := 6) hX dX3_jam_6 1 rfl ?_
  refine wu_ (wg_cVi (pc := 7) (As := [.int a1]) (rest := []) hX (m_X3_isStreet a1) (by decide) (by decide) (by decide) rc_X3 (lw_V q2325 q2327 qs87 q163 q2328) hd_X3_isStreet rfl (Nat.le_of_ble_eq_true rfl) (Nat.le_of_ble_eq_true rfl) (Nat.le_of_ble_eq_true rfl) rfl dX3_jam_7 fun v1 => ?_)
  refine wg_if_eq (pc := 10) (tgt := 34) hX dX3_jam_10 (by decide) (fun h2 => ?_) (fun h2 => ?_)
  · refine wu_t h2 ?_
    refine wg_iconst (pc := 34) (v := 0) hX dX3_jam_34 rfl ?_
    exact wu_rt (wg_zret (pc := 35) hX rfl (by decide) rfl dX3_jam_35)
  refine wu_f h2 ?_
  refine wg_iload_n (pc := 13) hX dX3_jam_13 2 rfl ?_
  refine wg_iconst (pc := 14) (v := 0) hX dX3_jam_14 rfl ?_
  refine wg_iconst (pc := 15) (v := 3) hX dX3_jam_15 rfl ?_
  refine wu_ (wg_cSi (pc := 16) (As := [.int a2, .int 0, .int 3]) (rest := []) hX (m_X3_isIn a2 0 3) (lw_S q2317 q2318 q163 q2319) hd_X3_isIn rfl (Nat.le_of_ble_eq_true rfl) (Nat.le_of_ble_eq_true rfl) (Nat.le_of_ble_eq_true rfl) rfl dX3_jam_16 fun v3 => ?_)
  refine wg_if_eq (pc := 19) (tgt := 34) hX dX3_jam_19 (by decide) (fun h4 => ?_) (fun h4 => ?_)
  · refine wu_t h4 ?_
    refine wg_iconst (pc := 34) (v := 0) hX dX3_jam_34 rfl ?_
    exact wu_rt (wg_zret (pc := 35) hX rfl (by decide) rfl dX3_jam_35)
  refine wu_f h4 ?_
  refine wg_iload_n (pc := 22) hX dX3_jam_22 3 rfl ?_
  refine wg_bipush (pc := 23) (v := 100) hX dX3_jam_23 rfl ?_
  refine wg_sipush (pc := 25) (v := 400) hX dX3_jam_25 rfl ?_
  refine wu_ (wg_cSi (pc := 28) (As := [.int a3, .int 100, .int 400]) (rest := []) hX (m_X3_isIn a3 100 400) (lw_S q2317 q2318 q163 q2319) hd_X3_isIn rfl (Nat.le_of_ble_eq_true rfl) (Nat.le_of_ble_eq_true rfl) (Nat.le_of_ble_eq_true rfl) rfl dX3_jam_28 fun v5 => ?_)
  refine wg_if_ne (pc := 31) (tgt := 36) hX dX3_jam_31 (by decide) (fun h6 => ?_) (fun h6 => ?_)
  · refine wu_t h6 ?_
    refine wg_iconst (pc := 34) (v := 0) hX dX3_jam_34 rfl ?_
    exact wu_rt (wg_zret (pc := 35) hX rfl (by decide) rfl dX3_jam_35)
  refine wu_f h6 ?_
  refine wg_aload_n (pc := 36) hX dX3_jam_36 0 rfl ?_
  refine wg_gK (pc := 37) hX hM0 fd_X3_19 (by decide) dX3_jam_37 ?_
  refine wg_iconst (pc := 40) (v := 4) hX dX3_jam_40 rfl ?_
  refine wg_iload_n (pc := 41) hX dX3_jam_41 1 rfl ?_
  refine wg_imul (pc := 42) hX dX3_jam_42 ?_
  refine wg_iload_n (pc := 43) hX dX3_jam_43 2 rfl ?_
  refine wg_iadd (pc := 44) hX dX3_jam_44 ?_
  refine wg_iload_n (pc := 45) hX dX3_jam_45 3 rfl ?_
  refine wu_ (wg_wI (pc := 46) hX ar_58 dX3_jam_46 ?_)
  refine wg_iconst (pc := 47) (v := 1) hX dX3_jam_47 rfl ?_
  exact wu_rt (wg_zret (pc := 48) hX rfl (by decide) rfl dX3_jam_48)
theorem m_X3_closed (a1 : Int32) (a2 : Int32) : amMet yX3_closed cX3_closed 3 (some .boolean) 2 53 encI [.ref (rid 1 1), .int a1, .int a2] (up (p_X3_closed a1 a2)) := by
  refine amMet.of (own := RX3) (by decide) rfl (Nat.le_of_ble_eq_true rfl) fun X hX hPs => ?_
  change WG X encI 0 [(0, .ref (rid 1 1)), (1, .int a1), (2, .int a2)] [] (bd1 (up (p_X3_closed a1 a2)) rt1)
  unfold p_X3_closed
  have hM0 := amPs.m0 hPs
  refine wu_ (wg_gM ?_)
  refine wg_aload_n (pc := 0) hX dX3_closed_0 0 rfl ?_
  refine wg_iconst (pc := 1) (v := 0) hX dX3_closed_1 rfl ?_
  refine wu_ (wg_pI (pc := 2) hX fp_X3_297 (fun h => by cases h) dX3_closed_2 ?_)
  refine wg_aload_n (pc := 5) hX dX3_closed_5 0 rfl ?_
  refine wg_iload_n (pc := 6) hX dX3_closed_6 1 rfl ?_
  refine wu_ (wg_cVi (pc := 7) (As := [.int a1]) (rest := []) hX (m_X3_isStreet a1) (by decide) (by decide) (by decide) rc_X3 (lw_V q2325 q2327 qs87 q163 q2328) hd_X3_isStreet rfl (Nat.le_of_ble_eq_true rfl) (Nat.le_of_ble_eq_true rfl) (Nat.le_of_ble_eq_true rfl) rfl dX3_closed_7 fun v1 => ?_)
  refine wg_if_eq (pc := 10) (tgt := 23) hX dX3_closed_10 (by decide) (fun h2 => ?_) (fun h2 => ?_)
  · refine wu_t h2 ?_
    refine wg_iconst (pc := 23) (v := 0) hX dX3_closed_23 rfl ?_
    exact wu_rt (wg_zret (pc := 24) hX rfl (by decide) rfl dX3_closed_24)
  refine wu_f h2 ?_
  refine wg_aload_n (pc := 13) hX dX3_closed_13 0 rfl ?_
  refine wg_gK (pc := 14) hX hM0 fd_X3_25 (by decide) dX3_closed_14 ?_
  refine wg_iload_n (pc := 17) hX dX3_closed_17 1 rfl ?_
  refine wu_ (wg_rZ (pc := 18) hX ar_60 dX3_closed_18 fun v3 => ?_)
  refine wg_iload_n (pc := 19) hX dX3_closed_19 2 rfl ?_
  refine wg_icmp_ne (pc := 20) (tgt := 25) hX dX3_closed_20 (by decide) (fun h4 => ?_) (fun h4 => ?_)
  · refine wu_t h4 ?_
    refine wg_iconst (pc := 23) (v := 0) hX dX3_closed_23 rfl ?_
    exact wu_rt (wg_zret (pc := 24) hX rfl (by decide) rfl dX3_closed_24)
  refine wu_f h4 ?_
  refine wg_aload_n (pc := 25) hX dX3_closed_25 0 rfl ?_
  refine wg_gK (pc := 26) hX hM0 fd_X3_25 (by decide) dX3_closed_26 ?_
  refine wg_iload_n (pc := 29) hX dX3_closed_29 1 rfl ?_
  refine wg_iload_n (pc := 30) hX dX3_closed_30 2 rfl ?_
  refine wu_ (wg_gd fun h5 => ?_)
  refine wu_ (wg_wZ (pc := 31) hX ar_60 h5 dX3_closed_31 ?_)
  refine wg_iconst (pc := 32) (v := 1) hX dX3_closed_32 rfl ?_
  exact wu_rt (wg_zret (pc := 33) hX rfl (by decide) rfl dX3_closed_33)
theorem m_X3_partOf (a1 : Int32) : amMet yX3_partOf cX3_partOf 1 (some .int) 1 32 encI [.int a1] (up (p_X3_partOf a1)) := by
  refine amMet.of (own := RX3) (by decide) rfl (Nat.le_of_ble_eq_true rfl) fun X hX hPs => ?_
  change WG X encI 0 [(0, .int a1)] [] (bd1 (up (p_X3_partOf a1)) rt1)
  unfold p_X3_partOf
  refine wg_iload_n (pc := 0) hX dX3_partOf_0 0 rfl ?_
  refine wg_sipush (pc := 1) (v := 360) hX dX3_partOf_1 rfl ?_
  refine wg_idiv (pc := 4) hX dX3_partOf_4 (by decide) ?_
  refine wg_iconst (pc := 5) (v := 4) hX dX3_partOf_5 rfl ?_
  refine wg_irem (pc := 6) hX dX3_partOf_6 (by decide) ?_
  exact wu_rt (wg_iret (pc := 7) hX rfl rfl dX3_partOf_7)
theorem m_X3_comeBy (a1 : Int32) (a2 : Int32) (a3 : Int32) (a4 : Int32) : amMet yX3_comeBy cX3_comeBy 11 (some .int) 2 52 encI [.ref (rid 1 1), .int a1, .int a2, .int a3, .int a4] (up (p_X3_comeBy a1 a2 a3 a4)) := by
  refine amMet.of (own := RX3) (by decide) rfl (Nat.le_of_ble_eq_true rfl) fun X hX hPs => ?_
  change WG X encI 0 [(0, .ref (rid 1 1)), (1, .int a1), (2, .int a2), (3, .int a3), (4, .int a4)] [] (bd1 (up (p_X3_comeBy a1 a2 a3 a4)) rt1)
  unfold p_X3_comeBy
  have hM0 := amPs.m0 hPs
  refine wu_ (wg_gM ?_)
  refine wg_iconst (pc := 0) (v := 0) hX dX3_comeBy_0 rfl ?_
  refine wg_istore (pc := 1) (l' := [(0, .ref (rid 1 1)), (1, .int a1), (2, .int a2), (3, .int a3), (4, .int a4), (5, .int 0)]) hX dX3_comeBy_1 (by decide) rfl ?_
  refine wu_lpx (α := Int32) (γ := Unit) (pcl := 3) (pcT := 25) (lo := fun x => [(0, .ref (rid 1 1)), (1, .int a1), (2, .int a2), (3, .int a3), (4, .int a4), (5, .int x)]) (so := fun _ => []) (lT := fun x => [(0, .ref (rid 1 1)), (1, .int a1), (2, .int a2), (3, .int a3), (4, .int a4)]) (sT := fun _ => []) (n := amFu) (x0 := 0) (fun K1 rec1 hrec1 hk1 x1 => ?_) (fun y2 => ?_)
  · unfold p_X3_comeBy_L3
    refine wg_iload (pc := 3) hX dX3_comeBy_3 5 rfl ?_
    refine wg_sipush (pc := 5) (v := 12020) hX dX3_comeBy_5 rfl ?_
    refine wg_icmp_ge (pc := 8) (tgt := 25) hX dX3_comeBy_8 (by decide) (fun h3 => ?_) (fun h3 => ?_)
    · refine wu_t h3 ?_
      refine wg_sub hX [0, 1, 2, 3, 4] rfl ?_
      exact wu_rt (hk1 ())
    refine wu_f h3 ?_
    refine wg_aload_n (pc := 11) hX dX3_comeBy_11 0 rfl ?_
    refine wg_gK (pc := 12) hX hM0 fd_X3_29 (by decide) dX3_comeBy_12 ?_
    refine wg_iload (pc := 15) hX dX3_comeBy_15 5 rfl ?_
    refine wg_iconst (pc := 17) (v := 0) hX dX3_comeBy_17 rfl ?_
    refine wu_ (wg_wZ (pc := 18) hX ar_61 (by decide) dX3_comeBy_18 ?_)
    refine wg_iinc (pc := 19) (v := (x1 + 1)) (l' := [(0, .ref (rid 1 1)), (1, .int a1), (2, .int a2), (3, .int a3), (4, .int a4), (5, .int (x1 + 1))]) hX dX3_comeBy_19 5 rfl rfl (by decide) rfl ?_
    refine wg_goto (pc := 22) (tgt := 3) hX dX3_comeBy_22 (by decide) ?_
    exact hrec1 (x1 + 1)
  refine wg_aload_n (pc := 25) hX dX3_comeBy_25 0 rfl ?_
  refine wg_gK (pc := 26) hX hM0 fd_X3_29 (by decide) dX3_comeBy_26 ?_
  refine wg_iload_n (pc := 29) hX dX3_comeBy_29 1 rfl ?_
  refine wg_iconst (pc := 30) (v := 1) hX dX3_comeBy_30 rfl ?_
  refine wu_ (wg_wZ (pc := 31) hX ar_61 (by decide) dX3_comeBy_31 ?_)
  refine wg_iconst (pc := 32) (v := 0) hX dX3_comeBy_32 rfl ?_
  refine wg_istore (pc := 33) (l' := [(0, .ref (rid 1 1)), (1, .int a1), (2, .int a2), (3, .int a3), (4, .int a4), (5, .int 0)]) hX dX3_comeBy_33 (by decide) rfl ?_
  refine wg_sub hX [0, 2, 3, 4, 5] rfl ?_
  refine wu_lp (α := Int32) (pcl := 35) (lo := fun x => [(0, .ref (rid 1 1)), (2, .int a2), (3, .int a3), (4, .int a4), (5, .int x)]) (so := fun _ => []) (fun rec4 hrec4 x4 => ?_) amFu 0
  unfold p_X3_comeBy_L35
  refine wg_iload (pc := 35) hX dX3_comeBy_35 4 rfl ?_
  refine wg_sipush (pc := 37) (v := 600) hX dX3_comeBy_37 rfl ?_
  refine wg_icmp_gt (pc := 40) (tgt := 254) hX dX3_comeBy_40 (by decide) (fun h5 => ?_) (fun h5 => ?_)
  · refine wu_t h5 ?_
    refine wg_iconst (pc := 254) (v := (-1)) hX dX3_comeBy_254 rfl ?_
    exact wu_rt (wg_iret (pc := 255) hX rfl rfl dX3_comeBy_255)
  refine wu_f h5 ?_
  refine wg_aload_n (pc := 43) hX dX3_comeBy_43 0 rfl ?_
  refine wg_gK (pc := 44) hX hM0 fd_X3_29 (by decide) dX3_comeBy_44 ?_
  refine wg_bipush (pc := 47) (v := 20) hX dX3_comeBy_47 rfl ?_
  refine wg_iload (pc := 49) hX dX3_comeBy_49 4 rfl ?_
  refine wg_imul (pc := 51) hX dX3_comeBy_51 ?_
  refine wg_iload_n (pc := 52) hX dX3_comeBy_52 1 rfl ?_
  refine wg_iadd (pc := 53) hX dX3_comeBy_53 ?_
  refine wu_ (wg_rZ (pc := 54) hX ar_61 dX3_comeBy_54 fun v6 => ?_)
  refine wg_if_eq (pc := 55) (tgt := 63) hX dX3_comeBy_55 (by decide) (fun h7 => ?_) (fun h7 => ?_)
  rotate_left
  · refine wu_f h7 ?_
    refine wg_iload_n (pc := 58) hX dX3_comeBy_58 2 rfl ?_
    refine wg_iload (pc := 59) hX dX3_comeBy_59 4 rfl ?_
    refine wg_iadd (pc := 61) hX dX3_comeBy_61 ?_
    exact wu_rt (wg_iret (pc := 62) hX rfl rfl dX3_comeBy_62)
  refine wu_t h7 ?_
  refine wg_iload_n (pc := 63) hX dX3_comeBy_63 2 rfl ?_
  refine wg_iload (pc := 64) hX dX3_comeBy_64 4 rfl ?_
  refine wg_iadd (pc := 66) hX dX3_comeBy_66 ?_
  refine wu_ (wg_cSi (pc := 67) (As := [.int (a3 + x4)]) (rest := []) hX (m_X3_partOf (a3 + x4)) (lw_S q2341 q2342 q163 q2343) hd_X3_partOf rfl (Nat.le_of_ble_eq_true rfl) (Nat.le_of_ble_eq_true rfl) (Nat.le_of_ble_eq_true rfl) rfl dX3_comeBy_67 fun v8 => ?_)
  refine wg_istore (pc := 70) (l' := [(0, .ref (rid 1 1)), (2, .int a2), (3, .int a3), (4, .int a4), (5, .int x4), (6, .int v8)]) hX dX3_comeBy_70 (by decide) rfl ?_
  refine wg_iconst (pc := 72) (v := 0) hX dX3_comeBy_72 rfl ?_
  refine wg_istore (pc := 73) (l' := [(0, .ref (rid 1 1)), (2, .int a2), (3, .int a3), (4, .int a4), (5, .int x4), (6, .int v8), (7, .int 0)]) hX dX3_comeBy_73 (by decide) rfl ?_
  refine wu_lpx (α := Int32) (γ := Unit) (pcl := 75) (pcT := 248) (lo := fun x => [(0, .ref (rid 1 1)), (2, .int a2), (3, .int a3), (4, .int a4), (5, .int x4), (6, .int v8), (7, .int x)]) (so := fun _ => []) (lT := fun x => [(0, .ref (rid 1 1)), (2, .int a2), (3, .int a3), (4, .int a4), (5, .int x4)]) (sT := fun _ => []) (n := amFu) (x0 := 0) (fun K9 rec9 hrec9 hk9 x9 => ?_) (fun y10 => ?_)
  · unfold p_X3_comeBy_L75
    refine wg_iload (pc := 75) hX dX3_comeBy_75 6 rfl ?_
    refine wg_aload_n (pc := 77) hX dX3_comeBy_77 0 rfl ?_
    refine wu_ (wg_gI (pc := 78) hX fd_X3_300 dX3_comeBy_78 fun v11 => ?_)
    refine wg_icmp_ge (pc := 81) (tgt := 248) hX dX3_comeBy_81 (by decide) (fun h12 => ?_) (fun h12 => ?_)
    · refine wu_t h12 ?_
      refine wg_sub hX [0, 1, 2, 3, 4] rfl ?_
      exact wu_rt (hk9 ())
    refine wu_f h12 ?_
    refine wg_aload_n (pc := 84) hX dX3_comeBy_84 0 rfl ?_
    refine wg_gK (pc := 85) hX hM0 fd_X3_29 (by decide) dX3_comeBy_85 ?_
    refine wg_bipush (pc := 88) (v := 20) hX dX3_comeBy_88 rfl ?_
    refine wg_iload (pc := 90) hX dX3_comeBy_90 4 rfl ?_
    refine wg_imul (pc := 92) hX dX3_comeBy_92 ?_
    refine wg_aload_n (pc := 93) hX dX3_comeBy_93 0 rfl ?_
    refine wg_gK (pc := 94) hX hM0 fd_X3_9 (by decide) dX3_comeBy_94 ?_
    refine wg_iload (pc := 97) hX dX3_comeBy_97 6 rfl ?_
    refine wu_ (wg_rI (pc := 99) hX ar_55 dX3_comeBy_99 fun v13 => ?_)
    refine wg_iadd (pc := 100) hX dX3_comeBy_100 ?_
    refine wu_ (wg_rZ (pc := 101) hX ar_61 dX3_comeBy_101 fun v14 => ?_)
    refine wg_istore (pc := 102) (l' := [(0, .ref (rid 1 1)), (2, .int a2), (3, .int a3), (4, .int a4), (5, .int x4), (6, .int v8), (7, .int x9), (8, .int v14)]) hX dX3_comeBy_102 (by decide) rfl ?_
    refine wg_aload_n (pc := 104) hX dX3_comeBy_104 0 rfl ?_
    refine wg_gK (pc := 105) hX hM0 fd_X3_29 (by decide) dX3_comeBy_105 ?_
    refine wg_bipush (pc := 108) (v := 20) hX dX3_comeBy_108 rfl ?_
    refine wg_iload (pc := 110) hX dX3_comeBy_110 4 rfl ?_
    refine wg_imul (pc := 112) hX dX3_comeBy_112 ?_
    refine wg_aload_n (pc := 113) hX dX3_comeBy_113 0 rfl ?_
    refine wg_gK (pc := 114) hX hM0 fd_X3_13 (by decide) dX3_comeBy_114 ?_
    refine wg_iload (pc := 117) hX dX3_comeBy_117 6 rfl ?_
    refine wu_ (wg_rI (pc := 119) hX ar_56 dX3_comeBy_119 fun v15 => ?_)
    refine wg_iadd (pc := 120) hX dX3_comeBy_120 ?_
    refine wu_ (wg_rZ (pc := 121) hX ar_61 dX3_comeBy_121 fun v16 => ?_)
    refine wg_istore (pc := 122) (l' := [(0, .ref (rid 1 1)), (2, .int a2), (3, .int a3), (4, .int a4), (5, .int x4), (6, .int v8), (7, .int x9), (8, .int v14), (9, .int v16)]) hX dX3_comeBy_122 (by decide) rfl ?_
    refine wg_aload_n (pc := 124) hX dX3_comeBy_124 0 rfl ?_
    refine wg_gK (pc := 125) hX hM0 fd_X3_25 (by decide) dX3_comeBy_125 ?_
    refine wg_iload (pc := 128) hX dX3_comeBy_128 6 rfl ?_
    refine wu_ (wg_rZ (pc := 130) hX ar_60 dX3_comeBy_130 fun v17 => ?_)
    refine wu_jx (α := Unit) (pcJ := 242) (lJ := fun x => [(0, .ref (rid 1 1)), (2, .int a2), (3, .int a3), (4, .int a4), (5, .int x4), (6, .int v8), (7, .int x9)]) (sJ := fun x => []) (fun K18 hk18 => ?_) (fun z18 => ?_)
    · refine wg_if_ne (pc := 131) (tgt := 242) hX dX3_comeBy_131 (by decide) (fun h19 => ?_) (fun h19 => ?_)
      rotate_left
      · refine wu_f h19 ?_
        refine wg_sub hX [0, 1, 2, 3, 4, 5, 6] rfl ?_
        exact wu_rt (hk18 ())
      refine wu_t h19 ?_
      refine wg_iload (pc := 134) hX dX3_comeBy_134 7 rfl ?_
      refine wu_jn (α := Unit) (pcJ := 147) (lJ := fun x => [(0, .ref (rid 1 1)), (2, .int a2), (3, .int a3), (4, .int a4), (5, .int x4), (6, .int v8), (7, .int x9), (8, .int v14), (9, .int v16)]) (sJ := fun x => []) (fun k20 hk20 => ?_) (fun z20 => ?_)
      · refine wg_if_ne (pc := 136) (tgt := 147) hX dX3_comeBy_136 (by decide) (fun h21 => ?_) (fun h21 => ?_)
        rotate_left
        · refine wu_f h21 ?_
          exact hk20 ()
        refine wu_t h21 ?_
        refine wg_iload (pc := 139) hX dX3_comeBy_139 8 rfl ?_
        refine wg_if_ne (pc := 141) (tgt := 147) hX dX3_comeBy_141 (by decide) (fun h22 => ?_) (fun h22 => ?_)
        rotate_left
        · refine wu_f h22 ?_
          exact hk20 ()
        refine wu_t h22 ?_
        refine wg_goto (pc := 144) (tgt := 242) hX dX3_comeBy_144 (by decide) ?_
        refine wg_sub hX [0, 1, 2, 3, 4, 5, 6] rfl ?_
        exact wu_rt (hk18 ())
      refine wg_iload (pc := 147) hX dX3_comeBy_147 4 rfl ?_
      refine wg_aload_n (pc := 149) hX dX3_comeBy_149 0 rfl ?_
      refine wg_gK (pc := 150) hX hM0 fd_X3_16 (by decide) dX3_comeBy_150 ?_
      refine wg_iload (pc := 153) hX dX3_comeBy_153 6 rfl ?_
      refine wu_ (wg_rI (pc := 155) hX ar_57 dX3_comeBy_155 fun v23 => ?_)
      refine wg_aload_n (pc := 156) hX dX3_comeBy_156 0 rfl ?_
      refine wg_gK (pc := 157) hX hM0 fd_X3_19 (by decide) dX3_comeBy_157 ?_
      refine wg_iconst (pc := 160) (v := 4) hX dX3_comeBy_160 rfl ?_
      refine wg_iload (pc := 161) hX dX3_comeBy_161 6 rfl ?_
      refine wg_imul (pc := 163) hX dX3_comeBy_163 ?_
      refine wg_iload (pc := 164) hX dX3_comeBy_164 5 rfl ?_
      refine wg_iadd (pc := 166) hX dX3_comeBy_166 ?_
      refine wu_ (wg_rI (pc := 167) hX ar_58 dX3_comeBy_167 fun v24 => ?_)
      refine wg_imul (pc := 168) hX dX3_comeBy_168 ?_
      refine wg_iload (pc := 169) hX dX3_comeBy_169 3 rfl ?_
      refine wg_imul (pc := 171) hX dX3_comeBy_171 ?_
      refine wg_sipush (pc := 172) (v := 9999) hX dX3_comeBy_172 rfl ?_
      refine wg_iadd (pc := 175) hX dX3_comeBy_175 ?_
      refine wg_sipush (pc := 176) (v := 10000) hX dX3_comeBy_176 rfl ?_
      refine wg_idiv (pc := 179) hX dX3_comeBy_179 (by decide) ?_
      refine wg_iadd (pc := 180) hX dX3_comeBy_180 ?_
      refine wu_ (wg_nmi hX fun v25 => ?_)
      refine wg_istore (pc := 181) (l' := [(0, .ref (rid 1 1)), (2, .int a2), (3, .int a3), (4, .int a4), (5, .int x4), (6, .int v8), (7, .int x9), (8, .int v14), (9, .int v16), (10, .int v25)]) hX dX3_comeBy_181 (by decide) rfl ?_
      refine wg_iload (pc := 183) hX dX3_comeBy_183 9 rfl ?_
      refine wg_sipush (pc := 185) (v := 600) hX dX3_comeBy_185 rfl ?_
      refine wg_icmp_le (pc := 188) (tgt := 194) hX dX3_comeBy_188 (by decide) (fun h26 => ?_) (fun h26 => ?_)
      rotate_left
      · refine wu_f h26 ?_
        refine wg_goto (pc := 191) (tgt := 242) hX dX3_comeBy_191 (by decide) ?_
        refine wg_sub hX [0, 1, 2, 3, 4, 5, 6] rfl ?_
        exact wu_rt (hk18 ())
      refine wu_t h26 ?_
      refine wg_iload (pc := 194) hX dX3_comeBy_194 7 rfl ?_
      refine wu_jx (α := Unit) (pcJ := 218) (lJ := fun x => [(0, .ref (rid 1 1)), (2, .int a2), (3, .int a3), (4, .int a4), (5, .int x4), (6, .int v8), (7, .int x9), (9, .int v16), (10, .int v25)]) (sJ := fun x => []) (fun K27 hk27 => ?_) (fun z27 => ?_)
      · refine wg_if_eq (pc := 196) (tgt := 218) hX dX3_comeBy_196 (by decide) (fun h28 => ?_) (fun h28 => ?_)
        · refine wu_t h28 ?_
          refine wg_sub hX [0, 1, 2, 3, 4, 5, 6, 8, 9] rfl ?_
          exact wu_rt (hk27 ())
        refine wu_f h28 ?_
        refine wg_aload_n (pc := 199) hX dX3_comeBy_199 0 rfl ?_
        refine wg_gK (pc := 200) hX hM0 fd_X3_29 (by decide) dX3_comeBy_200 ?_
        refine wg_bipush (pc := 203) (v := 20) hX dX3_comeBy_203 rfl ?_
        refine wg_iload (pc := 205) hX dX3_comeBy_205 9 rfl ?_
        refine wg_imul (pc := 207) hX dX3_comeBy_207 ?_
        refine wg_aload_n (pc := 208) hX dX3_comeBy_208 0 rfl ?_
        refine wg_gK (pc := 209) hX hM0 fd_X3_13 (by decide) dX3_comeBy_209 ?_
        refine wg_iload (pc := 212) hX dX3_comeBy_212 6 rfl ?_
        refine wu_ (wg_rI (pc := 214) hX ar_56 dX3_comeBy_214 fun v29 => ?_)
        refine wg_iadd (pc := 215) hX dX3_comeBy_215 ?_
        refine wg_iconst (pc := 216) (v := 1) hX dX3_comeBy_216 rfl ?_
        refine wu_ (wg_wZ (pc := 217) hX ar_61 (by decide) dX3_comeBy_217 ?_)
        refine wg_sub hX [0, 1, 2, 3, 4, 5, 6, 8, 9] rfl ?_
        exact wu_rt (hk27 ())
      refine wg_iload (pc := 218) hX dX3_comeBy_218 7 rfl ?_
      refine wg_if_eq (pc := 220) (tgt := 242) hX dX3_comeBy_220 (by decide) (fun h30 => ?_) (fun h30 => ?_)
      · refine wu_t h30 ?_
        refine wg_sub hX [0, 1, 2, 3, 4, 5, 6] rfl ?_
        exact wu_rt (hk18 ())
      refine wu_f h30 ?_
      refine wg_aload_n (pc := 223) hX dX3_comeBy_223 0 rfl ?_
      refine wg_gK (pc := 224) hX hM0 fd_X3_29 (by decide) dX3_comeBy_224 ?_
      refine wg_bipush (pc := 227) (v := 20) hX dX3_comeBy_227 rfl ?_
      refine wg_iload (pc := 229) hX dX3_comeBy_229 8 rfl ?_
      refine wg_imul (pc := 231) hX dX3_comeBy_231 ?_
      refine wg_aload_n (pc := 232) hX dX3_comeBy_232 0 rfl ?_
      refine wg_gK (pc := 233) hX hM0 fd_X3_9 (by decide) dX3_comeBy_233 ?_
      refine wg_iload (pc := 236) hX dX3_comeBy_236 6 rfl ?_
      refine wu_ (wg_rI (pc := 238) hX ar_55 dX3_comeBy_238 fun v31 => ?_)
      refine wg_iadd (pc := 239) hX dX3_comeBy_239 ?_
      refine wg_iconst (pc := 240) (v := 1) hX dX3_comeBy_240 rfl ?_
      refine wu_ (wg_wZ (pc := 241) hX ar_61 (by decide) dX3_comeBy_241 ?_)
      refine wg_sub hX [0, 1, 2, 3, 4, 5, 6] rfl ?_
      exact wu_rt (hk18 ())
    refine wg_iinc (pc := 242) (v := (x9 + 1)) (l' := [(0, .ref (rid 1 1)), (2, .int a2), (3, .int a3), (4, .int a4), (5, .int x4), (6, .int v8), (7, .int (x9 + 1))]) hX dX3_comeBy_242 6 rfl rfl (by decide) rfl ?_
    refine wg_goto (pc := 245) (tgt := 75) hX dX3_comeBy_245 (by decide) ?_
    exact hrec9 (x9 + 1)
  refine wg_iinc (pc := 248) (v := (x4 + 1)) (l' := [(0, .ref (rid 1 1)), (2, .int a2), (3, .int a3), (4, .int a4), (5, .int (x4 + 1))]) hX dX3_comeBy_248 4 rfl rfl (by decide) rfl ?_
  refine wg_goto (pc := 251) (tgt := 35) hX dX3_comeBy_251 (by decide) ?_
  exact hrec4 (x4 + 1)
theorem m_X3_come (a1 : Int32) (a2 : Int32) (a3 : Int32) (a4 : Int32) : amMet yX3_come cX3_come 5 (some .int) 3 82 encI [.ref (rid 1 1), .int a1, .int a2, .int a3, .int a4] (up (p_X3_come a1 a2 a3 a4)) := by
  refine amMet.of (own := RX3) (by decide) rfl (Nat.le_of_ble_eq_true rfl) fun X hX hPs => ?_
  change WG X encI 0 [(0, .ref (rid 1 1)), (1, .int a1), (2, .int a2), (3, .int a3), (4, .int a4)] [] (bd1 (up (p_X3_come a1 a2 a3 a4)) rt1)
  unfold p_X3_come
  refine wg_aload_n (pc := 0) hX dX3_come_0 0 rfl ?_
  refine wg_iconst (pc := 1) (v := 0) hX dX3_come_1 rfl ?_
  refine wu_ (wg_pI (pc := 2) hX fp_X3_297 (fun h => by cases h) dX3_come_2 ?_)
  refine wg_iload_n (pc := 5) hX dX3_come_5 1 rfl ?_
  refine wu_ (wg_cSi (pc := 6) (As := [.int a1]) (rest := []) hX (m_X3_isCorner a1) (lw_S q2314 q2315 q163 q2316) hd_X3_isCorner rfl (Nat.le_of_ble_eq_true rfl) (Nat.le_of_ble_eq_true rfl) (Nat.le_of_ble_eq_true rfl) rfl dX3_come_6 fun v1 => ?_)
  refine wu_jn (α := Unit) (pcJ := 55) (lJ := fun x => []) (sJ := fun x => []) (fun k2 hk2 => ?_) (fun z2 => ?_)
  · refine wg_if_eq (pc := 9) (tgt := 55) hX dX3_come_9 (by decide) (fun h3 => ?_) (fun h3 => ?_)
    · refine wu_t h3 ?_
      refine wg_sub hX [] rfl ?_
      exact hk2 ()
    refine wu_f h3 ?_
    refine wg_iload_n (pc := 12) hX dX3_come_12 2 rfl ?_
    refine wu_ (wg_cSi (pc := 13) (As := [.int a2]) (rest := []) hX (m_X3_isCorner a2) (lw_S q2314 q2315 q163 q2316) hd_X3_isCorner rfl (Nat.le_of_ble_eq_true rfl) (Nat.le_of_ble_eq_true rfl) (Nat.le_of_ble_eq_true rfl) rfl dX3_come_13 fun v4 => ?_)
    refine wg_if_eq (pc := 16) (tgt := 55) hX dX3_come_16 (by decide) (fun h5 => ?_) (fun h5 => ?_)
    · refine wu_t h5 ?_
      refine wg_sub hX [] rfl ?_
      exact hk2 ()
    refine wu_f h5 ?_
    refine wg_iload_n (pc := 19) hX dX3_come_19 3 rfl ?_
    refine wg_iconst (pc := 20) (v := 0) hX dX3_come_20 rfl ?_
    refine wg_sipush (pc := 21) (v := 30000) hX dX3_come_21 rfl ?_
    refine wu_ (wg_cSi (pc := 24) (As := [.int a3, .int 0, .int 30000]) (rest := []) hX (m_X3_isIn a3 0 30000) (lw_S q2317 q2318 q163 q2319) hd_X3_isIn rfl (Nat.le_of_ble_eq_true rfl) (Nat.le_of_ble_eq_true rfl) (Nat.le_of_ble_eq_true rfl) rfl dX3_come_24 fun v6 => ?_)
    refine wg_if_eq (pc := 27) (tgt := 55) hX dX3_come_27 (by decide) (fun h7 => ?_) (fun h7 => ?_)
    · refine wu_t h7 ?_
      refine wg_sub hX [] rfl ?_
      exact hk2 ()
    refine wu_f h7 ?_
    refine wg_iload (pc := 30) hX dX3_come_30 4 rfl ?_
    refine wg_bipush (pc := 32) (v := 50) hX dX3_come_32 rfl ?_
    refine wg_sipush (pc := 34) (v := 300) hX dX3_come_34 rfl ?_
    refine wu_ (wg_cSi (pc := 37) (As := [.int a4, .int 50, .int 300]) (rest := []) hX (m_X3_isIn a4 50 300) (lw_S q2317 q2318 q163 q2319) hd_X3_isIn rfl (Nat.le_of_ble_eq_true rfl) (Nat.le_of_ble_eq_true rfl) (Nat.le_of_ble_eq_true rfl) rfl dX3_come_37 fun v8 => ?_)
    refine wg_if_eq (pc := 40) (tgt := 55) hX dX3_come_40 (by decide) (fun h9 => ?_) (fun h9 => ?_)
    · refine wu_t h9 ?_
      refine wg_sub hX [] rfl ?_
      exact hk2 ()
    refine wu_f h9 ?_
    refine wg_aload_n (pc := 43) hX dX3_come_43 0 rfl ?_
    refine wg_iload_n (pc := 44) hX dX3_come_44 1 rfl ?_
    refine wg_iload_n (pc := 45) hX dX3_come_45 2 rfl ?_
    refine wg_iload_n (pc := 46) hX dX3_come_46 3 rfl ?_
    refine wg_iload (pc := 47) hX dX3_come_47 4 rfl ?_
    refine wu_ (wg_cVi (pc := 49) (As := [.int a1, .int a2, .int a3, .int a4]) (rest := []) hX (m_X3_comeBy a1 a2 a3 a4) (by decide) (by decide) (by decide) rc_X3 (lw_V q2337 q2339 qs88 q163 q2340) hd_X3_comeBy rfl (Nat.le_of_ble_eq_true rfl) (Nat.le_of_ble_eq_true rfl) (Nat.le_of_ble_eq_true rfl) rfl dX3_come_49 fun v10 => ?_)
    refine wg_goto (pc := 52) (tgt := 56) hX dX3_come_52 (by decide) ?_
    exact wu_rt (wg_iret (pc := 56) hX rfl rfl dX3_come_56)
  refine wg_iconst (pc := 55) (v := (-1)) hX dX3_come_55 rfl ?_
  exact wu_rt (wg_iret (pc := 56) hX rfl rfl dX3_come_56)
theorem m_X3_walkOf (a1 : Int32) (a2 : Int32) : amMet yX3_walkOf cX3_walkOf 3 (some .int) 1 32 encI [.ref (rid 1 1), .int a1, .int a2] (up (p_X3_walkOf a1 a2)) := by
  refine amMet.of (own := RX3) (by decide) rfl (Nat.le_of_ble_eq_true rfl) fun X hX hPs => ?_
  change WG X encI 0 [(0, .ref (rid 1 1)), (1, .int a1), (2, .int a2)] [] (bd1 (up (p_X3_walkOf a1 a2)) rt1)
  unfold p_X3_walkOf
  have hM0 := amPs.m0 hPs
  refine wu_ (wg_gM ?_)
  refine wg_aload_n (pc := 0) hX dX3_walkOf_0 0 rfl ?_
  refine wg_gK (pc := 1) hX hM0 fd_X3_22 (by decide) dX3_walkOf_1 ?_
  refine wg_bipush (pc := 4) (v := 20) hX dX3_walkOf_4 rfl ?_
  refine wg_iload_n (pc := 6) hX dX3_walkOf_6 1 rfl ?_
  refine wg_imul (pc := 7) hX dX3_walkOf_7 ?_
  refine wg_iload_n (pc := 8) hX dX3_walkOf_8 2 rfl ?_
  refine wg_iadd (pc := 9) hX dX3_walkOf_9 ?_
  refine wu_ (wg_rI (pc := 10) hX ar_59 dX3_walkOf_10 fun v1 => ?_)
  exact wu_rt (wg_iret (pc := 11) hX rfl rfl dX3_walkOf_11)
theorem m_X3_feet (a1 : Int32) (a2 : Int32) : amMet yX3_feet cX3_feet 3 (some .int) 2 54 encI [.ref (rid 1 1), .int a1, .int a2] (up (p_X3_feet a1 a2)) := by
  refine amMet.of (own := RX3) (by decide) rfl (Nat.le_of_ble_eq_true rfl) fun X hX hPs => ?_
  change WG X encI 0 [(0, .ref (rid 1 1)), (1, .int a1), (2, .int a2)] [] (bd1 (up (p_X3_feet a1 a2)) rt1)
  unfold p_X3_feet
  refine wg_aload_n (pc := 0) hX dX3_feet_0 0 rfl ?_
  refine wg_iconst (pc := 1) (v := 0) hX dX3_feet_1 rfl ?_
  refine wu_ (wg_pI (pc := 2) hX fp_X3_297 (fun h => by cases h) dX3_feet_2 ?_)
  refine wg_iload_n (pc := 5) hX dX3_feet_5 1 rfl ?_
  refine wu_ (wg_cSi (pc := 6) (As := [.int a1]) (rest := []) hX (m_X3_isCorner a1) (lw_S q2314 q2315 q163 q2316) hd_X3_isCorner rfl (Nat.le_of_ble_eq_true rfl) (Nat.le_of_ble_eq_true rfl) (Nat.le_of_ble_eq_true rfl) rfl dX3_feet_6 fun v1 => ?_)
  refine wu_jn (α := Unit) (pcJ := 43) (lJ := fun x => []) (sJ := fun x => []) (fun k2 hk2 => ?_) (fun z2 => ?_)
  · refine wg_if_eq (pc := 9) (tgt := 43) hX dX3_feet_9 (by decide) (fun h3 => ?_) (fun h3 => ?_)
    · refine wu_t h3 ?_
      refine wg_sub hX [] rfl ?_
      exact hk2 ()
    refine wu_f h3 ?_
    refine wg_iload_n (pc := 12) hX dX3_feet_12 2 rfl ?_
    refine wu_ (wg_cSi (pc := 13) (As := [.int a2]) (rest := []) hX (m_X3_isCorner a2) (lw_S q2314 q2315 q163 q2316) hd_X3_isCorner rfl (Nat.le_of_ble_eq_true rfl) (Nat.le_of_ble_eq_true rfl) (Nat.le_of_ble_eq_true rfl) rfl dX3_feet_13 fun v4 => ?_)
    refine wg_if_eq (pc := 16) (tgt := 43) hX dX3_feet_16 (by decide) (fun h5 => ?_) (fun h5 => ?_)
    · refine wu_t h5 ?_
      refine wg_sub hX [] rfl ?_
      exact hk2 ()
    refine wu_f h5 ?_
    refine wg_aload_n (pc := 19) hX dX3_feet_19 0 rfl ?_
    refine wg_iload_n (pc := 20) hX dX3_feet_20 1 rfl ?_
    refine wg_iload_n (pc := 21) hX dX3_feet_21 2 rfl ?_
    refine wu_ (wg_cVi (pc := 22) (As := [.int a1, .int a2]) (rest := []) hX (m_X3_walkOf a1 a2) (by decide) (by decide) (by decide) rc_X3 (lw_V q2348 q2350 qs89 q163 q2351) hd_X3_walkOf rfl (Nat.le_of_ble_eq_true rfl) (Nat.le_of_ble_eq_true rfl) (Nat.le_of_ble_eq_true rfl) rfl dX3_feet_22 fun v6 => ?_)
    refine wg_ldcw (pc := 25) hX dX3_feet_25 q1940 ?_
    refine wg_icmp_ge (pc := 28) (tgt := 43) hX dX3_feet_28 (by decide) (fun h7 => ?_) (fun h7 => ?_)
    · refine wu_t h7 ?_
      refine wg_sub hX [] rfl ?_
      exact hk2 ()
    refine wu_f h7 ?_
    refine wg_bipush (pc := 31) (v := 100) hX dX3_feet_31 rfl ?_
    refine wg_aload_n (pc := 33) hX dX3_feet_33 0 rfl ?_
    refine wg_iload_n (pc := 34) hX dX3_feet_34 1 rfl ?_
    refine wg_iload_n (pc := 35) hX dX3_feet_35 2 rfl ?_
    refine wu_ (wg_cVi (pc := 36) (As := [.int a1, .int a2]) (rest := [.int 100]) hX (m_X3_walkOf a1 a2) (by decide) (by decide) (by decide) rc_X3 (lw_V q2348 q2350 qs89 q163 q2351) hd_X3_walkOf rfl (Nat.le_of_ble_eq_true rfl) (Nat.le_of_ble_eq_true rfl) (Nat.le_of_ble_eq_true rfl) rfl dX3_feet_36 fun v8 => ?_)
    refine wg_imul (pc := 39) hX dX3_feet_39 ?_
    refine wg_goto (pc := 40) (tgt := 44) hX dX3_feet_40 (by decide) ?_
    exact wu_rt (wg_iret (pc := 44) hX rfl rfl dX3_feet_44)
  refine wg_iconst (pc := 43) (v := (-1)) hX dX3_feet_43 rfl ?_
  exact wu_rt (wg_iret (pc := 44) hX rfl rfl dX3_feet_44)
theorem m_X3_house (a1 : Int32) (a2 : Int32) (a3 : Int32) (a4 : Int32) (a5 : Int32) : amMet yX3_house cX3_house 6 (some .int) 2 54 encI [.ref (rid 1 1), .int a1, .int a2, .int a3, .int a4, .int a5] (up (p_X3_house a1 a2 a3 a4 a5)) := by
  refine amMet.of (own := RX3) (by decide) rfl (Nat.le_of_ble_eq_true rfl) fun X hX hPs => ?_
  change WG X encI 0 [(0, .ref (rid 1 1)), (1, .int a1), (2, .int a2), (3, .int a3), (4, .int a4), (5, .int a5)] [] (bd1 (up (p_X3_house a1 a2 a3 a4 a5)) rt1)
  unfold p_X3_house
  have hM0 := amPs.m0 hPs
  refine wu_ (wg_gM ?_)
  refine wg_aload_n (pc := 0) hX dX3_house_0 0 rfl ?_
  refine wg_iconst (pc := 1) (v := 0) hX dX3_house_1 rfl ?_
  refine wu_ (wg_pI (pc := 2) hX fp_X3_297 (fun h => by cases h) dX3_house_2 ?_)
  refine wg_aload_n (pc := 5) hX dX3_house_5 0 rfl ?_
  refine wu_ (wg_gI (pc := 6) hX fd_X3_331 dX3_house_6 fun v1 => ?_)
  refine wg_bipush (pc := 9) (v := 12) hX dX3_house_9 rfl ?_
  refine wg_icmp_eq (pc := 11) (tgt := 63) hX dX3_house_11 (by decide) (fun h2 => ?_) (fun h2 => ?_)
  · refine wu_t h2 ?_
    refine wg_iconst (pc := 63) (v := (-1)) hX dX3_house_63 rfl ?_
    exact wu_rt (wg_iret (pc := 64) hX rfl rfl dX3_house_64)
  refine wu_f h2 ?_
  refine wg_iload_n (pc := 14) hX dX3_house_14 1 rfl ?_
  refine wu_ (wg_cSi (pc := 15) (As := [.int a1]) (rest := []) hX (m_X3_isCorner a1) (lw_S q2314 q2315 q163 q2316) hd_X3_isCorner rfl (Nat.le_of_ble_eq_true rfl) (Nat.le_of_ble_eq_true rfl) (Nat.le_of_ble_eq_true rfl) rfl dX3_house_15 fun v3 => ?_)
  refine wg_if_eq (pc := 18) (tgt := 63) hX dX3_house_18 (by decide) (fun h4 => ?_) (fun h4 => ?_)
  · refine wu_t h4 ?_
    refine wg_iconst (pc := 63) (v := (-1)) hX dX3_house_63 rfl ?_
    exact wu_rt (wg_iret (pc := 64) hX rfl rfl dX3_house_64)
  refine wu_f h4 ?_
  refine wg_iload_n (pc := 21) hX dX3_house_21 2 rfl ?_
  refine wg_iconst (pc := 22) (v := 0) hX dX3_house_22 rfl ?_
  refine wg_iconst (pc := 23) (v := 2) hX dX3_house_23 rfl ?_
  refine wu_ (wg_cSi (pc := 24) (As := [.int a2, .int 0, .int 2]) (rest := []) hX (m_X3_isIn a2 0 2) (lw_S q2317 q2318 q163 q2319) hd_X3_isIn rfl (Nat.le_of_ble_eq_true rfl) (Nat.le_of_ble_eq_true rfl) (Nat.le_of_ble_eq_true rfl) rfl dX3_house_24 fun v5 => ?_)
  refine wg_if_eq (pc := 27) (tgt := 63) hX dX3_house_27 (by decide) (fun h6 => ?_) (fun h6 => ?_)
  · refine wu_t h6 ?_
    refine wg_iconst (pc := 63) (v := (-1)) hX dX3_house_63 rfl ?_
    exact wu_rt (wg_iret (pc := 64) hX rfl rfl dX3_house_64)
  refine wu_f h6 ?_
  refine wg_iload_n (pc := 30) hX dX3_house_30 3 rfl ?_
  refine wg_iconst (pc := 31) (v := 1) hX dX3_house_31 rfl ?_
  refine wg_bipush (pc := 32) (v := 6) hX dX3_house_32 rfl ?_
  refine wu_ (wg_cSi (pc := 34) (As := [.int a3, .int 1, .int 6]) (rest := []) hX (m_X3_isIn a3 1 6) (lw_S q2317 q2318 q163 q2319) hd_X3_isIn rfl (Nat.le_of_ble_eq_true rfl) (Nat.le_of_ble_eq_true rfl) (Nat.le_of_ble_eq_true rfl) rfl dX3_house_34 fun v7 => ?_)
  refine wg_if_eq (pc := 37) (tgt := 63) hX dX3_house_37 (by decide) (fun h8 => ?_) (fun h8 => ?_)
  · refine wu_t h8 ?_
    refine wg_iconst (pc := 63) (v := (-1)) hX dX3_house_63 rfl ?_
    exact wu_rt (wg_iret (pc := 64) hX rfl rfl dX3_house_64)
  refine wu_f h8 ?_
  refine wg_iload (pc := 40) hX dX3_house_40 4 rfl ?_
  refine wg_iconst (pc := 42) (v := 1) hX dX3_house_42 rfl ?_
  refine wg_iconst (pc := 43) (v := 4) hX dX3_house_43 rfl ?_
  refine wu_ (wg_cSi (pc := 44) (As := [.int a4, .int 1, .int 4]) (rest := []) hX (m_X3_isIn a4 1 4) (lw_S q2317 q2318 q163 q2319) hd_X3_isIn rfl (Nat.le_of_ble_eq_true rfl) (Nat.le_of_ble_eq_true rfl) (Nat.le_of_ble_eq_true rfl) rfl dX3_house_44 fun v9 => ?_)
  refine wg_if_eq (pc := 47) (tgt := 63) hX dX3_house_47 (by decide) (fun h10 => ?_) (fun h10 => ?_)
  · refine wu_t h10 ?_
    refine wg_iconst (pc := 63) (v := (-1)) hX dX3_house_63 rfl ?_
    exact wu_rt (wg_iret (pc := 64) hX rfl rfl dX3_house_64)
  refine wu_f h10 ?_
  refine wg_iload (pc := 50) hX dX3_house_50 5 rfl ?_
  refine wg_iconst (pc := 52) (v := (-1)) hX dX3_house_52 rfl ?_
  refine wg_iload (pc := 53) hX dX3_house_53 4 rfl ?_
  refine wg_iconst (pc := 55) (v := 1) hX dX3_house_55 rfl ?_
  refine wg_isub (pc := 56) hX dX3_house_56 ?_
  refine wu_ (wg_cSi (pc := 57) (As := [.int a5, .int (-1), .int (a4 - 1)]) (rest := []) hX (m_X3_isIn a5 (-1) (a4 - 1)) (lw_S q2317 q2318 q163 q2319) hd_X3_isIn rfl (Nat.le_of_ble_eq_true rfl) (Nat.le_of_ble_eq_true rfl) (Nat.le_of_ble_eq_true rfl) rfl dX3_house_57 fun v11 => ?_)
  refine wg_if_ne (pc := 60) (tgt := 65) hX dX3_house_60 (by decide) (fun h12 => ?_) (fun h12 => ?_)
  · refine wu_t h12 ?_
    refine wg_iconst (pc := 63) (v := (-1)) hX dX3_house_63 rfl ?_
    exact wu_rt (wg_iret (pc := 64) hX rfl rfl dX3_house_64)
  refine wu_f h12 ?_
  refine wg_aload_n (pc := 65) hX dX3_house_65 0 rfl ?_
  refine wg_gK (pc := 66) hX hM0 fd_X3_32 (by decide) dX3_house_66 ?_
  refine wg_aload_n (pc := 69) hX dX3_house_69 0 rfl ?_
  refine wu_ (wg_gI (pc := 70) hX fd_X3_331 dX3_house_70 fun v13 => ?_)
  refine wg_iload_n (pc := 73) hX dX3_house_73 1 rfl ?_
  refine wu_ (wg_wI (pc := 74) hX ar_62 dX3_house_74 ?_)
  refine wg_aload_n (pc := 75) hX dX3_house_75 0 rfl ?_
  refine wg_gK (pc := 76) hX hM0 fd_X3_35 (by decide) dX3_house_76 ?_
  refine wg_aload_n (pc := 79) hX dX3_house_79 0 rfl ?_
  refine wu_ (wg_gI (pc := 80) hX fd_X3_331 dX3_house_80 fun v14 => ?_)
  refine wg_iload_n (pc := 83) hX dX3_house_83 2 rfl ?_
  refine wu_ (wg_wI (pc := 84) hX ar_63 dX3_house_84 ?_)
  refine wg_aload_n (pc := 85) hX dX3_house_85 0 rfl ?_
  refine wg_gK (pc := 86) hX hM0 fd_X3_38 (by decide) dX3_house_86 ?_
  refine wg_aload_n (pc := 89) hX dX3_house_89 0 rfl ?_
  refine wu_ (wg_gI (pc := 90) hX fd_X3_331 dX3_house_90 fun v15 => ?_)
  refine wg_iload_n (pc := 93) hX dX3_house_93 3 rfl ?_
  refine wu_ (wg_wI (pc := 94) hX ar_64 dX3_house_94 ?_)
  refine wg_aload_n (pc := 95) hX dX3_house_95 0 rfl ?_
  refine wg_gK (pc := 96) hX hM0 fd_X3_41 (by decide) dX3_house_96 ?_
  refine wg_aload_n (pc := 99) hX dX3_house_99 0 rfl ?_
  refine wu_ (wg_gI (pc := 100) hX fd_X3_331 dX3_house_100 fun v16 => ?_)
  refine wg_iload (pc := 103) hX dX3_house_103 4 rfl ?_
  refine wu_ (wg_wI (pc := 105) hX ar_65 dX3_house_105 ?_)
  refine wg_aload_n (pc := 106) hX dX3_house_106 0 rfl ?_
  refine wg_gK (pc := 107) hX hM0 fd_X3_44 (by decide) dX3_house_107 ?_
  refine wg_aload_n (pc := 110) hX dX3_house_110 0 rfl ?_
  refine wu_ (wg_gI (pc := 111) hX fd_X3_331 dX3_house_111 fun v17 => ?_)
  refine wg_iload (pc := 114) hX dX3_house_114 5 rfl ?_
  refine wu_ (wg_wI (pc := 116) hX ar_66 dX3_house_116 ?_)
  refine wg_aload_n (pc := 117) hX dX3_house_117 0 rfl ?_
  refine wg_gK (pc := 118) hX hM0 fd_X3_50 (by decide) dX3_house_118 ?_
  refine wg_aload_n (pc := 121) hX dX3_house_121 0 rfl ?_
  refine wu_ (wg_gI (pc := 122) hX fd_X3_331 dX3_house_122 fun v18 => ?_)
  refine wg_iconst (pc := 125) (v := 1) hX dX3_house_125 rfl ?_
  refine wu_ (wg_wI (pc := 126) hX ar_68 dX3_house_126 ?_)
  refine wg_aload_n (pc := 127) hX dX3_house_127 0 rfl ?_
  refine wg_dup (pc := 128) hX dX3_house_128 rfl ?_
  refine wu_ (wg_gI (pc := 129) hX fd_X3_331 dX3_house_129 fun v19 => ?_)
  refine wg_iconst (pc := 132) (v := 1) hX dX3_house_132 rfl ?_
  refine wg_iadd (pc := 133) hX dX3_house_133 ?_
  refine wu_ (wg_pI (pc := 134) hX fp_X3_331 (fun h => by cases h) dX3_house_134 ?_)
  refine wg_aload_n (pc := 137) hX dX3_house_137 0 rfl ?_
  refine wu_ (wg_gI (pc := 138) hX fd_X3_331 dX3_house_138 fun v20 => ?_)
  refine wg_iconst (pc := 141) (v := 1) hX dX3_house_141 rfl ?_
  refine wg_isub (pc := 142) hX dX3_house_142 ?_
  exact wu_rt (wg_iret (pc := 143) hX rfl rfl dX3_house_143)
theorem m_X3_isHouse (a1 : Int32) : amMet yX3_isHouse cX3_isHouse 2 (some .boolean) 1 32 encI [.ref (rid 1 1), .int a1] (up (p_X3_isHouse a1)) := by
  refine amMet.of (own := RX3) (by decide) rfl (Nat.le_of_ble_eq_true rfl) fun X hX hPs => ?_
  change WG X encI 0 [(0, .ref (rid 1 1)), (1, .int a1)] [] (bd1 (up (p_X3_isHouse a1)) rt1)
  unfold p_X3_isHouse
  refine wg_iload_n (pc := 0) hX dX3_isHouse_0 1 rfl ?_
  refine wu_jn (α := Unit) (pcJ := 16) (lJ := fun x => []) (sJ := fun x => []) (fun k1 hk1 => ?_) (fun z1 => ?_)
  · refine wg_if_lt (pc := 1) (tgt := 16) hX dX3_isHouse_1 (by decide) (fun h2 => ?_) (fun h2 => ?_)
    · refine wu_t h2 ?_
      refine wg_sub hX [] rfl ?_
      exact hk1 ()
    refine wu_f h2 ?_
    refine wg_iload_n (pc := 4) hX dX3_isHouse_4 1 rfl ?_
    refine wg_aload_n (pc := 5) hX dX3_isHouse_5 0 rfl ?_
    refine wu_ (wg_gI (pc := 6) hX fd_X3_331 dX3_isHouse_6 fun v3 => ?_)
    refine wg_icmp_ge (pc := 9) (tgt := 16) hX dX3_isHouse_9 (by decide) (fun h4 => ?_) (fun h4 => ?_)
    · refine wu_t h4 ?_
      refine wg_sub hX [] rfl ?_
      exact hk1 ()
    refine wu_f h4 ?_
    refine wg_iconst (pc := 12) (v := 1) hX dX3_isHouse_12 rfl ?_
    refine wg_goto (pc := 13) (tgt := 17) hX dX3_isHouse_13 (by decide) ?_
    exact wu_rt (wg_zret (pc := 17) hX rfl (by decide) rfl dX3_isHouse_17)
  refine wg_iconst (pc := 16) (v := 0) hX dX3_isHouse_16 rfl ?_
  exact wu_rt (wg_zret (pc := 17) hX rfl (by decide) rfl dX3_isHouse_17)
theorem m_X3_build (a1 : Int32) (a2 : Int32) (a3 : Int32) (a4 : Int32) : amMet yX3_build cX3_build 5 (some .boolean) 2 54 encI [.ref (rid 1 1), .int a1, .int a2, .int a3, .int a4] (up (p_X3_build a1 a2 a3 a4)) := by
  refine amMet.of (own := RX3) (by decide) rfl (Nat.le_of_ble_eq_true rfl) fun X hX hPs => ?_
  change WG X encI 0 [(0, .ref (rid 1 1)), (1, .int a1), (2, .int a2), (3, .int a3), (4, .int a4)] [] (bd1 (up (p_X3_build a1 a2 a3 a4)) rt1)
  unfold p_X3_build
  have hM0 := amPs.m0 hPs
  refine wu_ (wg_gM ?_)
  refine wg_aload_n (pc := 0) hX dX3_build_0 0 rfl ?_
  refine wg_iconst (pc := 1) (v := 0) hX dX3_build_1 rfl ?_
  refine wu_ (wg_pI (pc := 2) hX fp_X3_297 (fun h => by cases h) dX3_build_2 ?_)
  refine wg_aload_n (pc := 5) hX dX3_build_5 0 rfl ?_
  refine wg_iload_n (pc := 6) hX dX3_build_6 1 rfl ?_
  refine wu_ (wg_cVi (pc := 7) (As := [.int a1]) (rest := []) hX (m_X3_isHouse a1) (by decide) (by decide) (by decide) rc_X3 (lw_V q2360 q2362 qs90 q163 q2363) hd_X3_isHouse rfl (Nat.le_of_ble_eq_true rfl) (Nat.le_of_ble_eq_true rfl) (Nat.le_of_ble_eq_true rfl) rfl dX3_build_7 fun v1 => ?_)
  refine wg_if_eq (pc := 10) (tgt := 34) hX dX3_build_10 (by decide) (fun h2 => ?_) (fun h2 => ?_)
  · refine wu_t h2 ?_
    refine wg_iconst (pc := 34) (v := 0) hX dX3_build_34 rfl ?_
    exact wu_rt (wg_zret (pc := 35) hX rfl (by decide) rfl dX3_build_35)
  refine wu_f h2 ?_
  refine wg_iload_n (pc := 13) hX dX3_build_13 3 rfl ?_
  refine wg_iconst (pc := 14) (v := 0) hX dX3_build_14 rfl ?_
  refine wg_iconst (pc := 15) (v := 3) hX dX3_build_15 rfl ?_
  refine wu_ (wg_cSi (pc := 16) (As := [.int a3, .int 0, .int 3]) (rest := []) hX (m_X3_isIn a3 0 3) (lw_S q2317 q2318 q163 q2319) hd_X3_isIn rfl (Nat.le_of_ble_eq_true rfl) (Nat.le_of_ble_eq_true rfl) (Nat.le_of_ble_eq_true rfl) rfl dX3_build_16 fun v3 => ?_)
  refine wg_if_eq (pc := 19) (tgt := 34) hX dX3_build_19 (by decide) (fun h4 => ?_) (fun h4 => ?_)
  · refine wu_t h4 ?_
    refine wg_iconst (pc := 34) (v := 0) hX dX3_build_34 rfl ?_
    exact wu_rt (wg_zret (pc := 35) hX rfl (by decide) rfl dX3_build_35)
  refine wu_f h4 ?_
  refine wg_iload (pc := 22) hX dX3_build_22 4 rfl ?_
  refine wg_iconst (pc := 24) (v := 1) hX dX3_build_24 rfl ?_
  refine wg_sipush (pc := 25) (v := 200) hX dX3_build_25 rfl ?_
  refine wu_ (wg_cSi (pc := 28) (As := [.int a4, .int 1, .int 200]) (rest := []) hX (m_X3_isIn a4 1 200) (lw_S q2317 q2318 q163 q2319) hd_X3_isIn rfl (Nat.le_of_ble_eq_true rfl) (Nat.le_of_ble_eq_true rfl) (Nat.le_of_ble_eq_true rfl) rfl dX3_build_28 fun v5 => ?_)
  refine wg_if_ne (pc := 31) (tgt := 36) hX dX3_build_31 (by decide) (fun h6 => ?_) (fun h6 => ?_)
  · refine wu_t h6 ?_
    refine wg_iconst (pc := 34) (v := 0) hX dX3_build_34 rfl ?_
    exact wu_rt (wg_zret (pc := 35) hX rfl (by decide) rfl dX3_build_35)
  refine wu_f h6 ?_
  refine wg_aload_n (pc := 36) hX dX3_build_36 0 rfl ?_
  refine wg_gK (pc := 37) hX hM0 fd_X3_65 (by decide) dX3_build_37 ?_
  refine wg_iload_n (pc := 40) hX dX3_build_40 1 rfl ?_
  refine wg_iload_n (pc := 41) hX dX3_build_41 2 rfl ?_
  refine wu_ (wg_gd fun h7 => ?_)
  refine wu_ (wg_wZ (pc := 42) hX ar_73 h7 dX3_build_42 ?_)
  refine wg_aload_n (pc := 43) hX dX3_build_43 0 rfl ?_
  refine wg_gK (pc := 44) hX hM0 fd_X3_47 (by decide) dX3_build_44 ?_
  refine wg_iload_n (pc := 47) hX dX3_build_47 1 rfl ?_
  refine wg_iload_n (pc := 48) hX dX3_build_48 3 rfl ?_
  refine wu_ (wg_wI (pc := 49) hX ar_67 dX3_build_49 ?_)
  refine wg_aload_n (pc := 50) hX dX3_build_50 0 rfl ?_
  refine wg_gK (pc := 51) hX hM0 fd_X3_50 (by decide) dX3_build_51 ?_
  refine wg_iload_n (pc := 54) hX dX3_build_54 1 rfl ?_
  refine wg_iload (pc := 55) hX dX3_build_55 4 rfl ?_
  refine wu_ (wg_wI (pc := 57) hX ar_68 dX3_build_57 ?_)
  refine wg_iconst (pc := 58) (v := 1) hX dX3_build_58 rfl ?_
  exact wu_rt (wg_zret (pc := 59) hX rfl (by decide) rfl dX3_build_59)
theorem m_X3_isFloor (a1 : Int32) (a2 : Int32) : amMet yX3_isFloor cX3_isFloor 3 (some .boolean) 2 53 encI [.ref (rid 1 1), .int a1, .int a2] (up (p_X3_isFloor a1 a2)) := by
  refine amMet.of (own := RX3) (by decide) rfl (Nat.le_of_ble_eq_true rfl) fun X hX hPs => ?_
  change WG X encI 0 [(0, .ref (rid 1 1)), (1, .int a1), (2, .int a2)] [] (bd1 (up (p_X3_isFloor a1 a2)) rt1)
  unfold p_X3_isFloor
  have hM0 := amPs.m0 hPs
  refine wu_ (wg_gM ?_)
  refine wg_aload_n (pc := 0) hX dX3_isFloor_0 0 rfl ?_
  refine wg_iload_n (pc := 1) hX dX3_isFloor_1 1 rfl ?_
  refine wu_ (wg_cVi (pc := 2) (As := [.int a1]) (rest := []) hX (m_X3_isHouse a1) (by decide) (by decide) (by decide) rc_X3 (lw_V q2360 q2362 qs90 q163 q2363) hd_X3_isHouse rfl (Nat.le_of_ble_eq_true rfl) (Nat.le_of_ble_eq_true rfl) (Nat.le_of_ble_eq_true rfl) rfl dX3_isFloor_2 fun v1 => ?_)
  refine wu_jn (α := Unit) (pcJ := 26) (lJ := fun x => []) (sJ := fun x => []) (fun k2 hk2 => ?_) (fun z2 => ?_)
  · refine wg_if_eq (pc := 5) (tgt := 26) hX dX3_isFloor_5 (by decide) (fun h3 => ?_) (fun h3 => ?_)
    · refine wu_t h3 ?_
      refine wg_sub hX [] rfl ?_
      exact hk2 ()
    refine wu_f h3 ?_
    refine wg_iload_n (pc := 8) hX dX3_isFloor_8 2 rfl ?_
    refine wg_if_lt (pc := 9) (tgt := 26) hX dX3_isFloor_9 (by decide) (fun h4 => ?_) (fun h4 => ?_)
    · refine wu_t h4 ?_
      refine wg_sub hX [] rfl ?_
      exact hk2 ()
    refine wu_f h4 ?_
    refine wg_iload_n (pc := 12) hX dX3_isFloor_12 2 rfl ?_
    refine wg_aload_n (pc := 13) hX dX3_isFloor_13 0 rfl ?_
    refine wg_gK (pc := 14) hX hM0 fd_X3_38 (by decide) dX3_isFloor_14 ?_
    refine wg_iload_n (pc := 17) hX dX3_isFloor_17 1 rfl ?_
    refine wu_ (wg_rI (pc := 18) hX ar_64 dX3_isFloor_18 fun v5 => ?_)
    refine wg_icmp_ge (pc := 19) (tgt := 26) hX dX3_isFloor_19 (by decide) (fun h6 => ?_) (fun h6 => ?_)
    · refine wu_t h6 ?_
      refine wg_sub hX [] rfl ?_
      exact hk2 ()
    refine wu_f h6 ?_
    refine wg_iconst (pc := 22) (v := 1) hX dX3_isFloor_22 rfl ?_
    refine wg_goto (pc := 23) (tgt := 27) hX dX3_isFloor_23 (by decide) ?_
    exact wu_rt (wg_zret (pc := 27) hX rfl (by decide) rfl dX3_isFloor_27)
  refine wg_iconst (pc := 26) (v := 0) hX dX3_isFloor_26 rfl ?_
  exact wu_rt (wg_zret (pc := 27) hX rfl (by decide) rfl dX3_isFloor_27)
theorem m_X3_openAt (a1 : Int32) : amMet yX3_openAt cX3_openAt 3 (some .int) 1 32 encI [.ref (rid 1 1), .int a1] (up (p_X3_openAt a1)) := by
  refine amMet.of (own := RX3) (by decide) rfl (Nat.le_of_ble_eq_true rfl) fun X hX hPs => ?_
  change WG X encI 0 [(0, .ref (rid 1 1)), (1, .int a1)] [] (bd1 (up (p_X3_openAt a1)) rt1)
  unfold p_X3_openAt
  have hM0 := amPs.m0 hPs
  refine wu_ (wg_gM ?_)
  refine wg_iconst (pc := 0) (v := 0) hX dX3_openAt_0 rfl ?_
  refine wg_istore_n (pc := 1) (l' := [(0, .ref (rid 1 1)), (1, .int a1), (2, .int 0)]) hX dX3_openAt_1 (by decide) rfl ?_
  refine wu_lp (α := Int32) (pcl := 2) (lo := fun x => [(0, .ref (rid 1 1)), (1, .int a1), (2, .int x)]) (so := fun _ => []) (fun rec1 hrec1 x1 => ?_) amFu 0
  unfold p_X3_openAt_L2
  refine wg_iload_n (pc := 2) hX dX3_openAt_2 2 rfl ?_
  refine wg_aload_n (pc := 3) hX dX3_openAt_3 0 rfl ?_
  refine wu_ (wg_gI (pc := 4) hX fd_X3_525 dX3_openAt_4 fun v2 => ?_)
  refine wg_icmp_ge (pc := 7) (tgt := 37) hX dX3_openAt_7 (by decide) (fun h3 => ?_) (fun h3 => ?_)
  · refine wu_t h3 ?_
    refine wg_iconst (pc := 37) (v := (-1)) hX dX3_openAt_37 rfl ?_
    exact wu_rt (wg_iret (pc := 38) hX rfl rfl dX3_openAt_38)
  refine wu_f h3 ?_
  refine wg_aload_n (pc := 10) hX dX3_openAt_10 0 rfl ?_
  refine wg_gK (pc := 11) hX hM0 fd_X3_214 (by decide) dX3_openAt_11 ?_
  refine wg_iload_n (pc := 14) hX dX3_openAt_14 2 rfl ?_
  refine wu_ (wg_rI (pc := 15) hX ar_115 dX3_openAt_15 fun v4 => ?_)
  refine wg_iload_n (pc := 16) hX dX3_openAt_16 1 rfl ?_
  refine wu_jn (α := Unit) (pcJ := 31) (lJ := fun x => [(0, .ref (rid 1 1)), (1, .int a1), (2, .int x1)]) (sJ := fun x => []) (fun k5 hk5 => ?_) (fun z5 => ?_)
  · refine wg_icmp_ne (pc := 17) (tgt := 31) hX dX3_openAt_17 (by decide) (fun h6 => ?_) (fun h6 => ?_)
    rotate_left
    · refine wu_f h6 ?_
      exact hk5 ()
    refine wu_t h6 ?_
    refine wg_aload_n (pc := 20) hX dX3_openAt_20 0 rfl ?_
    refine wg_gK (pc := 21) hX hM0 fd_X3_220 (by decide) dX3_openAt_21 ?_
    refine wg_iload_n (pc := 24) hX dX3_openAt_24 2 rfl ?_
    refine wu_ (wg_rI (pc := 25) hX ar_117 dX3_openAt_25 fun v7 => ?_)
    refine wg_if_ne (pc := 26) (tgt := 31) hX dX3_openAt_26 (by decide) (fun h8 => ?_) (fun h8 => ?_)
    rotate_left
    · refine wu_f h8 ?_
      exact hk5 ()
    refine wu_t h8 ?_
    refine wg_iload_n (pc := 29) hX dX3_openAt_29 2 rfl ?_
    exact wu_rt (wg_iret (pc := 30) hX rfl rfl dX3_openAt_30)
  refine wg_iinc (pc := 31) (v := (x1 + 1)) (l' := [(0, .ref (rid 1 1)), (1, .int a1), (2, .int (x1 + 1))]) hX dX3_openAt_31 2 rfl rfl (by decide) rfl ?_
  refine wg_goto (pc := 34) (tgt := 2) hX dX3_openAt_34 (by decide) ?_
  exact hrec1 (x1 + 1)
theorem m_X3_floorOf (a1 : Int32) (a2 : Int32) : amMet yX3_floorOf cX3_floorOf 3 (some .int) 1 32 encI [.ref (rid 1 1), .int a1, .int a2] (up (p_X3_floorOf a1 a2)) := by
  refine amMet.of (own := RX3) (by decide) rfl (Nat.le_of_ble_eq_true rfl) fun X hX hPs => ?_
  change WG X encI 0 [(0, .ref (rid 1 1)), (1, .int a1), (2, .int a2)] [] (bd1 (up (p_X3_floorOf a1 a2)) rt1)
  unfold p_X3_floorOf
  have hM0 := amPs.m0 hPs
  refine wu_ (wg_gM ?_)
  refine wg_iload_n (pc := 0) hX dX3_floorOf_0 2 rfl ?_
  refine wg_aload_n (pc := 1) hX dX3_floorOf_1 0 rfl ?_
  refine wg_gK (pc := 2) hX hM0 fd_X3_41 (by decide) dX3_floorOf_2 ?_
  refine wg_iload_n (pc := 5) hX dX3_floorOf_5 1 rfl ?_
  refine wu_ (wg_rI (pc := 6) hX ar_65 dX3_floorOf_6 fun v1 => ?_)
  refine wu_ (wg_gd fun h2 => ?_)
  refine wg_idiv (pc := 7) hX dX3_floorOf_7 h2 ?_
  exact wu_rt (wg_iret (pc := 8) hX rfl rfl dX3_floorOf_8)
theorem m_X3_burns (a1 : Int32) (a2 : Int32) : amMet yX3_burns cX3_burns 4 (some .boolean) 2 54 encI [.ref (rid 1 1), .int a1, .int a2] (up (p_X3_burns a1 a2)) := by
  refine amMet.of (own := RX3) (by decide) rfl (Nat.le_of_ble_eq_true rfl) fun X hX hPs => ?_
  change WG X encI 0 [(0, .ref (rid 1 1)), (1, .int a1), (2, .int a2)] [] (bd1 (up (p_X3_burns a1 a2)) rt1)
  unfold p_X3_burns
  have hM0 := amPs.m0 hPs
  refine wu_ (wg_gM ?_)
  refine wg_bipush (pc := 0) (v := 24) hX dX3_burns_0 rfl ?_
  refine wg_iload_n (pc := 2) hX dX3_burns_2 1 rfl ?_
  refine wg_imul (pc := 3) hX dX3_burns_3 ?_
  refine wg_iload_n (pc := 4) hX dX3_burns_4 2 rfl ?_
  refine wg_iadd (pc := 5) hX dX3_burns_5 ?_
  refine wu_ (wg_nmi hX fun v1 => ?_)
  refine wg_istore_n (pc := 6) (l' := [(0, .ref (rid 1 1)), (1, .int a1), (2, .int a2), (3, .int v1)]) hX dX3_burns_6 (by decide) rfl ?_
  refine wg_aload_n (pc := 7) hX dX3_burns_7 0 rfl ?_
  refine wg_gK (pc := 8) hX hM0 fd_X3_68 (by decide) dX3_burns_8 ?_
  refine wg_iload_n (pc := 11) hX dX3_burns_11 3 rfl ?_
  refine wu_ (wg_rI (pc := 12) hX ar_74 dX3_burns_12 fun v2 => ?_)
  refine wg_sipush (pc := 13) (v := 300) hX dX3_burns_13 rfl ?_
  refine wu_jn (α := Unit) (pcJ := 51) (lJ := fun x => []) (sJ := fun x => []) (fun k3 hk3 => ?_) (fun z3 => ?_)
  · refine wg_icmp_lt (pc := 16) (tgt := 51) hX dX3_burns_16 (by decide) (fun h4 => ?_) (fun h4 => ?_)
    · refine wu_t h4 ?_
      refine wg_sub hX [] rfl ?_
      exact hk3 ()
    refine wu_f h4 ?_
    refine wg_aload_n (pc := 19) hX dX3_burns_19 0 rfl ?_
    refine wg_gK (pc := 20) hX hM0 fd_X3_71 (by decide) dX3_burns_20 ?_
    refine wg_iload_n (pc := 23) hX dX3_burns_23 3 rfl ?_
    refine wu_ (wg_rI (pc := 24) hX ar_75 dX3_burns_24 fun v5 => ?_)
    refine wg_if_le (pc := 25) (tgt := 51) hX dX3_burns_25 (by decide) (fun h6 => ?_) (fun h6 => ?_)
    · refine wu_t h6 ?_
      refine wg_sub hX [] rfl ?_
      exact hk3 ()
    refine wu_f h6 ?_
    refine wg_aload_n (pc := 28) hX dX3_burns_28 0 rfl ?_
    refine wg_gK (pc := 29) hX hM0 fd_X3_92 (by decide) dX3_burns_29 ?_
    refine wg_bipush (pc := 32) (v := 6) hX dX3_burns_32 rfl ?_
    refine wg_iload_n (pc := 34) hX dX3_burns_34 1 rfl ?_
    refine wg_imul (pc := 35) hX dX3_burns_35 ?_
    refine wg_aload_n (pc := 36) hX dX3_burns_36 0 rfl ?_
    refine wg_iload_n (pc := 37) hX dX3_burns_37 1 rfl ?_
    refine wg_iload_n (pc := 38) hX dX3_burns_38 2 rfl ?_
    refine wu_ (wg_cVi (pc := 39) (As := [.int a1, .int a2]) (rest := [.int (6 * a1), .ref (rid 82 1)]) hX (m_X3_floorOf a1 a2) (by decide) (by decide) (by decide) rc_X3 (lw_V q2392 q2394 qs97 q163 q2395) hd_X3_floorOf rfl (Nat.le_of_ble_eq_true rfl) (Nat.le_of_ble_eq_true rfl) (Nat.le_of_ble_eq_true rfl) rfl dX3_burns_39 fun v7 => ?_)
    refine wg_iadd (pc := 42) hX dX3_burns_42 ?_
    refine wu_ (wg_rZ (pc := 43) hX ar_82 dX3_burns_43 fun v8 => ?_)
    refine wg_if_ne (pc := 44) (tgt := 51) hX dX3_burns_44 (by decide) (fun h9 => ?_) (fun h9 => ?_)
    rotate_left
    · refine wu_f h9 ?_
      refine wg_sub hX [] rfl ?_
      exact hk3 ()
    refine wu_t h9 ?_
    refine wg_iconst (pc := 47) (v := 1) hX dX3_burns_47 rfl ?_
    refine wg_goto (pc := 48) (tgt := 52) hX dX3_burns_48 (by decide) ?_
    exact wu_rt (wg_zret (pc := 52) hX rfl (by decide) rfl dX3_burns_52)
  refine wg_iconst (pc := 51) (v := 0) hX dX3_burns_51 rfl ?_
  exact wu_rt (wg_zret (pc := 52) hX rfl (by decide) rfl dX3_burns_52)
theorem m_X3_burning (a1 : Int32) : amMet yX3_burning cX3_burning 4 (some .int) 3 77 encI [.ref (rid 1 1), .int a1] (up (p_X3_burning a1)) := by
  refine amMet.of (own := RX3) (by decide) rfl (Nat.le_of_ble_eq_true rfl) fun X hX hPs => ?_
  change WG X encI 0 [(0, .ref (rid 1 1)), (1, .int a1)] [] (bd1 (up (p_X3_burning a1)) rt1)
  unfold p_X3_burning
  have hM0 := amPs.m0 hPs
  refine wu_ (wg_gM ?_)
  refine wg_iconst (pc := 0) (v := 0) hX dX3_burning_0 rfl ?_
  refine wg_istore_n (pc := 1) (l' := [(0, .ref (rid 1 1)), (1, .int a1), (2, .int 0)]) hX dX3_burning_1 (by decide) rfl ?_
  refine wg_iconst (pc := 2) (v := 0) hX dX3_burning_2 rfl ?_
  refine wg_istore_n (pc := 3) (l' := [(0, .ref (rid 1 1)), (1, .int a1), (2, .int 0), (3, .int 0)]) hX dX3_burning_3 (by decide) rfl ?_
  refine wu_lpx (α := Int32 × Int32) (γ := Int32) (pcl := 4) (pcT := 44) (lo := fun x => [(0, .ref (rid 1 1)), (1, .int a1), (2, .int x.1), (3, .int x.2)]) (so := fun _ => []) (lT := fun x => [(2, .int x)]) (sT := fun _ => []) (n := amFu) (x0 := (0, 0)) (fun K1 rec1 hrec1 hk1 x1 => ?_) (fun y2 => ?_)
  · unfold p_X3_burning_L4
    refine wg_iload_n (pc := 4) hX dX3_burning_4 3 rfl ?_
    refine wg_aload_n (pc := 5) hX dX3_burning_5 0 rfl ?_
    refine wg_gK (pc := 6) hX hM0 fd_X3_38 (by decide) dX3_burning_6 ?_
    refine wg_iload_n (pc := 9) hX dX3_burning_9 1 rfl ?_
    refine wu_ (wg_rI (pc := 10) hX ar_64 dX3_burning_10 fun v3 => ?_)
    refine wg_aload_n (pc := 11) hX dX3_burning_11 0 rfl ?_
    refine wg_gK (pc := 12) hX hM0 fd_X3_41 (by decide) dX3_burning_12 ?_
    refine wg_iload_n (pc := 15) hX dX3_burning_15 1 rfl ?_
    refine wu_ (wg_rI (pc := 16) hX ar_65 dX3_burning_16 fun v4 => ?_)
    refine wg_imul (pc := 17) hX dX3_burning_17 ?_
    refine wg_icmp_ge (pc := 18) (tgt := 44) hX dX3_burning_18 (by decide) (fun h5 => ?_) (fun h5 => ?_)
    · refine wu_t h5 ?_
      refine wg_sub hX [2] rfl ?_
      exact wu_rt (hk1 x1.1)
    refine wu_f h5 ?_
    refine wg_iload_n (pc := 21) hX dX3_burning_21 2 rfl ?_
    refine wg_aload_n (pc := 22) hX dX3_burning_22 0 rfl ?_
    refine wg_iload_n (pc := 23) hX dX3_burning_23 1 rfl ?_
    refine wg_iload_n (pc := 24) hX dX3_burning_24 3 rfl ?_
    refine wu_ (wg_cVi (pc := 25) (As := [.int a1, .int x1.2]) (rest := [.int x1.1]) hX (m_X3_burns a1 x1.2) (by decide) (by decide) (by decide) rc_X3 (lw_V q2388 q2390 qs96 q163 q2391) hd_X3_burns rfl (Nat.le_of_ble_eq_true rfl) (Nat.le_of_ble_eq_true rfl) (Nat.le_of_ble_eq_true rfl) rfl dX3_burning_25 fun v6 => ?_)
    refine wu_jx (α := Int32) (pcJ := 36) (lJ := fun x => [(0, .ref (rid 1 1)), (1, .int a1), (3, .int x1.2)]) (sJ := fun x => [.int x, .int x1.1]) (fun K7 hk7 => ?_) (fun z7 => ?_)
    · refine wg_if_eq (pc := 28) (tgt := 35) hX dX3_burning_28 (by decide) (fun h8 => ?_) (fun h8 => ?_)
      · refine wu_t h8 ?_
        refine wg_iconst (pc := 35) (v := 0) hX dX3_burning_35 rfl ?_
        refine wg_sub hX [0, 1, 3] rfl ?_
        exact wu_rt (hk7 0)
      refine wu_f h8 ?_
      refine wg_iconst (pc := 31) (v := 1) hX dX3_burning_31 rfl ?_
      refine wg_goto (pc := 32) (tgt := 36) hX dX3_burning_32 (by decide) ?_
      refine wg_sub hX [0, 1, 3] rfl ?_
      exact wu_rt (hk7 1)
    refine wg_iadd (pc := 36) hX dX3_burning_36 ?_
    refine wu_ (wg_nmi hX fun v9 => ?_)
    refine wg_istore_n (pc := 37) (l' := [(0, .ref (rid 1 1)), (1, .int a1), (2, .int v9), (3, .int x1.2)]) hX dX3_burning_37 (by decide) rfl ?_
    refine wg_iinc (pc := 38) (v := (x1.2 + 1)) (l' := [(0, .ref (rid 1 1)), (1, .int a1), (2, .int v9), (3, .int (x1.2 + 1))]) hX dX3_burning_38 3 rfl rfl (by decide) rfl ?_
    refine wg_goto (pc := 41) (tgt := 4) hX dX3_burning_41 (by decide) ?_
    exact hrec1 (v9, (x1.2 + 1))
  refine wg_iload_n (pc := 44) hX dX3_burning_44 0 rfl ?_
  exact wu_rt (wg_iret (pc := 45) hX rfl rfl dX3_burning_45)
theorem m_X3_burnsAt (a1 : Int32) : amMet yX3_burnsAt cX3_burnsAt 3 (some .boolean) 4 100 encI [.ref (rid 1 1), .int a1] (up (p_X3_burnsAt a1)) := by
  refine amMet.of (own := RX3) (by decide) rfl (Nat.le_of_ble_eq_true rfl) fun X hX hPs => ?_
  change WG X encI 0 [(0, .ref (rid 1 1)), (1, .int a1)] [] (bd1 (up (p_X3_burnsAt a1)) rt1)
  unfold p_X3_burnsAt
  have hM0 := amPs.m0 hPs
  refine wu_ (wg_gM ?_)
  refine wg_iconst (pc := 0) (v := 0) hX dX3_burnsAt_0 rfl ?_
  refine wg_istore_n (pc := 1) (l' := [(0, .ref (rid 1 1)), (1, .int a1), (2, .int 0)]) hX dX3_burnsAt_1 (by decide) rfl ?_
  refine wu_lp (α := Int32) (pcl := 2) (lo := fun x => [(0, .ref (rid 1 1)), (1, .int a1), (2, .int x)]) (so := fun _ => []) (fun rec1 hrec1 x1 => ?_) amFu 0
  unfold p_X3_burnsAt_L2
  refine wg_iload_n (pc := 2) hX dX3_burnsAt_2 2 rfl ?_
  refine wg_aload_n (pc := 3) hX dX3_burnsAt_3 0 rfl ?_
  refine wu_ (wg_gI (pc := 4) hX fd_X3_331 dX3_burnsAt_4 fun v2 => ?_)
  refine wg_icmp_ge (pc := 7) (tgt := 36) hX dX3_burnsAt_7 (by decide) (fun h3 => ?_) (fun h3 => ?_)
  · refine wu_t h3 ?_
    refine wg_iconst (pc := 36) (v := 0) hX dX3_burnsAt_36 rfl ?_
    exact wu_rt (wg_zret (pc := 37) hX rfl (by decide) rfl dX3_burnsAt_37)
  refine wu_f h3 ?_
  refine wg_aload_n (pc := 10) hX dX3_burnsAt_10 0 rfl ?_
  refine wg_gK (pc := 11) hX hM0 fd_X3_32 (by decide) dX3_burnsAt_11 ?_
  refine wg_iload_n (pc := 14) hX dX3_burnsAt_14 2 rfl ?_
  refine wu_ (wg_rI (pc := 15) hX ar_62 dX3_burnsAt_15 fun v4 => ?_)
  refine wg_iload_n (pc := 16) hX dX3_burnsAt_16 1 rfl ?_
  refine wu_jn (α := Unit) (pcJ := 30) (lJ := fun x => [(0, .ref (rid 1 1)), (1, .int a1), (2, .int x1)]) (sJ := fun x => []) (fun k5 hk5 => ?_) (fun z5 => ?_)
  · refine wg_icmp_ne (pc := 17) (tgt := 30) hX dX3_burnsAt_17 (by decide) (fun h6 => ?_) (fun h6 => ?_)
    rotate_left
    · refine wu_f h6 ?_
      exact hk5 ()
    refine wu_t h6 ?_
    refine wg_aload_n (pc := 20) hX dX3_burnsAt_20 0 rfl ?_
    refine wg_iload_n (pc := 21) hX dX3_burnsAt_21 2 rfl ?_
    refine wu_ (wg_cVi (pc := 22) (As := [.int x1]) (rest := []) hX (m_X3_burning x1) (by decide) (by decide) (by decide) rc_X3 (lw_V q2384 q2386 qs95 q163 q2387) hd_X3_burning rfl (Nat.le_of_ble_eq_true rfl) (Nat.le_of_ble_eq_true rfl) (Nat.le_of_ble_eq_true rfl) rfl dX3_burnsAt_22 fun v7 => ?_)
    refine wg_if_le (pc := 25) (tgt := 30) hX dX3_burnsAt_25 (by decide) (fun h8 => ?_) (fun h8 => ?_)
    · refine wu_t h8 ?_
      exact hk5 ()
    refine wu_f h8 ?_
    refine wg_iconst (pc := 28) (v := 1) hX dX3_burnsAt_28 rfl ?_
    exact wu_rt (wg_zret (pc := 29) hX rfl (by decide) rfl dX3_burnsAt_29)
  refine wg_iinc (pc := 30) (v := (x1 + 1)) (l' := [(0, .ref (rid 1 1)), (1, .int a1), (2, .int (x1 + 1))]) hX dX3_burnsAt_30 2 rfl rfl (by decide) rfl ?_
  refine wg_goto (pc := 33) (tgt := 2) hX dX3_burnsAt_33 (by decide) ?_
  exact hrec1 (x1 + 1)
theorem m_X3_mark (a1 : Int32) : amMet yX3_mark cX3_mark 3 none 5 122 encV [.ref (rid 1 1), .int a1] (up (p_X3_mark a1)) := by
  refine amMet.of (own := RX3) (by decide) rfl (Nat.le_of_ble_eq_true rfl) fun X hX hPs => ?_
  change WG X encV 0 [(0, .ref (rid 1 1)), (1, .int a1)] [] (bd1 (up (p_X3_mark a1)) rt1)
  unfold p_X3_mark
  have hM0 := amPs.m0 hPs
  refine wu_ (wg_gM ?_)
  refine wg_aload_n (pc := 0) hX dX3_mark_0 0 rfl ?_
  refine wg_iload_n (pc := 1) hX dX3_mark_1 1 rfl ?_
  refine wu_ (wg_cVi (pc := 2) (As := [.int a1]) (rest := []) hX (m_X3_openAt a1) (by decide) (by decide) (by decide) rc_X3 (lw_V q2376 q2378 qs93 q163 q2379) hd_X3_openAt rfl (Nat.le_of_ble_eq_true rfl) (Nat.le_of_ble_eq_true rfl) (Nat.le_of_ble_eq_true rfl) rfl dX3_mark_2 fun v1 => ?_)
  refine wg_istore_n (pc := 5) (l' := [(0, .ref (rid 1 1)), (1, .int a1), (2, .int v1)]) hX dX3_mark_5 (by decide) rfl ?_
  refine wg_iload_n (pc := 6) hX dX3_mark_6 2 rfl ?_
  refine wg_iconst (pc := 7) (v := (-1)) hX dX3_mark_7 rfl ?_
  refine wg_icmp_eq (pc := 8) (tgt := 26) hX dX3_mark_8 (by decide) (fun h2 => ?_) (fun h2 => ?_)
  · refine wu_t h2 ?_
    exact wu_rt (wg_vret (pc := 26) hX rfl rfl dX3_mark_26)
  refine wu_f h2 ?_
  refine wg_aload_n (pc := 11) hX dX3_mark_11 0 rfl ?_
  refine wg_iload_n (pc := 12) hX dX3_mark_12 1 rfl ?_
  refine wu_ (wg_cVi (pc := 13) (As := [.int a1]) (rest := []) hX (m_X3_burnsAt a1) (by decide) (by decide) (by decide) rc_X3 (lw_V q2380 q2382 qs94 q163 q2383) hd_X3_burnsAt rfl (Nat.le_of_ble_eq_true rfl) (Nat.le_of_ble_eq_true rfl) (Nat.le_of_ble_eq_true rfl) rfl dX3_mark_13 fun v3 => ?_)
  refine wg_if_eq (pc := 16) (tgt := 26) hX dX3_mark_16 (by decide) (fun h4 => ?_) (fun h4 => ?_)
  · refine wu_t h4 ?_
    exact wu_rt (wg_vret (pc := 26) hX rfl rfl dX3_mark_26)
  refine wu_f h4 ?_
  refine wg_aload_n (pc := 19) hX dX3_mark_19 0 rfl ?_
  refine wg_gK (pc := 20) hX hM0 fd_X3_238 (by decide) dX3_mark_20 ?_
  refine wg_iload_n (pc := 23) hX dX3_mark_23 2 rfl ?_
  refine wg_iconst (pc := 24) (v := 1) hX dX3_mark_24 rfl ?_
  refine wu_ (wg_wZ (pc := 25) hX ar_123 (by decide) dX3_mark_25 ?_)
  exact wu_rt (wg_vret (pc := 26) hX rfl rfl dX3_mark_26)
theorem m_X3_floor (a1 : Int32) (a2 : Int32) (a3 : Int32) (a4 : Int32) : amMet yX3_floor cX3_floor 6 (some .boolean) 6 144 encI [.ref (rid 1 1), .int a1, .int a2, .int a3, .int a4] (up (p_X3_floor a1 a2 a3 a4)) := by
  refine amMet.of (own := RX3) (by decide) rfl (Nat.le_of_ble_eq_true rfl) fun X hX hPs => ?_
  change WG X encI 0 [(0, .ref (rid 1 1)), (1, .int a1), (2, .int a2), (3, .int a3), (4, .int a4)] [] (bd1 (up (p_X3_floor a1 a2 a3 a4)) rt1)
  unfold p_X3_floor
  have hM0 := amPs.m0 hPs
  refine wu_ (wg_gM ?_)
  refine wg_aload_n (pc := 0) hX dX3_floor_0 0 rfl ?_
  refine wg_iconst (pc := 1) (v := 0) hX dX3_floor_1 rfl ?_
  refine wu_ (wg_pI (pc := 2) hX fp_X3_297 (fun h => by cases h) dX3_floor_2 ?_)
  refine wg_aload_n (pc := 5) hX dX3_floor_5 0 rfl ?_
  refine wg_iload_n (pc := 6) hX dX3_floor_6 1 rfl ?_
  refine wg_iload_n (pc := 7) hX dX3_floor_7 2 rfl ?_
  refine wu_ (wg_cVi (pc := 8) (As := [.int a1, .int a2]) (rest := []) hX (m_X3_isFloor a1 a2) (by decide) (by decide) (by decide) rc_X3 (lw_V q2368 q2370 qs91 q163 q2371) hd_X3_isFloor rfl (Nat.le_of_ble_eq_true rfl) (Nat.le_of_ble_eq_true rfl) (Nat.le_of_ble_eq_true rfl) rfl dX3_floor_8 fun v1 => ?_)
  refine wg_if_eq (pc := 11) (tgt := 50) hX dX3_floor_11 (by decide) (fun h2 => ?_) (fun h2 => ?_)
  · refine wu_t h2 ?_
    refine wg_iconst (pc := 50) (v := 0) hX dX3_floor_50 rfl ?_
    exact wu_rt (wg_zret (pc := 51) hX rfl (by decide) rfl dX3_floor_51)
  refine wu_f h2 ?_
  refine wg_iload_n (pc := 14) hX dX3_floor_14 3 rfl ?_
  refine wg_iconst (pc := 15) (v := 0) hX dX3_floor_15 rfl ?_
  refine wg_sipush (pc := 16) (v := 500) hX dX3_floor_16 rfl ?_
  refine wu_ (wg_cSi (pc := 19) (As := [.int a3, .int 0, .int 500]) (rest := []) hX (m_X3_isIn a3 0 500) (lw_S q2317 q2318 q163 q2319) hd_X3_isIn rfl (Nat.le_of_ble_eq_true rfl) (Nat.le_of_ble_eq_true rfl) (Nat.le_of_ble_eq_true rfl) rfl dX3_floor_19 fun v3 => ?_)
  refine wg_if_eq (pc := 22) (tgt := 50) hX dX3_floor_22 (by decide) (fun h4 => ?_) (fun h4 => ?_)
  · refine wu_t h4 ?_
    refine wg_iconst (pc := 50) (v := 0) hX dX3_floor_50 rfl ?_
    exact wu_rt (wg_zret (pc := 51) hX rfl (by decide) rfl dX3_floor_51)
  refine wu_f h4 ?_
  refine wg_iload (pc := 25) hX dX3_floor_25 4 rfl ?_
  refine wg_iconst (pc := 27) (v := 0) hX dX3_floor_27 rfl ?_
  refine wg_bipush (pc := 28) (v := 20) hX dX3_floor_28 rfl ?_
  refine wu_ (wg_cSi (pc := 30) (As := [.int a4, .int 0, .int 20]) (rest := []) hX (m_X3_isIn a4 0 20) (lw_S q2317 q2318 q163 q2319) hd_X3_isIn rfl (Nat.le_of_ble_eq_true rfl) (Nat.le_of_ble_eq_true rfl) (Nat.le_of_ble_eq_true rfl) rfl dX3_floor_30 fun v5 => ?_)
  refine wg_if_eq (pc := 33) (tgt := 50) hX dX3_floor_33 (by decide) (fun h6 => ?_) (fun h6 => ?_)
  · refine wu_t h6 ?_
    refine wg_iconst (pc := 50) (v := 0) hX dX3_floor_50 rfl ?_
    exact wu_rt (wg_zret (pc := 51) hX rfl (by decide) rfl dX3_floor_51)
  refine wu_f h6 ?_
  refine wg_aload_n (pc := 36) hX dX3_floor_36 0 rfl ?_
  refine wg_gK (pc := 37) hX hM0 fd_X3_92 (by decide) dX3_floor_37 ?_
  refine wg_bipush (pc := 40) (v := 6) hX dX3_floor_40 rfl ?_
  refine wg_iload_n (pc := 42) hX dX3_floor_42 1 rfl ?_
  refine wg_imul (pc := 43) hX dX3_floor_43 ?_
  refine wg_iload_n (pc := 44) hX dX3_floor_44 2 rfl ?_
  refine wg_iadd (pc := 45) hX dX3_floor_45 ?_
  refine wu_ (wg_rZ (pc := 46) hX ar_82 dX3_floor_46 fun v7 => ?_)
  refine wg_if_eq (pc := 47) (tgt := 52) hX dX3_floor_47 (by decide) (fun h8 => ?_) (fun h8 => ?_)
  rotate_left
  · refine wu_f h8 ?_
    refine wg_iconst (pc := 50) (v := 0) hX dX3_floor_50 rfl ?_
    exact wu_rt (wg_zret (pc := 51) hX rfl (by decide) rfl dX3_floor_51)
  refine wu_t h8 ?_
  refine wg_iconst (pc := 52) (v := 0) hX dX3_floor_52 rfl ?_
  refine wg_istore (pc := 53) (l' := [(0, .ref (rid 1 1)), (1, .int a1), (2, .int a2), (3, .int a3), (4, .int a4), (5, .int 0)]) hX dX3_floor_53 (by decide) rfl ?_
  refine wu_lpx (α := Int32) (γ := Unit) (pcl := 55) (pcT := 94) (lo := fun x => [(0, .ref (rid 1 1)), (1, .int a1), (2, .int a2), (3, .int a3), (4, .int a4), (5, .int x)]) (so := fun _ => []) (lT := fun x => [(0, .ref (rid 1 1)), (1, .int a1), (2, .int a2), (3, .int a3), (4, .int a4)]) (sT := fun _ => []) (n := amFu) (x0 := 0) (fun K9 rec9 hrec9 hk9 x9 => ?_) (fun y10 => ?_)
  · unfold p_X3_floor_L55
    refine wg_iload (pc := 55) hX dX3_floor_55 5 rfl ?_
    refine wg_aload_n (pc := 57) hX dX3_floor_57 0 rfl ?_
    refine wg_gK (pc := 58) hX hM0 fd_X3_41 (by decide) dX3_floor_58 ?_
    refine wg_iload_n (pc := 61) hX dX3_floor_61 1 rfl ?_
    refine wu_ (wg_rI (pc := 62) hX ar_65 dX3_floor_62 fun v11 => ?_)
    refine wg_icmp_ge (pc := 63) (tgt := 94) hX dX3_floor_63 (by decide) (fun h12 => ?_) (fun h12 => ?_)
    · refine wu_t h12 ?_
      refine wg_sub hX [0, 1, 2, 3, 4] rfl ?_
      exact wu_rt (hk9 ())
    refine wu_f h12 ?_
    refine wg_aload_n (pc := 66) hX dX3_floor_66 0 rfl ?_
    refine wg_gK (pc := 67) hX hM0 fd_X3_71 (by decide) dX3_floor_67 ?_
    refine wg_bipush (pc := 70) (v := 24) hX dX3_floor_70 rfl ?_
    refine wg_iload_n (pc := 72) hX dX3_floor_72 1 rfl ?_
    refine wg_imul (pc := 73) hX dX3_floor_73 ?_
    refine wg_iload_n (pc := 74) hX dX3_floor_74 2 rfl ?_
    refine wg_aload_n (pc := 75) hX dX3_floor_75 0 rfl ?_
    refine wg_gK (pc := 76) hX hM0 fd_X3_41 (by decide) dX3_floor_76 ?_
    refine wg_iload_n (pc := 79) hX dX3_floor_79 1 rfl ?_
    refine wu_ (wg_rI (pc := 80) hX ar_65 dX3_floor_80 fun v13 => ?_)
    refine wg_imul (pc := 81) hX dX3_floor_81 ?_
    refine wg_iadd (pc := 82) hX dX3_floor_82 ?_
    refine wg_iload (pc := 83) hX dX3_floor_83 5 rfl ?_
    refine wg_iadd (pc := 85) hX dX3_floor_85 ?_
    refine wg_iload_n (pc := 86) hX dX3_floor_86 3 rfl ?_
    refine wu_ (wg_wI (pc := 87) hX ar_75 dX3_floor_87 ?_)
    refine wg_iinc (pc := 88) (v := (x9 + 1)) (l' := [(0, .ref (rid 1 1)), (1, .int a1), (2, .int a2), (3, .int a3), (4, .int a4), (5, .int (x9 + 1))]) hX dX3_floor_88 5 rfl rfl (by decide) rfl ?_
    refine wg_goto (pc := 91) (tgt := 55) hX dX3_floor_91 (by decide) ?_
    exact hrec9 (x9 + 1)
  refine wg_aload_n (pc := 94) hX dX3_floor_94 0 rfl ?_
  refine wg_gK (pc := 95) hX hM0 fd_X3_89 (by decide) dX3_floor_95 ?_
  refine wg_bipush (pc := 98) (v := 6) hX dX3_floor_98 rfl ?_
  refine wg_iload_n (pc := 100) hX dX3_floor_100 1 rfl ?_
  refine wg_imul (pc := 101) hX dX3_floor_101 ?_
  refine wg_iload_n (pc := 102) hX dX3_floor_102 2 rfl ?_
  refine wg_iadd (pc := 103) hX dX3_floor_103 ?_
  refine wg_iload_n (pc := 104) hX dX3_floor_104 3 rfl ?_
  refine wu_ (wg_wI (pc := 105) hX ar_81 dX3_floor_105 ?_)
  refine wg_aload_n (pc := 106) hX dX3_floor_106 0 rfl ?_
  refine wg_gK (pc := 107) hX hM0 fd_X3_86 (by decide) dX3_floor_107 ?_
  refine wg_bipush (pc := 110) (v := 6) hX dX3_floor_110 rfl ?_
  refine wg_iload_n (pc := 112) hX dX3_floor_112 1 rfl ?_
  refine wg_imul (pc := 113) hX dX3_floor_113 ?_
  refine wg_iload_n (pc := 114) hX dX3_floor_114 2 rfl ?_
  refine wg_iadd (pc := 115) hX dX3_floor_115 ?_
  refine wg_iload (pc := 116) hX dX3_floor_116 4 rfl ?_
  refine wu_ (wg_wI (pc := 118) hX ar_80 dX3_floor_118 ?_)
  refine wg_aload_n (pc := 119) hX dX3_floor_119 0 rfl ?_
  refine wg_aload_n (pc := 120) hX dX3_floor_120 0 rfl ?_
  refine wg_gK (pc := 121) hX hM0 fd_X3_32 (by decide) dX3_floor_121 ?_
  refine wg_iload_n (pc := 124) hX dX3_floor_124 1 rfl ?_
  refine wu_ (wg_rI (pc := 125) hX ar_62 dX3_floor_125 fun v14 => ?_)
  refine wu_ (wg_cVv (pc := 126) (As := [.int v14]) (rest := []) hX (m_X3_mark v14) (by decide) (by decide) (by decide) rc_X3 (lw_V q2372 q2374 qs92 q163 q2375) hd_X3_mark rfl (Nat.le_of_ble_eq_true rfl) (Nat.le_of_ble_eq_true rfl) (Nat.le_of_ble_eq_true rfl) rfl dX3_floor_126 ?_)
  refine wg_iconst (pc := 129) (v := 1) hX dX3_floor_129 rfl ?_
  exact wu_rt (wg_zret (pc := 130) hX rfl (by decide) rfl dX3_floor_130)
theorem m_X3_isRoom (a1 : Int32) (a2 : Int32) : amMet yX3_isRoom cX3_isRoom 3 (some .boolean) 2 53 encI [.ref (rid 1 1), .int a1, .int a2] (up (p_X3_isRoom a1 a2)) := by
  refine amMet.of (own := RX3) (by decide) rfl (Nat.le_of_ble_eq_true rfl) fun X hX hPs => ?_
  change WG X encI 0 [(0, .ref (rid 1 1)), (1, .int a1), (2, .int a2)] [] (bd1 (up (p_X3_isRoom a1 a2)) rt1)
  unfold p_X3_isRoom
  have hM0 := amPs.m0 hPs
  refine wu_ (wg_gM ?_)
  refine wg_aload_n (pc := 0) hX dX3_isRoom_0 0 rfl ?_
  refine wg_iload_n (pc := 1) hX dX3_isRoom_1 1 rfl ?_
  refine wu_ (wg_cVi (pc := 2) (As := [.int a1]) (rest := []) hX (m_X3_isHouse a1) (by decide) (by decide) (by decide) rc_X3 (lw_V q2360 q2362 qs90 q163 q2363) hd_X3_isHouse rfl (Nat.le_of_ble_eq_true rfl) (Nat.le_of_ble_eq_true rfl) (Nat.le_of_ble_eq_true rfl) rfl dX3_isRoom_2 fun v1 => ?_)
  refine wu_jn (α := Unit) (pcJ := 33) (lJ := fun x => []) (sJ := fun x => []) (fun k2 hk2 => ?_) (fun z2 => ?_)
  · refine wg_if_eq (pc := 5) (tgt := 33) hX dX3_isRoom_5 (by decide) (fun h3 => ?_) (fun h3 => ?_)
    · refine wu_t h3 ?_
      refine wg_sub hX [] rfl ?_
      exact hk2 ()
    refine wu_f h3 ?_
    refine wg_iload_n (pc := 8) hX dX3_isRoom_8 2 rfl ?_
    refine wg_if_lt (pc := 9) (tgt := 33) hX dX3_isRoom_9 (by decide) (fun h4 => ?_) (fun h4 => ?_)
    · refine wu_t h4 ?_
      refine wg_sub hX [] rfl ?_
      exact hk2 ()
    refine wu_f h4 ?_
    refine wg_iload_n (pc := 12) hX dX3_isRoom_12 2 rfl ?_
    refine wg_aload_n (pc := 13) hX dX3_isRoom_13 0 rfl ?_
    refine wg_gK (pc := 14) hX hM0 fd_X3_38 (by decide) dX3_isRoom_14 ?_
    refine wg_iload_n (pc := 17) hX dX3_isRoom_17 1 rfl ?_
    refine wu_ (wg_rI (pc := 18) hX ar_64 dX3_isRoom_18 fun v5 => ?_)
    refine wg_aload_n (pc := 19) hX dX3_isRoom_19 0 rfl ?_
    refine wg_gK (pc := 20) hX hM0 fd_X3_41 (by decide) dX3_isRoom_20 ?_
    refine wg_iload_n (pc := 23) hX dX3_isRoom_23 1 rfl ?_
    refine wu_ (wg_rI (pc := 24) hX ar_65 dX3_isRoom_24 fun v6 => ?_)
    refine wg_imul (pc := 25) hX dX3_isRoom_25 ?_
    refine wg_icmp_ge (pc := 26) (tgt := 33) hX dX3_isRoom_26 (by decide) (fun h7 => ?_) (fun h7 => ?_)
    · refine wu_t h7 ?_
      refine wg_sub hX [] rfl ?_
      exact hk2 ()
    refine wu_f h7 ?_
    refine wg_iconst (pc := 29) (v := 1) hX dX3_isRoom_29 rfl ?_
    refine wg_goto (pc := 30) (tgt := 34) hX dX3_isRoom_30 (by decide) ?_
    exact wu_rt (wg_zret (pc := 34) hX rfl (by decide) rfl dX3_isRoom_34)
  refine wg_iconst (pc := 33) (v := 0) hX dX3_isRoom_33 rfl ?_
  exact wu_rt (wg_zret (pc := 34) hX rfl (by decide) rfl dX3_isRoom_34)
theorem m_X3_light (a1 : Int32) (a2 : Int32) : amMet yX3_light cX3_light 3 (some .boolean) 6 144 encI [.ref (rid 1 1), .int a1, .int a2] (up (p_X3_light a1 a2)) := by
  refine amMet.of (own := RX3) (by decide) rfl (Nat.le_of_ble_eq_true rfl) fun X hX hPs => ?_
  change WG X encI 0 [(0, .ref (rid 1 1)), (1, .int a1), (2, .int a2)] [] (bd1 (up (p_X3_light a1 a2)) rt1)
  unfold p_X3_light
  have hM0 := amPs.m0 hPs
  refine wu_ (wg_gM ?_)
  refine wg_aload_n (pc := 0) hX dX3_light_0 0 rfl ?_
  refine wg_iconst (pc := 1) (v := 0) hX dX3_light_1 rfl ?_
  refine wu_ (wg_pI (pc := 2) hX fp_X3_297 (fun h => by cases h) dX3_light_2 ?_)
  refine wg_aload_n (pc := 5) hX dX3_light_5 0 rfl ?_
  refine wg_iload_n (pc := 6) hX dX3_light_6 1 rfl ?_
  refine wg_iload_n (pc := 7) hX dX3_light_7 2 rfl ?_
  refine wu_ (wg_cVi (pc := 8) (As := [.int a1, .int a2]) (rest := []) hX (m_X3_isRoom a1 a2) (by decide) (by decide) (by decide) rc_X3 (lw_V q2400 q2402 qs98 q163 q2403) hd_X3_isRoom rfl (Nat.le_of_ble_eq_true rfl) (Nat.le_of_ble_eq_true rfl) (Nat.le_of_ble_eq_true rfl) rfl dX3_light_8 fun v1 => ?_)
  refine wg_if_eq (pc := 11) (tgt := 33) hX dX3_light_11 (by decide) (fun h2 => ?_) (fun h2 => ?_)
  · refine wu_t h2 ?_
    refine wg_iconst (pc := 33) (v := 0) hX dX3_light_33 rfl ?_
    exact wu_rt (wg_zret (pc := 34) hX rfl (by decide) rfl dX3_light_34)
  refine wu_f h2 ?_
  refine wg_aload_n (pc := 14) hX dX3_light_14 0 rfl ?_
  refine wg_gK (pc := 15) hX hM0 fd_X3_92 (by decide) dX3_light_15 ?_
  refine wg_bipush (pc := 18) (v := 6) hX dX3_light_18 rfl ?_
  refine wg_iload_n (pc := 20) hX dX3_light_20 1 rfl ?_
  refine wg_imul (pc := 21) hX dX3_light_21 ?_
  refine wg_aload_n (pc := 22) hX dX3_light_22 0 rfl ?_
  refine wg_iload_n (pc := 23) hX dX3_light_23 1 rfl ?_
  refine wg_iload_n (pc := 24) hX dX3_light_24 2 rfl ?_
  refine wu_ (wg_cVi (pc := 25) (As := [.int a1, .int a2]) (rest := [.int (6 * a1), .ref (rid 82 1)]) hX (m_X3_floorOf a1 a2) (by decide) (by decide) (by decide) rc_X3 (lw_V q2392 q2394 qs97 q163 q2395) hd_X3_floorOf rfl (Nat.le_of_ble_eq_true rfl) (Nat.le_of_ble_eq_true rfl) (Nat.le_of_ble_eq_true rfl) rfl dX3_light_25 fun v3 => ?_)
  refine wg_iadd (pc := 28) hX dX3_light_28 ?_
  refine wu_ (wg_rZ (pc := 29) hX ar_82 dX3_light_29 fun v4 => ?_)
  refine wg_if_eq (pc := 30) (tgt := 35) hX dX3_light_30 (by decide) (fun h5 => ?_) (fun h5 => ?_)
  rotate_left
  · refine wu_f h5 ?_
    refine wg_iconst (pc := 33) (v := 0) hX dX3_light_33 rfl ?_
    exact wu_rt (wg_zret (pc := 34) hX rfl (by decide) rfl dX3_light_34)
  refine wu_t h5 ?_
  refine wg_aload_n (pc := 35) hX dX3_light_35 0 rfl ?_
  refine wg_gK (pc := 36) hX hM0 fd_X3_68 (by decide) dX3_light_36 ?_
  refine wg_bipush (pc := 39) (v := 24) hX dX3_light_39 rfl ?_
  refine wg_iload_n (pc := 41) hX dX3_light_41 1 rfl ?_
  refine wg_imul (pc := 42) hX dX3_light_42 ?_
  refine wg_iload_n (pc := 43) hX dX3_light_43 2 rfl ?_
  refine wg_iadd (pc := 44) hX dX3_light_44 ?_
  refine wg_sipush (pc := 45) (v := 400) hX dX3_light_45 rfl ?_
  refine wg_aload_n (pc := 48) hX dX3_light_48 0 rfl ?_
  refine wg_gK (pc := 49) hX hM0 fd_X3_68 (by decide) dX3_light_49 ?_
  refine wg_bipush (pc := 52) (v := 24) hX dX3_light_52 rfl ?_
  refine wg_iload_n (pc := 54) hX dX3_light_54 1 rfl ?_
  refine wg_imul (pc := 55) hX dX3_light_55 ?_
  refine wg_iload_n (pc := 56) hX dX3_light_56 2 rfl ?_
  refine wg_iadd (pc := 57) hX dX3_light_57 ?_
  refine wu_ (wg_rI (pc := 58) hX ar_74 dX3_light_58 fun v6 => ?_)
  refine wg_mmax (pc := 59) hX q2404 q712 q165 q713 (Nat.le_of_ble_eq_true rfl) (Nat.le_of_ble_eq_true rfl) dX3_light_59 ?_
  refine wu_ (wg_nmi hX fun v7 => ?_)
  refine wu_ (wg_wI (pc := 62) hX ar_74 dX3_light_62 ?_)
  refine wg_aload_n (pc := 63) hX dX3_light_63 0 rfl ?_
  refine wg_aload_n (pc := 64) hX dX3_light_64 0 rfl ?_
  refine wg_gK (pc := 65) hX hM0 fd_X3_32 (by decide) dX3_light_65 ?_
  refine wg_iload_n (pc := 68) hX dX3_light_68 1 rfl ?_
  refine wu_ (wg_rI (pc := 69) hX ar_62 dX3_light_69 fun v8 => ?_)
  refine wu_ (wg_cVv (pc := 70) (As := [.int v8]) (rest := []) hX (m_X3_mark v8) (by decide) (by decide) (by decide) rc_X3 (lw_V q2372 q2374 qs92 q163 q2375) hd_X3_mark rfl (Nat.le_of_ble_eq_true rfl) (Nat.le_of_ble_eq_true rfl) (Nat.le_of_ble_eq_true rfl) rfl dX3_light_70 ?_)
  refine wg_iconst (pc := 73) (v := 1) hX dX3_light_73 rfl ?_
  exact wu_rt (wg_zret (pc := 74) hX rfl (by decide) rfl dX3_light_74)
theorem m_X3_room (a1 : Int32) (a2 : Int32) (a3 : Int32) : amMet yX3_room cX3_room 4 (some .int) 3 77 encI [.ref (rid 1 1), .int a1, .int a2, .int a3] (up (p_X3_room a1 a2 a3)) := by
  refine amMet.of (own := RX3) (by decide) rfl (Nat.le_of_ble_eq_true rfl) fun X hX hPs => ?_
  change WG X encI 0 [(0, .ref (rid 1 1)), (1, .int a1), (2, .int a2), (3, .int a3)] [] (bd1 (up (p_X3_room a1 a2 a3)) rt1)
  unfold p_X3_room
  have hM0 := amPs.m0 hPs
  refine wu_ (wg_gM ?_)
  refine wg_aload_n (pc := 0) hX dX3_room_0 0 rfl ?_
  refine wg_iconst (pc := 1) (v := 0) hX dX3_room_1 rfl ?_
  refine wu_ (wg_pI (pc := 2) hX fp_X3_297 (fun h => by cases h) dX3_room_2 ?_)
  refine wg_aload_n (pc := 5) hX dX3_room_5 0 rfl ?_
  refine wg_iload_n (pc := 6) hX dX3_room_6 1 rfl ?_
  refine wg_iload_n (pc := 7) hX dX3_room_7 2 rfl ?_
  refine wu_ (wg_cVi (pc := 8) (As := [.int a1, .int a2]) (rest := []) hX (m_X3_isRoom a1 a2) (by decide) (by decide) (by decide) rc_X3 (lw_V q2400 q2402 qs98 q163 q2403) hd_X3_isRoom rfl (Nat.le_of_ble_eq_true rfl) (Nat.le_of_ble_eq_true rfl) (Nat.le_of_ble_eq_true rfl) rfl dX3_room_8 fun v1 => ?_)
  refine wg_if_ne (pc := 11) (tgt := 16) hX dX3_room_11 (by decide) (fun h2 => ?_) (fun h2 => ?_)
  · refine wu_t h2 ?_
    refine wg_iconst (pc := 14) (v := (-1)) hX dX3_room_14 rfl ?_
    exact wu_rt (wg_iret (pc := 15) hX rfl rfl dX3_room_15)
  refine wu_f h2 ?_
  refine wg_iload_n (pc := 16) hX dX3_room_16 3 rfl ?_
  refine wg_if_ne (pc := 17) (tgt := 34) hX dX3_room_17 (by decide) (fun h3 => ?_) (fun h3 => ?_)
  · refine wu_t h3 ?_
    refine wg_aload_n (pc := 20) hX dX3_room_20 0 rfl ?_
    refine wg_gK (pc := 21) hX hM0 fd_X3_68 (by decide) dX3_room_21 ?_
    refine wg_bipush (pc := 24) (v := 24) hX dX3_room_24 rfl ?_
    refine wg_iload_n (pc := 26) hX dX3_room_26 1 rfl ?_
    refine wg_imul (pc := 27) hX dX3_room_27 ?_
    refine wg_iload_n (pc := 28) hX dX3_room_28 2 rfl ?_
    refine wg_iadd (pc := 29) hX dX3_room_29 ?_
    refine wu_ (wg_rI (pc := 30) hX ar_74 dX3_room_30 fun v4 => ?_)
    refine wg_goto (pc := 31) (tgt := 76) hX dX3_room_31 (by decide) ?_
    exact wu_rt (wg_iret (pc := 76) hX rfl rfl dX3_room_76)
  refine wu_f h3 ?_
  refine wg_iload_n (pc := 34) hX dX3_room_34 3 rfl ?_
  refine wg_iconst (pc := 35) (v := 1) hX dX3_room_35 rfl ?_
  refine wg_icmp_ne (pc := 36) (tgt := 53) hX dX3_room_36 (by decide) (fun h5 => ?_) (fun h5 => ?_)
  · refine wu_t h5 ?_
    refine wg_aload_n (pc := 39) hX dX3_room_39 0 rfl ?_
    refine wg_gK (pc := 40) hX hM0 fd_X3_71 (by decide) dX3_room_40 ?_
    refine wg_bipush (pc := 43) (v := 24) hX dX3_room_43 rfl ?_
    refine wg_iload_n (pc := 45) hX dX3_room_45 1 rfl ?_
    refine wg_imul (pc := 46) hX dX3_room_46 ?_
    refine wg_iload_n (pc := 47) hX dX3_room_47 2 rfl ?_
    refine wg_iadd (pc := 48) hX dX3_room_48 ?_
    refine wu_ (wg_rI (pc := 49) hX ar_75 dX3_room_49 fun v6 => ?_)
    refine wg_goto (pc := 50) (tgt := 76) hX dX3_room_50 (by decide) ?_
    exact wu_rt (wg_iret (pc := 76) hX rfl rfl dX3_room_76)
  refine wu_f h5 ?_
  refine wg_iload_n (pc := 53) hX dX3_room_53 3 rfl ?_
  refine wg_iconst (pc := 54) (v := 2) hX dX3_room_54 rfl ?_
  refine wg_icmp_ne (pc := 55) (tgt := 75) hX dX3_room_55 (by decide) (fun h7 => ?_) (fun h7 => ?_)
  rotate_left
  · refine wu_f h7 ?_
    refine wg_iconst (pc := 75) (v := (-1)) hX dX3_room_75 rfl ?_
    exact wu_rt (wg_iret (pc := 76) hX rfl rfl dX3_room_76)
  refine wu_t h7 ?_
  refine wg_aload_n (pc := 58) hX dX3_room_58 0 rfl ?_
  refine wg_iload_n (pc := 59) hX dX3_room_59 1 rfl ?_
  refine wg_iload_n (pc := 60) hX dX3_room_60 2 rfl ?_
  refine wu_ (wg_cVi (pc := 61) (As := [.int a1, .int a2]) (rest := []) hX (m_X3_burns a1 a2) (by decide) (by decide) (by decide) rc_X3 (lw_V q2388 q2390 qs96 q163 q2391) hd_X3_burns rfl (Nat.le_of_ble_eq_true rfl) (Nat.le_of_ble_eq_true rfl) (Nat.le_of_ble_eq_true rfl) rfl dX3_room_61 fun v8 => ?_)
  refine wg_if_eq (pc := 64) (tgt := 71) hX dX3_room_64 (by decide) (fun h9 => ?_) (fun h9 => ?_)
  · refine wu_t h9 ?_
    refine wg_iconst (pc := 71) (v := 0) hX dX3_room_71 rfl ?_
    refine wg_goto (pc := 72) (tgt := 76) hX dX3_room_72 (by decide) ?_
    exact wu_rt (wg_iret (pc := 76) hX rfl rfl dX3_room_76)
  refine wu_f h9 ?_
  refine wg_iconst (pc := 67) (v := 1) hX dX3_room_67 rfl ?_
  refine wg_goto (pc := 68) (tgt := 76) hX dX3_room_68 (by decide) ?_
  exact wu_rt (wg_iret (pc := 76) hX rfl rfl dX3_room_76)
theorem m_X3_loadOf (a1 : Int32) (a2 : Int32) : amMet yX3_loadOf cX3_loadOf 3 (some .int) 1 32 encI [.ref (rid 1 1), .int a1, .int a2] (up (p_X3_loadOf a1 a2)) := by
  refine amMet.of (own := RX3) (by decide) rfl (Nat.le_of_ble_eq_true rfl) fun X hX hPs => ?_
  change WG X encI 0 [(0, .ref (rid 1 1)), (1, .int a1), (2, .int a2)] [] (bd1 (up (p_X3_loadOf a1 a2)) rt1)
  unfold p_X3_loadOf
  have hM0 := amPs.m0 hPs
  refine wu_ (wg_gM ?_)
  refine wg_iload_n (pc := 0) hX dX3_loadOf_0 2 rfl ?_
  refine wg_if_ne (pc := 1) (tgt := 8) hX dX3_loadOf_1 (by decide) (fun h1 => ?_) (fun h1 => ?_)
  · refine wu_t h1 ?_
    refine wg_iconst (pc := 4) (v := 0) hX dX3_loadOf_4 rfl ?_
    refine wg_goto (pc := 5) (tgt := 35) hX dX3_loadOf_5 (by decide) ?_
    exact wu_rt (wg_iret (pc := 35) hX rfl rfl dX3_loadOf_35)
  refine wu_f h1 ?_
  refine wg_aload_n (pc := 8) hX dX3_loadOf_8 0 rfl ?_
  refine wg_gK (pc := 9) hX hM0 fd_X3_83 (by decide) dX3_loadOf_9 ?_
  refine wg_bipush (pc := 12) (v := 6) hX dX3_loadOf_12 rfl ?_
  refine wg_iload_n (pc := 14) hX dX3_loadOf_14 1 rfl ?_
  refine wg_imul (pc := 15) hX dX3_loadOf_15 ?_
  refine wg_iload_n (pc := 16) hX dX3_loadOf_16 2 rfl ?_
  refine wg_iadd (pc := 17) hX dX3_loadOf_17 ?_
  refine wu_ (wg_rI (pc := 18) hX ar_79 dX3_loadOf_18 fun v2 => ?_)
  refine wg_iconst (pc := 19) (v := 2) hX dX3_loadOf_19 rfl ?_
  refine wg_aload_n (pc := 20) hX dX3_loadOf_20 0 rfl ?_
  refine wg_gK (pc := 21) hX hM0 fd_X3_83 (by decide) dX3_loadOf_21 ?_
  refine wg_bipush (pc := 24) (v := 6) hX dX3_loadOf_24 rfl ?_
  refine wg_iload_n (pc := 26) hX dX3_loadOf_26 1 rfl ?_
  refine wg_imul (pc := 27) hX dX3_loadOf_27 ?_
  refine wg_iload_n (pc := 28) hX dX3_loadOf_28 2 rfl ?_
  refine wg_iadd (pc := 29) hX dX3_loadOf_29 ?_
  refine wg_iconst (pc := 30) (v := 1) hX dX3_loadOf_30 rfl ?_
  refine wg_isub (pc := 31) hX dX3_loadOf_31 ?_
  refine wu_ (wg_rI (pc := 32) hX ar_79 dX3_loadOf_32 fun v3 => ?_)
  refine wg_imul (pc := 33) hX dX3_loadOf_33 ?_
  refine wg_iadd (pc := 34) hX dX3_loadOf_34 ?_
  exact wu_rt (wg_iret (pc := 35) hX rfl rfl dX3_loadOf_35)
theorem m_X3_floored (a1 : Int32) (a2 : Int32) (a3 : Int32) : amMet yX3_floored cX3_floored 5 (some .int) 3 75 encI [.ref (rid 1 1), .int a1, .int a2, .int a3] (up (p_X3_floored a1 a2 a3)) := by
  refine amMet.of (own := RX3) (by decide) rfl (Nat.le_of_ble_eq_true rfl) fun X hX hPs => ?_
  change WG X encI 0 [(0, .ref (rid 1 1)), (1, .int a1), (2, .int a2), (3, .int a3)] [] (bd1 (up (p_X3_floored a1 a2 a3)) rt1)
  unfold p_X3_floored
  have hM0 := amPs.m0 hPs
  refine wu_ (wg_gM ?_)
  refine wg_aload_n (pc := 0) hX dX3_floored_0 0 rfl ?_
  refine wg_iconst (pc := 1) (v := 0) hX dX3_floored_1 rfl ?_
  refine wu_ (wg_pI (pc := 2) hX fp_X3_297 (fun h => by cases h) dX3_floored_2 ?_)
  refine wg_aload_n (pc := 5) hX dX3_floored_5 0 rfl ?_
  refine wg_iload_n (pc := 6) hX dX3_floored_6 1 rfl ?_
  refine wg_iload_n (pc := 7) hX dX3_floored_7 2 rfl ?_
  refine wu_ (wg_cVi (pc := 8) (As := [.int a1, .int a2]) (rest := []) hX (m_X3_isFloor a1 a2) (by decide) (by decide) (by decide) rc_X3 (lw_V q2368 q2370 qs91 q163 q2371) hd_X3_isFloor rfl (Nat.le_of_ble_eq_true rfl) (Nat.le_of_ble_eq_true rfl) (Nat.le_of_ble_eq_true rfl) rfl dX3_floored_8 fun v1 => ?_)
  refine wg_if_ne (pc := 11) (tgt := 16) hX dX3_floored_11 (by decide) (fun h2 => ?_) (fun h2 => ?_)
  · refine wu_t h2 ?_
    refine wg_iconst (pc := 14) (v := (-1)) hX dX3_floored_14 rfl ?_
    exact wu_rt (wg_iret (pc := 15) hX rfl rfl dX3_floored_15)
  refine wu_f h2 ?_
  refine wg_bipush (pc := 16) (v := 6) hX dX3_floored_16 rfl ?_
  refine wg_iload_n (pc := 18) hX dX3_floored_18 1 rfl ?_
  refine wg_imul (pc := 19) hX dX3_floored_19 ?_
  refine wg_iload_n (pc := 20) hX dX3_floored_20 2 rfl ?_
  refine wg_iadd (pc := 21) hX dX3_floored_21 ?_
  refine wu_ (wg_nmi hX fun v3 => ?_)
  refine wg_istore (pc := 22) (l' := [(0, .ref (rid 1 1)), (1, .int a1), (2, .int a2), (3, .int a3), (4, .int v3)]) hX dX3_floored_22 (by decide) rfl ?_
  refine wg_iload_n (pc := 24) hX dX3_floored_24 3 rfl ?_
  by_cases h4 : a3 = 0
  · refine wu_t h4 ?_
    refine wg_tableIn (pc := 25) hX dX3_floored_25 (by rw [h4]; decide) (by rw [h4]; decide) (by rw [h4]; rfl) (by decide : ((25 : Nat) : Int) + 31 = ((56 : Nat) : Int)) ?_
    refine wg_aload_n (pc := 56) hX dX3_floored_56 0 rfl ?_
    refine wg_gK (pc := 57) hX hM0 fd_X3_83 (by decide) dX3_floored_57 ?_
    refine wg_iload (pc := 60) hX dX3_floored_60 4 rfl ?_
    refine wu_ (wg_rI (pc := 62) hX ar_79 dX3_floored_62 fun v5 => ?_)
    exact wu_rt (wg_iret (pc := 63) hX rfl rfl dX3_floored_63)
  refine wu_f h4 ?_
  by_cases h6 : a3 = 1
  · refine wu_t h6 ?_
    refine wg_tableIn (pc := 25) hX dX3_floored_25 (by rw [h6]; decide) (by rw [h6]; decide) (by rw [h6]; rfl) (by decide : ((25 : Nat) : Int) + 39 = ((64 : Nat) : Int)) ?_
    refine wg_aload_n (pc := 64) hX dX3_floored_64 0 rfl ?_
    refine wg_gK (pc := 65) hX hM0 fd_X3_92 (by decide) dX3_floored_65 ?_
    refine wg_iload (pc := 68) hX dX3_floored_68 4 rfl ?_
    refine wu_ (wg_rZ (pc := 70) hX ar_82 dX3_floored_70 fun v7 => ?_)
    refine wg_if_eq (pc := 71) (tgt := 78) hX dX3_floored_71 (by decide) (fun h8 => ?_) (fun h8 => ?_)
    · refine wu_t h8 ?_
      refine wg_iconst (pc := 78) (v := 0) hX dX3_floored_78 rfl ?_
      exact wu_rt (wg_iret (pc := 79) hX rfl rfl dX3_floored_79)
    refine wu_f h8 ?_
    refine wg_iconst (pc := 74) (v := 1) hX dX3_floored_74 rfl ?_
    refine wg_goto (pc := 75) (tgt := 79) hX dX3_floored_75 (by decide) ?_
    exact wu_rt (wg_iret (pc := 79) hX rfl rfl dX3_floored_79)
  refine wu_f h6 ?_
  by_cases h9 : a3 = 2
  · refine wu_t h9 ?_
    refine wg_tableIn (pc := 25) hX dX3_floored_25 (by rw [h9]; decide) (by rw [h9]; decide) (by rw [h9]; rfl) (by decide : ((25 : Nat) : Int) + 55 = ((80 : Nat) : Int)) ?_
    refine wg_aload_n (pc := 80) hX dX3_floored_80 0 rfl ?_
    refine wg_gK (pc := 81) hX hM0 fd_X3_86 (by decide) dX3_floored_81 ?_
    refine wg_iload (pc := 84) hX dX3_floored_84 4 rfl ?_
    refine wu_ (wg_rI (pc := 86) hX ar_80 dX3_floored_86 fun v10 => ?_)
    exact wu_rt (wg_iret (pc := 87) hX rfl rfl dX3_floored_87)
  refine wu_f h9 ?_
  by_cases h11 : a3 = 3
  · refine wu_t h11 ?_
    refine wg_tableIn (pc := 25) hX dX3_floored_25 (by rw [h11]; decide) (by rw [h11]; decide) (by rw [h11]; rfl) (by decide : ((25 : Nat) : Int) + 63 = ((88 : Nat) : Int)) ?_
    refine wg_aload_n (pc := 88) hX dX3_floored_88 0 rfl ?_
    refine wg_iload_n (pc := 89) hX dX3_floored_89 1 rfl ?_
    refine wg_iload_n (pc := 90) hX dX3_floored_90 2 rfl ?_
    refine wu_ (wg_cVi (pc := 91) (As := [.int a1, .int a2]) (rest := []) hX (m_X3_loadOf a1 a2) (by decide) (by decide) (by decide) rc_X3 (lw_V q2413 q2415 qs99 q163 q2416) hd_X3_loadOf rfl (Nat.le_of_ble_eq_true rfl) (Nat.le_of_ble_eq_true rfl) (Nat.le_of_ble_eq_true rfl) rfl dX3_floored_91 fun v12 => ?_)
    exact wu_rt (wg_iret (pc := 94) hX rfl rfl dX3_floored_94)
  refine wu_f h11 ?_
  refine wg_tableOut (pc := 25) hX dX3_floored_25 (am_out4 h4 h6 h9 h11) (by decide : ((25 : Nat) : Int) + 70 = ((95 : Nat) : Int)) ?_
  refine wg_iconst (pc := 95) (v := (-1)) hX dX3_floored_95 rfl ?_
  exact wu_rt (wg_iret (pc := 96) hX rfl rfl dX3_floored_96)
theorem m_X3_burntOf (a1 : Int32) : amMet yX3_burntOf cX3_burntOf 4 (some .int) 1 32 encI [.ref (rid 1 1), .int a1] (up (p_X3_burntOf a1)) := by
  refine amMet.of (own := RX3) (by decide) rfl (Nat.le_of_ble_eq_true rfl) fun X hX hPs => ?_
  change WG X encI 0 [(0, .ref (rid 1 1)), (1, .int a1)] [] (bd1 (up (p_X3_burntOf a1)) rt1)
  unfold p_X3_burntOf
  have hM0 := amPs.m0 hPs
  refine wu_ (wg_gM ?_)
  refine wg_iconst (pc := 0) (v := 0) hX dX3_burntOf_0 rfl ?_
  refine wg_istore_n (pc := 1) (l' := [(0, .ref (rid 1 1)), (1, .int a1), (2, .int 0)]) hX dX3_burntOf_1 (by decide) rfl ?_
  refine wg_iconst (pc := 2) (v := 0) hX dX3_burntOf_2 rfl ?_
  refine wg_istore_n (pc := 3) (l' := [(0, .ref (rid 1 1)), (1, .int a1), (2, .int 0), (3, .int 0)]) hX dX3_burntOf_3 (by decide) rfl ?_
  refine wu_lpx (α := Int32 × Int32) (γ := Int32) (pcl := 4) (pcT := 34) (lo := fun x => [(0, .ref (rid 1 1)), (1, .int a1), (2, .int x.1), (3, .int x.2)]) (so := fun _ => []) (lT := fun x => [(2, .int x)]) (sT := fun _ => []) (n := amFu) (x0 := (0, 0)) (fun K1 rec1 hrec1 hk1 x1 => ?_) (fun y2 => ?_)
  · unfold p_X3_burntOf_L4
    refine wg_iload_n (pc := 4) hX dX3_burntOf_4 3 rfl ?_
    refine wg_aload_n (pc := 5) hX dX3_burntOf_5 0 rfl ?_
    refine wg_gK (pc := 6) hX hM0 fd_X3_38 (by decide) dX3_burntOf_6 ?_
    refine wg_iload_n (pc := 9) hX dX3_burntOf_9 1 rfl ?_
    refine wu_ (wg_rI (pc := 10) hX ar_64 dX3_burntOf_10 fun v3 => ?_)
    refine wg_icmp_ge (pc := 11) (tgt := 34) hX dX3_burntOf_11 (by decide) (fun h4 => ?_) (fun h4 => ?_)
    · refine wu_t h4 ?_
      refine wg_sub hX [2] rfl ?_
      exact wu_rt (hk1 x1.1)
    refine wu_f h4 ?_
    refine wg_iload_n (pc := 14) hX dX3_burntOf_14 2 rfl ?_
    refine wg_aload_n (pc := 15) hX dX3_burntOf_15 0 rfl ?_
    refine wg_gK (pc := 16) hX hM0 fd_X3_83 (by decide) dX3_burntOf_16 ?_
    refine wg_bipush (pc := 19) (v := 6) hX dX3_burntOf_19 rfl ?_
    refine wg_iload_n (pc := 21) hX dX3_burntOf_21 1 rfl ?_
    refine wg_imul (pc := 22) hX dX3_burntOf_22 ?_
    refine wg_iload_n (pc := 23) hX dX3_burntOf_23 3 rfl ?_
    refine wg_iadd (pc := 24) hX dX3_burntOf_24 ?_
    refine wu_ (wg_rI (pc := 25) hX ar_79 dX3_burntOf_25 fun v5 => ?_)
    refine wg_iadd (pc := 26) hX dX3_burntOf_26 ?_
    refine wu_ (wg_nmi hX fun v6 => ?_)
    refine wg_istore_n (pc := 27) (l' := [(0, .ref (rid 1 1)), (1, .int a1), (2, .int v6), (3, .int x1.2)]) hX dX3_burntOf_27 (by decide) rfl ?_
    refine wg_iinc (pc := 28) (v := (x1.2 + 1)) (l' := [(0, .ref (rid 1 1)), (1, .int a1), (2, .int v6), (3, .int (x1.2 + 1))]) hX dX3_burntOf_28 3 rfl rfl (by decide) rfl ?_
    refine wg_goto (pc := 31) (tgt := 4) hX dX3_burntOf_31 (by decide) ?_
    exact hrec1 (v6, (x1.2 + 1))
  refine wg_iload_n (pc := 34) hX dX3_burntOf_34 0 rfl ?_
  exact wu_rt (wg_iret (pc := 35) hX rfl rfl dX3_burntOf_35)
theorem m_X3_housed (a1 : Int32) (a2 : Int32) : amMet yX3_housed cX3_housed 5 (some .int) 4 100 encI [.ref (rid 1 1), .int a1, .int a2] (up (p_X3_housed a1 a2)) := by
  refine amMet.of (own := RX3) (by decide) rfl (Nat.le_of_ble_eq_true rfl) fun X hX hPs => ?_
  change WG X encI 0 [(0, .ref (rid 1 1)), (1, .int a1), (2, .int a2)] [] (bd1 (up (p_X3_housed a1 a2)) rt1)
  unfold p_X3_housed
  have hM0 := amPs.m0 hPs
  refine wu_ (wg_gM ?_)
  refine wg_aload_n (pc := 0) hX dX3_housed_0 0 rfl ?_
  refine wg_iconst (pc := 1) (v := 0) hX dX3_housed_1 rfl ?_
  refine wu_ (wg_pI (pc := 2) hX fp_X3_297 (fun h => by cases h) dX3_housed_2 ?_)
  refine wg_aload_n (pc := 5) hX dX3_housed_5 0 rfl ?_
  refine wg_iload_n (pc := 6) hX dX3_housed_6 1 rfl ?_
  refine wu_ (wg_cVi (pc := 7) (As := [.int a1]) (rest := []) hX (m_X3_isHouse a1) (by decide) (by decide) (by decide) rc_X3 (lw_V q2360 q2362 qs90 q163 q2363) hd_X3_isHouse rfl (Nat.le_of_ble_eq_true rfl) (Nat.le_of_ble_eq_true rfl) (Nat.le_of_ble_eq_true rfl) rfl dX3_housed_7 fun v1 => ?_)
  refine wg_if_ne (pc := 10) (tgt := 15) hX dX3_housed_10 (by decide) (fun h2 => ?_) (fun h2 => ?_)
  · refine wu_t h2 ?_
    refine wg_iconst (pc := 13) (v := (-1)) hX dX3_housed_13 rfl ?_
    exact wu_rt (wg_iret (pc := 14) hX rfl rfl dX3_housed_14)
  refine wu_f h2 ?_
  refine wg_iconst (pc := 15) (v := 0) hX dX3_housed_15 rfl ?_
  refine wg_istore_n (pc := 16) (l' := [(0, .ref (rid 1 1)), (1, .int a1), (2, .int a2), (3, .int 0)]) hX dX3_housed_16 (by decide) rfl ?_
  refine wg_iload_n (pc := 17) hX dX3_housed_17 2 rfl ?_
  by_cases h3 : a2 = 0
  · refine wu_t h3 ?_
    refine wg_tableIn (pc := 18) hX dX3_housed_18 (by rw [h3]; decide) (by rw [h3]; decide) (by rw [h3]; rfl) (by decide : ((18 : Nat) : Int) + 42 = ((60 : Nat) : Int)) ?_
    refine wg_aload_n (pc := 60) hX dX3_housed_60 0 rfl ?_
    refine wg_iload_n (pc := 61) hX dX3_housed_61 1 rfl ?_
    refine wu_ (wg_cVi (pc := 62) (As := [.int a1]) (rest := []) hX (m_X3_burning a1) (by decide) (by decide) (by decide) rc_X3 (lw_V q2384 q2386 qs95 q163 q2387) hd_X3_burning rfl (Nat.le_of_ble_eq_true rfl) (Nat.le_of_ble_eq_true rfl) (Nat.le_of_ble_eq_true rfl) rfl dX3_housed_62 fun v4 => ?_)
    exact wu_rt (wg_iret (pc := 65) hX rfl rfl dX3_housed_65)
  refine wu_f h3 ?_
  by_cases h5 : a2 = 1
  · refine wu_t h5 ?_
    refine wg_tableIn (pc := 18) hX dX3_housed_18 (by rw [h5]; decide) (by rw [h5]; decide) (by rw [h5]; rfl) (by decide : ((18 : Nat) : Int) + 48 = ((66 : Nat) : Int)) ?_
    refine wg_aload_n (pc := 66) hX dX3_housed_66 0 rfl ?_
    refine wg_iload_n (pc := 67) hX dX3_housed_67 1 rfl ?_
    refine wu_ (wg_cVi (pc := 68) (As := [.int a1]) (rest := []) hX (m_X3_burntOf a1) (by decide) (by decide) (by decide) rc_X3 (lw_V q2421 q2423 qs100 q163 q2424) hd_X3_burntOf rfl (Nat.le_of_ble_eq_true rfl) (Nat.le_of_ble_eq_true rfl) (Nat.le_of_ble_eq_true rfl) rfl dX3_housed_68 fun v6 => ?_)
    exact wu_rt (wg_iret (pc := 71) hX rfl rfl dX3_housed_71)
  refine wu_f h5 ?_
  by_cases h7 : a2 = 2
  · refine wu_t h7 ?_
    refine wg_tableIn (pc := 18) hX dX3_housed_18 (by rw [h7]; decide) (by rw [h7]; decide) (by rw [h7]; rfl) (by decide : ((18 : Nat) : Int) + 54 = ((72 : Nat) : Int)) ?_
    refine wg_aload_n (pc := 72) hX dX3_housed_72 0 rfl ?_
    refine wg_gK (pc := 73) hX hM0 fd_X3_56 (by decide) dX3_housed_73 ?_
    refine wg_iload_n (pc := 76) hX dX3_housed_76 1 rfl ?_
    refine wu_ (wg_rI (pc := 77) hX ar_70 dX3_housed_77 fun v8 => ?_)
    exact wu_rt (wg_iret (pc := 78) hX rfl rfl dX3_housed_78)
  refine wu_f h7 ?_
  by_cases h9 : a2 = 3
  · refine wu_t h9 ?_
    refine wg_tableIn (pc := 18) hX dX3_housed_18 (by rw [h9]; decide) (by rw [h9]; decide) (by rw [h9]; rfl) (by decide : ((18 : Nat) : Int) + 61 = ((79 : Nat) : Int)) ?_
    refine wg_aload_n (pc := 79) hX dX3_housed_79 0 rfl ?_
    refine wg_gK (pc := 80) hX hM0 fd_X3_59 (by decide) dX3_housed_80 ?_
    refine wg_iload_n (pc := 83) hX dX3_housed_83 1 rfl ?_
    refine wu_ (wg_rI (pc := 84) hX ar_71 dX3_housed_84 fun v10 => ?_)
    exact wu_rt (wg_iret (pc := 85) hX rfl rfl dX3_housed_85)
  refine wu_f h9 ?_
  by_cases h11 : a2 = 4
  · refine wu_t h11 ?_
    refine wg_tableIn (pc := 18) hX dX3_housed_18 (by rw [h11]; decide) (by rw [h11]; decide) (by rw [h11]; rfl) (by decide : ((18 : Nat) : Int) + 68 = ((86 : Nat) : Int)) ?_
    refine wg_iconst (pc := 86) (v := 0) hX dX3_housed_86 rfl ?_
    refine wg_istore (pc := 87) (l' := [(0, .ref (rid 1 1)), (1, .int a1), (2, .int a2), (3, .int 0), (4, .int 0)]) hX dX3_housed_87 (by decide) rfl ?_
    refine wg_sub hX [0, 1, 3, 4] rfl ?_
    refine wu_lpx (α := Int32 × Int32) (γ := Int32) (pcl := 89) (pcT := 129) (lo := fun x => [(0, .ref (rid 1 1)), (1, .int a1), (3, .int x.1), (4, .int x.2)]) (so := fun _ => []) (lT := fun x => [(3, .int x)]) (sT := fun _ => []) (n := amFu) (x0 := (0, 0)) (fun K12 rec12 hrec12 hk12 x12 => ?_) (fun y13 => ?_)
    · unfold p_X3_housed_L89
      refine wg_iload (pc := 89) hX dX3_housed_89 3 rfl ?_
      refine wg_aload_n (pc := 91) hX dX3_housed_91 0 rfl ?_
      refine wg_gK (pc := 92) hX hM0 fd_X3_38 (by decide) dX3_housed_92 ?_
      refine wg_iload_n (pc := 95) hX dX3_housed_95 1 rfl ?_
      refine wu_ (wg_rI (pc := 96) hX ar_64 dX3_housed_96 fun v14 => ?_)
      refine wg_icmp_ge (pc := 97) (tgt := 129) hX dX3_housed_97 (by decide) (fun h15 => ?_) (fun h15 => ?_)
      · refine wu_t h15 ?_
        refine wg_sub hX [2] rfl ?_
        exact wu_rt (hk12 x12.1)
      refine wu_f h15 ?_
      refine wg_iload_n (pc := 100) hX dX3_housed_100 2 rfl ?_
      refine wg_aload_n (pc := 101) hX dX3_housed_101 0 rfl ?_
      refine wg_gK (pc := 102) hX hM0 fd_X3_92 (by decide) dX3_housed_102 ?_
      refine wg_bipush (pc := 105) (v := 6) hX dX3_housed_105 rfl ?_
      refine wg_iload_n (pc := 107) hX dX3_housed_107 1 rfl ?_
      refine wg_imul (pc := 108) hX dX3_housed_108 ?_
      refine wg_iload (pc := 109) hX dX3_housed_109 3 rfl ?_
      refine wg_iadd (pc := 111) hX dX3_housed_111 ?_
      refine wu_ (wg_rZ (pc := 112) hX ar_82 dX3_housed_112 fun v16 => ?_)
      refine wu_jx (α := Int32) (pcJ := 121) (lJ := fun x => [(0, .ref (rid 1 1)), (1, .int a1), (4, .int x12.2)]) (sJ := fun x => [.int x, .int x12.1]) (fun K17 hk17 => ?_) (fun z17 => ?_)
      · refine wg_if_eq (pc := 113) (tgt := 120) hX dX3_housed_113 (by decide) (fun h18 => ?_) (fun h18 => ?_)
        · refine wu_t h18 ?_
          refine wg_iconst (pc := 120) (v := 0) hX dX3_housed_120 rfl ?_
          refine wg_sub hX [0, 1, 3] rfl ?_
          exact wu_rt (hk17 0)
        refine wu_f h18 ?_
        refine wg_iconst (pc := 116) (v := 1) hX dX3_housed_116 rfl ?_
        refine wg_goto (pc := 117) (tgt := 121) hX dX3_housed_117 (by decide) ?_
        refine wg_sub hX [0, 1, 3] rfl ?_
        exact wu_rt (hk17 1)
      refine wg_iadd (pc := 121) hX dX3_housed_121 ?_
      refine wu_ (wg_nmi hX fun v19 => ?_)
      refine wg_istore_n (pc := 122) (l' := [(0, .ref (rid 1 1)), (1, .int a1), (3, .int v19), (4, .int x12.2)]) hX dX3_housed_122 (by decide) rfl ?_
      refine wg_iinc (pc := 123) (v := (x12.2 + 1)) (l' := [(0, .ref (rid 1 1)), (1, .int a1), (3, .int v19), (4, .int (x12.2 + 1))]) hX dX3_housed_123 3 rfl rfl (by decide) rfl ?_
      refine wg_goto (pc := 126) (tgt := 89) hX dX3_housed_126 (by decide) ?_
      exact hrec12 (v19, (x12.2 + 1))
    refine wg_iload_n (pc := 129) hX dX3_housed_129 0 rfl ?_
    exact wu_rt (wg_iret (pc := 130) hX rfl rfl dX3_housed_130)
  refine wu_f h11 ?_
  by_cases h20 : a2 = 5
  · refine wu_t h20 ?_
    refine wg_tableIn (pc := 18) hX dX3_housed_18 (by rw [h20]; decide) (by rw [h20]; decide) (by rw [h20]; rfl) (by decide : ((18 : Nat) : Int) + 113 = ((131 : Nat) : Int)) ?_
    refine wg_iconst (pc := 131) (v := 0) hX dX3_housed_131 rfl ?_
    refine wg_istore (pc := 132) (l' := [(0, .ref (rid 1 1)), (1, .int a1), (2, .int a2), (3, .int 0), (4, .int 0)]) hX dX3_housed_132 (by decide) rfl ?_
    refine wg_sub hX [0, 1, 3, 4] rfl ?_
    refine wu_lpx (α := Int32 × Int32) (γ := Int32) (pcl := 134) (pcT := 179) (lo := fun x => [(0, .ref (rid 1 1)), (1, .int a1), (3, .int x.1), (4, .int x.2)]) (so := fun _ => []) (lT := fun x => [(3, .int x)]) (sT := fun _ => []) (n := amFu) (x0 := (0, 0)) (fun K21 rec21 hrec21 hk21 x21 => ?_) (fun y22 => ?_)
    · unfold p_X3_housed_L134
      refine wg_iload (pc := 134) hX dX3_housed_134 3 rfl ?_
      refine wg_aload_n (pc := 136) hX dX3_housed_136 0 rfl ?_
      refine wu_ (wg_gI (pc := 137) hX fd_X3_366 dX3_housed_137 fun v23 => ?_)
      refine wg_icmp_ge (pc := 140) (tgt := 179) hX dX3_housed_140 (by decide) (fun h24 => ?_) (fun h24 => ?_)
      · refine wu_t h24 ?_
        refine wg_sub hX [2] rfl ?_
        exact wu_rt (hk21 x21.1)
      refine wu_f h24 ?_
      refine wg_iload_n (pc := 143) hX dX3_housed_143 2 rfl ?_
      refine wg_aload_n (pc := 144) hX dX3_housed_144 0 rfl ?_
      refine wg_gK (pc := 145) hX hM0 fd_X3_128 (by decide) dX3_housed_145 ?_
      refine wg_iload (pc := 148) hX dX3_housed_148 3 rfl ?_
      refine wu_ (wg_rI (pc := 150) hX ar_94 dX3_housed_150 fun v25 => ?_)
      refine wg_iconst (pc := 151) (v := 2) hX dX3_housed_151 rfl ?_
      refine wu_jx (α := Int32) (pcJ := 171) (lJ := fun x => [(0, .ref (rid 1 1)), (1, .int a1), (4, .int x21.2)]) (sJ := fun x => [.int x, .int x21.1]) (fun K26 hk26 => ?_) (fun z26 => ?_)
      · refine wu_jn (α := Unit) (pcJ := 170) (lJ := fun x => [(0, .ref (rid 1 1)), (1, .int a1), (4, .int x21.2)]) (sJ := fun x => [.int x21.1]) (fun k27 hk27 => ?_) (fun z27 => ?_)
        · refine wg_icmp_ne (pc := 152) (tgt := 170) hX dX3_housed_152 (by decide) (fun h28 => ?_) (fun h28 => ?_)
          rotate_left
          · refine wu_f h28 ?_
            refine wg_sub hX [0, 1, 3] rfl ?_
            exact hk27 ()
          refine wu_t h28 ?_
          refine wg_aload_n (pc := 155) hX dX3_housed_155 0 rfl ?_
          refine wg_gK (pc := 156) hX hM0 fd_X3_140 (by decide) dX3_housed_156 ?_
          refine wg_iload (pc := 159) hX dX3_housed_159 3 rfl ?_
          refine wu_ (wg_rI (pc := 161) hX ar_98 dX3_housed_161 fun v29 => ?_)
          refine wg_iload_n (pc := 162) hX dX3_housed_162 1 rfl ?_
          refine wg_icmp_ne (pc := 163) (tgt := 170) hX dX3_housed_163 (by decide) (fun h30 => ?_) (fun h30 => ?_)
          rotate_left
          · refine wu_f h30 ?_
            refine wg_sub hX [0, 1, 3] rfl ?_
            exact hk27 ()
          refine wu_t h30 ?_
          refine wg_iconst (pc := 166) (v := 1) hX dX3_housed_166 rfl ?_
          refine wg_goto (pc := 167) (tgt := 171) hX dX3_housed_167 (by decide) ?_
          refine wg_sub hX [0, 1, 3] rfl ?_
          exact wu_rt (hk26 1)
        refine wg_iconst (pc := 170) (v := 0) hX dX3_housed_170 rfl ?_
        exact wu_rt (hk26 0)
      refine wg_iadd (pc := 171) hX dX3_housed_171 ?_
      refine wu_ (wg_nmi hX fun v31 => ?_)
      refine wg_istore_n (pc := 172) (l' := [(0, .ref (rid 1 1)), (1, .int a1), (3, .int v31), (4, .int x21.2)]) hX dX3_housed_172 (by decide) rfl ?_
      refine wg_iinc (pc := 173) (v := (x21.2 + 1)) (l' := [(0, .ref (rid 1 1)), (1, .int a1), (3, .int v31), (4, .int (x21.2 + 1))]) hX dX3_housed_173 3 rfl rfl (by decide) rfl ?_
      refine wg_goto (pc := 176) (tgt := 134) hX dX3_housed_176 (by decide) ?_
      exact hrec21 (v31, (x21.2 + 1))
    refine wg_iload_n (pc := 179) hX dX3_housed_179 0 rfl ?_
    exact wu_rt (wg_iret (pc := 180) hX rfl rfl dX3_housed_180)
  refine wu_f h20 ?_
  by_cases h32 : a2 = 6
  · refine wu_t h32 ?_
    refine wg_tableIn (pc := 18) hX dX3_housed_18 (by rw [h32]; decide) (by rw [h32]; decide) (by rw [h32]; rfl) (by decide : ((18 : Nat) : Int) + 163 = ((181 : Nat) : Int)) ?_
    refine wg_aload_n (pc := 181) hX dX3_housed_181 0 rfl ?_
    refine wg_gK (pc := 182) hX hM0 fd_X3_62 (by decide) dX3_housed_182 ?_
    refine wg_iload_n (pc := 185) hX dX3_housed_185 1 rfl ?_
    refine wu_ (wg_rI (pc := 186) hX ar_72 dX3_housed_186 fun v33 => ?_)
    exact wu_rt (wg_iret (pc := 187) hX rfl rfl dX3_housed_187)
  refine wu_f h32 ?_
  refine wg_tableOut (pc := 18) hX dX3_housed_18 (am_out7 h3 h5 h7 h9 h11 h20 h32) (by decide : ((18 : Nat) : Int) + 170 = ((188 : Nat) : Int)) ?_
  refine wg_iconst (pc := 188) (v := (-1)) hX dX3_housed_188 rfl ?_
  exact wu_rt (wg_iret (pc := 189) hX rfl rfl dX3_housed_189)
theorem m_X3_main (a1 : Int32) : amMet yX3_main cX3_main 2 (some .int) 2 54 encI [.ref (rid 1 1), .int a1] (up (p_X3_main a1)) := by
  refine amMet.of (own := RX3) (by decide) rfl (Nat.le_of_ble_eq_true rfl) fun X hX hPs => ?_
  change WG X encI 0 [(0, .ref (rid 1 1)), (1, .int a1)] [] (bd1 (up (p_X3_main a1)) rt1)
  unfold p_X3_main
  have hM0 := amPs.m0 hPs
  refine wu_ (wg_gM ?_)
  refine wg_aload_n (pc := 0) hX dX3_main_0 0 rfl ?_
  refine wg_iconst (pc := 1) (v := 0) hX dX3_main_1 rfl ?_
  refine wu_ (wg_pI (pc := 2) hX fp_X3_297 (fun h => by cases h) dX3_main_2 ?_)
  refine wg_aload_n (pc := 5) hX dX3_main_5 0 rfl ?_
  refine wu_ (wg_gI (pc := 6) hX fd_X3_386 dX3_main_6 fun v1 => ?_)
  refine wg_bipush (pc := 9) (v := 6) hX dX3_main_9 rfl ?_
  refine wg_icmp_eq (pc := 11) (tgt := 26) hX dX3_main_11 (by decide) (fun h2 => ?_) (fun h2 => ?_)
  · refine wu_t h2 ?_
    refine wg_iconst (pc := 26) (v := (-1)) hX dX3_main_26 rfl ?_
    exact wu_rt (wg_iret (pc := 27) hX rfl rfl dX3_main_27)
  refine wu_f h2 ?_
  refine wg_iload_n (pc := 14) hX dX3_main_14 1 rfl ?_
  refine wg_bipush (pc := 15) (v := 10) hX dX3_main_15 rfl ?_
  refine wg_sipush (pc := 17) (v := 2000) hX dX3_main_17 rfl ?_
  refine wu_ (wg_cSi (pc := 20) (As := [.int a1, .int 10, .int 2000]) (rest := []) hX (m_X3_isIn a1 10 2000) (lw_S q2317 q2318 q163 q2319) hd_X3_isIn rfl (Nat.le_of_ble_eq_true rfl) (Nat.le_of_ble_eq_true rfl) (Nat.le_of_ble_eq_true rfl) rfl dX3_main_20 fun v3 => ?_)
  refine wg_if_ne (pc := 23) (tgt := 28) hX dX3_main_23 (by decide) (fun h4 => ?_) (fun h4 => ?_)
  · refine wu_t h4 ?_
    refine wg_iconst (pc := 26) (v := (-1)) hX dX3_main_26 rfl ?_
    exact wu_rt (wg_iret (pc := 27) hX rfl rfl dX3_main_27)
  refine wu_f h4 ?_
  refine wg_aload_n (pc := 28) hX dX3_main_28 0 rfl ?_
  refine wg_gK (pc := 29) hX hM0 fd_X3_95 (by decide) dX3_main_29 ?_
  refine wg_aload_n (pc := 32) hX dX3_main_32 0 rfl ?_
  refine wu_ (wg_gI (pc := 33) hX fd_X3_386 dX3_main_33 fun v5 => ?_)
  refine wg_iload_n (pc := 36) hX dX3_main_36 1 rfl ?_
  refine wu_ (wg_wI (pc := 37) hX ar_83 dX3_main_37 ?_)
  refine wg_aload_n (pc := 38) hX dX3_main_38 0 rfl ?_
  refine wg_dup (pc := 39) hX dX3_main_39 rfl ?_
  refine wu_ (wg_gI (pc := 40) hX fd_X3_386 dX3_main_40 fun v6 => ?_)
  refine wg_iconst (pc := 43) (v := 1) hX dX3_main_43 rfl ?_
  refine wg_iadd (pc := 44) hX dX3_main_44 ?_
  refine wu_ (wg_pI (pc := 45) hX fp_X3_386 (fun h => by cases h) dX3_main_45 ?_)
  refine wg_aload_n (pc := 48) hX dX3_main_48 0 rfl ?_
  refine wu_ (wg_gI (pc := 49) hX fd_X3_386 dX3_main_49 fun v7 => ?_)
  refine wg_iconst (pc := 52) (v := 1) hX dX3_main_52 rfl ?_
  refine wg_isub (pc := 53) hX dX3_main_53 ?_
  exact wu_rt (wg_iret (pc := 54) hX rfl rfl dX3_main_54)
theorem m_X3_head (a1 : Int32) (a2 : Int32) : amMet yX3_head cX3_head 3 (some .int) 2 54 encI [.ref (rid 1 1), .int a1, .int a2] (up (p_X3_head a1 a2)) := by
  refine amMet.of (own := RX3) (by decide) rfl (Nat.le_of_ble_eq_true rfl) fun X hX hPs => ?_
  change WG X encI 0 [(0, .ref (rid 1 1)), (1, .int a1), (2, .int a2)] [] (bd1 (up (p_X3_head a1 a2)) rt1)
  unfold p_X3_head
  have hM0 := amPs.m0 hPs
  refine wu_ (wg_gM ?_)
  refine wg_aload_n (pc := 0) hX dX3_head_0 0 rfl ?_
  refine wg_iconst (pc := 1) (v := 0) hX dX3_head_1 rfl ?_
  refine wu_ (wg_pI (pc := 2) hX fp_X3_297 (fun h => by cases h) dX3_head_2 ?_)
  refine wg_aload_n (pc := 5) hX dX3_head_5 0 rfl ?_
  refine wu_ (wg_gI (pc := 6) hX fd_X3_389 dX3_head_6 fun v1 => ?_)
  refine wg_bipush (pc := 9) (v := 20) hX dX3_head_9 rfl ?_
  refine wg_icmp_eq (pc := 11) (tgt := 35) hX dX3_head_11 (by decide) (fun h2 => ?_) (fun h2 => ?_)
  · refine wu_t h2 ?_
    refine wg_iconst (pc := 35) (v := (-1)) hX dX3_head_35 rfl ?_
    exact wu_rt (wg_iret (pc := 36) hX rfl rfl dX3_head_36)
  refine wu_f h2 ?_
  refine wg_iload_n (pc := 14) hX dX3_head_14 1 rfl ?_
  refine wu_ (wg_cSi (pc := 15) (As := [.int a1]) (rest := []) hX (m_X3_isCorner a1) (lw_S q2314 q2315 q163 q2316) hd_X3_isCorner rfl (Nat.le_of_ble_eq_true rfl) (Nat.le_of_ble_eq_true rfl) (Nat.le_of_ble_eq_true rfl) rfl dX3_head_15 fun v3 => ?_)
  refine wg_if_eq (pc := 18) (tgt := 35) hX dX3_head_18 (by decide) (fun h4 => ?_) (fun h4 => ?_)
  · refine wu_t h4 ?_
    refine wg_iconst (pc := 35) (v := (-1)) hX dX3_head_35 rfl ?_
    exact wu_rt (wg_iret (pc := 36) hX rfl rfl dX3_head_36)
  refine wu_f h4 ?_
  refine wg_iload_n (pc := 21) hX dX3_head_21 2 rfl ?_
  refine wg_iconst (pc := 22) (v := 0) hX dX3_head_22 rfl ?_
  refine wg_aload_n (pc := 23) hX dX3_head_23 0 rfl ?_
  refine wu_ (wg_gI (pc := 24) hX fd_X3_386 dX3_head_24 fun v5 => ?_)
  refine wg_iconst (pc := 27) (v := 1) hX dX3_head_27 rfl ?_
  refine wg_isub (pc := 28) hX dX3_head_28 ?_
  refine wu_ (wg_cSi (pc := 29) (As := [.int a2, .int 0, .int (v5 - 1)]) (rest := []) hX (m_X3_isIn a2 0 (v5 - 1)) (lw_S q2317 q2318 q163 q2319) hd_X3_isIn rfl (Nat.le_of_ble_eq_true rfl) (Nat.le_of_ble_eq_true rfl) (Nat.le_of_ble_eq_true rfl) rfl dX3_head_29 fun v6 => ?_)
  refine wg_if_ne (pc := 32) (tgt := 37) hX dX3_head_32 (by decide) (fun h7 => ?_) (fun h7 => ?_)
  · refine wu_t h7 ?_
    refine wg_iconst (pc := 35) (v := (-1)) hX dX3_head_35 rfl ?_
    exact wu_rt (wg_iret (pc := 36) hX rfl rfl dX3_head_36)
  refine wu_f h7 ?_
  refine wg_aload_n (pc := 37) hX dX3_head_37 0 rfl ?_
  refine wg_gK (pc := 38) hX hM0 fd_X3_98 (by decide) dX3_head_38 ?_
  refine wg_aload_n (pc := 41) hX dX3_head_41 0 rfl ?_
  refine wu_ (wg_gI (pc := 42) hX fd_X3_389 dX3_head_42 fun v8 => ?_)
  refine wg_iload_n (pc := 45) hX dX3_head_45 1 rfl ?_
  refine wu_ (wg_wI (pc := 46) hX ar_84 dX3_head_46 ?_)
  refine wg_aload_n (pc := 47) hX dX3_head_47 0 rfl ?_
  refine wg_gK (pc := 48) hX hM0 fd_X3_101 (by decide) dX3_head_48 ?_
  refine wg_aload_n (pc := 51) hX dX3_head_51 0 rfl ?_
  refine wu_ (wg_gI (pc := 52) hX fd_X3_389 dX3_head_52 fun v9 => ?_)
  refine wg_iload_n (pc := 55) hX dX3_head_55 2 rfl ?_
  refine wu_ (wg_wI (pc := 56) hX ar_85 dX3_head_56 ?_)
  refine wg_aload_n (pc := 57) hX dX3_head_57 0 rfl ?_
  refine wg_dup (pc := 58) hX dX3_head_58 rfl ?_
  refine wu_ (wg_gI (pc := 59) hX fd_X3_389 dX3_head_59 fun v10 => ?_)
  refine wg_iconst (pc := 62) (v := 1) hX dX3_head_62 rfl ?_
  refine wg_iadd (pc := 63) hX dX3_head_63 ?_
  refine wu_ (wg_pI (pc := 64) hX fp_X3_389 (fun h => by cases h) dX3_head_64 ?_)
  refine wg_aload_n (pc := 67) hX dX3_head_67 0 rfl ?_
  refine wu_ (wg_gI (pc := 68) hX fd_X3_389 dX3_head_68 fun v11 => ?_)
  refine wg_iconst (pc := 71) (v := 1) hX dX3_head_71 rfl ?_
  refine wg_isub (pc := 72) hX dX3_head_72 ?_
  exact wu_rt (wg_iret (pc := 73) hX rfl rfl dX3_head_73)
theorem m_X3_crew (a1 : Int32) (a2 : Int32) (a3 : Int32) (a4 : Int32) (a5 : Int32) : amMet yX3_crew cX3_crew 7 (some .int) 2 54 encI [.ref (rid 1 1), .int a1, .int a2, .int a3, .int a4, .int a5] (up (p_X3_crew a1 a2 a3 a4 a5)) := by
  refine amMet.of (own := RX3) (by decide) rfl (Nat.le_of_ble_eq_true rfl) fun X hX hPs => ?_
  change WG X encI 0 [(0, .ref (rid 1 1)), (1, .int a1), (2, .int a2), (3, .int a3), (4, .int a4), (5, .int a5)] [] (bd1 (up (p_X3_crew a1 a2 a3 a4 a5)) rt1)
  unfold p_X3_crew
  have hM0 := amPs.m0 hPs
  refine wu_ (wg_gM ?_)
  refine wg_aload_n (pc := 0) hX dX3_crew_0 0 rfl ?_
  refine wg_iconst (pc := 1) (v := 0) hX dX3_crew_1 rfl ?_
  refine wu_ (wg_pI (pc := 2) hX fp_X3_297 (fun h => by cases h) dX3_crew_2 ?_)
  refine wg_aload_n (pc := 5) hX dX3_crew_5 0 rfl ?_
  refine wu_ (wg_gI (pc := 6) hX fd_X3_366 dX3_crew_6 fun v1 => ?_)
  refine wg_bipush (pc := 9) (v := 16) hX dX3_crew_9 rfl ?_
  refine wg_icmp_eq (pc := 11) (tgt := 54) hX dX3_crew_11 (by decide) (fun h2 => ?_) (fun h2 => ?_)
  · refine wu_t h2 ?_
    refine wg_iconst (pc := 54) (v := (-1)) hX dX3_crew_54 rfl ?_
    exact wu_rt (wg_iret (pc := 55) hX rfl rfl dX3_crew_55)
  refine wu_f h2 ?_
  refine wg_iload_n (pc := 14) hX dX3_crew_14 1 rfl ?_
  refine wg_iconst (pc := 15) (v := 0) hX dX3_crew_15 rfl ?_
  refine wg_iconst (pc := 16) (v := 3) hX dX3_crew_16 rfl ?_
  refine wu_ (wg_cSi (pc := 17) (As := [.int a1, .int 0, .int 3]) (rest := []) hX (m_X3_isIn a1 0 3) (lw_S q2317 q2318 q163 q2319) hd_X3_isIn rfl (Nat.le_of_ble_eq_true rfl) (Nat.le_of_ble_eq_true rfl) (Nat.le_of_ble_eq_true rfl) rfl dX3_crew_17 fun v3 => ?_)
  refine wg_if_eq (pc := 20) (tgt := 54) hX dX3_crew_20 (by decide) (fun h4 => ?_) (fun h4 => ?_)
  · refine wu_t h4 ?_
    refine wg_iconst (pc := 54) (v := (-1)) hX dX3_crew_54 rfl ?_
    exact wu_rt (wg_iret (pc := 55) hX rfl rfl dX3_crew_55)
  refine wu_f h4 ?_
  refine wg_iload_n (pc := 23) hX dX3_crew_23 2 rfl ?_
  refine wu_ (wg_cSi (pc := 24) (As := [.int a2]) (rest := []) hX (m_X3_isCorner a2) (lw_S q2314 q2315 q163 q2316) hd_X3_isCorner rfl (Nat.le_of_ble_eq_true rfl) (Nat.le_of_ble_eq_true rfl) (Nat.le_of_ble_eq_true rfl) rfl dX3_crew_24 fun v5 => ?_)
  refine wg_if_eq (pc := 27) (tgt := 54) hX dX3_crew_27 (by decide) (fun h6 => ?_) (fun h6 => ?_)
  · refine wu_t h6 ?_
    refine wg_iconst (pc := 54) (v := (-1)) hX dX3_crew_54 rfl ?_
    exact wu_rt (wg_iret (pc := 55) hX rfl rfl dX3_crew_55)
  refine wu_f h6 ?_
  refine wg_iload (pc := 30) hX dX3_crew_30 4 rfl ?_
  refine wg_bipush (pc := 32) (v := 50) hX dX3_crew_32 rfl ?_
  refine wg_sipush (pc := 34) (v := 150) hX dX3_crew_34 rfl ?_
  refine wu_ (wg_cSi (pc := 37) (As := [.int a4, .int 50, .int 150]) (rest := []) hX (m_X3_isIn a4 50 150) (lw_S q2317 q2318 q163 q2319) hd_X3_isIn rfl (Nat.le_of_ble_eq_true rfl) (Nat.le_of_ble_eq_true rfl) (Nat.le_of_ble_eq_true rfl) rfl dX3_crew_37 fun v7 => ?_)
  refine wg_if_eq (pc := 40) (tgt := 54) hX dX3_crew_40 (by decide) (fun h8 => ?_) (fun h8 => ?_)
  · refine wu_t h8 ?_
    refine wg_iconst (pc := 54) (v := (-1)) hX dX3_crew_54 rfl ?_
    exact wu_rt (wg_iret (pc := 55) hX rfl rfl dX3_crew_55)
  refine wu_f h8 ?_
  refine wg_iload (pc := 43) hX dX3_crew_43 5 rfl ?_
  refine wg_iconst (pc := 45) (v := 1) hX dX3_crew_45 rfl ?_
  refine wg_bipush (pc := 46) (v := 9) hX dX3_crew_46 rfl ?_
  refine wu_ (wg_cSi (pc := 48) (As := [.int a5, .int 1, .int 9]) (rest := []) hX (m_X3_isIn a5 1 9) (lw_S q2317 q2318 q163 q2319) hd_X3_isIn rfl (Nat.le_of_ble_eq_true rfl) (Nat.le_of_ble_eq_true rfl) (Nat.le_of_ble_eq_true rfl) rfl dX3_crew_48 fun v9 => ?_)
  refine wg_if_ne (pc := 51) (tgt := 56) hX dX3_crew_51 (by decide) (fun h10 => ?_) (fun h10 => ?_)
  · refine wu_t h10 ?_
    refine wg_iconst (pc := 54) (v := (-1)) hX dX3_crew_54 rfl ?_
    exact wu_rt (wg_iret (pc := 55) hX rfl rfl dX3_crew_55)
  refine wu_f h10 ?_
  refine wg_aload_n (pc := 56) hX dX3_crew_56 0 rfl ?_
  refine wu_ (wg_gI (pc := 57) hX fd_X3_366 dX3_crew_57 fun v11 => ?_)
  refine wg_istore (pc := 60) (l' := [(0, .ref (rid 1 1)), (1, .int a1), (2, .int a2), (3, .int a3), (4, .int a4), (5, .int a5), (6, .int v11)]) hX dX3_crew_60 (by decide) rfl ?_
  refine wg_aload_n (pc := 62) hX dX3_crew_62 0 rfl ?_
  refine wg_gK (pc := 63) hX hM0 fd_X3_107 (by decide) dX3_crew_63 ?_
  refine wg_iload (pc := 66) hX dX3_crew_66 6 rfl ?_
  refine wg_iload_n (pc := 68) hX dX3_crew_68 1 rfl ?_
  refine wu_ (wg_wI (pc := 69) hX ar_87 dX3_crew_69 ?_)
  refine wg_aload_n (pc := 70) hX dX3_crew_70 0 rfl ?_
  refine wg_gK (pc := 71) hX hM0 fd_X3_110 (by decide) dX3_crew_71 ?_
  refine wg_iload (pc := 74) hX dX3_crew_74 6 rfl ?_
  refine wg_iload_n (pc := 76) hX dX3_crew_76 2 rfl ?_
  refine wu_ (wg_wI (pc := 77) hX ar_88 dX3_crew_77 ?_)
  refine wg_aload_n (pc := 78) hX dX3_crew_78 0 rfl ?_
  refine wg_gK (pc := 79) hX hM0 fd_X3_164 (by decide) dX3_crew_79 ?_
  refine wg_iload (pc := 82) hX dX3_crew_82 6 rfl ?_
  refine wg_iload_n (pc := 84) hX dX3_crew_84 3 rfl ?_
  refine wu_ (wg_gd fun h12 => ?_)
  refine wu_ (wg_wZ (pc := 85) hX ar_106 h12 dX3_crew_85 ?_)
  refine wg_aload_n (pc := 86) hX dX3_crew_86 0 rfl ?_
  refine wg_gK (pc := 87) hX hM0 fd_X3_113 (by decide) dX3_crew_87 ?_
  refine wg_iload (pc := 90) hX dX3_crew_90 6 rfl ?_
  refine wg_iload (pc := 92) hX dX3_crew_92 4 rfl ?_
  refine wu_ (wg_wI (pc := 94) hX ar_89 dX3_crew_94 ?_)
  refine wg_aload_n (pc := 95) hX dX3_crew_95 0 rfl ?_
  refine wg_gK (pc := 96) hX hM0 fd_X3_116 (by decide) dX3_crew_96 ?_
  refine wg_iload (pc := 99) hX dX3_crew_99 6 rfl ?_
  refine wg_iload (pc := 101) hX dX3_crew_101 5 rfl ?_
  refine wu_ (wg_wI (pc := 103) hX ar_90 dX3_crew_103 ?_)
  refine wg_aload_n (pc := 104) hX dX3_crew_104 0 rfl ?_
  refine wg_gK (pc := 105) hX hM0 fd_X3_119 (by decide) dX3_crew_105 ?_
  refine wg_iload (pc := 108) hX dX3_crew_108 6 rfl ?_
  refine wg_iload_n (pc := 110) hX dX3_crew_110 1 rfl ?_
  refine wg_iconst (pc := 111) (v := 2) hX dX3_crew_111 rfl ?_
  refine wu_jx (α := Int32) (pcJ := 130) (lJ := fun x => [(0, .ref (rid 1 1)), (1, .int a1), (2, .int a2), (6, .int v11)]) (sJ := fun x => [.int x, .int v11, .ref (rid 91 1)]) (fun K13 hk13 => ?_) (fun z13 => ?_)
  · refine wg_icmp_ge (pc := 112) (tgt := 120) hX dX3_crew_112 (by decide) (fun h14 => ?_) (fun h14 => ?_)
    rotate_left
    · refine wu_f h14 ?_
      refine wg_bipush (pc := 115) (v := 100) hX dX3_crew_115 rfl ?_
      refine wg_goto (pc := 117) (tgt := 130) hX dX3_crew_117 (by decide) ?_
      refine wg_sub hX [0, 1, 2, 6] rfl ?_
      exact wu_rt (hk13 100)
    refine wu_t h14 ?_
    refine wg_iload_n (pc := 120) hX dX3_crew_120 1 rfl ?_
    refine wg_iconst (pc := 121) (v := 2) hX dX3_crew_121 rfl ?_
    refine wg_icmp_ne (pc := 122) (tgt := 129) hX dX3_crew_122 (by decide) (fun h15 => ?_) (fun h15 => ?_)
    rotate_left
    · refine wu_f h15 ?_
      refine wg_iconst (pc := 129) (v := 0) hX dX3_crew_129 rfl ?_
      refine wg_sub hX [0, 1, 2, 6] rfl ?_
      exact wu_rt (hk13 0)
    refine wu_t h15 ?_
    refine wg_iconst (pc := 125) (v := 1) hX dX3_crew_125 rfl ?_
    refine wg_goto (pc := 126) (tgt := 130) hX dX3_crew_126 (by decide) ?_
    refine wg_sub hX [0, 1, 2, 6] rfl ?_
    exact wu_rt (hk13 1)
  refine wu_ (wg_wI (pc := 130) hX ar_91 dX3_crew_130 ?_)
  refine wg_aload_n (pc := 131) hX dX3_crew_131 0 rfl ?_
  refine wg_gK (pc := 132) hX hM0 fd_X3_122 (by decide) dX3_crew_132 ?_
  refine wg_iload (pc := 135) hX dX3_crew_135 3 rfl ?_
  refine wg_iload_n (pc := 137) hX dX3_crew_137 1 rfl ?_
  refine wg_iconst (pc := 138) (v := 2) hX dX3_crew_138 rfl ?_
  refine wu_jx (α := Int32) (pcJ := 148) (lJ := fun x => [(0, .ref (rid 1 1)), (1, .int a1), (2, .int a2), (6, .int v11)]) (sJ := fun x => [.int x, .int v11, .ref (rid 92 1)]) (fun K16 hk16 => ?_) (fun z16 => ?_)
  · refine wg_icmp_ge (pc := 139) (tgt := 147) hX dX3_crew_139 (by decide) (fun h17 => ?_) (fun h17 => ?_)
    · refine wu_t h17 ?_
      refine wg_iconst (pc := 147) (v := 0) hX dX3_crew_147 rfl ?_
      exact wu_rt (hk16 0)
    refine wu_f h17 ?_
    refine wg_bipush (pc := 142) (v := 10) hX dX3_crew_142 rfl ?_
    refine wg_goto (pc := 144) (tgt := 148) hX dX3_crew_144 (by decide) ?_
    exact wu_rt (hk16 10)
  refine wu_ (wg_wI (pc := 148) hX ar_92 dX3_crew_148 ?_)
  refine wg_aload_n (pc := 149) hX dX3_crew_149 0 rfl ?_
  refine wg_gK (pc := 150) hX hM0 fd_X3_125 (by decide) dX3_crew_150 ?_
  refine wg_iload (pc := 153) hX dX3_crew_153 3 rfl ?_
  refine wg_iload_n (pc := 155) hX dX3_crew_155 1 rfl ?_
  refine wg_iconst (pc := 156) (v := 1) hX dX3_crew_156 rfl ?_
  refine wu_jx (α := Int32) (pcJ := 165) (lJ := fun x => [(0, .ref (rid 1 1)), (2, .int a2), (6, .int v11)]) (sJ := fun x => [.int x, .int v11, .ref (rid 93 1)]) (fun K18 hk18 => ?_) (fun z18 => ?_)
  · refine wg_icmp_ne (pc := 157) (tgt := 164) hX dX3_crew_157 (by decide) (fun h19 => ?_) (fun h19 => ?_)
    rotate_left
    · refine wu_f h19 ?_
      refine wg_iconst (pc := 164) (v := 0) hX dX3_crew_164 rfl ?_
      refine wg_sub hX [0, 2, 3] rfl ?_
      exact wu_rt (hk18 0)
    refine wu_t h19 ?_
    refine wg_iconst (pc := 160) (v := 1) hX dX3_crew_160 rfl ?_
    refine wg_goto (pc := 161) (tgt := 165) hX dX3_crew_161 (by decide) ?_
    refine wg_sub hX [0, 2, 3] rfl ?_
    exact wu_rt (hk18 1)
  refine wu_ (wg_wI (pc := 165) hX ar_93 dX3_crew_165 ?_)
  refine wg_aload_n (pc := 166) hX dX3_crew_166 0 rfl ?_
  refine wg_gK (pc := 167) hX hM0 fd_X3_131 (by decide) dX3_crew_167 ?_
  refine wg_iload (pc := 170) hX dX3_crew_170 2 rfl ?_
  refine wg_iload_n (pc := 172) hX dX3_crew_172 1 rfl ?_
  refine wu_ (wg_wI (pc := 173) hX ar_95 dX3_crew_173 ?_)
  refine wg_aload_n (pc := 174) hX dX3_crew_174 0 rfl ?_
  refine wg_gK (pc := 175) hX hM0 fd_X3_134 (by decide) dX3_crew_175 ?_
  refine wg_iload (pc := 178) hX dX3_crew_178 2 rfl ?_
  refine wg_iconst (pc := 180) (v := (-1)) hX dX3_crew_180 rfl ?_
  refine wu_ (wg_wI (pc := 181) hX ar_96 dX3_crew_181 ?_)
  refine wg_aload_n (pc := 182) hX dX3_crew_182 0 rfl ?_
  refine wg_gK (pc := 183) hX hM0 fd_X3_137 (by decide) dX3_crew_183 ?_
  refine wg_iload (pc := 186) hX dX3_crew_186 2 rfl ?_
  refine wg_iconst (pc := 188) (v := (-1)) hX dX3_crew_188 rfl ?_
  refine wu_ (wg_wI (pc := 189) hX ar_97 dX3_crew_189 ?_)
  refine wg_aload_n (pc := 190) hX dX3_crew_190 0 rfl ?_
  refine wg_gK (pc := 191) hX hM0 fd_X3_140 (by decide) dX3_crew_191 ?_
  refine wg_iload (pc := 194) hX dX3_crew_194 2 rfl ?_
  refine wg_iconst (pc := 196) (v := (-1)) hX dX3_crew_196 rfl ?_
  refine wu_ (wg_wI (pc := 197) hX ar_98 dX3_crew_197 ?_)
  refine wg_aload_n (pc := 198) hX dX3_crew_198 0 rfl ?_
  refine wg_gK (pc := 199) hX hM0 fd_X3_143 (by decide) dX3_crew_199 ?_
  refine wg_iload (pc := 202) hX dX3_crew_202 2 rfl ?_
  refine wg_iconst (pc := 204) (v := (-1)) hX dX3_crew_204 rfl ?_
  refine wu_ (wg_wI (pc := 205) hX ar_99 dX3_crew_205 ?_)
  refine wg_aload_n (pc := 206) hX dX3_crew_206 0 rfl ?_
  refine wg_dup (pc := 207) hX dX3_crew_207 rfl ?_
  refine wu_ (wg_gI (pc := 208) hX fd_X3_366 dX3_crew_208 fun v20 => ?_)
  refine wg_iconst (pc := 211) (v := 1) hX dX3_crew_211 rfl ?_
  refine wg_iadd (pc := 212) hX dX3_crew_212 ?_
  refine wu_ (wg_pI (pc := 213) hX fp_X3_366 (fun h => by cases h) dX3_crew_213 ?_)
  refine wg_iload (pc := 216) hX dX3_crew_216 2 rfl ?_
  exact wu_rt (wg_iret (pc := 218) hX rfl rfl dX3_crew_218)
theorem m_X3_isCrew (a1 : Int32) : amMet yX3_isCrew cX3_isCrew 2 (some .boolean) 1 32 encI [.ref (rid 1 1), .int a1] (up (p_X3_isCrew a1)) := by
  refine amMet.of (own := RX3) (by decide) rfl (Nat.le_of_ble_eq_true rfl) fun X hX hPs => ?_
  change WG X encI 0 [(0, .ref (rid 1 1)), (1, .int a1)] [] (bd1 (up (p_X3_isCrew a1)) rt1)
  unfold p_X3_isCrew
  refine wg_iload_n (pc := 0) hX dX3_isCrew_0 1 rfl ?_
  refine wu_jn (α := Unit) (pcJ := 16) (lJ := fun x => []) (sJ := fun x => []) (fun k1 hk1 => ?_) (fun z1 => ?_)
  · refine wg_if_lt (pc := 1) (tgt := 16) hX dX3_isCrew_1 (by decide) (fun h2 => ?_) (fun h2 => ?_)
    · refine wu_t h2 ?_
      refine wg_sub hX [] rfl ?_
      exact hk1 ()
    refine wu_f h2 ?_
    refine wg_iload_n (pc := 4) hX dX3_isCrew_4 1 rfl ?_
    refine wg_aload_n (pc := 5) hX dX3_isCrew_5 0 rfl ?_
    refine wu_ (wg_gI (pc := 6) hX fd_X3_366 dX3_isCrew_6 fun v3 => ?_)
    refine wg_icmp_ge (pc := 9) (tgt := 16) hX dX3_isCrew_9 (by decide) (fun h4 => ?_) (fun h4 => ?_)
    · refine wu_t h4 ?_
      refine wg_sub hX [] rfl ?_
      exact hk1 ()
    refine wu_f h4 ?_
    refine wg_iconst (pc := 12) (v := 1) hX dX3_isCrew_12 rfl ?_
    refine wg_goto (pc := 13) (tgt := 17) hX dX3_isCrew_13 (by decide) ?_
    exact wu_rt (wg_zret (pc := 17) hX rfl (by decide) rfl dX3_isCrew_17)
  refine wg_iconst (pc := 16) (v := 0) hX dX3_isCrew_16 rfl ?_
  exact wu_rt (wg_zret (pc := 17) hX rfl (by decide) rfl dX3_isCrew_17)
theorem m_X3_gear (a1 : Int32) (a2 : Int32) (a3 : Int32) (a4 : Int32) : amMet yX3_gear cX3_gear 6 (some .boolean) 2 54 encI [.ref (rid 1 1), .int a1, .int a2, .int a3, .int a4] (up (p_X3_gear a1 a2 a3 a4)) := by
  refine amMet.of (own := RX3) (by decide) rfl (Nat.le_of_ble_eq_true rfl) fun X hX hPs => ?_
  change WG X encI 0 [(0, .ref (rid 1 1)), (1, .int a1), (2, .int a2), (3, .int a3), (4, .int a4)] [] (bd1 (up (p_X3_gear a1 a2 a3 a4)) rt1)
  unfold p_X3_gear
  have hM0 := amPs.m0 hPs
  refine wu_ (wg_gM ?_)
  refine wg_aload_n (pc := 0) hX dX3_gear_0 0 rfl ?_
  refine wg_iconst (pc := 1) (v := 0) hX dX3_gear_1 rfl ?_
  refine wu_ (wg_pI (pc := 2) hX fp_X3_297 (fun h => by cases h) dX3_gear_2 ?_)
  refine wg_aload_n (pc := 5) hX dX3_gear_5 0 rfl ?_
  refine wg_iload_n (pc := 6) hX dX3_gear_6 1 rfl ?_
  refine wu_ (wg_cVi (pc := 7) (As := [.int a1]) (rest := []) hX (m_X3_isCrew a1) (by decide) (by decide) (by decide) rc_X3 (lw_V q2441 q2443 qs101 q163 q2444) hd_X3_isCrew rfl (Nat.le_of_ble_eq_true rfl) (Nat.le_of_ble_eq_true rfl) (Nat.le_of_ble_eq_true rfl) rfl dX3_gear_7 fun v1 => ?_)
  refine wg_if_eq (pc := 10) (tgt := 23) hX dX3_gear_10 (by decide) (fun h2 => ?_) (fun h2 => ?_)
  · refine wu_t h2 ?_
    refine wg_iconst (pc := 23) (v := 0) hX dX3_gear_23 rfl ?_
    exact wu_rt (wg_zret (pc := 24) hX rfl (by decide) rfl dX3_gear_24)
  refine wu_f h2 ?_
  refine wg_aload_n (pc := 13) hX dX3_gear_13 0 rfl ?_
  refine wg_gK (pc := 14) hX hM0 fd_X3_128 (by decide) dX3_gear_14 ?_
  refine wg_iload_n (pc := 17) hX dX3_gear_17 1 rfl ?_
  refine wu_ (wg_rI (pc := 18) hX ar_94 dX3_gear_18 fun v3 => ?_)
  refine wg_iconst (pc := 19) (v := 2) hX dX3_gear_19 rfl ?_
  refine wg_icmp_ne (pc := 20) (tgt := 25) hX dX3_gear_20 (by decide) (fun h4 => ?_) (fun h4 => ?_)
  · refine wu_t h4 ?_
    refine wg_iconst (pc := 23) (v := 0) hX dX3_gear_23 rfl ?_
    exact wu_rt (wg_zret (pc := 24) hX rfl (by decide) rfl dX3_gear_24)
  refine wu_f h4 ?_
  refine wg_iload_n (pc := 25) hX dX3_gear_25 2 rfl ?_
  refine wu_jx (α := Int32) (pcJ := 43) (lJ := fun x => [(0, .ref (rid 1 1)), (1, .int a1), (2, .int a2), (3, .int a3), (4, .int a4)]) (sJ := fun x => [.int x]) (fun K5 hk5 => ?_) (fun z5 => ?_)
  · refine wu_jn (α := Unit) (pcJ := 42) (lJ := fun x => [(0, .ref (rid 1 1)), (1, .int a1), (2, .int a2), (3, .int a3), (4, .int a4)]) (sJ := fun x => []) (fun k6 hk6 => ?_) (fun z6 => ?_)
    · refine wg_if_ne (pc := 26) (tgt := 42) hX dX3_gear_26 (by decide) (fun h7 => ?_) (fun h7 => ?_)
      rotate_left
      · refine wu_f h7 ?_
        exact hk6 ()
      refine wu_t h7 ?_
      refine wg_iload_n (pc := 29) hX dX3_gear_29 3 rfl ?_
      refine wg_if_ne (pc := 30) (tgt := 42) hX dX3_gear_30 (by decide) (fun h8 => ?_) (fun h8 => ?_)
      rotate_left
      · refine wu_f h8 ?_
        exact hk6 ()
      refine wu_t h8 ?_
      refine wg_iload (pc := 33) hX dX3_gear_33 4 rfl ?_
      refine wg_if_ne (pc := 35) (tgt := 42) hX dX3_gear_35 (by decide) (fun h9 => ?_) (fun h9 => ?_)
      rotate_left
      · refine wu_f h9 ?_
        exact hk6 ()
      refine wu_t h9 ?_
      refine wg_iconst (pc := 38) (v := 1) hX dX3_gear_38 rfl ?_
      refine wg_goto (pc := 39) (tgt := 43) hX dX3_gear_39 (by decide) ?_
      exact wu_rt (hk5 1)
    refine wg_iconst (pc := 42) (v := 0) hX dX3_gear_42 rfl ?_
    exact wu_rt (hk5 0)
  refine wg_istore (pc := 43) (l' := [(0, .ref (rid 1 1)), (1, .int a1), (2, .int a2), (3, .int a3), (4, .int a4), (5, .int z5)]) hX dX3_gear_43 (by decide) rfl ?_
  refine wg_aload_n (pc := 45) hX dX3_gear_45 0 rfl ?_
  refine wg_gK (pc := 46) hX hM0 fd_X3_107 (by decide) dX3_gear_46 ?_
  refine wg_iload_n (pc := 49) hX dX3_gear_49 1 rfl ?_
  refine wu_ (wg_rI (pc := 50) hX ar_87 dX3_gear_50 fun v10 => ?_)
  refine wg_iconst (pc := 51) (v := 2) hX dX3_gear_51 rfl ?_
  refine wu_jx (α := Int32) (pcJ := 81) (lJ := fun x => [(0, .ref (rid 1 1)), (1, .int a1), (2, .int a2), (3, .int a3), (4, .int a4), (5, .int x)]) (sJ := fun x => []) (fun K11 hk11 => ?_) (fun z11 => ?_)
  · refine wg_icmp_ne (pc := 52) (tgt := 81) hX dX3_gear_52 (by decide) (fun h12 => ?_) (fun h12 => ?_)
    rotate_left
    · refine wu_f h12 ?_
      exact wu_rt (hk11 z5)
    refine wu_t h12 ?_
    refine wg_iload_n (pc := 55) hX dX3_gear_55 2 rfl ?_
    refine wg_iconst (pc := 56) (v := 1) hX dX3_gear_56 rfl ?_
    refine wg_bipush (pc := 57) (v := 6) hX dX3_gear_57 rfl ?_
    refine wu_ (wg_cSi (pc := 59) (As := [.int a2, .int 1, .int 6]) (rest := []) hX (m_X3_isIn a2 1 6) (lw_S q2317 q2318 q163 q2319) hd_X3_isIn rfl (Nat.le_of_ble_eq_true rfl) (Nat.le_of_ble_eq_true rfl) (Nat.le_of_ble_eq_true rfl) rfl dX3_gear_59 fun v13 => ?_)
    refine wu_jx (α := Int32) (pcJ := 79) (lJ := fun x => [(0, .ref (rid 1 1)), (1, .int a1), (2, .int a2), (3, .int a3), (4, .int a4)]) (sJ := fun x => [.int x]) (fun K14 hk14 => ?_) (fun z14 => ?_)
    · refine wu_jn (α := Unit) (pcJ := 78) (lJ := fun x => [(0, .ref (rid 1 1)), (1, .int a1), (2, .int a2), (3, .int a3), (4, .int a4)]) (sJ := fun x => []) (fun k15 hk15 => ?_) (fun z15 => ?_)
      · refine wg_if_eq (pc := 62) (tgt := 78) hX dX3_gear_62 (by decide) (fun h16 => ?_) (fun h16 => ?_)
        · refine wu_t h16 ?_
          refine wg_sub hX [0, 1, 2, 3, 4] rfl ?_
          exact hk15 ()
        refine wu_f h16 ?_
        refine wg_iload_n (pc := 65) hX dX3_gear_65 3 rfl ?_
        refine wg_if_ne (pc := 66) (tgt := 78) hX dX3_gear_66 (by decide) (fun h17 => ?_) (fun h17 => ?_)
        rotate_left
        · refine wu_f h17 ?_
          refine wg_sub hX [0, 1, 2, 3, 4] rfl ?_
          exact hk15 ()
        refine wu_t h17 ?_
        refine wg_iload (pc := 69) hX dX3_gear_69 4 rfl ?_
        refine wg_if_ne (pc := 71) (tgt := 78) hX dX3_gear_71 (by decide) (fun h18 => ?_) (fun h18 => ?_)
        rotate_left
        · refine wu_f h18 ?_
          refine wg_sub hX [0, 1, 2, 3, 4] rfl ?_
          exact hk15 ()
        refine wu_t h18 ?_
        refine wg_iconst (pc := 74) (v := 1) hX dX3_gear_74 rfl ?_
        refine wg_goto (pc := 75) (tgt := 79) hX dX3_gear_75 (by decide) ?_
        refine wg_sub hX [0, 1, 2, 3, 4] rfl ?_
        exact wu_rt (hk14 1)
      refine wg_iconst (pc := 78) (v := 0) hX dX3_gear_78 rfl ?_
      exact wu_rt (hk14 0)
    refine wg_istore (pc := 79) (l' := [(0, .ref (rid 1 1)), (1, .int a1), (2, .int a2), (3, .int a3), (4, .int a4), (5, .int z14)]) hX dX3_gear_79 (by decide) rfl ?_
    exact wu_rt (hk11 z14)
  refine wg_aload_n (pc := 81) hX dX3_gear_81 0 rfl ?_
  refine wg_gK (pc := 82) hX hM0 fd_X3_107 (by decide) dX3_gear_82 ?_
  refine wg_iload_n (pc := 85) hX dX3_gear_85 1 rfl ?_
  refine wu_ (wg_rI (pc := 86) hX ar_87 dX3_gear_86 fun v19 => ?_)
  refine wg_iconst (pc := 87) (v := 2) hX dX3_gear_87 rfl ?_
  refine wu_jx (α := Int32) (pcJ := 150) (lJ := fun x => [(0, .ref (rid 1 1)), (1, .int a1), (2, .int a2), (3, .int a3), (4, .int a4), (5, .int x)]) (sJ := fun x => []) (fun K20 hk20 => ?_) (fun z20 => ?_)
  · refine wg_icmp_ge (pc := 88) (tgt := 150) hX dX3_gear_88 (by decide) (fun h21 => ?_) (fun h21 => ?_)
    · refine wu_t h21 ?_
      exact wu_rt (hk20 z11)
    refine wu_f h21 ?_
    refine wg_iload_n (pc := 91) hX dX3_gear_91 2 rfl ?_
    refine wg_bipush (pc := 92) (v := 100) hX dX3_gear_92 rfl ?_
    refine wg_sipush (pc := 94) (v := 3000) hX dX3_gear_94 rfl ?_
    refine wu_ (wg_cSi (pc := 97) (As := [.int a2, .int 100, .int 3000]) (rest := []) hX (m_X3_isIn a2 100 3000) (lw_S q2317 q2318 q163 q2319) hd_X3_isIn rfl (Nat.le_of_ble_eq_true rfl) (Nat.le_of_ble_eq_true rfl) (Nat.le_of_ble_eq_true rfl) rfl dX3_gear_97 fun v22 => ?_)
    refine wu_jx (α := Int32) (pcJ := 148) (lJ := fun x => [(0, .ref (rid 1 1)), (1, .int a1), (2, .int a2), (3, .int a3), (4, .int a4)]) (sJ := fun x => [.int x]) (fun K23 hk23 => ?_) (fun z23 => ?_)
    · refine wu_jn (α := Unit) (pcJ := 147) (lJ := fun x => [(0, .ref (rid 1 1)), (1, .int a1), (2, .int a2), (3, .int a3), (4, .int a4)]) (sJ := fun x => []) (fun k24 hk24 => ?_) (fun z24 => ?_)
      · refine wg_if_eq (pc := 100) (tgt := 147) hX dX3_gear_100 (by decide) (fun h25 => ?_) (fun h25 => ?_)
        · refine wu_t h25 ?_
          refine wg_sub hX [0, 1, 2, 3, 4] rfl ?_
          exact hk24 ()
        refine wu_f h25 ?_
        refine wg_iload_n (pc := 103) hX dX3_gear_103 3 rfl ?_
        refine wg_bipush (pc := 104) (v := 10) hX dX3_gear_104 rfl ?_
        refine wg_sipush (pc := 106) (v := 500) hX dX3_gear_106 rfl ?_
        refine wu_ (wg_cSi (pc := 109) (As := [.int a3, .int 10, .int 500]) (rest := []) hX (m_X3_isIn a3 10 500) (lw_S q2317 q2318 q163 q2319) hd_X3_isIn rfl (Nat.le_of_ble_eq_true rfl) (Nat.le_of_ble_eq_true rfl) (Nat.le_of_ble_eq_true rfl) rfl dX3_gear_109 fun v26 => ?_)
        refine wg_if_eq (pc := 112) (tgt := 147) hX dX3_gear_112 (by decide) (fun h27 => ?_) (fun h27 => ?_)
        · refine wu_t h27 ?_
          refine wg_sub hX [0, 1, 2, 3, 4] rfl ?_
          exact hk24 ()
        refine wu_f h27 ?_
        refine wg_aload_n (pc := 115) hX dX3_gear_115 0 rfl ?_
        refine wg_gK (pc := 116) hX hM0 fd_X3_107 (by decide) dX3_gear_116 ?_
        refine wg_iload_n (pc := 119) hX dX3_gear_119 1 rfl ?_
        refine wu_ (wg_rI (pc := 120) hX ar_87 dX3_gear_120 fun v28 => ?_)
        refine wu_jn (α := Unit) (pcJ := 143) (lJ := fun x => [(0, .ref (rid 1 1)), (1, .int a1), (2, .int a2), (3, .int a3), (4, .int a4)]) (sJ := fun x => []) (fun k29 hk29 => ?_) (fun z29 => ?_)
        · refine wg_if_ne (pc := 121) (tgt := 132) hX dX3_gear_121 (by decide) (fun h30 => ?_) (fun h30 => ?_)
          · refine wu_t h30 ?_
            refine wg_iload (pc := 124) hX dX3_gear_124 4 rfl ?_
            refine wg_if_ne (pc := 126) (tgt := 147) hX dX3_gear_126 (by decide) (fun h31 => ?_) (fun h31 => ?_)
            rotate_left
            · refine wu_f h31 ?_
              refine wg_sub hX [0, 1, 2, 3, 4] rfl ?_
              exact hk24 ()
            refine wu_t h31 ?_
            refine wg_goto (pc := 129) (tgt := 143) hX dX3_gear_129 (by decide) ?_
            refine wg_sub hX [0, 1, 2, 3, 4] rfl ?_
            exact hk29 ()
          refine wu_f h30 ?_
          refine wg_iload (pc := 132) hX dX3_gear_132 4 rfl ?_
          refine wg_iconst (pc := 134) (v := 1) hX dX3_gear_134 rfl ?_
          refine wg_bipush (pc := 135) (v := 30) hX dX3_gear_135 rfl ?_
          refine wu_ (wg_cSi (pc := 137) (As := [.int a4, .int 1, .int 30]) (rest := []) hX (m_X3_isIn a4 1 30) (lw_S q2317 q2318 q163 q2319) hd_X3_isIn rfl (Nat.le_of_ble_eq_true rfl) (Nat.le_of_ble_eq_true rfl) (Nat.le_of_ble_eq_true rfl) rfl dX3_gear_137 fun v32 => ?_)
          refine wg_if_eq (pc := 140) (tgt := 147) hX dX3_gear_140 (by decide) (fun h33 => ?_) (fun h33 => ?_)
          · refine wu_t h33 ?_
            refine wg_sub hX [0, 1, 2, 3, 4] rfl ?_
            exact hk24 ()
          refine wu_f h33 ?_
          refine wg_sub hX [0, 1, 2, 3, 4] rfl ?_
          exact hk29 ()
        refine wg_iconst (pc := 143) (v := 1) hX dX3_gear_143 rfl ?_
        refine wg_goto (pc := 144) (tgt := 148) hX dX3_gear_144 (by decide) ?_
        exact wu_rt (hk23 1)
      refine wg_iconst (pc := 147) (v := 0) hX dX3_gear_147 rfl ?_
      exact wu_rt (hk23 0)
    refine wg_istore (pc := 148) (l' := [(0, .ref (rid 1 1)), (1, .int a1), (2, .int a2), (3, .int a3), (4, .int a4), (5, .int z23)]) hX dX3_gear_148 (by decide) rfl ?_
    exact wu_rt (hk20 z23)
  refine wg_iload (pc := 150) hX dX3_gear_150 5 rfl ?_
  refine wg_if_ne (pc := 152) (tgt := 157) hX dX3_gear_152 (by decide) (fun h34 => ?_) (fun h34 => ?_)
  · refine wu_t h34 ?_
    refine wg_iconst (pc := 155) (v := 0) hX dX3_gear_155 rfl ?_
    exact wu_rt (wg_zret (pc := 156) hX rfl (by decide) rfl dX3_gear_156)
  refine wu_f h34 ?_
  refine wg_aload_n (pc := 157) hX dX3_gear_157 0 rfl ?_
  refine wg_gK (pc := 158) hX hM0 fd_X3_119 (by decide) dX3_gear_158 ?_
  refine wg_iload_n (pc := 161) hX dX3_gear_161 1 rfl ?_
  refine wg_iload_n (pc := 162) hX dX3_gear_162 2 rfl ?_
  refine wu_ (wg_wI (pc := 163) hX ar_91 dX3_gear_163 ?_)
  refine wg_aload_n (pc := 164) hX dX3_gear_164 0 rfl ?_
  refine wg_gK (pc := 165) hX hM0 fd_X3_122 (by decide) dX3_gear_165 ?_
  refine wg_iload_n (pc := 168) hX dX3_gear_168 1 rfl ?_
  refine wg_iload_n (pc := 169) hX dX3_gear_169 3 rfl ?_
  refine wu_ (wg_wI (pc := 170) hX ar_92 dX3_gear_170 ?_)
  refine wg_aload_n (pc := 171) hX dX3_gear_171 0 rfl ?_
  refine wg_gK (pc := 172) hX hM0 fd_X3_125 (by decide) dX3_gear_172 ?_
  refine wg_iload_n (pc := 175) hX dX3_gear_175 1 rfl ?_
  refine wg_iload (pc := 176) hX dX3_gear_176 4 rfl ?_
  refine wu_ (wg_wI (pc := 178) hX ar_93 dX3_gear_178 ?_)
  refine wg_iconst (pc := 179) (v := 1) hX dX3_gear_179 rfl ?_
  exact wu_rt (wg_zret (pc := 180) hX rfl (by decide) rfl dX3_gear_180)
